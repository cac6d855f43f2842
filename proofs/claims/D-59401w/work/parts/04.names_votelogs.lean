/-! VoteLogs -/
set_option maxRecDepth 100000
def RX1 : String := "VoteLogs"
def TX1 : u_T := fun k => match k with
  | 0 => ("VoteLogs", "buffer", "Ljava/lang/StringBuilder;", true)
  | 1 => ("VoteLogs", "saved", "Ljava/util/ArrayDeque;", true)
  | 2 => ("VoteLogs", "town", "LVoteLogs$Town;", false)
  | _ => ("VoteLogs", "snapshot", "LVoteLogs$Town;", false)
def tyX1 : Nat → FieldType := fun k => match k with
  | 0 => .object "java/lang/StringBuilder"
  | 1 => .object "java/util/ArrayDeque"
  | 2 => .object "VoteLogs$Town"
  | _ => .object "VoteLogs$Town"
abbrev wsX10 : List Cond := u_ws RX1 TX1 4
theorem nmX1 : ∀ a, a < 4 → ∀ b, b < 4 → a ≠ b → (TX1 a).2.1 ≠ (TX1 b).2.1 := by decide +kernel
theorem tyX1_ok : ∀ k, k < 4 → parseFieldDescriptor (TX1 k).2.2.1 = some (tyX1 k) := by decide +kernel
abbrev cX1_init : ByteArray := prog_1_method_2_code
def yX1_init : MethodName := ⟨RX1, "<init>", "()V"⟩
def dkwX1_init_1 : List UInt8 := [181, 0, 19, 42, 187, 0, 23, 89, 183, 0, 25, 181, 0, 26, 177]
abbrev dktX1_init_1 : List UInt8 := dkwX1_init_1 ++ []
def dkwX1_init_0 : List UInt8 := [42, 183, 0, 3, 42, 187, 0, 9, 89, 183, 0, 11, 181, 0, 12, 42, 187, 0, 16, 89, 183, 0, 18]
abbrev dktX1_init_0 : List UInt8 := dkwX1_init_0 ++ dktX1_init_1
theorem dksX1_init_0 : cX1_init.data.toList.drop 0 = dktX1_init_0 := by decide +kernel
theorem dksX1_init_1 : cX1_init.data.toList.drop 23 = dktX1_init_1 := dk_seg dksX1_init_0 23 rfl rfl
theorem dX1_init_0 : decode cX1_init 0 = .ok (.aload_n 0, 1) := dk_42 (dk_at dksX1_init_0 0 rfl rfl)
theorem dX1_init_1 : decode cX1_init 1 = .ok (.invokespecial 3, 3) := dk_183 0 3 (dk_at dksX1_init_0 1 rfl rfl)
theorem dX1_init_4 : decode cX1_init 4 = .ok (.aload_n 0, 1) := dk_42 (dk_at dksX1_init_0 4 rfl rfl)
theorem dX1_init_5 : decode cX1_init 5 = .ok (.new 9, 3) := dk_187 0 9 (dk_at dksX1_init_0 5 rfl rfl)
theorem dX1_init_8 : decode cX1_init 8 = .ok (.dup, 1) := dk_89 (dk_at dksX1_init_0 8 rfl rfl)
theorem dX1_init_9 : decode cX1_init 9 = .ok (.invokespecial 11, 3) := dk_183 0 11 (dk_at dksX1_init_0 9 rfl rfl)
theorem dX1_init_12 : decode cX1_init 12 = .ok (.putfield 12, 3) := dk_181 0 12 (dk_at dksX1_init_0 12 rfl rfl)
theorem dX1_init_15 : decode cX1_init 15 = .ok (.aload_n 0, 1) := dk_42 (dk_at dksX1_init_0 15 rfl rfl)
theorem dX1_init_16 : decode cX1_init 16 = .ok (.new 16, 3) := dk_187 0 16 (dk_at dksX1_init_0 16 rfl rfl)
theorem dX1_init_19 : decode cX1_init 19 = .ok (.dup, 1) := dk_89 (dk_at dksX1_init_0 19 rfl rfl)
theorem dX1_init_20 : decode cX1_init 20 = .ok (.invokespecial 18, 3) := dk_183 0 18 (dk_at dksX1_init_0 20 rfl rfl)
theorem dX1_init_23 : decode cX1_init 23 = .ok (.putfield 19, 3) := dk_181 0 19 (dk_at dksX1_init_1 0 rfl rfl)
theorem dX1_init_26 : decode cX1_init 26 = .ok (.aload_n 0, 1) := dk_42 (dk_at dksX1_init_1 3 rfl rfl)
theorem dX1_init_27 : decode cX1_init 27 = .ok (.new 23, 3) := dk_187 0 23 (dk_at dksX1_init_1 4 rfl rfl)
theorem dX1_init_30 : decode cX1_init 30 = .ok (.dup, 1) := dk_89 (dk_at dksX1_init_1 7 rfl rfl)
theorem dX1_init_31 : decode cX1_init 31 = .ok (.invokespecial 25, 3) := dk_183 0 25 (dk_at dksX1_init_1 8 rfl rfl)
theorem dX1_init_34 : decode cX1_init 34 = .ok (.putfield 26, 3) := dk_181 0 26 (dk_at dksX1_init_1 11 rfl rfl)
theorem dX1_init_37 : decode cX1_init 37 = .ok (.return_, 1) := dk_177 (dk_at dksX1_init_1 14 rfl rfl)
abbrev cX1_deliverAll : ByteArray := prog_1_method_14_code
def yX1_deliverAll : MethodName := ⟨RX1, "deliverAll", "()I"⟩
def dkwX1_deliverAll_0 : List UInt8 := [42, 182, 0, 98, 42, 180, 0, 26, 18, 134, 182, 0, 135, 172]
abbrev dktX1_deliverAll_0 : List UInt8 := dkwX1_deliverAll_0 ++ []
theorem dksX1_deliverAll_0 : cX1_deliverAll.data.toList.drop 0 = dktX1_deliverAll_0 := by decide +kernel
theorem dX1_deliverAll_0 : decode cX1_deliverAll 0 = .ok (.aload_n 0, 1) := dk_42 (dk_at dksX1_deliverAll_0 0 rfl rfl)
theorem dX1_deliverAll_1 : decode cX1_deliverAll 1 = .ok (.invokevirtual 98, 3) := dk_182 0 98 (dk_at dksX1_deliverAll_0 1 rfl rfl)
theorem dX1_deliverAll_4 : decode cX1_deliverAll 4 = .ok (.aload_n 0, 1) := dk_42 (dk_at dksX1_deliverAll_0 4 rfl rfl)
theorem dX1_deliverAll_5 : decode cX1_deliverAll 5 = .ok (.getfield 26, 3) := dk_180 0 26 (dk_at dksX1_deliverAll_0 5 rfl rfl)
theorem dX1_deliverAll_8 : decode cX1_deliverAll 8 = .ok (.ldc 134, 2) := dk_18 134 (dk_at dksX1_deliverAll_0 8 rfl rfl)
theorem dX1_deliverAll_10 : decode cX1_deliverAll 10 = .ok (.invokevirtual 135, 3) := dk_182 0 135 (dk_at dksX1_deliverAll_0 10 rfl rfl)
theorem dX1_deliverAll_13 : decode cX1_deliverAll 13 = .ok (.ireturn, 1) := dk_172 (dk_at dksX1_deliverAll_0 13 rfl rfl)
abbrev cX1_saves : ByteArray := prog_1_method_9_code
def yX1_saves : MethodName := ⟨RX1, "saves", "()V"⟩
def dkwX1_saves_1 : List UInt8 := [187, 0, 23, 89, 42, 180, 0, 26, 183, 0, 80, 182, 0, 83, 177]
abbrev dktX1_saves_1 : List UInt8 := dkwX1_saves_1 ++ []
def dkwX1_saves_0 : List UInt8 := [42, 180, 0, 19, 182, 0, 75, 16, 6, 160, 0, 11, 42, 180, 0, 19, 182, 0, 76, 87, 42, 180, 0, 19]
abbrev dktX1_saves_0 : List UInt8 := dkwX1_saves_0 ++ dktX1_saves_1
theorem dksX1_saves_0 : cX1_saves.data.toList.drop 0 = dktX1_saves_0 := by decide +kernel
theorem dksX1_saves_1 : cX1_saves.data.toList.drop 24 = dktX1_saves_1 := dk_seg dksX1_saves_0 24 rfl rfl
theorem dX1_saves_0 : decode cX1_saves 0 = .ok (.aload_n 0, 1) := dk_42 (dk_at dksX1_saves_0 0 rfl rfl)
theorem dX1_saves_1 : decode cX1_saves 1 = .ok (.getfield 19, 3) := dk_180 0 19 (dk_at dksX1_saves_0 1 rfl rfl)
theorem dX1_saves_4 : decode cX1_saves 4 = .ok (.invokevirtual 75, 3) := dk_182 0 75 (dk_at dksX1_saves_0 4 rfl rfl)
theorem dX1_saves_7 : decode cX1_saves 7 = .ok (.bipush 6, 2) := dk_16 6 (dk_at dksX1_saves_0 7 rfl rfl)
theorem dX1_saves_9 : decode cX1_saves 9 = .ok (.if_icmp .ne 11, 3) := dk_160 0 11 (dk_at dksX1_saves_0 9 rfl rfl)
theorem dX1_saves_12 : decode cX1_saves 12 = .ok (.aload_n 0, 1) := dk_42 (dk_at dksX1_saves_0 12 rfl rfl)
theorem dX1_saves_13 : decode cX1_saves 13 = .ok (.getfield 19, 3) := dk_180 0 19 (dk_at dksX1_saves_0 13 rfl rfl)
theorem dX1_saves_16 : decode cX1_saves 16 = .ok (.invokevirtual 76, 3) := dk_182 0 76 (dk_at dksX1_saves_0 16 rfl rfl)
theorem dX1_saves_19 : decode cX1_saves 19 = .ok (.pop, 1) := dk_87 (dk_at dksX1_saves_0 19 rfl rfl)
theorem dX1_saves_20 : decode cX1_saves 20 = .ok (.aload_n 0, 1) := dk_42 (dk_at dksX1_saves_0 20 rfl rfl)
theorem dX1_saves_21 : decode cX1_saves 21 = .ok (.getfield 19, 3) := dk_180 0 19 (dk_at dksX1_saves_0 21 rfl rfl)
theorem dX1_saves_24 : decode cX1_saves 24 = .ok (.new 23, 3) := dk_187 0 23 (dk_at dksX1_saves_1 0 rfl rfl)
theorem dX1_saves_27 : decode cX1_saves 27 = .ok (.dup, 1) := dk_89 (dk_at dksX1_saves_1 3 rfl rfl)
theorem dX1_saves_28 : decode cX1_saves 28 = .ok (.aload_n 0, 1) := dk_42 (dk_at dksX1_saves_1 4 rfl rfl)
theorem dX1_saves_29 : decode cX1_saves 29 = .ok (.getfield 26, 3) := dk_180 0 26 (dk_at dksX1_saves_1 5 rfl rfl)
theorem dX1_saves_32 : decode cX1_saves 32 = .ok (.invokespecial 80, 3) := dk_183 0 80 (dk_at dksX1_saves_1 8 rfl rfl)
theorem dX1_saves_35 : decode cX1_saves 35 = .ok (.invokevirtual 83, 3) := dk_182 0 83 (dk_at dksX1_saves_1 11 rfl rfl)
theorem dX1_saves_38 : decode cX1_saves 38 = .ok (.return_, 1) := dk_177 (dk_at dksX1_saves_1 14 rfl rfl)
abbrev cX1_has : ByteArray := prog_1_method_1_code
def yX1_has : MethodName := ⟨RX1, "has", "(II)Z"⟩
def dkwX1_has_0 : List UInt8 := [26, 27, 122, 4, 126, 4, 160, 0, 7, 4, 167, 0, 4, 3, 172]
abbrev dktX1_has_0 : List UInt8 := dkwX1_has_0 ++ []
theorem dksX1_has_0 : cX1_has.data.toList.drop 0 = dktX1_has_0 := by decide +kernel
theorem dX1_has_0 : decode cX1_has 0 = .ok (.iload_n 0, 1) := dk_26 (dk_at dksX1_has_0 0 rfl rfl)
theorem dX1_has_1 : decode cX1_has 1 = .ok (.iload_n 1, 1) := dk_27 (dk_at dksX1_has_0 1 rfl rfl)
theorem dX1_has_2 : decode cX1_has 2 = .ok (.ishr, 1) := dk_122 (dk_at dksX1_has_0 2 rfl rfl)
theorem dX1_has_3 : decode cX1_has 3 = .ok (.iconst 1, 1) := dk_4 (dk_at dksX1_has_0 3 rfl rfl)
theorem dX1_has_4 : decode cX1_has 4 = .ok (.iand, 1) := dk_126 (dk_at dksX1_has_0 4 rfl rfl)
theorem dX1_has_5 : decode cX1_has 5 = .ok (.iconst 1, 1) := dk_4 (dk_at dksX1_has_0 5 rfl rfl)
theorem dX1_has_6 : decode cX1_has 6 = .ok (.if_icmp .ne 7, 3) := dk_160 0 7 (dk_at dksX1_has_0 6 rfl rfl)
theorem dX1_has_9 : decode cX1_has 9 = .ok (.iconst 1, 1) := dk_4 (dk_at dksX1_has_0 9 rfl rfl)
theorem dX1_has_10 : decode cX1_has 10 = .ok (.goto 4, 3) := dk_167 0 4 (dk_at dksX1_has_0 10 rfl rfl)
theorem dX1_has_13 : decode cX1_has 13 = .ok (.iconst 0, 1) := dk_3 (dk_at dksX1_has_0 13 rfl rfl)
theorem dX1_has_14 : decode cX1_has 14 = .ok (.ireturn, 1) := dk_172 (dk_at dksX1_has_0 14 rfl rfl)
abbrev cX1_clearBuffer : ByteArray := prog_1_method_19_code
def yX1_clearBuffer : MethodName := ⟨RX1, "clearBuffer", "()I"⟩
def dkwX1_clearBuffer_0 : List UInt8 := [42, 180, 0, 12, 182, 0, 150, 60, 42, 180, 0, 12, 3, 182, 0, 157, 27, 172]
abbrev dktX1_clearBuffer_0 : List UInt8 := dkwX1_clearBuffer_0 ++ []
theorem dksX1_clearBuffer_0 : cX1_clearBuffer.data.toList.drop 0 = dktX1_clearBuffer_0 := by decide +kernel
theorem dX1_clearBuffer_0 : decode cX1_clearBuffer 0 = .ok (.aload_n 0, 1) := dk_42 (dk_at dksX1_clearBuffer_0 0 rfl rfl)
theorem dX1_clearBuffer_1 : decode cX1_clearBuffer 1 = .ok (.getfield 12, 3) := dk_180 0 12 (dk_at dksX1_clearBuffer_0 1 rfl rfl)
theorem dX1_clearBuffer_4 : decode cX1_clearBuffer 4 = .ok (.invokevirtual 150, 3) := dk_182 0 150 (dk_at dksX1_clearBuffer_0 4 rfl rfl)
theorem dX1_clearBuffer_7 : decode cX1_clearBuffer 7 = .ok (.istore_n 1, 1) := dk_60 (dk_at dksX1_clearBuffer_0 7 rfl rfl)
theorem dX1_clearBuffer_8 : decode cX1_clearBuffer 8 = .ok (.aload_n 0, 1) := dk_42 (dk_at dksX1_clearBuffer_0 8 rfl rfl)
theorem dX1_clearBuffer_9 : decode cX1_clearBuffer 9 = .ok (.getfield 12, 3) := dk_180 0 12 (dk_at dksX1_clearBuffer_0 9 rfl rfl)
theorem dX1_clearBuffer_12 : decode cX1_clearBuffer 12 = .ok (.iconst 0, 1) := dk_3 (dk_at dksX1_clearBuffer_0 12 rfl rfl)
theorem dX1_clearBuffer_13 : decode cX1_clearBuffer 13 = .ok (.invokevirtual 157, 3) := dk_182 0 157 (dk_at dksX1_clearBuffer_0 13 rfl rfl)
theorem dX1_clearBuffer_16 : decode cX1_clearBuffer 16 = .ok (.iload_n 1, 1) := dk_27 (dk_at dksX1_clearBuffer_0 16 rfl rfl)
theorem dX1_clearBuffer_17 : decode cX1_clearBuffer 17 = .ok (.ireturn, 1) := dk_172 (dk_at dksX1_clearBuffer_0 17 rfl rfl)
abbrev cX1_firstError : ByteArray := prog_1_method_20_code
def yX1_firstError : MethodName := ⟨RX1, "firstError", "()I"⟩
def dkwX1_firstError_0 : List UInt8 := [187, 0, 161, 89, 42, 183, 0, 163, 182, 0, 166, 180, 0, 170, 172]
abbrev dktX1_firstError_0 : List UInt8 := dkwX1_firstError_0 ++ []
theorem dksX1_firstError_0 : cX1_firstError.data.toList.drop 0 = dktX1_firstError_0 := by decide +kernel
theorem dX1_firstError_0 : decode cX1_firstError 0 = .ok (.new 161, 3) := dk_187 0 161 (dk_at dksX1_firstError_0 0 rfl rfl)
theorem dX1_firstError_3 : decode cX1_firstError 3 = .ok (.dup, 1) := dk_89 (dk_at dksX1_firstError_0 3 rfl rfl)
theorem dX1_firstError_4 : decode cX1_firstError 4 = .ok (.aload_n 0, 1) := dk_42 (dk_at dksX1_firstError_0 4 rfl rfl)
theorem dX1_firstError_5 : decode cX1_firstError 5 = .ok (.invokespecial 163, 3) := dk_183 0 163 (dk_at dksX1_firstError_0 5 rfl rfl)
theorem dX1_firstError_8 : decode cX1_firstError 8 = .ok (.invokevirtual 166, 3) := dk_182 0 166 (dk_at dksX1_firstError_0 8 rfl rfl)
theorem dX1_firstError_11 : decode cX1_firstError 11 = .ok (.getfield 170, 3) := dk_180 0 170 (dk_at dksX1_firstError_0 11 rfl rfl)
theorem dX1_firstError_14 : decode cX1_firstError 14 = .ok (.ireturn, 1) := dk_172 (dk_at dksX1_firstError_0 14 rfl rfl)
abbrev cX1_keep : ByteArray := prog_1_method_24_code
def yX1_keep : MethodName := ⟨RX1, "keep", "()I"⟩
def dkwX1_keep_1 : List UInt8 := [185, 0, 51, 1, 0, 172]
abbrev dktX1_keep_1 : List UInt8 := dkwX1_keep_1 ++ []
def dkwX1_keep_0 : List UInt8 := [42, 187, 0, 23, 89, 42, 180, 0, 26, 183, 0, 80, 181, 0, 209, 42, 180, 0, 26, 180, 0, 126]
abbrev dktX1_keep_0 : List UInt8 := dkwX1_keep_0 ++ dktX1_keep_1
theorem dksX1_keep_0 : cX1_keep.data.toList.drop 0 = dktX1_keep_0 := by decide +kernel
theorem dksX1_keep_1 : cX1_keep.data.toList.drop 22 = dktX1_keep_1 := dk_seg dksX1_keep_0 22 rfl rfl
theorem dX1_keep_0 : decode cX1_keep 0 = .ok (.aload_n 0, 1) := dk_42 (dk_at dksX1_keep_0 0 rfl rfl)
theorem dX1_keep_1 : decode cX1_keep 1 = .ok (.new 23, 3) := dk_187 0 23 (dk_at dksX1_keep_0 1 rfl rfl)
theorem dX1_keep_4 : decode cX1_keep 4 = .ok (.dup, 1) := dk_89 (dk_at dksX1_keep_0 4 rfl rfl)
theorem dX1_keep_5 : decode cX1_keep 5 = .ok (.aload_n 0, 1) := dk_42 (dk_at dksX1_keep_0 5 rfl rfl)
theorem dX1_keep_6 : decode cX1_keep 6 = .ok (.getfield 26, 3) := dk_180 0 26 (dk_at dksX1_keep_0 6 rfl rfl)
theorem dX1_keep_9 : decode cX1_keep 9 = .ok (.invokespecial 80, 3) := dk_183 0 80 (dk_at dksX1_keep_0 9 rfl rfl)
theorem dX1_keep_12 : decode cX1_keep 12 = .ok (.putfield 209, 3) := dk_181 0 209 (dk_at dksX1_keep_0 12 rfl rfl)
theorem dX1_keep_15 : decode cX1_keep 15 = .ok (.aload_n 0, 1) := dk_42 (dk_at dksX1_keep_0 15 rfl rfl)
theorem dX1_keep_16 : decode cX1_keep 16 = .ok (.getfield 26, 3) := dk_180 0 26 (dk_at dksX1_keep_0 16 rfl rfl)
theorem dX1_keep_19 : decode cX1_keep 19 = .ok (.getfield 126, 3) := dk_180 0 126 (dk_at dksX1_keep_0 19 rfl rfl)
theorem dX1_keep_22 : decode cX1_keep 22 = .ok (.invokeinterface 51 1, 5) := by decide +kernel
theorem dX1_keep_27 : decode cX1_keep 27 = .ok (.ireturn, 1) := dk_172 (dk_at dksX1_keep_1 5 rfl rfl)
abbrev cX1_transfers : ByteArray := prog_1_method_27_code
def yX1_transfers : MethodName := ⟨RX1, "transfers", "()I"⟩
def dkwX1_transfers_0 : List UInt8 := [42, 180, 0, 26, 180, 0, 47, 185, 0, 51, 1, 0, 172]
abbrev dktX1_transfers_0 : List UInt8 := dkwX1_transfers_0 ++ []
theorem dksX1_transfers_0 : cX1_transfers.data.toList.drop 0 = dktX1_transfers_0 := by decide +kernel
theorem dX1_transfers_0 : decode cX1_transfers 0 = .ok (.aload_n 0, 1) := dk_42 (dk_at dksX1_transfers_0 0 rfl rfl)
theorem dX1_transfers_1 : decode cX1_transfers 1 = .ok (.getfield 26, 3) := dk_180 0 26 (dk_at dksX1_transfers_0 1 rfl rfl)
theorem dX1_transfers_4 : decode cX1_transfers 4 = .ok (.getfield 47, 3) := dk_180 0 47 (dk_at dksX1_transfers_0 4 rfl rfl)
theorem dX1_transfers_7 : decode cX1_transfers 7 = .ok (.invokeinterface 51 1, 5) := by decide +kernel
theorem dX1_transfers_12 : decode cX1_transfers 12 = .ok (.ireturn, 1) := dk_172 (dk_at dksX1_transfers_0 12 rfl rfl)
abbrev cX1_total : ByteArray := prog_1_method_41_code
def yX1_total : MethodName := ⟨RX1, "total", "()I"⟩
def dkwX1_total_0 : List UInt8 := [42, 180, 0, 26, 182, 1, 1, 172]
abbrev dktX1_total_0 : List UInt8 := dkwX1_total_0 ++ []
theorem dksX1_total_0 : cX1_total.data.toList.drop 0 = dktX1_total_0 := by decide +kernel
theorem dX1_total_0 : decode cX1_total 0 = .ok (.aload_n 0, 1) := dk_42 (dk_at dksX1_total_0 0 rfl rfl)
theorem dX1_total_1 : decode cX1_total 1 = .ok (.getfield 26, 3) := dk_180 0 26 (dk_at dksX1_total_0 1 rfl rfl)
theorem dX1_total_4 : decode cX1_total 4 = .ok (.invokevirtual 257, 3) := dk_182 1 1 (dk_at dksX1_total_0 4 rfl rfl)
theorem dX1_total_7 : decode cX1_total 7 = .ok (.ireturn, 1) := dk_172 (dk_at dksX1_total_0 7 rfl rfl)
abbrev cX1_onTheWay : ByteArray := prog_1_method_42_code
def yX1_onTheWay : MethodName := ⟨RX1, "onTheWay", "()I"⟩
def dkwX1_onTheWay_0 : List UInt8 := [42, 180, 0, 26, 182, 1, 4, 172]
abbrev dktX1_onTheWay_0 : List UInt8 := dkwX1_onTheWay_0 ++ []
theorem dksX1_onTheWay_0 : cX1_onTheWay.data.toList.drop 0 = dktX1_onTheWay_0 := by decide +kernel
theorem dX1_onTheWay_0 : decode cX1_onTheWay 0 = .ok (.aload_n 0, 1) := dk_42 (dk_at dksX1_onTheWay_0 0 rfl rfl)
theorem dX1_onTheWay_1 : decode cX1_onTheWay 1 = .ok (.getfield 26, 3) := dk_180 0 26 (dk_at dksX1_onTheWay_0 1 rfl rfl)
theorem dX1_onTheWay_4 : decode cX1_onTheWay 4 = .ok (.invokevirtual 260, 3) := dk_182 1 4 (dk_at dksX1_onTheWay_0 4 rfl rfl)
theorem dX1_onTheWay_7 : decode cX1_onTheWay 7 = .ok (.ireturn, 1) := dk_172 (dk_at dksX1_onTheWay_0 7 rfl rfl)
abbrev cX1_waiting : ByteArray := prog_1_method_47_code
def yX1_waiting : MethodName := ⟨RX1, "waiting", "()I"⟩
def dkwX1_waiting_0 : List UInt8 := [42, 180, 0, 26, 180, 0, 126, 185, 0, 51, 1, 0, 172]
abbrev dktX1_waiting_0 : List UInt8 := dkwX1_waiting_0 ++ []
theorem dksX1_waiting_0 : cX1_waiting.data.toList.drop 0 = dktX1_waiting_0 := by decide +kernel
theorem dX1_waiting_0 : decode cX1_waiting 0 = .ok (.aload_n 0, 1) := dk_42 (dk_at dksX1_waiting_0 0 rfl rfl)
theorem dX1_waiting_1 : decode cX1_waiting 1 = .ok (.getfield 26, 3) := dk_180 0 26 (dk_at dksX1_waiting_0 1 rfl rfl)
theorem dX1_waiting_4 : decode cX1_waiting 4 = .ok (.getfield 126, 3) := dk_180 0 126 (dk_at dksX1_waiting_0 4 rfl rfl)
theorem dX1_waiting_7 : decode cX1_waiting 7 = .ok (.invokeinterface 51 1, 5) := by decide +kernel
theorem dX1_waiting_12 : decode cX1_waiting 12 = .ok (.ireturn, 1) := dk_172 (dk_at dksX1_waiting_0 12 rfl rfl)
abbrev cX1_sent : ByteArray := prog_1_method_52_code
def yX1_sent : MethodName := ⟨RX1, "sent", "()I"⟩
def dkwX1_sent_0 : List UInt8 := [42, 180, 0, 26, 180, 1, 44, 172]
abbrev dktX1_sent_0 : List UInt8 := dkwX1_sent_0 ++ []
theorem dksX1_sent_0 : cX1_sent.data.toList.drop 0 = dktX1_sent_0 := by decide +kernel
theorem dX1_sent_0 : decode cX1_sent 0 = .ok (.aload_n 0, 1) := dk_42 (dk_at dksX1_sent_0 0 rfl rfl)
theorem dX1_sent_1 : decode cX1_sent 1 = .ok (.getfield 26, 3) := dk_180 0 26 (dk_at dksX1_sent_0 1 rfl rfl)
theorem dX1_sent_4 : decode cX1_sent 4 = .ok (.getfield 300, 3) := dk_180 1 44 (dk_at dksX1_sent_0 4 rfl rfl)
theorem dX1_sent_7 : decode cX1_sent 7 = .ok (.ireturn, 1) := dk_172 (dk_at dksX1_sent_0 7 rfl rfl)
abbrev cX1_sentByAccount : ByteArray := prog_1_method_53_code
def yX1_sentByAccount : MethodName := ⟨RX1, "sentByAccount", "()I"⟩
def dkwX1_sentByAccount_1 : List UInt8 := [185, 0, 51, 1, 0, 96, 172]
abbrev dktX1_sentByAccount_1 : List UInt8 := dkwX1_sentByAccount_1 ++ []
def dkwX1_sentByAccount_0 : List UInt8 := [42, 180, 0, 26, 180, 1, 47, 42, 180, 0, 26, 180, 1, 50, 96, 42, 180, 0, 26, 180, 0, 126]
abbrev dktX1_sentByAccount_0 : List UInt8 := dkwX1_sentByAccount_0 ++ dktX1_sentByAccount_1
theorem dksX1_sentByAccount_0 : cX1_sentByAccount.data.toList.drop 0 = dktX1_sentByAccount_0 := by decide +kernel
theorem dksX1_sentByAccount_1 : cX1_sentByAccount.data.toList.drop 22 = dktX1_sentByAccount_1 := dk_seg dksX1_sentByAccount_0 22 rfl rfl
theorem dX1_sentByAccount_0 : decode cX1_sentByAccount 0 = .ok (.aload_n 0, 1) := dk_42 (dk_at dksX1_sentByAccount_0 0 rfl rfl)
theorem dX1_sentByAccount_1 : decode cX1_sentByAccount 1 = .ok (.getfield 26, 3) := dk_180 0 26 (dk_at dksX1_sentByAccount_0 1 rfl rfl)
theorem dX1_sentByAccount_4 : decode cX1_sentByAccount 4 = .ok (.getfield 303, 3) := dk_180 1 47 (dk_at dksX1_sentByAccount_0 4 rfl rfl)
theorem dX1_sentByAccount_7 : decode cX1_sentByAccount 7 = .ok (.aload_n 0, 1) := dk_42 (dk_at dksX1_sentByAccount_0 7 rfl rfl)
theorem dX1_sentByAccount_8 : decode cX1_sentByAccount 8 = .ok (.getfield 26, 3) := dk_180 0 26 (dk_at dksX1_sentByAccount_0 8 rfl rfl)
theorem dX1_sentByAccount_11 : decode cX1_sentByAccount 11 = .ok (.getfield 306, 3) := dk_180 1 50 (dk_at dksX1_sentByAccount_0 11 rfl rfl)
theorem dX1_sentByAccount_14 : decode cX1_sentByAccount 14 = .ok (.iadd, 1) := dk_96 (dk_at dksX1_sentByAccount_0 14 rfl rfl)
theorem dX1_sentByAccount_15 : decode cX1_sentByAccount 15 = .ok (.aload_n 0, 1) := dk_42 (dk_at dksX1_sentByAccount_0 15 rfl rfl)
theorem dX1_sentByAccount_16 : decode cX1_sentByAccount 16 = .ok (.getfield 26, 3) := dk_180 0 26 (dk_at dksX1_sentByAccount_0 16 rfl rfl)
theorem dX1_sentByAccount_19 : decode cX1_sentByAccount 19 = .ok (.getfield 126, 3) := dk_180 0 126 (dk_at dksX1_sentByAccount_0 19 rfl rfl)
theorem dX1_sentByAccount_22 : decode cX1_sentByAccount 22 = .ok (.invokeinterface 51 1, 5) := by decide +kernel
theorem dX1_sentByAccount_27 : decode cX1_sentByAccount 27 = .ok (.iadd, 1) := dk_96 (dk_at dksX1_sentByAccount_1 5 rfl rfl)
theorem dX1_sentByAccount_28 : decode cX1_sentByAccount 28 = .ok (.ireturn, 1) := dk_172 (dk_at dksX1_sentByAccount_1 6 rfl rfl)
abbrev cX1_lost : ByteArray := prog_1_method_54_code
def yX1_lost : MethodName := ⟨RX1, "lost", "()I"⟩
def dkwX1_lost_0 : List UInt8 := [42, 180, 0, 26, 180, 1, 50, 172]
abbrev dktX1_lost_0 : List UInt8 := dkwX1_lost_0 ++ []
theorem dksX1_lost_0 : cX1_lost.data.toList.drop 0 = dktX1_lost_0 := by decide +kernel
theorem dX1_lost_0 : decode cX1_lost 0 = .ok (.aload_n 0, 1) := dk_42 (dk_at dksX1_lost_0 0 rfl rfl)
theorem dX1_lost_1 : decode cX1_lost 1 = .ok (.getfield 26, 3) := dk_180 0 26 (dk_at dksX1_lost_0 1 rfl rfl)
theorem dX1_lost_4 : decode cX1_lost 4 = .ok (.getfield 306, 3) := dk_180 1 50 (dk_at dksX1_lost_0 4 rfl rfl)
theorem dX1_lost_7 : decode cX1_lost 7 = .ok (.ireturn, 1) := dk_172 (dk_at dksX1_lost_0 7 rfl rfl)
abbrev cX1_messagesToSettle : ByteArray := prog_1_method_57_code
def yX1_messagesToSettle : MethodName := ⟨RX1, "messagesToSettle", "()I"⟩
def dkwX1_messagesToSettle_0 : List UInt8 := [187, 0, 23, 89, 42, 180, 0, 26, 183, 0, 80, 182, 1, 53, 172]
abbrev dktX1_messagesToSettle_0 : List UInt8 := dkwX1_messagesToSettle_0 ++ []
theorem dksX1_messagesToSettle_0 : cX1_messagesToSettle.data.toList.drop 0 = dktX1_messagesToSettle_0 := by decide +kernel
theorem dX1_messagesToSettle_0 : decode cX1_messagesToSettle 0 = .ok (.new 23, 3) := dk_187 0 23 (dk_at dksX1_messagesToSettle_0 0 rfl rfl)
theorem dX1_messagesToSettle_3 : decode cX1_messagesToSettle 3 = .ok (.dup, 1) := dk_89 (dk_at dksX1_messagesToSettle_0 3 rfl rfl)
theorem dX1_messagesToSettle_4 : decode cX1_messagesToSettle 4 = .ok (.aload_n 0, 1) := dk_42 (dk_at dksX1_messagesToSettle_0 4 rfl rfl)
theorem dX1_messagesToSettle_5 : decode cX1_messagesToSettle 5 = .ok (.getfield 26, 3) := dk_180 0 26 (dk_at dksX1_messagesToSettle_0 5 rfl rfl)
theorem dX1_messagesToSettle_8 : decode cX1_messagesToSettle 8 = .ok (.invokespecial 80, 3) := dk_183 0 80 (dk_at dksX1_messagesToSettle_0 8 rfl rfl)
theorem dX1_messagesToSettle_11 : decode cX1_messagesToSettle 11 = .ok (.invokevirtual 309, 3) := dk_182 1 53 (dk_at dksX1_messagesToSettle_0 11 rfl rfl)
theorem dX1_messagesToSettle_14 : decode cX1_messagesToSettle 14 = .ok (.ireturn, 1) := dk_172 (dk_at dksX1_messagesToSettle_0 14 rfl rfl)
abbrev cX1_lostShare : ByteArray := prog_1_method_61_code
def yX1_lostShare : MethodName := ⟨RX1, "lostShare", "()D"⟩
def dkwX1_lostShare_1 : List UInt8 := [180, 0, 26, 180, 1, 44, 135, 111, 175]
abbrev dktX1_lostShare_1 : List UInt8 := dkwX1_lostShare_1 ++ []
def dkwX1_lostShare_0 : List UInt8 := [42, 180, 0, 26, 180, 1, 44, 154, 0, 7, 14, 167, 0, 20, 42, 180, 0, 26, 180, 1, 50, 135, 42]
abbrev dktX1_lostShare_0 : List UInt8 := dkwX1_lostShare_0 ++ dktX1_lostShare_1
theorem dksX1_lostShare_0 : cX1_lostShare.data.toList.drop 0 = dktX1_lostShare_0 := by decide +kernel
theorem dksX1_lostShare_1 : cX1_lostShare.data.toList.drop 23 = dktX1_lostShare_1 := dk_seg dksX1_lostShare_0 23 rfl rfl
theorem dX1_lostShare_0 : decode cX1_lostShare 0 = .ok (.aload_n 0, 1) := dk_42 (dk_at dksX1_lostShare_0 0 rfl rfl)
theorem dX1_lostShare_1 : decode cX1_lostShare 1 = .ok (.getfield 26, 3) := dk_180 0 26 (dk_at dksX1_lostShare_0 1 rfl rfl)
theorem dX1_lostShare_4 : decode cX1_lostShare 4 = .ok (.getfield 300, 3) := dk_180 1 44 (dk_at dksX1_lostShare_0 4 rfl rfl)
theorem dX1_lostShare_7 : decode cX1_lostShare 7 = .ok (.ifCond .ne 7, 3) := dk_154 0 7 (dk_at dksX1_lostShare_0 7 rfl rfl)
theorem dX1_lostShare_10 : decode cX1_lostShare 10 = .ok (.dconst 0, 1) := dk_14 (dk_at dksX1_lostShare_0 10 rfl rfl)
theorem dX1_lostShare_11 : decode cX1_lostShare 11 = .ok (.goto 20, 3) := dk_167 0 20 (dk_at dksX1_lostShare_0 11 rfl rfl)
theorem dX1_lostShare_14 : decode cX1_lostShare 14 = .ok (.aload_n 0, 1) := dk_42 (dk_at dksX1_lostShare_0 14 rfl rfl)
theorem dX1_lostShare_15 : decode cX1_lostShare 15 = .ok (.getfield 26, 3) := dk_180 0 26 (dk_at dksX1_lostShare_0 15 rfl rfl)
theorem dX1_lostShare_18 : decode cX1_lostShare 18 = .ok (.getfield 306, 3) := dk_180 1 50 (dk_at dksX1_lostShare_0 18 rfl rfl)
theorem dX1_lostShare_21 : decode cX1_lostShare 21 = .ok (.i2d, 1) := dk_135 (dk_at dksX1_lostShare_0 21 rfl rfl)
theorem dX1_lostShare_22 : decode cX1_lostShare 22 = .ok (.aload_n 0, 1) := dk_42 (dk_at dksX1_lostShare_0 22 rfl rfl)
theorem dX1_lostShare_23 : decode cX1_lostShare 23 = .ok (.getfield 26, 3) := dk_180 0 26 (dk_at dksX1_lostShare_1 0 rfl rfl)
theorem dX1_lostShare_26 : decode cX1_lostShare 26 = .ok (.getfield 300, 3) := dk_180 1 44 (dk_at dksX1_lostShare_1 3 rfl rfl)
theorem dX1_lostShare_29 : decode cX1_lostShare 29 = .ok (.i2d, 1) := dk_135 (dk_at dksX1_lostShare_1 6 rfl rfl)
theorem dX1_lostShare_30 : decode cX1_lostShare 30 = .ok (.ddiv, 1) := dk_111 (dk_at dksX1_lostShare_1 7 rfl rfl)
theorem dX1_lostShare_31 : decode cX1_lostShare 31 = .ok (.dreturn, 1) := dk_175 (dk_at dksX1_lostShare_1 8 rfl rfl)
abbrev cX1_meanSize : ByteArray := prog_1_method_62_code
def yX1_meanSize : MethodName := ⟨RX1, "meanSize", "()F"⟩
def dkwX1_meanSize_1 : List UInt8 := [182, 1, 64, 134, 42, 180, 0, 26, 180, 0, 47, 185, 0, 51, 1, 0, 134, 110, 174]
abbrev dktX1_meanSize_1 : List UInt8 := dkwX1_meanSize_1 ++ []
def dkwX1_meanSize_0 : List UInt8 := [42, 180, 0, 26, 180, 0, 47, 185, 1, 63, 1, 0, 153, 0, 7, 11, 167, 0, 25, 42, 180, 0, 26]
abbrev dktX1_meanSize_0 : List UInt8 := dkwX1_meanSize_0 ++ dktX1_meanSize_1
theorem dksX1_meanSize_0 : cX1_meanSize.data.toList.drop 0 = dktX1_meanSize_0 := by decide +kernel
theorem dksX1_meanSize_1 : cX1_meanSize.data.toList.drop 23 = dktX1_meanSize_1 := dk_seg dksX1_meanSize_0 23 rfl rfl
theorem dX1_meanSize_0 : decode cX1_meanSize 0 = .ok (.aload_n 0, 1) := dk_42 (dk_at dksX1_meanSize_0 0 rfl rfl)
theorem dX1_meanSize_1 : decode cX1_meanSize 1 = .ok (.getfield 26, 3) := dk_180 0 26 (dk_at dksX1_meanSize_0 1 rfl rfl)
theorem dX1_meanSize_4 : decode cX1_meanSize 4 = .ok (.getfield 47, 3) := dk_180 0 47 (dk_at dksX1_meanSize_0 4 rfl rfl)
theorem dX1_meanSize_7 : decode cX1_meanSize 7 = .ok (.invokeinterface 319 1, 5) := by decide +kernel
theorem dX1_meanSize_12 : decode cX1_meanSize 12 = .ok (.ifCond .eq 7, 3) := dk_153 0 7 (dk_at dksX1_meanSize_0 12 rfl rfl)
theorem dX1_meanSize_15 : decode cX1_meanSize 15 = .ok (.fconst 0, 1) := dk_11 (dk_at dksX1_meanSize_0 15 rfl rfl)
theorem dX1_meanSize_16 : decode cX1_meanSize 16 = .ok (.goto 25, 3) := dk_167 0 25 (dk_at dksX1_meanSize_0 16 rfl rfl)
theorem dX1_meanSize_19 : decode cX1_meanSize 19 = .ok (.aload_n 0, 1) := dk_42 (dk_at dksX1_meanSize_0 19 rfl rfl)
theorem dX1_meanSize_20 : decode cX1_meanSize 20 = .ok (.getfield 26, 3) := dk_180 0 26 (dk_at dksX1_meanSize_0 20 rfl rfl)
theorem dX1_meanSize_23 : decode cX1_meanSize 23 = .ok (.invokevirtual 320, 3) := dk_182 1 64 (dk_at dksX1_meanSize_1 0 rfl rfl)
theorem dX1_meanSize_26 : decode cX1_meanSize 26 = .ok (.i2f, 1) := dk_134 (dk_at dksX1_meanSize_1 3 rfl rfl)
theorem dX1_meanSize_27 : decode cX1_meanSize 27 = .ok (.aload_n 0, 1) := dk_42 (dk_at dksX1_meanSize_1 4 rfl rfl)
theorem dX1_meanSize_28 : decode cX1_meanSize 28 = .ok (.getfield 26, 3) := dk_180 0 26 (dk_at dksX1_meanSize_1 5 rfl rfl)
theorem dX1_meanSize_31 : decode cX1_meanSize 31 = .ok (.getfield 47, 3) := dk_180 0 47 (dk_at dksX1_meanSize_1 8 rfl rfl)
theorem dX1_meanSize_34 : decode cX1_meanSize 34 = .ok (.invokeinterface 51 1, 5) := by decide +kernel
theorem dX1_meanSize_39 : decode cX1_meanSize 39 = .ok (.i2f, 1) := dk_134 (dk_at dksX1_meanSize_1 16 rfl rfl)
theorem dX1_meanSize_40 : decode cX1_meanSize 40 = .ok (.fdiv, 1) := dk_110 (dk_at dksX1_meanSize_1 17 rfl rfl)
theorem dX1_meanSize_41 : decode cX1_meanSize 41 = .ok (.freturn, 1) := dk_174 (dk_at dksX1_meanSize_1 18 rfl rfl)
abbrev cX1_digest : ByteArray := prog_1_method_65_code
def yX1_digest : MethodName := ⟨RX1, "digest", "()J"⟩
def dkwX1_digest_15 : List UInt8 := [182, 1, 131, 133, 97, 66, 132, 5, 1, 167, 255, 224, 33, 173]
abbrev dktX1_digest_15 : List UInt8 := dkwX1_digest_15 ++ []
def dkwX1_digest_14 : List UInt8 := [21, 5, 42, 180, 0, 12, 182, 0, 150, 162, 0, 26, 20, 1, 67, 33, 105, 42, 180, 0, 12, 21, 5]
abbrev dktX1_digest_14 : List UInt8 := dkwX1_digest_14 ++ dktX1_digest_15
def dkwX1_digest_13 : List UInt8 := [199, 0, 7, 3, 167, 0, 4, 4, 133, 97, 105, 42, 180, 0, 12, 182, 0, 150, 133, 97, 66, 3, 54, 5]
abbrev dktX1_digest_13 : List UInt8 := dkwX1_digest_13 ++ dktX1_digest_14
def dkwX1_digest_12 : List UInt8 := [97, 105, 42, 182, 1, 121, 184, 1, 125, 133, 97, 66, 20, 1, 67, 20, 1, 67, 33, 105, 42, 180, 0, 209]
abbrev dktX1_digest_12 : List UInt8 := dkwX1_digest_12 ++ dktX1_digest_13
def dkwX1_digest_11 : List UInt8 := [180, 0, 19, 182, 0, 75, 133, 97, 66, 20, 1, 67, 20, 1, 67, 33, 105, 42, 182, 1, 111, 184, 1, 115]
abbrev dktX1_digest_11 : List UInt8 := dkwX1_digest_11 ++ dktX1_digest_12
def dkwX1_digest_10 : List UInt8 := [20, 1, 67, 33, 105, 28, 133, 97, 105, 42, 180, 0, 26, 3, 16, 14, 182, 1, 60, 133, 97, 105, 42]
abbrev dktX1_digest_10 : List UInt8 := dkwX1_digest_10 ++ dktX1_digest_11
def dkwX1_digest_9 : List UInt8 := [182, 1, 108, 133, 97, 105, 42, 180, 0, 26, 180, 1, 50, 133, 97, 66, 20, 1, 67, 20, 1, 67]
abbrev dktX1_digest_9 : List UInt8 := dkwX1_digest_9 ++ dktX1_digest_10
def dkwX1_digest_8 : List UInt8 := [20, 1, 67, 20, 1, 67, 20, 1, 67, 33, 105, 42, 180, 0, 26, 180, 1, 44, 133, 97, 105, 42]
abbrev dktX1_digest_8 : List UInt8 := dkwX1_digest_8 ++ dktX1_digest_9
def dkwX1_digest_7 : List UInt8 := [21, 5, 182, 1, 102, 133, 97, 105, 42, 21, 5, 182, 1, 105, 133, 97, 66, 132, 5, 1, 167, 255, 184]
abbrev dktX1_digest_7 : List UInt8 := dkwX1_digest_7 ++ dktX1_digest_8
def dkwX1_digest_6 : List UInt8 := [182, 1, 96, 133, 97, 105, 42, 21, 5, 182, 1, 99, 133, 97, 66, 20, 1, 67, 20, 1, 67, 33, 105, 42]
abbrev dktX1_digest_6 : List UInt8 := dkwX1_digest_6 ++ dktX1_digest_7
def dkwX1_digest_5 : List UInt8 := [180, 0, 126, 185, 0, 51, 1, 0, 162, 0, 61, 20, 1, 67, 20, 1, 67, 33, 105, 42, 21, 5]
abbrev dktX1_digest_5 : List UInt8 := dkwX1_digest_5 ++ dktX1_digest_6
def dkwX1_digest_4 : List UInt8 := [42, 182, 1, 92, 133, 97, 105, 42, 182, 1, 93, 133, 97, 66, 3, 54, 5, 21, 5, 42, 180, 0, 26]
abbrev dktX1_digest_4 : List UInt8 := dkwX1_digest_4 ++ dktX1_digest_5
def dkwX1_digest_3 : List UInt8 := [33, 43, 182, 1, 87, 66, 20, 1, 67, 20, 1, 67, 20, 1, 67, 33, 105, 42, 182, 1, 91, 133, 97, 105]
abbrev dktX1_digest_3 : List UInt8 := dkwX1_digest_3 ++ dktX1_digest_4
def dkwX1_digest_2 : List UInt8 := [185, 0, 51, 1, 0, 162, 0, 18, 42, 33, 21, 5, 43, 182, 1, 83, 66, 132, 5, 1, 167, 255, 227, 42]
abbrev dktX1_digest_2 : List UInt8 := dkwX1_digest_2 ++ dktX1_digest_3
def dkwX1_digest_1 : List UInt8 := [180, 0, 47, 185, 0, 51, 1, 0, 133, 97, 66, 3, 54, 5, 21, 5, 42, 180, 0, 26, 180, 0, 47]
abbrev dktX1_digest_1 : List UInt8 := dkwX1_digest_1 ++ dktX1_digest_2
def dkwX1_digest_0 : List UInt8 := [187, 0, 23, 89, 42, 180, 0, 26, 183, 0, 80, 76, 43, 182, 1, 53, 61, 20, 1, 81, 42, 180, 0, 26]
abbrev dktX1_digest_0 : List UInt8 := dkwX1_digest_0 ++ dktX1_digest_1
theorem dksX1_digest_0 : cX1_digest.data.toList.drop 0 = dktX1_digest_0 := by decide +kernel
theorem dksX1_digest_1 : cX1_digest.data.toList.drop 24 = dktX1_digest_1 := dk_seg dksX1_digest_0 24 rfl rfl
theorem dksX1_digest_2 : cX1_digest.data.toList.drop 47 = dktX1_digest_2 := dk_seg dksX1_digest_1 23 rfl rfl
theorem dksX1_digest_3 : cX1_digest.data.toList.drop 71 = dktX1_digest_3 := dk_seg dksX1_digest_2 24 rfl rfl
theorem dksX1_digest_4 : cX1_digest.data.toList.drop 95 = dktX1_digest_4 := dk_seg dksX1_digest_3 24 rfl rfl
theorem dksX1_digest_5 : cX1_digest.data.toList.drop 118 = dktX1_digest_5 := dk_seg dksX1_digest_4 23 rfl rfl
theorem dksX1_digest_6 : cX1_digest.data.toList.drop 140 = dktX1_digest_6 := dk_seg dksX1_digest_5 22 rfl rfl
theorem dksX1_digest_7 : cX1_digest.data.toList.drop 164 = dktX1_digest_7 := dk_seg dksX1_digest_6 24 rfl rfl
theorem dksX1_digest_8 : cX1_digest.data.toList.drop 187 = dktX1_digest_8 := dk_seg dksX1_digest_7 23 rfl rfl
theorem dksX1_digest_9 : cX1_digest.data.toList.drop 209 = dktX1_digest_9 := dk_seg dksX1_digest_8 22 rfl rfl
theorem dksX1_digest_10 : cX1_digest.data.toList.drop 231 = dktX1_digest_10 := dk_seg dksX1_digest_9 22 rfl rfl
theorem dksX1_digest_11 : cX1_digest.data.toList.drop 254 = dktX1_digest_11 := dk_seg dksX1_digest_10 23 rfl rfl
theorem dksX1_digest_12 : cX1_digest.data.toList.drop 278 = dktX1_digest_12 := dk_seg dksX1_digest_11 24 rfl rfl
theorem dksX1_digest_13 : cX1_digest.data.toList.drop 302 = dktX1_digest_13 := dk_seg dksX1_digest_12 24 rfl rfl
theorem dksX1_digest_14 : cX1_digest.data.toList.drop 326 = dktX1_digest_14 := dk_seg dksX1_digest_13 24 rfl rfl
theorem dksX1_digest_15 : cX1_digest.data.toList.drop 349 = dktX1_digest_15 := dk_seg dksX1_digest_14 23 rfl rfl
theorem dX1_digest_0 : decode cX1_digest 0 = .ok (.new 23, 3) := dk_187 0 23 (dk_at dksX1_digest_0 0 rfl rfl)
theorem dX1_digest_3 : decode cX1_digest 3 = .ok (.dup, 1) := dk_89 (dk_at dksX1_digest_0 3 rfl rfl)
theorem dX1_digest_4 : decode cX1_digest 4 = .ok (.aload_n 0, 1) := dk_42 (dk_at dksX1_digest_0 4 rfl rfl)
theorem dX1_digest_5 : decode cX1_digest 5 = .ok (.getfield 26, 3) := dk_180 0 26 (dk_at dksX1_digest_0 5 rfl rfl)
theorem dX1_digest_8 : decode cX1_digest 8 = .ok (.invokespecial 80, 3) := dk_183 0 80 (dk_at dksX1_digest_0 8 rfl rfl)
theorem dX1_digest_11 : decode cX1_digest 11 = .ok (.astore_n 1, 1) := dk_76 (dk_at dksX1_digest_0 11 rfl rfl)
theorem dX1_digest_12 : decode cX1_digest 12 = .ok (.aload_n 1, 1) := dk_43 (dk_at dksX1_digest_0 12 rfl rfl)
theorem dX1_digest_13 : decode cX1_digest 13 = .ok (.invokevirtual 309, 3) := dk_182 1 53 (dk_at dksX1_digest_0 13 rfl rfl)
theorem dX1_digest_16 : decode cX1_digest 16 = .ok (.istore_n 2, 1) := dk_61 (dk_at dksX1_digest_0 16 rfl rfl)
theorem dX1_digest_17 : decode cX1_digest 17 = .ok (.ldc2_w 337, 3) := dk_20 1 81 (dk_at dksX1_digest_0 17 rfl rfl)
theorem dX1_digest_20 : decode cX1_digest 20 = .ok (.aload_n 0, 1) := dk_42 (dk_at dksX1_digest_0 20 rfl rfl)
theorem dX1_digest_21 : decode cX1_digest 21 = .ok (.getfield 26, 3) := dk_180 0 26 (dk_at dksX1_digest_0 21 rfl rfl)
theorem dX1_digest_24 : decode cX1_digest 24 = .ok (.getfield 47, 3) := dk_180 0 47 (dk_at dksX1_digest_1 0 rfl rfl)
theorem dX1_digest_27 : decode cX1_digest 27 = .ok (.invokeinterface 51 1, 5) := by decide +kernel
theorem dX1_digest_32 : decode cX1_digest 32 = .ok (.i2l, 1) := dk_133 (dk_at dksX1_digest_1 8 rfl rfl)
theorem dX1_digest_33 : decode cX1_digest 33 = .ok (.ladd, 1) := dk_97 (dk_at dksX1_digest_1 9 rfl rfl)
theorem dX1_digest_34 : decode cX1_digest 34 = .ok (.lstore_n 3, 1) := dk_66 (dk_at dksX1_digest_1 10 rfl rfl)
theorem dX1_digest_35 : decode cX1_digest 35 = .ok (.iconst 0, 1) := dk_3 (dk_at dksX1_digest_1 11 rfl rfl)
theorem dX1_digest_36 : decode cX1_digest 36 = .ok (.istore 5, 2) := dk_54 5 (dk_at dksX1_digest_1 12 rfl rfl)
theorem dX1_digest_38 : decode cX1_digest 38 = .ok (.iload 5, 2) := dk_21 5 (dk_at dksX1_digest_1 14 rfl rfl)
theorem dX1_digest_40 : decode cX1_digest 40 = .ok (.aload_n 0, 1) := dk_42 (dk_at dksX1_digest_1 16 rfl rfl)
theorem dX1_digest_41 : decode cX1_digest 41 = .ok (.getfield 26, 3) := dk_180 0 26 (dk_at dksX1_digest_1 17 rfl rfl)
theorem dX1_digest_44 : decode cX1_digest 44 = .ok (.getfield 47, 3) := dk_180 0 47 (dk_at dksX1_digest_1 20 rfl rfl)
theorem dX1_digest_47 : decode cX1_digest 47 = .ok (.invokeinterface 51 1, 5) := by decide +kernel
theorem dX1_digest_52 : decode cX1_digest 52 = .ok (.if_icmp .ge 18, 3) := dk_162 0 18 (dk_at dksX1_digest_2 5 rfl rfl)
theorem dX1_digest_55 : decode cX1_digest 55 = .ok (.aload_n 0, 1) := dk_42 (dk_at dksX1_digest_2 8 rfl rfl)
theorem dX1_digest_56 : decode cX1_digest 56 = .ok (.lload_n 3, 1) := dk_33 (dk_at dksX1_digest_2 9 rfl rfl)
theorem dX1_digest_57 : decode cX1_digest 57 = .ok (.iload 5, 2) := dk_21 5 (dk_at dksX1_digest_2 10 rfl rfl)
theorem dX1_digest_59 : decode cX1_digest 59 = .ok (.aload_n 1, 1) := dk_43 (dk_at dksX1_digest_2 12 rfl rfl)
theorem dX1_digest_60 : decode cX1_digest 60 = .ok (.invokevirtual 339, 3) := dk_182 1 83 (dk_at dksX1_digest_2 13 rfl rfl)
theorem dX1_digest_63 : decode cX1_digest 63 = .ok (.lstore_n 3, 1) := dk_66 (dk_at dksX1_digest_2 16 rfl rfl)
theorem dX1_digest_64 : decode cX1_digest 64 = .ok (.iinc 5 1, 3) := dk_132 5 1 (dk_at dksX1_digest_2 17 rfl rfl)
theorem dX1_digest_67 : decode cX1_digest 67 = .ok (.goto (-29), 3) := dk_167 255 227 (dk_at dksX1_digest_2 20 rfl rfl)
theorem dX1_digest_70 : decode cX1_digest 70 = .ok (.aload_n 0, 1) := dk_42 (dk_at dksX1_digest_2 23 rfl rfl)
theorem dX1_digest_71 : decode cX1_digest 71 = .ok (.lload_n 3, 1) := dk_33 (dk_at dksX1_digest_3 0 rfl rfl)
theorem dX1_digest_72 : decode cX1_digest 72 = .ok (.aload_n 1, 1) := dk_43 (dk_at dksX1_digest_3 1 rfl rfl)
theorem dX1_digest_73 : decode cX1_digest 73 = .ok (.invokevirtual 343, 3) := dk_182 1 87 (dk_at dksX1_digest_3 2 rfl rfl)
theorem dX1_digest_76 : decode cX1_digest 76 = .ok (.lstore_n 3, 1) := dk_66 (dk_at dksX1_digest_3 5 rfl rfl)
theorem dX1_digest_77 : decode cX1_digest 77 = .ok (.ldc2_w 323, 3) := dk_20 1 67 (dk_at dksX1_digest_3 6 rfl rfl)
theorem dX1_digest_80 : decode cX1_digest 80 = .ok (.ldc2_w 323, 3) := dk_20 1 67 (dk_at dksX1_digest_3 9 rfl rfl)
theorem dX1_digest_83 : decode cX1_digest 83 = .ok (.ldc2_w 323, 3) := dk_20 1 67 (dk_at dksX1_digest_3 12 rfl rfl)
theorem dX1_digest_86 : decode cX1_digest 86 = .ok (.lload_n 3, 1) := dk_33 (dk_at dksX1_digest_3 15 rfl rfl)
theorem dX1_digest_87 : decode cX1_digest 87 = .ok (.lmul, 1) := dk_105 (dk_at dksX1_digest_3 16 rfl rfl)
theorem dX1_digest_88 : decode cX1_digest 88 = .ok (.aload_n 0, 1) := dk_42 (dk_at dksX1_digest_3 17 rfl rfl)
theorem dX1_digest_89 : decode cX1_digest 89 = .ok (.invokevirtual 347, 3) := dk_182 1 91 (dk_at dksX1_digest_3 18 rfl rfl)
theorem dX1_digest_92 : decode cX1_digest 92 = .ok (.i2l, 1) := dk_133 (dk_at dksX1_digest_3 21 rfl rfl)
theorem dX1_digest_93 : decode cX1_digest 93 = .ok (.ladd, 1) := dk_97 (dk_at dksX1_digest_3 22 rfl rfl)
theorem dX1_digest_94 : decode cX1_digest 94 = .ok (.lmul, 1) := dk_105 (dk_at dksX1_digest_3 23 rfl rfl)
theorem dX1_digest_95 : decode cX1_digest 95 = .ok (.aload_n 0, 1) := dk_42 (dk_at dksX1_digest_4 0 rfl rfl)
theorem dX1_digest_96 : decode cX1_digest 96 = .ok (.invokevirtual 348, 3) := dk_182 1 92 (dk_at dksX1_digest_4 1 rfl rfl)
theorem dX1_digest_99 : decode cX1_digest 99 = .ok (.i2l, 1) := dk_133 (dk_at dksX1_digest_4 4 rfl rfl)
theorem dX1_digest_100 : decode cX1_digest 100 = .ok (.ladd, 1) := dk_97 (dk_at dksX1_digest_4 5 rfl rfl)
theorem dX1_digest_101 : decode cX1_digest 101 = .ok (.lmul, 1) := dk_105 (dk_at dksX1_digest_4 6 rfl rfl)
theorem dX1_digest_102 : decode cX1_digest 102 = .ok (.aload_n 0, 1) := dk_42 (dk_at dksX1_digest_4 7 rfl rfl)
theorem dX1_digest_103 : decode cX1_digest 103 = .ok (.invokevirtual 349, 3) := dk_182 1 93 (dk_at dksX1_digest_4 8 rfl rfl)
theorem dX1_digest_106 : decode cX1_digest 106 = .ok (.i2l, 1) := dk_133 (dk_at dksX1_digest_4 11 rfl rfl)
theorem dX1_digest_107 : decode cX1_digest 107 = .ok (.ladd, 1) := dk_97 (dk_at dksX1_digest_4 12 rfl rfl)
theorem dX1_digest_108 : decode cX1_digest 108 = .ok (.lstore_n 3, 1) := dk_66 (dk_at dksX1_digest_4 13 rfl rfl)
theorem dX1_digest_109 : decode cX1_digest 109 = .ok (.iconst 0, 1) := dk_3 (dk_at dksX1_digest_4 14 rfl rfl)
theorem dX1_digest_110 : decode cX1_digest 110 = .ok (.istore 5, 2) := dk_54 5 (dk_at dksX1_digest_4 15 rfl rfl)
theorem dX1_digest_112 : decode cX1_digest 112 = .ok (.iload 5, 2) := dk_21 5 (dk_at dksX1_digest_4 17 rfl rfl)
theorem dX1_digest_114 : decode cX1_digest 114 = .ok (.aload_n 0, 1) := dk_42 (dk_at dksX1_digest_4 19 rfl rfl)
theorem dX1_digest_115 : decode cX1_digest 115 = .ok (.getfield 26, 3) := dk_180 0 26 (dk_at dksX1_digest_4 20 rfl rfl)
theorem dX1_digest_118 : decode cX1_digest 118 = .ok (.getfield 126, 3) := dk_180 0 126 (dk_at dksX1_digest_5 0 rfl rfl)
theorem dX1_digest_121 : decode cX1_digest 121 = .ok (.invokeinterface 51 1, 5) := by decide +kernel
theorem dX1_digest_126 : decode cX1_digest 126 = .ok (.if_icmp .ge 61, 3) := dk_162 0 61 (dk_at dksX1_digest_5 8 rfl rfl)
theorem dX1_digest_129 : decode cX1_digest 129 = .ok (.ldc2_w 323, 3) := dk_20 1 67 (dk_at dksX1_digest_5 11 rfl rfl)
theorem dX1_digest_132 : decode cX1_digest 132 = .ok (.ldc2_w 323, 3) := dk_20 1 67 (dk_at dksX1_digest_5 14 rfl rfl)
theorem dX1_digest_135 : decode cX1_digest 135 = .ok (.lload_n 3, 1) := dk_33 (dk_at dksX1_digest_5 17 rfl rfl)
theorem dX1_digest_136 : decode cX1_digest 136 = .ok (.lmul, 1) := dk_105 (dk_at dksX1_digest_5 18 rfl rfl)
theorem dX1_digest_137 : decode cX1_digest 137 = .ok (.aload_n 0, 1) := dk_42 (dk_at dksX1_digest_5 19 rfl rfl)
theorem dX1_digest_138 : decode cX1_digest 138 = .ok (.iload 5, 2) := dk_21 5 (dk_at dksX1_digest_5 20 rfl rfl)
theorem dX1_digest_140 : decode cX1_digest 140 = .ok (.invokevirtual 352, 3) := dk_182 1 96 (dk_at dksX1_digest_6 0 rfl rfl)
theorem dX1_digest_143 : decode cX1_digest 143 = .ok (.i2l, 1) := dk_133 (dk_at dksX1_digest_6 3 rfl rfl)
theorem dX1_digest_144 : decode cX1_digest 144 = .ok (.ladd, 1) := dk_97 (dk_at dksX1_digest_6 4 rfl rfl)
theorem dX1_digest_145 : decode cX1_digest 145 = .ok (.lmul, 1) := dk_105 (dk_at dksX1_digest_6 5 rfl rfl)
theorem dX1_digest_146 : decode cX1_digest 146 = .ok (.aload_n 0, 1) := dk_42 (dk_at dksX1_digest_6 6 rfl rfl)
theorem dX1_digest_147 : decode cX1_digest 147 = .ok (.iload 5, 2) := dk_21 5 (dk_at dksX1_digest_6 7 rfl rfl)
theorem dX1_digest_149 : decode cX1_digest 149 = .ok (.invokevirtual 355, 3) := dk_182 1 99 (dk_at dksX1_digest_6 9 rfl rfl)
theorem dX1_digest_152 : decode cX1_digest 152 = .ok (.i2l, 1) := dk_133 (dk_at dksX1_digest_6 12 rfl rfl)
theorem dX1_digest_153 : decode cX1_digest 153 = .ok (.ladd, 1) := dk_97 (dk_at dksX1_digest_6 13 rfl rfl)
theorem dX1_digest_154 : decode cX1_digest 154 = .ok (.lstore_n 3, 1) := dk_66 (dk_at dksX1_digest_6 14 rfl rfl)
theorem dX1_digest_155 : decode cX1_digest 155 = .ok (.ldc2_w 323, 3) := dk_20 1 67 (dk_at dksX1_digest_6 15 rfl rfl)
theorem dX1_digest_158 : decode cX1_digest 158 = .ok (.ldc2_w 323, 3) := dk_20 1 67 (dk_at dksX1_digest_6 18 rfl rfl)
theorem dX1_digest_161 : decode cX1_digest 161 = .ok (.lload_n 3, 1) := dk_33 (dk_at dksX1_digest_6 21 rfl rfl)
theorem dX1_digest_162 : decode cX1_digest 162 = .ok (.lmul, 1) := dk_105 (dk_at dksX1_digest_6 22 rfl rfl)
theorem dX1_digest_163 : decode cX1_digest 163 = .ok (.aload_n 0, 1) := dk_42 (dk_at dksX1_digest_6 23 rfl rfl)
theorem dX1_digest_164 : decode cX1_digest 164 = .ok (.iload 5, 2) := dk_21 5 (dk_at dksX1_digest_7 0 rfl rfl)
theorem dX1_digest_166 : decode cX1_digest 166 = .ok (.invokevirtual 358, 3) := dk_182 1 102 (dk_at dksX1_digest_7 2 rfl rfl)
theorem dX1_digest_169 : decode cX1_digest 169 = .ok (.i2l, 1) := dk_133 (dk_at dksX1_digest_7 5 rfl rfl)
theorem dX1_digest_170 : decode cX1_digest 170 = .ok (.ladd, 1) := dk_97 (dk_at dksX1_digest_7 6 rfl rfl)
theorem dX1_digest_171 : decode cX1_digest 171 = .ok (.lmul, 1) := dk_105 (dk_at dksX1_digest_7 7 rfl rfl)
theorem dX1_digest_172 : decode cX1_digest 172 = .ok (.aload_n 0, 1) := dk_42 (dk_at dksX1_digest_7 8 rfl rfl)
theorem dX1_digest_173 : decode cX1_digest 173 = .ok (.iload 5, 2) := dk_21 5 (dk_at dksX1_digest_7 9 rfl rfl)
theorem dX1_digest_175 : decode cX1_digest 175 = .ok (.invokevirtual 361, 3) := dk_182 1 105 (dk_at dksX1_digest_7 11 rfl rfl)
theorem dX1_digest_178 : decode cX1_digest 178 = .ok (.i2l, 1) := dk_133 (dk_at dksX1_digest_7 14 rfl rfl)
theorem dX1_digest_179 : decode cX1_digest 179 = .ok (.ladd, 1) := dk_97 (dk_at dksX1_digest_7 15 rfl rfl)
theorem dX1_digest_180 : decode cX1_digest 180 = .ok (.lstore_n 3, 1) := dk_66 (dk_at dksX1_digest_7 16 rfl rfl)
theorem dX1_digest_181 : decode cX1_digest 181 = .ok (.iinc 5 1, 3) := dk_132 5 1 (dk_at dksX1_digest_7 17 rfl rfl)
theorem dX1_digest_184 : decode cX1_digest 184 = .ok (.goto (-72), 3) := dk_167 255 184 (dk_at dksX1_digest_7 20 rfl rfl)
theorem dX1_digest_187 : decode cX1_digest 187 = .ok (.ldc2_w 323, 3) := dk_20 1 67 (dk_at dksX1_digest_8 0 rfl rfl)
theorem dX1_digest_190 : decode cX1_digest 190 = .ok (.ldc2_w 323, 3) := dk_20 1 67 (dk_at dksX1_digest_8 3 rfl rfl)
theorem dX1_digest_193 : decode cX1_digest 193 = .ok (.ldc2_w 323, 3) := dk_20 1 67 (dk_at dksX1_digest_8 6 rfl rfl)
theorem dX1_digest_196 : decode cX1_digest 196 = .ok (.lload_n 3, 1) := dk_33 (dk_at dksX1_digest_8 9 rfl rfl)
theorem dX1_digest_197 : decode cX1_digest 197 = .ok (.lmul, 1) := dk_105 (dk_at dksX1_digest_8 10 rfl rfl)
theorem dX1_digest_198 : decode cX1_digest 198 = .ok (.aload_n 0, 1) := dk_42 (dk_at dksX1_digest_8 11 rfl rfl)
theorem dX1_digest_199 : decode cX1_digest 199 = .ok (.getfield 26, 3) := dk_180 0 26 (dk_at dksX1_digest_8 12 rfl rfl)
theorem dX1_digest_202 : decode cX1_digest 202 = .ok (.getfield 300, 3) := dk_180 1 44 (dk_at dksX1_digest_8 15 rfl rfl)
theorem dX1_digest_205 : decode cX1_digest 205 = .ok (.i2l, 1) := dk_133 (dk_at dksX1_digest_8 18 rfl rfl)
theorem dX1_digest_206 : decode cX1_digest 206 = .ok (.ladd, 1) := dk_97 (dk_at dksX1_digest_8 19 rfl rfl)
theorem dX1_digest_207 : decode cX1_digest 207 = .ok (.lmul, 1) := dk_105 (dk_at dksX1_digest_8 20 rfl rfl)
theorem dX1_digest_208 : decode cX1_digest 208 = .ok (.aload_n 0, 1) := dk_42 (dk_at dksX1_digest_8 21 rfl rfl)
theorem dX1_digest_209 : decode cX1_digest 209 = .ok (.invokevirtual 364, 3) := dk_182 1 108 (dk_at dksX1_digest_9 0 rfl rfl)
theorem dX1_digest_212 : decode cX1_digest 212 = .ok (.i2l, 1) := dk_133 (dk_at dksX1_digest_9 3 rfl rfl)
theorem dX1_digest_213 : decode cX1_digest 213 = .ok (.ladd, 1) := dk_97 (dk_at dksX1_digest_9 4 rfl rfl)
theorem dX1_digest_214 : decode cX1_digest 214 = .ok (.lmul, 1) := dk_105 (dk_at dksX1_digest_9 5 rfl rfl)
theorem dX1_digest_215 : decode cX1_digest 215 = .ok (.aload_n 0, 1) := dk_42 (dk_at dksX1_digest_9 6 rfl rfl)
theorem dX1_digest_216 : decode cX1_digest 216 = .ok (.getfield 26, 3) := dk_180 0 26 (dk_at dksX1_digest_9 7 rfl rfl)
theorem dX1_digest_219 : decode cX1_digest 219 = .ok (.getfield 306, 3) := dk_180 1 50 (dk_at dksX1_digest_9 10 rfl rfl)
theorem dX1_digest_222 : decode cX1_digest 222 = .ok (.i2l, 1) := dk_133 (dk_at dksX1_digest_9 13 rfl rfl)
theorem dX1_digest_223 : decode cX1_digest 223 = .ok (.ladd, 1) := dk_97 (dk_at dksX1_digest_9 14 rfl rfl)
theorem dX1_digest_224 : decode cX1_digest 224 = .ok (.lstore_n 3, 1) := dk_66 (dk_at dksX1_digest_9 15 rfl rfl)
theorem dX1_digest_225 : decode cX1_digest 225 = .ok (.ldc2_w 323, 3) := dk_20 1 67 (dk_at dksX1_digest_9 16 rfl rfl)
theorem dX1_digest_228 : decode cX1_digest 228 = .ok (.ldc2_w 323, 3) := dk_20 1 67 (dk_at dksX1_digest_9 19 rfl rfl)
theorem dX1_digest_231 : decode cX1_digest 231 = .ok (.ldc2_w 323, 3) := dk_20 1 67 (dk_at dksX1_digest_10 0 rfl rfl)
theorem dX1_digest_234 : decode cX1_digest 234 = .ok (.lload_n 3, 1) := dk_33 (dk_at dksX1_digest_10 3 rfl rfl)
theorem dX1_digest_235 : decode cX1_digest 235 = .ok (.lmul, 1) := dk_105 (dk_at dksX1_digest_10 4 rfl rfl)
theorem dX1_digest_236 : decode cX1_digest 236 = .ok (.iload_n 2, 1) := dk_28 (dk_at dksX1_digest_10 5 rfl rfl)
theorem dX1_digest_237 : decode cX1_digest 237 = .ok (.i2l, 1) := dk_133 (dk_at dksX1_digest_10 6 rfl rfl)
theorem dX1_digest_238 : decode cX1_digest 238 = .ok (.ladd, 1) := dk_97 (dk_at dksX1_digest_10 7 rfl rfl)
theorem dX1_digest_239 : decode cX1_digest 239 = .ok (.lmul, 1) := dk_105 (dk_at dksX1_digest_10 8 rfl rfl)
theorem dX1_digest_240 : decode cX1_digest 240 = .ok (.aload_n 0, 1) := dk_42 (dk_at dksX1_digest_10 9 rfl rfl)
theorem dX1_digest_241 : decode cX1_digest 241 = .ok (.getfield 26, 3) := dk_180 0 26 (dk_at dksX1_digest_10 10 rfl rfl)
theorem dX1_digest_244 : decode cX1_digest 244 = .ok (.iconst 0, 1) := dk_3 (dk_at dksX1_digest_10 13 rfl rfl)
theorem dX1_digest_245 : decode cX1_digest 245 = .ok (.bipush 14, 2) := dk_16 14 (dk_at dksX1_digest_10 14 rfl rfl)
theorem dX1_digest_247 : decode cX1_digest 247 = .ok (.invokevirtual 316, 3) := dk_182 1 60 (dk_at dksX1_digest_10 16 rfl rfl)
theorem dX1_digest_250 : decode cX1_digest 250 = .ok (.i2l, 1) := dk_133 (dk_at dksX1_digest_10 19 rfl rfl)
theorem dX1_digest_251 : decode cX1_digest 251 = .ok (.ladd, 1) := dk_97 (dk_at dksX1_digest_10 20 rfl rfl)
theorem dX1_digest_252 : decode cX1_digest 252 = .ok (.lmul, 1) := dk_105 (dk_at dksX1_digest_10 21 rfl rfl)
theorem dX1_digest_253 : decode cX1_digest 253 = .ok (.aload_n 0, 1) := dk_42 (dk_at dksX1_digest_10 22 rfl rfl)
theorem dX1_digest_254 : decode cX1_digest 254 = .ok (.getfield 19, 3) := dk_180 0 19 (dk_at dksX1_digest_11 0 rfl rfl)
theorem dX1_digest_257 : decode cX1_digest 257 = .ok (.invokevirtual 75, 3) := dk_182 0 75 (dk_at dksX1_digest_11 3 rfl rfl)
theorem dX1_digest_260 : decode cX1_digest 260 = .ok (.i2l, 1) := dk_133 (dk_at dksX1_digest_11 6 rfl rfl)
theorem dX1_digest_261 : decode cX1_digest 261 = .ok (.ladd, 1) := dk_97 (dk_at dksX1_digest_11 7 rfl rfl)
theorem dX1_digest_262 : decode cX1_digest 262 = .ok (.lstore_n 3, 1) := dk_66 (dk_at dksX1_digest_11 8 rfl rfl)
theorem dX1_digest_263 : decode cX1_digest 263 = .ok (.ldc2_w 323, 3) := dk_20 1 67 (dk_at dksX1_digest_11 9 rfl rfl)
theorem dX1_digest_266 : decode cX1_digest 266 = .ok (.ldc2_w 323, 3) := dk_20 1 67 (dk_at dksX1_digest_11 12 rfl rfl)
theorem dX1_digest_269 : decode cX1_digest 269 = .ok (.lload_n 3, 1) := dk_33 (dk_at dksX1_digest_11 15 rfl rfl)
theorem dX1_digest_270 : decode cX1_digest 270 = .ok (.lmul, 1) := dk_105 (dk_at dksX1_digest_11 16 rfl rfl)
theorem dX1_digest_271 : decode cX1_digest 271 = .ok (.aload_n 0, 1) := dk_42 (dk_at dksX1_digest_11 17 rfl rfl)
theorem dX1_digest_272 : decode cX1_digest 272 = .ok (.invokevirtual 367, 3) := dk_182 1 111 (dk_at dksX1_digest_11 18 rfl rfl)
theorem dX1_digest_275 : decode cX1_digest 275 = .ok (.invokestatic 371, 3) := dk_184 1 115 (dk_at dksX1_digest_11 21 rfl rfl)
theorem dX1_digest_278 : decode cX1_digest 278 = .ok (.ladd, 1) := dk_97 (dk_at dksX1_digest_12 0 rfl rfl)
theorem dX1_digest_279 : decode cX1_digest 279 = .ok (.lmul, 1) := dk_105 (dk_at dksX1_digest_12 1 rfl rfl)
theorem dX1_digest_280 : decode cX1_digest 280 = .ok (.aload_n 0, 1) := dk_42 (dk_at dksX1_digest_12 2 rfl rfl)
theorem dX1_digest_281 : decode cX1_digest 281 = .ok (.invokevirtual 377, 3) := dk_182 1 121 (dk_at dksX1_digest_12 3 rfl rfl)
theorem dX1_digest_284 : decode cX1_digest 284 = .ok (.invokestatic 381, 3) := dk_184 1 125 (dk_at dksX1_digest_12 6 rfl rfl)
theorem dX1_digest_287 : decode cX1_digest 287 = .ok (.i2l, 1) := dk_133 (dk_at dksX1_digest_12 9 rfl rfl)
theorem dX1_digest_288 : decode cX1_digest 288 = .ok (.ladd, 1) := dk_97 (dk_at dksX1_digest_12 10 rfl rfl)
theorem dX1_digest_289 : decode cX1_digest 289 = .ok (.lstore_n 3, 1) := dk_66 (dk_at dksX1_digest_12 11 rfl rfl)
theorem dX1_digest_290 : decode cX1_digest 290 = .ok (.ldc2_w 323, 3) := dk_20 1 67 (dk_at dksX1_digest_12 12 rfl rfl)
theorem dX1_digest_293 : decode cX1_digest 293 = .ok (.ldc2_w 323, 3) := dk_20 1 67 (dk_at dksX1_digest_12 15 rfl rfl)
theorem dX1_digest_296 : decode cX1_digest 296 = .ok (.lload_n 3, 1) := dk_33 (dk_at dksX1_digest_12 18 rfl rfl)
theorem dX1_digest_297 : decode cX1_digest 297 = .ok (.lmul, 1) := dk_105 (dk_at dksX1_digest_12 19 rfl rfl)
theorem dX1_digest_298 : decode cX1_digest 298 = .ok (.aload_n 0, 1) := dk_42 (dk_at dksX1_digest_12 20 rfl rfl)
theorem dX1_digest_299 : decode cX1_digest 299 = .ok (.getfield 209, 3) := dk_180 0 209 (dk_at dksX1_digest_12 21 rfl rfl)
theorem dX1_digest_302 : decode cX1_digest 302 = .ok (.ifnonnull 7, 3) := dk_199 0 7 (dk_at dksX1_digest_13 0 rfl rfl)
theorem dX1_digest_305 : decode cX1_digest 305 = .ok (.iconst 0, 1) := dk_3 (dk_at dksX1_digest_13 3 rfl rfl)
theorem dX1_digest_306 : decode cX1_digest 306 = .ok (.goto 4, 3) := dk_167 0 4 (dk_at dksX1_digest_13 4 rfl rfl)
theorem dX1_digest_309 : decode cX1_digest 309 = .ok (.iconst 1, 1) := dk_4 (dk_at dksX1_digest_13 7 rfl rfl)
theorem dX1_digest_310 : decode cX1_digest 310 = .ok (.i2l, 1) := dk_133 (dk_at dksX1_digest_13 8 rfl rfl)
theorem dX1_digest_311 : decode cX1_digest 311 = .ok (.ladd, 1) := dk_97 (dk_at dksX1_digest_13 9 rfl rfl)
theorem dX1_digest_312 : decode cX1_digest 312 = .ok (.lmul, 1) := dk_105 (dk_at dksX1_digest_13 10 rfl rfl)
theorem dX1_digest_313 : decode cX1_digest 313 = .ok (.aload_n 0, 1) := dk_42 (dk_at dksX1_digest_13 11 rfl rfl)
theorem dX1_digest_314 : decode cX1_digest 314 = .ok (.getfield 12, 3) := dk_180 0 12 (dk_at dksX1_digest_13 12 rfl rfl)
theorem dX1_digest_317 : decode cX1_digest 317 = .ok (.invokevirtual 150, 3) := dk_182 0 150 (dk_at dksX1_digest_13 15 rfl rfl)
theorem dX1_digest_320 : decode cX1_digest 320 = .ok (.i2l, 1) := dk_133 (dk_at dksX1_digest_13 18 rfl rfl)
theorem dX1_digest_321 : decode cX1_digest 321 = .ok (.ladd, 1) := dk_97 (dk_at dksX1_digest_13 19 rfl rfl)
theorem dX1_digest_322 : decode cX1_digest 322 = .ok (.lstore_n 3, 1) := dk_66 (dk_at dksX1_digest_13 20 rfl rfl)
theorem dX1_digest_323 : decode cX1_digest 323 = .ok (.iconst 0, 1) := dk_3 (dk_at dksX1_digest_13 21 rfl rfl)
theorem dX1_digest_324 : decode cX1_digest 324 = .ok (.istore 5, 2) := dk_54 5 (dk_at dksX1_digest_13 22 rfl rfl)
theorem dX1_digest_326 : decode cX1_digest 326 = .ok (.iload 5, 2) := dk_21 5 (dk_at dksX1_digest_14 0 rfl rfl)
theorem dX1_digest_328 : decode cX1_digest 328 = .ok (.aload_n 0, 1) := dk_42 (dk_at dksX1_digest_14 2 rfl rfl)
theorem dX1_digest_329 : decode cX1_digest 329 = .ok (.getfield 12, 3) := dk_180 0 12 (dk_at dksX1_digest_14 3 rfl rfl)
theorem dX1_digest_332 : decode cX1_digest 332 = .ok (.invokevirtual 150, 3) := dk_182 0 150 (dk_at dksX1_digest_14 6 rfl rfl)
theorem dX1_digest_335 : decode cX1_digest 335 = .ok (.if_icmp .ge 26, 3) := dk_162 0 26 (dk_at dksX1_digest_14 9 rfl rfl)
theorem dX1_digest_338 : decode cX1_digest 338 = .ok (.ldc2_w 323, 3) := dk_20 1 67 (dk_at dksX1_digest_14 12 rfl rfl)
theorem dX1_digest_341 : decode cX1_digest 341 = .ok (.lload_n 3, 1) := dk_33 (dk_at dksX1_digest_14 15 rfl rfl)
theorem dX1_digest_342 : decode cX1_digest 342 = .ok (.lmul, 1) := dk_105 (dk_at dksX1_digest_14 16 rfl rfl)
theorem dX1_digest_343 : decode cX1_digest 343 = .ok (.aload_n 0, 1) := dk_42 (dk_at dksX1_digest_14 17 rfl rfl)
theorem dX1_digest_344 : decode cX1_digest 344 = .ok (.getfield 12, 3) := dk_180 0 12 (dk_at dksX1_digest_14 18 rfl rfl)
theorem dX1_digest_347 : decode cX1_digest 347 = .ok (.iload 5, 2) := dk_21 5 (dk_at dksX1_digest_14 21 rfl rfl)
theorem dX1_digest_349 : decode cX1_digest 349 = .ok (.invokevirtual 387, 3) := dk_182 1 131 (dk_at dksX1_digest_15 0 rfl rfl)
theorem dX1_digest_352 : decode cX1_digest 352 = .ok (.i2l, 1) := dk_133 (dk_at dksX1_digest_15 3 rfl rfl)
theorem dX1_digest_353 : decode cX1_digest 353 = .ok (.ladd, 1) := dk_97 (dk_at dksX1_digest_15 4 rfl rfl)
theorem dX1_digest_354 : decode cX1_digest 354 = .ok (.lstore_n 3, 1) := dk_66 (dk_at dksX1_digest_15 5 rfl rfl)
theorem dX1_digest_355 : decode cX1_digest 355 = .ok (.iinc 5 1, 3) := dk_132 5 1 (dk_at dksX1_digest_15 6 rfl rfl)
theorem dX1_digest_358 : decode cX1_digest 358 = .ok (.goto (-32), 3) := dk_167 255 224 (dk_at dksX1_digest_15 9 rfl rfl)
theorem dX1_digest_361 : decode cX1_digest 361 = .ok (.lload_n 3, 1) := dk_33 (dk_at dksX1_digest_15 12 rfl rfl)
theorem dX1_digest_362 : decode cX1_digest 362 = .ok (.lreturn, 1) := dk_173 (dk_at dksX1_digest_15 13 rfl rfl)
abbrev cX1_hashOfTransfer : ByteArray := prog_1_method_63_code
def yX1_hashOfTransfer : MethodName := ⟨RX1, "hashOfTransfer", "(JILVoteLogs$Town;)J"⟩
def dkwX1_hashOfTransfer_8 : List UInt8 := [42, 180, 0, 26, 21, 7, 29, 182, 0, 236, 133, 97, 55, 5, 132, 7, 1, 167, 255, 180, 22, 5, 173]
abbrev dktX1_hashOfTransfer_8 : List UInt8 := dkwX1_hashOfTransfer_8 ++ []
def dkwX1_hashOfTransfer_7 : List UInt8 := [55, 5, 20, 1, 67, 20, 1, 67, 22, 5, 105, 42, 180, 0, 26, 21, 7, 29, 182, 0, 234, 133, 97, 105]
abbrev dktX1_hashOfTransfer_7 : List UInt8 := dkwX1_hashOfTransfer_7 ++ dktX1_hashOfTransfer_8
def dkwX1_hashOfTransfer_6 : List UInt8 := [105, 42, 180, 0, 26, 180, 0, 47, 29, 185, 0, 61, 2, 0, 192, 0, 65, 21, 7, 182, 0, 224, 133, 97]
abbrev dktX1_hashOfTransfer_6 : List UInt8 := dkwX1_hashOfTransfer_6 ++ dktX1_hashOfTransfer_7
def dkwX1_hashOfTransfer_5 : List UInt8 := [25, 4, 29, 182, 0, 242, 133, 97, 55, 5, 3, 54, 7, 21, 7, 7, 162, 0, 76, 20, 1, 67, 22, 5]
abbrev dktX1_hashOfTransfer_5 : List UInt8 := dkwX1_hashOfTransfer_5 ++ dktX1_hashOfTransfer_6
def dkwX1_hashOfTransfer_4 : List UInt8 := [42, 180, 0, 26, 180, 0, 251, 29, 46, 133, 97, 105, 42, 180, 0, 26, 180, 0, 254, 29, 46, 133, 97, 105]
abbrev dktX1_hashOfTransfer_4 : List UInt8 := dkwX1_hashOfTransfer_4 ++ dktX1_hashOfTransfer_5
def dkwX1_hashOfTransfer_3 : List UInt8 := [153, 0, 7, 4, 167, 0, 4, 3, 133, 97, 55, 5, 20, 1, 67, 20, 1, 67, 20, 1, 67, 22, 5, 105]
abbrev dktX1_hashOfTransfer_3 : List UInt8 := dkwX1_hashOfTransfer_3 ++ dktX1_hashOfTransfer_4
def dkwX1_hashOfTransfer_2 : List UInt8 := [22, 5, 105, 42, 180, 0, 26, 29, 182, 0, 245, 133, 97, 105, 42, 180, 0, 26, 29, 182, 0, 248]
abbrev dktX1_hashOfTransfer_2 : List UInt8 := dkwX1_hashOfTransfer_2 ++ dktX1_hashOfTransfer_3
def dkwX1_hashOfTransfer_1 : List UInt8 := [182, 0, 221, 133, 97, 105, 42, 180, 0, 26, 29, 182, 0, 242, 133, 97, 55, 5, 20, 1, 67, 20, 1, 67]
abbrev dktX1_hashOfTransfer_1 : List UInt8 := dkwX1_hashOfTransfer_1 ++ dktX1_hashOfTransfer_2
def dkwX1_hashOfTransfer_0 : List UInt8 := [20, 1, 67, 20, 1, 67, 31, 105, 42, 180, 0, 26, 180, 0, 47, 29, 185, 0, 61, 2, 0, 192, 0, 65]
abbrev dktX1_hashOfTransfer_0 : List UInt8 := dkwX1_hashOfTransfer_0 ++ dktX1_hashOfTransfer_1
theorem dksX1_hashOfTransfer_0 : cX1_hashOfTransfer.data.toList.drop 0 = dktX1_hashOfTransfer_0 := by decide +kernel
theorem dksX1_hashOfTransfer_1 : cX1_hashOfTransfer.data.toList.drop 24 = dktX1_hashOfTransfer_1 := dk_seg dksX1_hashOfTransfer_0 24 rfl rfl
theorem dksX1_hashOfTransfer_2 : cX1_hashOfTransfer.data.toList.drop 48 = dktX1_hashOfTransfer_2 := dk_seg dksX1_hashOfTransfer_1 24 rfl rfl
theorem dksX1_hashOfTransfer_3 : cX1_hashOfTransfer.data.toList.drop 70 = dktX1_hashOfTransfer_3 := dk_seg dksX1_hashOfTransfer_2 22 rfl rfl
theorem dksX1_hashOfTransfer_4 : cX1_hashOfTransfer.data.toList.drop 94 = dktX1_hashOfTransfer_4 := dk_seg dksX1_hashOfTransfer_3 24 rfl rfl
theorem dksX1_hashOfTransfer_5 : cX1_hashOfTransfer.data.toList.drop 118 = dktX1_hashOfTransfer_5 := dk_seg dksX1_hashOfTransfer_4 24 rfl rfl
theorem dksX1_hashOfTransfer_6 : cX1_hashOfTransfer.data.toList.drop 142 = dktX1_hashOfTransfer_6 := dk_seg dksX1_hashOfTransfer_5 24 rfl rfl
theorem dksX1_hashOfTransfer_7 : cX1_hashOfTransfer.data.toList.drop 166 = dktX1_hashOfTransfer_7 := dk_seg dksX1_hashOfTransfer_6 24 rfl rfl
theorem dksX1_hashOfTransfer_8 : cX1_hashOfTransfer.data.toList.drop 190 = dktX1_hashOfTransfer_8 := dk_seg dksX1_hashOfTransfer_7 24 rfl rfl
theorem dX1_hashOfTransfer_0 : decode cX1_hashOfTransfer 0 = .ok (.ldc2_w 323, 3) := dk_20 1 67 (dk_at dksX1_hashOfTransfer_0 0 rfl rfl)
theorem dX1_hashOfTransfer_3 : decode cX1_hashOfTransfer 3 = .ok (.ldc2_w 323, 3) := dk_20 1 67 (dk_at dksX1_hashOfTransfer_0 3 rfl rfl)
theorem dX1_hashOfTransfer_6 : decode cX1_hashOfTransfer 6 = .ok (.lload_n 1, 1) := dk_31 (dk_at dksX1_hashOfTransfer_0 6 rfl rfl)
theorem dX1_hashOfTransfer_7 : decode cX1_hashOfTransfer 7 = .ok (.lmul, 1) := dk_105 (dk_at dksX1_hashOfTransfer_0 7 rfl rfl)
theorem dX1_hashOfTransfer_8 : decode cX1_hashOfTransfer 8 = .ok (.aload_n 0, 1) := dk_42 (dk_at dksX1_hashOfTransfer_0 8 rfl rfl)
theorem dX1_hashOfTransfer_9 : decode cX1_hashOfTransfer 9 = .ok (.getfield 26, 3) := dk_180 0 26 (dk_at dksX1_hashOfTransfer_0 9 rfl rfl)
theorem dX1_hashOfTransfer_12 : decode cX1_hashOfTransfer 12 = .ok (.getfield 47, 3) := dk_180 0 47 (dk_at dksX1_hashOfTransfer_0 12 rfl rfl)
theorem dX1_hashOfTransfer_15 : decode cX1_hashOfTransfer 15 = .ok (.iload_n 3, 1) := dk_29 (dk_at dksX1_hashOfTransfer_0 15 rfl rfl)
theorem dX1_hashOfTransfer_16 : decode cX1_hashOfTransfer 16 = .ok (.invokeinterface 61 2, 5) := by decide +kernel
theorem dX1_hashOfTransfer_21 : decode cX1_hashOfTransfer 21 = .ok (.checkcast 65, 3) := dk_192 0 65 (dk_at dksX1_hashOfTransfer_0 21 rfl rfl)
theorem dX1_hashOfTransfer_24 : decode cX1_hashOfTransfer 24 = .ok (.invokevirtual 221, 3) := dk_182 0 221 (dk_at dksX1_hashOfTransfer_1 0 rfl rfl)
theorem dX1_hashOfTransfer_27 : decode cX1_hashOfTransfer 27 = .ok (.i2l, 1) := dk_133 (dk_at dksX1_hashOfTransfer_1 3 rfl rfl)
theorem dX1_hashOfTransfer_28 : decode cX1_hashOfTransfer 28 = .ok (.ladd, 1) := dk_97 (dk_at dksX1_hashOfTransfer_1 4 rfl rfl)
theorem dX1_hashOfTransfer_29 : decode cX1_hashOfTransfer 29 = .ok (.lmul, 1) := dk_105 (dk_at dksX1_hashOfTransfer_1 5 rfl rfl)
theorem dX1_hashOfTransfer_30 : decode cX1_hashOfTransfer 30 = .ok (.aload_n 0, 1) := dk_42 (dk_at dksX1_hashOfTransfer_1 6 rfl rfl)
theorem dX1_hashOfTransfer_31 : decode cX1_hashOfTransfer 31 = .ok (.getfield 26, 3) := dk_180 0 26 (dk_at dksX1_hashOfTransfer_1 7 rfl rfl)
theorem dX1_hashOfTransfer_34 : decode cX1_hashOfTransfer 34 = .ok (.iload_n 3, 1) := dk_29 (dk_at dksX1_hashOfTransfer_1 10 rfl rfl)
theorem dX1_hashOfTransfer_35 : decode cX1_hashOfTransfer 35 = .ok (.invokevirtual 242, 3) := dk_182 0 242 (dk_at dksX1_hashOfTransfer_1 11 rfl rfl)
theorem dX1_hashOfTransfer_38 : decode cX1_hashOfTransfer 38 = .ok (.i2l, 1) := dk_133 (dk_at dksX1_hashOfTransfer_1 14 rfl rfl)
theorem dX1_hashOfTransfer_39 : decode cX1_hashOfTransfer 39 = .ok (.ladd, 1) := dk_97 (dk_at dksX1_hashOfTransfer_1 15 rfl rfl)
theorem dX1_hashOfTransfer_40 : decode cX1_hashOfTransfer 40 = .ok (.lstore 5, 2) := dk_55 5 (dk_at dksX1_hashOfTransfer_1 16 rfl rfl)
theorem dX1_hashOfTransfer_42 : decode cX1_hashOfTransfer 42 = .ok (.ldc2_w 323, 3) := dk_20 1 67 (dk_at dksX1_hashOfTransfer_1 18 rfl rfl)
theorem dX1_hashOfTransfer_45 : decode cX1_hashOfTransfer 45 = .ok (.ldc2_w 323, 3) := dk_20 1 67 (dk_at dksX1_hashOfTransfer_1 21 rfl rfl)
theorem dX1_hashOfTransfer_48 : decode cX1_hashOfTransfer 48 = .ok (.lload 5, 2) := dk_22 5 (dk_at dksX1_hashOfTransfer_2 0 rfl rfl)
theorem dX1_hashOfTransfer_50 : decode cX1_hashOfTransfer 50 = .ok (.lmul, 1) := dk_105 (dk_at dksX1_hashOfTransfer_2 2 rfl rfl)
theorem dX1_hashOfTransfer_51 : decode cX1_hashOfTransfer 51 = .ok (.aload_n 0, 1) := dk_42 (dk_at dksX1_hashOfTransfer_2 3 rfl rfl)
theorem dX1_hashOfTransfer_52 : decode cX1_hashOfTransfer 52 = .ok (.getfield 26, 3) := dk_180 0 26 (dk_at dksX1_hashOfTransfer_2 4 rfl rfl)
theorem dX1_hashOfTransfer_55 : decode cX1_hashOfTransfer 55 = .ok (.iload_n 3, 1) := dk_29 (dk_at dksX1_hashOfTransfer_2 7 rfl rfl)
theorem dX1_hashOfTransfer_56 : decode cX1_hashOfTransfer 56 = .ok (.invokevirtual 245, 3) := dk_182 0 245 (dk_at dksX1_hashOfTransfer_2 8 rfl rfl)
theorem dX1_hashOfTransfer_59 : decode cX1_hashOfTransfer 59 = .ok (.i2l, 1) := dk_133 (dk_at dksX1_hashOfTransfer_2 11 rfl rfl)
theorem dX1_hashOfTransfer_60 : decode cX1_hashOfTransfer 60 = .ok (.ladd, 1) := dk_97 (dk_at dksX1_hashOfTransfer_2 12 rfl rfl)
theorem dX1_hashOfTransfer_61 : decode cX1_hashOfTransfer 61 = .ok (.lmul, 1) := dk_105 (dk_at dksX1_hashOfTransfer_2 13 rfl rfl)
theorem dX1_hashOfTransfer_62 : decode cX1_hashOfTransfer 62 = .ok (.aload_n 0, 1) := dk_42 (dk_at dksX1_hashOfTransfer_2 14 rfl rfl)
theorem dX1_hashOfTransfer_63 : decode cX1_hashOfTransfer 63 = .ok (.getfield 26, 3) := dk_180 0 26 (dk_at dksX1_hashOfTransfer_2 15 rfl rfl)
theorem dX1_hashOfTransfer_66 : decode cX1_hashOfTransfer 66 = .ok (.iload_n 3, 1) := dk_29 (dk_at dksX1_hashOfTransfer_2 18 rfl rfl)
theorem dX1_hashOfTransfer_67 : decode cX1_hashOfTransfer 67 = .ok (.invokevirtual 248, 3) := dk_182 0 248 (dk_at dksX1_hashOfTransfer_2 19 rfl rfl)
theorem dX1_hashOfTransfer_70 : decode cX1_hashOfTransfer 70 = .ok (.ifCond .eq 7, 3) := dk_153 0 7 (dk_at dksX1_hashOfTransfer_3 0 rfl rfl)
theorem dX1_hashOfTransfer_73 : decode cX1_hashOfTransfer 73 = .ok (.iconst 1, 1) := dk_4 (dk_at dksX1_hashOfTransfer_3 3 rfl rfl)
theorem dX1_hashOfTransfer_74 : decode cX1_hashOfTransfer 74 = .ok (.goto 4, 3) := dk_167 0 4 (dk_at dksX1_hashOfTransfer_3 4 rfl rfl)
theorem dX1_hashOfTransfer_77 : decode cX1_hashOfTransfer 77 = .ok (.iconst 0, 1) := dk_3 (dk_at dksX1_hashOfTransfer_3 7 rfl rfl)
theorem dX1_hashOfTransfer_78 : decode cX1_hashOfTransfer 78 = .ok (.i2l, 1) := dk_133 (dk_at dksX1_hashOfTransfer_3 8 rfl rfl)
theorem dX1_hashOfTransfer_79 : decode cX1_hashOfTransfer 79 = .ok (.ladd, 1) := dk_97 (dk_at dksX1_hashOfTransfer_3 9 rfl rfl)
theorem dX1_hashOfTransfer_80 : decode cX1_hashOfTransfer 80 = .ok (.lstore 5, 2) := dk_55 5 (dk_at dksX1_hashOfTransfer_3 10 rfl rfl)
theorem dX1_hashOfTransfer_82 : decode cX1_hashOfTransfer 82 = .ok (.ldc2_w 323, 3) := dk_20 1 67 (dk_at dksX1_hashOfTransfer_3 12 rfl rfl)
theorem dX1_hashOfTransfer_85 : decode cX1_hashOfTransfer 85 = .ok (.ldc2_w 323, 3) := dk_20 1 67 (dk_at dksX1_hashOfTransfer_3 15 rfl rfl)
theorem dX1_hashOfTransfer_88 : decode cX1_hashOfTransfer 88 = .ok (.ldc2_w 323, 3) := dk_20 1 67 (dk_at dksX1_hashOfTransfer_3 18 rfl rfl)
theorem dX1_hashOfTransfer_91 : decode cX1_hashOfTransfer 91 = .ok (.lload 5, 2) := dk_22 5 (dk_at dksX1_hashOfTransfer_3 21 rfl rfl)
theorem dX1_hashOfTransfer_93 : decode cX1_hashOfTransfer 93 = .ok (.lmul, 1) := dk_105 (dk_at dksX1_hashOfTransfer_3 23 rfl rfl)
theorem dX1_hashOfTransfer_94 : decode cX1_hashOfTransfer 94 = .ok (.aload_n 0, 1) := dk_42 (dk_at dksX1_hashOfTransfer_4 0 rfl rfl)
theorem dX1_hashOfTransfer_95 : decode cX1_hashOfTransfer 95 = .ok (.getfield 26, 3) := dk_180 0 26 (dk_at dksX1_hashOfTransfer_4 1 rfl rfl)
theorem dX1_hashOfTransfer_98 : decode cX1_hashOfTransfer 98 = .ok (.getfield 251, 3) := dk_180 0 251 (dk_at dksX1_hashOfTransfer_4 4 rfl rfl)
theorem dX1_hashOfTransfer_101 : decode cX1_hashOfTransfer 101 = .ok (.iload_n 3, 1) := dk_29 (dk_at dksX1_hashOfTransfer_4 7 rfl rfl)
theorem dX1_hashOfTransfer_102 : decode cX1_hashOfTransfer 102 = .ok (.iaload, 1) := dk_46 (dk_at dksX1_hashOfTransfer_4 8 rfl rfl)
theorem dX1_hashOfTransfer_103 : decode cX1_hashOfTransfer 103 = .ok (.i2l, 1) := dk_133 (dk_at dksX1_hashOfTransfer_4 9 rfl rfl)
theorem dX1_hashOfTransfer_104 : decode cX1_hashOfTransfer 104 = .ok (.ladd, 1) := dk_97 (dk_at dksX1_hashOfTransfer_4 10 rfl rfl)
theorem dX1_hashOfTransfer_105 : decode cX1_hashOfTransfer 105 = .ok (.lmul, 1) := dk_105 (dk_at dksX1_hashOfTransfer_4 11 rfl rfl)
theorem dX1_hashOfTransfer_106 : decode cX1_hashOfTransfer 106 = .ok (.aload_n 0, 1) := dk_42 (dk_at dksX1_hashOfTransfer_4 12 rfl rfl)
theorem dX1_hashOfTransfer_107 : decode cX1_hashOfTransfer 107 = .ok (.getfield 26, 3) := dk_180 0 26 (dk_at dksX1_hashOfTransfer_4 13 rfl rfl)
theorem dX1_hashOfTransfer_110 : decode cX1_hashOfTransfer 110 = .ok (.getfield 254, 3) := dk_180 0 254 (dk_at dksX1_hashOfTransfer_4 16 rfl rfl)
theorem dX1_hashOfTransfer_113 : decode cX1_hashOfTransfer 113 = .ok (.iload_n 3, 1) := dk_29 (dk_at dksX1_hashOfTransfer_4 19 rfl rfl)
theorem dX1_hashOfTransfer_114 : decode cX1_hashOfTransfer 114 = .ok (.iaload, 1) := dk_46 (dk_at dksX1_hashOfTransfer_4 20 rfl rfl)
theorem dX1_hashOfTransfer_115 : decode cX1_hashOfTransfer 115 = .ok (.i2l, 1) := dk_133 (dk_at dksX1_hashOfTransfer_4 21 rfl rfl)
theorem dX1_hashOfTransfer_116 : decode cX1_hashOfTransfer 116 = .ok (.ladd, 1) := dk_97 (dk_at dksX1_hashOfTransfer_4 22 rfl rfl)
theorem dX1_hashOfTransfer_117 : decode cX1_hashOfTransfer 117 = .ok (.lmul, 1) := dk_105 (dk_at dksX1_hashOfTransfer_4 23 rfl rfl)
theorem dX1_hashOfTransfer_118 : decode cX1_hashOfTransfer 118 = .ok (.aload 4, 2) := dk_25 4 (dk_at dksX1_hashOfTransfer_5 0 rfl rfl)
theorem dX1_hashOfTransfer_120 : decode cX1_hashOfTransfer 120 = .ok (.iload_n 3, 1) := dk_29 (dk_at dksX1_hashOfTransfer_5 2 rfl rfl)
theorem dX1_hashOfTransfer_121 : decode cX1_hashOfTransfer 121 = .ok (.invokevirtual 242, 3) := dk_182 0 242 (dk_at dksX1_hashOfTransfer_5 3 rfl rfl)
theorem dX1_hashOfTransfer_124 : decode cX1_hashOfTransfer 124 = .ok (.i2l, 1) := dk_133 (dk_at dksX1_hashOfTransfer_5 6 rfl rfl)
theorem dX1_hashOfTransfer_125 : decode cX1_hashOfTransfer 125 = .ok (.ladd, 1) := dk_97 (dk_at dksX1_hashOfTransfer_5 7 rfl rfl)
theorem dX1_hashOfTransfer_126 : decode cX1_hashOfTransfer 126 = .ok (.lstore 5, 2) := dk_55 5 (dk_at dksX1_hashOfTransfer_5 8 rfl rfl)
theorem dX1_hashOfTransfer_128 : decode cX1_hashOfTransfer 128 = .ok (.iconst 0, 1) := dk_3 (dk_at dksX1_hashOfTransfer_5 10 rfl rfl)
theorem dX1_hashOfTransfer_129 : decode cX1_hashOfTransfer 129 = .ok (.istore 7, 2) := dk_54 7 (dk_at dksX1_hashOfTransfer_5 11 rfl rfl)
theorem dX1_hashOfTransfer_131 : decode cX1_hashOfTransfer 131 = .ok (.iload 7, 2) := dk_21 7 (dk_at dksX1_hashOfTransfer_5 13 rfl rfl)
theorem dX1_hashOfTransfer_133 : decode cX1_hashOfTransfer 133 = .ok (.iconst 4, 1) := dk_7 (dk_at dksX1_hashOfTransfer_5 15 rfl rfl)
theorem dX1_hashOfTransfer_134 : decode cX1_hashOfTransfer 134 = .ok (.if_icmp .ge 76, 3) := dk_162 0 76 (dk_at dksX1_hashOfTransfer_5 16 rfl rfl)
theorem dX1_hashOfTransfer_137 : decode cX1_hashOfTransfer 137 = .ok (.ldc2_w 323, 3) := dk_20 1 67 (dk_at dksX1_hashOfTransfer_5 19 rfl rfl)
theorem dX1_hashOfTransfer_140 : decode cX1_hashOfTransfer 140 = .ok (.lload 5, 2) := dk_22 5 (dk_at dksX1_hashOfTransfer_5 22 rfl rfl)
theorem dX1_hashOfTransfer_142 : decode cX1_hashOfTransfer 142 = .ok (.lmul, 1) := dk_105 (dk_at dksX1_hashOfTransfer_6 0 rfl rfl)
theorem dX1_hashOfTransfer_143 : decode cX1_hashOfTransfer 143 = .ok (.aload_n 0, 1) := dk_42 (dk_at dksX1_hashOfTransfer_6 1 rfl rfl)
theorem dX1_hashOfTransfer_144 : decode cX1_hashOfTransfer 144 = .ok (.getfield 26, 3) := dk_180 0 26 (dk_at dksX1_hashOfTransfer_6 2 rfl rfl)
theorem dX1_hashOfTransfer_147 : decode cX1_hashOfTransfer 147 = .ok (.getfield 47, 3) := dk_180 0 47 (dk_at dksX1_hashOfTransfer_6 5 rfl rfl)
theorem dX1_hashOfTransfer_150 : decode cX1_hashOfTransfer 150 = .ok (.iload_n 3, 1) := dk_29 (dk_at dksX1_hashOfTransfer_6 8 rfl rfl)
theorem dX1_hashOfTransfer_151 : decode cX1_hashOfTransfer 151 = .ok (.invokeinterface 61 2, 5) := by decide +kernel
theorem dX1_hashOfTransfer_156 : decode cX1_hashOfTransfer 156 = .ok (.checkcast 65, 3) := dk_192 0 65 (dk_at dksX1_hashOfTransfer_6 14 rfl rfl)
theorem dX1_hashOfTransfer_159 : decode cX1_hashOfTransfer 159 = .ok (.iload 7, 2) := dk_21 7 (dk_at dksX1_hashOfTransfer_6 17 rfl rfl)
theorem dX1_hashOfTransfer_161 : decode cX1_hashOfTransfer 161 = .ok (.invokevirtual 224, 3) := dk_182 0 224 (dk_at dksX1_hashOfTransfer_6 19 rfl rfl)
theorem dX1_hashOfTransfer_164 : decode cX1_hashOfTransfer 164 = .ok (.i2l, 1) := dk_133 (dk_at dksX1_hashOfTransfer_6 22 rfl rfl)
theorem dX1_hashOfTransfer_165 : decode cX1_hashOfTransfer 165 = .ok (.ladd, 1) := dk_97 (dk_at dksX1_hashOfTransfer_6 23 rfl rfl)
theorem dX1_hashOfTransfer_166 : decode cX1_hashOfTransfer 166 = .ok (.lstore 5, 2) := dk_55 5 (dk_at dksX1_hashOfTransfer_7 0 rfl rfl)
theorem dX1_hashOfTransfer_168 : decode cX1_hashOfTransfer 168 = .ok (.ldc2_w 323, 3) := dk_20 1 67 (dk_at dksX1_hashOfTransfer_7 2 rfl rfl)
theorem dX1_hashOfTransfer_171 : decode cX1_hashOfTransfer 171 = .ok (.ldc2_w 323, 3) := dk_20 1 67 (dk_at dksX1_hashOfTransfer_7 5 rfl rfl)
theorem dX1_hashOfTransfer_174 : decode cX1_hashOfTransfer 174 = .ok (.lload 5, 2) := dk_22 5 (dk_at dksX1_hashOfTransfer_7 8 rfl rfl)
theorem dX1_hashOfTransfer_176 : decode cX1_hashOfTransfer 176 = .ok (.lmul, 1) := dk_105 (dk_at dksX1_hashOfTransfer_7 10 rfl rfl)
theorem dX1_hashOfTransfer_177 : decode cX1_hashOfTransfer 177 = .ok (.aload_n 0, 1) := dk_42 (dk_at dksX1_hashOfTransfer_7 11 rfl rfl)
theorem dX1_hashOfTransfer_178 : decode cX1_hashOfTransfer 178 = .ok (.getfield 26, 3) := dk_180 0 26 (dk_at dksX1_hashOfTransfer_7 12 rfl rfl)
theorem dX1_hashOfTransfer_181 : decode cX1_hashOfTransfer 181 = .ok (.iload 7, 2) := dk_21 7 (dk_at dksX1_hashOfTransfer_7 15 rfl rfl)
theorem dX1_hashOfTransfer_183 : decode cX1_hashOfTransfer 183 = .ok (.iload_n 3, 1) := dk_29 (dk_at dksX1_hashOfTransfer_7 17 rfl rfl)
theorem dX1_hashOfTransfer_184 : decode cX1_hashOfTransfer 184 = .ok (.invokevirtual 234, 3) := dk_182 0 234 (dk_at dksX1_hashOfTransfer_7 18 rfl rfl)
theorem dX1_hashOfTransfer_187 : decode cX1_hashOfTransfer 187 = .ok (.i2l, 1) := dk_133 (dk_at dksX1_hashOfTransfer_7 21 rfl rfl)
theorem dX1_hashOfTransfer_188 : decode cX1_hashOfTransfer 188 = .ok (.ladd, 1) := dk_97 (dk_at dksX1_hashOfTransfer_7 22 rfl rfl)
theorem dX1_hashOfTransfer_189 : decode cX1_hashOfTransfer 189 = .ok (.lmul, 1) := dk_105 (dk_at dksX1_hashOfTransfer_7 23 rfl rfl)
theorem dX1_hashOfTransfer_190 : decode cX1_hashOfTransfer 190 = .ok (.aload_n 0, 1) := dk_42 (dk_at dksX1_hashOfTransfer_8 0 rfl rfl)
theorem dX1_hashOfTransfer_191 : decode cX1_hashOfTransfer 191 = .ok (.getfield 26, 3) := dk_180 0 26 (dk_at dksX1_hashOfTransfer_8 1 rfl rfl)
theorem dX1_hashOfTransfer_194 : decode cX1_hashOfTransfer 194 = .ok (.iload 7, 2) := dk_21 7 (dk_at dksX1_hashOfTransfer_8 4 rfl rfl)
theorem dX1_hashOfTransfer_196 : decode cX1_hashOfTransfer 196 = .ok (.iload_n 3, 1) := dk_29 (dk_at dksX1_hashOfTransfer_8 6 rfl rfl)
theorem dX1_hashOfTransfer_197 : decode cX1_hashOfTransfer 197 = .ok (.invokevirtual 236, 3) := dk_182 0 236 (dk_at dksX1_hashOfTransfer_8 7 rfl rfl)
theorem dX1_hashOfTransfer_200 : decode cX1_hashOfTransfer 200 = .ok (.i2l, 1) := dk_133 (dk_at dksX1_hashOfTransfer_8 10 rfl rfl)
theorem dX1_hashOfTransfer_201 : decode cX1_hashOfTransfer 201 = .ok (.ladd, 1) := dk_97 (dk_at dksX1_hashOfTransfer_8 11 rfl rfl)
theorem dX1_hashOfTransfer_202 : decode cX1_hashOfTransfer 202 = .ok (.lstore 5, 2) := dk_55 5 (dk_at dksX1_hashOfTransfer_8 12 rfl rfl)
theorem dX1_hashOfTransfer_204 : decode cX1_hashOfTransfer 204 = .ok (.iinc 7 1, 3) := dk_132 7 1 (dk_at dksX1_hashOfTransfer_8 14 rfl rfl)
theorem dX1_hashOfTransfer_207 : decode cX1_hashOfTransfer 207 = .ok (.goto (-76), 3) := dk_167 255 180 (dk_at dksX1_hashOfTransfer_8 17 rfl rfl)
theorem dX1_hashOfTransfer_210 : decode cX1_hashOfTransfer 210 = .ok (.lload 5, 2) := dk_22 5 (dk_at dksX1_hashOfTransfer_8 20 rfl rfl)
theorem dX1_hashOfTransfer_212 : decode cX1_hashOfTransfer 212 = .ok (.lreturn, 1) := dk_173 (dk_at dksX1_hashOfTransfer_8 22 rfl rfl)
abbrev cX1_hashOfSites : ByteArray := prog_1_method_64_code
def yX1_hashOfSites : MethodName := ⟨RX1, "hashOfSites", "(JLVoteLogs$Town;)J"⟩
def dkwX1_hashOfSites_10 : List UInt8 := [167, 255, 117, 22, 4, 173]
abbrev dktX1_hashOfSites_10 : List UInt8 := dkwX1_hashOfSites_10 ++ []
def dkwX1_hashOfSites_9 : List UInt8 := [25, 8, 180, 1, 21, 133, 97, 105, 25, 8, 180, 1, 24, 133, 97, 55, 4, 167, 255, 208, 132, 6, 1]
abbrev dktX1_hashOfSites_9 : List UInt8 := dkwX1_hashOfSites_9 ++ dktX1_hashOfSites_10
def dkwX1_hashOfSites_8 : List UInt8 := [153, 0, 44, 25, 7, 185, 1, 78, 1, 0, 192, 1, 15, 58, 8, 20, 1, 67, 20, 1, 67, 22, 4, 105]
abbrev dktX1_hashOfSites_8 : List UInt8 := dkwX1_hashOfSites_8 ++ dktX1_hashOfSites_9
def dkwX1_hashOfSites_7 : List UInt8 := [185, 0, 61, 2, 0, 192, 0, 52, 185, 1, 69, 1, 0, 58, 7, 25, 7, 185, 1, 73, 1, 0]
abbrev dktX1_hashOfSites_7 : List UInt8 := dkwX1_hashOfSites_7 ++ dktX1_hashOfSites_8
def dkwX1_hashOfSites_6 : List UInt8 := [192, 0, 52, 185, 0, 51, 1, 0, 133, 97, 55, 4, 42, 180, 0, 26, 180, 1, 7, 21, 6]
abbrev dktX1_hashOfSites_6 : List UInt8 := dkwX1_hashOfSites_6 ++ dktX1_hashOfSites_7
def dkwX1_hashOfSites_5 : List UInt8 := [4, 167, 0, 4, 3, 133, 97, 105, 42, 180, 0, 26, 180, 1, 7, 21, 6, 185, 0, 61, 2, 0]
abbrev dktX1_hashOfSites_5 : List UInt8 := dkwX1_hashOfSites_5 ++ dktX1_hashOfSites_6
def dkwX1_hashOfSites_4 : List UInt8 := [162, 0, 139, 20, 1, 67, 20, 1, 67, 22, 4, 105, 42, 180, 0, 26, 21, 6, 182, 0, 141, 153, 0, 7]
abbrev dktX1_hashOfSites_4 : List UInt8 := dkwX1_hashOfSites_4 ++ dktX1_hashOfSites_5
def dkwX1_hashOfSites_3 : List UInt8 := [180, 0, 227, 21, 6, 46, 133, 97, 55, 4, 132, 6, 1, 167, 255, 180, 3, 54, 6, 21, 6, 8]
abbrev dktX1_hashOfSites_3 : List UInt8 := dkwX1_hashOfSites_3 ++ dktX1_hashOfSites_4
def dkwX1_hashOfSites_2 : List UInt8 := [55, 4, 20, 1, 67, 20, 1, 67, 22, 4, 105, 42, 180, 0, 26, 21, 6, 182, 0, 239, 133, 97, 105, 45]
abbrev dktX1_hashOfSites_2 : List UInt8 := dkwX1_hashOfSites_2 ++ dktX1_hashOfSites_3
def dkwX1_hashOfSites_1 : List UInt8 := [180, 0, 26, 180, 0, 227, 21, 6, 46, 133, 97, 105, 42, 180, 0, 26, 21, 6, 182, 0, 231, 133, 97]
abbrev dktX1_hashOfSites_1 : List UInt8 := dkwX1_hashOfSites_1 ++ dktX1_hashOfSites_2
def dkwX1_hashOfSites_0 : List UInt8 := [31, 55, 4, 3, 54, 6, 21, 6, 7, 162, 0, 76, 20, 1, 67, 20, 1, 67, 22, 4, 105, 42]
abbrev dktX1_hashOfSites_0 : List UInt8 := dkwX1_hashOfSites_0 ++ dktX1_hashOfSites_1
theorem dksX1_hashOfSites_0 : cX1_hashOfSites.data.toList.drop 0 = dktX1_hashOfSites_0 := by decide +kernel
theorem dksX1_hashOfSites_1 : cX1_hashOfSites.data.toList.drop 22 = dktX1_hashOfSites_1 := dk_seg dksX1_hashOfSites_0 22 rfl rfl
theorem dksX1_hashOfSites_2 : cX1_hashOfSites.data.toList.drop 45 = dktX1_hashOfSites_2 := dk_seg dksX1_hashOfSites_1 23 rfl rfl
theorem dksX1_hashOfSites_3 : cX1_hashOfSites.data.toList.drop 69 = dktX1_hashOfSites_3 := dk_seg dksX1_hashOfSites_2 24 rfl rfl
theorem dksX1_hashOfSites_4 : cX1_hashOfSites.data.toList.drop 91 = dktX1_hashOfSites_4 := dk_seg dksX1_hashOfSites_3 22 rfl rfl
theorem dksX1_hashOfSites_5 : cX1_hashOfSites.data.toList.drop 115 = dktX1_hashOfSites_5 := dk_seg dksX1_hashOfSites_4 24 rfl rfl
theorem dksX1_hashOfSites_6 : cX1_hashOfSites.data.toList.drop 137 = dktX1_hashOfSites_6 := dk_seg dksX1_hashOfSites_5 22 rfl rfl
theorem dksX1_hashOfSites_7 : cX1_hashOfSites.data.toList.drop 158 = dktX1_hashOfSites_7 := dk_seg dksX1_hashOfSites_6 21 rfl rfl
theorem dksX1_hashOfSites_8 : cX1_hashOfSites.data.toList.drop 180 = dktX1_hashOfSites_8 := dk_seg dksX1_hashOfSites_7 22 rfl rfl
theorem dksX1_hashOfSites_9 : cX1_hashOfSites.data.toList.drop 204 = dktX1_hashOfSites_9 := dk_seg dksX1_hashOfSites_8 24 rfl rfl
theorem dksX1_hashOfSites_10 : cX1_hashOfSites.data.toList.drop 227 = dktX1_hashOfSites_10 := dk_seg dksX1_hashOfSites_9 23 rfl rfl
theorem dX1_hashOfSites_0 : decode cX1_hashOfSites 0 = .ok (.lload_n 1, 1) := dk_31 (dk_at dksX1_hashOfSites_0 0 rfl rfl)
theorem dX1_hashOfSites_1 : decode cX1_hashOfSites 1 = .ok (.lstore 4, 2) := dk_55 4 (dk_at dksX1_hashOfSites_0 1 rfl rfl)
theorem dX1_hashOfSites_3 : decode cX1_hashOfSites 3 = .ok (.iconst 0, 1) := dk_3 (dk_at dksX1_hashOfSites_0 3 rfl rfl)
theorem dX1_hashOfSites_4 : decode cX1_hashOfSites 4 = .ok (.istore 6, 2) := dk_54 6 (dk_at dksX1_hashOfSites_0 4 rfl rfl)
theorem dX1_hashOfSites_6 : decode cX1_hashOfSites 6 = .ok (.iload 6, 2) := dk_21 6 (dk_at dksX1_hashOfSites_0 6 rfl rfl)
theorem dX1_hashOfSites_8 : decode cX1_hashOfSites 8 = .ok (.iconst 4, 1) := dk_7 (dk_at dksX1_hashOfSites_0 8 rfl rfl)
theorem dX1_hashOfSites_9 : decode cX1_hashOfSites 9 = .ok (.if_icmp .ge 76, 3) := dk_162 0 76 (dk_at dksX1_hashOfSites_0 9 rfl rfl)
theorem dX1_hashOfSites_12 : decode cX1_hashOfSites 12 = .ok (.ldc2_w 323, 3) := dk_20 1 67 (dk_at dksX1_hashOfSites_0 12 rfl rfl)
theorem dX1_hashOfSites_15 : decode cX1_hashOfSites 15 = .ok (.ldc2_w 323, 3) := dk_20 1 67 (dk_at dksX1_hashOfSites_0 15 rfl rfl)
theorem dX1_hashOfSites_18 : decode cX1_hashOfSites 18 = .ok (.lload 4, 2) := dk_22 4 (dk_at dksX1_hashOfSites_0 18 rfl rfl)
theorem dX1_hashOfSites_20 : decode cX1_hashOfSites 20 = .ok (.lmul, 1) := dk_105 (dk_at dksX1_hashOfSites_0 20 rfl rfl)
theorem dX1_hashOfSites_21 : decode cX1_hashOfSites 21 = .ok (.aload_n 0, 1) := dk_42 (dk_at dksX1_hashOfSites_0 21 rfl rfl)
theorem dX1_hashOfSites_22 : decode cX1_hashOfSites 22 = .ok (.getfield 26, 3) := dk_180 0 26 (dk_at dksX1_hashOfSites_1 0 rfl rfl)
theorem dX1_hashOfSites_25 : decode cX1_hashOfSites 25 = .ok (.getfield 227, 3) := dk_180 0 227 (dk_at dksX1_hashOfSites_1 3 rfl rfl)
theorem dX1_hashOfSites_28 : decode cX1_hashOfSites 28 = .ok (.iload 6, 2) := dk_21 6 (dk_at dksX1_hashOfSites_1 6 rfl rfl)
theorem dX1_hashOfSites_30 : decode cX1_hashOfSites 30 = .ok (.iaload, 1) := dk_46 (dk_at dksX1_hashOfSites_1 8 rfl rfl)
theorem dX1_hashOfSites_31 : decode cX1_hashOfSites 31 = .ok (.i2l, 1) := dk_133 (dk_at dksX1_hashOfSites_1 9 rfl rfl)
theorem dX1_hashOfSites_32 : decode cX1_hashOfSites 32 = .ok (.ladd, 1) := dk_97 (dk_at dksX1_hashOfSites_1 10 rfl rfl)
theorem dX1_hashOfSites_33 : decode cX1_hashOfSites 33 = .ok (.lmul, 1) := dk_105 (dk_at dksX1_hashOfSites_1 11 rfl rfl)
theorem dX1_hashOfSites_34 : decode cX1_hashOfSites 34 = .ok (.aload_n 0, 1) := dk_42 (dk_at dksX1_hashOfSites_1 12 rfl rfl)
theorem dX1_hashOfSites_35 : decode cX1_hashOfSites 35 = .ok (.getfield 26, 3) := dk_180 0 26 (dk_at dksX1_hashOfSites_1 13 rfl rfl)
theorem dX1_hashOfSites_38 : decode cX1_hashOfSites 38 = .ok (.iload 6, 2) := dk_21 6 (dk_at dksX1_hashOfSites_1 16 rfl rfl)
theorem dX1_hashOfSites_40 : decode cX1_hashOfSites 40 = .ok (.invokevirtual 231, 3) := dk_182 0 231 (dk_at dksX1_hashOfSites_1 18 rfl rfl)
theorem dX1_hashOfSites_43 : decode cX1_hashOfSites 43 = .ok (.i2l, 1) := dk_133 (dk_at dksX1_hashOfSites_1 21 rfl rfl)
theorem dX1_hashOfSites_44 : decode cX1_hashOfSites 44 = .ok (.ladd, 1) := dk_97 (dk_at dksX1_hashOfSites_1 22 rfl rfl)
theorem dX1_hashOfSites_45 : decode cX1_hashOfSites 45 = .ok (.lstore 4, 2) := dk_55 4 (dk_at dksX1_hashOfSites_2 0 rfl rfl)
theorem dX1_hashOfSites_47 : decode cX1_hashOfSites 47 = .ok (.ldc2_w 323, 3) := dk_20 1 67 (dk_at dksX1_hashOfSites_2 2 rfl rfl)
theorem dX1_hashOfSites_50 : decode cX1_hashOfSites 50 = .ok (.ldc2_w 323, 3) := dk_20 1 67 (dk_at dksX1_hashOfSites_2 5 rfl rfl)
theorem dX1_hashOfSites_53 : decode cX1_hashOfSites 53 = .ok (.lload 4, 2) := dk_22 4 (dk_at dksX1_hashOfSites_2 8 rfl rfl)
theorem dX1_hashOfSites_55 : decode cX1_hashOfSites 55 = .ok (.lmul, 1) := dk_105 (dk_at dksX1_hashOfSites_2 10 rfl rfl)
theorem dX1_hashOfSites_56 : decode cX1_hashOfSites 56 = .ok (.aload_n 0, 1) := dk_42 (dk_at dksX1_hashOfSites_2 11 rfl rfl)
theorem dX1_hashOfSites_57 : decode cX1_hashOfSites 57 = .ok (.getfield 26, 3) := dk_180 0 26 (dk_at dksX1_hashOfSites_2 12 rfl rfl)
theorem dX1_hashOfSites_60 : decode cX1_hashOfSites 60 = .ok (.iload 6, 2) := dk_21 6 (dk_at dksX1_hashOfSites_2 15 rfl rfl)
theorem dX1_hashOfSites_62 : decode cX1_hashOfSites 62 = .ok (.invokevirtual 239, 3) := dk_182 0 239 (dk_at dksX1_hashOfSites_2 17 rfl rfl)
theorem dX1_hashOfSites_65 : decode cX1_hashOfSites 65 = .ok (.i2l, 1) := dk_133 (dk_at dksX1_hashOfSites_2 20 rfl rfl)
theorem dX1_hashOfSites_66 : decode cX1_hashOfSites 66 = .ok (.ladd, 1) := dk_97 (dk_at dksX1_hashOfSites_2 21 rfl rfl)
theorem dX1_hashOfSites_67 : decode cX1_hashOfSites 67 = .ok (.lmul, 1) := dk_105 (dk_at dksX1_hashOfSites_2 22 rfl rfl)
theorem dX1_hashOfSites_68 : decode cX1_hashOfSites 68 = .ok (.aload_n 3, 1) := dk_45 (dk_at dksX1_hashOfSites_2 23 rfl rfl)
theorem dX1_hashOfSites_69 : decode cX1_hashOfSites 69 = .ok (.getfield 227, 3) := dk_180 0 227 (dk_at dksX1_hashOfSites_3 0 rfl rfl)
theorem dX1_hashOfSites_72 : decode cX1_hashOfSites 72 = .ok (.iload 6, 2) := dk_21 6 (dk_at dksX1_hashOfSites_3 3 rfl rfl)
theorem dX1_hashOfSites_74 : decode cX1_hashOfSites 74 = .ok (.iaload, 1) := dk_46 (dk_at dksX1_hashOfSites_3 5 rfl rfl)
theorem dX1_hashOfSites_75 : decode cX1_hashOfSites 75 = .ok (.i2l, 1) := dk_133 (dk_at dksX1_hashOfSites_3 6 rfl rfl)
theorem dX1_hashOfSites_76 : decode cX1_hashOfSites 76 = .ok (.ladd, 1) := dk_97 (dk_at dksX1_hashOfSites_3 7 rfl rfl)
theorem dX1_hashOfSites_77 : decode cX1_hashOfSites 77 = .ok (.lstore 4, 2) := dk_55 4 (dk_at dksX1_hashOfSites_3 8 rfl rfl)
theorem dX1_hashOfSites_79 : decode cX1_hashOfSites 79 = .ok (.iinc 6 1, 3) := dk_132 6 1 (dk_at dksX1_hashOfSites_3 10 rfl rfl)
theorem dX1_hashOfSites_82 : decode cX1_hashOfSites 82 = .ok (.goto (-76), 3) := dk_167 255 180 (dk_at dksX1_hashOfSites_3 13 rfl rfl)
theorem dX1_hashOfSites_85 : decode cX1_hashOfSites 85 = .ok (.iconst 0, 1) := dk_3 (dk_at dksX1_hashOfSites_3 16 rfl rfl)
theorem dX1_hashOfSites_86 : decode cX1_hashOfSites 86 = .ok (.istore 6, 2) := dk_54 6 (dk_at dksX1_hashOfSites_3 17 rfl rfl)
theorem dX1_hashOfSites_88 : decode cX1_hashOfSites 88 = .ok (.iload 6, 2) := dk_21 6 (dk_at dksX1_hashOfSites_3 19 rfl rfl)
theorem dX1_hashOfSites_90 : decode cX1_hashOfSites 90 = .ok (.iconst 5, 1) := dk_8 (dk_at dksX1_hashOfSites_3 21 rfl rfl)
theorem dX1_hashOfSites_91 : decode cX1_hashOfSites 91 = .ok (.if_icmp .ge 139, 3) := dk_162 0 139 (dk_at dksX1_hashOfSites_4 0 rfl rfl)
theorem dX1_hashOfSites_94 : decode cX1_hashOfSites 94 = .ok (.ldc2_w 323, 3) := dk_20 1 67 (dk_at dksX1_hashOfSites_4 3 rfl rfl)
theorem dX1_hashOfSites_97 : decode cX1_hashOfSites 97 = .ok (.ldc2_w 323, 3) := dk_20 1 67 (dk_at dksX1_hashOfSites_4 6 rfl rfl)
theorem dX1_hashOfSites_100 : decode cX1_hashOfSites 100 = .ok (.lload 4, 2) := dk_22 4 (dk_at dksX1_hashOfSites_4 9 rfl rfl)
theorem dX1_hashOfSites_102 : decode cX1_hashOfSites 102 = .ok (.lmul, 1) := dk_105 (dk_at dksX1_hashOfSites_4 11 rfl rfl)
theorem dX1_hashOfSites_103 : decode cX1_hashOfSites 103 = .ok (.aload_n 0, 1) := dk_42 (dk_at dksX1_hashOfSites_4 12 rfl rfl)
theorem dX1_hashOfSites_104 : decode cX1_hashOfSites 104 = .ok (.getfield 26, 3) := dk_180 0 26 (dk_at dksX1_hashOfSites_4 13 rfl rfl)
theorem dX1_hashOfSites_107 : decode cX1_hashOfSites 107 = .ok (.iload 6, 2) := dk_21 6 (dk_at dksX1_hashOfSites_4 16 rfl rfl)
theorem dX1_hashOfSites_109 : decode cX1_hashOfSites 109 = .ok (.invokevirtual 141, 3) := dk_182 0 141 (dk_at dksX1_hashOfSites_4 18 rfl rfl)
theorem dX1_hashOfSites_112 : decode cX1_hashOfSites 112 = .ok (.ifCond .eq 7, 3) := dk_153 0 7 (dk_at dksX1_hashOfSites_4 21 rfl rfl)
theorem dX1_hashOfSites_115 : decode cX1_hashOfSites 115 = .ok (.iconst 1, 1) := dk_4 (dk_at dksX1_hashOfSites_5 0 rfl rfl)
theorem dX1_hashOfSites_116 : decode cX1_hashOfSites 116 = .ok (.goto 4, 3) := dk_167 0 4 (dk_at dksX1_hashOfSites_5 1 rfl rfl)
theorem dX1_hashOfSites_119 : decode cX1_hashOfSites 119 = .ok (.iconst 0, 1) := dk_3 (dk_at dksX1_hashOfSites_5 4 rfl rfl)
theorem dX1_hashOfSites_120 : decode cX1_hashOfSites 120 = .ok (.i2l, 1) := dk_133 (dk_at dksX1_hashOfSites_5 5 rfl rfl)
theorem dX1_hashOfSites_121 : decode cX1_hashOfSites 121 = .ok (.ladd, 1) := dk_97 (dk_at dksX1_hashOfSites_5 6 rfl rfl)
theorem dX1_hashOfSites_122 : decode cX1_hashOfSites 122 = .ok (.lmul, 1) := dk_105 (dk_at dksX1_hashOfSites_5 7 rfl rfl)
theorem dX1_hashOfSites_123 : decode cX1_hashOfSites 123 = .ok (.aload_n 0, 1) := dk_42 (dk_at dksX1_hashOfSites_5 8 rfl rfl)
theorem dX1_hashOfSites_124 : decode cX1_hashOfSites 124 = .ok (.getfield 26, 3) := dk_180 0 26 (dk_at dksX1_hashOfSites_5 9 rfl rfl)
theorem dX1_hashOfSites_127 : decode cX1_hashOfSites 127 = .ok (.getfield 263, 3) := dk_180 1 7 (dk_at dksX1_hashOfSites_5 12 rfl rfl)
theorem dX1_hashOfSites_130 : decode cX1_hashOfSites 130 = .ok (.iload 6, 2) := dk_21 6 (dk_at dksX1_hashOfSites_5 15 rfl rfl)
theorem dX1_hashOfSites_132 : decode cX1_hashOfSites 132 = .ok (.invokeinterface 61 2, 5) := by decide +kernel
theorem dX1_hashOfSites_137 : decode cX1_hashOfSites 137 = .ok (.checkcast 52, 3) := dk_192 0 52 (dk_at dksX1_hashOfSites_6 0 rfl rfl)
theorem dX1_hashOfSites_140 : decode cX1_hashOfSites 140 = .ok (.invokeinterface 51 1, 5) := by decide +kernel
theorem dX1_hashOfSites_145 : decode cX1_hashOfSites 145 = .ok (.i2l, 1) := dk_133 (dk_at dksX1_hashOfSites_6 8 rfl rfl)
theorem dX1_hashOfSites_146 : decode cX1_hashOfSites 146 = .ok (.ladd, 1) := dk_97 (dk_at dksX1_hashOfSites_6 9 rfl rfl)
theorem dX1_hashOfSites_147 : decode cX1_hashOfSites 147 = .ok (.lstore 4, 2) := dk_55 4 (dk_at dksX1_hashOfSites_6 10 rfl rfl)
theorem dX1_hashOfSites_149 : decode cX1_hashOfSites 149 = .ok (.aload_n 0, 1) := dk_42 (dk_at dksX1_hashOfSites_6 12 rfl rfl)
theorem dX1_hashOfSites_150 : decode cX1_hashOfSites 150 = .ok (.getfield 26, 3) := dk_180 0 26 (dk_at dksX1_hashOfSites_6 13 rfl rfl)
theorem dX1_hashOfSites_153 : decode cX1_hashOfSites 153 = .ok (.getfield 263, 3) := dk_180 1 7 (dk_at dksX1_hashOfSites_6 16 rfl rfl)
theorem dX1_hashOfSites_156 : decode cX1_hashOfSites 156 = .ok (.iload 6, 2) := dk_21 6 (dk_at dksX1_hashOfSites_6 19 rfl rfl)
theorem dX1_hashOfSites_158 : decode cX1_hashOfSites 158 = .ok (.invokeinterface 61 2, 5) := by decide +kernel
theorem dX1_hashOfSites_163 : decode cX1_hashOfSites 163 = .ok (.checkcast 52, 3) := dk_192 0 52 (dk_at dksX1_hashOfSites_7 5 rfl rfl)
theorem dX1_hashOfSites_166 : decode cX1_hashOfSites 166 = .ok (.invokeinterface 325 1, 5) := by decide +kernel
theorem dX1_hashOfSites_171 : decode cX1_hashOfSites 171 = .ok (.astore 7, 2) := dk_58 7 (dk_at dksX1_hashOfSites_7 13 rfl rfl)
theorem dX1_hashOfSites_173 : decode cX1_hashOfSites 173 = .ok (.aload 7, 2) := dk_25 7 (dk_at dksX1_hashOfSites_7 15 rfl rfl)
theorem dX1_hashOfSites_175 : decode cX1_hashOfSites 175 = .ok (.invokeinterface 329 1, 5) := by decide +kernel
theorem dX1_hashOfSites_180 : decode cX1_hashOfSites 180 = .ok (.ifCond .eq 44, 3) := dk_153 0 44 (dk_at dksX1_hashOfSites_8 0 rfl rfl)
theorem dX1_hashOfSites_183 : decode cX1_hashOfSites 183 = .ok (.aload 7, 2) := dk_25 7 (dk_at dksX1_hashOfSites_8 3 rfl rfl)
theorem dX1_hashOfSites_185 : decode cX1_hashOfSites 185 = .ok (.invokeinterface 334 1, 5) := by decide +kernel
theorem dX1_hashOfSites_190 : decode cX1_hashOfSites 190 = .ok (.checkcast 271, 3) := dk_192 1 15 (dk_at dksX1_hashOfSites_8 10 rfl rfl)
theorem dX1_hashOfSites_193 : decode cX1_hashOfSites 193 = .ok (.astore 8, 2) := dk_58 8 (dk_at dksX1_hashOfSites_8 13 rfl rfl)
theorem dX1_hashOfSites_195 : decode cX1_hashOfSites 195 = .ok (.ldc2_w 323, 3) := dk_20 1 67 (dk_at dksX1_hashOfSites_8 15 rfl rfl)
theorem dX1_hashOfSites_198 : decode cX1_hashOfSites 198 = .ok (.ldc2_w 323, 3) := dk_20 1 67 (dk_at dksX1_hashOfSites_8 18 rfl rfl)
theorem dX1_hashOfSites_201 : decode cX1_hashOfSites 201 = .ok (.lload 4, 2) := dk_22 4 (dk_at dksX1_hashOfSites_8 21 rfl rfl)
theorem dX1_hashOfSites_203 : decode cX1_hashOfSites 203 = .ok (.lmul, 1) := dk_105 (dk_at dksX1_hashOfSites_8 23 rfl rfl)
theorem dX1_hashOfSites_204 : decode cX1_hashOfSites 204 = .ok (.aload 8, 2) := dk_25 8 (dk_at dksX1_hashOfSites_9 0 rfl rfl)
theorem dX1_hashOfSites_206 : decode cX1_hashOfSites 206 = .ok (.getfield 277, 3) := dk_180 1 21 (dk_at dksX1_hashOfSites_9 2 rfl rfl)
theorem dX1_hashOfSites_209 : decode cX1_hashOfSites 209 = .ok (.i2l, 1) := dk_133 (dk_at dksX1_hashOfSites_9 5 rfl rfl)
theorem dX1_hashOfSites_210 : decode cX1_hashOfSites 210 = .ok (.ladd, 1) := dk_97 (dk_at dksX1_hashOfSites_9 6 rfl rfl)
theorem dX1_hashOfSites_211 : decode cX1_hashOfSites 211 = .ok (.lmul, 1) := dk_105 (dk_at dksX1_hashOfSites_9 7 rfl rfl)
theorem dX1_hashOfSites_212 : decode cX1_hashOfSites 212 = .ok (.aload 8, 2) := dk_25 8 (dk_at dksX1_hashOfSites_9 8 rfl rfl)
theorem dX1_hashOfSites_214 : decode cX1_hashOfSites 214 = .ok (.getfield 280, 3) := dk_180 1 24 (dk_at dksX1_hashOfSites_9 10 rfl rfl)
theorem dX1_hashOfSites_217 : decode cX1_hashOfSites 217 = .ok (.i2l, 1) := dk_133 (dk_at dksX1_hashOfSites_9 13 rfl rfl)
theorem dX1_hashOfSites_218 : decode cX1_hashOfSites 218 = .ok (.ladd, 1) := dk_97 (dk_at dksX1_hashOfSites_9 14 rfl rfl)
theorem dX1_hashOfSites_219 : decode cX1_hashOfSites 219 = .ok (.lstore 4, 2) := dk_55 4 (dk_at dksX1_hashOfSites_9 15 rfl rfl)
theorem dX1_hashOfSites_221 : decode cX1_hashOfSites 221 = .ok (.goto (-48), 3) := dk_167 255 208 (dk_at dksX1_hashOfSites_9 17 rfl rfl)
theorem dX1_hashOfSites_224 : decode cX1_hashOfSites 224 = .ok (.iinc 6 1, 3) := dk_132 6 1 (dk_at dksX1_hashOfSites_9 20 rfl rfl)
theorem dX1_hashOfSites_227 : decode cX1_hashOfSites 227 = .ok (.goto (-139), 3) := dk_167 255 117 (dk_at dksX1_hashOfSites_10 0 rfl rfl)
theorem dX1_hashOfSites_230 : decode cX1_hashOfSites 230 = .ok (.lload 4, 2) := dk_22 4 (dk_at dksX1_hashOfSites_10 3 rfl rfl)
theorem dX1_hashOfSites_232 : decode cX1_hashOfSites 232 = .ok (.lreturn, 1) := dk_173 (dk_at dksX1_hashOfSites_10 5 rfl rfl)
abbrev cX1_kindOf : ByteArray := prog_1_method_49_code
def yX1_kindOf : MethodName := ⟨RX1, "kindOf", "(I)I"⟩
def dkwX1_kindOf_0 : List UInt8 := [42, 27, 182, 1, 28, 77, 44, 199, 0, 7, 2, 167, 0, 10, 44, 180, 1, 32, 182, 1, 35, 172]
abbrev dktX1_kindOf_0 : List UInt8 := dkwX1_kindOf_0 ++ []
theorem dksX1_kindOf_0 : cX1_kindOf.data.toList.drop 0 = dktX1_kindOf_0 := by decide +kernel
theorem dX1_kindOf_0 : decode cX1_kindOf 0 = .ok (.aload_n 0, 1) := dk_42 (dk_at dksX1_kindOf_0 0 rfl rfl)
theorem dX1_kindOf_1 : decode cX1_kindOf 1 = .ok (.iload_n 1, 1) := dk_27 (dk_at dksX1_kindOf_0 1 rfl rfl)
theorem dX1_kindOf_2 : decode cX1_kindOf 2 = .ok (.invokevirtual 284, 3) := dk_182 1 28 (dk_at dksX1_kindOf_0 2 rfl rfl)
theorem dX1_kindOf_5 : decode cX1_kindOf 5 = .ok (.astore_n 2, 1) := dk_77 (dk_at dksX1_kindOf_0 5 rfl rfl)
theorem dX1_kindOf_6 : decode cX1_kindOf 6 = .ok (.aload_n 2, 1) := dk_44 (dk_at dksX1_kindOf_0 6 rfl rfl)
theorem dX1_kindOf_7 : decode cX1_kindOf 7 = .ok (.ifnonnull 7, 3) := dk_199 0 7 (dk_at dksX1_kindOf_0 7 rfl rfl)
theorem dX1_kindOf_10 : decode cX1_kindOf 10 = .ok (.iconst (-1), 1) := dk_2 (dk_at dksX1_kindOf_0 10 rfl rfl)
theorem dX1_kindOf_11 : decode cX1_kindOf 11 = .ok (.goto 10, 3) := dk_167 0 10 (dk_at dksX1_kindOf_0 11 rfl rfl)
theorem dX1_kindOf_14 : decode cX1_kindOf 14 = .ok (.aload_n 2, 1) := dk_44 (dk_at dksX1_kindOf_0 14 rfl rfl)
theorem dX1_kindOf_15 : decode cX1_kindOf 15 = .ok (.getfield 288, 3) := dk_180 1 32 (dk_at dksX1_kindOf_0 15 rfl rfl)
theorem dX1_kindOf_18 : decode cX1_kindOf 18 = .ok (.invokevirtual 291, 3) := dk_182 1 35 (dk_at dksX1_kindOf_0 18 rfl rfl)
theorem dX1_kindOf_21 : decode cX1_kindOf 21 = .ok (.ireturn, 1) := dk_172 (dk_at dksX1_kindOf_0 21 rfl rfl)
abbrev cX1_message : ByteArray := prog_1_method_48_code
def yX1_message : MethodName := ⟨RX1, "message", "(I)LVoteLogs$Message;"⟩
def dkwX1_message_1 : List UInt8 := [162, 0, 22, 42, 180, 0, 26, 180, 0, 126, 27, 185, 0, 61, 2, 0, 192, 1, 26, 167, 0, 4, 1, 176]
abbrev dktX1_message_1 : List UInt8 := dkwX1_message_1 ++ []
def dkwX1_message_0 : List UInt8 := [27, 3, 184, 1, 10, 4, 184, 0, 57, 27, 42, 180, 0, 26, 180, 0, 126, 185, 0, 51, 1, 0]
abbrev dktX1_message_0 : List UInt8 := dkwX1_message_0 ++ dktX1_message_1
theorem dksX1_message_0 : cX1_message.data.toList.drop 0 = dktX1_message_0 := by decide +kernel
theorem dksX1_message_1 : cX1_message.data.toList.drop 22 = dktX1_message_1 := dk_seg dksX1_message_0 22 rfl rfl
theorem dX1_message_0 : decode cX1_message 0 = .ok (.iload_n 1, 1) := dk_27 (dk_at dksX1_message_0 0 rfl rfl)
theorem dX1_message_1 : decode cX1_message 1 = .ok (.iconst 0, 1) := dk_3 (dk_at dksX1_message_0 1 rfl rfl)
theorem dX1_message_2 : decode cX1_message 2 = .ok (.invokestatic 266, 3) := dk_184 1 10 (dk_at dksX1_message_0 2 rfl rfl)
theorem dX1_message_5 : decode cX1_message 5 = .ok (.iconst 1, 1) := dk_4 (dk_at dksX1_message_0 5 rfl rfl)
theorem dX1_message_6 : decode cX1_message 6 = .ok (.invokestatic 57, 3) := dk_184 0 57 (dk_at dksX1_message_0 6 rfl rfl)
theorem dX1_message_9 : decode cX1_message 9 = .ok (.iload_n 1, 1) := dk_27 (dk_at dksX1_message_0 9 rfl rfl)
theorem dX1_message_10 : decode cX1_message 10 = .ok (.aload_n 0, 1) := dk_42 (dk_at dksX1_message_0 10 rfl rfl)
theorem dX1_message_11 : decode cX1_message 11 = .ok (.getfield 26, 3) := dk_180 0 26 (dk_at dksX1_message_0 11 rfl rfl)
theorem dX1_message_14 : decode cX1_message 14 = .ok (.getfield 126, 3) := dk_180 0 126 (dk_at dksX1_message_0 14 rfl rfl)
theorem dX1_message_17 : decode cX1_message 17 = .ok (.invokeinterface 51 1, 5) := by decide +kernel
theorem dX1_message_22 : decode cX1_message 22 = .ok (.if_icmp .ge 22, 3) := dk_162 0 22 (dk_at dksX1_message_1 0 rfl rfl)
theorem dX1_message_25 : decode cX1_message 25 = .ok (.aload_n 0, 1) := dk_42 (dk_at dksX1_message_1 3 rfl rfl)
theorem dX1_message_26 : decode cX1_message 26 = .ok (.getfield 26, 3) := dk_180 0 26 (dk_at dksX1_message_1 4 rfl rfl)
theorem dX1_message_29 : decode cX1_message 29 = .ok (.getfield 126, 3) := dk_180 0 126 (dk_at dksX1_message_1 7 rfl rfl)
theorem dX1_message_32 : decode cX1_message 32 = .ok (.iload_n 1, 1) := dk_27 (dk_at dksX1_message_1 10 rfl rfl)
theorem dX1_message_33 : decode cX1_message 33 = .ok (.invokeinterface 61 2, 5) := by decide +kernel
theorem dX1_message_38 : decode cX1_message 38 = .ok (.checkcast 282, 3) := dk_192 1 26 (dk_at dksX1_message_1 16 rfl rfl)
theorem dX1_message_41 : decode cX1_message 41 = .ok (.goto 4, 3) := dk_167 0 4 (dk_at dksX1_message_1 19 rfl rfl)
theorem dX1_message_44 : decode cX1_message 44 = .ok (.aconst_null, 1) := dk_1 (dk_at dksX1_message_1 22 rfl rfl)
theorem dX1_message_45 : decode cX1_message 45 = .ok (.areturn, 1) := dk_176 (dk_at dksX1_message_1 23 rfl rfl)
abbrev cX1_index : ByteArray := prog_1_method_3_code
def yX1_index : MethodName := ⟨RX1, "index", "(II)V"⟩
def dkwX1_index_0 : List UInt8 := [26, 155, 0, 8, 26, 27, 161, 0, 13, 187, 0, 30, 89, 18, 32, 183, 0, 34, 191, 177]
abbrev dktX1_index_0 : List UInt8 := dkwX1_index_0 ++ []
theorem dksX1_index_0 : cX1_index.data.toList.drop 0 = dktX1_index_0 := by decide +kernel
theorem dX1_index_0 : decode cX1_index 0 = .ok (.iload_n 0, 1) := dk_26 (dk_at dksX1_index_0 0 rfl rfl)
theorem dX1_index_1 : decode cX1_index 1 = .ok (.ifCond .lt 8, 3) := dk_155 0 8 (dk_at dksX1_index_0 1 rfl rfl)
theorem dX1_index_4 : decode cX1_index 4 = .ok (.iload_n 0, 1) := dk_26 (dk_at dksX1_index_0 4 rfl rfl)
theorem dX1_index_5 : decode cX1_index 5 = .ok (.iload_n 1, 1) := dk_27 (dk_at dksX1_index_0 5 rfl rfl)
theorem dX1_index_6 : decode cX1_index 6 = .ok (.if_icmp .lt 13, 3) := dk_161 0 13 (dk_at dksX1_index_0 6 rfl rfl)
theorem dX1_index_9 : decode cX1_index 9 = .ok (.new 30, 3) := dk_187 0 30 (dk_at dksX1_index_0 9 rfl rfl)
theorem dX1_index_12 : decode cX1_index 12 = .ok (.dup, 1) := dk_89 (dk_at dksX1_index_0 12 rfl rfl)
theorem dX1_index_13 : decode cX1_index 13 = .ok (.ldc 32, 2) := dk_18 32 (dk_at dksX1_index_0 13 rfl rfl)
theorem dX1_index_15 : decode cX1_index 15 = .ok (.invokespecial 34, 3) := dk_183 0 34 (dk_at dksX1_index_0 15 rfl rfl)
theorem dX1_index_18 : decode cX1_index 18 = .ok (.athrow, 1) := dk_191 (dk_at dksX1_index_0 18 rfl rfl)
theorem dX1_index_19 : decode cX1_index 19 = .ok (.return_, 1) := dk_177 (dk_at dksX1_index_0 19 rfl rfl)
abbrev cX1_transferOf : ByteArray := prog_1_method_50_code
def yX1_transferOf : MethodName := ⟨RX1, "transferOf", "(I)I"⟩
def dkwX1_transferOf_0 : List UInt8 := [42, 27, 182, 1, 28, 77, 44, 199, 0, 7, 2, 167, 0, 7, 44, 180, 1, 40, 172]
abbrev dktX1_transferOf_0 : List UInt8 := dkwX1_transferOf_0 ++ []
theorem dksX1_transferOf_0 : cX1_transferOf.data.toList.drop 0 = dktX1_transferOf_0 := by decide +kernel
theorem dX1_transferOf_0 : decode cX1_transferOf 0 = .ok (.aload_n 0, 1) := dk_42 (dk_at dksX1_transferOf_0 0 rfl rfl)
theorem dX1_transferOf_1 : decode cX1_transferOf 1 = .ok (.iload_n 1, 1) := dk_27 (dk_at dksX1_transferOf_0 1 rfl rfl)
theorem dX1_transferOf_2 : decode cX1_transferOf 2 = .ok (.invokevirtual 284, 3) := dk_182 1 28 (dk_at dksX1_transferOf_0 2 rfl rfl)
theorem dX1_transferOf_5 : decode cX1_transferOf 5 = .ok (.astore_n 2, 1) := dk_77 (dk_at dksX1_transferOf_0 5 rfl rfl)
theorem dX1_transferOf_6 : decode cX1_transferOf 6 = .ok (.aload_n 2, 1) := dk_44 (dk_at dksX1_transferOf_0 6 rfl rfl)
theorem dX1_transferOf_7 : decode cX1_transferOf 7 = .ok (.ifnonnull 7, 3) := dk_199 0 7 (dk_at dksX1_transferOf_0 7 rfl rfl)
theorem dX1_transferOf_10 : decode cX1_transferOf 10 = .ok (.iconst (-1), 1) := dk_2 (dk_at dksX1_transferOf_0 10 rfl rfl)
theorem dX1_transferOf_11 : decode cX1_transferOf 11 = .ok (.goto 7, 3) := dk_167 0 7 (dk_at dksX1_transferOf_0 11 rfl rfl)
theorem dX1_transferOf_14 : decode cX1_transferOf 14 = .ok (.aload_n 2, 1) := dk_44 (dk_at dksX1_transferOf_0 14 rfl rfl)
theorem dX1_transferOf_15 : decode cX1_transferOf 15 = .ok (.getfield 296, 3) := dk_180 1 40 (dk_at dksX1_transferOf_0 15 rfl rfl)
theorem dX1_transferOf_18 : decode cX1_transferOf 18 = .ok (.ireturn, 1) := dk_172 (dk_at dksX1_transferOf_0 18 rfl rfl)
abbrev cX1_storeOf : ByteArray := prog_1_method_51_code
def yX1_storeOf : MethodName := ⟨RX1, "storeOf", "(I)I"⟩
def dkwX1_storeOf_0 : List UInt8 := [42, 27, 182, 1, 28, 77, 44, 199, 0, 7, 2, 167, 0, 7, 44, 180, 1, 41, 172]
abbrev dktX1_storeOf_0 : List UInt8 := dkwX1_storeOf_0 ++ []
theorem dksX1_storeOf_0 : cX1_storeOf.data.toList.drop 0 = dktX1_storeOf_0 := by decide +kernel
theorem dX1_storeOf_0 : decode cX1_storeOf 0 = .ok (.aload_n 0, 1) := dk_42 (dk_at dksX1_storeOf_0 0 rfl rfl)
theorem dX1_storeOf_1 : decode cX1_storeOf 1 = .ok (.iload_n 1, 1) := dk_27 (dk_at dksX1_storeOf_0 1 rfl rfl)
theorem dX1_storeOf_2 : decode cX1_storeOf 2 = .ok (.invokevirtual 284, 3) := dk_182 1 28 (dk_at dksX1_storeOf_0 2 rfl rfl)
theorem dX1_storeOf_5 : decode cX1_storeOf 5 = .ok (.astore_n 2, 1) := dk_77 (dk_at dksX1_storeOf_0 5 rfl rfl)
theorem dX1_storeOf_6 : decode cX1_storeOf 6 = .ok (.aload_n 2, 1) := dk_44 (dk_at dksX1_storeOf_0 6 rfl rfl)
theorem dX1_storeOf_7 : decode cX1_storeOf 7 = .ok (.ifnonnull 7, 3) := dk_199 0 7 (dk_at dksX1_storeOf_0 7 rfl rfl)
theorem dX1_storeOf_10 : decode cX1_storeOf 10 = .ok (.iconst (-1), 1) := dk_2 (dk_at dksX1_storeOf_0 10 rfl rfl)
theorem dX1_storeOf_11 : decode cX1_storeOf 11 = .ok (.goto 7, 3) := dk_167 0 7 (dk_at dksX1_storeOf_0 11 rfl rfl)
theorem dX1_storeOf_14 : decode cX1_storeOf 14 = .ok (.aload_n 2, 1) := dk_44 (dk_at dksX1_storeOf_0 14 rfl rfl)
theorem dX1_storeOf_15 : decode cX1_storeOf 15 = .ok (.getfield 297, 3) := dk_180 1 41 (dk_at dksX1_storeOf_0 15 rfl rfl)
theorem dX1_storeOf_18 : decode cX1_storeOf 18 = .ok (.ireturn, 1) := dk_172 (dk_at dksX1_storeOf_0 18 rfl rfl)
abbrev cX1_wouldSend : ByteArray := prog_1_method_55_code
def yX1_wouldSend : MethodName := ⟨RX1, "wouldSend", "(I)I"⟩
def dkwX1_wouldSend_2 : List UInt8 := [167, 0, 4, 2, 172]
abbrev dktX1_wouldSend_2 : List UInt8 := dkwX1_wouldSend_2 ++ []
def dkwX1_wouldSend_1 : List UInt8 := [183, 0, 80, 77, 44, 27, 182, 0, 129, 153, 0, 18, 44, 180, 1, 44, 42, 180, 0, 26, 180, 1, 44, 100]
abbrev dktX1_wouldSend_1 : List UInt8 := dkwX1_wouldSend_1 ++ dktX1_wouldSend_2
def dkwX1_wouldSend_0 : List UInt8 := [27, 42, 180, 0, 26, 180, 0, 126, 185, 0, 51, 1, 0, 184, 0, 57, 187, 0, 23, 89, 42, 180, 0, 26]
abbrev dktX1_wouldSend_0 : List UInt8 := dkwX1_wouldSend_0 ++ dktX1_wouldSend_1
theorem dksX1_wouldSend_0 : cX1_wouldSend.data.toList.drop 0 = dktX1_wouldSend_0 := by decide +kernel
theorem dksX1_wouldSend_1 : cX1_wouldSend.data.toList.drop 24 = dktX1_wouldSend_1 := dk_seg dksX1_wouldSend_0 24 rfl rfl
theorem dksX1_wouldSend_2 : cX1_wouldSend.data.toList.drop 48 = dktX1_wouldSend_2 := dk_seg dksX1_wouldSend_1 24 rfl rfl
theorem dX1_wouldSend_0 : decode cX1_wouldSend 0 = .ok (.iload_n 1, 1) := dk_27 (dk_at dksX1_wouldSend_0 0 rfl rfl)
theorem dX1_wouldSend_1 : decode cX1_wouldSend 1 = .ok (.aload_n 0, 1) := dk_42 (dk_at dksX1_wouldSend_0 1 rfl rfl)
theorem dX1_wouldSend_2 : decode cX1_wouldSend 2 = .ok (.getfield 26, 3) := dk_180 0 26 (dk_at dksX1_wouldSend_0 2 rfl rfl)
theorem dX1_wouldSend_5 : decode cX1_wouldSend 5 = .ok (.getfield 126, 3) := dk_180 0 126 (dk_at dksX1_wouldSend_0 5 rfl rfl)
theorem dX1_wouldSend_8 : decode cX1_wouldSend 8 = .ok (.invokeinterface 51 1, 5) := by decide +kernel
theorem dX1_wouldSend_13 : decode cX1_wouldSend 13 = .ok (.invokestatic 57, 3) := dk_184 0 57 (dk_at dksX1_wouldSend_0 13 rfl rfl)
theorem dX1_wouldSend_16 : decode cX1_wouldSend 16 = .ok (.new 23, 3) := dk_187 0 23 (dk_at dksX1_wouldSend_0 16 rfl rfl)
theorem dX1_wouldSend_19 : decode cX1_wouldSend 19 = .ok (.dup, 1) := dk_89 (dk_at dksX1_wouldSend_0 19 rfl rfl)
theorem dX1_wouldSend_20 : decode cX1_wouldSend 20 = .ok (.aload_n 0, 1) := dk_42 (dk_at dksX1_wouldSend_0 20 rfl rfl)
theorem dX1_wouldSend_21 : decode cX1_wouldSend 21 = .ok (.getfield 26, 3) := dk_180 0 26 (dk_at dksX1_wouldSend_0 21 rfl rfl)
theorem dX1_wouldSend_24 : decode cX1_wouldSend 24 = .ok (.invokespecial 80, 3) := dk_183 0 80 (dk_at dksX1_wouldSend_1 0 rfl rfl)
theorem dX1_wouldSend_27 : decode cX1_wouldSend 27 = .ok (.astore_n 2, 1) := dk_77 (dk_at dksX1_wouldSend_1 3 rfl rfl)
theorem dX1_wouldSend_28 : decode cX1_wouldSend 28 = .ok (.aload_n 2, 1) := dk_44 (dk_at dksX1_wouldSend_1 4 rfl rfl)
theorem dX1_wouldSend_29 : decode cX1_wouldSend 29 = .ok (.iload_n 1, 1) := dk_27 (dk_at dksX1_wouldSend_1 5 rfl rfl)
theorem dX1_wouldSend_30 : decode cX1_wouldSend 30 = .ok (.invokevirtual 129, 3) := dk_182 0 129 (dk_at dksX1_wouldSend_1 6 rfl rfl)
theorem dX1_wouldSend_33 : decode cX1_wouldSend 33 = .ok (.ifCond .eq 18, 3) := dk_153 0 18 (dk_at dksX1_wouldSend_1 9 rfl rfl)
theorem dX1_wouldSend_36 : decode cX1_wouldSend 36 = .ok (.aload_n 2, 1) := dk_44 (dk_at dksX1_wouldSend_1 12 rfl rfl)
theorem dX1_wouldSend_37 : decode cX1_wouldSend 37 = .ok (.getfield 300, 3) := dk_180 1 44 (dk_at dksX1_wouldSend_1 13 rfl rfl)
theorem dX1_wouldSend_40 : decode cX1_wouldSend 40 = .ok (.aload_n 0, 1) := dk_42 (dk_at dksX1_wouldSend_1 16 rfl rfl)
theorem dX1_wouldSend_41 : decode cX1_wouldSend 41 = .ok (.getfield 26, 3) := dk_180 0 26 (dk_at dksX1_wouldSend_1 17 rfl rfl)
theorem dX1_wouldSend_44 : decode cX1_wouldSend 44 = .ok (.getfield 300, 3) := dk_180 1 44 (dk_at dksX1_wouldSend_1 20 rfl rfl)
theorem dX1_wouldSend_47 : decode cX1_wouldSend 47 = .ok (.isub, 1) := dk_100 (dk_at dksX1_wouldSend_1 23 rfl rfl)
theorem dX1_wouldSend_48 : decode cX1_wouldSend 48 = .ok (.goto 4, 3) := dk_167 0 4 (dk_at dksX1_wouldSend_2 0 rfl rfl)
theorem dX1_wouldSend_51 : decode cX1_wouldSend 51 = .ok (.iconst (-1), 1) := dk_2 (dk_at dksX1_wouldSend_2 3 rfl rfl)
theorem dX1_wouldSend_52 : decode cX1_wouldSend 52 = .ok (.ireturn, 1) := dk_172 (dk_at dksX1_wouldSend_2 4 rfl rfl)
abbrev cX1_begin : ByteArray := prog_1_method_10_code
def yX1_begin : MethodName := ⟨RX1, "begin", "(III)I"⟩
def dkwX1_begin_2 : List UInt8 := [183, 0, 101, 182, 0, 104, 172]
abbrev dktX1_begin_2 : List UInt8 := dkwX1_begin_2 ++ []
def dkwX1_begin_1 : List UInt8 := [180, 0, 26, 182, 0, 91, 184, 0, 95, 42, 182, 0, 98, 42, 180, 0, 26, 187, 0, 65, 89, 27, 28, 29]
abbrev dktX1_begin_1 : List UInt8 := dkwX1_begin_1 ++ dktX1_begin_2
def dkwX1_begin_0 : List UInt8 := [27, 28, 29, 4, 161, 0, 13, 29, 16, 50, 163, 0, 7, 4, 167, 0, 4, 3, 184, 0, 87, 42]
abbrev dktX1_begin_0 : List UInt8 := dkwX1_begin_0 ++ dktX1_begin_1
theorem dksX1_begin_0 : cX1_begin.data.toList.drop 0 = dktX1_begin_0 := by decide +kernel
theorem dksX1_begin_1 : cX1_begin.data.toList.drop 22 = dktX1_begin_1 := dk_seg dksX1_begin_0 22 rfl rfl
theorem dksX1_begin_2 : cX1_begin.data.toList.drop 46 = dktX1_begin_2 := dk_seg dksX1_begin_1 24 rfl rfl
theorem dX1_begin_0 : decode cX1_begin 0 = .ok (.iload_n 1, 1) := dk_27 (dk_at dksX1_begin_0 0 rfl rfl)
theorem dX1_begin_1 : decode cX1_begin 1 = .ok (.iload_n 2, 1) := dk_28 (dk_at dksX1_begin_0 1 rfl rfl)
theorem dX1_begin_2 : decode cX1_begin 2 = .ok (.iload_n 3, 1) := dk_29 (dk_at dksX1_begin_0 2 rfl rfl)
theorem dX1_begin_3 : decode cX1_begin 3 = .ok (.iconst 1, 1) := dk_4 (dk_at dksX1_begin_0 3 rfl rfl)
theorem dX1_begin_4 : decode cX1_begin 4 = .ok (.if_icmp .lt 13, 3) := dk_161 0 13 (dk_at dksX1_begin_0 4 rfl rfl)
theorem dX1_begin_7 : decode cX1_begin 7 = .ok (.iload_n 3, 1) := dk_29 (dk_at dksX1_begin_0 7 rfl rfl)
theorem dX1_begin_8 : decode cX1_begin 8 = .ok (.bipush 50, 2) := dk_16 50 (dk_at dksX1_begin_0 8 rfl rfl)
theorem dX1_begin_10 : decode cX1_begin 10 = .ok (.if_icmp .gt 7, 3) := dk_163 0 7 (dk_at dksX1_begin_0 10 rfl rfl)
theorem dX1_begin_13 : decode cX1_begin 13 = .ok (.iconst 1, 1) := dk_4 (dk_at dksX1_begin_0 13 rfl rfl)
theorem dX1_begin_14 : decode cX1_begin 14 = .ok (.goto 4, 3) := dk_167 0 4 (dk_at dksX1_begin_0 14 rfl rfl)
theorem dX1_begin_17 : decode cX1_begin 17 = .ok (.iconst 0, 1) := dk_3 (dk_at dksX1_begin_0 17 rfl rfl)
theorem dX1_begin_18 : decode cX1_begin 18 = .ok (.invokestatic 87, 3) := dk_184 0 87 (dk_at dksX1_begin_0 18 rfl rfl)
theorem dX1_begin_21 : decode cX1_begin 21 = .ok (.aload_n 0, 1) := dk_42 (dk_at dksX1_begin_0 21 rfl rfl)
theorem dX1_begin_22 : decode cX1_begin 22 = .ok (.getfield 26, 3) := dk_180 0 26 (dk_at dksX1_begin_1 0 rfl rfl)
theorem dX1_begin_25 : decode cX1_begin 25 = .ok (.invokevirtual 91, 3) := dk_182 0 91 (dk_at dksX1_begin_1 3 rfl rfl)
theorem dX1_begin_28 : decode cX1_begin 28 = .ok (.invokestatic 95, 3) := dk_184 0 95 (dk_at dksX1_begin_1 6 rfl rfl)
theorem dX1_begin_31 : decode cX1_begin 31 = .ok (.aload_n 0, 1) := dk_42 (dk_at dksX1_begin_1 9 rfl rfl)
theorem dX1_begin_32 : decode cX1_begin 32 = .ok (.invokevirtual 98, 3) := dk_182 0 98 (dk_at dksX1_begin_1 10 rfl rfl)
theorem dX1_begin_35 : decode cX1_begin 35 = .ok (.aload_n 0, 1) := dk_42 (dk_at dksX1_begin_1 13 rfl rfl)
theorem dX1_begin_36 : decode cX1_begin 36 = .ok (.getfield 26, 3) := dk_180 0 26 (dk_at dksX1_begin_1 14 rfl rfl)
theorem dX1_begin_39 : decode cX1_begin 39 = .ok (.new 65, 3) := dk_187 0 65 (dk_at dksX1_begin_1 17 rfl rfl)
theorem dX1_begin_42 : decode cX1_begin 42 = .ok (.dup, 1) := dk_89 (dk_at dksX1_begin_1 20 rfl rfl)
theorem dX1_begin_43 : decode cX1_begin 43 = .ok (.iload_n 1, 1) := dk_27 (dk_at dksX1_begin_1 21 rfl rfl)
theorem dX1_begin_44 : decode cX1_begin 44 = .ok (.iload_n 2, 1) := dk_28 (dk_at dksX1_begin_1 22 rfl rfl)
theorem dX1_begin_45 : decode cX1_begin 45 = .ok (.iload_n 3, 1) := dk_29 (dk_at dksX1_begin_1 23 rfl rfl)
theorem dX1_begin_46 : decode cX1_begin 46 = .ok (.invokespecial 101, 3) := dk_183 0 101 (dk_at dksX1_begin_2 0 rfl rfl)
theorem dX1_begin_49 : decode cX1_begin 49 = .ok (.invokevirtual 104, 3) := dk_182 0 104 (dk_at dksX1_begin_2 3 rfl rfl)
theorem dX1_begin_52 : decode cX1_begin 52 = .ok (.ireturn, 1) := dk_172 (dk_at dksX1_begin_2 6 rfl rfl)
abbrev cX1_areStores : ByteArray := prog_1_method_8_code
def yX1_areStores : MethodName := ⟨RX1, "areStores", "(IIZ)V"⟩
def dkwX1_areStores_1 : List UInt8 := [28, 153, 0, 7, 4, 167, 0, 4, 3, 184, 0, 71, 177]
abbrev dktX1_areStores_1 : List UInt8 := dkwX1_areStores_1 ++ []
def dkwX1_areStores_0 : List UInt8 := [26, 7, 184, 0, 57, 27, 4, 161, 0, 25, 27, 16, 15, 163, 0, 19, 27, 26, 184, 0, 67, 154, 0, 11]
abbrev dktX1_areStores_0 : List UInt8 := dkwX1_areStores_0 ++ dktX1_areStores_1
theorem dksX1_areStores_0 : cX1_areStores.data.toList.drop 0 = dktX1_areStores_0 := by decide +kernel
theorem dksX1_areStores_1 : cX1_areStores.data.toList.drop 24 = dktX1_areStores_1 := dk_seg dksX1_areStores_0 24 rfl rfl
theorem dX1_areStores_0 : decode cX1_areStores 0 = .ok (.iload_n 0, 1) := dk_26 (dk_at dksX1_areStores_0 0 rfl rfl)
theorem dX1_areStores_1 : decode cX1_areStores 1 = .ok (.iconst 4, 1) := dk_7 (dk_at dksX1_areStores_0 1 rfl rfl)
theorem dX1_areStores_2 : decode cX1_areStores 2 = .ok (.invokestatic 57, 3) := dk_184 0 57 (dk_at dksX1_areStores_0 2 rfl rfl)
theorem dX1_areStores_5 : decode cX1_areStores 5 = .ok (.iload_n 1, 1) := dk_27 (dk_at dksX1_areStores_0 5 rfl rfl)
theorem dX1_areStores_6 : decode cX1_areStores 6 = .ok (.iconst 1, 1) := dk_4 (dk_at dksX1_areStores_0 6 rfl rfl)
theorem dX1_areStores_7 : decode cX1_areStores 7 = .ok (.if_icmp .lt 25, 3) := dk_161 0 25 (dk_at dksX1_areStores_0 7 rfl rfl)
theorem dX1_areStores_10 : decode cX1_areStores 10 = .ok (.iload_n 1, 1) := dk_27 (dk_at dksX1_areStores_0 10 rfl rfl)
theorem dX1_areStores_11 : decode cX1_areStores 11 = .ok (.bipush 15, 2) := dk_16 15 (dk_at dksX1_areStores_0 11 rfl rfl)
theorem dX1_areStores_13 : decode cX1_areStores 13 = .ok (.if_icmp .gt 19, 3) := dk_163 0 19 (dk_at dksX1_areStores_0 13 rfl rfl)
theorem dX1_areStores_16 : decode cX1_areStores 16 = .ok (.iload_n 1, 1) := dk_27 (dk_at dksX1_areStores_0 16 rfl rfl)
theorem dX1_areStores_17 : decode cX1_areStores 17 = .ok (.iload_n 0, 1) := dk_26 (dk_at dksX1_areStores_0 17 rfl rfl)
theorem dX1_areStores_18 : decode cX1_areStores 18 = .ok (.invokestatic 67, 3) := dk_184 0 67 (dk_at dksX1_areStores_0 18 rfl rfl)
theorem dX1_areStores_21 : decode cX1_areStores 21 = .ok (.ifCond .ne 11, 3) := dk_154 0 11 (dk_at dksX1_areStores_0 21 rfl rfl)
theorem dX1_areStores_24 : decode cX1_areStores 24 = .ok (.iload_n 2, 1) := dk_28 (dk_at dksX1_areStores_1 0 rfl rfl)
theorem dX1_areStores_25 : decode cX1_areStores 25 = .ok (.ifCond .eq 7, 3) := dk_153 0 7 (dk_at dksX1_areStores_1 1 rfl rfl)
theorem dX1_areStores_28 : decode cX1_areStores 28 = .ok (.iconst 1, 1) := dk_4 (dk_at dksX1_areStores_1 4 rfl rfl)
theorem dX1_areStores_29 : decode cX1_areStores 29 = .ok (.goto 4, 3) := dk_167 0 4 (dk_at dksX1_areStores_1 5 rfl rfl)
theorem dX1_areStores_32 : decode cX1_areStores 32 = .ok (.iconst 0, 1) := dk_3 (dk_at dksX1_areStores_1 8 rfl rfl)
theorem dX1_areStores_33 : decode cX1_areStores 33 = .ok (.invokestatic 71, 3) := dk_184 0 71 (dk_at dksX1_areStores_1 9 rfl rfl)
theorem dX1_areStores_36 : decode cX1_areStores 36 = .ok (.return_, 1) := dk_177 (dk_at dksX1_areStores_1 12 rfl rfl)
abbrev cX1_argument : ByteArray := prog_1_method_4_code
def yX1_argument : MethodName := ⟨RX1, "argument", "(Z)V"⟩
def dkwX1_argument_0 : List UInt8 := [26, 154, 0, 13, 187, 0, 37, 89, 18, 39, 183, 0, 41, 191, 177]
abbrev dktX1_argument_0 : List UInt8 := dkwX1_argument_0 ++ []
theorem dksX1_argument_0 : cX1_argument.data.toList.drop 0 = dktX1_argument_0 := by decide +kernel
theorem dX1_argument_0 : decode cX1_argument 0 = .ok (.iload_n 0, 1) := dk_26 (dk_at dksX1_argument_0 0 rfl rfl)
theorem dX1_argument_1 : decode cX1_argument 1 = .ok (.ifCond .ne 13, 3) := dk_154 0 13 (dk_at dksX1_argument_0 1 rfl rfl)
theorem dX1_argument_4 : decode cX1_argument 4 = .ok (.new 37, 3) := dk_187 0 37 (dk_at dksX1_argument_0 4 rfl rfl)
theorem dX1_argument_7 : decode cX1_argument 7 = .ok (.dup, 1) := dk_89 (dk_at dksX1_argument_0 7 rfl rfl)
theorem dX1_argument_8 : decode cX1_argument 8 = .ok (.ldc 39, 2) := dk_18 39 (dk_at dksX1_argument_0 8 rfl rfl)
theorem dX1_argument_10 : decode cX1_argument 10 = .ok (.invokespecial 41, 3) := dk_183 0 41 (dk_at dksX1_argument_0 10 rfl rfl)
theorem dX1_argument_13 : decode cX1_argument 13 = .ok (.athrow, 1) := dk_191 (dk_at dksX1_argument_0 13 rfl rfl)
theorem dX1_argument_14 : decode cX1_argument 14 = .ok (.return_, 1) := dk_177 (dk_at dksX1_argument_0 14 rfl rfl)
abbrev cX1_state : ByteArray := prog_1_method_5_code
def yX1_state : MethodName := ⟨RX1, "state", "(Z)V"⟩
def dkwX1_state_0 : List UInt8 := [26, 154, 0, 13, 187, 0, 42, 89, 18, 44, 183, 0, 46, 191, 177]
abbrev dktX1_state_0 : List UInt8 := dkwX1_state_0 ++ []
theorem dksX1_state_0 : cX1_state.data.toList.drop 0 = dktX1_state_0 := by decide +kernel
theorem dX1_state_0 : decode cX1_state 0 = .ok (.iload_n 0, 1) := dk_26 (dk_at dksX1_state_0 0 rfl rfl)
theorem dX1_state_1 : decode cX1_state 1 = .ok (.ifCond .ne 13, 3) := dk_154 0 13 (dk_at dksX1_state_0 1 rfl rfl)
theorem dX1_state_4 : decode cX1_state 4 = .ok (.new 42, 3) := dk_187 0 42 (dk_at dksX1_state_0 4 rfl rfl)
theorem dX1_state_7 : decode cX1_state 7 = .ok (.dup, 1) := dk_89 (dk_at dksX1_state_0 7 rfl rfl)
theorem dX1_state_8 : decode cX1_state 8 = .ok (.ldc 44, 2) := dk_18 44 (dk_at dksX1_state_0 8 rfl rfl)
theorem dX1_state_10 : decode cX1_state 10 = .ok (.invokespecial 46, 3) := dk_183 0 46 (dk_at dksX1_state_0 10 rfl rfl)
theorem dX1_state_13 : decode cX1_state 13 = .ok (.athrow, 1) := dk_191 (dk_at dksX1_state_0 13 rfl rfl)
theorem dX1_state_14 : decode cX1_state 14 = .ok (.return_, 1) := dk_177 (dk_at dksX1_state_0 14 rfl rfl)
abbrev cX1_giveUp : ByteArray := prog_1_method_11_code
def yX1_giveUp : MethodName := ⟨RX1, "giveUp", "(I)I"⟩
def dkwX1_giveUp_1 : List UInt8 := [184, 0, 95, 42, 182, 0, 98, 42, 180, 0, 26, 27, 182, 0, 112, 172]
abbrev dktX1_giveUp_1 : List UInt8 := dkwX1_giveUp_1 ++ []
def dkwX1_giveUp_0 : List UInt8 := [27, 42, 180, 0, 26, 180, 0, 47, 185, 0, 51, 1, 0, 184, 0, 57, 42, 180, 0, 26, 27, 182, 0, 108]
abbrev dktX1_giveUp_0 : List UInt8 := dkwX1_giveUp_0 ++ dktX1_giveUp_1
theorem dksX1_giveUp_0 : cX1_giveUp.data.toList.drop 0 = dktX1_giveUp_0 := by decide +kernel
theorem dksX1_giveUp_1 : cX1_giveUp.data.toList.drop 24 = dktX1_giveUp_1 := dk_seg dksX1_giveUp_0 24 rfl rfl
theorem dX1_giveUp_0 : decode cX1_giveUp 0 = .ok (.iload_n 1, 1) := dk_27 (dk_at dksX1_giveUp_0 0 rfl rfl)
theorem dX1_giveUp_1 : decode cX1_giveUp 1 = .ok (.aload_n 0, 1) := dk_42 (dk_at dksX1_giveUp_0 1 rfl rfl)
theorem dX1_giveUp_2 : decode cX1_giveUp 2 = .ok (.getfield 26, 3) := dk_180 0 26 (dk_at dksX1_giveUp_0 2 rfl rfl)
theorem dX1_giveUp_5 : decode cX1_giveUp 5 = .ok (.getfield 47, 3) := dk_180 0 47 (dk_at dksX1_giveUp_0 5 rfl rfl)
theorem dX1_giveUp_8 : decode cX1_giveUp 8 = .ok (.invokeinterface 51 1, 5) := by decide +kernel
theorem dX1_giveUp_13 : decode cX1_giveUp 13 = .ok (.invokestatic 57, 3) := dk_184 0 57 (dk_at dksX1_giveUp_0 13 rfl rfl)
theorem dX1_giveUp_16 : decode cX1_giveUp 16 = .ok (.aload_n 0, 1) := dk_42 (dk_at dksX1_giveUp_0 16 rfl rfl)
theorem dX1_giveUp_17 : decode cX1_giveUp 17 = .ok (.getfield 26, 3) := dk_180 0 26 (dk_at dksX1_giveUp_0 17 rfl rfl)
theorem dX1_giveUp_20 : decode cX1_giveUp 20 = .ok (.iload_n 1, 1) := dk_27 (dk_at dksX1_giveUp_0 20 rfl rfl)
theorem dX1_giveUp_21 : decode cX1_giveUp 21 = .ok (.invokevirtual 108, 3) := dk_182 0 108 (dk_at dksX1_giveUp_0 21 rfl rfl)
theorem dX1_giveUp_24 : decode cX1_giveUp 24 = .ok (.invokestatic 95, 3) := dk_184 0 95 (dk_at dksX1_giveUp_1 0 rfl rfl)
theorem dX1_giveUp_27 : decode cX1_giveUp 27 = .ok (.aload_n 0, 1) := dk_42 (dk_at dksX1_giveUp_1 3 rfl rfl)
theorem dX1_giveUp_28 : decode cX1_giveUp 28 = .ok (.invokevirtual 98, 3) := dk_182 0 98 (dk_at dksX1_giveUp_1 4 rfl rfl)
theorem dX1_giveUp_31 : decode cX1_giveUp 31 = .ok (.aload_n 0, 1) := dk_42 (dk_at dksX1_giveUp_1 7 rfl rfl)
theorem dX1_giveUp_32 : decode cX1_giveUp 32 = .ok (.getfield 26, 3) := dk_180 0 26 (dk_at dksX1_giveUp_1 8 rfl rfl)
theorem dX1_giveUp_35 : decode cX1_giveUp 35 = .ok (.iload_n 1, 1) := dk_27 (dk_at dksX1_giveUp_1 11 rfl rfl)
theorem dX1_giveUp_36 : decode cX1_giveUp 36 = .ok (.invokevirtual 112, 3) := dk_182 0 112 (dk_at dksX1_giveUp_1 12 rfl rfl)
theorem dX1_giveUp_39 : decode cX1_giveUp 39 = .ok (.ireturn, 1) := dk_172 (dk_at dksX1_giveUp_1 15 rfl rfl)
abbrev cX1_ask : ByteArray := prog_1_method_12_code
def yX1_ask : MethodName := ⟨RX1, "ask", "(II)I"⟩
def dkwX1_ask_1 : List UInt8 := [180, 0, 26, 27, 28, 182, 0, 122, 172]
abbrev dktX1_ask_1 : List UInt8 := dkwX1_ask_1 ++ []
def dkwX1_ask_0 : List UInt8 := [42, 27, 28, 182, 0, 116, 42, 180, 0, 26, 27, 28, 182, 0, 119, 184, 0, 95, 42, 182, 0, 98, 42]
abbrev dktX1_ask_0 : List UInt8 := dkwX1_ask_0 ++ dktX1_ask_1
theorem dksX1_ask_0 : cX1_ask.data.toList.drop 0 = dktX1_ask_0 := by decide +kernel
theorem dksX1_ask_1 : cX1_ask.data.toList.drop 23 = dktX1_ask_1 := dk_seg dksX1_ask_0 23 rfl rfl
theorem dX1_ask_0 : decode cX1_ask 0 = .ok (.aload_n 0, 1) := dk_42 (dk_at dksX1_ask_0 0 rfl rfl)
theorem dX1_ask_1 : decode cX1_ask 1 = .ok (.iload_n 1, 1) := dk_27 (dk_at dksX1_ask_0 1 rfl rfl)
theorem dX1_ask_2 : decode cX1_ask 2 = .ok (.iload_n 2, 1) := dk_28 (dk_at dksX1_ask_0 2 rfl rfl)
theorem dX1_ask_3 : decode cX1_ask 3 = .ok (.invokevirtual 116, 3) := dk_182 0 116 (dk_at dksX1_ask_0 3 rfl rfl)
theorem dX1_ask_6 : decode cX1_ask 6 = .ok (.aload_n 0, 1) := dk_42 (dk_at dksX1_ask_0 6 rfl rfl)
theorem dX1_ask_7 : decode cX1_ask 7 = .ok (.getfield 26, 3) := dk_180 0 26 (dk_at dksX1_ask_0 7 rfl rfl)
theorem dX1_ask_10 : decode cX1_ask 10 = .ok (.iload_n 1, 1) := dk_27 (dk_at dksX1_ask_0 10 rfl rfl)
theorem dX1_ask_11 : decode cX1_ask 11 = .ok (.iload_n 2, 1) := dk_28 (dk_at dksX1_ask_0 11 rfl rfl)
theorem dX1_ask_12 : decode cX1_ask 12 = .ok (.invokevirtual 119, 3) := dk_182 0 119 (dk_at dksX1_ask_0 12 rfl rfl)
theorem dX1_ask_15 : decode cX1_ask 15 = .ok (.invokestatic 95, 3) := dk_184 0 95 (dk_at dksX1_ask_0 15 rfl rfl)
theorem dX1_ask_18 : decode cX1_ask 18 = .ok (.aload_n 0, 1) := dk_42 (dk_at dksX1_ask_0 18 rfl rfl)
theorem dX1_ask_19 : decode cX1_ask 19 = .ok (.invokevirtual 98, 3) := dk_182 0 98 (dk_at dksX1_ask_0 19 rfl rfl)
theorem dX1_ask_22 : decode cX1_ask 22 = .ok (.aload_n 0, 1) := dk_42 (dk_at dksX1_ask_0 22 rfl rfl)
theorem dX1_ask_23 : decode cX1_ask 23 = .ok (.getfield 26, 3) := dk_180 0 26 (dk_at dksX1_ask_1 0 rfl rfl)
theorem dX1_ask_26 : decode cX1_ask 26 = .ok (.iload_n 1, 1) := dk_27 (dk_at dksX1_ask_1 3 rfl rfl)
theorem dX1_ask_27 : decode cX1_ask 27 = .ok (.iload_n 2, 1) := dk_28 (dk_at dksX1_ask_1 4 rfl rfl)
theorem dX1_ask_28 : decode cX1_ask 28 = .ok (.invokevirtual 122, 3) := dk_182 0 122 (dk_at dksX1_ask_1 5 rfl rfl)
theorem dX1_ask_31 : decode cX1_ask 31 = .ok (.ireturn, 1) := dk_172 (dk_at dksX1_ask_1 8 rfl rfl)
abbrev cX1_isStoreOf : ByteArray := prog_1_method_7_code
def yX1_isStoreOf : MethodName := ⟨RX1, "isStoreOf", "(II)V"⟩
def dkwX1_isStoreOf_0 : List UInt8 := [27, 7, 184, 0, 57, 28, 42, 180, 0, 26, 180, 0, 47, 185, 0, 51, 1, 0, 184, 0, 57, 177]
abbrev dktX1_isStoreOf_0 : List UInt8 := dkwX1_isStoreOf_0 ++ []
theorem dksX1_isStoreOf_0 : cX1_isStoreOf.data.toList.drop 0 = dktX1_isStoreOf_0 := by decide +kernel
theorem dX1_isStoreOf_0 : decode cX1_isStoreOf 0 = .ok (.iload_n 1, 1) := dk_27 (dk_at dksX1_isStoreOf_0 0 rfl rfl)
theorem dX1_isStoreOf_1 : decode cX1_isStoreOf 1 = .ok (.iconst 4, 1) := dk_7 (dk_at dksX1_isStoreOf_0 1 rfl rfl)
theorem dX1_isStoreOf_2 : decode cX1_isStoreOf 2 = .ok (.invokestatic 57, 3) := dk_184 0 57 (dk_at dksX1_isStoreOf_0 2 rfl rfl)
theorem dX1_isStoreOf_5 : decode cX1_isStoreOf 5 = .ok (.iload_n 2, 1) := dk_28 (dk_at dksX1_isStoreOf_0 5 rfl rfl)
theorem dX1_isStoreOf_6 : decode cX1_isStoreOf 6 = .ok (.aload_n 0, 1) := dk_42 (dk_at dksX1_isStoreOf_0 6 rfl rfl)
theorem dX1_isStoreOf_7 : decode cX1_isStoreOf 7 = .ok (.getfield 26, 3) := dk_180 0 26 (dk_at dksX1_isStoreOf_0 7 rfl rfl)
theorem dX1_isStoreOf_10 : decode cX1_isStoreOf 10 = .ok (.getfield 47, 3) := dk_180 0 47 (dk_at dksX1_isStoreOf_0 10 rfl rfl)
theorem dX1_isStoreOf_13 : decode cX1_isStoreOf 13 = .ok (.invokeinterface 51 1, 5) := by decide +kernel
theorem dX1_isStoreOf_18 : decode cX1_isStoreOf 18 = .ok (.invokestatic 57, 3) := dk_184 0 57 (dk_at dksX1_isStoreOf_0 18 rfl rfl)
theorem dX1_isStoreOf_21 : decode cX1_isStoreOf 21 = .ok (.return_, 1) := dk_177 (dk_at dksX1_isStoreOf_0 21 rfl rfl)
abbrev cX1_deliver : ByteArray := prog_1_method_13_code
def yX1_deliver : MethodName := ⟨RX1, "deliver", "(I)Z"⟩
def dkwX1_deliver_1 : List UInt8 := [27, 182, 0, 129, 172]
abbrev dktX1_deliver_1 : List UInt8 := dkwX1_deliver_1 ++ []
def dkwX1_deliver_0 : List UInt8 := [27, 42, 180, 0, 26, 180, 0, 126, 185, 0, 51, 1, 0, 184, 0, 57, 42, 182, 0, 98, 42, 180, 0, 26]
abbrev dktX1_deliver_0 : List UInt8 := dkwX1_deliver_0 ++ dktX1_deliver_1
theorem dksX1_deliver_0 : cX1_deliver.data.toList.drop 0 = dktX1_deliver_0 := by decide +kernel
theorem dksX1_deliver_1 : cX1_deliver.data.toList.drop 24 = dktX1_deliver_1 := dk_seg dksX1_deliver_0 24 rfl rfl
theorem dX1_deliver_0 : decode cX1_deliver 0 = .ok (.iload_n 1, 1) := dk_27 (dk_at dksX1_deliver_0 0 rfl rfl)
theorem dX1_deliver_1 : decode cX1_deliver 1 = .ok (.aload_n 0, 1) := dk_42 (dk_at dksX1_deliver_0 1 rfl rfl)
theorem dX1_deliver_2 : decode cX1_deliver 2 = .ok (.getfield 26, 3) := dk_180 0 26 (dk_at dksX1_deliver_0 2 rfl rfl)
theorem dX1_deliver_5 : decode cX1_deliver 5 = .ok (.getfield 126, 3) := dk_180 0 126 (dk_at dksX1_deliver_0 5 rfl rfl)
theorem dX1_deliver_8 : decode cX1_deliver 8 = .ok (.invokeinterface 51 1, 5) := by decide +kernel
theorem dX1_deliver_13 : decode cX1_deliver 13 = .ok (.invokestatic 57, 3) := dk_184 0 57 (dk_at dksX1_deliver_0 13 rfl rfl)
theorem dX1_deliver_16 : decode cX1_deliver 16 = .ok (.aload_n 0, 1) := dk_42 (dk_at dksX1_deliver_0 16 rfl rfl)
theorem dX1_deliver_17 : decode cX1_deliver 17 = .ok (.invokevirtual 98, 3) := dk_182 0 98 (dk_at dksX1_deliver_0 17 rfl rfl)
theorem dX1_deliver_20 : decode cX1_deliver 20 = .ok (.aload_n 0, 1) := dk_42 (dk_at dksX1_deliver_0 20 rfl rfl)
theorem dX1_deliver_21 : decode cX1_deliver 21 = .ok (.getfield 26, 3) := dk_180 0 26 (dk_at dksX1_deliver_0 21 rfl rfl)
theorem dX1_deliver_24 : decode cX1_deliver 24 = .ok (.iload_n 1, 1) := dk_27 (dk_at dksX1_deliver_1 0 rfl rfl)
theorem dX1_deliver_25 : decode cX1_deliver 25 = .ok (.invokevirtual 129, 3) := dk_182 0 129 (dk_at dksX1_deliver_1 1 rfl rfl)
theorem dX1_deliver_28 : decode cX1_deliver 28 = .ok (.ireturn, 1) := dk_172 (dk_at dksX1_deliver_1 4 rfl rfl)
abbrev cX1_lose : ByteArray := prog_1_method_15_code
def yX1_lose : MethodName := ⟨RX1, "lose", "(I)I"⟩
def dkwX1_lose_1 : List UInt8 := [27, 182, 0, 138, 172]
abbrev dktX1_lose_1 : List UInt8 := dkwX1_lose_1 ++ []
def dkwX1_lose_0 : List UInt8 := [27, 42, 180, 0, 26, 180, 0, 126, 185, 0, 51, 1, 0, 184, 0, 57, 42, 182, 0, 98, 42, 180, 0, 26]
abbrev dktX1_lose_0 : List UInt8 := dkwX1_lose_0 ++ dktX1_lose_1
theorem dksX1_lose_0 : cX1_lose.data.toList.drop 0 = dktX1_lose_0 := by decide +kernel
theorem dksX1_lose_1 : cX1_lose.data.toList.drop 24 = dktX1_lose_1 := dk_seg dksX1_lose_0 24 rfl rfl
theorem dX1_lose_0 : decode cX1_lose 0 = .ok (.iload_n 1, 1) := dk_27 (dk_at dksX1_lose_0 0 rfl rfl)
theorem dX1_lose_1 : decode cX1_lose 1 = .ok (.aload_n 0, 1) := dk_42 (dk_at dksX1_lose_0 1 rfl rfl)
theorem dX1_lose_2 : decode cX1_lose 2 = .ok (.getfield 26, 3) := dk_180 0 26 (dk_at dksX1_lose_0 2 rfl rfl)
theorem dX1_lose_5 : decode cX1_lose 5 = .ok (.getfield 126, 3) := dk_180 0 126 (dk_at dksX1_lose_0 5 rfl rfl)
theorem dX1_lose_8 : decode cX1_lose 8 = .ok (.invokeinterface 51 1, 5) := by decide +kernel
theorem dX1_lose_13 : decode cX1_lose 13 = .ok (.invokestatic 57, 3) := dk_184 0 57 (dk_at dksX1_lose_0 13 rfl rfl)
theorem dX1_lose_16 : decode cX1_lose 16 = .ok (.aload_n 0, 1) := dk_42 (dk_at dksX1_lose_0 16 rfl rfl)
theorem dX1_lose_17 : decode cX1_lose 17 = .ok (.invokevirtual 98, 3) := dk_182 0 98 (dk_at dksX1_lose_0 17 rfl rfl)
theorem dX1_lose_20 : decode cX1_lose 20 = .ok (.aload_n 0, 1) := dk_42 (dk_at dksX1_lose_0 20 rfl rfl)
theorem dX1_lose_21 : decode cX1_lose 21 = .ok (.getfield 26, 3) := dk_180 0 26 (dk_at dksX1_lose_0 21 rfl rfl)
theorem dX1_lose_24 : decode cX1_lose 24 = .ok (.iload_n 1, 1) := dk_27 (dk_at dksX1_lose_1 0 rfl rfl)
theorem dX1_lose_25 : decode cX1_lose 25 = .ok (.invokevirtual 138, 3) := dk_182 0 138 (dk_at dksX1_lose_1 1 rfl rfl)
theorem dX1_lose_28 : decode cX1_lose 28 = .ok (.ireturn, 1) := dk_172 (dk_at dksX1_lose_1 4 rfl rfl)
abbrev cX1_crash : ByteArray := prog_1_method_16_code
def yX1_crash : MethodName := ⟨RX1, "crash", "(I)I"⟩
def dkwX1_crash_1 : List UInt8 := [27, 182, 0, 144, 172]
abbrev dktX1_crash_1 : List UInt8 := dkwX1_crash_1 ++ []
def dkwX1_crash_0 : List UInt8 := [27, 8, 184, 0, 57, 42, 180, 0, 26, 27, 182, 0, 141, 184, 0, 95, 42, 182, 0, 98, 42, 180, 0, 26]
abbrev dktX1_crash_0 : List UInt8 := dkwX1_crash_0 ++ dktX1_crash_1
theorem dksX1_crash_0 : cX1_crash.data.toList.drop 0 = dktX1_crash_0 := by decide +kernel
theorem dksX1_crash_1 : cX1_crash.data.toList.drop 24 = dktX1_crash_1 := dk_seg dksX1_crash_0 24 rfl rfl
theorem dX1_crash_0 : decode cX1_crash 0 = .ok (.iload_n 1, 1) := dk_27 (dk_at dksX1_crash_0 0 rfl rfl)
theorem dX1_crash_1 : decode cX1_crash 1 = .ok (.iconst 5, 1) := dk_8 (dk_at dksX1_crash_0 1 rfl rfl)
theorem dX1_crash_2 : decode cX1_crash 2 = .ok (.invokestatic 57, 3) := dk_184 0 57 (dk_at dksX1_crash_0 2 rfl rfl)
theorem dX1_crash_5 : decode cX1_crash 5 = .ok (.aload_n 0, 1) := dk_42 (dk_at dksX1_crash_0 5 rfl rfl)
theorem dX1_crash_6 : decode cX1_crash 6 = .ok (.getfield 26, 3) := dk_180 0 26 (dk_at dksX1_crash_0 6 rfl rfl)
theorem dX1_crash_9 : decode cX1_crash 9 = .ok (.iload_n 1, 1) := dk_27 (dk_at dksX1_crash_0 9 rfl rfl)
theorem dX1_crash_10 : decode cX1_crash 10 = .ok (.invokevirtual 141, 3) := dk_182 0 141 (dk_at dksX1_crash_0 10 rfl rfl)
theorem dX1_crash_13 : decode cX1_crash 13 = .ok (.invokestatic 95, 3) := dk_184 0 95 (dk_at dksX1_crash_0 13 rfl rfl)
theorem dX1_crash_16 : decode cX1_crash 16 = .ok (.aload_n 0, 1) := dk_42 (dk_at dksX1_crash_0 16 rfl rfl)
theorem dX1_crash_17 : decode cX1_crash 17 = .ok (.invokevirtual 98, 3) := dk_182 0 98 (dk_at dksX1_crash_0 17 rfl rfl)
theorem dX1_crash_20 : decode cX1_crash 20 = .ok (.aload_n 0, 1) := dk_42 (dk_at dksX1_crash_0 20 rfl rfl)
theorem dX1_crash_21 : decode cX1_crash 21 = .ok (.getfield 26, 3) := dk_180 0 26 (dk_at dksX1_crash_0 21 rfl rfl)
theorem dX1_crash_24 : decode cX1_crash 24 = .ok (.iload_n 1, 1) := dk_27 (dk_at dksX1_crash_1 0 rfl rfl)
theorem dX1_crash_25 : decode cX1_crash 25 = .ok (.invokevirtual 144, 3) := dk_182 0 144 (dk_at dksX1_crash_1 1 rfl rfl)
theorem dX1_crash_28 : decode cX1_crash 28 = .ok (.ireturn, 1) := dk_172 (dk_at dksX1_crash_1 4 rfl rfl)
abbrev cX1_recover : ByteArray := prog_1_method_17_code
def yX1_recover : MethodName := ⟨RX1, "recover", "(I)I"⟩
def dkwX1_recover_1 : List UInt8 := [42, 182, 0, 98, 42, 180, 0, 26, 27, 182, 0, 147, 172]
abbrev dktX1_recover_1 : List UInt8 := dkwX1_recover_1 ++ []
def dkwX1_recover_0 : List UInt8 := [27, 8, 184, 0, 57, 42, 180, 0, 26, 27, 182, 0, 141, 154, 0, 7, 4, 167, 0, 4, 3, 184, 0, 95]
abbrev dktX1_recover_0 : List UInt8 := dkwX1_recover_0 ++ dktX1_recover_1
theorem dksX1_recover_0 : cX1_recover.data.toList.drop 0 = dktX1_recover_0 := by decide +kernel
theorem dksX1_recover_1 : cX1_recover.data.toList.drop 24 = dktX1_recover_1 := dk_seg dksX1_recover_0 24 rfl rfl
theorem dX1_recover_0 : decode cX1_recover 0 = .ok (.iload_n 1, 1) := dk_27 (dk_at dksX1_recover_0 0 rfl rfl)
theorem dX1_recover_1 : decode cX1_recover 1 = .ok (.iconst 5, 1) := dk_8 (dk_at dksX1_recover_0 1 rfl rfl)
theorem dX1_recover_2 : decode cX1_recover 2 = .ok (.invokestatic 57, 3) := dk_184 0 57 (dk_at dksX1_recover_0 2 rfl rfl)
theorem dX1_recover_5 : decode cX1_recover 5 = .ok (.aload_n 0, 1) := dk_42 (dk_at dksX1_recover_0 5 rfl rfl)
theorem dX1_recover_6 : decode cX1_recover 6 = .ok (.getfield 26, 3) := dk_180 0 26 (dk_at dksX1_recover_0 6 rfl rfl)
theorem dX1_recover_9 : decode cX1_recover 9 = .ok (.iload_n 1, 1) := dk_27 (dk_at dksX1_recover_0 9 rfl rfl)
theorem dX1_recover_10 : decode cX1_recover 10 = .ok (.invokevirtual 141, 3) := dk_182 0 141 (dk_at dksX1_recover_0 10 rfl rfl)
theorem dX1_recover_13 : decode cX1_recover 13 = .ok (.ifCond .ne 7, 3) := dk_154 0 7 (dk_at dksX1_recover_0 13 rfl rfl)
theorem dX1_recover_16 : decode cX1_recover 16 = .ok (.iconst 1, 1) := dk_4 (dk_at dksX1_recover_0 16 rfl rfl)
theorem dX1_recover_17 : decode cX1_recover 17 = .ok (.goto 4, 3) := dk_167 0 4 (dk_at dksX1_recover_0 17 rfl rfl)
theorem dX1_recover_20 : decode cX1_recover 20 = .ok (.iconst 0, 1) := dk_3 (dk_at dksX1_recover_0 20 rfl rfl)
theorem dX1_recover_21 : decode cX1_recover 21 = .ok (.invokestatic 95, 3) := dk_184 0 95 (dk_at dksX1_recover_0 21 rfl rfl)
theorem dX1_recover_24 : decode cX1_recover 24 = .ok (.aload_n 0, 1) := dk_42 (dk_at dksX1_recover_1 0 rfl rfl)
theorem dX1_recover_25 : decode cX1_recover 25 = .ok (.invokevirtual 98, 3) := dk_182 0 98 (dk_at dksX1_recover_1 1 rfl rfl)
theorem dX1_recover_28 : decode cX1_recover 28 = .ok (.aload_n 0, 1) := dk_42 (dk_at dksX1_recover_1 4 rfl rfl)
theorem dX1_recover_29 : decode cX1_recover 29 = .ok (.getfield 26, 3) := dk_180 0 26 (dk_at dksX1_recover_1 5 rfl rfl)
theorem dX1_recover_32 : decode cX1_recover 32 = .ok (.iload_n 1, 1) := dk_27 (dk_at dksX1_recover_1 8 rfl rfl)
theorem dX1_recover_33 : decode cX1_recover 33 = .ok (.invokevirtual 147, 3) := dk_182 0 147 (dk_at dksX1_recover_1 9 rfl rfl)
theorem dX1_recover_36 : decode cX1_recover 36 = .ok (.ireturn, 1) := dk_172 (dk_at dksX1_recover_1 12 rfl rfl)
abbrev cX1_append : ByteArray := prog_1_method_18_code
def yX1_append : MethodName := ⟨RX1, "append", "(I)I"⟩
def dkwX1_append_2 : List UInt8 := [182, 0, 153, 87, 42, 180, 0, 12, 182, 0, 150, 172]
abbrev dktX1_append_2 : List UInt8 := dkwX1_append_2 ++ []
def dkwX1_append_1 : List UInt8 := [182, 0, 150, 16, 60, 162, 0, 7, 4, 167, 0, 4, 3, 184, 0, 95, 42, 180, 0, 12, 27, 146]
abbrev dktX1_append_1 : List UInt8 := dkwX1_append_1 ++ dktX1_append_2
def dkwX1_append_0 : List UInt8 := [27, 16, 33, 161, 0, 13, 27, 16, 126, 163, 0, 7, 4, 167, 0, 4, 3, 184, 0, 71, 42, 180, 0, 12]
abbrev dktX1_append_0 : List UInt8 := dkwX1_append_0 ++ dktX1_append_1
theorem dksX1_append_0 : cX1_append.data.toList.drop 0 = dktX1_append_0 := by decide +kernel
theorem dksX1_append_1 : cX1_append.data.toList.drop 24 = dktX1_append_1 := dk_seg dksX1_append_0 24 rfl rfl
theorem dksX1_append_2 : cX1_append.data.toList.drop 46 = dktX1_append_2 := dk_seg dksX1_append_1 22 rfl rfl
theorem dX1_append_0 : decode cX1_append 0 = .ok (.iload_n 1, 1) := dk_27 (dk_at dksX1_append_0 0 rfl rfl)
theorem dX1_append_1 : decode cX1_append 1 = .ok (.bipush 33, 2) := dk_16 33 (dk_at dksX1_append_0 1 rfl rfl)
theorem dX1_append_3 : decode cX1_append 3 = .ok (.if_icmp .lt 13, 3) := dk_161 0 13 (dk_at dksX1_append_0 3 rfl rfl)
theorem dX1_append_6 : decode cX1_append 6 = .ok (.iload_n 1, 1) := dk_27 (dk_at dksX1_append_0 6 rfl rfl)
theorem dX1_append_7 : decode cX1_append 7 = .ok (.bipush 126, 2) := dk_16 126 (dk_at dksX1_append_0 7 rfl rfl)
theorem dX1_append_9 : decode cX1_append 9 = .ok (.if_icmp .gt 7, 3) := dk_163 0 7 (dk_at dksX1_append_0 9 rfl rfl)
theorem dX1_append_12 : decode cX1_append 12 = .ok (.iconst 1, 1) := dk_4 (dk_at dksX1_append_0 12 rfl rfl)
theorem dX1_append_13 : decode cX1_append 13 = .ok (.goto 4, 3) := dk_167 0 4 (dk_at dksX1_append_0 13 rfl rfl)
theorem dX1_append_16 : decode cX1_append 16 = .ok (.iconst 0, 1) := dk_3 (dk_at dksX1_append_0 16 rfl rfl)
theorem dX1_append_17 : decode cX1_append 17 = .ok (.invokestatic 71, 3) := dk_184 0 71 (dk_at dksX1_append_0 17 rfl rfl)
theorem dX1_append_20 : decode cX1_append 20 = .ok (.aload_n 0, 1) := dk_42 (dk_at dksX1_append_0 20 rfl rfl)
theorem dX1_append_21 : decode cX1_append 21 = .ok (.getfield 12, 3) := dk_180 0 12 (dk_at dksX1_append_0 21 rfl rfl)
theorem dX1_append_24 : decode cX1_append 24 = .ok (.invokevirtual 150, 3) := dk_182 0 150 (dk_at dksX1_append_1 0 rfl rfl)
theorem dX1_append_27 : decode cX1_append 27 = .ok (.bipush 60, 2) := dk_16 60 (dk_at dksX1_append_1 3 rfl rfl)
theorem dX1_append_29 : decode cX1_append 29 = .ok (.if_icmp .ge 7, 3) := dk_162 0 7 (dk_at dksX1_append_1 5 rfl rfl)
theorem dX1_append_32 : decode cX1_append 32 = .ok (.iconst 1, 1) := dk_4 (dk_at dksX1_append_1 8 rfl rfl)
theorem dX1_append_33 : decode cX1_append 33 = .ok (.goto 4, 3) := dk_167 0 4 (dk_at dksX1_append_1 9 rfl rfl)
theorem dX1_append_36 : decode cX1_append 36 = .ok (.iconst 0, 1) := dk_3 (dk_at dksX1_append_1 12 rfl rfl)
theorem dX1_append_37 : decode cX1_append 37 = .ok (.invokestatic 95, 3) := dk_184 0 95 (dk_at dksX1_append_1 13 rfl rfl)
theorem dX1_append_40 : decode cX1_append 40 = .ok (.aload_n 0, 1) := dk_42 (dk_at dksX1_append_1 16 rfl rfl)
theorem dX1_append_41 : decode cX1_append 41 = .ok (.getfield 12, 3) := dk_180 0 12 (dk_at dksX1_append_1 17 rfl rfl)
theorem dX1_append_44 : decode cX1_append 44 = .ok (.iload_n 1, 1) := dk_27 (dk_at dksX1_append_1 20 rfl rfl)
theorem dX1_append_45 : decode cX1_append 45 = .ok (.i2c, 1) := dk_146 (dk_at dksX1_append_1 21 rfl rfl)
theorem dX1_append_46 : decode cX1_append 46 = .ok (.invokevirtual 153, 3) := dk_182 0 153 (dk_at dksX1_append_2 0 rfl rfl)
theorem dX1_append_49 : decode cX1_append 49 = .ok (.pop, 1) := dk_87 (dk_at dksX1_append_2 3 rfl rfl)
theorem dX1_append_50 : decode cX1_append 50 = .ok (.aload_n 0, 1) := dk_42 (dk_at dksX1_append_2 4 rfl rfl)
theorem dX1_append_51 : decode cX1_append 51 = .ok (.getfield 12, 3) := dk_180 0 12 (dk_at dksX1_append_2 5 rfl rfl)
theorem dX1_append_54 : decode cX1_append 54 = .ok (.invokevirtual 150, 3) := dk_182 0 150 (dk_at dksX1_append_2 8 rfl rfl)
theorem dX1_append_57 : decode cX1_append 57 = .ok (.ireturn, 1) := dk_172 (dk_at dksX1_append_2 11 rfl rfl)
abbrev cX1_runCourse : ByteArray := prog_1_method_23_code
def yX1_runCourse : MethodName := ⟨RX1, "runCourse", "()I"⟩
def dkwX1_runCourse_3 : List UInt8 := [28, 172]
abbrev dktX1_runCourse_3 : List UInt8 := dkwX1_runCourse_3 ++ []
def dkwX1_runCourse_2 : List UInt8 := [180, 0, 200, 28, 185, 0, 61, 2, 0, 192, 0, 203, 182, 0, 205, 153, 0, 9, 132, 2, 1, 167, 255, 220]
abbrev dktX1_runCourse_2 : List UInt8 := dkwX1_runCourse_2 ++ dktX1_runCourse_3
def dkwX1_runCourse_1 : List UInt8 := [180, 0, 12, 3, 182, 0, 157, 3, 61, 28, 43, 180, 0, 200, 185, 0, 51, 1, 0, 162, 0, 29, 42, 43]
abbrev dktX1_runCourse_1 : List UInt8 := dkwX1_runCourse_1 ++ dktX1_runCourse_2
def dkwX1_runCourse_0 : List UInt8 := [187, 0, 161, 89, 42, 183, 0, 163, 182, 0, 166, 76, 43, 180, 0, 196, 184, 0, 71, 42, 182, 0, 98, 42]
abbrev dktX1_runCourse_0 : List UInt8 := dkwX1_runCourse_0 ++ dktX1_runCourse_1
theorem dksX1_runCourse_0 : cX1_runCourse.data.toList.drop 0 = dktX1_runCourse_0 := by decide +kernel
theorem dksX1_runCourse_1 : cX1_runCourse.data.toList.drop 24 = dktX1_runCourse_1 := dk_seg dksX1_runCourse_0 24 rfl rfl
theorem dksX1_runCourse_2 : cX1_runCourse.data.toList.drop 48 = dktX1_runCourse_2 := dk_seg dksX1_runCourse_1 24 rfl rfl
theorem dksX1_runCourse_3 : cX1_runCourse.data.toList.drop 72 = dktX1_runCourse_3 := dk_seg dksX1_runCourse_2 24 rfl rfl
theorem dX1_runCourse_0 : decode cX1_runCourse 0 = .ok (.new 161, 3) := dk_187 0 161 (dk_at dksX1_runCourse_0 0 rfl rfl)
theorem dX1_runCourse_3 : decode cX1_runCourse 3 = .ok (.dup, 1) := dk_89 (dk_at dksX1_runCourse_0 3 rfl rfl)
theorem dX1_runCourse_4 : decode cX1_runCourse 4 = .ok (.aload_n 0, 1) := dk_42 (dk_at dksX1_runCourse_0 4 rfl rfl)
theorem dX1_runCourse_5 : decode cX1_runCourse 5 = .ok (.invokespecial 163, 3) := dk_183 0 163 (dk_at dksX1_runCourse_0 5 rfl rfl)
theorem dX1_runCourse_8 : decode cX1_runCourse 8 = .ok (.invokevirtual 166, 3) := dk_182 0 166 (dk_at dksX1_runCourse_0 8 rfl rfl)
theorem dX1_runCourse_11 : decode cX1_runCourse 11 = .ok (.astore_n 1, 1) := dk_76 (dk_at dksX1_runCourse_0 11 rfl rfl)
theorem dX1_runCourse_12 : decode cX1_runCourse 12 = .ok (.aload_n 1, 1) := dk_43 (dk_at dksX1_runCourse_0 12 rfl rfl)
theorem dX1_runCourse_13 : decode cX1_runCourse 13 = .ok (.getfield 196, 3) := dk_180 0 196 (dk_at dksX1_runCourse_0 13 rfl rfl)
theorem dX1_runCourse_16 : decode cX1_runCourse 16 = .ok (.invokestatic 71, 3) := dk_184 0 71 (dk_at dksX1_runCourse_0 16 rfl rfl)
theorem dX1_runCourse_19 : decode cX1_runCourse 19 = .ok (.aload_n 0, 1) := dk_42 (dk_at dksX1_runCourse_0 19 rfl rfl)
theorem dX1_runCourse_20 : decode cX1_runCourse 20 = .ok (.invokevirtual 98, 3) := dk_182 0 98 (dk_at dksX1_runCourse_0 20 rfl rfl)
theorem dX1_runCourse_23 : decode cX1_runCourse 23 = .ok (.aload_n 0, 1) := dk_42 (dk_at dksX1_runCourse_0 23 rfl rfl)
theorem dX1_runCourse_24 : decode cX1_runCourse 24 = .ok (.getfield 12, 3) := dk_180 0 12 (dk_at dksX1_runCourse_1 0 rfl rfl)
theorem dX1_runCourse_27 : decode cX1_runCourse 27 = .ok (.iconst 0, 1) := dk_3 (dk_at dksX1_runCourse_1 3 rfl rfl)
theorem dX1_runCourse_28 : decode cX1_runCourse 28 = .ok (.invokevirtual 157, 3) := dk_182 0 157 (dk_at dksX1_runCourse_1 4 rfl rfl)
theorem dX1_runCourse_31 : decode cX1_runCourse 31 = .ok (.iconst 0, 1) := dk_3 (dk_at dksX1_runCourse_1 7 rfl rfl)
theorem dX1_runCourse_32 : decode cX1_runCourse 32 = .ok (.istore_n 2, 1) := dk_61 (dk_at dksX1_runCourse_1 8 rfl rfl)
theorem dX1_runCourse_33 : decode cX1_runCourse 33 = .ok (.iload_n 2, 1) := dk_28 (dk_at dksX1_runCourse_1 9 rfl rfl)
theorem dX1_runCourse_34 : decode cX1_runCourse 34 = .ok (.aload_n 1, 1) := dk_43 (dk_at dksX1_runCourse_1 10 rfl rfl)
theorem dX1_runCourse_35 : decode cX1_runCourse 35 = .ok (.getfield 200, 3) := dk_180 0 200 (dk_at dksX1_runCourse_1 11 rfl rfl)
theorem dX1_runCourse_38 : decode cX1_runCourse 38 = .ok (.invokeinterface 51 1, 5) := by decide +kernel
theorem dX1_runCourse_43 : decode cX1_runCourse 43 = .ok (.if_icmp .ge 29, 3) := dk_162 0 29 (dk_at dksX1_runCourse_1 19 rfl rfl)
theorem dX1_runCourse_46 : decode cX1_runCourse 46 = .ok (.aload_n 0, 1) := dk_42 (dk_at dksX1_runCourse_1 22 rfl rfl)
theorem dX1_runCourse_47 : decode cX1_runCourse 47 = .ok (.aload_n 1, 1) := dk_43 (dk_at dksX1_runCourse_1 23 rfl rfl)
theorem dX1_runCourse_48 : decode cX1_runCourse 48 = .ok (.getfield 200, 3) := dk_180 0 200 (dk_at dksX1_runCourse_2 0 rfl rfl)
theorem dX1_runCourse_51 : decode cX1_runCourse 51 = .ok (.iload_n 2, 1) := dk_28 (dk_at dksX1_runCourse_2 3 rfl rfl)
theorem dX1_runCourse_52 : decode cX1_runCourse 52 = .ok (.invokeinterface 61 2, 5) := by decide +kernel
theorem dX1_runCourse_57 : decode cX1_runCourse 57 = .ok (.checkcast 203, 3) := dk_192 0 203 (dk_at dksX1_runCourse_2 9 rfl rfl)
theorem dX1_runCourse_60 : decode cX1_runCourse 60 = .ok (.invokevirtual 205, 3) := dk_182 0 205 (dk_at dksX1_runCourse_2 12 rfl rfl)
theorem dX1_runCourse_63 : decode cX1_runCourse 63 = .ok (.ifCond .eq 9, 3) := dk_153 0 9 (dk_at dksX1_runCourse_2 15 rfl rfl)
theorem dX1_runCourse_66 : decode cX1_runCourse 66 = .ok (.iinc 2 1, 3) := dk_132 2 1 (dk_at dksX1_runCourse_2 18 rfl rfl)
theorem dX1_runCourse_69 : decode cX1_runCourse 69 = .ok (.goto (-36), 3) := dk_167 255 220 (dk_at dksX1_runCourse_2 21 rfl rfl)
theorem dX1_runCourse_72 : decode cX1_runCourse 72 = .ok (.iload_n 2, 1) := dk_28 (dk_at dksX1_runCourse_3 0 rfl rfl)
theorem dX1_runCourse_73 : decode cX1_runCourse 73 = .ok (.ireturn, 1) := dk_172 (dk_at dksX1_runCourse_3 1 rfl rfl)
abbrev cX1_does : ByteArray := prog_1_method_21_code
def yX1_does : MethodName := ⟨RX1, "does", "(LVoteLogs$Part;)Z"⟩
def dkwX1_does_2 : List UInt8 := [153, 0, 20, 43, 192, 0, 180, 77, 42, 44, 182, 0, 182, 153, 0, 7, 4, 167, 0, 4, 3, 172]
abbrev dktX1_does_2 : List UInt8 := dkwX1_does_2 ++ []
def dkwX1_does_1 : List UInt8 := [180, 0, 26, 44, 180, 0, 176, 182, 0, 104, 155, 0, 7, 4, 167, 0, 4, 3, 172, 43, 193, 0, 180]
abbrev dktX1_does_1 : List UInt8 := dkwX1_does_1 ++ dktX1_does_2
def dkwX1_does_0 : List UInt8 := [43, 193, 0, 174, 153, 0, 38, 43, 192, 0, 174, 77, 42, 180, 0, 26, 182, 0, 91, 153, 0, 21, 42]
abbrev dktX1_does_0 : List UInt8 := dkwX1_does_0 ++ dktX1_does_1
theorem dksX1_does_0 : cX1_does.data.toList.drop 0 = dktX1_does_0 := by decide +kernel
theorem dksX1_does_1 : cX1_does.data.toList.drop 23 = dktX1_does_1 := dk_seg dksX1_does_0 23 rfl rfl
theorem dksX1_does_2 : cX1_does.data.toList.drop 46 = dktX1_does_2 := dk_seg dksX1_does_1 23 rfl rfl
theorem dX1_does_0 : decode cX1_does 0 = .ok (.aload_n 1, 1) := dk_43 (dk_at dksX1_does_0 0 rfl rfl)
theorem dX1_does_1 : decode cX1_does 1 = .ok (.instanceof 174, 3) := dk_193 0 174 (dk_at dksX1_does_0 1 rfl rfl)
theorem dX1_does_4 : decode cX1_does 4 = .ok (.ifCond .eq 38, 3) := dk_153 0 38 (dk_at dksX1_does_0 4 rfl rfl)
theorem dX1_does_7 : decode cX1_does 7 = .ok (.aload_n 1, 1) := dk_43 (dk_at dksX1_does_0 7 rfl rfl)
theorem dX1_does_8 : decode cX1_does 8 = .ok (.checkcast 174, 3) := dk_192 0 174 (dk_at dksX1_does_0 8 rfl rfl)
theorem dX1_does_11 : decode cX1_does 11 = .ok (.astore_n 2, 1) := dk_77 (dk_at dksX1_does_0 11 rfl rfl)
theorem dX1_does_12 : decode cX1_does 12 = .ok (.aload_n 0, 1) := dk_42 (dk_at dksX1_does_0 12 rfl rfl)
theorem dX1_does_13 : decode cX1_does 13 = .ok (.getfield 26, 3) := dk_180 0 26 (dk_at dksX1_does_0 13 rfl rfl)
theorem dX1_does_16 : decode cX1_does 16 = .ok (.invokevirtual 91, 3) := dk_182 0 91 (dk_at dksX1_does_0 16 rfl rfl)
theorem dX1_does_19 : decode cX1_does 19 = .ok (.ifCond .eq 21, 3) := dk_153 0 21 (dk_at dksX1_does_0 19 rfl rfl)
theorem dX1_does_22 : decode cX1_does 22 = .ok (.aload_n 0, 1) := dk_42 (dk_at dksX1_does_0 22 rfl rfl)
theorem dX1_does_23 : decode cX1_does 23 = .ok (.getfield 26, 3) := dk_180 0 26 (dk_at dksX1_does_1 0 rfl rfl)
theorem dX1_does_26 : decode cX1_does 26 = .ok (.aload_n 2, 1) := dk_44 (dk_at dksX1_does_1 3 rfl rfl)
theorem dX1_does_27 : decode cX1_does 27 = .ok (.getfield 176, 3) := dk_180 0 176 (dk_at dksX1_does_1 4 rfl rfl)
theorem dX1_does_30 : decode cX1_does 30 = .ok (.invokevirtual 104, 3) := dk_182 0 104 (dk_at dksX1_does_1 7 rfl rfl)
theorem dX1_does_33 : decode cX1_does 33 = .ok (.ifCond .lt 7, 3) := dk_155 0 7 (dk_at dksX1_does_1 10 rfl rfl)
theorem dX1_does_36 : decode cX1_does 36 = .ok (.iconst 1, 1) := dk_4 (dk_at dksX1_does_1 13 rfl rfl)
theorem dX1_does_37 : decode cX1_does 37 = .ok (.goto 4, 3) := dk_167 0 4 (dk_at dksX1_does_1 14 rfl rfl)
theorem dX1_does_40 : decode cX1_does 40 = .ok (.iconst 0, 1) := dk_3 (dk_at dksX1_does_1 17 rfl rfl)
theorem dX1_does_41 : decode cX1_does 41 = .ok (.ireturn, 1) := dk_172 (dk_at dksX1_does_1 18 rfl rfl)
theorem dX1_does_42 : decode cX1_does 42 = .ok (.aload_n 1, 1) := dk_43 (dk_at dksX1_does_1 19 rfl rfl)
theorem dX1_does_43 : decode cX1_does 43 = .ok (.instanceof 180, 3) := dk_193 0 180 (dk_at dksX1_does_1 20 rfl rfl)
theorem dX1_does_46 : decode cX1_does 46 = .ok (.ifCond .eq 20, 3) := dk_153 0 20 (dk_at dksX1_does_2 0 rfl rfl)
theorem dX1_does_49 : decode cX1_does 49 = .ok (.aload_n 1, 1) := dk_43 (dk_at dksX1_does_2 3 rfl rfl)
theorem dX1_does_50 : decode cX1_does 50 = .ok (.checkcast 180, 3) := dk_192 0 180 (dk_at dksX1_does_2 4 rfl rfl)
theorem dX1_does_53 : decode cX1_does 53 = .ok (.astore_n 2, 1) := dk_77 (dk_at dksX1_does_2 7 rfl rfl)
theorem dX1_does_54 : decode cX1_does 54 = .ok (.aload_n 0, 1) := dk_42 (dk_at dksX1_does_2 8 rfl rfl)
theorem dX1_does_55 : decode cX1_does 55 = .ok (.aload_n 2, 1) := dk_44 (dk_at dksX1_does_2 9 rfl rfl)
theorem dX1_does_56 : decode cX1_does 56 = .ok (.invokevirtual 182, 3) := dk_182 0 182 (dk_at dksX1_does_2 10 rfl rfl)
theorem dX1_does_59 : decode cX1_does 59 = .ok (.ifCond .eq 7, 3) := dk_153 0 7 (dk_at dksX1_does_2 13 rfl rfl)
theorem dX1_does_62 : decode cX1_does 62 = .ok (.iconst 1, 1) := dk_4 (dk_at dksX1_does_2 16 rfl rfl)
theorem dX1_does_63 : decode cX1_does 63 = .ok (.goto 4, 3) := dk_167 0 4 (dk_at dksX1_does_2 17 rfl rfl)
theorem dX1_does_66 : decode cX1_does 66 = .ok (.iconst 0, 1) := dk_3 (dk_at dksX1_does_2 20 rfl rfl)
theorem dX1_does_67 : decode cX1_does 67 = .ok (.ireturn, 1) := dk_172 (dk_at dksX1_does_2 21 rfl rfl)
abbrev cX1_isDone : ByteArray := prog_1_method_22_code
def yX1_isDone : MethodName := ⟨RX1, "isDone", "(LVoteLogs$Deed;)Z"⟩
def dkwX1_isDone_9 : List UInt8 := [153, 0, 22, 42, 180, 0, 26, 43, 180, 0, 193, 28, 182, 0, 122, 155, 0, 7, 4, 167, 0, 4, 3, 172]
abbrev dktX1_isDone_9 : List UInt8 := dkwX1_isDone_9 ++ []
def dkwX1_isDone_8 : List UInt8 := [155, 0, 7, 4, 167, 0, 42, 3, 167, 0, 38, 42, 180, 0, 26, 43, 180, 0, 193, 28, 182, 0, 119]
abbrev dktX1_isDone_8 : List UInt8 := dkwX1_isDone_8 ++ dktX1_isDone_9
def dkwX1_isDone_7 : List UInt8 := [167, 0, 68, 42, 180, 0, 26, 28, 182, 0, 108, 153, 0, 18, 42, 180, 0, 26, 28, 182, 0, 112]
abbrev dktX1_isDone_7 : List UInt8 := dkwX1_isDone_7 ++ dktX1_isDone_8
def dkwX1_isDone_6 : List UInt8 := [182, 0, 141, 154, 0, 18, 42, 180, 0, 26, 28, 182, 0, 147, 155, 0, 7, 4, 167, 0, 72, 3]
abbrev dktX1_isDone_6 : List UInt8 := dkwX1_isDone_6 ++ dktX1_isDone_7
def dkwX1_isDone_5 : List UInt8 := [180, 0, 26, 28, 182, 0, 144, 155, 0, 7, 4, 167, 0, 102, 3, 167, 0, 98, 42, 180, 0, 26, 28]
abbrev dktX1_isDone_5 : List UInt8 := dkwX1_isDone_5 ++ dktX1_isDone_6
def dkwX1_isDone_4 : List UInt8 := [155, 0, 7, 4, 167, 0, 132, 3, 167, 0, 128, 42, 180, 0, 26, 28, 182, 0, 141, 153, 0, 18, 42]
abbrev dktX1_isDone_4 : List UInt8 := dkwX1_isDone_4 ++ dktX1_isDone_5
def dkwX1_isDone_3 : List UInt8 := [180, 0, 26, 180, 0, 126, 185, 0, 51, 1, 0, 162, 0, 18, 42, 180, 0, 26, 28, 182, 0, 138]
abbrev dktX1_isDone_3 : List UInt8 := dkwX1_isDone_3 ++ dktX1_isDone_4
def dkwX1_isDone_2 : List UInt8 := [42, 180, 0, 26, 28, 4, 96, 182, 0, 135, 155, 0, 7, 4, 167, 0, 167, 3, 167, 0, 163, 28, 42]
abbrev dktX1_isDone_2 : List UInt8 := dkwX1_isDone_2 ++ dktX1_isDone_3
def dkwX1_isDone_1 : List UInt8 := [171, 0, 0, 0, 0, 0, 197, 0, 0, 0, 5, 0, 0, 0, 99, 0, 0, 0, 107, 0, 0, 0, 100, 0, 0, 0, 51, 0, 0, 0, 103, 0, 0, 0, 167, 0, 0, 0, 108, 0, 0, 0, 72, 0, 0, 0, 114, 0, 0, 0, 137]
abbrev dktX1_isDone_1 : List UInt8 := dkwX1_isDone_1 ++ dktX1_isDone_2
def dkwX1_isDone_0 : List UInt8 := [43, 180, 0, 186, 61, 43, 180, 0, 189]
abbrev dktX1_isDone_0 : List UInt8 := dkwX1_isDone_0 ++ dktX1_isDone_1
theorem dksX1_isDone_0 : cX1_isDone.data.toList.drop 0 = dktX1_isDone_0 := by decide +kernel
theorem dksX1_isDone_1 : cX1_isDone.data.toList.drop 9 = dktX1_isDone_1 := dk_seg dksX1_isDone_0 9 rfl rfl
theorem dksX1_isDone_2 : cX1_isDone.data.toList.drop 60 = dktX1_isDone_2 := dk_seg dksX1_isDone_1 51 rfl rfl
theorem dksX1_isDone_3 : cX1_isDone.data.toList.drop 83 = dktX1_isDone_3 := dk_seg dksX1_isDone_2 23 rfl rfl
theorem dksX1_isDone_4 : cX1_isDone.data.toList.drop 105 = dktX1_isDone_4 := dk_seg dksX1_isDone_3 22 rfl rfl
theorem dksX1_isDone_5 : cX1_isDone.data.toList.drop 128 = dktX1_isDone_5 := dk_seg dksX1_isDone_4 23 rfl rfl
theorem dksX1_isDone_6 : cX1_isDone.data.toList.drop 151 = dktX1_isDone_6 := dk_seg dksX1_isDone_5 23 rfl rfl
theorem dksX1_isDone_7 : cX1_isDone.data.toList.drop 173 = dktX1_isDone_7 := dk_seg dksX1_isDone_6 22 rfl rfl
theorem dksX1_isDone_8 : cX1_isDone.data.toList.drop 195 = dktX1_isDone_8 := dk_seg dksX1_isDone_7 22 rfl rfl
theorem dksX1_isDone_9 : cX1_isDone.data.toList.drop 218 = dktX1_isDone_9 := dk_seg dksX1_isDone_8 23 rfl rfl
theorem dX1_isDone_0 : decode cX1_isDone 0 = .ok (.aload_n 1, 1) := dk_43 (dk_at dksX1_isDone_0 0 rfl rfl)
theorem dX1_isDone_1 : decode cX1_isDone 1 = .ok (.getfield 186, 3) := dk_180 0 186 (dk_at dksX1_isDone_0 1 rfl rfl)
theorem dX1_isDone_4 : decode cX1_isDone 4 = .ok (.istore_n 2, 1) := dk_61 (dk_at dksX1_isDone_0 4 rfl rfl)
theorem dX1_isDone_5 : decode cX1_isDone 5 = .ok (.aload_n 1, 1) := dk_43 (dk_at dksX1_isDone_0 5 rfl rfl)
theorem dX1_isDone_6 : decode cX1_isDone 6 = .ok (.getfield 189, 3) := dk_180 0 189 (dk_at dksX1_isDone_0 6 rfl rfl)
theorem dX1_isDone_9 : decode cX1_isDone 9 = .ok (.lookupswitch 197 #[(99, 107), (100, 51), (103, 167), (108, 72), (114, 137)], 51) := by decide +kernel
theorem dX1_isDone_60 : decode cX1_isDone 60 = .ok (.aload_n 0, 1) := dk_42 (dk_at dksX1_isDone_2 0 rfl rfl)
theorem dX1_isDone_61 : decode cX1_isDone 61 = .ok (.getfield 26, 3) := dk_180 0 26 (dk_at dksX1_isDone_2 1 rfl rfl)
theorem dX1_isDone_64 : decode cX1_isDone 64 = .ok (.iload_n 2, 1) := dk_28 (dk_at dksX1_isDone_2 4 rfl rfl)
theorem dX1_isDone_65 : decode cX1_isDone 65 = .ok (.iconst 1, 1) := dk_4 (dk_at dksX1_isDone_2 5 rfl rfl)
theorem dX1_isDone_66 : decode cX1_isDone 66 = .ok (.iadd, 1) := dk_96 (dk_at dksX1_isDone_2 6 rfl rfl)
theorem dX1_isDone_67 : decode cX1_isDone 67 = .ok (.invokevirtual 135, 3) := dk_182 0 135 (dk_at dksX1_isDone_2 7 rfl rfl)
theorem dX1_isDone_70 : decode cX1_isDone 70 = .ok (.ifCond .lt 7, 3) := dk_155 0 7 (dk_at dksX1_isDone_2 10 rfl rfl)
theorem dX1_isDone_73 : decode cX1_isDone 73 = .ok (.iconst 1, 1) := dk_4 (dk_at dksX1_isDone_2 13 rfl rfl)
theorem dX1_isDone_74 : decode cX1_isDone 74 = .ok (.goto 167, 3) := dk_167 0 167 (dk_at dksX1_isDone_2 14 rfl rfl)
theorem dX1_isDone_77 : decode cX1_isDone 77 = .ok (.iconst 0, 1) := dk_3 (dk_at dksX1_isDone_2 17 rfl rfl)
theorem dX1_isDone_78 : decode cX1_isDone 78 = .ok (.goto 163, 3) := dk_167 0 163 (dk_at dksX1_isDone_2 18 rfl rfl)
theorem dX1_isDone_81 : decode cX1_isDone 81 = .ok (.iload_n 2, 1) := dk_28 (dk_at dksX1_isDone_2 21 rfl rfl)
theorem dX1_isDone_82 : decode cX1_isDone 82 = .ok (.aload_n 0, 1) := dk_42 (dk_at dksX1_isDone_2 22 rfl rfl)
theorem dX1_isDone_83 : decode cX1_isDone 83 = .ok (.getfield 26, 3) := dk_180 0 26 (dk_at dksX1_isDone_3 0 rfl rfl)
theorem dX1_isDone_86 : decode cX1_isDone 86 = .ok (.getfield 126, 3) := dk_180 0 126 (dk_at dksX1_isDone_3 3 rfl rfl)
theorem dX1_isDone_89 : decode cX1_isDone 89 = .ok (.invokeinterface 51 1, 5) := by decide +kernel
theorem dX1_isDone_94 : decode cX1_isDone 94 = .ok (.if_icmp .ge 18, 3) := dk_162 0 18 (dk_at dksX1_isDone_3 11 rfl rfl)
theorem dX1_isDone_97 : decode cX1_isDone 97 = .ok (.aload_n 0, 1) := dk_42 (dk_at dksX1_isDone_3 14 rfl rfl)
theorem dX1_isDone_98 : decode cX1_isDone 98 = .ok (.getfield 26, 3) := dk_180 0 26 (dk_at dksX1_isDone_3 15 rfl rfl)
theorem dX1_isDone_101 : decode cX1_isDone 101 = .ok (.iload_n 2, 1) := dk_28 (dk_at dksX1_isDone_3 18 rfl rfl)
theorem dX1_isDone_102 : decode cX1_isDone 102 = .ok (.invokevirtual 138, 3) := dk_182 0 138 (dk_at dksX1_isDone_3 19 rfl rfl)
theorem dX1_isDone_105 : decode cX1_isDone 105 = .ok (.ifCond .lt 7, 3) := dk_155 0 7 (dk_at dksX1_isDone_4 0 rfl rfl)
theorem dX1_isDone_108 : decode cX1_isDone 108 = .ok (.iconst 1, 1) := dk_4 (dk_at dksX1_isDone_4 3 rfl rfl)
theorem dX1_isDone_109 : decode cX1_isDone 109 = .ok (.goto 132, 3) := dk_167 0 132 (dk_at dksX1_isDone_4 4 rfl rfl)
theorem dX1_isDone_112 : decode cX1_isDone 112 = .ok (.iconst 0, 1) := dk_3 (dk_at dksX1_isDone_4 7 rfl rfl)
theorem dX1_isDone_113 : decode cX1_isDone 113 = .ok (.goto 128, 3) := dk_167 0 128 (dk_at dksX1_isDone_4 8 rfl rfl)
theorem dX1_isDone_116 : decode cX1_isDone 116 = .ok (.aload_n 0, 1) := dk_42 (dk_at dksX1_isDone_4 11 rfl rfl)
theorem dX1_isDone_117 : decode cX1_isDone 117 = .ok (.getfield 26, 3) := dk_180 0 26 (dk_at dksX1_isDone_4 12 rfl rfl)
theorem dX1_isDone_120 : decode cX1_isDone 120 = .ok (.iload_n 2, 1) := dk_28 (dk_at dksX1_isDone_4 15 rfl rfl)
theorem dX1_isDone_121 : decode cX1_isDone 121 = .ok (.invokevirtual 141, 3) := dk_182 0 141 (dk_at dksX1_isDone_4 16 rfl rfl)
theorem dX1_isDone_124 : decode cX1_isDone 124 = .ok (.ifCond .eq 18, 3) := dk_153 0 18 (dk_at dksX1_isDone_4 19 rfl rfl)
theorem dX1_isDone_127 : decode cX1_isDone 127 = .ok (.aload_n 0, 1) := dk_42 (dk_at dksX1_isDone_4 22 rfl rfl)
theorem dX1_isDone_128 : decode cX1_isDone 128 = .ok (.getfield 26, 3) := dk_180 0 26 (dk_at dksX1_isDone_5 0 rfl rfl)
theorem dX1_isDone_131 : decode cX1_isDone 131 = .ok (.iload_n 2, 1) := dk_28 (dk_at dksX1_isDone_5 3 rfl rfl)
theorem dX1_isDone_132 : decode cX1_isDone 132 = .ok (.invokevirtual 144, 3) := dk_182 0 144 (dk_at dksX1_isDone_5 4 rfl rfl)
theorem dX1_isDone_135 : decode cX1_isDone 135 = .ok (.ifCond .lt 7, 3) := dk_155 0 7 (dk_at dksX1_isDone_5 7 rfl rfl)
theorem dX1_isDone_138 : decode cX1_isDone 138 = .ok (.iconst 1, 1) := dk_4 (dk_at dksX1_isDone_5 10 rfl rfl)
theorem dX1_isDone_139 : decode cX1_isDone 139 = .ok (.goto 102, 3) := dk_167 0 102 (dk_at dksX1_isDone_5 11 rfl rfl)
theorem dX1_isDone_142 : decode cX1_isDone 142 = .ok (.iconst 0, 1) := dk_3 (dk_at dksX1_isDone_5 14 rfl rfl)
theorem dX1_isDone_143 : decode cX1_isDone 143 = .ok (.goto 98, 3) := dk_167 0 98 (dk_at dksX1_isDone_5 15 rfl rfl)
theorem dX1_isDone_146 : decode cX1_isDone 146 = .ok (.aload_n 0, 1) := dk_42 (dk_at dksX1_isDone_5 18 rfl rfl)
theorem dX1_isDone_147 : decode cX1_isDone 147 = .ok (.getfield 26, 3) := dk_180 0 26 (dk_at dksX1_isDone_5 19 rfl rfl)
theorem dX1_isDone_150 : decode cX1_isDone 150 = .ok (.iload_n 2, 1) := dk_28 (dk_at dksX1_isDone_5 22 rfl rfl)
theorem dX1_isDone_151 : decode cX1_isDone 151 = .ok (.invokevirtual 141, 3) := dk_182 0 141 (dk_at dksX1_isDone_6 0 rfl rfl)
theorem dX1_isDone_154 : decode cX1_isDone 154 = .ok (.ifCond .ne 18, 3) := dk_154 0 18 (dk_at dksX1_isDone_6 3 rfl rfl)
theorem dX1_isDone_157 : decode cX1_isDone 157 = .ok (.aload_n 0, 1) := dk_42 (dk_at dksX1_isDone_6 6 rfl rfl)
theorem dX1_isDone_158 : decode cX1_isDone 158 = .ok (.getfield 26, 3) := dk_180 0 26 (dk_at dksX1_isDone_6 7 rfl rfl)
theorem dX1_isDone_161 : decode cX1_isDone 161 = .ok (.iload_n 2, 1) := dk_28 (dk_at dksX1_isDone_6 10 rfl rfl)
theorem dX1_isDone_162 : decode cX1_isDone 162 = .ok (.invokevirtual 147, 3) := dk_182 0 147 (dk_at dksX1_isDone_6 11 rfl rfl)
theorem dX1_isDone_165 : decode cX1_isDone 165 = .ok (.ifCond .lt 7, 3) := dk_155 0 7 (dk_at dksX1_isDone_6 14 rfl rfl)
theorem dX1_isDone_168 : decode cX1_isDone 168 = .ok (.iconst 1, 1) := dk_4 (dk_at dksX1_isDone_6 17 rfl rfl)
theorem dX1_isDone_169 : decode cX1_isDone 169 = .ok (.goto 72, 3) := dk_167 0 72 (dk_at dksX1_isDone_6 18 rfl rfl)
theorem dX1_isDone_172 : decode cX1_isDone 172 = .ok (.iconst 0, 1) := dk_3 (dk_at dksX1_isDone_6 21 rfl rfl)
theorem dX1_isDone_173 : decode cX1_isDone 173 = .ok (.goto 68, 3) := dk_167 0 68 (dk_at dksX1_isDone_7 0 rfl rfl)
theorem dX1_isDone_176 : decode cX1_isDone 176 = .ok (.aload_n 0, 1) := dk_42 (dk_at dksX1_isDone_7 3 rfl rfl)
theorem dX1_isDone_177 : decode cX1_isDone 177 = .ok (.getfield 26, 3) := dk_180 0 26 (dk_at dksX1_isDone_7 4 rfl rfl)
theorem dX1_isDone_180 : decode cX1_isDone 180 = .ok (.iload_n 2, 1) := dk_28 (dk_at dksX1_isDone_7 7 rfl rfl)
theorem dX1_isDone_181 : decode cX1_isDone 181 = .ok (.invokevirtual 108, 3) := dk_182 0 108 (dk_at dksX1_isDone_7 8 rfl rfl)
theorem dX1_isDone_184 : decode cX1_isDone 184 = .ok (.ifCond .eq 18, 3) := dk_153 0 18 (dk_at dksX1_isDone_7 11 rfl rfl)
theorem dX1_isDone_187 : decode cX1_isDone 187 = .ok (.aload_n 0, 1) := dk_42 (dk_at dksX1_isDone_7 14 rfl rfl)
theorem dX1_isDone_188 : decode cX1_isDone 188 = .ok (.getfield 26, 3) := dk_180 0 26 (dk_at dksX1_isDone_7 15 rfl rfl)
theorem dX1_isDone_191 : decode cX1_isDone 191 = .ok (.iload_n 2, 1) := dk_28 (dk_at dksX1_isDone_7 18 rfl rfl)
theorem dX1_isDone_192 : decode cX1_isDone 192 = .ok (.invokevirtual 112, 3) := dk_182 0 112 (dk_at dksX1_isDone_7 19 rfl rfl)
theorem dX1_isDone_195 : decode cX1_isDone 195 = .ok (.ifCond .lt 7, 3) := dk_155 0 7 (dk_at dksX1_isDone_8 0 rfl rfl)
theorem dX1_isDone_198 : decode cX1_isDone 198 = .ok (.iconst 1, 1) := dk_4 (dk_at dksX1_isDone_8 3 rfl rfl)
theorem dX1_isDone_199 : decode cX1_isDone 199 = .ok (.goto 42, 3) := dk_167 0 42 (dk_at dksX1_isDone_8 4 rfl rfl)
theorem dX1_isDone_202 : decode cX1_isDone 202 = .ok (.iconst 0, 1) := dk_3 (dk_at dksX1_isDone_8 7 rfl rfl)
theorem dX1_isDone_203 : decode cX1_isDone 203 = .ok (.goto 38, 3) := dk_167 0 38 (dk_at dksX1_isDone_8 8 rfl rfl)
theorem dX1_isDone_206 : decode cX1_isDone 206 = .ok (.aload_n 0, 1) := dk_42 (dk_at dksX1_isDone_8 11 rfl rfl)
theorem dX1_isDone_207 : decode cX1_isDone 207 = .ok (.getfield 26, 3) := dk_180 0 26 (dk_at dksX1_isDone_8 12 rfl rfl)
theorem dX1_isDone_210 : decode cX1_isDone 210 = .ok (.aload_n 1, 1) := dk_43 (dk_at dksX1_isDone_8 15 rfl rfl)
theorem dX1_isDone_211 : decode cX1_isDone 211 = .ok (.getfield 193, 3) := dk_180 0 193 (dk_at dksX1_isDone_8 16 rfl rfl)
theorem dX1_isDone_214 : decode cX1_isDone 214 = .ok (.iload_n 2, 1) := dk_28 (dk_at dksX1_isDone_8 19 rfl rfl)
theorem dX1_isDone_215 : decode cX1_isDone 215 = .ok (.invokevirtual 119, 3) := dk_182 0 119 (dk_at dksX1_isDone_8 20 rfl rfl)
theorem dX1_isDone_218 : decode cX1_isDone 218 = .ok (.ifCond .eq 22, 3) := dk_153 0 22 (dk_at dksX1_isDone_9 0 rfl rfl)
theorem dX1_isDone_221 : decode cX1_isDone 221 = .ok (.aload_n 0, 1) := dk_42 (dk_at dksX1_isDone_9 3 rfl rfl)
theorem dX1_isDone_222 : decode cX1_isDone 222 = .ok (.getfield 26, 3) := dk_180 0 26 (dk_at dksX1_isDone_9 4 rfl rfl)
theorem dX1_isDone_225 : decode cX1_isDone 225 = .ok (.aload_n 1, 1) := dk_43 (dk_at dksX1_isDone_9 7 rfl rfl)
theorem dX1_isDone_226 : decode cX1_isDone 226 = .ok (.getfield 193, 3) := dk_180 0 193 (dk_at dksX1_isDone_9 8 rfl rfl)
theorem dX1_isDone_229 : decode cX1_isDone 229 = .ok (.iload_n 2, 1) := dk_28 (dk_at dksX1_isDone_9 11 rfl rfl)
theorem dX1_isDone_230 : decode cX1_isDone 230 = .ok (.invokevirtual 122, 3) := dk_182 0 122 (dk_at dksX1_isDone_9 12 rfl rfl)
theorem dX1_isDone_233 : decode cX1_isDone 233 = .ok (.ifCond .lt 7, 3) := dk_155 0 7 (dk_at dksX1_isDone_9 15 rfl rfl)
theorem dX1_isDone_236 : decode cX1_isDone 236 = .ok (.iconst 1, 1) := dk_4 (dk_at dksX1_isDone_9 18 rfl rfl)
theorem dX1_isDone_237 : decode cX1_isDone 237 = .ok (.goto 4, 3) := dk_167 0 4 (dk_at dksX1_isDone_9 19 rfl rfl)
theorem dX1_isDone_240 : decode cX1_isDone 240 = .ok (.iconst 0, 1) := dk_3 (dk_at dksX1_isDone_9 22 rfl rfl)
theorem dX1_isDone_241 : decode cX1_isDone 241 = .ok (.ireturn, 1) := dk_172 (dk_at dksX1_isDone_9 23 rfl rfl)
abbrev cX1_goBack : ByteArray := prog_1_method_25_code
def yX1_goBack : MethodName := ⟨RX1, "goBack", "()I"⟩
def dkwX1_goBack_1 : List UInt8 := [42, 180, 0, 209, 183, 0, 80, 181, 0, 26, 42, 180, 0, 26, 180, 0, 126, 185, 0, 51, 1, 0, 172]
abbrev dktX1_goBack_1 : List UInt8 := dkwX1_goBack_1 ++ []
def dkwX1_goBack_0 : List UInt8 := [42, 180, 0, 209, 198, 0, 7, 4, 167, 0, 4, 3, 184, 0, 95, 42, 182, 0, 98, 42, 187, 0, 23, 89]
abbrev dktX1_goBack_0 : List UInt8 := dkwX1_goBack_0 ++ dktX1_goBack_1
theorem dksX1_goBack_0 : cX1_goBack.data.toList.drop 0 = dktX1_goBack_0 := by decide +kernel
theorem dksX1_goBack_1 : cX1_goBack.data.toList.drop 24 = dktX1_goBack_1 := dk_seg dksX1_goBack_0 24 rfl rfl
theorem dX1_goBack_0 : decode cX1_goBack 0 = .ok (.aload_n 0, 1) := dk_42 (dk_at dksX1_goBack_0 0 rfl rfl)
theorem dX1_goBack_1 : decode cX1_goBack 1 = .ok (.getfield 209, 3) := dk_180 0 209 (dk_at dksX1_goBack_0 1 rfl rfl)
theorem dX1_goBack_4 : decode cX1_goBack 4 = .ok (.ifnull 7, 3) := dk_198 0 7 (dk_at dksX1_goBack_0 4 rfl rfl)
theorem dX1_goBack_7 : decode cX1_goBack 7 = .ok (.iconst 1, 1) := dk_4 (dk_at dksX1_goBack_0 7 rfl rfl)
theorem dX1_goBack_8 : decode cX1_goBack 8 = .ok (.goto 4, 3) := dk_167 0 4 (dk_at dksX1_goBack_0 8 rfl rfl)
theorem dX1_goBack_11 : decode cX1_goBack 11 = .ok (.iconst 0, 1) := dk_3 (dk_at dksX1_goBack_0 11 rfl rfl)
theorem dX1_goBack_12 : decode cX1_goBack 12 = .ok (.invokestatic 95, 3) := dk_184 0 95 (dk_at dksX1_goBack_0 12 rfl rfl)
theorem dX1_goBack_15 : decode cX1_goBack 15 = .ok (.aload_n 0, 1) := dk_42 (dk_at dksX1_goBack_0 15 rfl rfl)
theorem dX1_goBack_16 : decode cX1_goBack 16 = .ok (.invokevirtual 98, 3) := dk_182 0 98 (dk_at dksX1_goBack_0 16 rfl rfl)
theorem dX1_goBack_19 : decode cX1_goBack 19 = .ok (.aload_n 0, 1) := dk_42 (dk_at dksX1_goBack_0 19 rfl rfl)
theorem dX1_goBack_20 : decode cX1_goBack 20 = .ok (.new 23, 3) := dk_187 0 23 (dk_at dksX1_goBack_0 20 rfl rfl)
theorem dX1_goBack_23 : decode cX1_goBack 23 = .ok (.dup, 1) := dk_89 (dk_at dksX1_goBack_0 23 rfl rfl)
theorem dX1_goBack_24 : decode cX1_goBack 24 = .ok (.aload_n 0, 1) := dk_42 (dk_at dksX1_goBack_1 0 rfl rfl)
theorem dX1_goBack_25 : decode cX1_goBack 25 = .ok (.getfield 209, 3) := dk_180 0 209 (dk_at dksX1_goBack_1 1 rfl rfl)
theorem dX1_goBack_28 : decode cX1_goBack 28 = .ok (.invokespecial 80, 3) := dk_183 0 80 (dk_at dksX1_goBack_1 4 rfl rfl)
theorem dX1_goBack_31 : decode cX1_goBack 31 = .ok (.putfield 26, 3) := dk_181 0 26 (dk_at dksX1_goBack_1 7 rfl rfl)
theorem dX1_goBack_34 : decode cX1_goBack 34 = .ok (.aload_n 0, 1) := dk_42 (dk_at dksX1_goBack_1 10 rfl rfl)
theorem dX1_goBack_35 : decode cX1_goBack 35 = .ok (.getfield 26, 3) := dk_180 0 26 (dk_at dksX1_goBack_1 11 rfl rfl)
theorem dX1_goBack_38 : decode cX1_goBack 38 = .ok (.getfield 126, 3) := dk_180 0 126 (dk_at dksX1_goBack_1 14 rfl rfl)
theorem dX1_goBack_41 : decode cX1_goBack 41 = .ok (.invokeinterface 51 1, 5) := by decide +kernel
theorem dX1_goBack_46 : decode cX1_goBack 46 = .ok (.ireturn, 1) := dk_172 (dk_at dksX1_goBack_1 22 rfl rfl)
abbrev cX1_undo : ByteArray := prog_1_method_26_code
def yX1_undo : MethodName := ⟨RX1, "undo", "()I"⟩
def dkwX1_undo_1 : List UInt8 := [182, 0, 215, 192, 0, 23, 181, 0, 26, 42, 180, 0, 19, 182, 0, 75, 172]
abbrev dktX1_undo_1 : List UInt8 := dkwX1_undo_1 ++ []
def dkwX1_undo_0 : List UInt8 := [42, 180, 0, 19, 182, 0, 212, 154, 0, 7, 4, 167, 0, 4, 3, 184, 0, 95, 42, 42, 180, 0, 19]
abbrev dktX1_undo_0 : List UInt8 := dkwX1_undo_0 ++ dktX1_undo_1
theorem dksX1_undo_0 : cX1_undo.data.toList.drop 0 = dktX1_undo_0 := by decide +kernel
theorem dksX1_undo_1 : cX1_undo.data.toList.drop 23 = dktX1_undo_1 := dk_seg dksX1_undo_0 23 rfl rfl
theorem dX1_undo_0 : decode cX1_undo 0 = .ok (.aload_n 0, 1) := dk_42 (dk_at dksX1_undo_0 0 rfl rfl)
theorem dX1_undo_1 : decode cX1_undo 1 = .ok (.getfield 19, 3) := dk_180 0 19 (dk_at dksX1_undo_0 1 rfl rfl)
theorem dX1_undo_4 : decode cX1_undo 4 = .ok (.invokevirtual 212, 3) := dk_182 0 212 (dk_at dksX1_undo_0 4 rfl rfl)
theorem dX1_undo_7 : decode cX1_undo 7 = .ok (.ifCond .ne 7, 3) := dk_154 0 7 (dk_at dksX1_undo_0 7 rfl rfl)
theorem dX1_undo_10 : decode cX1_undo 10 = .ok (.iconst 1, 1) := dk_4 (dk_at dksX1_undo_0 10 rfl rfl)
theorem dX1_undo_11 : decode cX1_undo 11 = .ok (.goto 4, 3) := dk_167 0 4 (dk_at dksX1_undo_0 11 rfl rfl)
theorem dX1_undo_14 : decode cX1_undo 14 = .ok (.iconst 0, 1) := dk_3 (dk_at dksX1_undo_0 14 rfl rfl)
theorem dX1_undo_15 : decode cX1_undo 15 = .ok (.invokestatic 95, 3) := dk_184 0 95 (dk_at dksX1_undo_0 15 rfl rfl)
theorem dX1_undo_18 : decode cX1_undo 18 = .ok (.aload_n 0, 1) := dk_42 (dk_at dksX1_undo_0 18 rfl rfl)
theorem dX1_undo_19 : decode cX1_undo 19 = .ok (.aload_n 0, 1) := dk_42 (dk_at dksX1_undo_0 19 rfl rfl)
theorem dX1_undo_20 : decode cX1_undo 20 = .ok (.getfield 19, 3) := dk_180 0 19 (dk_at dksX1_undo_0 20 rfl rfl)
theorem dX1_undo_23 : decode cX1_undo 23 = .ok (.invokevirtual 215, 3) := dk_182 0 215 (dk_at dksX1_undo_1 0 rfl rfl)
theorem dX1_undo_26 : decode cX1_undo 26 = .ok (.checkcast 23, 3) := dk_192 0 23 (dk_at dksX1_undo_1 3 rfl rfl)
theorem dX1_undo_29 : decode cX1_undo 29 = .ok (.putfield 26, 3) := dk_181 0 26 (dk_at dksX1_undo_1 6 rfl rfl)
theorem dX1_undo_32 : decode cX1_undo 32 = .ok (.aload_n 0, 1) := dk_42 (dk_at dksX1_undo_1 9 rfl rfl)
theorem dX1_undo_33 : decode cX1_undo 33 = .ok (.getfield 19, 3) := dk_180 0 19 (dk_at dksX1_undo_1 10 rfl rfl)
theorem dX1_undo_36 : decode cX1_undo 36 = .ok (.invokevirtual 75, 3) := dk_182 0 75 (dk_at dksX1_undo_1 13 rfl rfl)
theorem dX1_undo_39 : decode cX1_undo 39 = .ok (.ireturn, 1) := dk_172 (dk_at dksX1_undo_1 16 rfl rfl)
abbrev cX1_partners : ByteArray := prog_1_method_28_code
def yX1_partners : MethodName := ⟨RX1, "partners", "(I)I"⟩
def dkwX1_partners_0 : List UInt8 := [42, 27, 182, 0, 218, 182, 0, 221, 172]
abbrev dktX1_partners_0 : List UInt8 := dkwX1_partners_0 ++ []
theorem dksX1_partners_0 : cX1_partners.data.toList.drop 0 = dktX1_partners_0 := by decide +kernel
theorem dX1_partners_0 : decode cX1_partners 0 = .ok (.aload_n 0, 1) := dk_42 (dk_at dksX1_partners_0 0 rfl rfl)
theorem dX1_partners_1 : decode cX1_partners 1 = .ok (.iload_n 1, 1) := dk_27 (dk_at dksX1_partners_0 1 rfl rfl)
theorem dX1_partners_2 : decode cX1_partners 2 = .ok (.invokevirtual 218, 3) := dk_182 0 218 (dk_at dksX1_partners_0 2 rfl rfl)
theorem dX1_partners_5 : decode cX1_partners 5 = .ok (.invokevirtual 221, 3) := dk_182 0 221 (dk_at dksX1_partners_0 5 rfl rfl)
theorem dX1_partners_8 : decode cX1_partners 8 = .ok (.ireturn, 1) := dk_172 (dk_at dksX1_partners_0 8 rfl rfl)
abbrev cX1_transfer : ByteArray := prog_1_method_6_code
def yX1_transfer : MethodName := ⟨RX1, "transfer", "(I)LVoteLogs$Transfer;"⟩
def dkwX1_transfer_1 : List UInt8 := [185, 0, 61, 2, 0, 192, 0, 65, 176]
abbrev dktX1_transfer_1 : List UInt8 := dkwX1_transfer_1 ++ []
def dkwX1_transfer_0 : List UInt8 := [27, 42, 180, 0, 26, 180, 0, 47, 185, 0, 51, 1, 0, 184, 0, 57, 42, 180, 0, 26, 180, 0, 47, 27]
abbrev dktX1_transfer_0 : List UInt8 := dkwX1_transfer_0 ++ dktX1_transfer_1
theorem dksX1_transfer_0 : cX1_transfer.data.toList.drop 0 = dktX1_transfer_0 := by decide +kernel
theorem dksX1_transfer_1 : cX1_transfer.data.toList.drop 24 = dktX1_transfer_1 := dk_seg dksX1_transfer_0 24 rfl rfl
theorem dX1_transfer_0 : decode cX1_transfer 0 = .ok (.iload_n 1, 1) := dk_27 (dk_at dksX1_transfer_0 0 rfl rfl)
theorem dX1_transfer_1 : decode cX1_transfer 1 = .ok (.aload_n 0, 1) := dk_42 (dk_at dksX1_transfer_0 1 rfl rfl)
theorem dX1_transfer_2 : decode cX1_transfer 2 = .ok (.getfield 26, 3) := dk_180 0 26 (dk_at dksX1_transfer_0 2 rfl rfl)
theorem dX1_transfer_5 : decode cX1_transfer 5 = .ok (.getfield 47, 3) := dk_180 0 47 (dk_at dksX1_transfer_0 5 rfl rfl)
theorem dX1_transfer_8 : decode cX1_transfer 8 = .ok (.invokeinterface 51 1, 5) := by decide +kernel
theorem dX1_transfer_13 : decode cX1_transfer 13 = .ok (.invokestatic 57, 3) := dk_184 0 57 (dk_at dksX1_transfer_0 13 rfl rfl)
theorem dX1_transfer_16 : decode cX1_transfer 16 = .ok (.aload_n 0, 1) := dk_42 (dk_at dksX1_transfer_0 16 rfl rfl)
theorem dX1_transfer_17 : decode cX1_transfer 17 = .ok (.getfield 26, 3) := dk_180 0 26 (dk_at dksX1_transfer_0 17 rfl rfl)
theorem dX1_transfer_20 : decode cX1_transfer 20 = .ok (.getfield 47, 3) := dk_180 0 47 (dk_at dksX1_transfer_0 20 rfl rfl)
theorem dX1_transfer_23 : decode cX1_transfer 23 = .ok (.iload_n 1, 1) := dk_27 (dk_at dksX1_transfer_0 23 rfl rfl)
theorem dX1_transfer_24 : decode cX1_transfer 24 = .ok (.invokeinterface 61 2, 5) := by decide +kernel
theorem dX1_transfer_29 : decode cX1_transfer 29 = .ok (.checkcast 65, 3) := dk_192 0 65 (dk_at dksX1_transfer_1 5 rfl rfl)
theorem dX1_transfer_32 : decode cX1_transfer 32 = .ok (.areturn, 1) := dk_176 (dk_at dksX1_transfer_1 8 rfl rfl)
abbrev cX1_share : ByteArray := prog_1_method_29_code
def yX1_share : MethodName := ⟨RX1, "share", "(II)I"⟩
def dkwX1_share_1 : List UInt8 := [182, 0, 224, 172]
abbrev dktX1_share_1 : List UInt8 := dkwX1_share_1 ++ []
def dkwX1_share_0 : List UInt8 := [42, 28, 27, 182, 0, 116, 42, 180, 0, 26, 180, 0, 47, 27, 185, 0, 61, 2, 0, 192, 0, 65, 28]
abbrev dktX1_share_0 : List UInt8 := dkwX1_share_0 ++ dktX1_share_1
theorem dksX1_share_0 : cX1_share.data.toList.drop 0 = dktX1_share_0 := by decide +kernel
theorem dksX1_share_1 : cX1_share.data.toList.drop 23 = dktX1_share_1 := dk_seg dksX1_share_0 23 rfl rfl
theorem dX1_share_0 : decode cX1_share 0 = .ok (.aload_n 0, 1) := dk_42 (dk_at dksX1_share_0 0 rfl rfl)
theorem dX1_share_1 : decode cX1_share 1 = .ok (.iload_n 2, 1) := dk_28 (dk_at dksX1_share_0 1 rfl rfl)
theorem dX1_share_2 : decode cX1_share 2 = .ok (.iload_n 1, 1) := dk_27 (dk_at dksX1_share_0 2 rfl rfl)
theorem dX1_share_3 : decode cX1_share 3 = .ok (.invokevirtual 116, 3) := dk_182 0 116 (dk_at dksX1_share_0 3 rfl rfl)
theorem dX1_share_6 : decode cX1_share 6 = .ok (.aload_n 0, 1) := dk_42 (dk_at dksX1_share_0 6 rfl rfl)
theorem dX1_share_7 : decode cX1_share 7 = .ok (.getfield 26, 3) := dk_180 0 26 (dk_at dksX1_share_0 7 rfl rfl)
theorem dX1_share_10 : decode cX1_share 10 = .ok (.getfield 47, 3) := dk_180 0 47 (dk_at dksX1_share_0 10 rfl rfl)
theorem dX1_share_13 : decode cX1_share 13 = .ok (.iload_n 1, 1) := dk_27 (dk_at dksX1_share_0 13 rfl rfl)
theorem dX1_share_14 : decode cX1_share 14 = .ok (.invokeinterface 61 2, 5) := by decide +kernel
theorem dX1_share_19 : decode cX1_share 19 = .ok (.checkcast 65, 3) := dk_192 0 65 (dk_at dksX1_share_0 19 rfl rfl)
theorem dX1_share_22 : decode cX1_share 22 = .ok (.iload_n 2, 1) := dk_28 (dk_at dksX1_share_0 22 rfl rfl)
theorem dX1_share_23 : decode cX1_share 23 = .ok (.invokevirtual 224, 3) := dk_182 0 224 (dk_at dksX1_share_1 0 rfl rfl)
theorem dX1_share_26 : decode cX1_share 26 = .ok (.ireturn, 1) := dk_172 (dk_at dksX1_share_1 3 rfl rfl)
abbrev cX1_isUp : ByteArray := prog_1_method_30_code
def yX1_isUp : MethodName := ⟨RX1, "isUp", "(I)Z"⟩
def dkwX1_isUp_0 : List UInt8 := [27, 8, 184, 0, 57, 42, 180, 0, 26, 27, 182, 0, 141, 172]
abbrev dktX1_isUp_0 : List UInt8 := dkwX1_isUp_0 ++ []
theorem dksX1_isUp_0 : cX1_isUp.data.toList.drop 0 = dktX1_isUp_0 := by decide +kernel
theorem dX1_isUp_0 : decode cX1_isUp 0 = .ok (.iload_n 1, 1) := dk_27 (dk_at dksX1_isUp_0 0 rfl rfl)
theorem dX1_isUp_1 : decode cX1_isUp 1 = .ok (.iconst 5, 1) := dk_8 (dk_at dksX1_isUp_0 1 rfl rfl)
theorem dX1_isUp_2 : decode cX1_isUp 2 = .ok (.invokestatic 57, 3) := dk_184 0 57 (dk_at dksX1_isUp_0 2 rfl rfl)
theorem dX1_isUp_5 : decode cX1_isUp 5 = .ok (.aload_n 0, 1) := dk_42 (dk_at dksX1_isUp_0 5 rfl rfl)
theorem dX1_isUp_6 : decode cX1_isUp 6 = .ok (.getfield 26, 3) := dk_180 0 26 (dk_at dksX1_isUp_0 6 rfl rfl)
theorem dX1_isUp_9 : decode cX1_isUp 9 = .ok (.iload_n 1, 1) := dk_27 (dk_at dksX1_isUp_0 9 rfl rfl)
theorem dX1_isUp_10 : decode cX1_isUp 10 = .ok (.invokevirtual 141, 3) := dk_182 0 141 (dk_at dksX1_isUp_0 10 rfl rfl)
theorem dX1_isUp_13 : decode cX1_isUp 13 = .ok (.ireturn, 1) := dk_172 (dk_at dksX1_isUp_0 13 rfl rfl)
abbrev cX1_amount : ByteArray := prog_1_method_31_code
def yX1_amount : MethodName := ⟨RX1, "amount", "(I)I"⟩
def dkwX1_amount_0 : List UInt8 := [27, 7, 184, 0, 57, 42, 180, 0, 26, 180, 0, 227, 27, 46, 172]
abbrev dktX1_amount_0 : List UInt8 := dkwX1_amount_0 ++ []
theorem dksX1_amount_0 : cX1_amount.data.toList.drop 0 = dktX1_amount_0 := by decide +kernel
theorem dX1_amount_0 : decode cX1_amount 0 = .ok (.iload_n 1, 1) := dk_27 (dk_at dksX1_amount_0 0 rfl rfl)
theorem dX1_amount_1 : decode cX1_amount 1 = .ok (.iconst 4, 1) := dk_7 (dk_at dksX1_amount_0 1 rfl rfl)
theorem dX1_amount_2 : decode cX1_amount 2 = .ok (.invokestatic 57, 3) := dk_184 0 57 (dk_at dksX1_amount_0 2 rfl rfl)
theorem dX1_amount_5 : decode cX1_amount 5 = .ok (.aload_n 0, 1) := dk_42 (dk_at dksX1_amount_0 5 rfl rfl)
theorem dX1_amount_6 : decode cX1_amount 6 = .ok (.getfield 26, 3) := dk_180 0 26 (dk_at dksX1_amount_0 6 rfl rfl)
theorem dX1_amount_9 : decode cX1_amount 9 = .ok (.getfield 227, 3) := dk_180 0 227 (dk_at dksX1_amount_0 9 rfl rfl)
theorem dX1_amount_12 : decode cX1_amount 12 = .ok (.iload_n 1, 1) := dk_27 (dk_at dksX1_amount_0 12 rfl rfl)
theorem dX1_amount_13 : decode cX1_amount 13 = .ok (.iaload, 1) := dk_46 (dk_at dksX1_amount_0 13 rfl rfl)
theorem dX1_amount_14 : decode cX1_amount 14 = .ok (.ireturn, 1) := dk_172 (dk_at dksX1_amount_0 14 rfl rfl)
abbrev cX1_amountByLog : ByteArray := prog_1_method_32_code
def yX1_amountByLog : MethodName := ⟨RX1, "amountByLog", "(I)I"⟩
def dkwX1_amountByLog_0 : List UInt8 := [27, 7, 184, 0, 57, 42, 180, 0, 26, 27, 182, 0, 231, 172]
abbrev dktX1_amountByLog_0 : List UInt8 := dkwX1_amountByLog_0 ++ []
theorem dksX1_amountByLog_0 : cX1_amountByLog.data.toList.drop 0 = dktX1_amountByLog_0 := by decide +kernel
theorem dX1_amountByLog_0 : decode cX1_amountByLog 0 = .ok (.iload_n 1, 1) := dk_27 (dk_at dksX1_amountByLog_0 0 rfl rfl)
theorem dX1_amountByLog_1 : decode cX1_amountByLog 1 = .ok (.iconst 4, 1) := dk_7 (dk_at dksX1_amountByLog_0 1 rfl rfl)
theorem dX1_amountByLog_2 : decode cX1_amountByLog 2 = .ok (.invokestatic 57, 3) := dk_184 0 57 (dk_at dksX1_amountByLog_0 2 rfl rfl)
theorem dX1_amountByLog_5 : decode cX1_amountByLog 5 = .ok (.aload_n 0, 1) := dk_42 (dk_at dksX1_amountByLog_0 5 rfl rfl)
theorem dX1_amountByLog_6 : decode cX1_amountByLog 6 = .ok (.getfield 26, 3) := dk_180 0 26 (dk_at dksX1_amountByLog_0 6 rfl rfl)
theorem dX1_amountByLog_9 : decode cX1_amountByLog 9 = .ok (.iload_n 1, 1) := dk_27 (dk_at dksX1_amountByLog_0 9 rfl rfl)
theorem dX1_amountByLog_10 : decode cX1_amountByLog 10 = .ok (.invokevirtual 231, 3) := dk_182 0 231 (dk_at dksX1_amountByLog_0 10 rfl rfl)
theorem dX1_amountByLog_13 : decode cX1_amountByLog 13 = .ok (.ireturn, 1) := dk_172 (dk_at dksX1_amountByLog_0 13 rfl rfl)
abbrev cX1_state_2 : ByteArray := prog_1_method_33_code
def yX1_state_2 : MethodName := ⟨RX1, "state", "(II)I"⟩
def dkwX1_state_2_0 : List UInt8 := [42, 27, 28, 182, 0, 116, 42, 180, 0, 26, 27, 28, 182, 0, 234, 172]
abbrev dktX1_state_2_0 : List UInt8 := dkwX1_state_2_0 ++ []
theorem dksX1_state_2_0 : cX1_state_2.data.toList.drop 0 = dktX1_state_2_0 := by decide +kernel
theorem dX1_state_2_0 : decode cX1_state_2 0 = .ok (.aload_n 0, 1) := dk_42 (dk_at dksX1_state_2_0 0 rfl rfl)
theorem dX1_state_2_1 : decode cX1_state_2 1 = .ok (.iload_n 1, 1) := dk_27 (dk_at dksX1_state_2_0 1 rfl rfl)
theorem dX1_state_2_2 : decode cX1_state_2 2 = .ok (.iload_n 2, 1) := dk_28 (dk_at dksX1_state_2_0 2 rfl rfl)
theorem dX1_state_2_3 : decode cX1_state_2 3 = .ok (.invokevirtual 116, 3) := dk_182 0 116 (dk_at dksX1_state_2_0 3 rfl rfl)
theorem dX1_state_2_6 : decode cX1_state_2 6 = .ok (.aload_n 0, 1) := dk_42 (dk_at dksX1_state_2_0 6 rfl rfl)
theorem dX1_state_2_7 : decode cX1_state_2 7 = .ok (.getfield 26, 3) := dk_180 0 26 (dk_at dksX1_state_2_0 7 rfl rfl)
theorem dX1_state_2_10 : decode cX1_state_2 10 = .ok (.iload_n 1, 1) := dk_27 (dk_at dksX1_state_2_0 10 rfl rfl)
theorem dX1_state_2_11 : decode cX1_state_2 11 = .ok (.iload_n 2, 1) := dk_28 (dk_at dksX1_state_2_0 11 rfl rfl)
theorem dX1_state_2_12 : decode cX1_state_2 12 = .ok (.invokevirtual 234, 3) := dk_182 0 234 (dk_at dksX1_state_2_0 12 rfl rfl)
theorem dX1_state_2_15 : decode cX1_state_2 15 = .ok (.ireturn, 1) := dk_172 (dk_at dksX1_state_2_0 15 rfl rfl)
abbrev cX1_stateByLog : ByteArray := prog_1_method_34_code
def yX1_stateByLog : MethodName := ⟨RX1, "stateByLog", "(II)I"⟩
def dkwX1_stateByLog_0 : List UInt8 := [42, 27, 28, 182, 0, 116, 42, 180, 0, 26, 27, 28, 182, 0, 236, 172]
abbrev dktX1_stateByLog_0 : List UInt8 := dkwX1_stateByLog_0 ++ []
theorem dksX1_stateByLog_0 : cX1_stateByLog.data.toList.drop 0 = dktX1_stateByLog_0 := by decide +kernel
theorem dX1_stateByLog_0 : decode cX1_stateByLog 0 = .ok (.aload_n 0, 1) := dk_42 (dk_at dksX1_stateByLog_0 0 rfl rfl)
theorem dX1_stateByLog_1 : decode cX1_stateByLog 1 = .ok (.iload_n 1, 1) := dk_27 (dk_at dksX1_stateByLog_0 1 rfl rfl)
theorem dX1_stateByLog_2 : decode cX1_stateByLog 2 = .ok (.iload_n 2, 1) := dk_28 (dk_at dksX1_stateByLog_0 2 rfl rfl)
theorem dX1_stateByLog_3 : decode cX1_stateByLog 3 = .ok (.invokevirtual 116, 3) := dk_182 0 116 (dk_at dksX1_stateByLog_0 3 rfl rfl)
theorem dX1_stateByLog_6 : decode cX1_stateByLog 6 = .ok (.aload_n 0, 1) := dk_42 (dk_at dksX1_stateByLog_0 6 rfl rfl)
theorem dX1_stateByLog_7 : decode cX1_stateByLog 7 = .ok (.getfield 26, 3) := dk_180 0 26 (dk_at dksX1_stateByLog_0 7 rfl rfl)
theorem dX1_stateByLog_10 : decode cX1_stateByLog 10 = .ok (.iload_n 1, 1) := dk_27 (dk_at dksX1_stateByLog_0 10 rfl rfl)
theorem dX1_stateByLog_11 : decode cX1_stateByLog 11 = .ok (.iload_n 2, 1) := dk_28 (dk_at dksX1_stateByLog_0 11 rfl rfl)
theorem dX1_stateByLog_12 : decode cX1_stateByLog 12 = .ok (.invokevirtual 236, 3) := dk_182 0 236 (dk_at dksX1_stateByLog_0 12 rfl rfl)
theorem dX1_stateByLog_15 : decode cX1_stateByLog 15 = .ok (.ireturn, 1) := dk_172 (dk_at dksX1_stateByLog_0 15 rfl rfl)
abbrev cX1_inDoubt : ByteArray := prog_1_method_35_code
def yX1_inDoubt : MethodName := ⟨RX1, "inDoubt", "(I)I"⟩
def dkwX1_inDoubt_0 : List UInt8 := [27, 7, 184, 0, 57, 42, 180, 0, 26, 27, 182, 0, 239, 172]
abbrev dktX1_inDoubt_0 : List UInt8 := dkwX1_inDoubt_0 ++ []
theorem dksX1_inDoubt_0 : cX1_inDoubt.data.toList.drop 0 = dktX1_inDoubt_0 := by decide +kernel
theorem dX1_inDoubt_0 : decode cX1_inDoubt 0 = .ok (.iload_n 1, 1) := dk_27 (dk_at dksX1_inDoubt_0 0 rfl rfl)
theorem dX1_inDoubt_1 : decode cX1_inDoubt 1 = .ok (.iconst 4, 1) := dk_7 (dk_at dksX1_inDoubt_0 1 rfl rfl)
theorem dX1_inDoubt_2 : decode cX1_inDoubt 2 = .ok (.invokestatic 57, 3) := dk_184 0 57 (dk_at dksX1_inDoubt_0 2 rfl rfl)
theorem dX1_inDoubt_5 : decode cX1_inDoubt 5 = .ok (.aload_n 0, 1) := dk_42 (dk_at dksX1_inDoubt_0 5 rfl rfl)
theorem dX1_inDoubt_6 : decode cX1_inDoubt 6 = .ok (.getfield 26, 3) := dk_180 0 26 (dk_at dksX1_inDoubt_0 6 rfl rfl)
theorem dX1_inDoubt_9 : decode cX1_inDoubt 9 = .ok (.iload_n 1, 1) := dk_27 (dk_at dksX1_inDoubt_0 9 rfl rfl)
theorem dX1_inDoubt_10 : decode cX1_inDoubt 10 = .ok (.invokevirtual 239, 3) := dk_182 0 239 (dk_at dksX1_inDoubt_0 10 rfl rfl)
theorem dX1_inDoubt_13 : decode cX1_inDoubt 13 = .ok (.ireturn, 1) := dk_172 (dk_at dksX1_inDoubt_0 13 rfl rfl)
abbrev cX1_outcome : ByteArray := prog_1_method_36_code
def yX1_outcome : MethodName := ⟨RX1, "outcome", "(I)I"⟩
def dkwX1_outcome_1 : List UInt8 := [172]
abbrev dktX1_outcome_1 : List UInt8 := dkwX1_outcome_1 ++ []
def dkwX1_outcome_0 : List UInt8 := [27, 42, 180, 0, 26, 180, 0, 47, 185, 0, 51, 1, 0, 184, 0, 57, 42, 180, 0, 26, 27, 182, 0, 242]
abbrev dktX1_outcome_0 : List UInt8 := dkwX1_outcome_0 ++ dktX1_outcome_1
theorem dksX1_outcome_0 : cX1_outcome.data.toList.drop 0 = dktX1_outcome_0 := by decide +kernel
theorem dksX1_outcome_1 : cX1_outcome.data.toList.drop 24 = dktX1_outcome_1 := dk_seg dksX1_outcome_0 24 rfl rfl
theorem dX1_outcome_0 : decode cX1_outcome 0 = .ok (.iload_n 1, 1) := dk_27 (dk_at dksX1_outcome_0 0 rfl rfl)
theorem dX1_outcome_1 : decode cX1_outcome 1 = .ok (.aload_n 0, 1) := dk_42 (dk_at dksX1_outcome_0 1 rfl rfl)
theorem dX1_outcome_2 : decode cX1_outcome 2 = .ok (.getfield 26, 3) := dk_180 0 26 (dk_at dksX1_outcome_0 2 rfl rfl)
theorem dX1_outcome_5 : decode cX1_outcome 5 = .ok (.getfield 47, 3) := dk_180 0 47 (dk_at dksX1_outcome_0 5 rfl rfl)
theorem dX1_outcome_8 : decode cX1_outcome 8 = .ok (.invokeinterface 51 1, 5) := by decide +kernel
theorem dX1_outcome_13 : decode cX1_outcome 13 = .ok (.invokestatic 57, 3) := dk_184 0 57 (dk_at dksX1_outcome_0 13 rfl rfl)
theorem dX1_outcome_16 : decode cX1_outcome 16 = .ok (.aload_n 0, 1) := dk_42 (dk_at dksX1_outcome_0 16 rfl rfl)
theorem dX1_outcome_17 : decode cX1_outcome 17 = .ok (.getfield 26, 3) := dk_180 0 26 (dk_at dksX1_outcome_0 17 rfl rfl)
theorem dX1_outcome_20 : decode cX1_outcome 20 = .ok (.iload_n 1, 1) := dk_27 (dk_at dksX1_outcome_0 20 rfl rfl)
theorem dX1_outcome_21 : decode cX1_outcome 21 = .ok (.invokevirtual 242, 3) := dk_182 0 242 (dk_at dksX1_outcome_0 21 rfl rfl)
theorem dX1_outcome_24 : decode cX1_outcome 24 = .ok (.ireturn, 1) := dk_172 (dk_at dksX1_outcome_1 0 rfl rfl)
abbrev cX1_outcomeByStores : ByteArray := prog_1_method_37_code
def yX1_outcomeByStores : MethodName := ⟨RX1, "outcomeByStores", "(I)I"⟩
def dkwX1_outcomeByStores_1 : List UInt8 := [172]
abbrev dktX1_outcomeByStores_1 : List UInt8 := dkwX1_outcomeByStores_1 ++ []
def dkwX1_outcomeByStores_0 : List UInt8 := [27, 42, 180, 0, 26, 180, 0, 47, 185, 0, 51, 1, 0, 184, 0, 57, 42, 180, 0, 26, 27, 182, 0, 245]
abbrev dktX1_outcomeByStores_0 : List UInt8 := dkwX1_outcomeByStores_0 ++ dktX1_outcomeByStores_1
theorem dksX1_outcomeByStores_0 : cX1_outcomeByStores.data.toList.drop 0 = dktX1_outcomeByStores_0 := by decide +kernel
theorem dksX1_outcomeByStores_1 : cX1_outcomeByStores.data.toList.drop 24 = dktX1_outcomeByStores_1 := dk_seg dksX1_outcomeByStores_0 24 rfl rfl
theorem dX1_outcomeByStores_0 : decode cX1_outcomeByStores 0 = .ok (.iload_n 1, 1) := dk_27 (dk_at dksX1_outcomeByStores_0 0 rfl rfl)
theorem dX1_outcomeByStores_1 : decode cX1_outcomeByStores 1 = .ok (.aload_n 0, 1) := dk_42 (dk_at dksX1_outcomeByStores_0 1 rfl rfl)
theorem dX1_outcomeByStores_2 : decode cX1_outcomeByStores 2 = .ok (.getfield 26, 3) := dk_180 0 26 (dk_at dksX1_outcomeByStores_0 2 rfl rfl)
theorem dX1_outcomeByStores_5 : decode cX1_outcomeByStores 5 = .ok (.getfield 47, 3) := dk_180 0 47 (dk_at dksX1_outcomeByStores_0 5 rfl rfl)
theorem dX1_outcomeByStores_8 : decode cX1_outcomeByStores 8 = .ok (.invokeinterface 51 1, 5) := by decide +kernel
theorem dX1_outcomeByStores_13 : decode cX1_outcomeByStores 13 = .ok (.invokestatic 57, 3) := dk_184 0 57 (dk_at dksX1_outcomeByStores_0 13 rfl rfl)
theorem dX1_outcomeByStores_16 : decode cX1_outcomeByStores 16 = .ok (.aload_n 0, 1) := dk_42 (dk_at dksX1_outcomeByStores_0 16 rfl rfl)
theorem dX1_outcomeByStores_17 : decode cX1_outcomeByStores 17 = .ok (.getfield 26, 3) := dk_180 0 26 (dk_at dksX1_outcomeByStores_0 17 rfl rfl)
theorem dX1_outcomeByStores_20 : decode cX1_outcomeByStores 20 = .ok (.iload_n 1, 1) := dk_27 (dk_at dksX1_outcomeByStores_0 20 rfl rfl)
theorem dX1_outcomeByStores_21 : decode cX1_outcomeByStores 21 = .ok (.invokevirtual 245, 3) := dk_182 0 245 (dk_at dksX1_outcomeByStores_0 21 rfl rfl)
theorem dX1_outcomeByStores_24 : decode cX1_outcomeByStores 24 = .ok (.ireturn, 1) := dk_172 (dk_at dksX1_outcomeByStores_1 0 rfl rfl)
abbrev cX1_hasEnded : ByteArray := prog_1_method_38_code
def yX1_hasEnded : MethodName := ⟨RX1, "hasEnded", "(I)Z"⟩
def dkwX1_hasEnded_1 : List UInt8 := [172]
abbrev dktX1_hasEnded_1 : List UInt8 := dkwX1_hasEnded_1 ++ []
def dkwX1_hasEnded_0 : List UInt8 := [27, 42, 180, 0, 26, 180, 0, 47, 185, 0, 51, 1, 0, 184, 0, 57, 42, 180, 0, 26, 27, 182, 0, 248]
abbrev dktX1_hasEnded_0 : List UInt8 := dkwX1_hasEnded_0 ++ dktX1_hasEnded_1
theorem dksX1_hasEnded_0 : cX1_hasEnded.data.toList.drop 0 = dktX1_hasEnded_0 := by decide +kernel
theorem dksX1_hasEnded_1 : cX1_hasEnded.data.toList.drop 24 = dktX1_hasEnded_1 := dk_seg dksX1_hasEnded_0 24 rfl rfl
theorem dX1_hasEnded_0 : decode cX1_hasEnded 0 = .ok (.iload_n 1, 1) := dk_27 (dk_at dksX1_hasEnded_0 0 rfl rfl)
theorem dX1_hasEnded_1 : decode cX1_hasEnded 1 = .ok (.aload_n 0, 1) := dk_42 (dk_at dksX1_hasEnded_0 1 rfl rfl)
theorem dX1_hasEnded_2 : decode cX1_hasEnded 2 = .ok (.getfield 26, 3) := dk_180 0 26 (dk_at dksX1_hasEnded_0 2 rfl rfl)
theorem dX1_hasEnded_5 : decode cX1_hasEnded 5 = .ok (.getfield 47, 3) := dk_180 0 47 (dk_at dksX1_hasEnded_0 5 rfl rfl)
theorem dX1_hasEnded_8 : decode cX1_hasEnded 8 = .ok (.invokeinterface 51 1, 5) := by decide +kernel
theorem dX1_hasEnded_13 : decode cX1_hasEnded 13 = .ok (.invokestatic 57, 3) := dk_184 0 57 (dk_at dksX1_hasEnded_0 13 rfl rfl)
theorem dX1_hasEnded_16 : decode cX1_hasEnded 16 = .ok (.aload_n 0, 1) := dk_42 (dk_at dksX1_hasEnded_0 16 rfl rfl)
theorem dX1_hasEnded_17 : decode cX1_hasEnded 17 = .ok (.getfield 26, 3) := dk_180 0 26 (dk_at dksX1_hasEnded_0 17 rfl rfl)
theorem dX1_hasEnded_20 : decode cX1_hasEnded 20 = .ok (.iload_n 1, 1) := dk_27 (dk_at dksX1_hasEnded_0 20 rfl rfl)
theorem dX1_hasEnded_21 : decode cX1_hasEnded 21 = .ok (.invokevirtual 248, 3) := dk_182 0 248 (dk_at dksX1_hasEnded_0 21 rfl rfl)
theorem dX1_hasEnded_24 : decode cX1_hasEnded 24 = .ok (.ireturn, 1) := dk_172 (dk_at dksX1_hasEnded_1 0 rfl rfl)
abbrev cX1_saidYes : ByteArray := prog_1_method_39_code
def yX1_saidYes : MethodName := ⟨RX1, "saidYes", "(I)I"⟩
def dkwX1_saidYes_1 : List UInt8 := [46, 172]
abbrev dktX1_saidYes_1 : List UInt8 := dkwX1_saidYes_1 ++ []
def dkwX1_saidYes_0 : List UInt8 := [27, 42, 180, 0, 26, 180, 0, 47, 185, 0, 51, 1, 0, 184, 0, 57, 42, 180, 0, 26, 180, 0, 251, 27]
abbrev dktX1_saidYes_0 : List UInt8 := dkwX1_saidYes_0 ++ dktX1_saidYes_1
theorem dksX1_saidYes_0 : cX1_saidYes.data.toList.drop 0 = dktX1_saidYes_0 := by decide +kernel
theorem dksX1_saidYes_1 : cX1_saidYes.data.toList.drop 24 = dktX1_saidYes_1 := dk_seg dksX1_saidYes_0 24 rfl rfl
theorem dX1_saidYes_0 : decode cX1_saidYes 0 = .ok (.iload_n 1, 1) := dk_27 (dk_at dksX1_saidYes_0 0 rfl rfl)
theorem dX1_saidYes_1 : decode cX1_saidYes 1 = .ok (.aload_n 0, 1) := dk_42 (dk_at dksX1_saidYes_0 1 rfl rfl)
theorem dX1_saidYes_2 : decode cX1_saidYes 2 = .ok (.getfield 26, 3) := dk_180 0 26 (dk_at dksX1_saidYes_0 2 rfl rfl)
theorem dX1_saidYes_5 : decode cX1_saidYes 5 = .ok (.getfield 47, 3) := dk_180 0 47 (dk_at dksX1_saidYes_0 5 rfl rfl)
theorem dX1_saidYes_8 : decode cX1_saidYes 8 = .ok (.invokeinterface 51 1, 5) := by decide +kernel
theorem dX1_saidYes_13 : decode cX1_saidYes 13 = .ok (.invokestatic 57, 3) := dk_184 0 57 (dk_at dksX1_saidYes_0 13 rfl rfl)
theorem dX1_saidYes_16 : decode cX1_saidYes 16 = .ok (.aload_n 0, 1) := dk_42 (dk_at dksX1_saidYes_0 16 rfl rfl)
theorem dX1_saidYes_17 : decode cX1_saidYes 17 = .ok (.getfield 26, 3) := dk_180 0 26 (dk_at dksX1_saidYes_0 17 rfl rfl)
theorem dX1_saidYes_20 : decode cX1_saidYes 20 = .ok (.getfield 251, 3) := dk_180 0 251 (dk_at dksX1_saidYes_0 20 rfl rfl)
theorem dX1_saidYes_23 : decode cX1_saidYes 23 = .ok (.iload_n 1, 1) := dk_27 (dk_at dksX1_saidYes_0 23 rfl rfl)
theorem dX1_saidYes_24 : decode cX1_saidYes 24 = .ok (.iaload, 1) := dk_46 (dk_at dksX1_saidYes_1 0 rfl rfl)
theorem dX1_saidYes_25 : decode cX1_saidYes 25 = .ok (.ireturn, 1) := dk_172 (dk_at dksX1_saidYes_1 1 rfl rfl)
abbrev cX1_saidDone : ByteArray := prog_1_method_40_code
def yX1_saidDone : MethodName := ⟨RX1, "saidDone", "(I)I"⟩
def dkwX1_saidDone_1 : List UInt8 := [46, 172]
abbrev dktX1_saidDone_1 : List UInt8 := dkwX1_saidDone_1 ++ []
def dkwX1_saidDone_0 : List UInt8 := [27, 42, 180, 0, 26, 180, 0, 47, 185, 0, 51, 1, 0, 184, 0, 57, 42, 180, 0, 26, 180, 0, 254, 27]
abbrev dktX1_saidDone_0 : List UInt8 := dkwX1_saidDone_0 ++ dktX1_saidDone_1
theorem dksX1_saidDone_0 : cX1_saidDone.data.toList.drop 0 = dktX1_saidDone_0 := by decide +kernel
theorem dksX1_saidDone_1 : cX1_saidDone.data.toList.drop 24 = dktX1_saidDone_1 := dk_seg dksX1_saidDone_0 24 rfl rfl
theorem dX1_saidDone_0 : decode cX1_saidDone 0 = .ok (.iload_n 1, 1) := dk_27 (dk_at dksX1_saidDone_0 0 rfl rfl)
theorem dX1_saidDone_1 : decode cX1_saidDone 1 = .ok (.aload_n 0, 1) := dk_42 (dk_at dksX1_saidDone_0 1 rfl rfl)
theorem dX1_saidDone_2 : decode cX1_saidDone 2 = .ok (.getfield 26, 3) := dk_180 0 26 (dk_at dksX1_saidDone_0 2 rfl rfl)
theorem dX1_saidDone_5 : decode cX1_saidDone 5 = .ok (.getfield 47, 3) := dk_180 0 47 (dk_at dksX1_saidDone_0 5 rfl rfl)
theorem dX1_saidDone_8 : decode cX1_saidDone 8 = .ok (.invokeinterface 51 1, 5) := by decide +kernel
theorem dX1_saidDone_13 : decode cX1_saidDone 13 = .ok (.invokestatic 57, 3) := dk_184 0 57 (dk_at dksX1_saidDone_0 13 rfl rfl)
theorem dX1_saidDone_16 : decode cX1_saidDone 16 = .ok (.aload_n 0, 1) := dk_42 (dk_at dksX1_saidDone_0 16 rfl rfl)
theorem dX1_saidDone_17 : decode cX1_saidDone 17 = .ok (.getfield 26, 3) := dk_180 0 26 (dk_at dksX1_saidDone_0 17 rfl rfl)
theorem dX1_saidDone_20 : decode cX1_saidDone 20 = .ok (.getfield 254, 3) := dk_180 0 254 (dk_at dksX1_saidDone_0 20 rfl rfl)
theorem dX1_saidDone_23 : decode cX1_saidDone 23 = .ok (.iload_n 1, 1) := dk_27 (dk_at dksX1_saidDone_0 23 rfl rfl)
theorem dX1_saidDone_24 : decode cX1_saidDone 24 = .ok (.iaload, 1) := dk_46 (dk_at dksX1_saidDone_1 0 rfl rfl)
theorem dX1_saidDone_25 : decode cX1_saidDone 25 = .ok (.ireturn, 1) := dk_172 (dk_at dksX1_saidDone_1 1 rfl rfl)
abbrev cX1_records : ByteArray := prog_1_method_43_code
def yX1_records : MethodName := ⟨RX1, "records", "(I)I"⟩
def dkwX1_records_1 : List UInt8 := [185, 0, 51, 1, 0, 172]
abbrev dktX1_records_1 : List UInt8 := dkwX1_records_1 ++ []
def dkwX1_records_0 : List UInt8 := [27, 8, 184, 0, 57, 42, 180, 0, 26, 180, 1, 7, 27, 185, 0, 61, 2, 0, 192, 0, 52]
abbrev dktX1_records_0 : List UInt8 := dkwX1_records_0 ++ dktX1_records_1
theorem dksX1_records_0 : cX1_records.data.toList.drop 0 = dktX1_records_0 := by decide +kernel
theorem dksX1_records_1 : cX1_records.data.toList.drop 21 = dktX1_records_1 := dk_seg dksX1_records_0 21 rfl rfl
theorem dX1_records_0 : decode cX1_records 0 = .ok (.iload_n 1, 1) := dk_27 (dk_at dksX1_records_0 0 rfl rfl)
theorem dX1_records_1 : decode cX1_records 1 = .ok (.iconst 5, 1) := dk_8 (dk_at dksX1_records_0 1 rfl rfl)
theorem dX1_records_2 : decode cX1_records 2 = .ok (.invokestatic 57, 3) := dk_184 0 57 (dk_at dksX1_records_0 2 rfl rfl)
theorem dX1_records_5 : decode cX1_records 5 = .ok (.aload_n 0, 1) := dk_42 (dk_at dksX1_records_0 5 rfl rfl)
theorem dX1_records_6 : decode cX1_records 6 = .ok (.getfield 26, 3) := dk_180 0 26 (dk_at dksX1_records_0 6 rfl rfl)
theorem dX1_records_9 : decode cX1_records 9 = .ok (.getfield 263, 3) := dk_180 1 7 (dk_at dksX1_records_0 9 rfl rfl)
theorem dX1_records_12 : decode cX1_records 12 = .ok (.iload_n 1, 1) := dk_27 (dk_at dksX1_records_0 12 rfl rfl)
theorem dX1_records_13 : decode cX1_records 13 = .ok (.invokeinterface 61 2, 5) := by decide +kernel
theorem dX1_records_18 : decode cX1_records 18 = .ok (.checkcast 52, 3) := dk_192 0 52 (dk_at dksX1_records_0 18 rfl rfl)
theorem dX1_records_21 : decode cX1_records 21 = .ok (.invokeinterface 51 1, 5) := by decide +kernel
theorem dX1_records_26 : decode cX1_records 26 = .ok (.ireturn, 1) := dk_172 (dk_at dksX1_records_1 5 rfl rfl)
abbrev cX1_recordKind : ByteArray := prog_1_method_45_code
def yX1_recordKind : MethodName := ⟨RX1, "recordKind", "(II)I"⟩
def dkwX1_recordKind_0 : List UInt8 := [42, 27, 28, 182, 1, 17, 78, 45, 199, 0, 7, 2, 167, 0, 7, 45, 180, 1, 21, 172]
abbrev dktX1_recordKind_0 : List UInt8 := dkwX1_recordKind_0 ++ []
theorem dksX1_recordKind_0 : cX1_recordKind.data.toList.drop 0 = dktX1_recordKind_0 := by decide +kernel
theorem dX1_recordKind_0 : decode cX1_recordKind 0 = .ok (.aload_n 0, 1) := dk_42 (dk_at dksX1_recordKind_0 0 rfl rfl)
theorem dX1_recordKind_1 : decode cX1_recordKind 1 = .ok (.iload_n 1, 1) := dk_27 (dk_at dksX1_recordKind_0 1 rfl rfl)
theorem dX1_recordKind_2 : decode cX1_recordKind 2 = .ok (.iload_n 2, 1) := dk_28 (dk_at dksX1_recordKind_0 2 rfl rfl)
theorem dX1_recordKind_3 : decode cX1_recordKind 3 = .ok (.invokevirtual 273, 3) := dk_182 1 17 (dk_at dksX1_recordKind_0 3 rfl rfl)
theorem dX1_recordKind_6 : decode cX1_recordKind 6 = .ok (.astore_n 3, 1) := dk_78 (dk_at dksX1_recordKind_0 6 rfl rfl)
theorem dX1_recordKind_7 : decode cX1_recordKind 7 = .ok (.aload_n 3, 1) := dk_45 (dk_at dksX1_recordKind_0 7 rfl rfl)
theorem dX1_recordKind_8 : decode cX1_recordKind 8 = .ok (.ifnonnull 7, 3) := dk_199 0 7 (dk_at dksX1_recordKind_0 8 rfl rfl)
theorem dX1_recordKind_11 : decode cX1_recordKind 11 = .ok (.iconst (-1), 1) := dk_2 (dk_at dksX1_recordKind_0 11 rfl rfl)
theorem dX1_recordKind_12 : decode cX1_recordKind 12 = .ok (.goto 7, 3) := dk_167 0 7 (dk_at dksX1_recordKind_0 12 rfl rfl)
theorem dX1_recordKind_15 : decode cX1_recordKind 15 = .ok (.aload_n 3, 1) := dk_45 (dk_at dksX1_recordKind_0 15 rfl rfl)
theorem dX1_recordKind_16 : decode cX1_recordKind 16 = .ok (.getfield 277, 3) := dk_180 1 21 (dk_at dksX1_recordKind_0 16 rfl rfl)
theorem dX1_recordKind_19 : decode cX1_recordKind 19 = .ok (.ireturn, 1) := dk_172 (dk_at dksX1_recordKind_0 19 rfl rfl)
abbrev cX1_entry : ByteArray := prog_1_method_44_code
def yX1_entry : MethodName := ⟨RX1, "entry", "(II)LVoteLogs$Entry;"⟩
def dkwX1_entry_2 : List UInt8 := [185, 0, 61, 2, 0, 192, 1, 15, 167, 0, 4, 1, 176]
abbrev dktX1_entry_2 : List UInt8 := dkwX1_entry_2 ++ []
def dkwX1_entry_1 : List UInt8 := [185, 0, 61, 2, 0, 192, 0, 52, 78, 28, 45, 185, 0, 51, 1, 0, 162, 0, 16, 45, 28]
abbrev dktX1_entry_1 : List UInt8 := dkwX1_entry_1 ++ dktX1_entry_2
def dkwX1_entry_0 : List UInt8 := [27, 8, 184, 0, 57, 28, 3, 184, 1, 10, 4, 184, 0, 57, 42, 180, 0, 26, 180, 1, 7, 27]
abbrev dktX1_entry_0 : List UInt8 := dkwX1_entry_0 ++ dktX1_entry_1
theorem dksX1_entry_0 : cX1_entry.data.toList.drop 0 = dktX1_entry_0 := by decide +kernel
theorem dksX1_entry_1 : cX1_entry.data.toList.drop 22 = dktX1_entry_1 := dk_seg dksX1_entry_0 22 rfl rfl
theorem dksX1_entry_2 : cX1_entry.data.toList.drop 43 = dktX1_entry_2 := dk_seg dksX1_entry_1 21 rfl rfl
theorem dX1_entry_0 : decode cX1_entry 0 = .ok (.iload_n 1, 1) := dk_27 (dk_at dksX1_entry_0 0 rfl rfl)
theorem dX1_entry_1 : decode cX1_entry 1 = .ok (.iconst 5, 1) := dk_8 (dk_at dksX1_entry_0 1 rfl rfl)
theorem dX1_entry_2 : decode cX1_entry 2 = .ok (.invokestatic 57, 3) := dk_184 0 57 (dk_at dksX1_entry_0 2 rfl rfl)
theorem dX1_entry_5 : decode cX1_entry 5 = .ok (.iload_n 2, 1) := dk_28 (dk_at dksX1_entry_0 5 rfl rfl)
theorem dX1_entry_6 : decode cX1_entry 6 = .ok (.iconst 0, 1) := dk_3 (dk_at dksX1_entry_0 6 rfl rfl)
theorem dX1_entry_7 : decode cX1_entry 7 = .ok (.invokestatic 266, 3) := dk_184 1 10 (dk_at dksX1_entry_0 7 rfl rfl)
theorem dX1_entry_10 : decode cX1_entry 10 = .ok (.iconst 1, 1) := dk_4 (dk_at dksX1_entry_0 10 rfl rfl)
theorem dX1_entry_11 : decode cX1_entry 11 = .ok (.invokestatic 57, 3) := dk_184 0 57 (dk_at dksX1_entry_0 11 rfl rfl)
theorem dX1_entry_14 : decode cX1_entry 14 = .ok (.aload_n 0, 1) := dk_42 (dk_at dksX1_entry_0 14 rfl rfl)
theorem dX1_entry_15 : decode cX1_entry 15 = .ok (.getfield 26, 3) := dk_180 0 26 (dk_at dksX1_entry_0 15 rfl rfl)
theorem dX1_entry_18 : decode cX1_entry 18 = .ok (.getfield 263, 3) := dk_180 1 7 (dk_at dksX1_entry_0 18 rfl rfl)
theorem dX1_entry_21 : decode cX1_entry 21 = .ok (.iload_n 1, 1) := dk_27 (dk_at dksX1_entry_0 21 rfl rfl)
theorem dX1_entry_22 : decode cX1_entry 22 = .ok (.invokeinterface 61 2, 5) := by decide +kernel
theorem dX1_entry_27 : decode cX1_entry 27 = .ok (.checkcast 52, 3) := dk_192 0 52 (dk_at dksX1_entry_1 5 rfl rfl)
theorem dX1_entry_30 : decode cX1_entry 30 = .ok (.astore_n 3, 1) := dk_78 (dk_at dksX1_entry_1 8 rfl rfl)
theorem dX1_entry_31 : decode cX1_entry 31 = .ok (.iload_n 2, 1) := dk_28 (dk_at dksX1_entry_1 9 rfl rfl)
theorem dX1_entry_32 : decode cX1_entry 32 = .ok (.aload_n 3, 1) := dk_45 (dk_at dksX1_entry_1 10 rfl rfl)
theorem dX1_entry_33 : decode cX1_entry 33 = .ok (.invokeinterface 51 1, 5) := by decide +kernel
theorem dX1_entry_38 : decode cX1_entry 38 = .ok (.if_icmp .ge 16, 3) := dk_162 0 16 (dk_at dksX1_entry_1 16 rfl rfl)
theorem dX1_entry_41 : decode cX1_entry 41 = .ok (.aload_n 3, 1) := dk_45 (dk_at dksX1_entry_1 19 rfl rfl)
theorem dX1_entry_42 : decode cX1_entry 42 = .ok (.iload_n 2, 1) := dk_28 (dk_at dksX1_entry_1 20 rfl rfl)
theorem dX1_entry_43 : decode cX1_entry 43 = .ok (.invokeinterface 61 2, 5) := by decide +kernel
theorem dX1_entry_48 : decode cX1_entry 48 = .ok (.checkcast 271, 3) := dk_192 1 15 (dk_at dksX1_entry_2 5 rfl rfl)
theorem dX1_entry_51 : decode cX1_entry 51 = .ok (.goto 4, 3) := dk_167 0 4 (dk_at dksX1_entry_2 8 rfl rfl)
theorem dX1_entry_54 : decode cX1_entry 54 = .ok (.aconst_null, 1) := dk_1 (dk_at dksX1_entry_2 11 rfl rfl)
theorem dX1_entry_55 : decode cX1_entry 55 = .ok (.areturn, 1) := dk_176 (dk_at dksX1_entry_2 12 rfl rfl)
abbrev cX1_recordTransfer : ByteArray := prog_1_method_46_code
def yX1_recordTransfer : MethodName := ⟨RX1, "recordTransfer", "(II)I"⟩
def dkwX1_recordTransfer_0 : List UInt8 := [42, 27, 28, 182, 1, 17, 78, 45, 199, 0, 7, 2, 167, 0, 7, 45, 180, 1, 24, 172]
abbrev dktX1_recordTransfer_0 : List UInt8 := dkwX1_recordTransfer_0 ++ []
theorem dksX1_recordTransfer_0 : cX1_recordTransfer.data.toList.drop 0 = dktX1_recordTransfer_0 := by decide +kernel
theorem dX1_recordTransfer_0 : decode cX1_recordTransfer 0 = .ok (.aload_n 0, 1) := dk_42 (dk_at dksX1_recordTransfer_0 0 rfl rfl)
theorem dX1_recordTransfer_1 : decode cX1_recordTransfer 1 = .ok (.iload_n 1, 1) := dk_27 (dk_at dksX1_recordTransfer_0 1 rfl rfl)
theorem dX1_recordTransfer_2 : decode cX1_recordTransfer 2 = .ok (.iload_n 2, 1) := dk_28 (dk_at dksX1_recordTransfer_0 2 rfl rfl)
theorem dX1_recordTransfer_3 : decode cX1_recordTransfer 3 = .ok (.invokevirtual 273, 3) := dk_182 1 17 (dk_at dksX1_recordTransfer_0 3 rfl rfl)
theorem dX1_recordTransfer_6 : decode cX1_recordTransfer 6 = .ok (.astore_n 3, 1) := dk_78 (dk_at dksX1_recordTransfer_0 6 rfl rfl)
theorem dX1_recordTransfer_7 : decode cX1_recordTransfer 7 = .ok (.aload_n 3, 1) := dk_45 (dk_at dksX1_recordTransfer_0 7 rfl rfl)
theorem dX1_recordTransfer_8 : decode cX1_recordTransfer 8 = .ok (.ifnonnull 7, 3) := dk_199 0 7 (dk_at dksX1_recordTransfer_0 8 rfl rfl)
theorem dX1_recordTransfer_11 : decode cX1_recordTransfer 11 = .ok (.iconst (-1), 1) := dk_2 (dk_at dksX1_recordTransfer_0 11 rfl rfl)
theorem dX1_recordTransfer_12 : decode cX1_recordTransfer 12 = .ok (.goto 7, 3) := dk_167 0 7 (dk_at dksX1_recordTransfer_0 12 rfl rfl)
theorem dX1_recordTransfer_15 : decode cX1_recordTransfer 15 = .ok (.aload_n 3, 1) := dk_45 (dk_at dksX1_recordTransfer_0 15 rfl rfl)
theorem dX1_recordTransfer_16 : decode cX1_recordTransfer 16 = .ok (.getfield 280, 3) := dk_180 1 24 (dk_at dksX1_recordTransfer_0 16 rfl rfl)
theorem dX1_recordTransfer_19 : decode cX1_recordTransfer 19 = .ok (.ireturn, 1) := dk_172 (dk_at dksX1_recordTransfer_0 19 rfl rfl)
abbrev cX1_outcomeIfSettled : ByteArray := prog_1_method_58_code
def yX1_outcomeIfSettled : MethodName := ⟨RX1, "outcomeIfSettled", "(I)I"⟩
def dkwX1_outcomeIfSettled_1 : List UInt8 := [172]
abbrev dktX1_outcomeIfSettled_1 : List UInt8 := dkwX1_outcomeIfSettled_1 ++ []
def dkwX1_outcomeIfSettled_0 : List UInt8 := [27, 42, 180, 0, 26, 180, 0, 47, 185, 0, 51, 1, 0, 184, 0, 57, 42, 182, 1, 56, 27, 182, 0, 242]
abbrev dktX1_outcomeIfSettled_0 : List UInt8 := dkwX1_outcomeIfSettled_0 ++ dktX1_outcomeIfSettled_1
theorem dksX1_outcomeIfSettled_0 : cX1_outcomeIfSettled.data.toList.drop 0 = dktX1_outcomeIfSettled_0 := by decide +kernel
theorem dksX1_outcomeIfSettled_1 : cX1_outcomeIfSettled.data.toList.drop 24 = dktX1_outcomeIfSettled_1 := dk_seg dksX1_outcomeIfSettled_0 24 rfl rfl
theorem dX1_outcomeIfSettled_0 : decode cX1_outcomeIfSettled 0 = .ok (.iload_n 1, 1) := dk_27 (dk_at dksX1_outcomeIfSettled_0 0 rfl rfl)
theorem dX1_outcomeIfSettled_1 : decode cX1_outcomeIfSettled 1 = .ok (.aload_n 0, 1) := dk_42 (dk_at dksX1_outcomeIfSettled_0 1 rfl rfl)
theorem dX1_outcomeIfSettled_2 : decode cX1_outcomeIfSettled 2 = .ok (.getfield 26, 3) := dk_180 0 26 (dk_at dksX1_outcomeIfSettled_0 2 rfl rfl)
theorem dX1_outcomeIfSettled_5 : decode cX1_outcomeIfSettled 5 = .ok (.getfield 47, 3) := dk_180 0 47 (dk_at dksX1_outcomeIfSettled_0 5 rfl rfl)
theorem dX1_outcomeIfSettled_8 : decode cX1_outcomeIfSettled 8 = .ok (.invokeinterface 51 1, 5) := by decide +kernel
theorem dX1_outcomeIfSettled_13 : decode cX1_outcomeIfSettled 13 = .ok (.invokestatic 57, 3) := dk_184 0 57 (dk_at dksX1_outcomeIfSettled_0 13 rfl rfl)
theorem dX1_outcomeIfSettled_16 : decode cX1_outcomeIfSettled 16 = .ok (.aload_n 0, 1) := dk_42 (dk_at dksX1_outcomeIfSettled_0 16 rfl rfl)
theorem dX1_outcomeIfSettled_17 : decode cX1_outcomeIfSettled 17 = .ok (.invokevirtual 312, 3) := dk_182 1 56 (dk_at dksX1_outcomeIfSettled_0 17 rfl rfl)
theorem dX1_outcomeIfSettled_20 : decode cX1_outcomeIfSettled 20 = .ok (.iload_n 1, 1) := dk_27 (dk_at dksX1_outcomeIfSettled_0 20 rfl rfl)
theorem dX1_outcomeIfSettled_21 : decode cX1_outcomeIfSettled 21 = .ok (.invokevirtual 242, 3) := dk_182 0 242 (dk_at dksX1_outcomeIfSettled_0 21 rfl rfl)
theorem dX1_outcomeIfSettled_24 : decode cX1_outcomeIfSettled 24 = .ok (.ireturn, 1) := dk_172 (dk_at dksX1_outcomeIfSettled_1 0 rfl rfl)
abbrev cX1_settled : ByteArray := prog_1_method_56_code
def yX1_settled : MethodName := ⟨RX1, "settled", "()LVoteLogs$Town;"⟩
def dkwX1_settled_0 : List UInt8 := [187, 0, 23, 89, 42, 180, 0, 26, 183, 0, 80, 76, 43, 182, 1, 53, 87, 43, 176]
abbrev dktX1_settled_0 : List UInt8 := dkwX1_settled_0 ++ []
theorem dksX1_settled_0 : cX1_settled.data.toList.drop 0 = dktX1_settled_0 := by decide +kernel
theorem dX1_settled_0 : decode cX1_settled 0 = .ok (.new 23, 3) := dk_187 0 23 (dk_at dksX1_settled_0 0 rfl rfl)
theorem dX1_settled_3 : decode cX1_settled 3 = .ok (.dup, 1) := dk_89 (dk_at dksX1_settled_0 3 rfl rfl)
theorem dX1_settled_4 : decode cX1_settled 4 = .ok (.aload_n 0, 1) := dk_42 (dk_at dksX1_settled_0 4 rfl rfl)
theorem dX1_settled_5 : decode cX1_settled 5 = .ok (.getfield 26, 3) := dk_180 0 26 (dk_at dksX1_settled_0 5 rfl rfl)
theorem dX1_settled_8 : decode cX1_settled 8 = .ok (.invokespecial 80, 3) := dk_183 0 80 (dk_at dksX1_settled_0 8 rfl rfl)
theorem dX1_settled_11 : decode cX1_settled 11 = .ok (.astore_n 1, 1) := dk_76 (dk_at dksX1_settled_0 11 rfl rfl)
theorem dX1_settled_12 : decode cX1_settled 12 = .ok (.aload_n 1, 1) := dk_43 (dk_at dksX1_settled_0 12 rfl rfl)
theorem dX1_settled_13 : decode cX1_settled 13 = .ok (.invokevirtual 309, 3) := dk_182 1 53 (dk_at dksX1_settled_0 13 rfl rfl)
theorem dX1_settled_16 : decode cX1_settled 16 = .ok (.pop, 1) := dk_87 (dk_at dksX1_settled_0 16 rfl rfl)
theorem dX1_settled_17 : decode cX1_settled 17 = .ok (.aload_n 1, 1) := dk_43 (dk_at dksX1_settled_0 17 rfl rfl)
theorem dX1_settled_18 : decode cX1_settled 18 = .ok (.areturn, 1) := dk_176 (dk_at dksX1_settled_0 18 rfl rfl)
abbrev cX1_amountIfSettled : ByteArray := prog_1_method_59_code
def yX1_amountIfSettled : MethodName := ⟨RX1, "amountIfSettled", "(I)I"⟩
def dkwX1_amountIfSettled_0 : List UInt8 := [27, 7, 184, 0, 57, 42, 182, 1, 56, 180, 0, 227, 27, 46, 172]
abbrev dktX1_amountIfSettled_0 : List UInt8 := dkwX1_amountIfSettled_0 ++ []
theorem dksX1_amountIfSettled_0 : cX1_amountIfSettled.data.toList.drop 0 = dktX1_amountIfSettled_0 := by decide +kernel
theorem dX1_amountIfSettled_0 : decode cX1_amountIfSettled 0 = .ok (.iload_n 1, 1) := dk_27 (dk_at dksX1_amountIfSettled_0 0 rfl rfl)
theorem dX1_amountIfSettled_1 : decode cX1_amountIfSettled 1 = .ok (.iconst 4, 1) := dk_7 (dk_at dksX1_amountIfSettled_0 1 rfl rfl)
theorem dX1_amountIfSettled_2 : decode cX1_amountIfSettled 2 = .ok (.invokestatic 57, 3) := dk_184 0 57 (dk_at dksX1_amountIfSettled_0 2 rfl rfl)
theorem dX1_amountIfSettled_5 : decode cX1_amountIfSettled 5 = .ok (.aload_n 0, 1) := dk_42 (dk_at dksX1_amountIfSettled_0 5 rfl rfl)
theorem dX1_amountIfSettled_6 : decode cX1_amountIfSettled 6 = .ok (.invokevirtual 312, 3) := dk_182 1 56 (dk_at dksX1_amountIfSettled_0 6 rfl rfl)
theorem dX1_amountIfSettled_9 : decode cX1_amountIfSettled 9 = .ok (.getfield 227, 3) := dk_180 0 227 (dk_at dksX1_amountIfSettled_0 9 rfl rfl)
theorem dX1_amountIfSettled_12 : decode cX1_amountIfSettled 12 = .ok (.iload_n 1, 1) := dk_27 (dk_at dksX1_amountIfSettled_0 12 rfl rfl)
theorem dX1_amountIfSettled_13 : decode cX1_amountIfSettled 13 = .ok (.iaload, 1) := dk_46 (dk_at dksX1_amountIfSettled_0 13 rfl rfl)
theorem dX1_amountIfSettled_14 : decode cX1_amountIfSettled 14 = .ok (.ireturn, 1) := dk_172 (dk_at dksX1_amountIfSettled_0 14 rfl rfl)
abbrev cX1_greatestSize : ByteArray := prog_1_method_60_code
def yX1_greatestSize : MethodName := ⟨RX1, "greatestSize", "(II)I"⟩
def dkwX1_greatestSize_0 : List UInt8 := [27, 28, 4, 184, 0, 87, 42, 180, 0, 26, 27, 28, 182, 1, 60, 172]
abbrev dktX1_greatestSize_0 : List UInt8 := dkwX1_greatestSize_0 ++ []
theorem dksX1_greatestSize_0 : cX1_greatestSize.data.toList.drop 0 = dktX1_greatestSize_0 := by decide +kernel
theorem dX1_greatestSize_0 : decode cX1_greatestSize 0 = .ok (.iload_n 1, 1) := dk_27 (dk_at dksX1_greatestSize_0 0 rfl rfl)
theorem dX1_greatestSize_1 : decode cX1_greatestSize 1 = .ok (.iload_n 2, 1) := dk_28 (dk_at dksX1_greatestSize_0 1 rfl rfl)
theorem dX1_greatestSize_2 : decode cX1_greatestSize 2 = .ok (.iconst 1, 1) := dk_4 (dk_at dksX1_greatestSize_0 2 rfl rfl)
theorem dX1_greatestSize_3 : decode cX1_greatestSize 3 = .ok (.invokestatic 87, 3) := dk_184 0 87 (dk_at dksX1_greatestSize_0 3 rfl rfl)
theorem dX1_greatestSize_6 : decode cX1_greatestSize 6 = .ok (.aload_n 0, 1) := dk_42 (dk_at dksX1_greatestSize_0 6 rfl rfl)
theorem dX1_greatestSize_7 : decode cX1_greatestSize 7 = .ok (.getfield 26, 3) := dk_180 0 26 (dk_at dksX1_greatestSize_0 7 rfl rfl)
theorem dX1_greatestSize_10 : decode cX1_greatestSize 10 = .ok (.iload_n 1, 1) := dk_27 (dk_at dksX1_greatestSize_0 10 rfl rfl)
theorem dX1_greatestSize_11 : decode cX1_greatestSize 11 = .ok (.iload_n 2, 1) := dk_28 (dk_at dksX1_greatestSize_0 11 rfl rfl)
theorem dX1_greatestSize_12 : decode cX1_greatestSize 12 = .ok (.invokevirtual 316, 3) := dk_182 1 60 (dk_at dksX1_greatestSize_0 12 rfl rfl)
theorem dX1_greatestSize_15 : decode cX1_greatestSize 15 = .ok (.ireturn, 1) := dk_172 (dk_at dksX1_greatestSize_0 15 rfl rfl)
theorem q90 : (Jvm.Cond.initialized "VoteLogs") ∈ lw_all := lw_g (lw_at lw_m1 1 rfl) rfl
theorem q130 : (Jvm.Cond.instantiable "VoteLogs" (4 : Nat)) ∈ lw_all := lw_g (lw_at lw_m1 41 rfl) rfl
theorem q132 : (Jvm.Cond.instanceMethod ({ cls := "VoteLogs", name := "<init>", desc := "()V" } : Jvm.MethodName)) ∈ lw_all := lw_g (lw_at lw_m1 43 rfl) rfl
theorem q133 : (Jvm.Cond.code ({ cls := "VoteLogs", name := "<init>", desc := "()V" } : Jvm.MethodName) prog_1_method_2_code (1 : Nat) (Option.none : Option Jvm.ClassFile.FieldType)) ∈ lw_all := lw_g (lw_at lw_m1 44 rfl) rfl
theorem q134 : (Jvm.Cond.methodLink "VoteLogs" (3 : Nat) ({ cls := "java/lang/Object", name := "<init>", desc := "()V" } : Jvm.MethodName)) ∈ lw_all := lw_g (lw_at lw_m1 45 rfl) rfl
theorem q137 : (Jvm.Cond.classLink "VoteLogs" (9 : Nat) "java/lang/StringBuilder") ∈ lw_all := lw_g (lw_at lw_m1 48 rfl) rfl
theorem q139 : (Jvm.Cond.methodLink "VoteLogs" (11 : Nat) ({ cls := "java/lang/StringBuilder", name := "<init>", desc := "()V" } : Jvm.MethodName)) ∈ lw_all := lw_g (lw_at lw_m1 50 rfl) rfl
theorem q170 : (Jvm.Cond.classLink "VoteLogs" (16 : Nat) "java/util/ArrayDeque") ∈ lw_all := lw_g (lw_at lw_m1 81 rfl) rfl
theorem q172 : (Jvm.Cond.methodLink "VoteLogs" (18 : Nat) ({ cls := "java/util/ArrayDeque", name := "<init>", desc := "()V" } : Jvm.MethodName)) ∈ lw_all := lw_g (lw_at lw_m1 83 rfl) rfl
theorem q191 : (Jvm.Cond.classLink "VoteLogs" (23 : Nat) "VoteLogs$Town") ∈ lw_all := lw_g (lw_at lw_m1 102 rfl) rfl
theorem q193 : (Jvm.Cond.methodLink "VoteLogs" (25 : Nat) ({ cls := "VoteLogs$Town", name := "<init>", desc := "()V" } : Jvm.MethodName)) ∈ lw_all := lw_g (lw_at lw_m1 104 rfl) rfl
theorem q261 : (Jvm.Cond.selects "VoteLogs" ({ cls := "java/lang/Object", name := "getClass", desc := "()Ljava/lang/Class;" } : Jvm.MethodName) ({ cls := "java/lang/Object", name := "getClass", desc := "()Ljava/lang/Class;" } : Jvm.MethodName)) ∈ lw_all := lw_g (lw_at lw_m1 172 rfl) rfl
theorem q302 : (Jvm.Cond.fieldLinkNest "VoteLogs" (47 : Nat) "VoteLogs$Town" "transfers" "Ljava/util/List;" "VoteLogs") ∈ lw_tbl := lw_at lw_m1 213 rfl
theorem q304 : (Jvm.Cond.fieldLinkNest "VoteLogs" (263 : Nat) "VoteLogs$Town" "logs" "Ljava/util/List;" "VoteLogs") ∈ lw_tbl := lw_at lw_m1 215 rfl
theorem q306 : (Jvm.Cond.fieldLinkNest "VoteLogs" (126 : Nat) "VoteLogs$Town" "row" "Ljava/util/List;" "VoteLogs") ∈ lw_tbl := lw_at lw_m1 217 rfl
theorem q308 : (Jvm.Cond.fieldLinkNest "VoteLogs" (227 : Nat) "VoteLogs$Town" "amounts" "[I" "VoteLogs") ∈ lw_tbl := lw_at lw_m1 219 rfl
theorem q311 : (Jvm.Cond.fieldLinkNest "VoteLogs" (251 : Nat) "VoteLogs$Town" "yes" "[I" "VoteLogs") ∈ lw_tbl := lw_at lw_m1 222 rfl
theorem q313 : (Jvm.Cond.fieldLinkNest "VoteLogs" (254 : Nat) "VoteLogs$Town" "done" "[I" "VoteLogs") ∈ lw_tbl := lw_at lw_m1 224 rfl
theorem q316 : (Jvm.Cond.fieldLinkNest "VoteLogs" (300 : Nat) "VoteLogs$Town" "sent" "I" "VoteLogs") ∈ lw_tbl := lw_at lw_m1 227 rfl
theorem q318 : (Jvm.Cond.fieldLinkNest "VoteLogs" (303 : Nat) "VoteLogs$Town" "handled" "I" "VoteLogs") ∈ lw_tbl := lw_at lw_m1 229 rfl
theorem q320 : (Jvm.Cond.fieldLinkNest "VoteLogs" (306 : Nat) "VoteLogs$Town" "lost" "I" "VoteLogs") ∈ lw_tbl := lw_at lw_m1 231 rfl
theorem q345 : (Jvm.Cond.fieldLink "VoteLogs" (12 : Nat) "VoteLogs" "buffer" "Ljava/lang/StringBuilder;") ∈ lw_all := lw_g (lw_at lw_m2 16 rfl) rfl
theorem q347 : (Jvm.Cond.fieldLink "VoteLogs" (19 : Nat) "VoteLogs" "saved" "Ljava/util/ArrayDeque;") ∈ lw_all := lw_g (lw_at lw_m2 18 rfl) rfl
theorem q348 : (Jvm.Cond.fieldLink "VoteLogs" (26 : Nat) "VoteLogs" "town" "LVoteLogs$Town;") ∈ lw_all := lw_g (lw_at lw_m2 19 rfl) rfl
theorem q349 : (Jvm.Cond.fieldLink "VoteLogs" (209 : Nat) "VoteLogs" "snapshot" "LVoteLogs$Town;") ∈ lw_all := lw_g (lw_at lw_m2 20 rfl) rfl
theorem q350 : (Jvm.Cond.laysFinal "VoteLogs" "VoteLogs" "buffer" "Ljava/lang/StringBuilder;") ∈ lw_all := lw_g (lw_at lw_m2 21 rfl) rfl
theorem q351 : (Jvm.Cond.soleField "VoteLogs" "buffer") ∈ lw_all := lw_g (lw_at lw_m2 22 rfl) rfl
theorem q352 : (Jvm.Cond.laysFinal "VoteLogs" "VoteLogs" "saved" "Ljava/util/ArrayDeque;") ∈ lw_all := lw_g (lw_at lw_m2 23 rfl) rfl
theorem q353 : (Jvm.Cond.soleField "VoteLogs" "saved") ∈ lw_all := lw_g (lw_at lw_m2 24 rfl) rfl
theorem q354 : (Jvm.Cond.lays "VoteLogs" "VoteLogs" "town" "LVoteLogs$Town;") ∈ lw_all := lw_g (lw_at lw_m2 25 rfl) rfl
theorem q355 : (Jvm.Cond.soleField "VoteLogs" "town") ∈ lw_all := lw_g (lw_at lw_m2 26 rfl) rfl
theorem q356 : (Jvm.Cond.lays "VoteLogs" "VoteLogs" "snapshot" "LVoteLogs$Town;") ∈ lw_all := lw_g (lw_at lw_m2 27 rfl) rfl
theorem q357 : (Jvm.Cond.soleField "VoteLogs" "snapshot") ∈ lw_all := lw_g (lw_at lw_m2 28 rfl) rfl
theorem q358 : (Jvm.Cond.superclass "VoteLogs" "java/lang/Object") ∈ lw_all := lw_g (lw_at lw_m2 29 rfl) rfl
theorem q360 : (Jvm.Cond.instanceMethod ({ cls := "VoteLogs", name := "deliverAll", desc := "()I" } : Jvm.MethodName)) ∈ lw_all := lw_g (lw_at lw_m2 31 rfl) rfl
theorem q361 : (Jvm.Cond.selects "VoteLogs" ({ cls := "VoteLogs", name := "deliverAll", desc := "()I" } : Jvm.MethodName) ({ cls := "VoteLogs", name := "deliverAll", desc := "()I" } : Jvm.MethodName)) ∈ lw_all := lw_g (lw_at lw_m2 32 rfl) rfl
theorem q362 : (Jvm.Cond.code ({ cls := "VoteLogs", name := "deliverAll", desc := "()I" } : Jvm.MethodName) prog_1_method_14_code (1 : Nat) (Option.some Jvm.ClassFile.FieldType.int)) ∈ lw_all := lw_g (lw_at lw_m2 33 rfl) rfl
theorem q363 : (Jvm.Cond.methodLink "VoteLogs" (98 : Nat) ({ cls := "VoteLogs", name := "saves", desc := "()V" } : Jvm.MethodName)) ∈ lw_all := lw_g (lw_at lw_m2 34 rfl) rfl
theorem q364 : (Jvm.Cond.privateMethod ({ cls := "VoteLogs", name := "saves", desc := "()V" } : Jvm.MethodName)) ∈ lw_tbl := lw_at lw_m2 35 rfl
theorem q365 : (Jvm.Cond.instanceMethod ({ cls := "VoteLogs", name := "saves", desc := "()V" } : Jvm.MethodName)) ∈ lw_all := lw_g (lw_at lw_m2 36 rfl) rfl
theorem q366 : (Jvm.Cond.code ({ cls := "VoteLogs", name := "saves", desc := "()V" } : Jvm.MethodName) prog_1_method_9_code (1 : Nat) (Option.none : Option Jvm.ClassFile.FieldType)) ∈ lw_all := lw_g (lw_at lw_m2 37 rfl) rfl
theorem q367 : (Jvm.Cond.methodLink "VoteLogs" (75 : Nat) ({ cls := "java/util/ArrayDeque", name := "size", desc := "()I" } : Jvm.MethodName)) ∈ lw_all := lw_g (lw_at lw_m2 38 rfl) rfl
theorem q374 : (Jvm.Cond.methodLink "VoteLogs" (76 : Nat) ({ cls := "java/util/ArrayDeque", name := "removeFirst", desc := "()Ljava/lang/Object;" } : Jvm.MethodName)) ∈ lw_all := lw_g (lw_at lw_m2 45 rfl) rfl
theorem q388 : (Jvm.Cond.methodLink "VoteLogs" (80 : Nat) ({ cls := "VoteLogs$Town", name := "<init>", desc := "(LVoteLogs$Town;)V" } : Jvm.MethodName)) ∈ lw_all := lw_g (lw_at lw_m2 59 rfl) rfl
theorem q759 : (Jvm.Cond.methodLink "VoteLogs" (83 : Nat) ({ cls := "java/util/ArrayDeque", name := "addLast", desc := "(Ljava/lang/Object;)V" } : Jvm.MethodName)) ∈ lw_all := lw_g (lw_at lw_m3 190 rfl) rfl
theorem q790 : (Jvm.Cond.constant "VoteLogs" (134 : Nat) (2147483647 : Int32)) ∈ lw_all := lw_g (lw_at lw_m3 221 rfl) rfl
theorem q791 : (Jvm.Cond.methodLink "VoteLogs" (135 : Nat) ({ cls := "VoteLogs$Town", name := "deliversFirst", desc := "(I)I" } : Jvm.MethodName)) ∈ lw_all := lw_g (lw_at lw_m3 222 rfl) rfl
theorem q837 : (Jvm.Cond.static ({ cls := "VoteLogs", name := "has", desc := "(II)Z" } : Jvm.MethodName)) ∈ lw_all := lw_g (lw_at lw_m4 28 rfl) rfl
theorem q838 : (Jvm.Cond.code ({ cls := "VoteLogs", name := "has", desc := "(II)Z" } : Jvm.MethodName) prog_1_method_1_code (2 : Nat) (Option.some Jvm.ClassFile.FieldType.boolean)) ∈ lw_all := lw_g (lw_at lw_m4 29 rfl) rfl
theorem q903 : (Jvm.Cond.fieldLinkNest "VoteLogs" (277 : Nat) "VoteLogs$Entry" "kind" "I" "VoteLogs") ∈ lw_tbl := lw_at lw_m4 94 rfl
theorem q906 : (Jvm.Cond.fieldLinkNest "VoteLogs" (280 : Nat) "VoteLogs$Entry" "transfer" "I" "VoteLogs") ∈ lw_tbl := lw_at lw_m4 97 rfl
theorem q931 : (Jvm.Cond.fieldLinkNest "VoteLogs" (288 : Nat) "VoteLogs$Message" "kind" "LVoteLogs$Kind;" "VoteLogs") ∈ lw_tbl := lw_at lw_m4 122 rfl
theorem q934 : (Jvm.Cond.fieldLinkNest "VoteLogs" (296 : Nat) "VoteLogs$Message" "transfer" "I" "VoteLogs") ∈ lw_tbl := lw_at lw_m4 125 rfl
theorem q937 : (Jvm.Cond.fieldLinkNest "VoteLogs" (297 : Nat) "VoteLogs$Message" "store" "I" "VoteLogs") ∈ lw_tbl := lw_at lw_m4 128 rfl
theorem q1025 : (Jvm.Cond.instanceMethod ({ cls := "VoteLogs", name := "clearBuffer", desc := "()I" } : Jvm.MethodName)) ∈ lw_all := lw_g (lw_at lw_m4 216 rfl) rfl
theorem q1026 : (Jvm.Cond.selects "VoteLogs" ({ cls := "VoteLogs", name := "clearBuffer", desc := "()I" } : Jvm.MethodName) ({ cls := "VoteLogs", name := "clearBuffer", desc := "()I" } : Jvm.MethodName)) ∈ lw_all := lw_g (lw_at lw_m4 217 rfl) rfl
theorem q1027 : (Jvm.Cond.code ({ cls := "VoteLogs", name := "clearBuffer", desc := "()I" } : Jvm.MethodName) prog_1_method_19_code (2 : Nat) (Option.some Jvm.ClassFile.FieldType.int)) ∈ lw_all := lw_g (lw_at lw_m4 218 rfl) rfl
theorem q1028 : (Jvm.Cond.methodLink "VoteLogs" (150 : Nat) ({ cls := "java/lang/StringBuilder", name := "length", desc := "()I" } : Jvm.MethodName)) ∈ lw_all := lw_g (lw_at lw_m4 219 rfl) rfl
theorem q1029 : (Jvm.Cond.methodLink "VoteLogs" (157 : Nat) ({ cls := "java/lang/StringBuilder", name := "setLength", desc := "(I)V" } : Jvm.MethodName)) ∈ lw_all := lw_g (lw_at lw_m4 220 rfl) rfl
theorem q1098 : (Jvm.Cond.instanceMethod ({ cls := "VoteLogs", name := "firstError", desc := "()I" } : Jvm.MethodName)) ∈ lw_all := lw_g (lw_at lw_m5 49 rfl) rfl
theorem q1099 : (Jvm.Cond.selects "VoteLogs" ({ cls := "VoteLogs", name := "firstError", desc := "()I" } : Jvm.MethodName) ({ cls := "VoteLogs", name := "firstError", desc := "()I" } : Jvm.MethodName)) ∈ lw_all := lw_g (lw_at lw_m5 50 rfl) rfl
theorem q1100 : (Jvm.Cond.code ({ cls := "VoteLogs", name := "firstError", desc := "()I" } : Jvm.MethodName) prog_1_method_20_code (1 : Nat) (Option.some Jvm.ClassFile.FieldType.int)) ∈ lw_all := lw_g (lw_at lw_m5 51 rfl) rfl
theorem q1101 : (Jvm.Cond.classLink "VoteLogs" (161 : Nat) "VoteLogs$Reader") ∈ lw_all := lw_g (lw_at lw_m5 52 rfl) rfl
theorem q1103 : (Jvm.Cond.methodLinkNest "VoteLogs" (163 : Nat) ({ cls := "VoteLogs$Reader", name := "<init>", desc := "(LVoteLogs;)V" } : Jvm.MethodName) "VoteLogs") ∈ lw_tbl := lw_at lw_m5 54 rfl
theorem q1110 : (Jvm.Cond.fieldLinkNest "VoteLogs" (200 : Nat) "VoteLogs$Reader" "parts" "Ljava/util/List;" "VoteLogs") ∈ lw_tbl := lw_at lw_m5 61 rfl
theorem q1112 : (Jvm.Cond.fieldLinkNest "VoteLogs" (170 : Nat) "VoteLogs$Reader" "at" "I" "VoteLogs") ∈ lw_tbl := lw_at lw_m5 63 rfl
theorem q1114 : (Jvm.Cond.fieldLinkNest "VoteLogs" (196 : Nat) "VoteLogs$Reader" "isWhole" "Z" "VoteLogs") ∈ lw_tbl := lw_at lw_m5 65 rfl
theorem q1125 : (Jvm.Cond.methodLink "VoteLogs" (166 : Nat) ({ cls := "VoteLogs$Reader", name := "reads", desc := "()LVoteLogs$Reader;" } : Jvm.MethodName)) ∈ lw_all := lw_g (lw_at lw_m5 76 rfl) rfl
theorem q1191 : (Jvm.Cond.fieldLinkNest "VoteLogs" (176 : Nat) "VoteLogs$Beginning" "transfer" "LVoteLogs$Transfer;" "VoteLogs") ∈ lw_tbl := lw_at lw_m5 142 rfl
theorem q1208 : (Jvm.Cond.fieldLinkNest "VoteLogs" (189 : Nat) "VoteLogs$Deed" "sort" "C" "VoteLogs") ∈ lw_tbl := lw_at lw_m5 159 rfl
theorem q1210 : (Jvm.Cond.fieldLinkNest "VoteLogs" (186 : Nat) "VoteLogs$Deed" "number" "I" "VoteLogs") ∈ lw_tbl := lw_at lw_m5 161 rfl
theorem q1212 : (Jvm.Cond.fieldLinkNest "VoteLogs" (193 : Nat) "VoteLogs$Deed" "other" "I" "VoteLogs") ∈ lw_tbl := lw_at lw_m5 163 rfl
theorem q1225 : (Jvm.Cond.instanceMethod ({ cls := "VoteLogs", name := "keep", desc := "()I" } : Jvm.MethodName)) ∈ lw_all := lw_g (lw_at lw_m5 176 rfl) rfl
theorem q1226 : (Jvm.Cond.selects "VoteLogs" ({ cls := "VoteLogs", name := "keep", desc := "()I" } : Jvm.MethodName) ({ cls := "VoteLogs", name := "keep", desc := "()I" } : Jvm.MethodName)) ∈ lw_all := lw_g (lw_at lw_m5 177 rfl) rfl
theorem q1227 : (Jvm.Cond.code ({ cls := "VoteLogs", name := "keep", desc := "()I" } : Jvm.MethodName) prog_1_method_24_code (1 : Nat) (Option.some Jvm.ClassFile.FieldType.int)) ∈ lw_all := lw_g (lw_at lw_m5 178 rfl) rfl
theorem q1228 : (Jvm.Cond.interfaceEntry "VoteLogs" (51 : Nat)) ∈ lw_tbl := lw_at lw_m5 179 rfl
theorem q1229 : (Jvm.Cond.methodLink "VoteLogs" (51 : Nat) ({ cls := "java/util/List", name := "size", desc := "()I" } : Jvm.MethodName)) ∈ lw_all := lw_g (lw_at lw_m5 180 rfl) rfl
theorem q1231 : (Jvm.Cond.instanceMethod ({ cls := "VoteLogs", name := "transfers", desc := "()I" } : Jvm.MethodName)) ∈ lw_all := lw_g (lw_at lw_m5 182 rfl) rfl
theorem q1232 : (Jvm.Cond.selects "VoteLogs" ({ cls := "VoteLogs", name := "transfers", desc := "()I" } : Jvm.MethodName) ({ cls := "VoteLogs", name := "transfers", desc := "()I" } : Jvm.MethodName)) ∈ lw_all := lw_g (lw_at lw_m5 183 rfl) rfl
theorem q1233 : (Jvm.Cond.code ({ cls := "VoteLogs", name := "transfers", desc := "()I" } : Jvm.MethodName) prog_1_method_27_code (1 : Nat) (Option.some Jvm.ClassFile.FieldType.int)) ∈ lw_all := lw_g (lw_at lw_m5 184 rfl) rfl
theorem q1235 : (Jvm.Cond.instanceMethod ({ cls := "VoteLogs", name := "total", desc := "()I" } : Jvm.MethodName)) ∈ lw_all := lw_g (lw_at lw_m5 186 rfl) rfl
theorem q1236 : (Jvm.Cond.selects "VoteLogs" ({ cls := "VoteLogs", name := "total", desc := "()I" } : Jvm.MethodName) ({ cls := "VoteLogs", name := "total", desc := "()I" } : Jvm.MethodName)) ∈ lw_all := lw_g (lw_at lw_m5 187 rfl) rfl
theorem q1237 : (Jvm.Cond.code ({ cls := "VoteLogs", name := "total", desc := "()I" } : Jvm.MethodName) prog_1_method_41_code (1 : Nat) (Option.some Jvm.ClassFile.FieldType.int)) ∈ lw_all := lw_g (lw_at lw_m5 188 rfl) rfl
theorem q1238 : (Jvm.Cond.methodLink "VoteLogs" (257 : Nat) ({ cls := "VoteLogs$Town", name := "total", desc := "()I" } : Jvm.MethodName)) ∈ lw_all := lw_g (lw_at lw_m5 189 rfl) rfl
theorem q1243 : (Jvm.Cond.instanceMethod ({ cls := "VoteLogs", name := "onTheWay", desc := "()I" } : Jvm.MethodName)) ∈ lw_all := lw_g (lw_at lw_m5 194 rfl) rfl
theorem q1244 : (Jvm.Cond.selects "VoteLogs" ({ cls := "VoteLogs", name := "onTheWay", desc := "()I" } : Jvm.MethodName) ({ cls := "VoteLogs", name := "onTheWay", desc := "()I" } : Jvm.MethodName)) ∈ lw_all := lw_g (lw_at lw_m5 195 rfl) rfl
theorem q1245 : (Jvm.Cond.code ({ cls := "VoteLogs", name := "onTheWay", desc := "()I" } : Jvm.MethodName) prog_1_method_42_code (1 : Nat) (Option.some Jvm.ClassFile.FieldType.int)) ∈ lw_all := lw_g (lw_at lw_m5 196 rfl) rfl
theorem q1246 : (Jvm.Cond.methodLink "VoteLogs" (260 : Nat) ({ cls := "VoteLogs$Town", name := "onTheWay", desc := "()I" } : Jvm.MethodName)) ∈ lw_all := lw_g (lw_at lw_m5 197 rfl) rfl
theorem q1251 : (Jvm.Cond.instanceMethod ({ cls := "VoteLogs", name := "waiting", desc := "()I" } : Jvm.MethodName)) ∈ lw_all := lw_g (lw_at lw_m5 202 rfl) rfl
theorem q1252 : (Jvm.Cond.selects "VoteLogs" ({ cls := "VoteLogs", name := "waiting", desc := "()I" } : Jvm.MethodName) ({ cls := "VoteLogs", name := "waiting", desc := "()I" } : Jvm.MethodName)) ∈ lw_all := lw_g (lw_at lw_m5 203 rfl) rfl
theorem q1253 : (Jvm.Cond.code ({ cls := "VoteLogs", name := "waiting", desc := "()I" } : Jvm.MethodName) prog_1_method_47_code (1 : Nat) (Option.some Jvm.ClassFile.FieldType.int)) ∈ lw_all := lw_g (lw_at lw_m5 204 rfl) rfl
theorem q1255 : (Jvm.Cond.instanceMethod ({ cls := "VoteLogs", name := "sent", desc := "()I" } : Jvm.MethodName)) ∈ lw_all := lw_g (lw_at lw_m5 206 rfl) rfl
theorem q1256 : (Jvm.Cond.selects "VoteLogs" ({ cls := "VoteLogs", name := "sent", desc := "()I" } : Jvm.MethodName) ({ cls := "VoteLogs", name := "sent", desc := "()I" } : Jvm.MethodName)) ∈ lw_all := lw_g (lw_at lw_m5 207 rfl) rfl
theorem q1257 : (Jvm.Cond.code ({ cls := "VoteLogs", name := "sent", desc := "()I" } : Jvm.MethodName) prog_1_method_52_code (1 : Nat) (Option.some Jvm.ClassFile.FieldType.int)) ∈ lw_all := lw_g (lw_at lw_m5 208 rfl) rfl
theorem q1259 : (Jvm.Cond.instanceMethod ({ cls := "VoteLogs", name := "sentByAccount", desc := "()I" } : Jvm.MethodName)) ∈ lw_all := lw_g (lw_at lw_m5 210 rfl) rfl
theorem q1260 : (Jvm.Cond.selects "VoteLogs" ({ cls := "VoteLogs", name := "sentByAccount", desc := "()I" } : Jvm.MethodName) ({ cls := "VoteLogs", name := "sentByAccount", desc := "()I" } : Jvm.MethodName)) ∈ lw_all := lw_g (lw_at lw_m5 211 rfl) rfl
theorem q1261 : (Jvm.Cond.code ({ cls := "VoteLogs", name := "sentByAccount", desc := "()I" } : Jvm.MethodName) prog_1_method_53_code (1 : Nat) (Option.some Jvm.ClassFile.FieldType.int)) ∈ lw_all := lw_g (lw_at lw_m5 212 rfl) rfl
theorem q1263 : (Jvm.Cond.instanceMethod ({ cls := "VoteLogs", name := "lost", desc := "()I" } : Jvm.MethodName)) ∈ lw_all := lw_g (lw_at lw_m5 214 rfl) rfl
theorem q1264 : (Jvm.Cond.selects "VoteLogs" ({ cls := "VoteLogs", name := "lost", desc := "()I" } : Jvm.MethodName) ({ cls := "VoteLogs", name := "lost", desc := "()I" } : Jvm.MethodName)) ∈ lw_all := lw_g (lw_at lw_m5 215 rfl) rfl
theorem q1265 : (Jvm.Cond.code ({ cls := "VoteLogs", name := "lost", desc := "()I" } : Jvm.MethodName) prog_1_method_54_code (1 : Nat) (Option.some Jvm.ClassFile.FieldType.int)) ∈ lw_all := lw_g (lw_at lw_m5 216 rfl) rfl
theorem q1267 : (Jvm.Cond.instanceMethod ({ cls := "VoteLogs", name := "messagesToSettle", desc := "()I" } : Jvm.MethodName)) ∈ lw_all := lw_g (lw_at lw_m5 218 rfl) rfl
theorem q1268 : (Jvm.Cond.selects "VoteLogs" ({ cls := "VoteLogs", name := "messagesToSettle", desc := "()I" } : Jvm.MethodName) ({ cls := "VoteLogs", name := "messagesToSettle", desc := "()I" } : Jvm.MethodName)) ∈ lw_all := lw_g (lw_at lw_m5 219 rfl) rfl
theorem q1269 : (Jvm.Cond.code ({ cls := "VoteLogs", name := "messagesToSettle", desc := "()I" } : Jvm.MethodName) prog_1_method_57_code (1 : Nat) (Option.some Jvm.ClassFile.FieldType.int)) ∈ lw_all := lw_g (lw_at lw_m5 220 rfl) rfl
theorem q1270 : (Jvm.Cond.methodLink "VoteLogs" (309 : Nat) ({ cls := "VoteLogs$Town", name := "settles", desc := "()I" } : Jvm.MethodName)) ∈ lw_all := lw_g (lw_at lw_m5 221 rfl) rfl
theorem q1287 : (Jvm.Cond.instanceMethod ({ cls := "VoteLogs", name := "lostShare", desc := "()D" } : Jvm.MethodName)) ∈ lw_all := lw_g (lw_at lw_m5 238 rfl) rfl
theorem q1288 : (Jvm.Cond.selects "VoteLogs" ({ cls := "VoteLogs", name := "lostShare", desc := "()D" } : Jvm.MethodName) ({ cls := "VoteLogs", name := "lostShare", desc := "()D" } : Jvm.MethodName)) ∈ lw_all := lw_g (lw_at lw_m5 239 rfl) rfl
theorem q1289 : (Jvm.Cond.code ({ cls := "VoteLogs", name := "lostShare", desc := "()D" } : Jvm.MethodName) prog_1_method_61_code (1 : Nat) (Option.some Jvm.ClassFile.FieldType.double)) ∈ lw_all := lw_g (lw_at lw_m6 0 rfl) rfl
theorem q1291 : (Jvm.Cond.instanceMethod ({ cls := "VoteLogs", name := "meanSize", desc := "()F" } : Jvm.MethodName)) ∈ lw_all := lw_g (lw_at lw_m6 2 rfl) rfl
theorem q1292 : (Jvm.Cond.selects "VoteLogs" ({ cls := "VoteLogs", name := "meanSize", desc := "()F" } : Jvm.MethodName) ({ cls := "VoteLogs", name := "meanSize", desc := "()F" } : Jvm.MethodName)) ∈ lw_all := lw_g (lw_at lw_m6 3 rfl) rfl
theorem q1293 : (Jvm.Cond.code ({ cls := "VoteLogs", name := "meanSize", desc := "()F" } : Jvm.MethodName) prog_1_method_62_code (1 : Nat) (Option.some Jvm.ClassFile.FieldType.float)) ∈ lw_all := lw_g (lw_at lw_m6 4 rfl) rfl
theorem q1294 : (Jvm.Cond.interfaceEntry "VoteLogs" (319 : Nat)) ∈ lw_tbl := lw_at lw_m6 5 rfl
theorem q1295 : (Jvm.Cond.methodLink "VoteLogs" (319 : Nat) ({ cls := "java/util/List", name := "isEmpty", desc := "()Z" } : Jvm.MethodName)) ∈ lw_all := lw_g (lw_at lw_m6 6 rfl) rfl
theorem q1296 : (Jvm.Cond.methodLink "VoteLogs" (320 : Nat) ({ cls := "VoteLogs$Town", name := "sizes", desc := "()I" } : Jvm.MethodName)) ∈ lw_all := lw_g (lw_at lw_m6 7 rfl) rfl
theorem q1301 : (Jvm.Cond.instanceMethod ({ cls := "VoteLogs", name := "digest", desc := "()J" } : Jvm.MethodName)) ∈ lw_all := lw_g (lw_at lw_m6 12 rfl) rfl
theorem q1302 : (Jvm.Cond.selects "VoteLogs" ({ cls := "VoteLogs", name := "digest", desc := "()J" } : Jvm.MethodName) ({ cls := "VoteLogs", name := "digest", desc := "()J" } : Jvm.MethodName)) ∈ lw_all := lw_g (lw_at lw_m6 13 rfl) rfl
theorem q1303 : (Jvm.Cond.code ({ cls := "VoteLogs", name := "digest", desc := "()J" } : Jvm.MethodName) prog_1_method_65_code (6 : Nat) (Option.some Jvm.ClassFile.FieldType.long)) ∈ lw_all := lw_g (lw_at lw_m6 14 rfl) rfl
theorem q1304 : (Jvm.Cond.constantLong "VoteLogs" (337 : Nat) (130789 : Int64)) ∈ lw_all := lw_g (lw_at lw_m6 15 rfl) rfl
theorem q1305 : (Jvm.Cond.methodLink "VoteLogs" (339 : Nat) ({ cls := "VoteLogs", name := "hashOfTransfer", desc := "(JILVoteLogs$Town;)J" } : Jvm.MethodName)) ∈ lw_all := lw_g (lw_at lw_m6 16 rfl) rfl
theorem q1306 : (Jvm.Cond.privateMethod ({ cls := "VoteLogs", name := "hashOfTransfer", desc := "(JILVoteLogs$Town;)J" } : Jvm.MethodName)) ∈ lw_tbl := lw_at lw_m6 17 rfl
theorem q1307 : (Jvm.Cond.instanceMethod ({ cls := "VoteLogs", name := "hashOfTransfer", desc := "(JILVoteLogs$Town;)J" } : Jvm.MethodName)) ∈ lw_all := lw_g (lw_at lw_m6 18 rfl) rfl
theorem q1308 : (Jvm.Cond.code ({ cls := "VoteLogs", name := "hashOfTransfer", desc := "(JILVoteLogs$Town;)J" } : Jvm.MethodName) prog_1_method_63_code (8 : Nat) (Option.some Jvm.ClassFile.FieldType.long)) ∈ lw_all := lw_g (lw_at lw_m6 19 rfl) rfl
theorem q1309 : (Jvm.Cond.constantLong "VoteLogs" (323 : Nat) (31 : Int64)) ∈ lw_all := lw_g (lw_at lw_m6 20 rfl) rfl
theorem q1310 : (Jvm.Cond.interfaceEntry "VoteLogs" (61 : Nat)) ∈ lw_tbl := lw_at lw_m6 21 rfl
theorem q1311 : (Jvm.Cond.methodLink "VoteLogs" (61 : Nat) ({ cls := "java/util/List", name := "get", desc := "(I)Ljava/lang/Object;" } : Jvm.MethodName)) ∈ lw_all := lw_g (lw_at lw_m6 22 rfl) rfl
theorem q1312 : (Jvm.Cond.classLink "VoteLogs" (65 : Nat) "VoteLogs$Transfer") ∈ lw_all := lw_g (lw_at lw_m6 23 rfl) rfl
theorem q1313 : (Jvm.Cond.methodLink "VoteLogs" (221 : Nat) ({ cls := "VoteLogs$Transfer", name := "partners", desc := "()I" } : Jvm.MethodName)) ∈ lw_all := lw_g (lw_at lw_m6 24 rfl) rfl
theorem q1314 : (Jvm.Cond.methodLink "VoteLogs" (242 : Nat) ({ cls := "VoteLogs$Town", name := "outcome", desc := "(I)I" } : Jvm.MethodName)) ∈ lw_all := lw_g (lw_at lw_m6 25 rfl) rfl
theorem q1315 : (Jvm.Cond.methodLink "VoteLogs" (245 : Nat) ({ cls := "VoteLogs$Town", name := "outcomeByStores", desc := "(I)I" } : Jvm.MethodName)) ∈ lw_all := lw_g (lw_at lw_m6 26 rfl) rfl
theorem q1319 : (Jvm.Cond.methodLink "VoteLogs" (248 : Nat) ({ cls := "VoteLogs$Town", name := "hasEnded", desc := "(I)Z" } : Jvm.MethodName)) ∈ lw_all := lw_g (lw_at lw_m6 30 rfl) rfl
theorem q1320 : (Jvm.Cond.methodLink "VoteLogs" (224 : Nat) ({ cls := "VoteLogs$Transfer", name := "share", desc := "(I)I" } : Jvm.MethodName)) ∈ lw_all := lw_g (lw_at lw_m6 31 rfl) rfl
theorem q1321 : (Jvm.Cond.methodLink "VoteLogs" (234 : Nat) ({ cls := "VoteLogs$Town", name := "state", desc := "(II)I" } : Jvm.MethodName)) ∈ lw_all := lw_g (lw_at lw_m6 32 rfl) rfl
theorem q1322 : (Jvm.Cond.methodLink "VoteLogs" (236 : Nat) ({ cls := "VoteLogs$Town", name := "stateByLog", desc := "(II)I" } : Jvm.MethodName)) ∈ lw_all := lw_g (lw_at lw_m6 33 rfl) rfl
theorem q1326 : (Jvm.Cond.methodLink "VoteLogs" (343 : Nat) ({ cls := "VoteLogs", name := "hashOfSites", desc := "(JLVoteLogs$Town;)J" } : Jvm.MethodName)) ∈ lw_all := lw_g (lw_at lw_m6 37 rfl) rfl
theorem q1327 : (Jvm.Cond.privateMethod ({ cls := "VoteLogs", name := "hashOfSites", desc := "(JLVoteLogs$Town;)J" } : Jvm.MethodName)) ∈ lw_tbl := lw_at lw_m6 38 rfl
theorem q1328 : (Jvm.Cond.instanceMethod ({ cls := "VoteLogs", name := "hashOfSites", desc := "(JLVoteLogs$Town;)J" } : Jvm.MethodName)) ∈ lw_all := lw_g (lw_at lw_m6 39 rfl) rfl
theorem q1329 : (Jvm.Cond.code ({ cls := "VoteLogs", name := "hashOfSites", desc := "(JLVoteLogs$Town;)J" } : Jvm.MethodName) prog_1_method_64_code (9 : Nat) (Option.some Jvm.ClassFile.FieldType.long)) ∈ lw_all := lw_g (lw_at lw_m6 40 rfl) rfl
theorem q1330 : (Jvm.Cond.methodLink "VoteLogs" (231 : Nat) ({ cls := "VoteLogs$Town", name := "amountByLog", desc := "(I)I" } : Jvm.MethodName)) ∈ lw_all := lw_g (lw_at lw_m6 41 rfl) rfl
theorem q1334 : (Jvm.Cond.methodLink "VoteLogs" (239 : Nat) ({ cls := "VoteLogs$Town", name := "inDoubt", desc := "(I)I" } : Jvm.MethodName)) ∈ lw_all := lw_g (lw_at lw_m6 45 rfl) rfl
theorem q1338 : (Jvm.Cond.methodLink "VoteLogs" (141 : Nat) ({ cls := "VoteLogs$Town", name := "isUp", desc := "(I)Z" } : Jvm.MethodName)) ∈ lw_all := lw_g (lw_at lw_m6 49 rfl) rfl
theorem q1339 : (Jvm.Cond.classLink "VoteLogs" (52 : Nat) "java/util/List") ∈ lw_all := lw_g (lw_at lw_m6 50 rfl) rfl
theorem q1340 : (Jvm.Cond.interfaceEntry "VoteLogs" (325 : Nat)) ∈ lw_tbl := lw_at lw_m6 51 rfl
theorem q1341 : (Jvm.Cond.methodLink "VoteLogs" (325 : Nat) ({ cls := "java/util/List", name := "iterator", desc := "()Ljava/util/Iterator;" } : Jvm.MethodName)) ∈ lw_all := lw_g (lw_at lw_m6 52 rfl) rfl
theorem q1342 : (Jvm.Cond.interfaceEntry "VoteLogs" (329 : Nat)) ∈ lw_tbl := lw_at lw_m6 53 rfl
theorem q1343 : (Jvm.Cond.methodLink "VoteLogs" (329 : Nat) ({ cls := "java/util/Iterator", name := "hasNext", desc := "()Z" } : Jvm.MethodName)) ∈ lw_all := lw_g (lw_at lw_m6 54 rfl) rfl
theorem q1344 : (Jvm.Cond.interfaceEntry "VoteLogs" (334 : Nat)) ∈ lw_tbl := lw_at lw_m6 55 rfl
theorem q1345 : (Jvm.Cond.methodLink "VoteLogs" (334 : Nat) ({ cls := "java/util/Iterator", name := "next", desc := "()Ljava/lang/Object;" } : Jvm.MethodName)) ∈ lw_all := lw_g (lw_at lw_m6 56 rfl) rfl
theorem q1346 : (Jvm.Cond.classLink "VoteLogs" (271 : Nat) "VoteLogs$Entry") ∈ lw_all := lw_g (lw_at lw_m6 57 rfl) rfl
theorem q1347 : (Jvm.Cond.methodLink "VoteLogs" (347 : Nat) ({ cls := "VoteLogs", name := "total", desc := "()I" } : Jvm.MethodName)) ∈ lw_all := lw_g (lw_at lw_m6 58 rfl) rfl
theorem q1348 : (Jvm.Cond.methodLink "VoteLogs" (348 : Nat) ({ cls := "VoteLogs", name := "onTheWay", desc := "()I" } : Jvm.MethodName)) ∈ lw_all := lw_g (lw_at lw_m6 59 rfl) rfl
theorem q1349 : (Jvm.Cond.methodLink "VoteLogs" (349 : Nat) ({ cls := "VoteLogs", name := "waiting", desc := "()I" } : Jvm.MethodName)) ∈ lw_all := lw_g (lw_at lw_m6 60 rfl) rfl
theorem q1350 : (Jvm.Cond.methodLink "VoteLogs" (352 : Nat) ({ cls := "VoteLogs", name := "kindOf", desc := "(I)I" } : Jvm.MethodName)) ∈ lw_all := lw_g (lw_at lw_m6 61 rfl) rfl
theorem q1351 : (Jvm.Cond.instanceMethod ({ cls := "VoteLogs", name := "kindOf", desc := "(I)I" } : Jvm.MethodName)) ∈ lw_all := lw_g (lw_at lw_m6 62 rfl) rfl
theorem q1352 : (Jvm.Cond.selects "VoteLogs" ({ cls := "VoteLogs", name := "kindOf", desc := "(I)I" } : Jvm.MethodName) ({ cls := "VoteLogs", name := "kindOf", desc := "(I)I" } : Jvm.MethodName)) ∈ lw_all := lw_g (lw_at lw_m6 63 rfl) rfl
theorem q1353 : (Jvm.Cond.code ({ cls := "VoteLogs", name := "kindOf", desc := "(I)I" } : Jvm.MethodName) prog_1_method_49_code (3 : Nat) (Option.some Jvm.ClassFile.FieldType.int)) ∈ lw_all := lw_g (lw_at lw_m6 64 rfl) rfl
theorem q1354 : (Jvm.Cond.methodLink "VoteLogs" (284 : Nat) ({ cls := "VoteLogs", name := "message", desc := "(I)LVoteLogs$Message;" } : Jvm.MethodName)) ∈ lw_all := lw_g (lw_at lw_m6 65 rfl) rfl
theorem q1355 : (Jvm.Cond.privateMethod ({ cls := "VoteLogs", name := "message", desc := "(I)LVoteLogs$Message;" } : Jvm.MethodName)) ∈ lw_tbl := lw_at lw_m6 66 rfl
theorem q1356 : (Jvm.Cond.instanceMethod ({ cls := "VoteLogs", name := "message", desc := "(I)LVoteLogs$Message;" } : Jvm.MethodName)) ∈ lw_all := lw_g (lw_at lw_m6 67 rfl) rfl
theorem q1357 : (Jvm.Cond.code ({ cls := "VoteLogs", name := "message", desc := "(I)LVoteLogs$Message;" } : Jvm.MethodName) prog_1_method_48_code (2 : Nat) (Option.some (Jvm.ClassFile.FieldType.object "VoteLogs$Message"))) ∈ lw_all := lw_g (lw_at lw_m6 68 rfl) rfl
theorem q1358 : (Jvm.Cond.methodLink "VoteLogs" (266 : Nat) ({ cls := "java/lang/Math", name := "min", desc := "(II)I" } : Jvm.MethodName)) ∈ lw_all := lw_g (lw_at lw_m6 69 rfl) rfl
theorem q1359 : (Jvm.Cond.methodLink "VoteLogs" (57 : Nat) ({ cls := "VoteLogs", name := "index", desc := "(II)V" } : Jvm.MethodName)) ∈ lw_all := lw_g (lw_at lw_m6 70 rfl) rfl
theorem q1360 : (Jvm.Cond.static ({ cls := "VoteLogs", name := "index", desc := "(II)V" } : Jvm.MethodName)) ∈ lw_all := lw_g (lw_at lw_m6 71 rfl) rfl
theorem q1361 : (Jvm.Cond.code ({ cls := "VoteLogs", name := "index", desc := "(II)V" } : Jvm.MethodName) prog_1_method_3_code (2 : Nat) (Option.none : Option Jvm.ClassFile.FieldType)) ∈ lw_all := lw_g (lw_at lw_m6 72 rfl) rfl
theorem q1362 : (Jvm.Cond.classLink "VoteLogs" (30 : Nat) "java/lang/IndexOutOfBoundsException") ∈ lw_all := lw_g (lw_at lw_m6 73 rfl) rfl
theorem q1371 : (Jvm.Cond.stringRef "VoteLogs" (32 : Nat) "there is no such number") ∈ lw_tbl := lw_at lw_m6 82 rfl
theorem q1372 : (Jvm.Cond.methodLink "VoteLogs" (34 : Nat) ({ cls := "java/lang/IndexOutOfBoundsException", name := "<init>", desc := "(Ljava/lang/String;)V" } : Jvm.MethodName)) ∈ lw_all := lw_g (lw_at lw_m6 83 rfl) rfl
theorem q1375 : (Jvm.Cond.classLink "VoteLogs" (282 : Nat) "VoteLogs$Message") ∈ lw_all := lw_g (lw_at lw_m6 86 rfl) rfl
theorem q1376 : (Jvm.Cond.methodLink "VoteLogs" (291 : Nat) ({ cls := "VoteLogs$Kind", name := "ordinal", desc := "()I" } : Jvm.MethodName)) ∈ lw_all := lw_g (lw_at lw_m6 87 rfl) rfl
theorem q1388 : (Jvm.Cond.methodLink "VoteLogs" (355 : Nat) ({ cls := "VoteLogs", name := "transferOf", desc := "(I)I" } : Jvm.MethodName)) ∈ lw_all := lw_g (lw_at lw_m6 99 rfl) rfl
theorem q1389 : (Jvm.Cond.instanceMethod ({ cls := "VoteLogs", name := "transferOf", desc := "(I)I" } : Jvm.MethodName)) ∈ lw_all := lw_g (lw_at lw_m6 100 rfl) rfl
theorem q1390 : (Jvm.Cond.selects "VoteLogs" ({ cls := "VoteLogs", name := "transferOf", desc := "(I)I" } : Jvm.MethodName) ({ cls := "VoteLogs", name := "transferOf", desc := "(I)I" } : Jvm.MethodName)) ∈ lw_all := lw_g (lw_at lw_m6 101 rfl) rfl
theorem q1391 : (Jvm.Cond.code ({ cls := "VoteLogs", name := "transferOf", desc := "(I)I" } : Jvm.MethodName) prog_1_method_50_code (3 : Nat) (Option.some Jvm.ClassFile.FieldType.int)) ∈ lw_all := lw_g (lw_at lw_m6 102 rfl) rfl
theorem q1392 : (Jvm.Cond.methodLink "VoteLogs" (358 : Nat) ({ cls := "VoteLogs", name := "storeOf", desc := "(I)I" } : Jvm.MethodName)) ∈ lw_all := lw_g (lw_at lw_m6 103 rfl) rfl
theorem q1393 : (Jvm.Cond.instanceMethod ({ cls := "VoteLogs", name := "storeOf", desc := "(I)I" } : Jvm.MethodName)) ∈ lw_all := lw_g (lw_at lw_m6 104 rfl) rfl
theorem q1394 : (Jvm.Cond.selects "VoteLogs" ({ cls := "VoteLogs", name := "storeOf", desc := "(I)I" } : Jvm.MethodName) ({ cls := "VoteLogs", name := "storeOf", desc := "(I)I" } : Jvm.MethodName)) ∈ lw_all := lw_g (lw_at lw_m6 105 rfl) rfl
theorem q1395 : (Jvm.Cond.code ({ cls := "VoteLogs", name := "storeOf", desc := "(I)I" } : Jvm.MethodName) prog_1_method_51_code (3 : Nat) (Option.some Jvm.ClassFile.FieldType.int)) ∈ lw_all := lw_g (lw_at lw_m6 106 rfl) rfl
theorem q1396 : (Jvm.Cond.methodLink "VoteLogs" (361 : Nat) ({ cls := "VoteLogs", name := "wouldSend", desc := "(I)I" } : Jvm.MethodName)) ∈ lw_all := lw_g (lw_at lw_m6 107 rfl) rfl
theorem q1397 : (Jvm.Cond.instanceMethod ({ cls := "VoteLogs", name := "wouldSend", desc := "(I)I" } : Jvm.MethodName)) ∈ lw_all := lw_g (lw_at lw_m6 108 rfl) rfl
theorem q1398 : (Jvm.Cond.selects "VoteLogs" ({ cls := "VoteLogs", name := "wouldSend", desc := "(I)I" } : Jvm.MethodName) ({ cls := "VoteLogs", name := "wouldSend", desc := "(I)I" } : Jvm.MethodName)) ∈ lw_all := lw_g (lw_at lw_m6 109 rfl) rfl
theorem q1399 : (Jvm.Cond.code ({ cls := "VoteLogs", name := "wouldSend", desc := "(I)I" } : Jvm.MethodName) prog_1_method_55_code (3 : Nat) (Option.some Jvm.ClassFile.FieldType.int)) ∈ lw_all := lw_g (lw_at lw_m6 110 rfl) rfl
theorem q1400 : (Jvm.Cond.methodLink "VoteLogs" (129 : Nat) ({ cls := "VoteLogs$Town", name := "delivers", desc := "(I)Z" } : Jvm.MethodName)) ∈ lw_all := lw_g (lw_at lw_m6 111 rfl) rfl
theorem q1401 : (Jvm.Cond.methodLink "VoteLogs" (364 : Nat) ({ cls := "VoteLogs", name := "sentByAccount", desc := "()I" } : Jvm.MethodName)) ∈ lw_all := lw_g (lw_at lw_m6 112 rfl) rfl
theorem q1402 : (Jvm.Cond.methodLink "VoteLogs" (316 : Nat) ({ cls := "VoteLogs$Town", name := "greatestSize", desc := "(II)I" } : Jvm.MethodName)) ∈ lw_all := lw_g (lw_at lw_m6 113 rfl) rfl
theorem q1411 : (Jvm.Cond.methodLink "VoteLogs" (367 : Nat) ({ cls := "VoteLogs", name := "lostShare", desc := "()D" } : Jvm.MethodName)) ∈ lw_all := lw_g (lw_at lw_m6 122 rfl) rfl
theorem q1412 : (Jvm.Cond.methodLink "VoteLogs" (371 : Nat) ({ cls := "java/lang/Double", name := "doubleToLongBits", desc := "(D)J" } : Jvm.MethodName)) ∈ lw_all := lw_g (lw_at lw_m6 123 rfl) rfl
theorem q1422 : (Jvm.Cond.methodLink "VoteLogs" (377 : Nat) ({ cls := "VoteLogs", name := "meanSize", desc := "()F" } : Jvm.MethodName)) ∈ lw_all := lw_g (lw_at lw_m6 133 rfl) rfl
theorem q1423 : (Jvm.Cond.methodLink "VoteLogs" (381 : Nat) ({ cls := "java/lang/Float", name := "floatToIntBits", desc := "(F)I" } : Jvm.MethodName)) ∈ lw_all := lw_g (lw_at lw_m6 134 rfl) rfl
theorem q1433 : (Jvm.Cond.methodLink "VoteLogs" (387 : Nat) ({ cls := "java/lang/StringBuilder", name := "charAt", desc := "(I)C" } : Jvm.MethodName)) ∈ lw_all := lw_g (lw_at lw_m6 144 rfl) rfl
theorem q1443 : (Jvm.Cond.instanceMethod ({ cls := "VoteLogs", name := "begin", desc := "(III)I" } : Jvm.MethodName)) ∈ lw_all := lw_g (lw_at lw_m6 154 rfl) rfl
theorem q1444 : (Jvm.Cond.selects "VoteLogs" ({ cls := "VoteLogs", name := "begin", desc := "(III)I" } : Jvm.MethodName) ({ cls := "VoteLogs", name := "begin", desc := "(III)I" } : Jvm.MethodName)) ∈ lw_all := lw_g (lw_at lw_m6 155 rfl) rfl
theorem q1445 : (Jvm.Cond.code ({ cls := "VoteLogs", name := "begin", desc := "(III)I" } : Jvm.MethodName) prog_1_method_10_code (4 : Nat) (Option.some Jvm.ClassFile.FieldType.int)) ∈ lw_all := lw_g (lw_at lw_m6 156 rfl) rfl
theorem q1446 : (Jvm.Cond.methodLink "VoteLogs" (87 : Nat) ({ cls := "VoteLogs", name := "areStores", desc := "(IIZ)V" } : Jvm.MethodName)) ∈ lw_all := lw_g (lw_at lw_m6 157 rfl) rfl
theorem q1447 : (Jvm.Cond.static ({ cls := "VoteLogs", name := "areStores", desc := "(IIZ)V" } : Jvm.MethodName)) ∈ lw_all := lw_g (lw_at lw_m6 158 rfl) rfl
theorem q1448 : (Jvm.Cond.code ({ cls := "VoteLogs", name := "areStores", desc := "(IIZ)V" } : Jvm.MethodName) prog_1_method_8_code (3 : Nat) (Option.none : Option Jvm.ClassFile.FieldType)) ∈ lw_all := lw_g (lw_at lw_m6 159 rfl) rfl
theorem q1449 : (Jvm.Cond.methodLink "VoteLogs" (67 : Nat) ({ cls := "VoteLogs", name := "has", desc := "(II)Z" } : Jvm.MethodName)) ∈ lw_all := lw_g (lw_at lw_m6 160 rfl) rfl
theorem q1450 : (Jvm.Cond.methodLink "VoteLogs" (71 : Nat) ({ cls := "VoteLogs", name := "argument", desc := "(Z)V" } : Jvm.MethodName)) ∈ lw_all := lw_g (lw_at lw_m6 161 rfl) rfl
theorem q1451 : (Jvm.Cond.static ({ cls := "VoteLogs", name := "argument", desc := "(Z)V" } : Jvm.MethodName)) ∈ lw_all := lw_g (lw_at lw_m6 162 rfl) rfl
theorem q1452 : (Jvm.Cond.code ({ cls := "VoteLogs", name := "argument", desc := "(Z)V" } : Jvm.MethodName) prog_1_method_4_code (1 : Nat) (Option.none : Option Jvm.ClassFile.FieldType)) ∈ lw_all := lw_g (lw_at lw_m6 163 rfl) rfl
theorem q1453 : (Jvm.Cond.classLink "VoteLogs" (37 : Nat) "java/lang/IllegalArgumentException") ∈ lw_all := lw_g (lw_at lw_m6 164 rfl) rfl
theorem q1454 : (Jvm.Cond.stringRef "VoteLogs" (39 : Nat) "it is not allowed") ∈ lw_tbl := lw_at lw_m6 165 rfl
theorem q1455 : (Jvm.Cond.methodLink "VoteLogs" (41 : Nat) ({ cls := "java/lang/IllegalArgumentException", name := "<init>", desc := "(Ljava/lang/String;)V" } : Jvm.MethodName)) ∈ lw_all := lw_g (lw_at lw_m6 166 rfl) rfl
theorem q1456 : (Jvm.Cond.methodLink "VoteLogs" (91 : Nat) ({ cls := "VoteLogs$Town", name := "canBegin", desc := "()Z" } : Jvm.MethodName)) ∈ lw_all := lw_g (lw_at lw_m6 167 rfl) rfl
theorem q1460 : (Jvm.Cond.methodLink "VoteLogs" (95 : Nat) ({ cls := "VoteLogs", name := "state", desc := "(Z)V" } : Jvm.MethodName)) ∈ lw_all := lw_g (lw_at lw_m6 171 rfl) rfl
theorem q1461 : (Jvm.Cond.static ({ cls := "VoteLogs", name := "state", desc := "(Z)V" } : Jvm.MethodName)) ∈ lw_all := lw_g (lw_at lw_m6 172 rfl) rfl
theorem q1462 : (Jvm.Cond.code ({ cls := "VoteLogs", name := "state", desc := "(Z)V" } : Jvm.MethodName) prog_1_method_5_code (1 : Nat) (Option.none : Option Jvm.ClassFile.FieldType)) ∈ lw_all := lw_g (lw_at lw_m6 173 rfl) rfl
theorem q1463 : (Jvm.Cond.classLink "VoteLogs" (42 : Nat) "java/lang/IllegalStateException") ∈ lw_all := lw_g (lw_at lw_m6 174 rfl) rfl
theorem q1464 : (Jvm.Cond.stringRef "VoteLogs" (44 : Nat) "it can not be now") ∈ lw_tbl := lw_at lw_m6 175 rfl
theorem q1465 : (Jvm.Cond.methodLink "VoteLogs" (46 : Nat) ({ cls := "java/lang/IllegalStateException", name := "<init>", desc := "(Ljava/lang/String;)V" } : Jvm.MethodName)) ∈ lw_all := lw_g (lw_at lw_m6 176 rfl) rfl
theorem q1466 : (Jvm.Cond.methodLink "VoteLogs" (101 : Nat) ({ cls := "VoteLogs$Transfer", name := "<init>", desc := "(III)V" } : Jvm.MethodName)) ∈ lw_all := lw_g (lw_at lw_m6 177 rfl) rfl
theorem q1467 : (Jvm.Cond.methodLink "VoteLogs" (104 : Nat) ({ cls := "VoteLogs$Town", name := "begins", desc := "(LVoteLogs$Transfer;)I" } : Jvm.MethodName)) ∈ lw_all := lw_g (lw_at lw_m6 178 rfl) rfl
theorem q1477 : (Jvm.Cond.instanceMethod ({ cls := "VoteLogs", name := "giveUp", desc := "(I)I" } : Jvm.MethodName)) ∈ lw_all := lw_g (lw_at lw_m6 188 rfl) rfl
theorem q1478 : (Jvm.Cond.selects "VoteLogs" ({ cls := "VoteLogs", name := "giveUp", desc := "(I)I" } : Jvm.MethodName) ({ cls := "VoteLogs", name := "giveUp", desc := "(I)I" } : Jvm.MethodName)) ∈ lw_all := lw_g (lw_at lw_m6 189 rfl) rfl
theorem q1479 : (Jvm.Cond.code ({ cls := "VoteLogs", name := "giveUp", desc := "(I)I" } : Jvm.MethodName) prog_1_method_11_code (2 : Nat) (Option.some Jvm.ClassFile.FieldType.int)) ∈ lw_all := lw_g (lw_at lw_m6 190 rfl) rfl
theorem q1480 : (Jvm.Cond.methodLink "VoteLogs" (108 : Nat) ({ cls := "VoteLogs$Town", name := "canGiveUp", desc := "(I)Z" } : Jvm.MethodName)) ∈ lw_all := lw_g (lw_at lw_m6 191 rfl) rfl
theorem q1484 : (Jvm.Cond.methodLink "VoteLogs" (112 : Nat) ({ cls := "VoteLogs$Town", name := "givesUp", desc := "(I)I" } : Jvm.MethodName)) ∈ lw_all := lw_g (lw_at lw_m6 195 rfl) rfl
theorem q1492 : (Jvm.Cond.instanceMethod ({ cls := "VoteLogs", name := "ask", desc := "(II)I" } : Jvm.MethodName)) ∈ lw_all := lw_g (lw_at lw_m6 203 rfl) rfl
theorem q1493 : (Jvm.Cond.selects "VoteLogs" ({ cls := "VoteLogs", name := "ask", desc := "(II)I" } : Jvm.MethodName) ({ cls := "VoteLogs", name := "ask", desc := "(II)I" } : Jvm.MethodName)) ∈ lw_all := lw_g (lw_at lw_m6 204 rfl) rfl
theorem q1494 : (Jvm.Cond.code ({ cls := "VoteLogs", name := "ask", desc := "(II)I" } : Jvm.MethodName) prog_1_method_12_code (3 : Nat) (Option.some Jvm.ClassFile.FieldType.int)) ∈ lw_all := lw_g (lw_at lw_m6 205 rfl) rfl
theorem q1495 : (Jvm.Cond.methodLink "VoteLogs" (116 : Nat) ({ cls := "VoteLogs", name := "isStoreOf", desc := "(II)V" } : Jvm.MethodName)) ∈ lw_all := lw_g (lw_at lw_m6 206 rfl) rfl
theorem q1496 : (Jvm.Cond.privateMethod ({ cls := "VoteLogs", name := "isStoreOf", desc := "(II)V" } : Jvm.MethodName)) ∈ lw_tbl := lw_at lw_m6 207 rfl
theorem q1497 : (Jvm.Cond.instanceMethod ({ cls := "VoteLogs", name := "isStoreOf", desc := "(II)V" } : Jvm.MethodName)) ∈ lw_all := lw_g (lw_at lw_m6 208 rfl) rfl
theorem q1498 : (Jvm.Cond.code ({ cls := "VoteLogs", name := "isStoreOf", desc := "(II)V" } : Jvm.MethodName) prog_1_method_7_code (3 : Nat) (Option.none : Option Jvm.ClassFile.FieldType)) ∈ lw_all := lw_g (lw_at lw_m6 209 rfl) rfl
theorem q1499 : (Jvm.Cond.methodLink "VoteLogs" (119 : Nat) ({ cls := "VoteLogs$Town", name := "canAsk", desc := "(II)Z" } : Jvm.MethodName)) ∈ lw_all := lw_g (lw_at lw_m6 210 rfl) rfl
theorem q1503 : (Jvm.Cond.methodLink "VoteLogs" (122 : Nat) ({ cls := "VoteLogs$Town", name := "asks", desc := "(II)I" } : Jvm.MethodName)) ∈ lw_all := lw_g (lw_at lw_m6 214 rfl) rfl
theorem q1511 : (Jvm.Cond.instanceMethod ({ cls := "VoteLogs", name := "deliver", desc := "(I)Z" } : Jvm.MethodName)) ∈ lw_all := lw_g (lw_at lw_m6 222 rfl) rfl
theorem q1512 : (Jvm.Cond.selects "VoteLogs" ({ cls := "VoteLogs", name := "deliver", desc := "(I)Z" } : Jvm.MethodName) ({ cls := "VoteLogs", name := "deliver", desc := "(I)Z" } : Jvm.MethodName)) ∈ lw_all := lw_g (lw_at lw_m6 223 rfl) rfl
theorem q1513 : (Jvm.Cond.code ({ cls := "VoteLogs", name := "deliver", desc := "(I)Z" } : Jvm.MethodName) prog_1_method_13_code (2 : Nat) (Option.some Jvm.ClassFile.FieldType.boolean)) ∈ lw_all := lw_g (lw_at lw_m6 224 rfl) rfl
theorem q1518 : (Jvm.Cond.instanceMethod ({ cls := "VoteLogs", name := "lose", desc := "(I)I" } : Jvm.MethodName)) ∈ lw_all := lw_g (lw_at lw_m6 229 rfl) rfl
theorem q1519 : (Jvm.Cond.selects "VoteLogs" ({ cls := "VoteLogs", name := "lose", desc := "(I)I" } : Jvm.MethodName) ({ cls := "VoteLogs", name := "lose", desc := "(I)I" } : Jvm.MethodName)) ∈ lw_all := lw_g (lw_at lw_m6 230 rfl) rfl
theorem q1520 : (Jvm.Cond.code ({ cls := "VoteLogs", name := "lose", desc := "(I)I" } : Jvm.MethodName) prog_1_method_15_code (2 : Nat) (Option.some Jvm.ClassFile.FieldType.int)) ∈ lw_all := lw_g (lw_at lw_m6 231 rfl) rfl
theorem q1521 : (Jvm.Cond.methodLink "VoteLogs" (138 : Nat) ({ cls := "VoteLogs$Town", name := "loses", desc := "(I)I" } : Jvm.MethodName)) ∈ lw_all := lw_g (lw_at lw_m6 232 rfl) rfl
theorem q1530 : (Jvm.Cond.instanceMethod ({ cls := "VoteLogs", name := "crash", desc := "(I)I" } : Jvm.MethodName)) ∈ lw_all := lw_g (lw_at lw_m7 1 rfl) rfl
theorem q1531 : (Jvm.Cond.selects "VoteLogs" ({ cls := "VoteLogs", name := "crash", desc := "(I)I" } : Jvm.MethodName) ({ cls := "VoteLogs", name := "crash", desc := "(I)I" } : Jvm.MethodName)) ∈ lw_all := lw_g (lw_at lw_m7 2 rfl) rfl
theorem q1532 : (Jvm.Cond.code ({ cls := "VoteLogs", name := "crash", desc := "(I)I" } : Jvm.MethodName) prog_1_method_16_code (2 : Nat) (Option.some Jvm.ClassFile.FieldType.int)) ∈ lw_all := lw_g (lw_at lw_m7 3 rfl) rfl
theorem q1533 : (Jvm.Cond.methodLink "VoteLogs" (144 : Nat) ({ cls := "VoteLogs$Town", name := "crashes", desc := "(I)I" } : Jvm.MethodName)) ∈ lw_all := lw_g (lw_at lw_m7 4 rfl) rfl
theorem q1541 : (Jvm.Cond.instanceMethod ({ cls := "VoteLogs", name := "recover", desc := "(I)I" } : Jvm.MethodName)) ∈ lw_all := lw_g (lw_at lw_m7 12 rfl) rfl
theorem q1542 : (Jvm.Cond.selects "VoteLogs" ({ cls := "VoteLogs", name := "recover", desc := "(I)I" } : Jvm.MethodName) ({ cls := "VoteLogs", name := "recover", desc := "(I)I" } : Jvm.MethodName)) ∈ lw_all := lw_g (lw_at lw_m7 13 rfl) rfl
theorem q1543 : (Jvm.Cond.code ({ cls := "VoteLogs", name := "recover", desc := "(I)I" } : Jvm.MethodName) prog_1_method_17_code (2 : Nat) (Option.some Jvm.ClassFile.FieldType.int)) ∈ lw_all := lw_g (lw_at lw_m7 14 rfl) rfl
theorem q1544 : (Jvm.Cond.methodLink "VoteLogs" (147 : Nat) ({ cls := "VoteLogs$Town", name := "recovers", desc := "(I)I" } : Jvm.MethodName)) ∈ lw_all := lw_g (lw_at lw_m7 15 rfl) rfl
theorem q1549 : (Jvm.Cond.instanceMethod ({ cls := "VoteLogs", name := "append", desc := "(I)I" } : Jvm.MethodName)) ∈ lw_all := lw_g (lw_at lw_m7 20 rfl) rfl
theorem q1550 : (Jvm.Cond.selects "VoteLogs" ({ cls := "VoteLogs", name := "append", desc := "(I)I" } : Jvm.MethodName) ({ cls := "VoteLogs", name := "append", desc := "(I)I" } : Jvm.MethodName)) ∈ lw_all := lw_g (lw_at lw_m7 21 rfl) rfl
theorem q1551 : (Jvm.Cond.code ({ cls := "VoteLogs", name := "append", desc := "(I)I" } : Jvm.MethodName) prog_1_method_18_code (2 : Nat) (Option.some Jvm.ClassFile.FieldType.int)) ∈ lw_all := lw_g (lw_at lw_m7 22 rfl) rfl
theorem q1552 : (Jvm.Cond.methodLink "VoteLogs" (153 : Nat) ({ cls := "java/lang/StringBuilder", name := "append", desc := "(C)Ljava/lang/StringBuilder;" } : Jvm.MethodName)) ∈ lw_all := lw_g (lw_at lw_m7 23 rfl) rfl
theorem q1573 : (Jvm.Cond.instanceMethod ({ cls := "VoteLogs", name := "runCourse", desc := "()I" } : Jvm.MethodName)) ∈ lw_all := lw_g (lw_at lw_m7 44 rfl) rfl
theorem q1574 : (Jvm.Cond.selects "VoteLogs" ({ cls := "VoteLogs", name := "runCourse", desc := "()I" } : Jvm.MethodName) ({ cls := "VoteLogs", name := "runCourse", desc := "()I" } : Jvm.MethodName)) ∈ lw_all := lw_g (lw_at lw_m7 45 rfl) rfl
theorem q1575 : (Jvm.Cond.code ({ cls := "VoteLogs", name := "runCourse", desc := "()I" } : Jvm.MethodName) prog_1_method_23_code (3 : Nat) (Option.some Jvm.ClassFile.FieldType.int)) ∈ lw_all := lw_g (lw_at lw_m7 46 rfl) rfl
theorem q1576 : (Jvm.Cond.classLink "VoteLogs" (203 : Nat) "VoteLogs$Part") ∈ lw_all := lw_g (lw_at lw_m7 47 rfl) rfl
theorem q1577 : (Jvm.Cond.methodLink "VoteLogs" (205 : Nat) ({ cls := "VoteLogs", name := "does", desc := "(LVoteLogs$Part;)Z" } : Jvm.MethodName)) ∈ lw_all := lw_g (lw_at lw_m7 48 rfl) rfl
theorem q1578 : (Jvm.Cond.privateMethod ({ cls := "VoteLogs", name := "does", desc := "(LVoteLogs$Part;)Z" } : Jvm.MethodName)) ∈ lw_tbl := lw_at lw_m7 49 rfl
theorem q1579 : (Jvm.Cond.instanceMethod ({ cls := "VoteLogs", name := "does", desc := "(LVoteLogs$Part;)Z" } : Jvm.MethodName)) ∈ lw_all := lw_g (lw_at lw_m7 50 rfl) rfl
theorem q1580 : (Jvm.Cond.code ({ cls := "VoteLogs", name := "does", desc := "(LVoteLogs$Part;)Z" } : Jvm.MethodName) prog_1_method_21_code (3 : Nat) (Option.some Jvm.ClassFile.FieldType.boolean)) ∈ lw_all := lw_g (lw_at lw_m7 51 rfl) rfl
theorem q1581 : (Jvm.Cond.classLink "VoteLogs" (174 : Nat) "VoteLogs$Beginning") ∈ lw_all := lw_g (lw_at lw_m7 52 rfl) rfl
theorem q1582 : (Jvm.Cond.classLink "VoteLogs" (180 : Nat) "VoteLogs$Deed") ∈ lw_all := lw_g (lw_at lw_m7 53 rfl) rfl
theorem q1583 : (Jvm.Cond.methodLink "VoteLogs" (182 : Nat) ({ cls := "VoteLogs", name := "isDone", desc := "(LVoteLogs$Deed;)Z" } : Jvm.MethodName)) ∈ lw_all := lw_g (lw_at lw_m7 54 rfl) rfl
theorem q1584 : (Jvm.Cond.privateMethod ({ cls := "VoteLogs", name := "isDone", desc := "(LVoteLogs$Deed;)Z" } : Jvm.MethodName)) ∈ lw_tbl := lw_at lw_m7 55 rfl
theorem q1585 : (Jvm.Cond.instanceMethod ({ cls := "VoteLogs", name := "isDone", desc := "(LVoteLogs$Deed;)Z" } : Jvm.MethodName)) ∈ lw_all := lw_g (lw_at lw_m7 56 rfl) rfl
theorem q1586 : (Jvm.Cond.code ({ cls := "VoteLogs", name := "isDone", desc := "(LVoteLogs$Deed;)Z" } : Jvm.MethodName) prog_1_method_22_code (3 : Nat) (Option.some Jvm.ClassFile.FieldType.boolean)) ∈ lw_all := lw_g (lw_at lw_m7 57 rfl) rfl
theorem q1591 : (Jvm.Cond.instanceMethod ({ cls := "VoteLogs", name := "goBack", desc := "()I" } : Jvm.MethodName)) ∈ lw_all := lw_g (lw_at lw_m7 62 rfl) rfl
theorem q1592 : (Jvm.Cond.selects "VoteLogs" ({ cls := "VoteLogs", name := "goBack", desc := "()I" } : Jvm.MethodName) ({ cls := "VoteLogs", name := "goBack", desc := "()I" } : Jvm.MethodName)) ∈ lw_all := lw_g (lw_at lw_m7 63 rfl) rfl
theorem q1593 : (Jvm.Cond.code ({ cls := "VoteLogs", name := "goBack", desc := "()I" } : Jvm.MethodName) prog_1_method_25_code (1 : Nat) (Option.some Jvm.ClassFile.FieldType.int)) ∈ lw_all := lw_g (lw_at lw_m7 64 rfl) rfl
theorem q1598 : (Jvm.Cond.instanceMethod ({ cls := "VoteLogs", name := "undo", desc := "()I" } : Jvm.MethodName)) ∈ lw_all := lw_g (lw_at lw_m7 69 rfl) rfl
theorem q1599 : (Jvm.Cond.selects "VoteLogs" ({ cls := "VoteLogs", name := "undo", desc := "()I" } : Jvm.MethodName) ({ cls := "VoteLogs", name := "undo", desc := "()I" } : Jvm.MethodName)) ∈ lw_all := lw_g (lw_at lw_m7 70 rfl) rfl
theorem q1600 : (Jvm.Cond.code ({ cls := "VoteLogs", name := "undo", desc := "()I" } : Jvm.MethodName) prog_1_method_26_code (1 : Nat) (Option.some Jvm.ClassFile.FieldType.int)) ∈ lw_all := lw_g (lw_at lw_m7 71 rfl) rfl
theorem q1601 : (Jvm.Cond.methodLink "VoteLogs" (212 : Nat) ({ cls := "java/util/ArrayDeque", name := "isEmpty", desc := "()Z" } : Jvm.MethodName)) ∈ lw_all := lw_g (lw_at lw_m7 72 rfl) rfl
theorem q1605 : (Jvm.Cond.methodLink "VoteLogs" (215 : Nat) ({ cls := "java/util/ArrayDeque", name := "removeLast", desc := "()Ljava/lang/Object;" } : Jvm.MethodName)) ∈ lw_all := lw_g (lw_at lw_m7 76 rfl) rfl
theorem q1620 : (Jvm.Cond.instanceMethod ({ cls := "VoteLogs", name := "partners", desc := "(I)I" } : Jvm.MethodName)) ∈ lw_all := lw_g (lw_at lw_m7 91 rfl) rfl
theorem q1621 : (Jvm.Cond.selects "VoteLogs" ({ cls := "VoteLogs", name := "partners", desc := "(I)I" } : Jvm.MethodName) ({ cls := "VoteLogs", name := "partners", desc := "(I)I" } : Jvm.MethodName)) ∈ lw_all := lw_g (lw_at lw_m7 92 rfl) rfl
theorem q1622 : (Jvm.Cond.code ({ cls := "VoteLogs", name := "partners", desc := "(I)I" } : Jvm.MethodName) prog_1_method_28_code (2 : Nat) (Option.some Jvm.ClassFile.FieldType.int)) ∈ lw_all := lw_g (lw_at lw_m7 93 rfl) rfl
theorem q1623 : (Jvm.Cond.methodLink "VoteLogs" (218 : Nat) ({ cls := "VoteLogs", name := "transfer", desc := "(I)LVoteLogs$Transfer;" } : Jvm.MethodName)) ∈ lw_all := lw_g (lw_at lw_m7 94 rfl) rfl
theorem q1624 : (Jvm.Cond.privateMethod ({ cls := "VoteLogs", name := "transfer", desc := "(I)LVoteLogs$Transfer;" } : Jvm.MethodName)) ∈ lw_tbl := lw_at lw_m7 95 rfl
theorem q1625 : (Jvm.Cond.instanceMethod ({ cls := "VoteLogs", name := "transfer", desc := "(I)LVoteLogs$Transfer;" } : Jvm.MethodName)) ∈ lw_all := lw_g (lw_at lw_m7 96 rfl) rfl
theorem q1626 : (Jvm.Cond.code ({ cls := "VoteLogs", name := "transfer", desc := "(I)LVoteLogs$Transfer;" } : Jvm.MethodName) prog_1_method_6_code (2 : Nat) (Option.some (Jvm.ClassFile.FieldType.object "VoteLogs$Transfer"))) ∈ lw_all := lw_g (lw_at lw_m7 97 rfl) rfl
theorem q1631 : (Jvm.Cond.instanceMethod ({ cls := "VoteLogs", name := "share", desc := "(II)I" } : Jvm.MethodName)) ∈ lw_all := lw_g (lw_at lw_m7 102 rfl) rfl
theorem q1632 : (Jvm.Cond.selects "VoteLogs" ({ cls := "VoteLogs", name := "share", desc := "(II)I" } : Jvm.MethodName) ({ cls := "VoteLogs", name := "share", desc := "(II)I" } : Jvm.MethodName)) ∈ lw_all := lw_g (lw_at lw_m7 103 rfl) rfl
theorem q1633 : (Jvm.Cond.code ({ cls := "VoteLogs", name := "share", desc := "(II)I" } : Jvm.MethodName) prog_1_method_29_code (3 : Nat) (Option.some Jvm.ClassFile.FieldType.int)) ∈ lw_all := lw_g (lw_at lw_m7 104 rfl) rfl
theorem q1638 : (Jvm.Cond.instanceMethod ({ cls := "VoteLogs", name := "isUp", desc := "(I)Z" } : Jvm.MethodName)) ∈ lw_all := lw_g (lw_at lw_m7 109 rfl) rfl
theorem q1639 : (Jvm.Cond.selects "VoteLogs" ({ cls := "VoteLogs", name := "isUp", desc := "(I)Z" } : Jvm.MethodName) ({ cls := "VoteLogs", name := "isUp", desc := "(I)Z" } : Jvm.MethodName)) ∈ lw_all := lw_g (lw_at lw_m7 110 rfl) rfl
theorem q1640 : (Jvm.Cond.code ({ cls := "VoteLogs", name := "isUp", desc := "(I)Z" } : Jvm.MethodName) prog_1_method_30_code (2 : Nat) (Option.some Jvm.ClassFile.FieldType.boolean)) ∈ lw_all := lw_g (lw_at lw_m7 111 rfl) rfl
theorem q1645 : (Jvm.Cond.instanceMethod ({ cls := "VoteLogs", name := "amount", desc := "(I)I" } : Jvm.MethodName)) ∈ lw_all := lw_g (lw_at lw_m7 116 rfl) rfl
theorem q1646 : (Jvm.Cond.selects "VoteLogs" ({ cls := "VoteLogs", name := "amount", desc := "(I)I" } : Jvm.MethodName) ({ cls := "VoteLogs", name := "amount", desc := "(I)I" } : Jvm.MethodName)) ∈ lw_all := lw_g (lw_at lw_m7 117 rfl) rfl
theorem q1647 : (Jvm.Cond.code ({ cls := "VoteLogs", name := "amount", desc := "(I)I" } : Jvm.MethodName) prog_1_method_31_code (2 : Nat) (Option.some Jvm.ClassFile.FieldType.int)) ∈ lw_all := lw_g (lw_at lw_m7 118 rfl) rfl
theorem q1652 : (Jvm.Cond.instanceMethod ({ cls := "VoteLogs", name := "amountByLog", desc := "(I)I" } : Jvm.MethodName)) ∈ lw_all := lw_g (lw_at lw_m7 123 rfl) rfl
theorem q1653 : (Jvm.Cond.selects "VoteLogs" ({ cls := "VoteLogs", name := "amountByLog", desc := "(I)I" } : Jvm.MethodName) ({ cls := "VoteLogs", name := "amountByLog", desc := "(I)I" } : Jvm.MethodName)) ∈ lw_all := lw_g (lw_at lw_m7 124 rfl) rfl
theorem q1654 : (Jvm.Cond.code ({ cls := "VoteLogs", name := "amountByLog", desc := "(I)I" } : Jvm.MethodName) prog_1_method_32_code (2 : Nat) (Option.some Jvm.ClassFile.FieldType.int)) ∈ lw_all := lw_g (lw_at lw_m7 125 rfl) rfl
theorem q1659 : (Jvm.Cond.instanceMethod ({ cls := "VoteLogs", name := "state", desc := "(II)I" } : Jvm.MethodName)) ∈ lw_all := lw_g (lw_at lw_m7 130 rfl) rfl
theorem q1660 : (Jvm.Cond.selects "VoteLogs" ({ cls := "VoteLogs", name := "state", desc := "(II)I" } : Jvm.MethodName) ({ cls := "VoteLogs", name := "state", desc := "(II)I" } : Jvm.MethodName)) ∈ lw_all := lw_g (lw_at lw_m7 131 rfl) rfl
theorem q1661 : (Jvm.Cond.code ({ cls := "VoteLogs", name := "state", desc := "(II)I" } : Jvm.MethodName) prog_1_method_33_code (3 : Nat) (Option.some Jvm.ClassFile.FieldType.int)) ∈ lw_all := lw_g (lw_at lw_m7 132 rfl) rfl
theorem q1666 : (Jvm.Cond.instanceMethod ({ cls := "VoteLogs", name := "stateByLog", desc := "(II)I" } : Jvm.MethodName)) ∈ lw_all := lw_g (lw_at lw_m7 137 rfl) rfl
theorem q1667 : (Jvm.Cond.selects "VoteLogs" ({ cls := "VoteLogs", name := "stateByLog", desc := "(II)I" } : Jvm.MethodName) ({ cls := "VoteLogs", name := "stateByLog", desc := "(II)I" } : Jvm.MethodName)) ∈ lw_all := lw_g (lw_at lw_m7 138 rfl) rfl
theorem q1668 : (Jvm.Cond.code ({ cls := "VoteLogs", name := "stateByLog", desc := "(II)I" } : Jvm.MethodName) prog_1_method_34_code (3 : Nat) (Option.some Jvm.ClassFile.FieldType.int)) ∈ lw_all := lw_g (lw_at lw_m7 139 rfl) rfl
theorem q1673 : (Jvm.Cond.instanceMethod ({ cls := "VoteLogs", name := "inDoubt", desc := "(I)I" } : Jvm.MethodName)) ∈ lw_all := lw_g (lw_at lw_m7 144 rfl) rfl
theorem q1674 : (Jvm.Cond.selects "VoteLogs" ({ cls := "VoteLogs", name := "inDoubt", desc := "(I)I" } : Jvm.MethodName) ({ cls := "VoteLogs", name := "inDoubt", desc := "(I)I" } : Jvm.MethodName)) ∈ lw_all := lw_g (lw_at lw_m7 145 rfl) rfl
theorem q1675 : (Jvm.Cond.code ({ cls := "VoteLogs", name := "inDoubt", desc := "(I)I" } : Jvm.MethodName) prog_1_method_35_code (2 : Nat) (Option.some Jvm.ClassFile.FieldType.int)) ∈ lw_all := lw_g (lw_at lw_m7 146 rfl) rfl
theorem q1680 : (Jvm.Cond.instanceMethod ({ cls := "VoteLogs", name := "outcome", desc := "(I)I" } : Jvm.MethodName)) ∈ lw_all := lw_g (lw_at lw_m7 151 rfl) rfl
theorem q1681 : (Jvm.Cond.selects "VoteLogs" ({ cls := "VoteLogs", name := "outcome", desc := "(I)I" } : Jvm.MethodName) ({ cls := "VoteLogs", name := "outcome", desc := "(I)I" } : Jvm.MethodName)) ∈ lw_all := lw_g (lw_at lw_m7 152 rfl) rfl
theorem q1682 : (Jvm.Cond.code ({ cls := "VoteLogs", name := "outcome", desc := "(I)I" } : Jvm.MethodName) prog_1_method_36_code (2 : Nat) (Option.some Jvm.ClassFile.FieldType.int)) ∈ lw_all := lw_g (lw_at lw_m7 153 rfl) rfl
theorem q1687 : (Jvm.Cond.instanceMethod ({ cls := "VoteLogs", name := "outcomeByStores", desc := "(I)I" } : Jvm.MethodName)) ∈ lw_all := lw_g (lw_at lw_m7 158 rfl) rfl
theorem q1688 : (Jvm.Cond.selects "VoteLogs" ({ cls := "VoteLogs", name := "outcomeByStores", desc := "(I)I" } : Jvm.MethodName) ({ cls := "VoteLogs", name := "outcomeByStores", desc := "(I)I" } : Jvm.MethodName)) ∈ lw_all := lw_g (lw_at lw_m7 159 rfl) rfl
theorem q1689 : (Jvm.Cond.code ({ cls := "VoteLogs", name := "outcomeByStores", desc := "(I)I" } : Jvm.MethodName) prog_1_method_37_code (2 : Nat) (Option.some Jvm.ClassFile.FieldType.int)) ∈ lw_all := lw_g (lw_at lw_m7 160 rfl) rfl
theorem q1694 : (Jvm.Cond.instanceMethod ({ cls := "VoteLogs", name := "hasEnded", desc := "(I)Z" } : Jvm.MethodName)) ∈ lw_all := lw_g (lw_at lw_m7 165 rfl) rfl
theorem q1695 : (Jvm.Cond.selects "VoteLogs" ({ cls := "VoteLogs", name := "hasEnded", desc := "(I)Z" } : Jvm.MethodName) ({ cls := "VoteLogs", name := "hasEnded", desc := "(I)Z" } : Jvm.MethodName)) ∈ lw_all := lw_g (lw_at lw_m7 166 rfl) rfl
theorem q1696 : (Jvm.Cond.code ({ cls := "VoteLogs", name := "hasEnded", desc := "(I)Z" } : Jvm.MethodName) prog_1_method_38_code (2 : Nat) (Option.some Jvm.ClassFile.FieldType.boolean)) ∈ lw_all := lw_g (lw_at lw_m7 167 rfl) rfl
theorem q1701 : (Jvm.Cond.instanceMethod ({ cls := "VoteLogs", name := "saidYes", desc := "(I)I" } : Jvm.MethodName)) ∈ lw_all := lw_g (lw_at lw_m7 172 rfl) rfl
theorem q1702 : (Jvm.Cond.selects "VoteLogs" ({ cls := "VoteLogs", name := "saidYes", desc := "(I)I" } : Jvm.MethodName) ({ cls := "VoteLogs", name := "saidYes", desc := "(I)I" } : Jvm.MethodName)) ∈ lw_all := lw_g (lw_at lw_m7 173 rfl) rfl
theorem q1703 : (Jvm.Cond.code ({ cls := "VoteLogs", name := "saidYes", desc := "(I)I" } : Jvm.MethodName) prog_1_method_39_code (2 : Nat) (Option.some Jvm.ClassFile.FieldType.int)) ∈ lw_all := lw_g (lw_at lw_m7 174 rfl) rfl
theorem q1708 : (Jvm.Cond.instanceMethod ({ cls := "VoteLogs", name := "saidDone", desc := "(I)I" } : Jvm.MethodName)) ∈ lw_all := lw_g (lw_at lw_m7 179 rfl) rfl
theorem q1709 : (Jvm.Cond.selects "VoteLogs" ({ cls := "VoteLogs", name := "saidDone", desc := "(I)I" } : Jvm.MethodName) ({ cls := "VoteLogs", name := "saidDone", desc := "(I)I" } : Jvm.MethodName)) ∈ lw_all := lw_g (lw_at lw_m7 180 rfl) rfl
theorem q1710 : (Jvm.Cond.code ({ cls := "VoteLogs", name := "saidDone", desc := "(I)I" } : Jvm.MethodName) prog_1_method_40_code (2 : Nat) (Option.some Jvm.ClassFile.FieldType.int)) ∈ lw_all := lw_g (lw_at lw_m7 181 rfl) rfl
theorem q1715 : (Jvm.Cond.instanceMethod ({ cls := "VoteLogs", name := "records", desc := "(I)I" } : Jvm.MethodName)) ∈ lw_all := lw_g (lw_at lw_m7 186 rfl) rfl
theorem q1716 : (Jvm.Cond.selects "VoteLogs" ({ cls := "VoteLogs", name := "records", desc := "(I)I" } : Jvm.MethodName) ({ cls := "VoteLogs", name := "records", desc := "(I)I" } : Jvm.MethodName)) ∈ lw_all := lw_g (lw_at lw_m7 187 rfl) rfl
theorem q1717 : (Jvm.Cond.code ({ cls := "VoteLogs", name := "records", desc := "(I)I" } : Jvm.MethodName) prog_1_method_43_code (2 : Nat) (Option.some Jvm.ClassFile.FieldType.int)) ∈ lw_all := lw_g (lw_at lw_m7 188 rfl) rfl
theorem q1722 : (Jvm.Cond.instanceMethod ({ cls := "VoteLogs", name := "recordKind", desc := "(II)I" } : Jvm.MethodName)) ∈ lw_all := lw_g (lw_at lw_m7 193 rfl) rfl
theorem q1723 : (Jvm.Cond.selects "VoteLogs" ({ cls := "VoteLogs", name := "recordKind", desc := "(II)I" } : Jvm.MethodName) ({ cls := "VoteLogs", name := "recordKind", desc := "(II)I" } : Jvm.MethodName)) ∈ lw_all := lw_g (lw_at lw_m7 194 rfl) rfl
theorem q1724 : (Jvm.Cond.code ({ cls := "VoteLogs", name := "recordKind", desc := "(II)I" } : Jvm.MethodName) prog_1_method_45_code (4 : Nat) (Option.some Jvm.ClassFile.FieldType.int)) ∈ lw_all := lw_g (lw_at lw_m7 195 rfl) rfl
theorem q1725 : (Jvm.Cond.methodLink "VoteLogs" (273 : Nat) ({ cls := "VoteLogs", name := "entry", desc := "(II)LVoteLogs$Entry;" } : Jvm.MethodName)) ∈ lw_all := lw_g (lw_at lw_m7 196 rfl) rfl
theorem q1726 : (Jvm.Cond.privateMethod ({ cls := "VoteLogs", name := "entry", desc := "(II)LVoteLogs$Entry;" } : Jvm.MethodName)) ∈ lw_tbl := lw_at lw_m7 197 rfl
theorem q1727 : (Jvm.Cond.instanceMethod ({ cls := "VoteLogs", name := "entry", desc := "(II)LVoteLogs$Entry;" } : Jvm.MethodName)) ∈ lw_all := lw_g (lw_at lw_m7 198 rfl) rfl
theorem q1728 : (Jvm.Cond.code ({ cls := "VoteLogs", name := "entry", desc := "(II)LVoteLogs$Entry;" } : Jvm.MethodName) prog_1_method_44_code (4 : Nat) (Option.some (Jvm.ClassFile.FieldType.object "VoteLogs$Entry"))) ∈ lw_all := lw_g (lw_at lw_m7 199 rfl) rfl
theorem q1733 : (Jvm.Cond.instanceMethod ({ cls := "VoteLogs", name := "recordTransfer", desc := "(II)I" } : Jvm.MethodName)) ∈ lw_all := lw_g (lw_at lw_m7 204 rfl) rfl
theorem q1734 : (Jvm.Cond.selects "VoteLogs" ({ cls := "VoteLogs", name := "recordTransfer", desc := "(II)I" } : Jvm.MethodName) ({ cls := "VoteLogs", name := "recordTransfer", desc := "(II)I" } : Jvm.MethodName)) ∈ lw_all := lw_g (lw_at lw_m7 205 rfl) rfl
theorem q1735 : (Jvm.Cond.code ({ cls := "VoteLogs", name := "recordTransfer", desc := "(II)I" } : Jvm.MethodName) prog_1_method_46_code (4 : Nat) (Option.some Jvm.ClassFile.FieldType.int)) ∈ lw_all := lw_g (lw_at lw_m7 206 rfl) rfl
theorem q1756 : (Jvm.Cond.instanceMethod ({ cls := "VoteLogs", name := "outcomeIfSettled", desc := "(I)I" } : Jvm.MethodName)) ∈ lw_all := lw_g (lw_at lw_m7 227 rfl) rfl
theorem q1757 : (Jvm.Cond.selects "VoteLogs" ({ cls := "VoteLogs", name := "outcomeIfSettled", desc := "(I)I" } : Jvm.MethodName) ({ cls := "VoteLogs", name := "outcomeIfSettled", desc := "(I)I" } : Jvm.MethodName)) ∈ lw_all := lw_g (lw_at lw_m7 228 rfl) rfl
theorem q1758 : (Jvm.Cond.code ({ cls := "VoteLogs", name := "outcomeIfSettled", desc := "(I)I" } : Jvm.MethodName) prog_1_method_58_code (2 : Nat) (Option.some Jvm.ClassFile.FieldType.int)) ∈ lw_all := lw_g (lw_at lw_m7 229 rfl) rfl
theorem q1759 : (Jvm.Cond.methodLink "VoteLogs" (312 : Nat) ({ cls := "VoteLogs", name := "settled", desc := "()LVoteLogs$Town;" } : Jvm.MethodName)) ∈ lw_all := lw_g (lw_at lw_m7 230 rfl) rfl
theorem q1760 : (Jvm.Cond.privateMethod ({ cls := "VoteLogs", name := "settled", desc := "()LVoteLogs$Town;" } : Jvm.MethodName)) ∈ lw_tbl := lw_at lw_m7 231 rfl
theorem q1761 : (Jvm.Cond.instanceMethod ({ cls := "VoteLogs", name := "settled", desc := "()LVoteLogs$Town;" } : Jvm.MethodName)) ∈ lw_all := lw_g (lw_at lw_m7 232 rfl) rfl
theorem q1762 : (Jvm.Cond.code ({ cls := "VoteLogs", name := "settled", desc := "()LVoteLogs$Town;" } : Jvm.MethodName) prog_1_method_56_code (2 : Nat) (Option.some (Jvm.ClassFile.FieldType.object "VoteLogs$Town"))) ∈ lw_all := lw_g (lw_at lw_m7 233 rfl) rfl
theorem q1767 : (Jvm.Cond.instanceMethod ({ cls := "VoteLogs", name := "amountIfSettled", desc := "(I)I" } : Jvm.MethodName)) ∈ lw_all := lw_g (lw_at lw_m7 238 rfl) rfl
theorem q1768 : (Jvm.Cond.selects "VoteLogs" ({ cls := "VoteLogs", name := "amountIfSettled", desc := "(I)I" } : Jvm.MethodName) ({ cls := "VoteLogs", name := "amountIfSettled", desc := "(I)I" } : Jvm.MethodName)) ∈ lw_all := lw_g (lw_at lw_m7 239 rfl) rfl
theorem q1769 : (Jvm.Cond.code ({ cls := "VoteLogs", name := "amountIfSettled", desc := "(I)I" } : Jvm.MethodName) prog_1_method_59_code (2 : Nat) (Option.some Jvm.ClassFile.FieldType.int)) ∈ lw_all := lw_g (lw_at lw_m8 0 rfl) rfl
theorem q1774 : (Jvm.Cond.instanceMethod ({ cls := "VoteLogs", name := "greatestSize", desc := "(II)I" } : Jvm.MethodName)) ∈ lw_all := lw_g (lw_at lw_m8 5 rfl) rfl
theorem q1775 : (Jvm.Cond.selects "VoteLogs" ({ cls := "VoteLogs", name := "greatestSize", desc := "(II)I" } : Jvm.MethodName) ({ cls := "VoteLogs", name := "greatestSize", desc := "(II)I" } : Jvm.MethodName)) ∈ lw_all := lw_g (lw_at lw_m8 6 rfl) rfl
theorem q1776 : (Jvm.Cond.code ({ cls := "VoteLogs", name := "greatestSize", desc := "(II)I" } : Jvm.MethodName) prog_1_method_60_code (3 : Nat) (Option.some Jvm.ClassFile.FieldType.int)) ∈ lw_all := lw_g (lw_at lw_m8 7 rfl) rfl
theorem q2292 : (Jvm.Cond.castable "VoteLogs" "java/lang/Object") ∈ lw_tbl := lw_at lw_m10 43 rfl
theorem in_X1 : ∀ w ∈ wsX10, w ∈ lw_all := lw_in wsX10 [350, 352, 354, 356] (by decide +kernel) (by decide +kernel)
/-! VoteLogs$Town -/
set_option maxRecDepth 100000
def RX2 : String := "VoteLogs$Town"
def TX2 : u_T := fun k => match k with
  | 0 => ("VoteLogs$Town", "transfers", "Ljava/util/List;", true)
  | 1 => ("VoteLogs$Town", "logs", "Ljava/util/List;", true)
  | 2 => ("VoteLogs$Town", "row", "Ljava/util/List;", true)
  | 3 => ("VoteLogs$Town", "amounts", "[I", true)
  | 4 => ("VoteLogs$Town", "states", "[I", true)
  | 5 => ("VoteLogs$Town", "yes", "[I", true)
  | 6 => ("VoteLogs$Town", "done", "[I", true)
  | 7 => ("VoteLogs$Town", "up", "I", false)
  | 8 => ("VoteLogs$Town", "sent", "I", false)
  | 9 => ("VoteLogs$Town", "handled", "I", false)
  | _ => ("VoteLogs$Town", "lost", "I", false)
def tyX2 : Nat → FieldType := fun k => match k with
  | 0 => .object "java/util/List"
  | 1 => .object "java/util/List"
  | 2 => .object "java/util/List"
  | 3 => .array .int
  | 4 => .array .int
  | 5 => .array .int
  | 6 => .array .int
  | 7 => .int
  | 8 => .int
  | 9 => .int
  | _ => .int
abbrev wsX20 : List Cond := u_ws RX2 TX2 11
theorem nmX2 : ∀ a, a < 11 → ∀ b, b < 11 → a ≠ b → (TX2 a).2.1 ≠ (TX2 b).2.1 := by decide +kernel
theorem tyX2_ok : ∀ k, k < 11 → parseFieldDescriptor (TX2 k).2.2.1 = some (tyX2 k) := by decide +kernel
abbrev cX2_init : ByteArray := prog_16_method_1_code
def yX2_init : MethodName := ⟨RX2, "<init>", "()V"⟩
def dkwX2_init_5 : List UInt8 := [132, 1, 1, 167, 255, 231, 177]
abbrev dktX2_init_5 : List UInt8 := dkwX2_init_5 ++ []
def dkwX2_init_4 : List UInt8 := [60, 27, 8, 162, 0, 26, 42, 180, 0, 18, 187, 0, 9, 89, 183, 0, 11, 185, 0, 41, 2, 0, 87]
abbrev dktX2_init_4 : List UInt8 := dkwX2_init_4 ++ dktX2_init_5
def dkwX2_init_3 : List UInt8 := [16, 32, 188, 10, 181, 0, 32, 42, 16, 8, 188, 10, 181, 0, 35, 42, 16, 8, 188, 10, 181, 0, 38, 3]
abbrev dktX2_init_3 : List UInt8 := dkwX2_init_3 ++ dktX2_init_4
def dkwX2_init_2 : List UInt8 := [89, 3, 16, 100, 79, 89, 4, 16, 100, 79, 89, 5, 16, 100, 79, 89, 6, 16, 100, 79, 181, 0, 28, 42]
abbrev dktX2_init_2 : List UInt8 := dkwX2_init_2 ++ dktX2_init_3
def dkwX2_init_1 : List UInt8 := [181, 0, 18, 42, 187, 0, 9, 89, 183, 0, 11, 181, 0, 21, 42, 16, 31, 181, 0, 24, 42, 7, 188, 10]
abbrev dktX2_init_1 : List UInt8 := dkwX2_init_1 ++ dktX2_init_2
def dkwX2_init_0 : List UInt8 := [42, 183, 0, 3, 42, 187, 0, 9, 89, 183, 0, 11, 181, 0, 12, 42, 187, 0, 9, 89, 183, 0, 11]
abbrev dktX2_init_0 : List UInt8 := dkwX2_init_0 ++ dktX2_init_1
theorem dksX2_init_0 : cX2_init.data.toList.drop 0 = dktX2_init_0 := by decide +kernel
theorem dksX2_init_1 : cX2_init.data.toList.drop 23 = dktX2_init_1 := dk_seg dksX2_init_0 23 rfl rfl
theorem dksX2_init_2 : cX2_init.data.toList.drop 47 = dktX2_init_2 := dk_seg dksX2_init_1 24 rfl rfl
theorem dksX2_init_3 : cX2_init.data.toList.drop 71 = dktX2_init_3 := dk_seg dksX2_init_2 24 rfl rfl
theorem dksX2_init_4 : cX2_init.data.toList.drop 95 = dktX2_init_4 := dk_seg dksX2_init_3 24 rfl rfl
theorem dksX2_init_5 : cX2_init.data.toList.drop 118 = dktX2_init_5 := dk_seg dksX2_init_4 23 rfl rfl
theorem dX2_init_0 : decode cX2_init 0 = .ok (.aload_n 0, 1) := dk_42 (dk_at dksX2_init_0 0 rfl rfl)
theorem dX2_init_1 : decode cX2_init 1 = .ok (.invokespecial 3, 3) := dk_183 0 3 (dk_at dksX2_init_0 1 rfl rfl)
theorem dX2_init_4 : decode cX2_init 4 = .ok (.aload_n 0, 1) := dk_42 (dk_at dksX2_init_0 4 rfl rfl)
theorem dX2_init_5 : decode cX2_init 5 = .ok (.new 9, 3) := dk_187 0 9 (dk_at dksX2_init_0 5 rfl rfl)
theorem dX2_init_8 : decode cX2_init 8 = .ok (.dup, 1) := dk_89 (dk_at dksX2_init_0 8 rfl rfl)
theorem dX2_init_9 : decode cX2_init 9 = .ok (.invokespecial 11, 3) := dk_183 0 11 (dk_at dksX2_init_0 9 rfl rfl)
theorem dX2_init_12 : decode cX2_init 12 = .ok (.putfield 12, 3) := dk_181 0 12 (dk_at dksX2_init_0 12 rfl rfl)
theorem dX2_init_15 : decode cX2_init 15 = .ok (.aload_n 0, 1) := dk_42 (dk_at dksX2_init_0 15 rfl rfl)
theorem dX2_init_16 : decode cX2_init 16 = .ok (.new 9, 3) := dk_187 0 9 (dk_at dksX2_init_0 16 rfl rfl)
theorem dX2_init_19 : decode cX2_init 19 = .ok (.dup, 1) := dk_89 (dk_at dksX2_init_0 19 rfl rfl)
theorem dX2_init_20 : decode cX2_init 20 = .ok (.invokespecial 11, 3) := dk_183 0 11 (dk_at dksX2_init_0 20 rfl rfl)
theorem dX2_init_23 : decode cX2_init 23 = .ok (.putfield 18, 3) := dk_181 0 18 (dk_at dksX2_init_1 0 rfl rfl)
theorem dX2_init_26 : decode cX2_init 26 = .ok (.aload_n 0, 1) := dk_42 (dk_at dksX2_init_1 3 rfl rfl)
theorem dX2_init_27 : decode cX2_init 27 = .ok (.new 9, 3) := dk_187 0 9 (dk_at dksX2_init_1 4 rfl rfl)
theorem dX2_init_30 : decode cX2_init 30 = .ok (.dup, 1) := dk_89 (dk_at dksX2_init_1 7 rfl rfl)
theorem dX2_init_31 : decode cX2_init 31 = .ok (.invokespecial 11, 3) := dk_183 0 11 (dk_at dksX2_init_1 8 rfl rfl)
theorem dX2_init_34 : decode cX2_init 34 = .ok (.putfield 21, 3) := dk_181 0 21 (dk_at dksX2_init_1 11 rfl rfl)
theorem dX2_init_37 : decode cX2_init 37 = .ok (.aload_n 0, 1) := dk_42 (dk_at dksX2_init_1 14 rfl rfl)
theorem dX2_init_38 : decode cX2_init 38 = .ok (.bipush 31, 2) := dk_16 31 (dk_at dksX2_init_1 15 rfl rfl)
theorem dX2_init_40 : decode cX2_init 40 = .ok (.putfield 24, 3) := dk_181 0 24 (dk_at dksX2_init_1 17 rfl rfl)
theorem dX2_init_43 : decode cX2_init 43 = .ok (.aload_n 0, 1) := dk_42 (dk_at dksX2_init_1 20 rfl rfl)
theorem dX2_init_44 : decode cX2_init 44 = .ok (.iconst 4, 1) := dk_7 (dk_at dksX2_init_1 21 rfl rfl)
theorem dX2_init_45 : decode cX2_init 45 = .ok (.newarray .int, 2) := dk_188_10 (dk_at dksX2_init_1 22 rfl rfl)
theorem dX2_init_47 : decode cX2_init 47 = .ok (.dup, 1) := dk_89 (dk_at dksX2_init_2 0 rfl rfl)
theorem dX2_init_48 : decode cX2_init 48 = .ok (.iconst 0, 1) := dk_3 (dk_at dksX2_init_2 1 rfl rfl)
theorem dX2_init_49 : decode cX2_init 49 = .ok (.bipush 100, 2) := dk_16 100 (dk_at dksX2_init_2 2 rfl rfl)
theorem dX2_init_51 : decode cX2_init 51 = .ok (.iastore, 1) := dk_79 (dk_at dksX2_init_2 4 rfl rfl)
theorem dX2_init_52 : decode cX2_init 52 = .ok (.dup, 1) := dk_89 (dk_at dksX2_init_2 5 rfl rfl)
theorem dX2_init_53 : decode cX2_init 53 = .ok (.iconst 1, 1) := dk_4 (dk_at dksX2_init_2 6 rfl rfl)
theorem dX2_init_54 : decode cX2_init 54 = .ok (.bipush 100, 2) := dk_16 100 (dk_at dksX2_init_2 7 rfl rfl)
theorem dX2_init_56 : decode cX2_init 56 = .ok (.iastore, 1) := dk_79 (dk_at dksX2_init_2 9 rfl rfl)
theorem dX2_init_57 : decode cX2_init 57 = .ok (.dup, 1) := dk_89 (dk_at dksX2_init_2 10 rfl rfl)
theorem dX2_init_58 : decode cX2_init 58 = .ok (.iconst 2, 1) := dk_5 (dk_at dksX2_init_2 11 rfl rfl)
theorem dX2_init_59 : decode cX2_init 59 = .ok (.bipush 100, 2) := dk_16 100 (dk_at dksX2_init_2 12 rfl rfl)
theorem dX2_init_61 : decode cX2_init 61 = .ok (.iastore, 1) := dk_79 (dk_at dksX2_init_2 14 rfl rfl)
theorem dX2_init_62 : decode cX2_init 62 = .ok (.dup, 1) := dk_89 (dk_at dksX2_init_2 15 rfl rfl)
theorem dX2_init_63 : decode cX2_init 63 = .ok (.iconst 3, 1) := dk_6 (dk_at dksX2_init_2 16 rfl rfl)
theorem dX2_init_64 : decode cX2_init 64 = .ok (.bipush 100, 2) := dk_16 100 (dk_at dksX2_init_2 17 rfl rfl)
theorem dX2_init_66 : decode cX2_init 66 = .ok (.iastore, 1) := dk_79 (dk_at dksX2_init_2 19 rfl rfl)
theorem dX2_init_67 : decode cX2_init 67 = .ok (.putfield 28, 3) := dk_181 0 28 (dk_at dksX2_init_2 20 rfl rfl)
theorem dX2_init_70 : decode cX2_init 70 = .ok (.aload_n 0, 1) := dk_42 (dk_at dksX2_init_2 23 rfl rfl)
theorem dX2_init_71 : decode cX2_init 71 = .ok (.bipush 32, 2) := dk_16 32 (dk_at dksX2_init_3 0 rfl rfl)
theorem dX2_init_73 : decode cX2_init 73 = .ok (.newarray .int, 2) := dk_188_10 (dk_at dksX2_init_3 2 rfl rfl)
theorem dX2_init_75 : decode cX2_init 75 = .ok (.putfield 32, 3) := dk_181 0 32 (dk_at dksX2_init_3 4 rfl rfl)
theorem dX2_init_78 : decode cX2_init 78 = .ok (.aload_n 0, 1) := dk_42 (dk_at dksX2_init_3 7 rfl rfl)
theorem dX2_init_79 : decode cX2_init 79 = .ok (.bipush 8, 2) := dk_16 8 (dk_at dksX2_init_3 8 rfl rfl)
theorem dX2_init_81 : decode cX2_init 81 = .ok (.newarray .int, 2) := dk_188_10 (dk_at dksX2_init_3 10 rfl rfl)
theorem dX2_init_83 : decode cX2_init 83 = .ok (.putfield 35, 3) := dk_181 0 35 (dk_at dksX2_init_3 12 rfl rfl)
theorem dX2_init_86 : decode cX2_init 86 = .ok (.aload_n 0, 1) := dk_42 (dk_at dksX2_init_3 15 rfl rfl)
theorem dX2_init_87 : decode cX2_init 87 = .ok (.bipush 8, 2) := dk_16 8 (dk_at dksX2_init_3 16 rfl rfl)
theorem dX2_init_89 : decode cX2_init 89 = .ok (.newarray .int, 2) := dk_188_10 (dk_at dksX2_init_3 18 rfl rfl)
theorem dX2_init_91 : decode cX2_init 91 = .ok (.putfield 38, 3) := dk_181 0 38 (dk_at dksX2_init_3 20 rfl rfl)
theorem dX2_init_94 : decode cX2_init 94 = .ok (.iconst 0, 1) := dk_3 (dk_at dksX2_init_3 23 rfl rfl)
theorem dX2_init_95 : decode cX2_init 95 = .ok (.istore_n 1, 1) := dk_60 (dk_at dksX2_init_4 0 rfl rfl)
theorem dX2_init_96 : decode cX2_init 96 = .ok (.iload_n 1, 1) := dk_27 (dk_at dksX2_init_4 1 rfl rfl)
theorem dX2_init_97 : decode cX2_init 97 = .ok (.iconst 5, 1) := dk_8 (dk_at dksX2_init_4 2 rfl rfl)
theorem dX2_init_98 : decode cX2_init 98 = .ok (.if_icmp .ge 26, 3) := dk_162 0 26 (dk_at dksX2_init_4 3 rfl rfl)
theorem dX2_init_101 : decode cX2_init 101 = .ok (.aload_n 0, 1) := dk_42 (dk_at dksX2_init_4 6 rfl rfl)
theorem dX2_init_102 : decode cX2_init 102 = .ok (.getfield 18, 3) := dk_180 0 18 (dk_at dksX2_init_4 7 rfl rfl)
theorem dX2_init_105 : decode cX2_init 105 = .ok (.new 9, 3) := dk_187 0 9 (dk_at dksX2_init_4 10 rfl rfl)
theorem dX2_init_108 : decode cX2_init 108 = .ok (.dup, 1) := dk_89 (dk_at dksX2_init_4 13 rfl rfl)
theorem dX2_init_109 : decode cX2_init 109 = .ok (.invokespecial 11, 3) := dk_183 0 11 (dk_at dksX2_init_4 14 rfl rfl)
theorem dX2_init_112 : decode cX2_init 112 = .ok (.invokeinterface 41 2, 5) := by decide +kernel
theorem dX2_init_117 : decode cX2_init 117 = .ok (.pop, 1) := dk_87 (dk_at dksX2_init_4 22 rfl rfl)
theorem dX2_init_118 : decode cX2_init 118 = .ok (.iinc 1 1, 3) := dk_132 1 1 (dk_at dksX2_init_5 0 rfl rfl)
theorem dX2_init_121 : decode cX2_init 121 = .ok (.goto (-25), 3) := dk_167 255 231 (dk_at dksX2_init_5 3 rfl rfl)
theorem dX2_init_124 : decode cX2_init 124 = .ok (.return_, 1) := dk_177 (dk_at dksX2_init_5 6 rfl rfl)
abbrev cX2_init_2 : ByteArray := prog_16_method_2_code
def yX2_init_2 : MethodName := ⟨RX2, "<init>", "(LVoteLogs$Town;)V"⟩
def dkwX2_init_2_9 : List UInt8 := [181, 0, 78, 177]
abbrev dktX2_init_2_9 : List UInt8 := dkwX2_init_2_9 ++ []
def dkwX2_init_2_8 : List UInt8 := [181, 0, 24, 42, 43, 180, 0, 72, 181, 0, 72, 42, 43, 180, 0, 75, 181, 0, 75, 42, 43, 180, 0, 78]
abbrev dktX2_init_2_8 : List UInt8 := dkwX2_init_2_8 ++ dktX2_init_2_9
def dkwX2_init_2_7 : List UInt8 := [181, 0, 35, 42, 43, 180, 0, 38, 182, 0, 68, 192, 0, 69, 181, 0, 38, 42, 43, 180, 0, 24]
abbrev dktX2_init_2_7 : List UInt8 := dkwX2_init_2_7 ++ dktX2_init_2_8
def dkwX2_init_2_6 : List UInt8 := [43, 180, 0, 32, 182, 0, 68, 192, 0, 69, 181, 0, 32, 42, 43, 180, 0, 35, 182, 0, 68, 192, 0, 69]
abbrev dktX2_init_2_6 : List UInt8 := dkwX2_init_2_6 ++ dktX2_init_2_7
def dkwX2_init_2_5 : List UInt8 := [180, 0, 21, 185, 0, 47, 2, 0, 87, 42, 43, 180, 0, 28, 182, 0, 68, 192, 0, 69, 181, 0, 28, 42]
abbrev dktX2_init_2_5 : List UInt8 := dkwX2_init_2_5 ++ dktX2_init_2_6
def dkwX2_init_2_4 : List UInt8 := [187, 0, 9, 89, 45, 183, 0, 65, 185, 0, 41, 2, 0, 87, 167, 255, 219, 42, 180, 0, 21, 43]
abbrev dktX2_init_2_4 : List UInt8 := dkwX2_init_2_4 ++ dktX2_init_2_5
def dkwX2_init_2_3 : List UInt8 := [185, 0, 55, 1, 0, 153, 0, 34, 44, 185, 0, 61, 1, 0, 192, 0, 42, 78, 42, 180, 0, 18]
abbrev dktX2_init_2_3 : List UInt8 := dkwX2_init_2_3 ++ dktX2_init_2_4
def dkwX2_init_2_2 : List UInt8 := [43, 180, 0, 12, 185, 0, 47, 2, 0, 87, 43, 180, 0, 18, 185, 0, 51, 1, 0, 77, 44]
abbrev dktX2_init_2_2 : List UInt8 := dkwX2_init_2_2 ++ dktX2_init_2_3
def dkwX2_init_2_1 : List UInt8 := [181, 0, 18, 42, 187, 0, 9, 89, 183, 0, 11, 181, 0, 21, 42, 16, 31, 181, 0, 24, 42, 180, 0, 12]
abbrev dktX2_init_2_1 : List UInt8 := dkwX2_init_2_1 ++ dktX2_init_2_2
def dkwX2_init_2_0 : List UInt8 := [42, 183, 0, 3, 42, 187, 0, 9, 89, 183, 0, 11, 181, 0, 12, 42, 187, 0, 9, 89, 183, 0, 11]
abbrev dktX2_init_2_0 : List UInt8 := dkwX2_init_2_0 ++ dktX2_init_2_1
theorem dksX2_init_2_0 : cX2_init_2.data.toList.drop 0 = dktX2_init_2_0 := by decide +kernel
theorem dksX2_init_2_1 : cX2_init_2.data.toList.drop 23 = dktX2_init_2_1 := dk_seg dksX2_init_2_0 23 rfl rfl
theorem dksX2_init_2_2 : cX2_init_2.data.toList.drop 47 = dktX2_init_2_2 := dk_seg dksX2_init_2_1 24 rfl rfl
theorem dksX2_init_2_3 : cX2_init_2.data.toList.drop 68 = dktX2_init_2_3 := dk_seg dksX2_init_2_2 21 rfl rfl
theorem dksX2_init_2_4 : cX2_init_2.data.toList.drop 90 = dktX2_init_2_4 := dk_seg dksX2_init_2_3 22 rfl rfl
theorem dksX2_init_2_5 : cX2_init_2.data.toList.drop 112 = dktX2_init_2_5 := dk_seg dksX2_init_2_4 22 rfl rfl
theorem dksX2_init_2_6 : cX2_init_2.data.toList.drop 136 = dktX2_init_2_6 := dk_seg dksX2_init_2_5 24 rfl rfl
theorem dksX2_init_2_7 : cX2_init_2.data.toList.drop 160 = dktX2_init_2_7 := dk_seg dksX2_init_2_6 24 rfl rfl
theorem dksX2_init_2_8 : cX2_init_2.data.toList.drop 182 = dktX2_init_2_8 := dk_seg dksX2_init_2_7 22 rfl rfl
theorem dksX2_init_2_9 : cX2_init_2.data.toList.drop 206 = dktX2_init_2_9 := dk_seg dksX2_init_2_8 24 rfl rfl
theorem dX2_init_2_0 : decode cX2_init_2 0 = .ok (.aload_n 0, 1) := dk_42 (dk_at dksX2_init_2_0 0 rfl rfl)
theorem dX2_init_2_1 : decode cX2_init_2 1 = .ok (.invokespecial 3, 3) := dk_183 0 3 (dk_at dksX2_init_2_0 1 rfl rfl)
theorem dX2_init_2_4 : decode cX2_init_2 4 = .ok (.aload_n 0, 1) := dk_42 (dk_at dksX2_init_2_0 4 rfl rfl)
theorem dX2_init_2_5 : decode cX2_init_2 5 = .ok (.new 9, 3) := dk_187 0 9 (dk_at dksX2_init_2_0 5 rfl rfl)
theorem dX2_init_2_8 : decode cX2_init_2 8 = .ok (.dup, 1) := dk_89 (dk_at dksX2_init_2_0 8 rfl rfl)
theorem dX2_init_2_9 : decode cX2_init_2 9 = .ok (.invokespecial 11, 3) := dk_183 0 11 (dk_at dksX2_init_2_0 9 rfl rfl)
theorem dX2_init_2_12 : decode cX2_init_2 12 = .ok (.putfield 12, 3) := dk_181 0 12 (dk_at dksX2_init_2_0 12 rfl rfl)
theorem dX2_init_2_15 : decode cX2_init_2 15 = .ok (.aload_n 0, 1) := dk_42 (dk_at dksX2_init_2_0 15 rfl rfl)
theorem dX2_init_2_16 : decode cX2_init_2 16 = .ok (.new 9, 3) := dk_187 0 9 (dk_at dksX2_init_2_0 16 rfl rfl)
theorem dX2_init_2_19 : decode cX2_init_2 19 = .ok (.dup, 1) := dk_89 (dk_at dksX2_init_2_0 19 rfl rfl)
theorem dX2_init_2_20 : decode cX2_init_2 20 = .ok (.invokespecial 11, 3) := dk_183 0 11 (dk_at dksX2_init_2_0 20 rfl rfl)
theorem dX2_init_2_23 : decode cX2_init_2 23 = .ok (.putfield 18, 3) := dk_181 0 18 (dk_at dksX2_init_2_1 0 rfl rfl)
theorem dX2_init_2_26 : decode cX2_init_2 26 = .ok (.aload_n 0, 1) := dk_42 (dk_at dksX2_init_2_1 3 rfl rfl)
theorem dX2_init_2_27 : decode cX2_init_2 27 = .ok (.new 9, 3) := dk_187 0 9 (dk_at dksX2_init_2_1 4 rfl rfl)
theorem dX2_init_2_30 : decode cX2_init_2 30 = .ok (.dup, 1) := dk_89 (dk_at dksX2_init_2_1 7 rfl rfl)
theorem dX2_init_2_31 : decode cX2_init_2 31 = .ok (.invokespecial 11, 3) := dk_183 0 11 (dk_at dksX2_init_2_1 8 rfl rfl)
theorem dX2_init_2_34 : decode cX2_init_2 34 = .ok (.putfield 21, 3) := dk_181 0 21 (dk_at dksX2_init_2_1 11 rfl rfl)
theorem dX2_init_2_37 : decode cX2_init_2 37 = .ok (.aload_n 0, 1) := dk_42 (dk_at dksX2_init_2_1 14 rfl rfl)
theorem dX2_init_2_38 : decode cX2_init_2 38 = .ok (.bipush 31, 2) := dk_16 31 (dk_at dksX2_init_2_1 15 rfl rfl)
theorem dX2_init_2_40 : decode cX2_init_2 40 = .ok (.putfield 24, 3) := dk_181 0 24 (dk_at dksX2_init_2_1 17 rfl rfl)
theorem dX2_init_2_43 : decode cX2_init_2 43 = .ok (.aload_n 0, 1) := dk_42 (dk_at dksX2_init_2_1 20 rfl rfl)
theorem dX2_init_2_44 : decode cX2_init_2 44 = .ok (.getfield 12, 3) := dk_180 0 12 (dk_at dksX2_init_2_1 21 rfl rfl)
theorem dX2_init_2_47 : decode cX2_init_2 47 = .ok (.aload_n 1, 1) := dk_43 (dk_at dksX2_init_2_2 0 rfl rfl)
theorem dX2_init_2_48 : decode cX2_init_2 48 = .ok (.getfield 12, 3) := dk_180 0 12 (dk_at dksX2_init_2_2 1 rfl rfl)
theorem dX2_init_2_51 : decode cX2_init_2 51 = .ok (.invokeinterface 47 2, 5) := by decide +kernel
theorem dX2_init_2_56 : decode cX2_init_2 56 = .ok (.pop, 1) := dk_87 (dk_at dksX2_init_2_2 9 rfl rfl)
theorem dX2_init_2_57 : decode cX2_init_2 57 = .ok (.aload_n 1, 1) := dk_43 (dk_at dksX2_init_2_2 10 rfl rfl)
theorem dX2_init_2_58 : decode cX2_init_2 58 = .ok (.getfield 18, 3) := dk_180 0 18 (dk_at dksX2_init_2_2 11 rfl rfl)
theorem dX2_init_2_61 : decode cX2_init_2 61 = .ok (.invokeinterface 51 1, 5) := by decide +kernel
theorem dX2_init_2_66 : decode cX2_init_2 66 = .ok (.astore_n 2, 1) := dk_77 (dk_at dksX2_init_2_2 19 rfl rfl)
theorem dX2_init_2_67 : decode cX2_init_2 67 = .ok (.aload_n 2, 1) := dk_44 (dk_at dksX2_init_2_2 20 rfl rfl)
theorem dX2_init_2_68 : decode cX2_init_2 68 = .ok (.invokeinterface 55 1, 5) := by decide +kernel
theorem dX2_init_2_73 : decode cX2_init_2 73 = .ok (.ifCond .eq 34, 3) := dk_153 0 34 (dk_at dksX2_init_2_3 5 rfl rfl)
theorem dX2_init_2_76 : decode cX2_init_2 76 = .ok (.aload_n 2, 1) := dk_44 (dk_at dksX2_init_2_3 8 rfl rfl)
theorem dX2_init_2_77 : decode cX2_init_2 77 = .ok (.invokeinterface 61 1, 5) := by decide +kernel
theorem dX2_init_2_82 : decode cX2_init_2 82 = .ok (.checkcast 42, 3) := dk_192 0 42 (dk_at dksX2_init_2_3 14 rfl rfl)
theorem dX2_init_2_85 : decode cX2_init_2 85 = .ok (.astore_n 3, 1) := dk_78 (dk_at dksX2_init_2_3 17 rfl rfl)
theorem dX2_init_2_86 : decode cX2_init_2 86 = .ok (.aload_n 0, 1) := dk_42 (dk_at dksX2_init_2_3 18 rfl rfl)
theorem dX2_init_2_87 : decode cX2_init_2 87 = .ok (.getfield 18, 3) := dk_180 0 18 (dk_at dksX2_init_2_3 19 rfl rfl)
theorem dX2_init_2_90 : decode cX2_init_2 90 = .ok (.new 9, 3) := dk_187 0 9 (dk_at dksX2_init_2_4 0 rfl rfl)
theorem dX2_init_2_93 : decode cX2_init_2 93 = .ok (.dup, 1) := dk_89 (dk_at dksX2_init_2_4 3 rfl rfl)
theorem dX2_init_2_94 : decode cX2_init_2 94 = .ok (.aload_n 3, 1) := dk_45 (dk_at dksX2_init_2_4 4 rfl rfl)
theorem dX2_init_2_95 : decode cX2_init_2 95 = .ok (.invokespecial 65, 3) := dk_183 0 65 (dk_at dksX2_init_2_4 5 rfl rfl)
theorem dX2_init_2_98 : decode cX2_init_2 98 = .ok (.invokeinterface 41 2, 5) := by decide +kernel
theorem dX2_init_2_103 : decode cX2_init_2 103 = .ok (.pop, 1) := dk_87 (dk_at dksX2_init_2_4 13 rfl rfl)
theorem dX2_init_2_104 : decode cX2_init_2 104 = .ok (.goto (-37), 3) := dk_167 255 219 (dk_at dksX2_init_2_4 14 rfl rfl)
theorem dX2_init_2_107 : decode cX2_init_2 107 = .ok (.aload_n 0, 1) := dk_42 (dk_at dksX2_init_2_4 17 rfl rfl)
theorem dX2_init_2_108 : decode cX2_init_2 108 = .ok (.getfield 21, 3) := dk_180 0 21 (dk_at dksX2_init_2_4 18 rfl rfl)
theorem dX2_init_2_111 : decode cX2_init_2 111 = .ok (.aload_n 1, 1) := dk_43 (dk_at dksX2_init_2_4 21 rfl rfl)
theorem dX2_init_2_112 : decode cX2_init_2 112 = .ok (.getfield 21, 3) := dk_180 0 21 (dk_at dksX2_init_2_5 0 rfl rfl)
theorem dX2_init_2_115 : decode cX2_init_2 115 = .ok (.invokeinterface 47 2, 5) := by decide +kernel
theorem dX2_init_2_120 : decode cX2_init_2 120 = .ok (.pop, 1) := dk_87 (dk_at dksX2_init_2_5 8 rfl rfl)
theorem dX2_init_2_121 : decode cX2_init_2 121 = .ok (.aload_n 0, 1) := dk_42 (dk_at dksX2_init_2_5 9 rfl rfl)
theorem dX2_init_2_122 : decode cX2_init_2 122 = .ok (.aload_n 1, 1) := dk_43 (dk_at dksX2_init_2_5 10 rfl rfl)
theorem dX2_init_2_123 : decode cX2_init_2 123 = .ok (.getfield 28, 3) := dk_180 0 28 (dk_at dksX2_init_2_5 11 rfl rfl)
theorem dX2_init_2_126 : decode cX2_init_2 126 = .ok (.invokevirtual 68, 3) := dk_182 0 68 (dk_at dksX2_init_2_5 14 rfl rfl)
theorem dX2_init_2_129 : decode cX2_init_2 129 = .ok (.checkcast 69, 3) := dk_192 0 69 (dk_at dksX2_init_2_5 17 rfl rfl)
theorem dX2_init_2_132 : decode cX2_init_2 132 = .ok (.putfield 28, 3) := dk_181 0 28 (dk_at dksX2_init_2_5 20 rfl rfl)
theorem dX2_init_2_135 : decode cX2_init_2 135 = .ok (.aload_n 0, 1) := dk_42 (dk_at dksX2_init_2_5 23 rfl rfl)
theorem dX2_init_2_136 : decode cX2_init_2 136 = .ok (.aload_n 1, 1) := dk_43 (dk_at dksX2_init_2_6 0 rfl rfl)
theorem dX2_init_2_137 : decode cX2_init_2 137 = .ok (.getfield 32, 3) := dk_180 0 32 (dk_at dksX2_init_2_6 1 rfl rfl)
theorem dX2_init_2_140 : decode cX2_init_2 140 = .ok (.invokevirtual 68, 3) := dk_182 0 68 (dk_at dksX2_init_2_6 4 rfl rfl)
theorem dX2_init_2_143 : decode cX2_init_2 143 = .ok (.checkcast 69, 3) := dk_192 0 69 (dk_at dksX2_init_2_6 7 rfl rfl)
theorem dX2_init_2_146 : decode cX2_init_2 146 = .ok (.putfield 32, 3) := dk_181 0 32 (dk_at dksX2_init_2_6 10 rfl rfl)
theorem dX2_init_2_149 : decode cX2_init_2 149 = .ok (.aload_n 0, 1) := dk_42 (dk_at dksX2_init_2_6 13 rfl rfl)
theorem dX2_init_2_150 : decode cX2_init_2 150 = .ok (.aload_n 1, 1) := dk_43 (dk_at dksX2_init_2_6 14 rfl rfl)
theorem dX2_init_2_151 : decode cX2_init_2 151 = .ok (.getfield 35, 3) := dk_180 0 35 (dk_at dksX2_init_2_6 15 rfl rfl)
theorem dX2_init_2_154 : decode cX2_init_2 154 = .ok (.invokevirtual 68, 3) := dk_182 0 68 (dk_at dksX2_init_2_6 18 rfl rfl)
theorem dX2_init_2_157 : decode cX2_init_2 157 = .ok (.checkcast 69, 3) := dk_192 0 69 (dk_at dksX2_init_2_6 21 rfl rfl)
theorem dX2_init_2_160 : decode cX2_init_2 160 = .ok (.putfield 35, 3) := dk_181 0 35 (dk_at dksX2_init_2_7 0 rfl rfl)
theorem dX2_init_2_163 : decode cX2_init_2 163 = .ok (.aload_n 0, 1) := dk_42 (dk_at dksX2_init_2_7 3 rfl rfl)
theorem dX2_init_2_164 : decode cX2_init_2 164 = .ok (.aload_n 1, 1) := dk_43 (dk_at dksX2_init_2_7 4 rfl rfl)
theorem dX2_init_2_165 : decode cX2_init_2 165 = .ok (.getfield 38, 3) := dk_180 0 38 (dk_at dksX2_init_2_7 5 rfl rfl)
theorem dX2_init_2_168 : decode cX2_init_2 168 = .ok (.invokevirtual 68, 3) := dk_182 0 68 (dk_at dksX2_init_2_7 8 rfl rfl)
theorem dX2_init_2_171 : decode cX2_init_2 171 = .ok (.checkcast 69, 3) := dk_192 0 69 (dk_at dksX2_init_2_7 11 rfl rfl)
theorem dX2_init_2_174 : decode cX2_init_2 174 = .ok (.putfield 38, 3) := dk_181 0 38 (dk_at dksX2_init_2_7 14 rfl rfl)
theorem dX2_init_2_177 : decode cX2_init_2 177 = .ok (.aload_n 0, 1) := dk_42 (dk_at dksX2_init_2_7 17 rfl rfl)
theorem dX2_init_2_178 : decode cX2_init_2 178 = .ok (.aload_n 1, 1) := dk_43 (dk_at dksX2_init_2_7 18 rfl rfl)
theorem dX2_init_2_179 : decode cX2_init_2 179 = .ok (.getfield 24, 3) := dk_180 0 24 (dk_at dksX2_init_2_7 19 rfl rfl)
theorem dX2_init_2_182 : decode cX2_init_2 182 = .ok (.putfield 24, 3) := dk_181 0 24 (dk_at dksX2_init_2_8 0 rfl rfl)
theorem dX2_init_2_185 : decode cX2_init_2 185 = .ok (.aload_n 0, 1) := dk_42 (dk_at dksX2_init_2_8 3 rfl rfl)
theorem dX2_init_2_186 : decode cX2_init_2 186 = .ok (.aload_n 1, 1) := dk_43 (dk_at dksX2_init_2_8 4 rfl rfl)
theorem dX2_init_2_187 : decode cX2_init_2 187 = .ok (.getfield 72, 3) := dk_180 0 72 (dk_at dksX2_init_2_8 5 rfl rfl)
theorem dX2_init_2_190 : decode cX2_init_2 190 = .ok (.putfield 72, 3) := dk_181 0 72 (dk_at dksX2_init_2_8 8 rfl rfl)
theorem dX2_init_2_193 : decode cX2_init_2 193 = .ok (.aload_n 0, 1) := dk_42 (dk_at dksX2_init_2_8 11 rfl rfl)
theorem dX2_init_2_194 : decode cX2_init_2 194 = .ok (.aload_n 1, 1) := dk_43 (dk_at dksX2_init_2_8 12 rfl rfl)
theorem dX2_init_2_195 : decode cX2_init_2 195 = .ok (.getfield 75, 3) := dk_180 0 75 (dk_at dksX2_init_2_8 13 rfl rfl)
theorem dX2_init_2_198 : decode cX2_init_2 198 = .ok (.putfield 75, 3) := dk_181 0 75 (dk_at dksX2_init_2_8 16 rfl rfl)
theorem dX2_init_2_201 : decode cX2_init_2 201 = .ok (.aload_n 0, 1) := dk_42 (dk_at dksX2_init_2_8 19 rfl rfl)
theorem dX2_init_2_202 : decode cX2_init_2 202 = .ok (.aload_n 1, 1) := dk_43 (dk_at dksX2_init_2_8 20 rfl rfl)
theorem dX2_init_2_203 : decode cX2_init_2 203 = .ok (.getfield 78, 3) := dk_180 0 78 (dk_at dksX2_init_2_8 21 rfl rfl)
theorem dX2_init_2_206 : decode cX2_init_2 206 = .ok (.putfield 78, 3) := dk_181 0 78 (dk_at dksX2_init_2_9 0 rfl rfl)
theorem dX2_init_2_209 : decode cX2_init_2 209 = .ok (.return_, 1) := dk_177 (dk_at dksX2_init_2_9 3 rfl rfl)
abbrev cX2_deliversFirst : ByteArray := prog_16_method_15_code
def yX2_deliversFirst : MethodName := ⟨RX2, "deliversFirst", "(I)I"⟩
def dkwX2_deliversFirst_1 : List UInt8 := [87, 132, 2, 1, 167, 255, 230, 28, 172]
abbrev dktX2_deliversFirst_1 : List UInt8 := dkwX2_deliversFirst_1 ++ []
def dkwX2_deliversFirst_0 : List UInt8 := [3, 61, 28, 27, 162, 0, 27, 42, 180, 0, 21, 185, 0, 144, 1, 0, 154, 0, 15, 42, 3, 182, 0, 147]
abbrev dktX2_deliversFirst_0 : List UInt8 := dkwX2_deliversFirst_0 ++ dktX2_deliversFirst_1
theorem dksX2_deliversFirst_0 : cX2_deliversFirst.data.toList.drop 0 = dktX2_deliversFirst_0 := by decide +kernel
theorem dksX2_deliversFirst_1 : cX2_deliversFirst.data.toList.drop 24 = dktX2_deliversFirst_1 := dk_seg dksX2_deliversFirst_0 24 rfl rfl
theorem dX2_deliversFirst_0 : decode cX2_deliversFirst 0 = .ok (.iconst 0, 1) := dk_3 (dk_at dksX2_deliversFirst_0 0 rfl rfl)
theorem dX2_deliversFirst_1 : decode cX2_deliversFirst 1 = .ok (.istore_n 2, 1) := dk_61 (dk_at dksX2_deliversFirst_0 1 rfl rfl)
theorem dX2_deliversFirst_2 : decode cX2_deliversFirst 2 = .ok (.iload_n 2, 1) := dk_28 (dk_at dksX2_deliversFirst_0 2 rfl rfl)
theorem dX2_deliversFirst_3 : decode cX2_deliversFirst 3 = .ok (.iload_n 1, 1) := dk_27 (dk_at dksX2_deliversFirst_0 3 rfl rfl)
theorem dX2_deliversFirst_4 : decode cX2_deliversFirst 4 = .ok (.if_icmp .ge 27, 3) := dk_162 0 27 (dk_at dksX2_deliversFirst_0 4 rfl rfl)
theorem dX2_deliversFirst_7 : decode cX2_deliversFirst 7 = .ok (.aload_n 0, 1) := dk_42 (dk_at dksX2_deliversFirst_0 7 rfl rfl)
theorem dX2_deliversFirst_8 : decode cX2_deliversFirst 8 = .ok (.getfield 21, 3) := dk_180 0 21 (dk_at dksX2_deliversFirst_0 8 rfl rfl)
theorem dX2_deliversFirst_11 : decode cX2_deliversFirst 11 = .ok (.invokeinterface 144 1, 5) := by decide +kernel
theorem dX2_deliversFirst_16 : decode cX2_deliversFirst 16 = .ok (.ifCond .ne 15, 3) := dk_154 0 15 (dk_at dksX2_deliversFirst_0 16 rfl rfl)
theorem dX2_deliversFirst_19 : decode cX2_deliversFirst 19 = .ok (.aload_n 0, 1) := dk_42 (dk_at dksX2_deliversFirst_0 19 rfl rfl)
theorem dX2_deliversFirst_20 : decode cX2_deliversFirst 20 = .ok (.iconst 0, 1) := dk_3 (dk_at dksX2_deliversFirst_0 20 rfl rfl)
theorem dX2_deliversFirst_21 : decode cX2_deliversFirst 21 = .ok (.invokevirtual 147, 3) := dk_182 0 147 (dk_at dksX2_deliversFirst_0 21 rfl rfl)
theorem dX2_deliversFirst_24 : decode cX2_deliversFirst 24 = .ok (.pop, 1) := dk_87 (dk_at dksX2_deliversFirst_1 0 rfl rfl)
theorem dX2_deliversFirst_25 : decode cX2_deliversFirst 25 = .ok (.iinc 2 1, 3) := dk_132 2 1 (dk_at dksX2_deliversFirst_1 1 rfl rfl)
theorem dX2_deliversFirst_28 : decode cX2_deliversFirst 28 = .ok (.goto (-26), 3) := dk_167 255 230 (dk_at dksX2_deliversFirst_1 4 rfl rfl)
theorem dX2_deliversFirst_31 : decode cX2_deliversFirst 31 = .ok (.iload_n 2, 1) := dk_28 (dk_at dksX2_deliversFirst_1 7 rfl rfl)
theorem dX2_deliversFirst_32 : decode cX2_deliversFirst 32 = .ok (.ireturn, 1) := dk_172 (dk_at dksX2_deliversFirst_1 8 rfl rfl)
abbrev cX2_delivers : ByteArray := prog_16_method_14_code
def yX2_delivers : MethodName := ⟨RX2, "delivers", "(I)Z"⟩
def dkwX2_delivers_2 : List UInt8 := [167, 0, 13, 42, 89, 180, 0, 78, 4, 96, 181, 0, 78, 29, 172]
abbrev dktX2_delivers_2 : List UInt8 := dkwX2_delivers_2 ++ []
def dkwX2_delivers_1 : List UInt8 := [153, 0, 25, 42, 89, 180, 0, 75, 4, 96, 181, 0, 75, 44, 180, 0, 135, 42, 44, 182, 0, 138]
abbrev dktX2_delivers_1 : List UInt8 := dkwX2_delivers_1 ++ dktX2_delivers_2
def dkwX2_delivers_0 : List UInt8 := [42, 180, 0, 21, 27, 185, 0, 125, 2, 0, 192, 0, 112, 77, 42, 44, 182, 0, 128, 182, 0, 131, 62, 29]
abbrev dktX2_delivers_0 : List UInt8 := dkwX2_delivers_0 ++ dktX2_delivers_1
theorem dksX2_delivers_0 : cX2_delivers.data.toList.drop 0 = dktX2_delivers_0 := by decide +kernel
theorem dksX2_delivers_1 : cX2_delivers.data.toList.drop 24 = dktX2_delivers_1 := dk_seg dksX2_delivers_0 24 rfl rfl
theorem dksX2_delivers_2 : cX2_delivers.data.toList.drop 46 = dktX2_delivers_2 := dk_seg dksX2_delivers_1 22 rfl rfl
theorem dX2_delivers_0 : decode cX2_delivers 0 = .ok (.aload_n 0, 1) := dk_42 (dk_at dksX2_delivers_0 0 rfl rfl)
theorem dX2_delivers_1 : decode cX2_delivers 1 = .ok (.getfield 21, 3) := dk_180 0 21 (dk_at dksX2_delivers_0 1 rfl rfl)
theorem dX2_delivers_4 : decode cX2_delivers 4 = .ok (.iload_n 1, 1) := dk_27 (dk_at dksX2_delivers_0 4 rfl rfl)
theorem dX2_delivers_5 : decode cX2_delivers 5 = .ok (.invokeinterface 125 2, 5) := by decide +kernel
theorem dX2_delivers_10 : decode cX2_delivers 10 = .ok (.checkcast 112, 3) := dk_192 0 112 (dk_at dksX2_delivers_0 10 rfl rfl)
theorem dX2_delivers_13 : decode cX2_delivers 13 = .ok (.astore_n 2, 1) := dk_77 (dk_at dksX2_delivers_0 13 rfl rfl)
theorem dX2_delivers_14 : decode cX2_delivers 14 = .ok (.aload_n 0, 1) := dk_42 (dk_at dksX2_delivers_0 14 rfl rfl)
theorem dX2_delivers_15 : decode cX2_delivers 15 = .ok (.aload_n 2, 1) := dk_44 (dk_at dksX2_delivers_0 15 rfl rfl)
theorem dX2_delivers_16 : decode cX2_delivers 16 = .ok (.invokevirtual 128, 3) := dk_182 0 128 (dk_at dksX2_delivers_0 16 rfl rfl)
theorem dX2_delivers_19 : decode cX2_delivers 19 = .ok (.invokevirtual 131, 3) := dk_182 0 131 (dk_at dksX2_delivers_0 19 rfl rfl)
theorem dX2_delivers_22 : decode cX2_delivers 22 = .ok (.istore_n 3, 1) := dk_62 (dk_at dksX2_delivers_0 22 rfl rfl)
theorem dX2_delivers_23 : decode cX2_delivers 23 = .ok (.iload_n 3, 1) := dk_29 (dk_at dksX2_delivers_0 23 rfl rfl)
theorem dX2_delivers_24 : decode cX2_delivers 24 = .ok (.ifCond .eq 25, 3) := dk_153 0 25 (dk_at dksX2_delivers_1 0 rfl rfl)
theorem dX2_delivers_27 : decode cX2_delivers 27 = .ok (.aload_n 0, 1) := dk_42 (dk_at dksX2_delivers_1 3 rfl rfl)
theorem dX2_delivers_28 : decode cX2_delivers 28 = .ok (.dup, 1) := dk_89 (dk_at dksX2_delivers_1 4 rfl rfl)
theorem dX2_delivers_29 : decode cX2_delivers 29 = .ok (.getfield 75, 3) := dk_180 0 75 (dk_at dksX2_delivers_1 5 rfl rfl)
theorem dX2_delivers_32 : decode cX2_delivers 32 = .ok (.iconst 1, 1) := dk_4 (dk_at dksX2_delivers_1 8 rfl rfl)
theorem dX2_delivers_33 : decode cX2_delivers 33 = .ok (.iadd, 1) := dk_96 (dk_at dksX2_delivers_1 9 rfl rfl)
theorem dX2_delivers_34 : decode cX2_delivers 34 = .ok (.putfield 75, 3) := dk_181 0 75 (dk_at dksX2_delivers_1 10 rfl rfl)
theorem dX2_delivers_37 : decode cX2_delivers 37 = .ok (.aload_n 2, 1) := dk_44 (dk_at dksX2_delivers_1 13 rfl rfl)
theorem dX2_delivers_38 : decode cX2_delivers 38 = .ok (.getfield 135, 3) := dk_180 0 135 (dk_at dksX2_delivers_1 14 rfl rfl)
theorem dX2_delivers_41 : decode cX2_delivers 41 = .ok (.aload_n 0, 1) := dk_42 (dk_at dksX2_delivers_1 17 rfl rfl)
theorem dX2_delivers_42 : decode cX2_delivers 42 = .ok (.aload_n 2, 1) := dk_44 (dk_at dksX2_delivers_1 18 rfl rfl)
theorem dX2_delivers_43 : decode cX2_delivers 43 = .ok (.invokevirtual 138, 3) := dk_182 0 138 (dk_at dksX2_delivers_1 19 rfl rfl)
theorem dX2_delivers_46 : decode cX2_delivers 46 = .ok (.goto 13, 3) := dk_167 0 13 (dk_at dksX2_delivers_2 0 rfl rfl)
theorem dX2_delivers_49 : decode cX2_delivers 49 = .ok (.aload_n 0, 1) := dk_42 (dk_at dksX2_delivers_2 3 rfl rfl)
theorem dX2_delivers_50 : decode cX2_delivers 50 = .ok (.dup, 1) := dk_89 (dk_at dksX2_delivers_2 4 rfl rfl)
theorem dX2_delivers_51 : decode cX2_delivers 51 = .ok (.getfield 78, 3) := dk_180 0 78 (dk_at dksX2_delivers_2 5 rfl rfl)
theorem dX2_delivers_54 : decode cX2_delivers 54 = .ok (.iconst 1, 1) := dk_4 (dk_at dksX2_delivers_2 8 rfl rfl)
theorem dX2_delivers_55 : decode cX2_delivers 55 = .ok (.iadd, 1) := dk_96 (dk_at dksX2_delivers_2 9 rfl rfl)
theorem dX2_delivers_56 : decode cX2_delivers 56 = .ok (.putfield 78, 3) := dk_181 0 78 (dk_at dksX2_delivers_2 10 rfl rfl)
theorem dX2_delivers_59 : decode cX2_delivers 59 = .ok (.iload_n 3, 1) := dk_29 (dk_at dksX2_delivers_2 13 rfl rfl)
theorem dX2_delivers_60 : decode cX2_delivers 60 = .ok (.ireturn, 1) := dk_172 (dk_at dksX2_delivers_2 14 rfl rfl)
abbrev cX2_isUp : ByteArray := prog_16_method_3_code
def yX2_isUp : MethodName := ⟨RX2, "isUp", "(I)Z"⟩
def dkwX2_isUp_0 : List UInt8 := [42, 180, 0, 24, 27, 184, 0, 81, 172]
abbrev dktX2_isUp_0 : List UInt8 := dkwX2_isUp_0 ++ []
theorem dksX2_isUp_0 : cX2_isUp.data.toList.drop 0 = dktX2_isUp_0 := by decide +kernel
theorem dX2_isUp_0 : decode cX2_isUp 0 = .ok (.aload_n 0, 1) := dk_42 (dk_at dksX2_isUp_0 0 rfl rfl)
theorem dX2_isUp_1 : decode cX2_isUp 1 = .ok (.getfield 24, 3) := dk_180 0 24 (dk_at dksX2_isUp_0 1 rfl rfl)
theorem dX2_isUp_4 : decode cX2_isUp 4 = .ok (.iload_n 1, 1) := dk_27 (dk_at dksX2_isUp_0 4 rfl rfl)
theorem dX2_isUp_5 : decode cX2_isUp 5 = .ok (.invokestatic 81, 3) := dk_184 0 81 (dk_at dksX2_isUp_0 5 rfl rfl)
theorem dX2_isUp_8 : decode cX2_isUp 8 = .ok (.ireturn, 1) := dk_172 (dk_at dksX2_isUp_0 8 rfl rfl)
abbrev cX2_hearsAsking : ByteArray := prog_16_method_18_code
def yX2_hearsAsking : MethodName := ⟨RX2, "hearsAsking", "(LVoteLogs$Message;)V"⟩
def dkwX2_hearsAsking_4 : List UInt8 := [178, 0, 177, 29, 28, 182, 0, 122, 177]
abbrev dktX2_hearsAsking_4 : List UInt8 := dkwX2_hearsAsking_4 ++ []
def dkwX2_hearsAsking_3 : List UInt8 := [167, 0, 4, 6, 182, 0, 171, 42, 42, 28, 29, 182, 0, 156, 6, 160, 0, 9, 178, 0, 174, 167, 0, 6]
abbrev dktX2_hearsAsking_3 : List UInt8 := dkwX2_hearsAsking_3 ++ dktX2_hearsAsking_4
def dkwX2_hearsAsking_2 : List UInt8 := [21, 4, 153, 0, 7, 7, 167, 0, 4, 5, 29, 182, 0, 167, 42, 28, 29, 21, 4, 153, 0, 7, 4]
abbrev dktX2_hearsAsking_2 : List UInt8 := dkwX2_hearsAsking_2 ++ dktX2_hearsAsking_3
def dkwX2_hearsAsking_1 : List UInt8 := [180, 0, 12, 29, 185, 0, 85, 2, 0, 192, 0, 117, 28, 182, 0, 153, 182, 0, 164, 54, 4, 42, 28]
abbrev dktX2_hearsAsking_1 : List UInt8 := dkwX2_hearsAsking_1 ++ dktX2_hearsAsking_2
def dkwX2_hearsAsking_0 : List UInt8 := [43, 180, 0, 160, 61, 43, 180, 0, 163, 62, 42, 28, 29, 182, 0, 156, 154, 0, 59, 42, 28, 42]
abbrev dktX2_hearsAsking_0 : List UInt8 := dkwX2_hearsAsking_0 ++ dktX2_hearsAsking_1
theorem dksX2_hearsAsking_0 : cX2_hearsAsking.data.toList.drop 0 = dktX2_hearsAsking_0 := by decide +kernel
theorem dksX2_hearsAsking_1 : cX2_hearsAsking.data.toList.drop 22 = dktX2_hearsAsking_1 := dk_seg dksX2_hearsAsking_0 22 rfl rfl
theorem dksX2_hearsAsking_2 : cX2_hearsAsking.data.toList.drop 45 = dktX2_hearsAsking_2 := dk_seg dksX2_hearsAsking_1 23 rfl rfl
theorem dksX2_hearsAsking_3 : cX2_hearsAsking.data.toList.drop 68 = dktX2_hearsAsking_3 := dk_seg dksX2_hearsAsking_2 23 rfl rfl
theorem dksX2_hearsAsking_4 : cX2_hearsAsking.data.toList.drop 92 = dktX2_hearsAsking_4 := dk_seg dksX2_hearsAsking_3 24 rfl rfl
theorem dX2_hearsAsking_0 : decode cX2_hearsAsking 0 = .ok (.aload_n 1, 1) := dk_43 (dk_at dksX2_hearsAsking_0 0 rfl rfl)
theorem dX2_hearsAsking_1 : decode cX2_hearsAsking 1 = .ok (.getfield 160, 3) := dk_180 0 160 (dk_at dksX2_hearsAsking_0 1 rfl rfl)
theorem dX2_hearsAsking_4 : decode cX2_hearsAsking 4 = .ok (.istore_n 2, 1) := dk_61 (dk_at dksX2_hearsAsking_0 4 rfl rfl)
theorem dX2_hearsAsking_5 : decode cX2_hearsAsking 5 = .ok (.aload_n 1, 1) := dk_43 (dk_at dksX2_hearsAsking_0 5 rfl rfl)
theorem dX2_hearsAsking_6 : decode cX2_hearsAsking 6 = .ok (.getfield 163, 3) := dk_180 0 163 (dk_at dksX2_hearsAsking_0 6 rfl rfl)
theorem dX2_hearsAsking_9 : decode cX2_hearsAsking 9 = .ok (.istore_n 3, 1) := dk_62 (dk_at dksX2_hearsAsking_0 9 rfl rfl)
theorem dX2_hearsAsking_10 : decode cX2_hearsAsking 10 = .ok (.aload_n 0, 1) := dk_42 (dk_at dksX2_hearsAsking_0 10 rfl rfl)
theorem dX2_hearsAsking_11 : decode cX2_hearsAsking 11 = .ok (.iload_n 2, 1) := dk_28 (dk_at dksX2_hearsAsking_0 11 rfl rfl)
theorem dX2_hearsAsking_12 : decode cX2_hearsAsking 12 = .ok (.iload_n 3, 1) := dk_29 (dk_at dksX2_hearsAsking_0 12 rfl rfl)
theorem dX2_hearsAsking_13 : decode cX2_hearsAsking 13 = .ok (.invokevirtual 156, 3) := dk_182 0 156 (dk_at dksX2_hearsAsking_0 13 rfl rfl)
theorem dX2_hearsAsking_16 : decode cX2_hearsAsking 16 = .ok (.ifCond .ne 59, 3) := dk_154 0 59 (dk_at dksX2_hearsAsking_0 16 rfl rfl)
theorem dX2_hearsAsking_19 : decode cX2_hearsAsking 19 = .ok (.aload_n 0, 1) := dk_42 (dk_at dksX2_hearsAsking_0 19 rfl rfl)
theorem dX2_hearsAsking_20 : decode cX2_hearsAsking 20 = .ok (.iload_n 2, 1) := dk_28 (dk_at dksX2_hearsAsking_0 20 rfl rfl)
theorem dX2_hearsAsking_21 : decode cX2_hearsAsking 21 = .ok (.aload_n 0, 1) := dk_42 (dk_at dksX2_hearsAsking_0 21 rfl rfl)
theorem dX2_hearsAsking_22 : decode cX2_hearsAsking 22 = .ok (.getfield 12, 3) := dk_180 0 12 (dk_at dksX2_hearsAsking_1 0 rfl rfl)
theorem dX2_hearsAsking_25 : decode cX2_hearsAsking 25 = .ok (.iload_n 3, 1) := dk_29 (dk_at dksX2_hearsAsking_1 3 rfl rfl)
theorem dX2_hearsAsking_26 : decode cX2_hearsAsking 26 = .ok (.invokeinterface 85 2, 5) := by decide +kernel
theorem dX2_hearsAsking_31 : decode cX2_hearsAsking 31 = .ok (.checkcast 117, 3) := dk_192 0 117 (dk_at dksX2_hearsAsking_1 9 rfl rfl)
theorem dX2_hearsAsking_34 : decode cX2_hearsAsking 34 = .ok (.iload_n 2, 1) := dk_28 (dk_at dksX2_hearsAsking_1 12 rfl rfl)
theorem dX2_hearsAsking_35 : decode cX2_hearsAsking 35 = .ok (.invokevirtual 153, 3) := dk_182 0 153 (dk_at dksX2_hearsAsking_1 13 rfl rfl)
theorem dX2_hearsAsking_38 : decode cX2_hearsAsking 38 = .ok (.invokevirtual 164, 3) := dk_182 0 164 (dk_at dksX2_hearsAsking_1 16 rfl rfl)
theorem dX2_hearsAsking_41 : decode cX2_hearsAsking 41 = .ok (.istore 4, 2) := dk_54 4 (dk_at dksX2_hearsAsking_1 19 rfl rfl)
theorem dX2_hearsAsking_43 : decode cX2_hearsAsking 43 = .ok (.aload_n 0, 1) := dk_42 (dk_at dksX2_hearsAsking_1 21 rfl rfl)
theorem dX2_hearsAsking_44 : decode cX2_hearsAsking 44 = .ok (.iload_n 2, 1) := dk_28 (dk_at dksX2_hearsAsking_1 22 rfl rfl)
theorem dX2_hearsAsking_45 : decode cX2_hearsAsking 45 = .ok (.iload 4, 2) := dk_21 4 (dk_at dksX2_hearsAsking_2 0 rfl rfl)
theorem dX2_hearsAsking_47 : decode cX2_hearsAsking 47 = .ok (.ifCond .eq 7, 3) := dk_153 0 7 (dk_at dksX2_hearsAsking_2 2 rfl rfl)
theorem dX2_hearsAsking_50 : decode cX2_hearsAsking 50 = .ok (.iconst 4, 1) := dk_7 (dk_at dksX2_hearsAsking_2 5 rfl rfl)
theorem dX2_hearsAsking_51 : decode cX2_hearsAsking 51 = .ok (.goto 4, 3) := dk_167 0 4 (dk_at dksX2_hearsAsking_2 6 rfl rfl)
theorem dX2_hearsAsking_54 : decode cX2_hearsAsking 54 = .ok (.iconst 2, 1) := dk_5 (dk_at dksX2_hearsAsking_2 9 rfl rfl)
theorem dX2_hearsAsking_55 : decode cX2_hearsAsking 55 = .ok (.iload_n 3, 1) := dk_29 (dk_at dksX2_hearsAsking_2 10 rfl rfl)
theorem dX2_hearsAsking_56 : decode cX2_hearsAsking 56 = .ok (.invokevirtual 167, 3) := dk_182 0 167 (dk_at dksX2_hearsAsking_2 11 rfl rfl)
theorem dX2_hearsAsking_59 : decode cX2_hearsAsking 59 = .ok (.aload_n 0, 1) := dk_42 (dk_at dksX2_hearsAsking_2 14 rfl rfl)
theorem dX2_hearsAsking_60 : decode cX2_hearsAsking 60 = .ok (.iload_n 2, 1) := dk_28 (dk_at dksX2_hearsAsking_2 15 rfl rfl)
theorem dX2_hearsAsking_61 : decode cX2_hearsAsking 61 = .ok (.iload_n 3, 1) := dk_29 (dk_at dksX2_hearsAsking_2 16 rfl rfl)
theorem dX2_hearsAsking_62 : decode cX2_hearsAsking 62 = .ok (.iload 4, 2) := dk_21 4 (dk_at dksX2_hearsAsking_2 17 rfl rfl)
theorem dX2_hearsAsking_64 : decode cX2_hearsAsking 64 = .ok (.ifCond .eq 7, 3) := dk_153 0 7 (dk_at dksX2_hearsAsking_2 19 rfl rfl)
theorem dX2_hearsAsking_67 : decode cX2_hearsAsking 67 = .ok (.iconst 1, 1) := dk_4 (dk_at dksX2_hearsAsking_2 22 rfl rfl)
theorem dX2_hearsAsking_68 : decode cX2_hearsAsking 68 = .ok (.goto 4, 3) := dk_167 0 4 (dk_at dksX2_hearsAsking_3 0 rfl rfl)
theorem dX2_hearsAsking_71 : decode cX2_hearsAsking 71 = .ok (.iconst 3, 1) := dk_6 (dk_at dksX2_hearsAsking_3 3 rfl rfl)
theorem dX2_hearsAsking_72 : decode cX2_hearsAsking 72 = .ok (.invokevirtual 171, 3) := dk_182 0 171 (dk_at dksX2_hearsAsking_3 4 rfl rfl)
theorem dX2_hearsAsking_75 : decode cX2_hearsAsking 75 = .ok (.aload_n 0, 1) := dk_42 (dk_at dksX2_hearsAsking_3 7 rfl rfl)
theorem dX2_hearsAsking_76 : decode cX2_hearsAsking 76 = .ok (.aload_n 0, 1) := dk_42 (dk_at dksX2_hearsAsking_3 8 rfl rfl)
theorem dX2_hearsAsking_77 : decode cX2_hearsAsking 77 = .ok (.iload_n 2, 1) := dk_28 (dk_at dksX2_hearsAsking_3 9 rfl rfl)
theorem dX2_hearsAsking_78 : decode cX2_hearsAsking 78 = .ok (.iload_n 3, 1) := dk_29 (dk_at dksX2_hearsAsking_3 10 rfl rfl)
theorem dX2_hearsAsking_79 : decode cX2_hearsAsking 79 = .ok (.invokevirtual 156, 3) := dk_182 0 156 (dk_at dksX2_hearsAsking_3 11 rfl rfl)
theorem dX2_hearsAsking_82 : decode cX2_hearsAsking 82 = .ok (.iconst 3, 1) := dk_6 (dk_at dksX2_hearsAsking_3 14 rfl rfl)
theorem dX2_hearsAsking_83 : decode cX2_hearsAsking 83 = .ok (.if_icmp .ne 9, 3) := dk_160 0 9 (dk_at dksX2_hearsAsking_3 15 rfl rfl)
theorem dX2_hearsAsking_86 : decode cX2_hearsAsking 86 = .ok (.getstatic 174, 3) := dk_178 0 174 (dk_at dksX2_hearsAsking_3 18 rfl rfl)
theorem dX2_hearsAsking_89 : decode cX2_hearsAsking 89 = .ok (.goto 6, 3) := dk_167 0 6 (dk_at dksX2_hearsAsking_3 21 rfl rfl)
theorem dX2_hearsAsking_92 : decode cX2_hearsAsking 92 = .ok (.getstatic 177, 3) := dk_178 0 177 (dk_at dksX2_hearsAsking_4 0 rfl rfl)
theorem dX2_hearsAsking_95 : decode cX2_hearsAsking 95 = .ok (.iload_n 3, 1) := dk_29 (dk_at dksX2_hearsAsking_4 3 rfl rfl)
theorem dX2_hearsAsking_96 : decode cX2_hearsAsking 96 = .ok (.iload_n 2, 1) := dk_28 (dk_at dksX2_hearsAsking_4 4 rfl rfl)
theorem dX2_hearsAsking_97 : decode cX2_hearsAsking 97 = .ok (.invokevirtual 122, 3) := dk_182 0 122 (dk_at dksX2_hearsAsking_4 5 rfl rfl)
theorem dX2_hearsAsking_100 : decode cX2_hearsAsking 100 = .ok (.return_, 1) := dk_177 (dk_at dksX2_hearsAsking_4 8 rfl rfl)
abbrev cX2_state : ByteArray := prog_16_method_4_code
def yX2_state : MethodName := ⟨RX2, "state", "(II)I"⟩
def dkwX2_state_0 : List UInt8 := [42, 180, 0, 32, 16, 8, 27, 104, 28, 96, 46, 172]
abbrev dktX2_state_0 : List UInt8 := dkwX2_state_0 ++ []
theorem dksX2_state_0 : cX2_state.data.toList.drop 0 = dktX2_state_0 := by decide +kernel
theorem dX2_state_0 : decode cX2_state 0 = .ok (.aload_n 0, 1) := dk_42 (dk_at dksX2_state_0 0 rfl rfl)
theorem dX2_state_1 : decode cX2_state 1 = .ok (.getfield 32, 3) := dk_180 0 32 (dk_at dksX2_state_0 1 rfl rfl)
theorem dX2_state_4 : decode cX2_state 4 = .ok (.bipush 8, 2) := dk_16 8 (dk_at dksX2_state_0 4 rfl rfl)
theorem dX2_state_6 : decode cX2_state 6 = .ok (.iload_n 1, 1) := dk_27 (dk_at dksX2_state_0 6 rfl rfl)
theorem dX2_state_7 : decode cX2_state 7 = .ok (.imul, 1) := dk_104 (dk_at dksX2_state_0 7 rfl rfl)
theorem dX2_state_8 : decode cX2_state 8 = .ok (.iload_n 2, 1) := dk_28 (dk_at dksX2_state_0 8 rfl rfl)
theorem dX2_state_9 : decode cX2_state 9 = .ok (.iadd, 1) := dk_96 (dk_at dksX2_state_0 9 rfl rfl)
theorem dX2_state_10 : decode cX2_state 10 = .ok (.iaload, 1) := dk_46 (dk_at dksX2_state_0 10 rfl rfl)
theorem dX2_state_11 : decode cX2_state 11 = .ok (.ireturn, 1) := dk_172 (dk_at dksX2_state_0 11 rfl rfl)
abbrev cX2_canTake : ByteArray := prog_16_method_17_code
def yX2_canTake : MethodName := ⟨RX2, "canTake", "(II)Z"⟩
def dkwX2_canTake_4 : List UInt8 := [167, 255, 177, 29, 155, 0, 14, 29, 17, 3, 231, 163, 0, 7, 4, 167, 0, 4, 3, 172]
abbrev dktX2_canTake_4 : List UInt8 := dkwX2_canTake_4 ++ []
def dkwX2_canTake_3 : List UInt8 := [156, 0, 7, 4, 167, 0, 4, 3, 160, 0, 8, 21, 5, 167, 0, 4, 3, 96, 62, 132, 4, 1]
abbrev dktX2_canTake_3 : List UInt8 := dkwX2_canTake_3 ++ dktX2_canTake_4
def dkwX2_canTake_2 : List UInt8 := [42, 27, 21, 4, 182, 0, 156, 4, 160, 0, 30, 21, 5, 156, 0, 7, 4, 167, 0, 4, 3, 28]
abbrev dktX2_canTake_2 : List UInt8 := dkwX2_canTake_2 ++ dktX2_canTake_3
def dkwX2_canTake_1 : List UInt8 := [162, 0, 71, 42, 180, 0, 12, 21, 4, 185, 0, 85, 2, 0, 192, 0, 117, 27, 182, 0, 153, 54, 5, 29]
abbrev dktX2_canTake_1 : List UInt8 := dkwX2_canTake_1 ++ dktX2_canTake_2
def dkwX2_canTake_0 : List UInt8 := [42, 180, 0, 28, 27, 46, 28, 96, 62, 3, 54, 4, 21, 4, 42, 180, 0, 12, 185, 0, 108, 1, 0]
abbrev dktX2_canTake_0 : List UInt8 := dkwX2_canTake_0 ++ dktX2_canTake_1
theorem dksX2_canTake_0 : cX2_canTake.data.toList.drop 0 = dktX2_canTake_0 := by decide +kernel
theorem dksX2_canTake_1 : cX2_canTake.data.toList.drop 23 = dktX2_canTake_1 := dk_seg dksX2_canTake_0 23 rfl rfl
theorem dksX2_canTake_2 : cX2_canTake.data.toList.drop 47 = dktX2_canTake_2 := dk_seg dksX2_canTake_1 24 rfl rfl
theorem dksX2_canTake_3 : cX2_canTake.data.toList.drop 69 = dktX2_canTake_3 := dk_seg dksX2_canTake_2 22 rfl rfl
theorem dksX2_canTake_4 : cX2_canTake.data.toList.drop 91 = dktX2_canTake_4 := dk_seg dksX2_canTake_3 22 rfl rfl
theorem dX2_canTake_0 : decode cX2_canTake 0 = .ok (.aload_n 0, 1) := dk_42 (dk_at dksX2_canTake_0 0 rfl rfl)
theorem dX2_canTake_1 : decode cX2_canTake 1 = .ok (.getfield 28, 3) := dk_180 0 28 (dk_at dksX2_canTake_0 1 rfl rfl)
theorem dX2_canTake_4 : decode cX2_canTake 4 = .ok (.iload_n 1, 1) := dk_27 (dk_at dksX2_canTake_0 4 rfl rfl)
theorem dX2_canTake_5 : decode cX2_canTake 5 = .ok (.iaload, 1) := dk_46 (dk_at dksX2_canTake_0 5 rfl rfl)
theorem dX2_canTake_6 : decode cX2_canTake 6 = .ok (.iload_n 2, 1) := dk_28 (dk_at dksX2_canTake_0 6 rfl rfl)
theorem dX2_canTake_7 : decode cX2_canTake 7 = .ok (.iadd, 1) := dk_96 (dk_at dksX2_canTake_0 7 rfl rfl)
theorem dX2_canTake_8 : decode cX2_canTake 8 = .ok (.istore_n 3, 1) := dk_62 (dk_at dksX2_canTake_0 8 rfl rfl)
theorem dX2_canTake_9 : decode cX2_canTake 9 = .ok (.iconst 0, 1) := dk_3 (dk_at dksX2_canTake_0 9 rfl rfl)
theorem dX2_canTake_10 : decode cX2_canTake 10 = .ok (.istore 4, 2) := dk_54 4 (dk_at dksX2_canTake_0 10 rfl rfl)
theorem dX2_canTake_12 : decode cX2_canTake 12 = .ok (.iload 4, 2) := dk_21 4 (dk_at dksX2_canTake_0 12 rfl rfl)
theorem dX2_canTake_14 : decode cX2_canTake 14 = .ok (.aload_n 0, 1) := dk_42 (dk_at dksX2_canTake_0 14 rfl rfl)
theorem dX2_canTake_15 : decode cX2_canTake 15 = .ok (.getfield 12, 3) := dk_180 0 12 (dk_at dksX2_canTake_0 15 rfl rfl)
theorem dX2_canTake_18 : decode cX2_canTake 18 = .ok (.invokeinterface 108 1, 5) := by decide +kernel
theorem dX2_canTake_23 : decode cX2_canTake 23 = .ok (.if_icmp .ge 71, 3) := dk_162 0 71 (dk_at dksX2_canTake_1 0 rfl rfl)
theorem dX2_canTake_26 : decode cX2_canTake 26 = .ok (.aload_n 0, 1) := dk_42 (dk_at dksX2_canTake_1 3 rfl rfl)
theorem dX2_canTake_27 : decode cX2_canTake 27 = .ok (.getfield 12, 3) := dk_180 0 12 (dk_at dksX2_canTake_1 4 rfl rfl)
theorem dX2_canTake_30 : decode cX2_canTake 30 = .ok (.iload 4, 2) := dk_21 4 (dk_at dksX2_canTake_1 7 rfl rfl)
theorem dX2_canTake_32 : decode cX2_canTake 32 = .ok (.invokeinterface 85 2, 5) := by decide +kernel
theorem dX2_canTake_37 : decode cX2_canTake 37 = .ok (.checkcast 117, 3) := dk_192 0 117 (dk_at dksX2_canTake_1 14 rfl rfl)
theorem dX2_canTake_40 : decode cX2_canTake 40 = .ok (.iload_n 1, 1) := dk_27 (dk_at dksX2_canTake_1 17 rfl rfl)
theorem dX2_canTake_41 : decode cX2_canTake 41 = .ok (.invokevirtual 153, 3) := dk_182 0 153 (dk_at dksX2_canTake_1 18 rfl rfl)
theorem dX2_canTake_44 : decode cX2_canTake 44 = .ok (.istore 5, 2) := dk_54 5 (dk_at dksX2_canTake_1 21 rfl rfl)
theorem dX2_canTake_46 : decode cX2_canTake 46 = .ok (.iload_n 3, 1) := dk_29 (dk_at dksX2_canTake_1 23 rfl rfl)
theorem dX2_canTake_47 : decode cX2_canTake 47 = .ok (.aload_n 0, 1) := dk_42 (dk_at dksX2_canTake_2 0 rfl rfl)
theorem dX2_canTake_48 : decode cX2_canTake 48 = .ok (.iload_n 1, 1) := dk_27 (dk_at dksX2_canTake_2 1 rfl rfl)
theorem dX2_canTake_49 : decode cX2_canTake 49 = .ok (.iload 4, 2) := dk_21 4 (dk_at dksX2_canTake_2 2 rfl rfl)
theorem dX2_canTake_51 : decode cX2_canTake 51 = .ok (.invokevirtual 156, 3) := dk_182 0 156 (dk_at dksX2_canTake_2 4 rfl rfl)
theorem dX2_canTake_54 : decode cX2_canTake 54 = .ok (.iconst 1, 1) := dk_4 (dk_at dksX2_canTake_2 7 rfl rfl)
theorem dX2_canTake_55 : decode cX2_canTake 55 = .ok (.if_icmp .ne 30, 3) := dk_160 0 30 (dk_at dksX2_canTake_2 8 rfl rfl)
theorem dX2_canTake_58 : decode cX2_canTake 58 = .ok (.iload 5, 2) := dk_21 5 (dk_at dksX2_canTake_2 11 rfl rfl)
theorem dX2_canTake_60 : decode cX2_canTake 60 = .ok (.ifCond .ge 7, 3) := dk_156 0 7 (dk_at dksX2_canTake_2 13 rfl rfl)
theorem dX2_canTake_63 : decode cX2_canTake 63 = .ok (.iconst 1, 1) := dk_4 (dk_at dksX2_canTake_2 16 rfl rfl)
theorem dX2_canTake_64 : decode cX2_canTake 64 = .ok (.goto 4, 3) := dk_167 0 4 (dk_at dksX2_canTake_2 17 rfl rfl)
theorem dX2_canTake_67 : decode cX2_canTake 67 = .ok (.iconst 0, 1) := dk_3 (dk_at dksX2_canTake_2 20 rfl rfl)
theorem dX2_canTake_68 : decode cX2_canTake 68 = .ok (.iload_n 2, 1) := dk_28 (dk_at dksX2_canTake_2 21 rfl rfl)
theorem dX2_canTake_69 : decode cX2_canTake 69 = .ok (.ifCond .ge 7, 3) := dk_156 0 7 (dk_at dksX2_canTake_3 0 rfl rfl)
theorem dX2_canTake_72 : decode cX2_canTake 72 = .ok (.iconst 1, 1) := dk_4 (dk_at dksX2_canTake_3 3 rfl rfl)
theorem dX2_canTake_73 : decode cX2_canTake 73 = .ok (.goto 4, 3) := dk_167 0 4 (dk_at dksX2_canTake_3 4 rfl rfl)
theorem dX2_canTake_76 : decode cX2_canTake 76 = .ok (.iconst 0, 1) := dk_3 (dk_at dksX2_canTake_3 7 rfl rfl)
theorem dX2_canTake_77 : decode cX2_canTake 77 = .ok (.if_icmp .ne 8, 3) := dk_160 0 8 (dk_at dksX2_canTake_3 8 rfl rfl)
theorem dX2_canTake_80 : decode cX2_canTake 80 = .ok (.iload 5, 2) := dk_21 5 (dk_at dksX2_canTake_3 11 rfl rfl)
theorem dX2_canTake_82 : decode cX2_canTake 82 = .ok (.goto 4, 3) := dk_167 0 4 (dk_at dksX2_canTake_3 13 rfl rfl)
theorem dX2_canTake_85 : decode cX2_canTake 85 = .ok (.iconst 0, 1) := dk_3 (dk_at dksX2_canTake_3 16 rfl rfl)
theorem dX2_canTake_86 : decode cX2_canTake 86 = .ok (.iadd, 1) := dk_96 (dk_at dksX2_canTake_3 17 rfl rfl)
theorem dX2_canTake_87 : decode cX2_canTake 87 = .ok (.istore_n 3, 1) := dk_62 (dk_at dksX2_canTake_3 18 rfl rfl)
theorem dX2_canTake_88 : decode cX2_canTake 88 = .ok (.iinc 4 1, 3) := dk_132 4 1 (dk_at dksX2_canTake_3 19 rfl rfl)
theorem dX2_canTake_91 : decode cX2_canTake 91 = .ok (.goto (-79), 3) := dk_167 255 177 (dk_at dksX2_canTake_4 0 rfl rfl)
theorem dX2_canTake_94 : decode cX2_canTake 94 = .ok (.iload_n 3, 1) := dk_29 (dk_at dksX2_canTake_4 3 rfl rfl)
theorem dX2_canTake_95 : decode cX2_canTake 95 = .ok (.ifCond .lt 14, 3) := dk_155 0 14 (dk_at dksX2_canTake_4 4 rfl rfl)
theorem dX2_canTake_98 : decode cX2_canTake 98 = .ok (.iload_n 3, 1) := dk_29 (dk_at dksX2_canTake_4 7 rfl rfl)
theorem dX2_canTake_99 : decode cX2_canTake 99 = .ok (.sipush 999, 3) := dk_17 3 231 (dk_at dksX2_canTake_4 8 rfl rfl)
theorem dX2_canTake_102 : decode cX2_canTake 102 = .ok (.if_icmp .gt 7, 3) := dk_163 0 7 (dk_at dksX2_canTake_4 11 rfl rfl)
theorem dX2_canTake_105 : decode cX2_canTake 105 = .ok (.iconst 1, 1) := dk_4 (dk_at dksX2_canTake_4 14 rfl rfl)
theorem dX2_canTake_106 : decode cX2_canTake 106 = .ok (.goto 4, 3) := dk_167 0 4 (dk_at dksX2_canTake_4 15 rfl rfl)
theorem dX2_canTake_109 : decode cX2_canTake 109 = .ok (.iconst 0, 1) := dk_3 (dk_at dksX2_canTake_4 18 rfl rfl)
theorem dX2_canTake_110 : decode cX2_canTake 110 = .ok (.ireturn, 1) := dk_172 (dk_at dksX2_canTake_4 19 rfl rfl)
abbrev cX2_writes : ByteArray := prog_16_method_6_code
def yX2_writes : MethodName := ⟨RX2, "writes", "(III)V"⟩
def dkwX2_writes_1 : List UInt8 := [185, 0, 41, 2, 0, 87, 177]
abbrev dktX2_writes_1 : List UInt8 := dkwX2_writes_1 ++ []
def dkwX2_writes_0 : List UInt8 := [42, 180, 0, 18, 27, 185, 0, 85, 2, 0, 192, 0, 42, 187, 0, 89, 89, 28, 29, 183, 0, 91]
abbrev dktX2_writes_0 : List UInt8 := dkwX2_writes_0 ++ dktX2_writes_1
theorem dksX2_writes_0 : cX2_writes.data.toList.drop 0 = dktX2_writes_0 := by decide +kernel
theorem dksX2_writes_1 : cX2_writes.data.toList.drop 22 = dktX2_writes_1 := dk_seg dksX2_writes_0 22 rfl rfl
theorem dX2_writes_0 : decode cX2_writes 0 = .ok (.aload_n 0, 1) := dk_42 (dk_at dksX2_writes_0 0 rfl rfl)
theorem dX2_writes_1 : decode cX2_writes 1 = .ok (.getfield 18, 3) := dk_180 0 18 (dk_at dksX2_writes_0 1 rfl rfl)
theorem dX2_writes_4 : decode cX2_writes 4 = .ok (.iload_n 1, 1) := dk_27 (dk_at dksX2_writes_0 4 rfl rfl)
theorem dX2_writes_5 : decode cX2_writes 5 = .ok (.invokeinterface 85 2, 5) := by decide +kernel
theorem dX2_writes_10 : decode cX2_writes 10 = .ok (.checkcast 42, 3) := dk_192 0 42 (dk_at dksX2_writes_0 10 rfl rfl)
theorem dX2_writes_13 : decode cX2_writes 13 = .ok (.new 89, 3) := dk_187 0 89 (dk_at dksX2_writes_0 13 rfl rfl)
theorem dX2_writes_16 : decode cX2_writes 16 = .ok (.dup, 1) := dk_89 (dk_at dksX2_writes_0 16 rfl rfl)
theorem dX2_writes_17 : decode cX2_writes 17 = .ok (.iload_n 2, 1) := dk_28 (dk_at dksX2_writes_0 17 rfl rfl)
theorem dX2_writes_18 : decode cX2_writes 18 = .ok (.iload_n 3, 1) := dk_29 (dk_at dksX2_writes_0 18 rfl rfl)
theorem dX2_writes_19 : decode cX2_writes 19 = .ok (.invokespecial 91, 3) := dk_183 0 91 (dk_at dksX2_writes_0 19 rfl rfl)
theorem dX2_writes_22 : decode cX2_writes 22 = .ok (.invokeinterface 41 2, 5) := by decide +kernel
theorem dX2_writes_27 : decode cX2_writes 27 = .ok (.pop, 1) := dk_87 (dk_at dksX2_writes_1 5 rfl rfl)
theorem dX2_writes_28 : decode cX2_writes 28 = .ok (.return_, 1) := dk_177 (dk_at dksX2_writes_1 6 rfl rfl)
abbrev cX2_becomes : ByteArray := prog_16_method_5_code
def yX2_becomes : MethodName := ⟨RX2, "becomes", "(III)V"⟩
def dkwX2_becomes_0 : List UInt8 := [42, 180, 0, 32, 16, 8, 27, 104, 28, 96, 29, 79, 177]
abbrev dktX2_becomes_0 : List UInt8 := dkwX2_becomes_0 ++ []
theorem dksX2_becomes_0 : cX2_becomes.data.toList.drop 0 = dktX2_becomes_0 := by decide +kernel
theorem dX2_becomes_0 : decode cX2_becomes 0 = .ok (.aload_n 0, 1) := dk_42 (dk_at dksX2_becomes_0 0 rfl rfl)
theorem dX2_becomes_1 : decode cX2_becomes 1 = .ok (.getfield 32, 3) := dk_180 0 32 (dk_at dksX2_becomes_0 1 rfl rfl)
theorem dX2_becomes_4 : decode cX2_becomes 4 = .ok (.bipush 8, 2) := dk_16 8 (dk_at dksX2_becomes_0 4 rfl rfl)
theorem dX2_becomes_6 : decode cX2_becomes 6 = .ok (.iload_n 1, 1) := dk_27 (dk_at dksX2_becomes_0 6 rfl rfl)
theorem dX2_becomes_7 : decode cX2_becomes 7 = .ok (.imul, 1) := dk_104 (dk_at dksX2_becomes_0 7 rfl rfl)
theorem dX2_becomes_8 : decode cX2_becomes 8 = .ok (.iload_n 2, 1) := dk_28 (dk_at dksX2_becomes_0 8 rfl rfl)
theorem dX2_becomes_9 : decode cX2_becomes 9 = .ok (.iadd, 1) := dk_96 (dk_at dksX2_becomes_0 9 rfl rfl)
theorem dX2_becomes_10 : decode cX2_becomes 10 = .ok (.iload_n 3, 1) := dk_29 (dk_at dksX2_becomes_0 10 rfl rfl)
theorem dX2_becomes_11 : decode cX2_becomes 11 = .ok (.iastore, 1) := dk_79 (dk_at dksX2_becomes_0 11 rfl rfl)
theorem dX2_becomes_12 : decode cX2_becomes 12 = .ok (.return_, 1) := dk_177 (dk_at dksX2_becomes_0 12 rfl rfl)
abbrev cX2_sends : ByteArray := prog_16_method_12_code
def yX2_sends : MethodName := ⟨RX2, "sends", "(LVoteLogs$Kind;II)V"⟩
def dkwX2_sends_2 : List UInt8 := [89, 180, 0, 78, 4, 96, 181, 0, 78, 177]
abbrev dktX2_sends_2 : List UInt8 := dkwX2_sends_2 ++ []
def dkwX2_sends_1 : List UInt8 := [42, 180, 0, 21, 187, 0, 112, 89, 43, 28, 29, 183, 0, 114, 185, 0, 41, 2, 0, 87, 167, 0, 13, 42]
abbrev dktX2_sends_1 : List UInt8 := dkwX2_sends_1 ++ dktX2_sends_2
def dkwX2_sends_0 : List UInt8 := [42, 89, 180, 0, 72, 4, 96, 181, 0, 72, 42, 180, 0, 21, 185, 0, 108, 1, 0, 16, 60, 162, 0, 26]
abbrev dktX2_sends_0 : List UInt8 := dkwX2_sends_0 ++ dktX2_sends_1
theorem dksX2_sends_0 : cX2_sends.data.toList.drop 0 = dktX2_sends_0 := by decide +kernel
theorem dksX2_sends_1 : cX2_sends.data.toList.drop 24 = dktX2_sends_1 := dk_seg dksX2_sends_0 24 rfl rfl
theorem dksX2_sends_2 : cX2_sends.data.toList.drop 48 = dktX2_sends_2 := dk_seg dksX2_sends_1 24 rfl rfl
theorem dX2_sends_0 : decode cX2_sends 0 = .ok (.aload_n 0, 1) := dk_42 (dk_at dksX2_sends_0 0 rfl rfl)
theorem dX2_sends_1 : decode cX2_sends 1 = .ok (.dup, 1) := dk_89 (dk_at dksX2_sends_0 1 rfl rfl)
theorem dX2_sends_2 : decode cX2_sends 2 = .ok (.getfield 72, 3) := dk_180 0 72 (dk_at dksX2_sends_0 2 rfl rfl)
theorem dX2_sends_5 : decode cX2_sends 5 = .ok (.iconst 1, 1) := dk_4 (dk_at dksX2_sends_0 5 rfl rfl)
theorem dX2_sends_6 : decode cX2_sends 6 = .ok (.iadd, 1) := dk_96 (dk_at dksX2_sends_0 6 rfl rfl)
theorem dX2_sends_7 : decode cX2_sends 7 = .ok (.putfield 72, 3) := dk_181 0 72 (dk_at dksX2_sends_0 7 rfl rfl)
theorem dX2_sends_10 : decode cX2_sends 10 = .ok (.aload_n 0, 1) := dk_42 (dk_at dksX2_sends_0 10 rfl rfl)
theorem dX2_sends_11 : decode cX2_sends 11 = .ok (.getfield 21, 3) := dk_180 0 21 (dk_at dksX2_sends_0 11 rfl rfl)
theorem dX2_sends_14 : decode cX2_sends 14 = .ok (.invokeinterface 108 1, 5) := by decide +kernel
theorem dX2_sends_19 : decode cX2_sends 19 = .ok (.bipush 60, 2) := dk_16 60 (dk_at dksX2_sends_0 19 rfl rfl)
theorem dX2_sends_21 : decode cX2_sends 21 = .ok (.if_icmp .ge 26, 3) := dk_162 0 26 (dk_at dksX2_sends_0 21 rfl rfl)
theorem dX2_sends_24 : decode cX2_sends 24 = .ok (.aload_n 0, 1) := dk_42 (dk_at dksX2_sends_1 0 rfl rfl)
theorem dX2_sends_25 : decode cX2_sends 25 = .ok (.getfield 21, 3) := dk_180 0 21 (dk_at dksX2_sends_1 1 rfl rfl)
theorem dX2_sends_28 : decode cX2_sends 28 = .ok (.new 112, 3) := dk_187 0 112 (dk_at dksX2_sends_1 4 rfl rfl)
theorem dX2_sends_31 : decode cX2_sends 31 = .ok (.dup, 1) := dk_89 (dk_at dksX2_sends_1 7 rfl rfl)
theorem dX2_sends_32 : decode cX2_sends 32 = .ok (.aload_n 1, 1) := dk_43 (dk_at dksX2_sends_1 8 rfl rfl)
theorem dX2_sends_33 : decode cX2_sends 33 = .ok (.iload_n 2, 1) := dk_28 (dk_at dksX2_sends_1 9 rfl rfl)
theorem dX2_sends_34 : decode cX2_sends 34 = .ok (.iload_n 3, 1) := dk_29 (dk_at dksX2_sends_1 10 rfl rfl)
theorem dX2_sends_35 : decode cX2_sends 35 = .ok (.invokespecial 114, 3) := dk_183 0 114 (dk_at dksX2_sends_1 11 rfl rfl)
theorem dX2_sends_38 : decode cX2_sends 38 = .ok (.invokeinterface 41 2, 5) := by decide +kernel
theorem dX2_sends_43 : decode cX2_sends 43 = .ok (.pop, 1) := dk_87 (dk_at dksX2_sends_1 19 rfl rfl)
theorem dX2_sends_44 : decode cX2_sends 44 = .ok (.goto 13, 3) := dk_167 0 13 (dk_at dksX2_sends_1 20 rfl rfl)
theorem dX2_sends_47 : decode cX2_sends 47 = .ok (.aload_n 0, 1) := dk_42 (dk_at dksX2_sends_1 23 rfl rfl)
theorem dX2_sends_48 : decode cX2_sends 48 = .ok (.dup, 1) := dk_89 (dk_at dksX2_sends_2 0 rfl rfl)
theorem dX2_sends_49 : decode cX2_sends 49 = .ok (.getfield 78, 3) := dk_180 0 78 (dk_at dksX2_sends_2 1 rfl rfl)
theorem dX2_sends_52 : decode cX2_sends 52 = .ok (.iconst 1, 1) := dk_4 (dk_at dksX2_sends_2 4 rfl rfl)
theorem dX2_sends_53 : decode cX2_sends 53 = .ok (.iadd, 1) := dk_96 (dk_at dksX2_sends_2 5 rfl rfl)
theorem dX2_sends_54 : decode cX2_sends 54 = .ok (.putfield 78, 3) := dk_181 0 78 (dk_at dksX2_sends_2 6 rfl rfl)
theorem dX2_sends_57 : decode cX2_sends 57 = .ok (.return_, 1) := dk_177 (dk_at dksX2_sends_2 9 rfl rfl)
abbrev cX2_hearsYes : ByteArray := prog_16_method_23_code
def yX2_hearsYes : MethodName := ⟨RX2, "hearsYes", "(LVoteLogs$Message;)V"⟩
def dkwX2_hearsYes_2 : List UInt8 := [192, 0, 117, 182, 0, 119, 160, 0, 9, 42, 28, 4, 182, 0, 200, 177]
abbrev dktX2_hearsYes_2 : List UInt8 := dkwX2_hearsYes_2 ++ []
def dkwX2_hearsYes_1 : List UInt8 := [180, 0, 160, 120, 128, 79, 42, 180, 0, 35, 28, 46, 42, 180, 0, 12, 28, 185, 0, 85, 2, 0]
abbrev dktX2_hearsYes_1 : List UInt8 := dkwX2_hearsYes_1 ++ dktX2_hearsYes_2
def dkwX2_hearsYes_0 : List UInt8 := [43, 180, 0, 163, 61, 42, 28, 182, 0, 197, 153, 0, 49, 42, 180, 0, 35, 28, 92, 46, 4, 43]
abbrev dktX2_hearsYes_0 : List UInt8 := dkwX2_hearsYes_0 ++ dktX2_hearsYes_1
theorem dksX2_hearsYes_0 : cX2_hearsYes.data.toList.drop 0 = dktX2_hearsYes_0 := by decide +kernel
theorem dksX2_hearsYes_1 : cX2_hearsYes.data.toList.drop 22 = dktX2_hearsYes_1 := dk_seg dksX2_hearsYes_0 22 rfl rfl
theorem dksX2_hearsYes_2 : cX2_hearsYes.data.toList.drop 44 = dktX2_hearsYes_2 := dk_seg dksX2_hearsYes_1 22 rfl rfl
theorem dX2_hearsYes_0 : decode cX2_hearsYes 0 = .ok (.aload_n 1, 1) := dk_43 (dk_at dksX2_hearsYes_0 0 rfl rfl)
theorem dX2_hearsYes_1 : decode cX2_hearsYes 1 = .ok (.getfield 163, 3) := dk_180 0 163 (dk_at dksX2_hearsYes_0 1 rfl rfl)
theorem dX2_hearsYes_4 : decode cX2_hearsYes 4 = .ok (.istore_n 2, 1) := dk_61 (dk_at dksX2_hearsYes_0 4 rfl rfl)
theorem dX2_hearsYes_5 : decode cX2_hearsYes 5 = .ok (.aload_n 0, 1) := dk_42 (dk_at dksX2_hearsYes_0 5 rfl rfl)
theorem dX2_hearsYes_6 : decode cX2_hearsYes 6 = .ok (.iload_n 2, 1) := dk_28 (dk_at dksX2_hearsYes_0 6 rfl rfl)
theorem dX2_hearsYes_7 : decode cX2_hearsYes 7 = .ok (.invokevirtual 197, 3) := dk_182 0 197 (dk_at dksX2_hearsYes_0 7 rfl rfl)
theorem dX2_hearsYes_10 : decode cX2_hearsYes 10 = .ok (.ifCond .eq 49, 3) := dk_153 0 49 (dk_at dksX2_hearsYes_0 10 rfl rfl)
theorem dX2_hearsYes_13 : decode cX2_hearsYes 13 = .ok (.aload_n 0, 1) := dk_42 (dk_at dksX2_hearsYes_0 13 rfl rfl)
theorem dX2_hearsYes_14 : decode cX2_hearsYes 14 = .ok (.getfield 35, 3) := dk_180 0 35 (dk_at dksX2_hearsYes_0 14 rfl rfl)
theorem dX2_hearsYes_17 : decode cX2_hearsYes 17 = .ok (.iload_n 2, 1) := dk_28 (dk_at dksX2_hearsYes_0 17 rfl rfl)
theorem dX2_hearsYes_18 : decode cX2_hearsYes 18 = .ok (.dup2, 1) := dk_92 (dk_at dksX2_hearsYes_0 18 rfl rfl)
theorem dX2_hearsYes_19 : decode cX2_hearsYes 19 = .ok (.iaload, 1) := dk_46 (dk_at dksX2_hearsYes_0 19 rfl rfl)
theorem dX2_hearsYes_20 : decode cX2_hearsYes 20 = .ok (.iconst 1, 1) := dk_4 (dk_at dksX2_hearsYes_0 20 rfl rfl)
theorem dX2_hearsYes_21 : decode cX2_hearsYes 21 = .ok (.aload_n 1, 1) := dk_43 (dk_at dksX2_hearsYes_0 21 rfl rfl)
theorem dX2_hearsYes_22 : decode cX2_hearsYes 22 = .ok (.getfield 160, 3) := dk_180 0 160 (dk_at dksX2_hearsYes_1 0 rfl rfl)
theorem dX2_hearsYes_25 : decode cX2_hearsYes 25 = .ok (.ishl, 1) := dk_120 (dk_at dksX2_hearsYes_1 3 rfl rfl)
theorem dX2_hearsYes_26 : decode cX2_hearsYes 26 = .ok (.ior, 1) := dk_128 (dk_at dksX2_hearsYes_1 4 rfl rfl)
theorem dX2_hearsYes_27 : decode cX2_hearsYes 27 = .ok (.iastore, 1) := dk_79 (dk_at dksX2_hearsYes_1 5 rfl rfl)
theorem dX2_hearsYes_28 : decode cX2_hearsYes 28 = .ok (.aload_n 0, 1) := dk_42 (dk_at dksX2_hearsYes_1 6 rfl rfl)
theorem dX2_hearsYes_29 : decode cX2_hearsYes 29 = .ok (.getfield 35, 3) := dk_180 0 35 (dk_at dksX2_hearsYes_1 7 rfl rfl)
theorem dX2_hearsYes_32 : decode cX2_hearsYes 32 = .ok (.iload_n 2, 1) := dk_28 (dk_at dksX2_hearsYes_1 10 rfl rfl)
theorem dX2_hearsYes_33 : decode cX2_hearsYes 33 = .ok (.iaload, 1) := dk_46 (dk_at dksX2_hearsYes_1 11 rfl rfl)
theorem dX2_hearsYes_34 : decode cX2_hearsYes 34 = .ok (.aload_n 0, 1) := dk_42 (dk_at dksX2_hearsYes_1 12 rfl rfl)
theorem dX2_hearsYes_35 : decode cX2_hearsYes 35 = .ok (.getfield 12, 3) := dk_180 0 12 (dk_at dksX2_hearsYes_1 13 rfl rfl)
theorem dX2_hearsYes_38 : decode cX2_hearsYes 38 = .ok (.iload_n 2, 1) := dk_28 (dk_at dksX2_hearsYes_1 16 rfl rfl)
theorem dX2_hearsYes_39 : decode cX2_hearsYes 39 = .ok (.invokeinterface 85 2, 5) := by decide +kernel
theorem dX2_hearsYes_44 : decode cX2_hearsYes 44 = .ok (.checkcast 117, 3) := dk_192 0 117 (dk_at dksX2_hearsYes_2 0 rfl rfl)
theorem dX2_hearsYes_47 : decode cX2_hearsYes 47 = .ok (.invokevirtual 119, 3) := dk_182 0 119 (dk_at dksX2_hearsYes_2 3 rfl rfl)
theorem dX2_hearsYes_50 : decode cX2_hearsYes 50 = .ok (.if_icmp .ne 9, 3) := dk_160 0 9 (dk_at dksX2_hearsYes_2 6 rfl rfl)
theorem dX2_hearsYes_53 : decode cX2_hearsYes 53 = .ok (.aload_n 0, 1) := dk_42 (dk_at dksX2_hearsYes_2 9 rfl rfl)
theorem dX2_hearsYes_54 : decode cX2_hearsYes 54 = .ok (.iload_n 2, 1) := dk_28 (dk_at dksX2_hearsYes_2 10 rfl rfl)
theorem dX2_hearsYes_55 : decode cX2_hearsYes 55 = .ok (.iconst 1, 1) := dk_4 (dk_at dksX2_hearsYes_2 11 rfl rfl)
theorem dX2_hearsYes_56 : decode cX2_hearsYes 56 = .ok (.invokevirtual 200, 3) := dk_182 0 200 (dk_at dksX2_hearsYes_2 12 rfl rfl)
theorem dX2_hearsYes_59 : decode cX2_hearsYes 59 = .ok (.return_, 1) := dk_177 (dk_at dksX2_hearsYes_2 15 rfl rfl)
abbrev cX2_isUndecided : ByteArray := prog_16_method_9_code
def yX2_isUndecided : MethodName := ⟨RX2, "isUndecided", "(I)Z"⟩
def dkwX2_isUndecided_0 : List UInt8 := [42, 27, 182, 0, 104, 154, 0, 7, 4, 167, 0, 4, 3, 172]
abbrev dktX2_isUndecided_0 : List UInt8 := dkwX2_isUndecided_0 ++ []
theorem dksX2_isUndecided_0 : cX2_isUndecided.data.toList.drop 0 = dktX2_isUndecided_0 := by decide +kernel
theorem dX2_isUndecided_0 : decode cX2_isUndecided 0 = .ok (.aload_n 0, 1) := dk_42 (dk_at dksX2_isUndecided_0 0 rfl rfl)
theorem dX2_isUndecided_1 : decode cX2_isUndecided 1 = .ok (.iload_n 1, 1) := dk_27 (dk_at dksX2_isUndecided_0 1 rfl rfl)
theorem dX2_isUndecided_2 : decode cX2_isUndecided 2 = .ok (.invokevirtual 104, 3) := dk_182 0 104 (dk_at dksX2_isUndecided_0 2 rfl rfl)
theorem dX2_isUndecided_5 : decode cX2_isUndecided 5 = .ok (.ifCond .ne 7, 3) := dk_154 0 7 (dk_at dksX2_isUndecided_0 5 rfl rfl)
theorem dX2_isUndecided_8 : decode cX2_isUndecided 8 = .ok (.iconst 1, 1) := dk_4 (dk_at dksX2_isUndecided_0 8 rfl rfl)
theorem dX2_isUndecided_9 : decode cX2_isUndecided 9 = .ok (.goto 4, 3) := dk_167 0 4 (dk_at dksX2_isUndecided_0 9 rfl rfl)
theorem dX2_isUndecided_12 : decode cX2_isUndecided 12 = .ok (.iconst 0, 1) := dk_3 (dk_at dksX2_isUndecided_0 12 rfl rfl)
theorem dX2_isUndecided_13 : decode cX2_isUndecided 13 = .ok (.ireturn, 1) := dk_172 (dk_at dksX2_isUndecided_0 13 rfl rfl)
abbrev cX2_outcome : ByteArray := prog_16_method_8_code
def yX2_outcome : MethodName := ⟨RX2, "outcome", "(I)I"⟩
def dkwX2_outcome_0 : List UInt8 := [42, 7, 27, 5, 182, 0, 100, 172]
abbrev dktX2_outcome_0 : List UInt8 := dkwX2_outcome_0 ++ []
theorem dksX2_outcome_0 : cX2_outcome.data.toList.drop 0 = dktX2_outcome_0 := by decide +kernel
theorem dX2_outcome_0 : decode cX2_outcome 0 = .ok (.aload_n 0, 1) := dk_42 (dk_at dksX2_outcome_0 0 rfl rfl)
theorem dX2_outcome_1 : decode cX2_outcome 1 = .ok (.iconst 4, 1) := dk_7 (dk_at dksX2_outcome_0 1 rfl rfl)
theorem dX2_outcome_2 : decode cX2_outcome 2 = .ok (.iload_n 1, 1) := dk_27 (dk_at dksX2_outcome_0 2 rfl rfl)
theorem dX2_outcome_3 : decode cX2_outcome 3 = .ok (.iconst 2, 1) := dk_5 (dk_at dksX2_outcome_0 3 rfl rfl)
theorem dX2_outcome_4 : decode cX2_outcome 4 = .ok (.invokevirtual 100, 3) := dk_182 0 100 (dk_at dksX2_outcome_0 4 rfl rfl)
theorem dX2_outcome_7 : decode cX2_outcome 7 = .ok (.ireturn, 1) := dk_172 (dk_at dksX2_outcome_0 7 rfl rfl)
abbrev cX2_lastKind : ByteArray := prog_16_method_7_code
def yX2_lastKind : MethodName := ⟨RX2, "lastKind", "(III)I"⟩
def dkwX2_lastKind_3 : List UInt8 := [21, 4, 54, 4, 167, 255, 204, 21, 4, 172]
abbrev dktX2_lastKind_3 : List UInt8 := dkwX2_lastKind_3 ++ []
def dkwX2_lastKind_2 : List UInt8 := [180, 0, 94, 28, 160, 0, 20, 25, 6, 180, 0, 97, 29, 163, 0, 11, 25, 6, 180, 0, 97, 167, 0, 5]
abbrev dktX2_lastKind_2 : List UInt8 := dkwX2_lastKind_2 ++ dktX2_lastKind_3
def dkwX2_lastKind_1 : List UInt8 := [25, 5, 185, 0, 55, 1, 0, 153, 0, 48, 25, 5, 185, 0, 61, 1, 0, 192, 0, 89, 58, 6, 25, 6]
abbrev dktX2_lastKind_1 : List UInt8 := dkwX2_lastKind_1 ++ dktX2_lastKind_2
def dkwX2_lastKind_0 : List UInt8 := [2, 54, 4, 42, 180, 0, 18, 27, 185, 0, 85, 2, 0, 192, 0, 42, 185, 0, 51, 1, 0, 58, 5]
abbrev dktX2_lastKind_0 : List UInt8 := dkwX2_lastKind_0 ++ dktX2_lastKind_1
theorem dksX2_lastKind_0 : cX2_lastKind.data.toList.drop 0 = dktX2_lastKind_0 := by decide +kernel
theorem dksX2_lastKind_1 : cX2_lastKind.data.toList.drop 23 = dktX2_lastKind_1 := dk_seg dksX2_lastKind_0 23 rfl rfl
theorem dksX2_lastKind_2 : cX2_lastKind.data.toList.drop 47 = dktX2_lastKind_2 := dk_seg dksX2_lastKind_1 24 rfl rfl
theorem dksX2_lastKind_3 : cX2_lastKind.data.toList.drop 71 = dktX2_lastKind_3 := dk_seg dksX2_lastKind_2 24 rfl rfl
theorem dX2_lastKind_0 : decode cX2_lastKind 0 = .ok (.iconst (-1), 1) := dk_2 (dk_at dksX2_lastKind_0 0 rfl rfl)
theorem dX2_lastKind_1 : decode cX2_lastKind 1 = .ok (.istore 4, 2) := dk_54 4 (dk_at dksX2_lastKind_0 1 rfl rfl)
theorem dX2_lastKind_3 : decode cX2_lastKind 3 = .ok (.aload_n 0, 1) := dk_42 (dk_at dksX2_lastKind_0 3 rfl rfl)
theorem dX2_lastKind_4 : decode cX2_lastKind 4 = .ok (.getfield 18, 3) := dk_180 0 18 (dk_at dksX2_lastKind_0 4 rfl rfl)
theorem dX2_lastKind_7 : decode cX2_lastKind 7 = .ok (.iload_n 1, 1) := dk_27 (dk_at dksX2_lastKind_0 7 rfl rfl)
theorem dX2_lastKind_8 : decode cX2_lastKind 8 = .ok (.invokeinterface 85 2, 5) := by decide +kernel
theorem dX2_lastKind_13 : decode cX2_lastKind 13 = .ok (.checkcast 42, 3) := dk_192 0 42 (dk_at dksX2_lastKind_0 13 rfl rfl)
theorem dX2_lastKind_16 : decode cX2_lastKind 16 = .ok (.invokeinterface 51 1, 5) := by decide +kernel
theorem dX2_lastKind_21 : decode cX2_lastKind 21 = .ok (.astore 5, 2) := dk_58 5 (dk_at dksX2_lastKind_0 21 rfl rfl)
theorem dX2_lastKind_23 : decode cX2_lastKind 23 = .ok (.aload 5, 2) := dk_25 5 (dk_at dksX2_lastKind_1 0 rfl rfl)
theorem dX2_lastKind_25 : decode cX2_lastKind 25 = .ok (.invokeinterface 55 1, 5) := by decide +kernel
theorem dX2_lastKind_30 : decode cX2_lastKind 30 = .ok (.ifCond .eq 48, 3) := dk_153 0 48 (dk_at dksX2_lastKind_1 7 rfl rfl)
theorem dX2_lastKind_33 : decode cX2_lastKind 33 = .ok (.aload 5, 2) := dk_25 5 (dk_at dksX2_lastKind_1 10 rfl rfl)
theorem dX2_lastKind_35 : decode cX2_lastKind 35 = .ok (.invokeinterface 61 1, 5) := by decide +kernel
theorem dX2_lastKind_40 : decode cX2_lastKind 40 = .ok (.checkcast 89, 3) := dk_192 0 89 (dk_at dksX2_lastKind_1 17 rfl rfl)
theorem dX2_lastKind_43 : decode cX2_lastKind 43 = .ok (.astore 6, 2) := dk_58 6 (dk_at dksX2_lastKind_1 20 rfl rfl)
theorem dX2_lastKind_45 : decode cX2_lastKind 45 = .ok (.aload 6, 2) := dk_25 6 (dk_at dksX2_lastKind_1 22 rfl rfl)
theorem dX2_lastKind_47 : decode cX2_lastKind 47 = .ok (.getfield 94, 3) := dk_180 0 94 (dk_at dksX2_lastKind_2 0 rfl rfl)
theorem dX2_lastKind_50 : decode cX2_lastKind 50 = .ok (.iload_n 2, 1) := dk_28 (dk_at dksX2_lastKind_2 3 rfl rfl)
theorem dX2_lastKind_51 : decode cX2_lastKind 51 = .ok (.if_icmp .ne 20, 3) := dk_160 0 20 (dk_at dksX2_lastKind_2 4 rfl rfl)
theorem dX2_lastKind_54 : decode cX2_lastKind 54 = .ok (.aload 6, 2) := dk_25 6 (dk_at dksX2_lastKind_2 7 rfl rfl)
theorem dX2_lastKind_56 : decode cX2_lastKind 56 = .ok (.getfield 97, 3) := dk_180 0 97 (dk_at dksX2_lastKind_2 9 rfl rfl)
theorem dX2_lastKind_59 : decode cX2_lastKind 59 = .ok (.iload_n 3, 1) := dk_29 (dk_at dksX2_lastKind_2 12 rfl rfl)
theorem dX2_lastKind_60 : decode cX2_lastKind 60 = .ok (.if_icmp .gt 11, 3) := dk_163 0 11 (dk_at dksX2_lastKind_2 13 rfl rfl)
theorem dX2_lastKind_63 : decode cX2_lastKind 63 = .ok (.aload 6, 2) := dk_25 6 (dk_at dksX2_lastKind_2 16 rfl rfl)
theorem dX2_lastKind_65 : decode cX2_lastKind 65 = .ok (.getfield 97, 3) := dk_180 0 97 (dk_at dksX2_lastKind_2 18 rfl rfl)
theorem dX2_lastKind_68 : decode cX2_lastKind 68 = .ok (.goto 5, 3) := dk_167 0 5 (dk_at dksX2_lastKind_2 21 rfl rfl)
theorem dX2_lastKind_71 : decode cX2_lastKind 71 = .ok (.iload 4, 2) := dk_21 4 (dk_at dksX2_lastKind_3 0 rfl rfl)
theorem dX2_lastKind_73 : decode cX2_lastKind 73 = .ok (.istore 4, 2) := dk_54 4 (dk_at dksX2_lastKind_3 2 rfl rfl)
theorem dX2_lastKind_75 : decode cX2_lastKind 75 = .ok (.goto (-52), 3) := dk_167 255 204 (dk_at dksX2_lastKind_3 4 rfl rfl)
theorem dX2_lastKind_78 : decode cX2_lastKind 78 = .ok (.iload 4, 2) := dk_21 4 (dk_at dksX2_lastKind_3 7 rfl rfl)
theorem dX2_lastKind_80 : decode cX2_lastKind 80 = .ok (.ireturn, 1) := dk_172 (dk_at dksX2_lastKind_3 9 rfl rfl)
abbrev cX2_decides : ByteArray := prog_16_method_22_code
def yX2_decides : MethodName := ⟨RX2, "decides", "(II)V"⟩
def dkwX2_decides_0 : List UInt8 := [42, 7, 28, 27, 182, 0, 167, 42, 28, 184, 0, 189, 27, 182, 0, 193, 177]
abbrev dktX2_decides_0 : List UInt8 := dkwX2_decides_0 ++ []
theorem dksX2_decides_0 : cX2_decides.data.toList.drop 0 = dktX2_decides_0 := by decide +kernel
theorem dX2_decides_0 : decode cX2_decides 0 = .ok (.aload_n 0, 1) := dk_42 (dk_at dksX2_decides_0 0 rfl rfl)
theorem dX2_decides_1 : decode cX2_decides 1 = .ok (.iconst 4, 1) := dk_7 (dk_at dksX2_decides_0 1 rfl rfl)
theorem dX2_decides_2 : decode cX2_decides 2 = .ok (.iload_n 2, 1) := dk_28 (dk_at dksX2_decides_0 2 rfl rfl)
theorem dX2_decides_3 : decode cX2_decides 3 = .ok (.iload_n 1, 1) := dk_27 (dk_at dksX2_decides_0 3 rfl rfl)
theorem dX2_decides_4 : decode cX2_decides 4 = .ok (.invokevirtual 167, 3) := dk_182 0 167 (dk_at dksX2_decides_0 4 rfl rfl)
theorem dX2_decides_7 : decode cX2_decides 7 = .ok (.aload_n 0, 1) := dk_42 (dk_at dksX2_decides_0 7 rfl rfl)
theorem dX2_decides_8 : decode cX2_decides 8 = .ok (.iload_n 2, 1) := dk_28 (dk_at dksX2_decides_0 8 rfl rfl)
theorem dX2_decides_9 : decode cX2_decides 9 = .ok (.invokestatic 189, 3) := dk_184 0 189 (dk_at dksX2_decides_0 9 rfl rfl)
theorem dX2_decides_12 : decode cX2_decides 12 = .ok (.iload_n 1, 1) := dk_27 (dk_at dksX2_decides_0 12 rfl rfl)
theorem dX2_decides_13 : decode cX2_decides 13 = .ok (.invokevirtual 193, 3) := dk_182 0 193 (dk_at dksX2_decides_0 13 rfl rfl)
theorem dX2_decides_16 : decode cX2_decides 16 = .ok (.return_, 1) := dk_177 (dk_at dksX2_decides_0 16 rfl rfl)
abbrev cX2_tells : ByteArray := prog_16_method_21_code
def yX2_tells : MethodName := ⟨RX2, "tells", "(I)LVoteLogs$Kind;"⟩
def dkwX2_tells_0 : List UInt8 := [26, 4, 160, 0, 9, 178, 0, 183, 167, 0, 6, 178, 0, 186, 176]
abbrev dktX2_tells_0 : List UInt8 := dkwX2_tells_0 ++ []
theorem dksX2_tells_0 : cX2_tells.data.toList.drop 0 = dktX2_tells_0 := by decide +kernel
theorem dX2_tells_0 : decode cX2_tells 0 = .ok (.iload_n 0, 1) := dk_26 (dk_at dksX2_tells_0 0 rfl rfl)
theorem dX2_tells_1 : decode cX2_tells 1 = .ok (.iconst 1, 1) := dk_4 (dk_at dksX2_tells_0 1 rfl rfl)
theorem dX2_tells_2 : decode cX2_tells 2 = .ok (.if_icmp .ne 9, 3) := dk_160 0 9 (dk_at dksX2_tells_0 2 rfl rfl)
theorem dX2_tells_5 : decode cX2_tells 5 = .ok (.getstatic 183, 3) := dk_178 0 183 (dk_at dksX2_tells_0 5 rfl rfl)
theorem dX2_tells_8 : decode cX2_tells 8 = .ok (.goto 6, 3) := dk_167 0 6 (dk_at dksX2_tells_0 8 rfl rfl)
theorem dX2_tells_11 : decode cX2_tells 11 = .ok (.getstatic 186, 3) := dk_178 0 186 (dk_at dksX2_tells_0 11 rfl rfl)
theorem dX2_tells_14 : decode cX2_tells 14 = .ok (.areturn, 1) := dk_176 (dk_at dksX2_tells_0 14 rfl rfl)
abbrev cX2_sendsToAll : ByteArray := prog_16_method_13_code
def yX2_sendsToAll : MethodName := ⟨RX2, "sendsToAll", "(LVoteLogs$Kind;I)V"⟩
def dkwX2_sendsToAll_2 : List UInt8 := [167, 255, 230, 177]
abbrev dktX2_sendsToAll_2 : List UInt8 := dkwX2_sendsToAll_2 ++ []
def dkwX2_sendsToAll_1 : List UInt8 := [162, 0, 26, 29, 21, 4, 184, 0, 81, 153, 0, 11, 42, 43, 28, 21, 4, 182, 0, 122, 132, 4, 1]
abbrev dktX2_sendsToAll_1 : List UInt8 := dkwX2_sendsToAll_1 ++ dktX2_sendsToAll_2
def dkwX2_sendsToAll_0 : List UInt8 := [42, 180, 0, 12, 28, 185, 0, 85, 2, 0, 192, 0, 117, 182, 0, 119, 62, 3, 54, 4, 21, 4, 7]
abbrev dktX2_sendsToAll_0 : List UInt8 := dkwX2_sendsToAll_0 ++ dktX2_sendsToAll_1
theorem dksX2_sendsToAll_0 : cX2_sendsToAll.data.toList.drop 0 = dktX2_sendsToAll_0 := by decide +kernel
theorem dksX2_sendsToAll_1 : cX2_sendsToAll.data.toList.drop 23 = dktX2_sendsToAll_1 := dk_seg dksX2_sendsToAll_0 23 rfl rfl
theorem dksX2_sendsToAll_2 : cX2_sendsToAll.data.toList.drop 46 = dktX2_sendsToAll_2 := dk_seg dksX2_sendsToAll_1 23 rfl rfl
theorem dX2_sendsToAll_0 : decode cX2_sendsToAll 0 = .ok (.aload_n 0, 1) := dk_42 (dk_at dksX2_sendsToAll_0 0 rfl rfl)
theorem dX2_sendsToAll_1 : decode cX2_sendsToAll 1 = .ok (.getfield 12, 3) := dk_180 0 12 (dk_at dksX2_sendsToAll_0 1 rfl rfl)
theorem dX2_sendsToAll_4 : decode cX2_sendsToAll 4 = .ok (.iload_n 2, 1) := dk_28 (dk_at dksX2_sendsToAll_0 4 rfl rfl)
theorem dX2_sendsToAll_5 : decode cX2_sendsToAll 5 = .ok (.invokeinterface 85 2, 5) := by decide +kernel
theorem dX2_sendsToAll_10 : decode cX2_sendsToAll 10 = .ok (.checkcast 117, 3) := dk_192 0 117 (dk_at dksX2_sendsToAll_0 10 rfl rfl)
theorem dX2_sendsToAll_13 : decode cX2_sendsToAll 13 = .ok (.invokevirtual 119, 3) := dk_182 0 119 (dk_at dksX2_sendsToAll_0 13 rfl rfl)
theorem dX2_sendsToAll_16 : decode cX2_sendsToAll 16 = .ok (.istore_n 3, 1) := dk_62 (dk_at dksX2_sendsToAll_0 16 rfl rfl)
theorem dX2_sendsToAll_17 : decode cX2_sendsToAll 17 = .ok (.iconst 0, 1) := dk_3 (dk_at dksX2_sendsToAll_0 17 rfl rfl)
theorem dX2_sendsToAll_18 : decode cX2_sendsToAll 18 = .ok (.istore 4, 2) := dk_54 4 (dk_at dksX2_sendsToAll_0 18 rfl rfl)
theorem dX2_sendsToAll_20 : decode cX2_sendsToAll 20 = .ok (.iload 4, 2) := dk_21 4 (dk_at dksX2_sendsToAll_0 20 rfl rfl)
theorem dX2_sendsToAll_22 : decode cX2_sendsToAll 22 = .ok (.iconst 4, 1) := dk_7 (dk_at dksX2_sendsToAll_0 22 rfl rfl)
theorem dX2_sendsToAll_23 : decode cX2_sendsToAll 23 = .ok (.if_icmp .ge 26, 3) := dk_162 0 26 (dk_at dksX2_sendsToAll_1 0 rfl rfl)
theorem dX2_sendsToAll_26 : decode cX2_sendsToAll 26 = .ok (.iload_n 3, 1) := dk_29 (dk_at dksX2_sendsToAll_1 3 rfl rfl)
theorem dX2_sendsToAll_27 : decode cX2_sendsToAll 27 = .ok (.iload 4, 2) := dk_21 4 (dk_at dksX2_sendsToAll_1 4 rfl rfl)
theorem dX2_sendsToAll_29 : decode cX2_sendsToAll 29 = .ok (.invokestatic 81, 3) := dk_184 0 81 (dk_at dksX2_sendsToAll_1 6 rfl rfl)
theorem dX2_sendsToAll_32 : decode cX2_sendsToAll 32 = .ok (.ifCond .eq 11, 3) := dk_153 0 11 (dk_at dksX2_sendsToAll_1 9 rfl rfl)
theorem dX2_sendsToAll_35 : decode cX2_sendsToAll 35 = .ok (.aload_n 0, 1) := dk_42 (dk_at dksX2_sendsToAll_1 12 rfl rfl)
theorem dX2_sendsToAll_36 : decode cX2_sendsToAll 36 = .ok (.aload_n 1, 1) := dk_43 (dk_at dksX2_sendsToAll_1 13 rfl rfl)
theorem dX2_sendsToAll_37 : decode cX2_sendsToAll 37 = .ok (.iload_n 2, 1) := dk_28 (dk_at dksX2_sendsToAll_1 14 rfl rfl)
theorem dX2_sendsToAll_38 : decode cX2_sendsToAll 38 = .ok (.iload 4, 2) := dk_21 4 (dk_at dksX2_sendsToAll_1 15 rfl rfl)
theorem dX2_sendsToAll_40 : decode cX2_sendsToAll 40 = .ok (.invokevirtual 122, 3) := dk_182 0 122 (dk_at dksX2_sendsToAll_1 17 rfl rfl)
theorem dX2_sendsToAll_43 : decode cX2_sendsToAll 43 = .ok (.iinc 4 1, 3) := dk_132 4 1 (dk_at dksX2_sendsToAll_1 20 rfl rfl)
theorem dX2_sendsToAll_46 : decode cX2_sendsToAll 46 = .ok (.goto (-26), 3) := dk_167 255 230 (dk_at dksX2_sendsToAll_2 0 rfl rfl)
theorem dX2_sendsToAll_49 : decode cX2_sendsToAll 49 = .ok (.return_, 1) := dk_177 (dk_at dksX2_sendsToAll_2 3 rfl rfl)
abbrev cX2_hearsNo : ByteArray := prog_16_method_24_code
def yX2_hearsNo : MethodName := ⟨RX2, "hearsNo", "(LVoteLogs$Message;)V"⟩
def dkwX2_hearsNo_0 : List UInt8 := [42, 43, 180, 0, 163, 182, 0, 197, 153, 0, 12, 42, 43, 180, 0, 163, 5, 182, 0, 200, 177]
abbrev dktX2_hearsNo_0 : List UInt8 := dkwX2_hearsNo_0 ++ []
theorem dksX2_hearsNo_0 : cX2_hearsNo.data.toList.drop 0 = dktX2_hearsNo_0 := by decide +kernel
theorem dX2_hearsNo_0 : decode cX2_hearsNo 0 = .ok (.aload_n 0, 1) := dk_42 (dk_at dksX2_hearsNo_0 0 rfl rfl)
theorem dX2_hearsNo_1 : decode cX2_hearsNo 1 = .ok (.aload_n 1, 1) := dk_43 (dk_at dksX2_hearsNo_0 1 rfl rfl)
theorem dX2_hearsNo_2 : decode cX2_hearsNo 2 = .ok (.getfield 163, 3) := dk_180 0 163 (dk_at dksX2_hearsNo_0 2 rfl rfl)
theorem dX2_hearsNo_5 : decode cX2_hearsNo 5 = .ok (.invokevirtual 197, 3) := dk_182 0 197 (dk_at dksX2_hearsNo_0 5 rfl rfl)
theorem dX2_hearsNo_8 : decode cX2_hearsNo 8 = .ok (.ifCond .eq 12, 3) := dk_153 0 12 (dk_at dksX2_hearsNo_0 8 rfl rfl)
theorem dX2_hearsNo_11 : decode cX2_hearsNo 11 = .ok (.aload_n 0, 1) := dk_42 (dk_at dksX2_hearsNo_0 11 rfl rfl)
theorem dX2_hearsNo_12 : decode cX2_hearsNo 12 = .ok (.aload_n 1, 1) := dk_43 (dk_at dksX2_hearsNo_0 12 rfl rfl)
theorem dX2_hearsNo_13 : decode cX2_hearsNo 13 = .ok (.getfield 163, 3) := dk_180 0 163 (dk_at dksX2_hearsNo_0 13 rfl rfl)
theorem dX2_hearsNo_16 : decode cX2_hearsNo 16 = .ok (.iconst 2, 1) := dk_5 (dk_at dksX2_hearsNo_0 16 rfl rfl)
theorem dX2_hearsNo_17 : decode cX2_hearsNo 17 = .ok (.invokevirtual 200, 3) := dk_182 0 200 (dk_at dksX2_hearsNo_0 17 rfl rfl)
theorem dX2_hearsNo_20 : decode cX2_hearsNo 20 = .ok (.return_, 1) := dk_177 (dk_at dksX2_hearsNo_0 20 rfl rfl)
abbrev cX2_hearsMake : ByteArray := prog_16_method_19_code
def yX2_hearsMake : MethodName := ⟨RX2, "hearsMake", "(LVoteLogs$Message;)V"⟩
def dkwX2_hearsMake_2 : List UInt8 := [185, 0, 85, 2, 0, 192, 0, 117, 28, 182, 0, 153, 96, 79, 42, 178, 0, 180, 29, 28, 182, 0, 122, 177]
abbrev dktX2_hearsMake_2 : List UInt8 := dkwX2_hearsMake_2 ++ []
def dkwX2_hearsMake_1 : List UInt8 := [182, 0, 167, 42, 28, 29, 5, 182, 0, 171, 42, 180, 0, 28, 28, 92, 46, 42, 180, 0, 12, 29]
abbrev dktX2_hearsMake_1 : List UInt8 := dkwX2_hearsMake_1 ++ dktX2_hearsMake_2
def dkwX2_hearsMake_0 : List UInt8 := [43, 180, 0, 160, 61, 43, 180, 0, 163, 62, 42, 28, 29, 182, 0, 156, 4, 160, 0, 43, 42, 28, 4, 29]
abbrev dktX2_hearsMake_0 : List UInt8 := dkwX2_hearsMake_0 ++ dktX2_hearsMake_1
theorem dksX2_hearsMake_0 : cX2_hearsMake.data.toList.drop 0 = dktX2_hearsMake_0 := by decide +kernel
theorem dksX2_hearsMake_1 : cX2_hearsMake.data.toList.drop 24 = dktX2_hearsMake_1 := dk_seg dksX2_hearsMake_0 24 rfl rfl
theorem dksX2_hearsMake_2 : cX2_hearsMake.data.toList.drop 46 = dktX2_hearsMake_2 := dk_seg dksX2_hearsMake_1 22 rfl rfl
theorem dX2_hearsMake_0 : decode cX2_hearsMake 0 = .ok (.aload_n 1, 1) := dk_43 (dk_at dksX2_hearsMake_0 0 rfl rfl)
theorem dX2_hearsMake_1 : decode cX2_hearsMake 1 = .ok (.getfield 160, 3) := dk_180 0 160 (dk_at dksX2_hearsMake_0 1 rfl rfl)
theorem dX2_hearsMake_4 : decode cX2_hearsMake 4 = .ok (.istore_n 2, 1) := dk_61 (dk_at dksX2_hearsMake_0 4 rfl rfl)
theorem dX2_hearsMake_5 : decode cX2_hearsMake 5 = .ok (.aload_n 1, 1) := dk_43 (dk_at dksX2_hearsMake_0 5 rfl rfl)
theorem dX2_hearsMake_6 : decode cX2_hearsMake 6 = .ok (.getfield 163, 3) := dk_180 0 163 (dk_at dksX2_hearsMake_0 6 rfl rfl)
theorem dX2_hearsMake_9 : decode cX2_hearsMake 9 = .ok (.istore_n 3, 1) := dk_62 (dk_at dksX2_hearsMake_0 9 rfl rfl)
theorem dX2_hearsMake_10 : decode cX2_hearsMake 10 = .ok (.aload_n 0, 1) := dk_42 (dk_at dksX2_hearsMake_0 10 rfl rfl)
theorem dX2_hearsMake_11 : decode cX2_hearsMake 11 = .ok (.iload_n 2, 1) := dk_28 (dk_at dksX2_hearsMake_0 11 rfl rfl)
theorem dX2_hearsMake_12 : decode cX2_hearsMake 12 = .ok (.iload_n 3, 1) := dk_29 (dk_at dksX2_hearsMake_0 12 rfl rfl)
theorem dX2_hearsMake_13 : decode cX2_hearsMake 13 = .ok (.invokevirtual 156, 3) := dk_182 0 156 (dk_at dksX2_hearsMake_0 13 rfl rfl)
theorem dX2_hearsMake_16 : decode cX2_hearsMake 16 = .ok (.iconst 1, 1) := dk_4 (dk_at dksX2_hearsMake_0 16 rfl rfl)
theorem dX2_hearsMake_17 : decode cX2_hearsMake 17 = .ok (.if_icmp .ne 43, 3) := dk_160 0 43 (dk_at dksX2_hearsMake_0 17 rfl rfl)
theorem dX2_hearsMake_20 : decode cX2_hearsMake 20 = .ok (.aload_n 0, 1) := dk_42 (dk_at dksX2_hearsMake_0 20 rfl rfl)
theorem dX2_hearsMake_21 : decode cX2_hearsMake 21 = .ok (.iload_n 2, 1) := dk_28 (dk_at dksX2_hearsMake_0 21 rfl rfl)
theorem dX2_hearsMake_22 : decode cX2_hearsMake 22 = .ok (.iconst 1, 1) := dk_4 (dk_at dksX2_hearsMake_0 22 rfl rfl)
theorem dX2_hearsMake_23 : decode cX2_hearsMake 23 = .ok (.iload_n 3, 1) := dk_29 (dk_at dksX2_hearsMake_0 23 rfl rfl)
theorem dX2_hearsMake_24 : decode cX2_hearsMake 24 = .ok (.invokevirtual 167, 3) := dk_182 0 167 (dk_at dksX2_hearsMake_1 0 rfl rfl)
theorem dX2_hearsMake_27 : decode cX2_hearsMake 27 = .ok (.aload_n 0, 1) := dk_42 (dk_at dksX2_hearsMake_1 3 rfl rfl)
theorem dX2_hearsMake_28 : decode cX2_hearsMake 28 = .ok (.iload_n 2, 1) := dk_28 (dk_at dksX2_hearsMake_1 4 rfl rfl)
theorem dX2_hearsMake_29 : decode cX2_hearsMake 29 = .ok (.iload_n 3, 1) := dk_29 (dk_at dksX2_hearsMake_1 5 rfl rfl)
theorem dX2_hearsMake_30 : decode cX2_hearsMake 30 = .ok (.iconst 2, 1) := dk_5 (dk_at dksX2_hearsMake_1 6 rfl rfl)
theorem dX2_hearsMake_31 : decode cX2_hearsMake 31 = .ok (.invokevirtual 171, 3) := dk_182 0 171 (dk_at dksX2_hearsMake_1 7 rfl rfl)
theorem dX2_hearsMake_34 : decode cX2_hearsMake 34 = .ok (.aload_n 0, 1) := dk_42 (dk_at dksX2_hearsMake_1 10 rfl rfl)
theorem dX2_hearsMake_35 : decode cX2_hearsMake 35 = .ok (.getfield 28, 3) := dk_180 0 28 (dk_at dksX2_hearsMake_1 11 rfl rfl)
theorem dX2_hearsMake_38 : decode cX2_hearsMake 38 = .ok (.iload_n 2, 1) := dk_28 (dk_at dksX2_hearsMake_1 14 rfl rfl)
theorem dX2_hearsMake_39 : decode cX2_hearsMake 39 = .ok (.dup2, 1) := dk_92 (dk_at dksX2_hearsMake_1 15 rfl rfl)
theorem dX2_hearsMake_40 : decode cX2_hearsMake 40 = .ok (.iaload, 1) := dk_46 (dk_at dksX2_hearsMake_1 16 rfl rfl)
theorem dX2_hearsMake_41 : decode cX2_hearsMake 41 = .ok (.aload_n 0, 1) := dk_42 (dk_at dksX2_hearsMake_1 17 rfl rfl)
theorem dX2_hearsMake_42 : decode cX2_hearsMake 42 = .ok (.getfield 12, 3) := dk_180 0 12 (dk_at dksX2_hearsMake_1 18 rfl rfl)
theorem dX2_hearsMake_45 : decode cX2_hearsMake 45 = .ok (.iload_n 3, 1) := dk_29 (dk_at dksX2_hearsMake_1 21 rfl rfl)
theorem dX2_hearsMake_46 : decode cX2_hearsMake 46 = .ok (.invokeinterface 85 2, 5) := by decide +kernel
theorem dX2_hearsMake_51 : decode cX2_hearsMake 51 = .ok (.checkcast 117, 3) := dk_192 0 117 (dk_at dksX2_hearsMake_2 5 rfl rfl)
theorem dX2_hearsMake_54 : decode cX2_hearsMake 54 = .ok (.iload_n 2, 1) := dk_28 (dk_at dksX2_hearsMake_2 8 rfl rfl)
theorem dX2_hearsMake_55 : decode cX2_hearsMake 55 = .ok (.invokevirtual 153, 3) := dk_182 0 153 (dk_at dksX2_hearsMake_2 9 rfl rfl)
theorem dX2_hearsMake_58 : decode cX2_hearsMake 58 = .ok (.iadd, 1) := dk_96 (dk_at dksX2_hearsMake_2 12 rfl rfl)
theorem dX2_hearsMake_59 : decode cX2_hearsMake 59 = .ok (.iastore, 1) := dk_79 (dk_at dksX2_hearsMake_2 13 rfl rfl)
theorem dX2_hearsMake_60 : decode cX2_hearsMake 60 = .ok (.aload_n 0, 1) := dk_42 (dk_at dksX2_hearsMake_2 14 rfl rfl)
theorem dX2_hearsMake_61 : decode cX2_hearsMake 61 = .ok (.getstatic 180, 3) := dk_178 0 180 (dk_at dksX2_hearsMake_2 15 rfl rfl)
theorem dX2_hearsMake_64 : decode cX2_hearsMake 64 = .ok (.iload_n 3, 1) := dk_29 (dk_at dksX2_hearsMake_2 18 rfl rfl)
theorem dX2_hearsMake_65 : decode cX2_hearsMake 65 = .ok (.iload_n 2, 1) := dk_28 (dk_at dksX2_hearsMake_2 19 rfl rfl)
theorem dX2_hearsMake_66 : decode cX2_hearsMake 66 = .ok (.invokevirtual 122, 3) := dk_182 0 122 (dk_at dksX2_hearsMake_2 20 rfl rfl)
theorem dX2_hearsMake_69 : decode cX2_hearsMake 69 = .ok (.return_, 1) := dk_177 (dk_at dksX2_hearsMake_2 23 rfl rfl)
abbrev cX2_hearsDrop : ByteArray := prog_16_method_20_code
def yX2_hearsDrop : MethodName := ⟨RX2, "hearsDrop", "(LVoteLogs$Message;)V"⟩
def dkwX2_hearsDrop_2 : List UInt8 := [178, 0, 180, 29, 28, 182, 0, 122, 177]
abbrev dktX2_hearsDrop_2 : List UInt8 := dkwX2_hearsDrop_2 ++ []
def dkwX2_hearsDrop_1 : List UInt8 := [182, 0, 156, 4, 160, 0, 17, 42, 28, 5, 29, 182, 0, 167, 42, 28, 29, 6, 182, 0, 171, 42]
abbrev dktX2_hearsDrop_1 : List UInt8 := dkwX2_hearsDrop_1 ++ dktX2_hearsDrop_2
def dkwX2_hearsDrop_0 : List UInt8 := [43, 180, 0, 160, 61, 43, 180, 0, 163, 62, 42, 28, 29, 182, 0, 156, 153, 0, 13, 42, 28, 29]
abbrev dktX2_hearsDrop_0 : List UInt8 := dkwX2_hearsDrop_0 ++ dktX2_hearsDrop_1
theorem dksX2_hearsDrop_0 : cX2_hearsDrop.data.toList.drop 0 = dktX2_hearsDrop_0 := by decide +kernel
theorem dksX2_hearsDrop_1 : cX2_hearsDrop.data.toList.drop 22 = dktX2_hearsDrop_1 := dk_seg dksX2_hearsDrop_0 22 rfl rfl
theorem dksX2_hearsDrop_2 : cX2_hearsDrop.data.toList.drop 44 = dktX2_hearsDrop_2 := dk_seg dksX2_hearsDrop_1 22 rfl rfl
theorem dX2_hearsDrop_0 : decode cX2_hearsDrop 0 = .ok (.aload_n 1, 1) := dk_43 (dk_at dksX2_hearsDrop_0 0 rfl rfl)
theorem dX2_hearsDrop_1 : decode cX2_hearsDrop 1 = .ok (.getfield 160, 3) := dk_180 0 160 (dk_at dksX2_hearsDrop_0 1 rfl rfl)
theorem dX2_hearsDrop_4 : decode cX2_hearsDrop 4 = .ok (.istore_n 2, 1) := dk_61 (dk_at dksX2_hearsDrop_0 4 rfl rfl)
theorem dX2_hearsDrop_5 : decode cX2_hearsDrop 5 = .ok (.aload_n 1, 1) := dk_43 (dk_at dksX2_hearsDrop_0 5 rfl rfl)
theorem dX2_hearsDrop_6 : decode cX2_hearsDrop 6 = .ok (.getfield 163, 3) := dk_180 0 163 (dk_at dksX2_hearsDrop_0 6 rfl rfl)
theorem dX2_hearsDrop_9 : decode cX2_hearsDrop 9 = .ok (.istore_n 3, 1) := dk_62 (dk_at dksX2_hearsDrop_0 9 rfl rfl)
theorem dX2_hearsDrop_10 : decode cX2_hearsDrop 10 = .ok (.aload_n 0, 1) := dk_42 (dk_at dksX2_hearsDrop_0 10 rfl rfl)
theorem dX2_hearsDrop_11 : decode cX2_hearsDrop 11 = .ok (.iload_n 2, 1) := dk_28 (dk_at dksX2_hearsDrop_0 11 rfl rfl)
theorem dX2_hearsDrop_12 : decode cX2_hearsDrop 12 = .ok (.iload_n 3, 1) := dk_29 (dk_at dksX2_hearsDrop_0 12 rfl rfl)
theorem dX2_hearsDrop_13 : decode cX2_hearsDrop 13 = .ok (.invokevirtual 156, 3) := dk_182 0 156 (dk_at dksX2_hearsDrop_0 13 rfl rfl)
theorem dX2_hearsDrop_16 : decode cX2_hearsDrop 16 = .ok (.ifCond .eq 13, 3) := dk_153 0 13 (dk_at dksX2_hearsDrop_0 16 rfl rfl)
theorem dX2_hearsDrop_19 : decode cX2_hearsDrop 19 = .ok (.aload_n 0, 1) := dk_42 (dk_at dksX2_hearsDrop_0 19 rfl rfl)
theorem dX2_hearsDrop_20 : decode cX2_hearsDrop 20 = .ok (.iload_n 2, 1) := dk_28 (dk_at dksX2_hearsDrop_0 20 rfl rfl)
theorem dX2_hearsDrop_21 : decode cX2_hearsDrop 21 = .ok (.iload_n 3, 1) := dk_29 (dk_at dksX2_hearsDrop_0 21 rfl rfl)
theorem dX2_hearsDrop_22 : decode cX2_hearsDrop 22 = .ok (.invokevirtual 156, 3) := dk_182 0 156 (dk_at dksX2_hearsDrop_1 0 rfl rfl)
theorem dX2_hearsDrop_25 : decode cX2_hearsDrop 25 = .ok (.iconst 1, 1) := dk_4 (dk_at dksX2_hearsDrop_1 3 rfl rfl)
theorem dX2_hearsDrop_26 : decode cX2_hearsDrop 26 = .ok (.if_icmp .ne 17, 3) := dk_160 0 17 (dk_at dksX2_hearsDrop_1 4 rfl rfl)
theorem dX2_hearsDrop_29 : decode cX2_hearsDrop 29 = .ok (.aload_n 0, 1) := dk_42 (dk_at dksX2_hearsDrop_1 7 rfl rfl)
theorem dX2_hearsDrop_30 : decode cX2_hearsDrop 30 = .ok (.iload_n 2, 1) := dk_28 (dk_at dksX2_hearsDrop_1 8 rfl rfl)
theorem dX2_hearsDrop_31 : decode cX2_hearsDrop 31 = .ok (.iconst 2, 1) := dk_5 (dk_at dksX2_hearsDrop_1 9 rfl rfl)
theorem dX2_hearsDrop_32 : decode cX2_hearsDrop 32 = .ok (.iload_n 3, 1) := dk_29 (dk_at dksX2_hearsDrop_1 10 rfl rfl)
theorem dX2_hearsDrop_33 : decode cX2_hearsDrop 33 = .ok (.invokevirtual 167, 3) := dk_182 0 167 (dk_at dksX2_hearsDrop_1 11 rfl rfl)
theorem dX2_hearsDrop_36 : decode cX2_hearsDrop 36 = .ok (.aload_n 0, 1) := dk_42 (dk_at dksX2_hearsDrop_1 14 rfl rfl)
theorem dX2_hearsDrop_37 : decode cX2_hearsDrop 37 = .ok (.iload_n 2, 1) := dk_28 (dk_at dksX2_hearsDrop_1 15 rfl rfl)
theorem dX2_hearsDrop_38 : decode cX2_hearsDrop 38 = .ok (.iload_n 3, 1) := dk_29 (dk_at dksX2_hearsDrop_1 16 rfl rfl)
theorem dX2_hearsDrop_39 : decode cX2_hearsDrop 39 = .ok (.iconst 3, 1) := dk_6 (dk_at dksX2_hearsDrop_1 17 rfl rfl)
theorem dX2_hearsDrop_40 : decode cX2_hearsDrop 40 = .ok (.invokevirtual 171, 3) := dk_182 0 171 (dk_at dksX2_hearsDrop_1 18 rfl rfl)
theorem dX2_hearsDrop_43 : decode cX2_hearsDrop 43 = .ok (.aload_n 0, 1) := dk_42 (dk_at dksX2_hearsDrop_1 21 rfl rfl)
theorem dX2_hearsDrop_44 : decode cX2_hearsDrop 44 = .ok (.getstatic 180, 3) := dk_178 0 180 (dk_at dksX2_hearsDrop_2 0 rfl rfl)
theorem dX2_hearsDrop_47 : decode cX2_hearsDrop 47 = .ok (.iload_n 3, 1) := dk_29 (dk_at dksX2_hearsDrop_2 3 rfl rfl)
theorem dX2_hearsDrop_48 : decode cX2_hearsDrop 48 = .ok (.iload_n 2, 1) := dk_28 (dk_at dksX2_hearsDrop_2 4 rfl rfl)
theorem dX2_hearsDrop_49 : decode cX2_hearsDrop 49 = .ok (.invokevirtual 122, 3) := dk_182 0 122 (dk_at dksX2_hearsDrop_2 5 rfl rfl)
theorem dX2_hearsDrop_52 : decode cX2_hearsDrop 52 = .ok (.return_, 1) := dk_177 (dk_at dksX2_hearsDrop_2 8 rfl rfl)
abbrev cX2_hearsDone : ByteArray := prog_16_method_25_code
def yX2_hearsDone : MethodName := ⟨RX2, "hearsDone", "(LVoteLogs$Message;)V"⟩
def dkwX2_hearsDone_2 : List UInt8 := [182, 0, 203, 154, 0, 10, 42, 7, 6, 28, 182, 0, 167, 177]
abbrev dktX2_hearsDone_2 : List UInt8 := dkwX2_hearsDone_2 ++ []
def dkwX2_hearsDone_1 : List UInt8 := [28, 46, 42, 180, 0, 12, 28, 185, 0, 85, 2, 0, 192, 0, 117, 182, 0, 119, 160, 0, 18, 42, 28]
abbrev dktX2_hearsDone_1 : List UInt8 := dkwX2_hearsDone_1 ++ dktX2_hearsDone_2
def dkwX2_hearsDone_0 : List UInt8 := [43, 180, 0, 163, 61, 42, 180, 0, 38, 28, 92, 46, 4, 43, 180, 0, 160, 120, 128, 79, 42, 180, 0, 38]
abbrev dktX2_hearsDone_0 : List UInt8 := dkwX2_hearsDone_0 ++ dktX2_hearsDone_1
theorem dksX2_hearsDone_0 : cX2_hearsDone.data.toList.drop 0 = dktX2_hearsDone_0 := by decide +kernel
theorem dksX2_hearsDone_1 : cX2_hearsDone.data.toList.drop 24 = dktX2_hearsDone_1 := dk_seg dksX2_hearsDone_0 24 rfl rfl
theorem dksX2_hearsDone_2 : cX2_hearsDone.data.toList.drop 47 = dktX2_hearsDone_2 := dk_seg dksX2_hearsDone_1 23 rfl rfl
theorem dX2_hearsDone_0 : decode cX2_hearsDone 0 = .ok (.aload_n 1, 1) := dk_43 (dk_at dksX2_hearsDone_0 0 rfl rfl)
theorem dX2_hearsDone_1 : decode cX2_hearsDone 1 = .ok (.getfield 163, 3) := dk_180 0 163 (dk_at dksX2_hearsDone_0 1 rfl rfl)
theorem dX2_hearsDone_4 : decode cX2_hearsDone 4 = .ok (.istore_n 2, 1) := dk_61 (dk_at dksX2_hearsDone_0 4 rfl rfl)
theorem dX2_hearsDone_5 : decode cX2_hearsDone 5 = .ok (.aload_n 0, 1) := dk_42 (dk_at dksX2_hearsDone_0 5 rfl rfl)
theorem dX2_hearsDone_6 : decode cX2_hearsDone 6 = .ok (.getfield 38, 3) := dk_180 0 38 (dk_at dksX2_hearsDone_0 6 rfl rfl)
theorem dX2_hearsDone_9 : decode cX2_hearsDone 9 = .ok (.iload_n 2, 1) := dk_28 (dk_at dksX2_hearsDone_0 9 rfl rfl)
theorem dX2_hearsDone_10 : decode cX2_hearsDone 10 = .ok (.dup2, 1) := dk_92 (dk_at dksX2_hearsDone_0 10 rfl rfl)
theorem dX2_hearsDone_11 : decode cX2_hearsDone 11 = .ok (.iaload, 1) := dk_46 (dk_at dksX2_hearsDone_0 11 rfl rfl)
theorem dX2_hearsDone_12 : decode cX2_hearsDone 12 = .ok (.iconst 1, 1) := dk_4 (dk_at dksX2_hearsDone_0 12 rfl rfl)
theorem dX2_hearsDone_13 : decode cX2_hearsDone 13 = .ok (.aload_n 1, 1) := dk_43 (dk_at dksX2_hearsDone_0 13 rfl rfl)
theorem dX2_hearsDone_14 : decode cX2_hearsDone 14 = .ok (.getfield 160, 3) := dk_180 0 160 (dk_at dksX2_hearsDone_0 14 rfl rfl)
theorem dX2_hearsDone_17 : decode cX2_hearsDone 17 = .ok (.ishl, 1) := dk_120 (dk_at dksX2_hearsDone_0 17 rfl rfl)
theorem dX2_hearsDone_18 : decode cX2_hearsDone 18 = .ok (.ior, 1) := dk_128 (dk_at dksX2_hearsDone_0 18 rfl rfl)
theorem dX2_hearsDone_19 : decode cX2_hearsDone 19 = .ok (.iastore, 1) := dk_79 (dk_at dksX2_hearsDone_0 19 rfl rfl)
theorem dX2_hearsDone_20 : decode cX2_hearsDone 20 = .ok (.aload_n 0, 1) := dk_42 (dk_at dksX2_hearsDone_0 20 rfl rfl)
theorem dX2_hearsDone_21 : decode cX2_hearsDone 21 = .ok (.getfield 38, 3) := dk_180 0 38 (dk_at dksX2_hearsDone_0 21 rfl rfl)
theorem dX2_hearsDone_24 : decode cX2_hearsDone 24 = .ok (.iload_n 2, 1) := dk_28 (dk_at dksX2_hearsDone_1 0 rfl rfl)
theorem dX2_hearsDone_25 : decode cX2_hearsDone 25 = .ok (.iaload, 1) := dk_46 (dk_at dksX2_hearsDone_1 1 rfl rfl)
theorem dX2_hearsDone_26 : decode cX2_hearsDone 26 = .ok (.aload_n 0, 1) := dk_42 (dk_at dksX2_hearsDone_1 2 rfl rfl)
theorem dX2_hearsDone_27 : decode cX2_hearsDone 27 = .ok (.getfield 12, 3) := dk_180 0 12 (dk_at dksX2_hearsDone_1 3 rfl rfl)
theorem dX2_hearsDone_30 : decode cX2_hearsDone 30 = .ok (.iload_n 2, 1) := dk_28 (dk_at dksX2_hearsDone_1 6 rfl rfl)
theorem dX2_hearsDone_31 : decode cX2_hearsDone 31 = .ok (.invokeinterface 85 2, 5) := by decide +kernel
theorem dX2_hearsDone_36 : decode cX2_hearsDone 36 = .ok (.checkcast 117, 3) := dk_192 0 117 (dk_at dksX2_hearsDone_1 12 rfl rfl)
theorem dX2_hearsDone_39 : decode cX2_hearsDone 39 = .ok (.invokevirtual 119, 3) := dk_182 0 119 (dk_at dksX2_hearsDone_1 15 rfl rfl)
theorem dX2_hearsDone_42 : decode cX2_hearsDone 42 = .ok (.if_icmp .ne 18, 3) := dk_160 0 18 (dk_at dksX2_hearsDone_1 18 rfl rfl)
theorem dX2_hearsDone_45 : decode cX2_hearsDone 45 = .ok (.aload_n 0, 1) := dk_42 (dk_at dksX2_hearsDone_1 21 rfl rfl)
theorem dX2_hearsDone_46 : decode cX2_hearsDone 46 = .ok (.iload_n 2, 1) := dk_28 (dk_at dksX2_hearsDone_1 22 rfl rfl)
theorem dX2_hearsDone_47 : decode cX2_hearsDone 47 = .ok (.invokevirtual 203, 3) := dk_182 0 203 (dk_at dksX2_hearsDone_2 0 rfl rfl)
theorem dX2_hearsDone_50 : decode cX2_hearsDone 50 = .ok (.ifCond .ne 10, 3) := dk_154 0 10 (dk_at dksX2_hearsDone_2 3 rfl rfl)
theorem dX2_hearsDone_53 : decode cX2_hearsDone 53 = .ok (.aload_n 0, 1) := dk_42 (dk_at dksX2_hearsDone_2 6 rfl rfl)
theorem dX2_hearsDone_54 : decode cX2_hearsDone 54 = .ok (.iconst 4, 1) := dk_7 (dk_at dksX2_hearsDone_2 7 rfl rfl)
theorem dX2_hearsDone_55 : decode cX2_hearsDone 55 = .ok (.iconst 3, 1) := dk_6 (dk_at dksX2_hearsDone_2 8 rfl rfl)
theorem dX2_hearsDone_56 : decode cX2_hearsDone 56 = .ok (.iload_n 2, 1) := dk_28 (dk_at dksX2_hearsDone_2 9 rfl rfl)
theorem dX2_hearsDone_57 : decode cX2_hearsDone 57 = .ok (.invokevirtual 167, 3) := dk_182 0 167 (dk_at dksX2_hearsDone_2 10 rfl rfl)
theorem dX2_hearsDone_60 : decode cX2_hearsDone 60 = .ok (.return_, 1) := dk_177 (dk_at dksX2_hearsDone_2 13 rfl rfl)
abbrev cX2_hasEnded : ByteArray := prog_16_method_10_code
def yX2_hasEnded : MethodName := ⟨RX2, "hasEnded", "(I)Z"⟩
def dkwX2_hasEnded_0 : List UInt8 := [42, 7, 27, 6, 182, 0, 100, 6, 160, 0, 7, 4, 167, 0, 4, 3, 172]
abbrev dktX2_hasEnded_0 : List UInt8 := dkwX2_hasEnded_0 ++ []
theorem dksX2_hasEnded_0 : cX2_hasEnded.data.toList.drop 0 = dktX2_hasEnded_0 := by decide +kernel
theorem dX2_hasEnded_0 : decode cX2_hasEnded 0 = .ok (.aload_n 0, 1) := dk_42 (dk_at dksX2_hasEnded_0 0 rfl rfl)
theorem dX2_hasEnded_1 : decode cX2_hasEnded 1 = .ok (.iconst 4, 1) := dk_7 (dk_at dksX2_hasEnded_0 1 rfl rfl)
theorem dX2_hasEnded_2 : decode cX2_hasEnded 2 = .ok (.iload_n 1, 1) := dk_27 (dk_at dksX2_hasEnded_0 2 rfl rfl)
theorem dX2_hasEnded_3 : decode cX2_hasEnded 3 = .ok (.iconst 3, 1) := dk_6 (dk_at dksX2_hasEnded_0 3 rfl rfl)
theorem dX2_hasEnded_4 : decode cX2_hasEnded 4 = .ok (.invokevirtual 100, 3) := dk_182 0 100 (dk_at dksX2_hasEnded_0 4 rfl rfl)
theorem dX2_hasEnded_7 : decode cX2_hasEnded 7 = .ok (.iconst 3, 1) := dk_6 (dk_at dksX2_hasEnded_0 7 rfl rfl)
theorem dX2_hasEnded_8 : decode cX2_hasEnded 8 = .ok (.if_icmp .ne 7, 3) := dk_160 0 7 (dk_at dksX2_hasEnded_0 8 rfl rfl)
theorem dX2_hasEnded_11 : decode cX2_hasEnded 11 = .ok (.iconst 1, 1) := dk_4 (dk_at dksX2_hasEnded_0 11 rfl rfl)
theorem dX2_hasEnded_12 : decode cX2_hasEnded 12 = .ok (.goto 4, 3) := dk_167 0 4 (dk_at dksX2_hasEnded_0 12 rfl rfl)
theorem dX2_hasEnded_15 : decode cX2_hasEnded 15 = .ok (.iconst 0, 1) := dk_3 (dk_at dksX2_hasEnded_0 15 rfl rfl)
theorem dX2_hasEnded_16 : decode cX2_hasEnded 16 = .ok (.ireturn, 1) := dk_172 (dk_at dksX2_hasEnded_0 16 rfl rfl)
abbrev cX2_hearsWhatNow : ByteArray := prog_16_method_26_code
def yX2_hearsWhatNow : MethodName := ⟨RX2, "hearsWhatNow", "(LVoteLogs$Message;)V"⟩
def dkwX2_hearsWhatNow_1 : List UInt8 := [180, 0, 163, 43, 180, 0, 160, 182, 0, 122, 177]
abbrev dktX2_hearsWhatNow_1 : List UInt8 := dkwX2_hearsWhatNow_1 ++ []
def dkwX2_hearsWhatNow_0 : List UInt8 := [42, 43, 180, 0, 163, 182, 0, 197, 154, 0, 26, 42, 42, 43, 180, 0, 163, 182, 0, 104, 184, 0, 189, 43]
abbrev dktX2_hearsWhatNow_0 : List UInt8 := dkwX2_hearsWhatNow_0 ++ dktX2_hearsWhatNow_1
theorem dksX2_hearsWhatNow_0 : cX2_hearsWhatNow.data.toList.drop 0 = dktX2_hearsWhatNow_0 := by decide +kernel
theorem dksX2_hearsWhatNow_1 : cX2_hearsWhatNow.data.toList.drop 24 = dktX2_hearsWhatNow_1 := dk_seg dksX2_hearsWhatNow_0 24 rfl rfl
theorem dX2_hearsWhatNow_0 : decode cX2_hearsWhatNow 0 = .ok (.aload_n 0, 1) := dk_42 (dk_at dksX2_hearsWhatNow_0 0 rfl rfl)
theorem dX2_hearsWhatNow_1 : decode cX2_hearsWhatNow 1 = .ok (.aload_n 1, 1) := dk_43 (dk_at dksX2_hearsWhatNow_0 1 rfl rfl)
theorem dX2_hearsWhatNow_2 : decode cX2_hearsWhatNow 2 = .ok (.getfield 163, 3) := dk_180 0 163 (dk_at dksX2_hearsWhatNow_0 2 rfl rfl)
theorem dX2_hearsWhatNow_5 : decode cX2_hearsWhatNow 5 = .ok (.invokevirtual 197, 3) := dk_182 0 197 (dk_at dksX2_hearsWhatNow_0 5 rfl rfl)
theorem dX2_hearsWhatNow_8 : decode cX2_hearsWhatNow 8 = .ok (.ifCond .ne 26, 3) := dk_154 0 26 (dk_at dksX2_hearsWhatNow_0 8 rfl rfl)
theorem dX2_hearsWhatNow_11 : decode cX2_hearsWhatNow 11 = .ok (.aload_n 0, 1) := dk_42 (dk_at dksX2_hearsWhatNow_0 11 rfl rfl)
theorem dX2_hearsWhatNow_12 : decode cX2_hearsWhatNow 12 = .ok (.aload_n 0, 1) := dk_42 (dk_at dksX2_hearsWhatNow_0 12 rfl rfl)
theorem dX2_hearsWhatNow_13 : decode cX2_hearsWhatNow 13 = .ok (.aload_n 1, 1) := dk_43 (dk_at dksX2_hearsWhatNow_0 13 rfl rfl)
theorem dX2_hearsWhatNow_14 : decode cX2_hearsWhatNow 14 = .ok (.getfield 163, 3) := dk_180 0 163 (dk_at dksX2_hearsWhatNow_0 14 rfl rfl)
theorem dX2_hearsWhatNow_17 : decode cX2_hearsWhatNow 17 = .ok (.invokevirtual 104, 3) := dk_182 0 104 (dk_at dksX2_hearsWhatNow_0 17 rfl rfl)
theorem dX2_hearsWhatNow_20 : decode cX2_hearsWhatNow 20 = .ok (.invokestatic 189, 3) := dk_184 0 189 (dk_at dksX2_hearsWhatNow_0 20 rfl rfl)
theorem dX2_hearsWhatNow_23 : decode cX2_hearsWhatNow 23 = .ok (.aload_n 1, 1) := dk_43 (dk_at dksX2_hearsWhatNow_0 23 rfl rfl)
theorem dX2_hearsWhatNow_24 : decode cX2_hearsWhatNow 24 = .ok (.getfield 163, 3) := dk_180 0 163 (dk_at dksX2_hearsWhatNow_1 0 rfl rfl)
theorem dX2_hearsWhatNow_27 : decode cX2_hearsWhatNow 27 = .ok (.aload_n 1, 1) := dk_43 (dk_at dksX2_hearsWhatNow_1 3 rfl rfl)
theorem dX2_hearsWhatNow_28 : decode cX2_hearsWhatNow 28 = .ok (.getfield 160, 3) := dk_180 0 160 (dk_at dksX2_hearsWhatNow_1 4 rfl rfl)
theorem dX2_hearsWhatNow_31 : decode cX2_hearsWhatNow 31 = .ok (.invokevirtual 122, 3) := dk_182 0 122 (dk_at dksX2_hearsWhatNow_1 7 rfl rfl)
theorem dX2_hearsWhatNow_34 : decode cX2_hearsWhatNow 34 = .ok (.return_, 1) := dk_177 (dk_at dksX2_hearsWhatNow_1 10 rfl rfl)
abbrev cX2_total : ByteArray := prog_16_method_40_code
def yX2_total : MethodName := ⟨RX2, "total", "()I"⟩
def dkwX2_total_1 : List UInt8 := [6, 46, 96, 172]
abbrev dktX2_total_1 : List UInt8 := dkwX2_total_1 ++ []
def dkwX2_total_0 : List UInt8 := [42, 180, 0, 28, 3, 46, 42, 180, 0, 28, 4, 46, 96, 42, 180, 0, 28, 5, 46, 96, 42, 180, 0, 28]
abbrev dktX2_total_0 : List UInt8 := dkwX2_total_0 ++ dktX2_total_1
theorem dksX2_total_0 : cX2_total.data.toList.drop 0 = dktX2_total_0 := by decide +kernel
theorem dksX2_total_1 : cX2_total.data.toList.drop 24 = dktX2_total_1 := dk_seg dksX2_total_0 24 rfl rfl
theorem dX2_total_0 : decode cX2_total 0 = .ok (.aload_n 0, 1) := dk_42 (dk_at dksX2_total_0 0 rfl rfl)
theorem dX2_total_1 : decode cX2_total 1 = .ok (.getfield 28, 3) := dk_180 0 28 (dk_at dksX2_total_0 1 rfl rfl)
theorem dX2_total_4 : decode cX2_total 4 = .ok (.iconst 0, 1) := dk_3 (dk_at dksX2_total_0 4 rfl rfl)
theorem dX2_total_5 : decode cX2_total 5 = .ok (.iaload, 1) := dk_46 (dk_at dksX2_total_0 5 rfl rfl)
theorem dX2_total_6 : decode cX2_total 6 = .ok (.aload_n 0, 1) := dk_42 (dk_at dksX2_total_0 6 rfl rfl)
theorem dX2_total_7 : decode cX2_total 7 = .ok (.getfield 28, 3) := dk_180 0 28 (dk_at dksX2_total_0 7 rfl rfl)
theorem dX2_total_10 : decode cX2_total 10 = .ok (.iconst 1, 1) := dk_4 (dk_at dksX2_total_0 10 rfl rfl)
theorem dX2_total_11 : decode cX2_total 11 = .ok (.iaload, 1) := dk_46 (dk_at dksX2_total_0 11 rfl rfl)
theorem dX2_total_12 : decode cX2_total 12 = .ok (.iadd, 1) := dk_96 (dk_at dksX2_total_0 12 rfl rfl)
theorem dX2_total_13 : decode cX2_total 13 = .ok (.aload_n 0, 1) := dk_42 (dk_at dksX2_total_0 13 rfl rfl)
theorem dX2_total_14 : decode cX2_total 14 = .ok (.getfield 28, 3) := dk_180 0 28 (dk_at dksX2_total_0 14 rfl rfl)
theorem dX2_total_17 : decode cX2_total 17 = .ok (.iconst 2, 1) := dk_5 (dk_at dksX2_total_0 17 rfl rfl)
theorem dX2_total_18 : decode cX2_total 18 = .ok (.iaload, 1) := dk_46 (dk_at dksX2_total_0 18 rfl rfl)
theorem dX2_total_19 : decode cX2_total 19 = .ok (.iadd, 1) := dk_96 (dk_at dksX2_total_0 19 rfl rfl)
theorem dX2_total_20 : decode cX2_total 20 = .ok (.aload_n 0, 1) := dk_42 (dk_at dksX2_total_0 20 rfl rfl)
theorem dX2_total_21 : decode cX2_total 21 = .ok (.getfield 28, 3) := dk_180 0 28 (dk_at dksX2_total_0 21 rfl rfl)
theorem dX2_total_24 : decode cX2_total 24 = .ok (.iconst 3, 1) := dk_6 (dk_at dksX2_total_1 0 rfl rfl)
theorem dX2_total_25 : decode cX2_total 25 = .ok (.iaload, 1) := dk_46 (dk_at dksX2_total_1 1 rfl rfl)
theorem dX2_total_26 : decode cX2_total 26 = .ok (.iadd, 1) := dk_96 (dk_at dksX2_total_1 2 rfl rfl)
theorem dX2_total_27 : decode cX2_total 27 = .ok (.ireturn, 1) := dk_172 (dk_at dksX2_total_1 3 rfl rfl)
abbrev cX2_onTheWay : ByteArray := prog_16_method_41_code
def yX2_onTheWay : MethodName := ⟨RX2, "onTheWay", "()I"⟩
def dkwX2_onTheWay_3 : List UInt8 := [192, 0, 117, 28, 7, 112, 182, 0, 153, 167, 0, 4, 3, 96, 60, 132, 2, 1, 167, 255, 175, 27, 172]
abbrev dktX2_onTheWay_3 : List UInt8 := dkwX2_onTheWay_3 ++ []
def dkwX2_onTheWay_2 : List UInt8 := [167, 0, 4, 3, 62, 27, 29, 153, 0, 27, 42, 180, 0, 12, 28, 7, 108, 185, 0, 85, 2, 0]
abbrev dktX2_onTheWay_2 : List UInt8 := dkwX2_onTheWay_2 ++ dktX2_onTheWay_3
def dkwX2_onTheWay_1 : List UInt8 := [182, 0, 104, 4, 160, 0, 21, 42, 28, 7, 112, 28, 7, 108, 182, 0, 156, 5, 159, 0, 7, 4]
abbrev dktX2_onTheWay_1 : List UInt8 := dkwX2_onTheWay_1 ++ dktX2_onTheWay_2
def dkwX2_onTheWay_0 : List UInt8 := [3, 60, 3, 61, 28, 42, 180, 0, 12, 185, 0, 108, 1, 0, 7, 104, 162, 0, 72, 42, 28, 7, 108]
abbrev dktX2_onTheWay_0 : List UInt8 := dkwX2_onTheWay_0 ++ dktX2_onTheWay_1
theorem dksX2_onTheWay_0 : cX2_onTheWay.data.toList.drop 0 = dktX2_onTheWay_0 := by decide +kernel
theorem dksX2_onTheWay_1 : cX2_onTheWay.data.toList.drop 23 = dktX2_onTheWay_1 := dk_seg dksX2_onTheWay_0 23 rfl rfl
theorem dksX2_onTheWay_2 : cX2_onTheWay.data.toList.drop 45 = dktX2_onTheWay_2 := dk_seg dksX2_onTheWay_1 22 rfl rfl
theorem dksX2_onTheWay_3 : cX2_onTheWay.data.toList.drop 67 = dktX2_onTheWay_3 := dk_seg dksX2_onTheWay_2 22 rfl rfl
theorem dX2_onTheWay_0 : decode cX2_onTheWay 0 = .ok (.iconst 0, 1) := dk_3 (dk_at dksX2_onTheWay_0 0 rfl rfl)
theorem dX2_onTheWay_1 : decode cX2_onTheWay 1 = .ok (.istore_n 1, 1) := dk_60 (dk_at dksX2_onTheWay_0 1 rfl rfl)
theorem dX2_onTheWay_2 : decode cX2_onTheWay 2 = .ok (.iconst 0, 1) := dk_3 (dk_at dksX2_onTheWay_0 2 rfl rfl)
theorem dX2_onTheWay_3 : decode cX2_onTheWay 3 = .ok (.istore_n 2, 1) := dk_61 (dk_at dksX2_onTheWay_0 3 rfl rfl)
theorem dX2_onTheWay_4 : decode cX2_onTheWay 4 = .ok (.iload_n 2, 1) := dk_28 (dk_at dksX2_onTheWay_0 4 rfl rfl)
theorem dX2_onTheWay_5 : decode cX2_onTheWay 5 = .ok (.aload_n 0, 1) := dk_42 (dk_at dksX2_onTheWay_0 5 rfl rfl)
theorem dX2_onTheWay_6 : decode cX2_onTheWay 6 = .ok (.getfield 12, 3) := dk_180 0 12 (dk_at dksX2_onTheWay_0 6 rfl rfl)
theorem dX2_onTheWay_9 : decode cX2_onTheWay 9 = .ok (.invokeinterface 108 1, 5) := by decide +kernel
theorem dX2_onTheWay_14 : decode cX2_onTheWay 14 = .ok (.iconst 4, 1) := dk_7 (dk_at dksX2_onTheWay_0 14 rfl rfl)
theorem dX2_onTheWay_15 : decode cX2_onTheWay 15 = .ok (.imul, 1) := dk_104 (dk_at dksX2_onTheWay_0 15 rfl rfl)
theorem dX2_onTheWay_16 : decode cX2_onTheWay 16 = .ok (.if_icmp .ge 72, 3) := dk_162 0 72 (dk_at dksX2_onTheWay_0 16 rfl rfl)
theorem dX2_onTheWay_19 : decode cX2_onTheWay 19 = .ok (.aload_n 0, 1) := dk_42 (dk_at dksX2_onTheWay_0 19 rfl rfl)
theorem dX2_onTheWay_20 : decode cX2_onTheWay 20 = .ok (.iload_n 2, 1) := dk_28 (dk_at dksX2_onTheWay_0 20 rfl rfl)
theorem dX2_onTheWay_21 : decode cX2_onTheWay 21 = .ok (.iconst 4, 1) := dk_7 (dk_at dksX2_onTheWay_0 21 rfl rfl)
theorem dX2_onTheWay_22 : decode cX2_onTheWay 22 = .ok (.idiv, 1) := dk_108 (dk_at dksX2_onTheWay_0 22 rfl rfl)
theorem dX2_onTheWay_23 : decode cX2_onTheWay 23 = .ok (.invokevirtual 104, 3) := dk_182 0 104 (dk_at dksX2_onTheWay_1 0 rfl rfl)
theorem dX2_onTheWay_26 : decode cX2_onTheWay 26 = .ok (.iconst 1, 1) := dk_4 (dk_at dksX2_onTheWay_1 3 rfl rfl)
theorem dX2_onTheWay_27 : decode cX2_onTheWay 27 = .ok (.if_icmp .ne 21, 3) := dk_160 0 21 (dk_at dksX2_onTheWay_1 4 rfl rfl)
theorem dX2_onTheWay_30 : decode cX2_onTheWay 30 = .ok (.aload_n 0, 1) := dk_42 (dk_at dksX2_onTheWay_1 7 rfl rfl)
theorem dX2_onTheWay_31 : decode cX2_onTheWay 31 = .ok (.iload_n 2, 1) := dk_28 (dk_at dksX2_onTheWay_1 8 rfl rfl)
theorem dX2_onTheWay_32 : decode cX2_onTheWay 32 = .ok (.iconst 4, 1) := dk_7 (dk_at dksX2_onTheWay_1 9 rfl rfl)
theorem dX2_onTheWay_33 : decode cX2_onTheWay 33 = .ok (.irem, 1) := dk_112 (dk_at dksX2_onTheWay_1 10 rfl rfl)
theorem dX2_onTheWay_34 : decode cX2_onTheWay 34 = .ok (.iload_n 2, 1) := dk_28 (dk_at dksX2_onTheWay_1 11 rfl rfl)
theorem dX2_onTheWay_35 : decode cX2_onTheWay 35 = .ok (.iconst 4, 1) := dk_7 (dk_at dksX2_onTheWay_1 12 rfl rfl)
theorem dX2_onTheWay_36 : decode cX2_onTheWay 36 = .ok (.idiv, 1) := dk_108 (dk_at dksX2_onTheWay_1 13 rfl rfl)
theorem dX2_onTheWay_37 : decode cX2_onTheWay 37 = .ok (.invokevirtual 156, 3) := dk_182 0 156 (dk_at dksX2_onTheWay_1 14 rfl rfl)
theorem dX2_onTheWay_40 : decode cX2_onTheWay 40 = .ok (.iconst 2, 1) := dk_5 (dk_at dksX2_onTheWay_1 17 rfl rfl)
theorem dX2_onTheWay_41 : decode cX2_onTheWay 41 = .ok (.if_icmp .eq 7, 3) := dk_159 0 7 (dk_at dksX2_onTheWay_1 18 rfl rfl)
theorem dX2_onTheWay_44 : decode cX2_onTheWay 44 = .ok (.iconst 1, 1) := dk_4 (dk_at dksX2_onTheWay_1 21 rfl rfl)
theorem dX2_onTheWay_45 : decode cX2_onTheWay 45 = .ok (.goto 4, 3) := dk_167 0 4 (dk_at dksX2_onTheWay_2 0 rfl rfl)
theorem dX2_onTheWay_48 : decode cX2_onTheWay 48 = .ok (.iconst 0, 1) := dk_3 (dk_at dksX2_onTheWay_2 3 rfl rfl)
theorem dX2_onTheWay_49 : decode cX2_onTheWay 49 = .ok (.istore_n 3, 1) := dk_62 (dk_at dksX2_onTheWay_2 4 rfl rfl)
theorem dX2_onTheWay_50 : decode cX2_onTheWay 50 = .ok (.iload_n 1, 1) := dk_27 (dk_at dksX2_onTheWay_2 5 rfl rfl)
theorem dX2_onTheWay_51 : decode cX2_onTheWay 51 = .ok (.iload_n 3, 1) := dk_29 (dk_at dksX2_onTheWay_2 6 rfl rfl)
theorem dX2_onTheWay_52 : decode cX2_onTheWay 52 = .ok (.ifCond .eq 27, 3) := dk_153 0 27 (dk_at dksX2_onTheWay_2 7 rfl rfl)
theorem dX2_onTheWay_55 : decode cX2_onTheWay 55 = .ok (.aload_n 0, 1) := dk_42 (dk_at dksX2_onTheWay_2 10 rfl rfl)
theorem dX2_onTheWay_56 : decode cX2_onTheWay 56 = .ok (.getfield 12, 3) := dk_180 0 12 (dk_at dksX2_onTheWay_2 11 rfl rfl)
theorem dX2_onTheWay_59 : decode cX2_onTheWay 59 = .ok (.iload_n 2, 1) := dk_28 (dk_at dksX2_onTheWay_2 14 rfl rfl)
theorem dX2_onTheWay_60 : decode cX2_onTheWay 60 = .ok (.iconst 4, 1) := dk_7 (dk_at dksX2_onTheWay_2 15 rfl rfl)
theorem dX2_onTheWay_61 : decode cX2_onTheWay 61 = .ok (.idiv, 1) := dk_108 (dk_at dksX2_onTheWay_2 16 rfl rfl)
theorem dX2_onTheWay_62 : decode cX2_onTheWay 62 = .ok (.invokeinterface 85 2, 5) := by decide +kernel
theorem dX2_onTheWay_67 : decode cX2_onTheWay 67 = .ok (.checkcast 117, 3) := dk_192 0 117 (dk_at dksX2_onTheWay_3 0 rfl rfl)
theorem dX2_onTheWay_70 : decode cX2_onTheWay 70 = .ok (.iload_n 2, 1) := dk_28 (dk_at dksX2_onTheWay_3 3 rfl rfl)
theorem dX2_onTheWay_71 : decode cX2_onTheWay 71 = .ok (.iconst 4, 1) := dk_7 (dk_at dksX2_onTheWay_3 4 rfl rfl)
theorem dX2_onTheWay_72 : decode cX2_onTheWay 72 = .ok (.irem, 1) := dk_112 (dk_at dksX2_onTheWay_3 5 rfl rfl)
theorem dX2_onTheWay_73 : decode cX2_onTheWay 73 = .ok (.invokevirtual 153, 3) := dk_182 0 153 (dk_at dksX2_onTheWay_3 6 rfl rfl)
theorem dX2_onTheWay_76 : decode cX2_onTheWay 76 = .ok (.goto 4, 3) := dk_167 0 4 (dk_at dksX2_onTheWay_3 9 rfl rfl)
theorem dX2_onTheWay_79 : decode cX2_onTheWay 79 = .ok (.iconst 0, 1) := dk_3 (dk_at dksX2_onTheWay_3 12 rfl rfl)
theorem dX2_onTheWay_80 : decode cX2_onTheWay 80 = .ok (.iadd, 1) := dk_96 (dk_at dksX2_onTheWay_3 13 rfl rfl)
theorem dX2_onTheWay_81 : decode cX2_onTheWay 81 = .ok (.istore_n 1, 1) := dk_60 (dk_at dksX2_onTheWay_3 14 rfl rfl)
theorem dX2_onTheWay_82 : decode cX2_onTheWay 82 = .ok (.iinc 2 1, 3) := dk_132 2 1 (dk_at dksX2_onTheWay_3 15 rfl rfl)
theorem dX2_onTheWay_85 : decode cX2_onTheWay 85 = .ok (.goto (-81), 3) := dk_167 255 175 (dk_at dksX2_onTheWay_3 18 rfl rfl)
theorem dX2_onTheWay_88 : decode cX2_onTheWay 88 = .ok (.iload_n 1, 1) := dk_27 (dk_at dksX2_onTheWay_3 21 rfl rfl)
theorem dX2_onTheWay_89 : decode cX2_onTheWay 89 = .ok (.ireturn, 1) := dk_172 (dk_at dksX2_onTheWay_3 22 rfl rfl)
abbrev cX2_settles : ByteArray := prog_16_method_36_code
def yX2_settles : MethodName := ⟨RX2, "settles", "()I"⟩
def dkwX2_settles_1 : List UInt8 := [182, 0, 221, 87, 132, 1, 1, 167, 255, 228, 42, 18, 224, 182, 0, 225, 172]
abbrev dktX2_settles_1 : List UInt8 := dkwX2_settles_1 ++ []
def dkwX2_settles_0 : List UInt8 := [3, 60, 27, 8, 162, 0, 29, 7, 27, 96, 8, 112, 61, 42, 28, 182, 0, 131, 154, 0, 9, 42, 28]
abbrev dktX2_settles_0 : List UInt8 := dkwX2_settles_0 ++ dktX2_settles_1
theorem dksX2_settles_0 : cX2_settles.data.toList.drop 0 = dktX2_settles_0 := by decide +kernel
theorem dksX2_settles_1 : cX2_settles.data.toList.drop 23 = dktX2_settles_1 := dk_seg dksX2_settles_0 23 rfl rfl
theorem dX2_settles_0 : decode cX2_settles 0 = .ok (.iconst 0, 1) := dk_3 (dk_at dksX2_settles_0 0 rfl rfl)
theorem dX2_settles_1 : decode cX2_settles 1 = .ok (.istore_n 1, 1) := dk_60 (dk_at dksX2_settles_0 1 rfl rfl)
theorem dX2_settles_2 : decode cX2_settles 2 = .ok (.iload_n 1, 1) := dk_27 (dk_at dksX2_settles_0 2 rfl rfl)
theorem dX2_settles_3 : decode cX2_settles 3 = .ok (.iconst 5, 1) := dk_8 (dk_at dksX2_settles_0 3 rfl rfl)
theorem dX2_settles_4 : decode cX2_settles 4 = .ok (.if_icmp .ge 29, 3) := dk_162 0 29 (dk_at dksX2_settles_0 4 rfl rfl)
theorem dX2_settles_7 : decode cX2_settles 7 = .ok (.iconst 4, 1) := dk_7 (dk_at dksX2_settles_0 7 rfl rfl)
theorem dX2_settles_8 : decode cX2_settles 8 = .ok (.iload_n 1, 1) := dk_27 (dk_at dksX2_settles_0 8 rfl rfl)
theorem dX2_settles_9 : decode cX2_settles 9 = .ok (.iadd, 1) := dk_96 (dk_at dksX2_settles_0 9 rfl rfl)
theorem dX2_settles_10 : decode cX2_settles 10 = .ok (.iconst 5, 1) := dk_8 (dk_at dksX2_settles_0 10 rfl rfl)
theorem dX2_settles_11 : decode cX2_settles 11 = .ok (.irem, 1) := dk_112 (dk_at dksX2_settles_0 11 rfl rfl)
theorem dX2_settles_12 : decode cX2_settles 12 = .ok (.istore_n 2, 1) := dk_61 (dk_at dksX2_settles_0 12 rfl rfl)
theorem dX2_settles_13 : decode cX2_settles 13 = .ok (.aload_n 0, 1) := dk_42 (dk_at dksX2_settles_0 13 rfl rfl)
theorem dX2_settles_14 : decode cX2_settles 14 = .ok (.iload_n 2, 1) := dk_28 (dk_at dksX2_settles_0 14 rfl rfl)
theorem dX2_settles_15 : decode cX2_settles 15 = .ok (.invokevirtual 131, 3) := dk_182 0 131 (dk_at dksX2_settles_0 15 rfl rfl)
theorem dX2_settles_18 : decode cX2_settles 18 = .ok (.ifCond .ne 9, 3) := dk_154 0 9 (dk_at dksX2_settles_0 18 rfl rfl)
theorem dX2_settles_21 : decode cX2_settles 21 = .ok (.aload_n 0, 1) := dk_42 (dk_at dksX2_settles_0 21 rfl rfl)
theorem dX2_settles_22 : decode cX2_settles 22 = .ok (.iload_n 2, 1) := dk_28 (dk_at dksX2_settles_0 22 rfl rfl)
theorem dX2_settles_23 : decode cX2_settles 23 = .ok (.invokevirtual 221, 3) := dk_182 0 221 (dk_at dksX2_settles_1 0 rfl rfl)
theorem dX2_settles_26 : decode cX2_settles 26 = .ok (.pop, 1) := dk_87 (dk_at dksX2_settles_1 3 rfl rfl)
theorem dX2_settles_27 : decode cX2_settles 27 = .ok (.iinc 1 1, 3) := dk_132 1 1 (dk_at dksX2_settles_1 4 rfl rfl)
theorem dX2_settles_30 : decode cX2_settles 30 = .ok (.goto (-28), 3) := dk_167 255 228 (dk_at dksX2_settles_1 7 rfl rfl)
theorem dX2_settles_33 : decode cX2_settles 33 = .ok (.aload_n 0, 1) := dk_42 (dk_at dksX2_settles_1 10 rfl rfl)
theorem dX2_settles_34 : decode cX2_settles 34 = .ok (.ldc 224, 2) := dk_18 224 (dk_at dksX2_settles_1 11 rfl rfl)
theorem dX2_settles_36 : decode cX2_settles 36 = .ok (.invokevirtual 225, 3) := dk_182 0 225 (dk_at dksX2_settles_1 13 rfl rfl)
theorem dX2_settles_39 : decode cX2_settles 39 = .ok (.ireturn, 1) := dk_172 (dk_at dksX2_settles_1 16 rfl rfl)
abbrev cX2_recovers : ByteArray := prog_16_method_34_code
def yX2_recovers : MethodName := ⟨RX2, "recovers", "(I)I"⟩
def dkwX2_recovers_3 : List UInt8 := [185, 0, 108, 1, 0, 172]
abbrev dktX2_recovers_3 : List UInt8 := dkwX2_recovers_3 ++ []
def dkwX2_recovers_2 : List UInt8 := [160, 0, 12, 42, 178, 0, 209, 28, 27, 182, 0, 122, 132, 2, 1, 167, 255, 208, 42, 180, 0, 21]
abbrev dktX2_recovers_2 : List UInt8 := dkwX2_recovers_2 ++ dktX2_recovers_3
def dkwX2_recovers_1 : List UInt8 := [162, 0, 41, 27, 7, 160, 0, 11, 42, 28, 182, 0, 217, 167, 0, 22, 42, 27, 28, 182, 0, 156, 4]
abbrev dktX2_recovers_1 : List UInt8 := dkwX2_recovers_1 ++ dktX2_recovers_2
def dkwX2_recovers_0 : List UInt8 := [42, 89, 180, 0, 24, 4, 27, 120, 128, 181, 0, 24, 3, 61, 28, 42, 180, 0, 12, 185, 0, 108, 1, 0]
abbrev dktX2_recovers_0 : List UInt8 := dkwX2_recovers_0 ++ dktX2_recovers_1
theorem dksX2_recovers_0 : cX2_recovers.data.toList.drop 0 = dktX2_recovers_0 := by decide +kernel
theorem dksX2_recovers_1 : cX2_recovers.data.toList.drop 24 = dktX2_recovers_1 := dk_seg dksX2_recovers_0 24 rfl rfl
theorem dksX2_recovers_2 : cX2_recovers.data.toList.drop 47 = dktX2_recovers_2 := dk_seg dksX2_recovers_1 23 rfl rfl
theorem dksX2_recovers_3 : cX2_recovers.data.toList.drop 69 = dktX2_recovers_3 := dk_seg dksX2_recovers_2 22 rfl rfl
theorem dX2_recovers_0 : decode cX2_recovers 0 = .ok (.aload_n 0, 1) := dk_42 (dk_at dksX2_recovers_0 0 rfl rfl)
theorem dX2_recovers_1 : decode cX2_recovers 1 = .ok (.dup, 1) := dk_89 (dk_at dksX2_recovers_0 1 rfl rfl)
theorem dX2_recovers_2 : decode cX2_recovers 2 = .ok (.getfield 24, 3) := dk_180 0 24 (dk_at dksX2_recovers_0 2 rfl rfl)
theorem dX2_recovers_5 : decode cX2_recovers 5 = .ok (.iconst 1, 1) := dk_4 (dk_at dksX2_recovers_0 5 rfl rfl)
theorem dX2_recovers_6 : decode cX2_recovers 6 = .ok (.iload_n 1, 1) := dk_27 (dk_at dksX2_recovers_0 6 rfl rfl)
theorem dX2_recovers_7 : decode cX2_recovers 7 = .ok (.ishl, 1) := dk_120 (dk_at dksX2_recovers_0 7 rfl rfl)
theorem dX2_recovers_8 : decode cX2_recovers 8 = .ok (.ior, 1) := dk_128 (dk_at dksX2_recovers_0 8 rfl rfl)
theorem dX2_recovers_9 : decode cX2_recovers 9 = .ok (.putfield 24, 3) := dk_181 0 24 (dk_at dksX2_recovers_0 9 rfl rfl)
theorem dX2_recovers_12 : decode cX2_recovers 12 = .ok (.iconst 0, 1) := dk_3 (dk_at dksX2_recovers_0 12 rfl rfl)
theorem dX2_recovers_13 : decode cX2_recovers 13 = .ok (.istore_n 2, 1) := dk_61 (dk_at dksX2_recovers_0 13 rfl rfl)
theorem dX2_recovers_14 : decode cX2_recovers 14 = .ok (.iload_n 2, 1) := dk_28 (dk_at dksX2_recovers_0 14 rfl rfl)
theorem dX2_recovers_15 : decode cX2_recovers 15 = .ok (.aload_n 0, 1) := dk_42 (dk_at dksX2_recovers_0 15 rfl rfl)
theorem dX2_recovers_16 : decode cX2_recovers 16 = .ok (.getfield 12, 3) := dk_180 0 12 (dk_at dksX2_recovers_0 16 rfl rfl)
theorem dX2_recovers_19 : decode cX2_recovers 19 = .ok (.invokeinterface 108 1, 5) := by decide +kernel
theorem dX2_recovers_24 : decode cX2_recovers 24 = .ok (.if_icmp .ge 41, 3) := dk_162 0 41 (dk_at dksX2_recovers_1 0 rfl rfl)
theorem dX2_recovers_27 : decode cX2_recovers 27 = .ok (.iload_n 1, 1) := dk_27 (dk_at dksX2_recovers_1 3 rfl rfl)
theorem dX2_recovers_28 : decode cX2_recovers 28 = .ok (.iconst 4, 1) := dk_7 (dk_at dksX2_recovers_1 4 rfl rfl)
theorem dX2_recovers_29 : decode cX2_recovers 29 = .ok (.if_icmp .ne 11, 3) := dk_160 0 11 (dk_at dksX2_recovers_1 5 rfl rfl)
theorem dX2_recovers_32 : decode cX2_recovers 32 = .ok (.aload_n 0, 1) := dk_42 (dk_at dksX2_recovers_1 8 rfl rfl)
theorem dX2_recovers_33 : decode cX2_recovers 33 = .ok (.iload_n 2, 1) := dk_28 (dk_at dksX2_recovers_1 9 rfl rfl)
theorem dX2_recovers_34 : decode cX2_recovers 34 = .ok (.invokevirtual 217, 3) := dk_182 0 217 (dk_at dksX2_recovers_1 10 rfl rfl)
theorem dX2_recovers_37 : decode cX2_recovers 37 = .ok (.goto 22, 3) := dk_167 0 22 (dk_at dksX2_recovers_1 13 rfl rfl)
theorem dX2_recovers_40 : decode cX2_recovers 40 = .ok (.aload_n 0, 1) := dk_42 (dk_at dksX2_recovers_1 16 rfl rfl)
theorem dX2_recovers_41 : decode cX2_recovers 41 = .ok (.iload_n 1, 1) := dk_27 (dk_at dksX2_recovers_1 17 rfl rfl)
theorem dX2_recovers_42 : decode cX2_recovers 42 = .ok (.iload_n 2, 1) := dk_28 (dk_at dksX2_recovers_1 18 rfl rfl)
theorem dX2_recovers_43 : decode cX2_recovers 43 = .ok (.invokevirtual 156, 3) := dk_182 0 156 (dk_at dksX2_recovers_1 19 rfl rfl)
theorem dX2_recovers_46 : decode cX2_recovers 46 = .ok (.iconst 1, 1) := dk_4 (dk_at dksX2_recovers_1 22 rfl rfl)
theorem dX2_recovers_47 : decode cX2_recovers 47 = .ok (.if_icmp .ne 12, 3) := dk_160 0 12 (dk_at dksX2_recovers_2 0 rfl rfl)
theorem dX2_recovers_50 : decode cX2_recovers 50 = .ok (.aload_n 0, 1) := dk_42 (dk_at dksX2_recovers_2 3 rfl rfl)
theorem dX2_recovers_51 : decode cX2_recovers 51 = .ok (.getstatic 209, 3) := dk_178 0 209 (dk_at dksX2_recovers_2 4 rfl rfl)
theorem dX2_recovers_54 : decode cX2_recovers 54 = .ok (.iload_n 2, 1) := dk_28 (dk_at dksX2_recovers_2 7 rfl rfl)
theorem dX2_recovers_55 : decode cX2_recovers 55 = .ok (.iload_n 1, 1) := dk_27 (dk_at dksX2_recovers_2 8 rfl rfl)
theorem dX2_recovers_56 : decode cX2_recovers 56 = .ok (.invokevirtual 122, 3) := dk_182 0 122 (dk_at dksX2_recovers_2 9 rfl rfl)
theorem dX2_recovers_59 : decode cX2_recovers 59 = .ok (.iinc 2 1, 3) := dk_132 2 1 (dk_at dksX2_recovers_2 12 rfl rfl)
theorem dX2_recovers_62 : decode cX2_recovers 62 = .ok (.goto (-48), 3) := dk_167 255 208 (dk_at dksX2_recovers_2 15 rfl rfl)
theorem dX2_recovers_65 : decode cX2_recovers 65 = .ok (.aload_n 0, 1) := dk_42 (dk_at dksX2_recovers_2 18 rfl rfl)
theorem dX2_recovers_66 : decode cX2_recovers 66 = .ok (.getfield 21, 3) := dk_180 0 21 (dk_at dksX2_recovers_2 19 rfl rfl)
theorem dX2_recovers_69 : decode cX2_recovers 69 = .ok (.invokeinterface 108 1, 5) := by decide +kernel
theorem dX2_recovers_74 : decode cX2_recovers 74 = .ok (.ireturn, 1) := dk_172 (dk_at dksX2_recovers_3 5 rfl rfl)
abbrev cX2_clerkRecovers : ByteArray := prog_16_method_35_code
def yX2_clerkRecovers : MethodName := ⟨RX2, "clerkRecovers", "(I)V"⟩
def dkwX2_clerkRecovers_1 : List UInt8 := [154, 0, 16, 42, 42, 27, 182, 0, 104, 184, 0, 189, 27, 182, 0, 193, 177]
abbrev dktX2_clerkRecovers_1 : List UInt8 := dkwX2_clerkRecovers_1 ++ []
def dkwX2_clerkRecovers_0 : List UInt8 := [42, 27, 182, 0, 197, 153, 0, 12, 42, 27, 5, 182, 0, 200, 167, 0, 24, 42, 27, 182, 0, 203]
abbrev dktX2_clerkRecovers_0 : List UInt8 := dkwX2_clerkRecovers_0 ++ dktX2_clerkRecovers_1
theorem dksX2_clerkRecovers_0 : cX2_clerkRecovers.data.toList.drop 0 = dktX2_clerkRecovers_0 := by decide +kernel
theorem dksX2_clerkRecovers_1 : cX2_clerkRecovers.data.toList.drop 22 = dktX2_clerkRecovers_1 := dk_seg dksX2_clerkRecovers_0 22 rfl rfl
theorem dX2_clerkRecovers_0 : decode cX2_clerkRecovers 0 = .ok (.aload_n 0, 1) := dk_42 (dk_at dksX2_clerkRecovers_0 0 rfl rfl)
theorem dX2_clerkRecovers_1 : decode cX2_clerkRecovers 1 = .ok (.iload_n 1, 1) := dk_27 (dk_at dksX2_clerkRecovers_0 1 rfl rfl)
theorem dX2_clerkRecovers_2 : decode cX2_clerkRecovers 2 = .ok (.invokevirtual 197, 3) := dk_182 0 197 (dk_at dksX2_clerkRecovers_0 2 rfl rfl)
theorem dX2_clerkRecovers_5 : decode cX2_clerkRecovers 5 = .ok (.ifCond .eq 12, 3) := dk_153 0 12 (dk_at dksX2_clerkRecovers_0 5 rfl rfl)
theorem dX2_clerkRecovers_8 : decode cX2_clerkRecovers 8 = .ok (.aload_n 0, 1) := dk_42 (dk_at dksX2_clerkRecovers_0 8 rfl rfl)
theorem dX2_clerkRecovers_9 : decode cX2_clerkRecovers 9 = .ok (.iload_n 1, 1) := dk_27 (dk_at dksX2_clerkRecovers_0 9 rfl rfl)
theorem dX2_clerkRecovers_10 : decode cX2_clerkRecovers 10 = .ok (.iconst 2, 1) := dk_5 (dk_at dksX2_clerkRecovers_0 10 rfl rfl)
theorem dX2_clerkRecovers_11 : decode cX2_clerkRecovers 11 = .ok (.invokevirtual 200, 3) := dk_182 0 200 (dk_at dksX2_clerkRecovers_0 11 rfl rfl)
theorem dX2_clerkRecovers_14 : decode cX2_clerkRecovers 14 = .ok (.goto 24, 3) := dk_167 0 24 (dk_at dksX2_clerkRecovers_0 14 rfl rfl)
theorem dX2_clerkRecovers_17 : decode cX2_clerkRecovers 17 = .ok (.aload_n 0, 1) := dk_42 (dk_at dksX2_clerkRecovers_0 17 rfl rfl)
theorem dX2_clerkRecovers_18 : decode cX2_clerkRecovers 18 = .ok (.iload_n 1, 1) := dk_27 (dk_at dksX2_clerkRecovers_0 18 rfl rfl)
theorem dX2_clerkRecovers_19 : decode cX2_clerkRecovers 19 = .ok (.invokevirtual 203, 3) := dk_182 0 203 (dk_at dksX2_clerkRecovers_0 19 rfl rfl)
theorem dX2_clerkRecovers_22 : decode cX2_clerkRecovers 22 = .ok (.ifCond .ne 16, 3) := dk_154 0 16 (dk_at dksX2_clerkRecovers_1 0 rfl rfl)
theorem dX2_clerkRecovers_25 : decode cX2_clerkRecovers 25 = .ok (.aload_n 0, 1) := dk_42 (dk_at dksX2_clerkRecovers_1 3 rfl rfl)
theorem dX2_clerkRecovers_26 : decode cX2_clerkRecovers 26 = .ok (.aload_n 0, 1) := dk_42 (dk_at dksX2_clerkRecovers_1 4 rfl rfl)
theorem dX2_clerkRecovers_27 : decode cX2_clerkRecovers 27 = .ok (.iload_n 1, 1) := dk_27 (dk_at dksX2_clerkRecovers_1 5 rfl rfl)
theorem dX2_clerkRecovers_28 : decode cX2_clerkRecovers 28 = .ok (.invokevirtual 104, 3) := dk_182 0 104 (dk_at dksX2_clerkRecovers_1 6 rfl rfl)
theorem dX2_clerkRecovers_31 : decode cX2_clerkRecovers 31 = .ok (.invokestatic 189, 3) := dk_184 0 189 (dk_at dksX2_clerkRecovers_1 9 rfl rfl)
theorem dX2_clerkRecovers_34 : decode cX2_clerkRecovers 34 = .ok (.iload_n 1, 1) := dk_27 (dk_at dksX2_clerkRecovers_1 12 rfl rfl)
theorem dX2_clerkRecovers_35 : decode cX2_clerkRecovers 35 = .ok (.invokevirtual 193, 3) := dk_182 0 193 (dk_at dksX2_clerkRecovers_1 13 rfl rfl)
theorem dX2_clerkRecovers_38 : decode cX2_clerkRecovers 38 = .ok (.return_, 1) := dk_177 (dk_at dksX2_clerkRecovers_1 16 rfl rfl)
abbrev cX2_sizes : ByteArray := prog_16_method_44_code
def yX2_sizes : MethodName := ⟨RX2, "sizes", "()I"⟩
def dkwX2_sizes_1 : List UInt8 := [185, 0, 61, 1, 0, 192, 0, 117, 78, 27, 45, 180, 0, 232, 96, 60, 167, 255, 230, 27, 172]
abbrev dktX2_sizes_1 : List UInt8 := dkwX2_sizes_1 ++ []
def dkwX2_sizes_0 : List UInt8 := [3, 60, 42, 180, 0, 12, 185, 0, 51, 1, 0, 77, 44, 185, 0, 55, 1, 0, 153, 0, 23, 44]
abbrev dktX2_sizes_0 : List UInt8 := dkwX2_sizes_0 ++ dktX2_sizes_1
theorem dksX2_sizes_0 : cX2_sizes.data.toList.drop 0 = dktX2_sizes_0 := by decide +kernel
theorem dksX2_sizes_1 : cX2_sizes.data.toList.drop 22 = dktX2_sizes_1 := dk_seg dksX2_sizes_0 22 rfl rfl
theorem dX2_sizes_0 : decode cX2_sizes 0 = .ok (.iconst 0, 1) := dk_3 (dk_at dksX2_sizes_0 0 rfl rfl)
theorem dX2_sizes_1 : decode cX2_sizes 1 = .ok (.istore_n 1, 1) := dk_60 (dk_at dksX2_sizes_0 1 rfl rfl)
theorem dX2_sizes_2 : decode cX2_sizes 2 = .ok (.aload_n 0, 1) := dk_42 (dk_at dksX2_sizes_0 2 rfl rfl)
theorem dX2_sizes_3 : decode cX2_sizes 3 = .ok (.getfield 12, 3) := dk_180 0 12 (dk_at dksX2_sizes_0 3 rfl rfl)
theorem dX2_sizes_6 : decode cX2_sizes 6 = .ok (.invokeinterface 51 1, 5) := by decide +kernel
theorem dX2_sizes_11 : decode cX2_sizes 11 = .ok (.astore_n 2, 1) := dk_77 (dk_at dksX2_sizes_0 11 rfl rfl)
theorem dX2_sizes_12 : decode cX2_sizes 12 = .ok (.aload_n 2, 1) := dk_44 (dk_at dksX2_sizes_0 12 rfl rfl)
theorem dX2_sizes_13 : decode cX2_sizes 13 = .ok (.invokeinterface 55 1, 5) := by decide +kernel
theorem dX2_sizes_18 : decode cX2_sizes 18 = .ok (.ifCond .eq 23, 3) := dk_153 0 23 (dk_at dksX2_sizes_0 18 rfl rfl)
theorem dX2_sizes_21 : decode cX2_sizes 21 = .ok (.aload_n 2, 1) := dk_44 (dk_at dksX2_sizes_0 21 rfl rfl)
theorem dX2_sizes_22 : decode cX2_sizes 22 = .ok (.invokeinterface 61 1, 5) := by decide +kernel
theorem dX2_sizes_27 : decode cX2_sizes 27 = .ok (.checkcast 117, 3) := dk_192 0 117 (dk_at dksX2_sizes_1 5 rfl rfl)
theorem dX2_sizes_30 : decode cX2_sizes 30 = .ok (.astore_n 3, 1) := dk_78 (dk_at dksX2_sizes_1 8 rfl rfl)
theorem dX2_sizes_31 : decode cX2_sizes 31 = .ok (.iload_n 1, 1) := dk_27 (dk_at dksX2_sizes_1 9 rfl rfl)
theorem dX2_sizes_32 : decode cX2_sizes 32 = .ok (.aload_n 3, 1) := dk_45 (dk_at dksX2_sizes_1 10 rfl rfl)
theorem dX2_sizes_33 : decode cX2_sizes 33 = .ok (.getfield 232, 3) := dk_180 0 232 (dk_at dksX2_sizes_1 11 rfl rfl)
theorem dX2_sizes_36 : decode cX2_sizes 36 = .ok (.iadd, 1) := dk_96 (dk_at dksX2_sizes_1 14 rfl rfl)
theorem dX2_sizes_37 : decode cX2_sizes 37 = .ok (.istore_n 1, 1) := dk_60 (dk_at dksX2_sizes_1 15 rfl rfl)
theorem dX2_sizes_38 : decode cX2_sizes 38 = .ok (.goto (-26), 3) := dk_167 255 230 (dk_at dksX2_sizes_1 16 rfl rfl)
theorem dX2_sizes_41 : decode cX2_sizes 41 = .ok (.iload_n 1, 1) := dk_27 (dk_at dksX2_sizes_1 19 rfl rfl)
theorem dX2_sizes_42 : decode cX2_sizes 42 = .ok (.ireturn, 1) := dk_172 (dk_at dksX2_sizes_1 20 rfl rfl)
abbrev cX2_outcomeByStores : ByteArray := prog_16_method_39_code
def yX2_outcomeByStores : MethodName := ⟨RX2, "outcomeByStores", "(I)I"⟩
def dkwX2_outcomeByStores_2 : List UInt8 := [172]
abbrev dktX2_outcomeByStores_2 : List UInt8 := dkwX2_outcomeByStores_2 ++ []
def dkwX2_outcomeByStores_1 : List UInt8 := [4, 167, 0, 14, 21, 4, 6, 160, 0, 7, 5, 167, 0, 4, 3, 128, 61, 132, 3, 1, 167, 255, 216, 28]
abbrev dktX2_outcomeByStores_1 : List UInt8 := dkwX2_outcomeByStores_1 ++ dktX2_outcomeByStores_2
def dkwX2_outcomeByStores_0 : List UInt8 := [3, 61, 3, 62, 29, 7, 162, 0, 41, 42, 29, 27, 182, 0, 156, 54, 4, 28, 21, 4, 5, 160, 0, 7]
abbrev dktX2_outcomeByStores_0 : List UInt8 := dkwX2_outcomeByStores_0 ++ dktX2_outcomeByStores_1
theorem dksX2_outcomeByStores_0 : cX2_outcomeByStores.data.toList.drop 0 = dktX2_outcomeByStores_0 := by decide +kernel
theorem dksX2_outcomeByStores_1 : cX2_outcomeByStores.data.toList.drop 24 = dktX2_outcomeByStores_1 := dk_seg dksX2_outcomeByStores_0 24 rfl rfl
theorem dksX2_outcomeByStores_2 : cX2_outcomeByStores.data.toList.drop 48 = dktX2_outcomeByStores_2 := dk_seg dksX2_outcomeByStores_1 24 rfl rfl
theorem dX2_outcomeByStores_0 : decode cX2_outcomeByStores 0 = .ok (.iconst 0, 1) := dk_3 (dk_at dksX2_outcomeByStores_0 0 rfl rfl)
theorem dX2_outcomeByStores_1 : decode cX2_outcomeByStores 1 = .ok (.istore_n 2, 1) := dk_61 (dk_at dksX2_outcomeByStores_0 1 rfl rfl)
theorem dX2_outcomeByStores_2 : decode cX2_outcomeByStores 2 = .ok (.iconst 0, 1) := dk_3 (dk_at dksX2_outcomeByStores_0 2 rfl rfl)
theorem dX2_outcomeByStores_3 : decode cX2_outcomeByStores 3 = .ok (.istore_n 3, 1) := dk_62 (dk_at dksX2_outcomeByStores_0 3 rfl rfl)
theorem dX2_outcomeByStores_4 : decode cX2_outcomeByStores 4 = .ok (.iload_n 3, 1) := dk_29 (dk_at dksX2_outcomeByStores_0 4 rfl rfl)
theorem dX2_outcomeByStores_5 : decode cX2_outcomeByStores 5 = .ok (.iconst 4, 1) := dk_7 (dk_at dksX2_outcomeByStores_0 5 rfl rfl)
theorem dX2_outcomeByStores_6 : decode cX2_outcomeByStores 6 = .ok (.if_icmp .ge 41, 3) := dk_162 0 41 (dk_at dksX2_outcomeByStores_0 6 rfl rfl)
theorem dX2_outcomeByStores_9 : decode cX2_outcomeByStores 9 = .ok (.aload_n 0, 1) := dk_42 (dk_at dksX2_outcomeByStores_0 9 rfl rfl)
theorem dX2_outcomeByStores_10 : decode cX2_outcomeByStores 10 = .ok (.iload_n 3, 1) := dk_29 (dk_at dksX2_outcomeByStores_0 10 rfl rfl)
theorem dX2_outcomeByStores_11 : decode cX2_outcomeByStores 11 = .ok (.iload_n 1, 1) := dk_27 (dk_at dksX2_outcomeByStores_0 11 rfl rfl)
theorem dX2_outcomeByStores_12 : decode cX2_outcomeByStores 12 = .ok (.invokevirtual 156, 3) := dk_182 0 156 (dk_at dksX2_outcomeByStores_0 12 rfl rfl)
theorem dX2_outcomeByStores_15 : decode cX2_outcomeByStores 15 = .ok (.istore 4, 2) := dk_54 4 (dk_at dksX2_outcomeByStores_0 15 rfl rfl)
theorem dX2_outcomeByStores_17 : decode cX2_outcomeByStores 17 = .ok (.iload_n 2, 1) := dk_28 (dk_at dksX2_outcomeByStores_0 17 rfl rfl)
theorem dX2_outcomeByStores_18 : decode cX2_outcomeByStores 18 = .ok (.iload 4, 2) := dk_21 4 (dk_at dksX2_outcomeByStores_0 18 rfl rfl)
theorem dX2_outcomeByStores_20 : decode cX2_outcomeByStores 20 = .ok (.iconst 2, 1) := dk_5 (dk_at dksX2_outcomeByStores_0 20 rfl rfl)
theorem dX2_outcomeByStores_21 : decode cX2_outcomeByStores 21 = .ok (.if_icmp .ne 7, 3) := dk_160 0 7 (dk_at dksX2_outcomeByStores_0 21 rfl rfl)
theorem dX2_outcomeByStores_24 : decode cX2_outcomeByStores 24 = .ok (.iconst 1, 1) := dk_4 (dk_at dksX2_outcomeByStores_1 0 rfl rfl)
theorem dX2_outcomeByStores_25 : decode cX2_outcomeByStores 25 = .ok (.goto 14, 3) := dk_167 0 14 (dk_at dksX2_outcomeByStores_1 1 rfl rfl)
theorem dX2_outcomeByStores_28 : decode cX2_outcomeByStores 28 = .ok (.iload 4, 2) := dk_21 4 (dk_at dksX2_outcomeByStores_1 4 rfl rfl)
theorem dX2_outcomeByStores_30 : decode cX2_outcomeByStores 30 = .ok (.iconst 3, 1) := dk_6 (dk_at dksX2_outcomeByStores_1 6 rfl rfl)
theorem dX2_outcomeByStores_31 : decode cX2_outcomeByStores 31 = .ok (.if_icmp .ne 7, 3) := dk_160 0 7 (dk_at dksX2_outcomeByStores_1 7 rfl rfl)
theorem dX2_outcomeByStores_34 : decode cX2_outcomeByStores 34 = .ok (.iconst 2, 1) := dk_5 (dk_at dksX2_outcomeByStores_1 10 rfl rfl)
theorem dX2_outcomeByStores_35 : decode cX2_outcomeByStores 35 = .ok (.goto 4, 3) := dk_167 0 4 (dk_at dksX2_outcomeByStores_1 11 rfl rfl)
theorem dX2_outcomeByStores_38 : decode cX2_outcomeByStores 38 = .ok (.iconst 0, 1) := dk_3 (dk_at dksX2_outcomeByStores_1 14 rfl rfl)
theorem dX2_outcomeByStores_39 : decode cX2_outcomeByStores 39 = .ok (.ior, 1) := dk_128 (dk_at dksX2_outcomeByStores_1 15 rfl rfl)
theorem dX2_outcomeByStores_40 : decode cX2_outcomeByStores 40 = .ok (.istore_n 2, 1) := dk_61 (dk_at dksX2_outcomeByStores_1 16 rfl rfl)
theorem dX2_outcomeByStores_41 : decode cX2_outcomeByStores 41 = .ok (.iinc 3 1, 3) := dk_132 3 1 (dk_at dksX2_outcomeByStores_1 17 rfl rfl)
theorem dX2_outcomeByStores_44 : decode cX2_outcomeByStores 44 = .ok (.goto (-40), 3) := dk_167 255 216 (dk_at dksX2_outcomeByStores_1 20 rfl rfl)
theorem dX2_outcomeByStores_47 : decode cX2_outcomeByStores 47 = .ok (.iload_n 2, 1) := dk_28 (dk_at dksX2_outcomeByStores_1 23 rfl rfl)
theorem dX2_outcomeByStores_48 : decode cX2_outcomeByStores 48 = .ok (.ireturn, 1) := dk_172 (dk_at dksX2_outcomeByStores_2 0 rfl rfl)
abbrev cX2_stateByLog : ByteArray := prog_16_method_11_code
def yX2_stateByLog : MethodName := ⟨RX2, "stateByLog", "(II)I"⟩
def dkwX2_stateByLog_1 : List UInt8 := [167, 0, 13, 29, 4, 160, 0, 7, 5, 167, 0, 4, 6, 172]
abbrev dktX2_stateByLog_1 : List UInt8 := dkwX2_stateByLog_1 ++ []
def dkwX2_stateByLog_0 : List UInt8 := [42, 27, 28, 7, 182, 0, 100, 62, 29, 2, 160, 0, 7, 3, 167, 0, 22, 29, 7, 160, 0, 7, 4]
abbrev dktX2_stateByLog_0 : List UInt8 := dkwX2_stateByLog_0 ++ dktX2_stateByLog_1
theorem dksX2_stateByLog_0 : cX2_stateByLog.data.toList.drop 0 = dktX2_stateByLog_0 := by decide +kernel
theorem dksX2_stateByLog_1 : cX2_stateByLog.data.toList.drop 23 = dktX2_stateByLog_1 := dk_seg dksX2_stateByLog_0 23 rfl rfl
theorem dX2_stateByLog_0 : decode cX2_stateByLog 0 = .ok (.aload_n 0, 1) := dk_42 (dk_at dksX2_stateByLog_0 0 rfl rfl)
theorem dX2_stateByLog_1 : decode cX2_stateByLog 1 = .ok (.iload_n 1, 1) := dk_27 (dk_at dksX2_stateByLog_0 1 rfl rfl)
theorem dX2_stateByLog_2 : decode cX2_stateByLog 2 = .ok (.iload_n 2, 1) := dk_28 (dk_at dksX2_stateByLog_0 2 rfl rfl)
theorem dX2_stateByLog_3 : decode cX2_stateByLog 3 = .ok (.iconst 4, 1) := dk_7 (dk_at dksX2_stateByLog_0 3 rfl rfl)
theorem dX2_stateByLog_4 : decode cX2_stateByLog 4 = .ok (.invokevirtual 100, 3) := dk_182 0 100 (dk_at dksX2_stateByLog_0 4 rfl rfl)
theorem dX2_stateByLog_7 : decode cX2_stateByLog 7 = .ok (.istore_n 3, 1) := dk_62 (dk_at dksX2_stateByLog_0 7 rfl rfl)
theorem dX2_stateByLog_8 : decode cX2_stateByLog 8 = .ok (.iload_n 3, 1) := dk_29 (dk_at dksX2_stateByLog_0 8 rfl rfl)
theorem dX2_stateByLog_9 : decode cX2_stateByLog 9 = .ok (.iconst (-1), 1) := dk_2 (dk_at dksX2_stateByLog_0 9 rfl rfl)
theorem dX2_stateByLog_10 : decode cX2_stateByLog 10 = .ok (.if_icmp .ne 7, 3) := dk_160 0 7 (dk_at dksX2_stateByLog_0 10 rfl rfl)
theorem dX2_stateByLog_13 : decode cX2_stateByLog 13 = .ok (.iconst 0, 1) := dk_3 (dk_at dksX2_stateByLog_0 13 rfl rfl)
theorem dX2_stateByLog_14 : decode cX2_stateByLog 14 = .ok (.goto 22, 3) := dk_167 0 22 (dk_at dksX2_stateByLog_0 14 rfl rfl)
theorem dX2_stateByLog_17 : decode cX2_stateByLog 17 = .ok (.iload_n 3, 1) := dk_29 (dk_at dksX2_stateByLog_0 17 rfl rfl)
theorem dX2_stateByLog_18 : decode cX2_stateByLog 18 = .ok (.iconst 4, 1) := dk_7 (dk_at dksX2_stateByLog_0 18 rfl rfl)
theorem dX2_stateByLog_19 : decode cX2_stateByLog 19 = .ok (.if_icmp .ne 7, 3) := dk_160 0 7 (dk_at dksX2_stateByLog_0 19 rfl rfl)
theorem dX2_stateByLog_22 : decode cX2_stateByLog 22 = .ok (.iconst 1, 1) := dk_4 (dk_at dksX2_stateByLog_0 22 rfl rfl)
theorem dX2_stateByLog_23 : decode cX2_stateByLog 23 = .ok (.goto 13, 3) := dk_167 0 13 (dk_at dksX2_stateByLog_1 0 rfl rfl)
theorem dX2_stateByLog_26 : decode cX2_stateByLog 26 = .ok (.iload_n 3, 1) := dk_29 (dk_at dksX2_stateByLog_1 3 rfl rfl)
theorem dX2_stateByLog_27 : decode cX2_stateByLog 27 = .ok (.iconst 1, 1) := dk_4 (dk_at dksX2_stateByLog_1 4 rfl rfl)
theorem dX2_stateByLog_28 : decode cX2_stateByLog 28 = .ok (.if_icmp .ne 7, 3) := dk_160 0 7 (dk_at dksX2_stateByLog_1 5 rfl rfl)
theorem dX2_stateByLog_31 : decode cX2_stateByLog 31 = .ok (.iconst 2, 1) := dk_5 (dk_at dksX2_stateByLog_1 8 rfl rfl)
theorem dX2_stateByLog_32 : decode cX2_stateByLog 32 = .ok (.goto 4, 3) := dk_167 0 4 (dk_at dksX2_stateByLog_1 9 rfl rfl)
theorem dX2_stateByLog_35 : decode cX2_stateByLog 35 = .ok (.iconst 3, 1) := dk_6 (dk_at dksX2_stateByLog_1 12 rfl rfl)
theorem dX2_stateByLog_36 : decode cX2_stateByLog 36 = .ok (.ireturn, 1) := dk_172 (dk_at dksX2_stateByLog_1 13 rfl rfl)
abbrev cX2_amountByLog : ByteArray := prog_16_method_37_code
def yX2_amountByLog : MethodName := ⟨RX2, "amountByLog", "(I)I"⟩
def dkwX2_amountByLog_3 : List UInt8 := [27, 182, 0, 153, 167, 0, 4, 3, 96, 61, 167, 255, 199, 28, 172]
abbrev dktX2_amountByLog_3 : List UInt8 := dkwX2_amountByLog_3 ++ []
def dkwX2_amountByLog_2 : List UInt8 := [180, 0, 97, 4, 160, 0, 27, 42, 180, 0, 12, 25, 4, 180, 0, 94, 185, 0, 85, 2, 0, 192, 0, 117]
abbrev dktX2_amountByLog_2 : List UInt8 := dkwX2_amountByLog_2 ++ dktX2_amountByLog_3
def dkwX2_amountByLog_1 : List UInt8 := [185, 0, 55, 1, 0, 153, 0, 54, 45, 185, 0, 61, 1, 0, 192, 0, 89, 58, 4, 28, 25, 4]
abbrev dktX2_amountByLog_1 : List UInt8 := dkwX2_amountByLog_1 ++ dktX2_amountByLog_2
def dkwX2_amountByLog_0 : List UInt8 := [16, 100, 61, 42, 180, 0, 18, 27, 185, 0, 85, 2, 0, 192, 0, 42, 185, 0, 51, 1, 0, 78, 45]
abbrev dktX2_amountByLog_0 : List UInt8 := dkwX2_amountByLog_0 ++ dktX2_amountByLog_1
theorem dksX2_amountByLog_0 : cX2_amountByLog.data.toList.drop 0 = dktX2_amountByLog_0 := by decide +kernel
theorem dksX2_amountByLog_1 : cX2_amountByLog.data.toList.drop 23 = dktX2_amountByLog_1 := dk_seg dksX2_amountByLog_0 23 rfl rfl
theorem dksX2_amountByLog_2 : cX2_amountByLog.data.toList.drop 45 = dktX2_amountByLog_2 := dk_seg dksX2_amountByLog_1 22 rfl rfl
theorem dksX2_amountByLog_3 : cX2_amountByLog.data.toList.drop 69 = dktX2_amountByLog_3 := dk_seg dksX2_amountByLog_2 24 rfl rfl
theorem dX2_amountByLog_0 : decode cX2_amountByLog 0 = .ok (.bipush 100, 2) := dk_16 100 (dk_at dksX2_amountByLog_0 0 rfl rfl)
theorem dX2_amountByLog_2 : decode cX2_amountByLog 2 = .ok (.istore_n 2, 1) := dk_61 (dk_at dksX2_amountByLog_0 2 rfl rfl)
theorem dX2_amountByLog_3 : decode cX2_amountByLog 3 = .ok (.aload_n 0, 1) := dk_42 (dk_at dksX2_amountByLog_0 3 rfl rfl)
theorem dX2_amountByLog_4 : decode cX2_amountByLog 4 = .ok (.getfield 18, 3) := dk_180 0 18 (dk_at dksX2_amountByLog_0 4 rfl rfl)
theorem dX2_amountByLog_7 : decode cX2_amountByLog 7 = .ok (.iload_n 1, 1) := dk_27 (dk_at dksX2_amountByLog_0 7 rfl rfl)
theorem dX2_amountByLog_8 : decode cX2_amountByLog 8 = .ok (.invokeinterface 85 2, 5) := by decide +kernel
theorem dX2_amountByLog_13 : decode cX2_amountByLog 13 = .ok (.checkcast 42, 3) := dk_192 0 42 (dk_at dksX2_amountByLog_0 13 rfl rfl)
theorem dX2_amountByLog_16 : decode cX2_amountByLog 16 = .ok (.invokeinterface 51 1, 5) := by decide +kernel
theorem dX2_amountByLog_21 : decode cX2_amountByLog 21 = .ok (.astore_n 3, 1) := dk_78 (dk_at dksX2_amountByLog_0 21 rfl rfl)
theorem dX2_amountByLog_22 : decode cX2_amountByLog 22 = .ok (.aload_n 3, 1) := dk_45 (dk_at dksX2_amountByLog_0 22 rfl rfl)
theorem dX2_amountByLog_23 : decode cX2_amountByLog 23 = .ok (.invokeinterface 55 1, 5) := by decide +kernel
theorem dX2_amountByLog_28 : decode cX2_amountByLog 28 = .ok (.ifCond .eq 54, 3) := dk_153 0 54 (dk_at dksX2_amountByLog_1 5 rfl rfl)
theorem dX2_amountByLog_31 : decode cX2_amountByLog 31 = .ok (.aload_n 3, 1) := dk_45 (dk_at dksX2_amountByLog_1 8 rfl rfl)
theorem dX2_amountByLog_32 : decode cX2_amountByLog 32 = .ok (.invokeinterface 61 1, 5) := by decide +kernel
theorem dX2_amountByLog_37 : decode cX2_amountByLog 37 = .ok (.checkcast 89, 3) := dk_192 0 89 (dk_at dksX2_amountByLog_1 14 rfl rfl)
theorem dX2_amountByLog_40 : decode cX2_amountByLog 40 = .ok (.astore 4, 2) := dk_58 4 (dk_at dksX2_amountByLog_1 17 rfl rfl)
theorem dX2_amountByLog_42 : decode cX2_amountByLog 42 = .ok (.iload_n 2, 1) := dk_28 (dk_at dksX2_amountByLog_1 19 rfl rfl)
theorem dX2_amountByLog_43 : decode cX2_amountByLog 43 = .ok (.aload 4, 2) := dk_25 4 (dk_at dksX2_amountByLog_1 20 rfl rfl)
theorem dX2_amountByLog_45 : decode cX2_amountByLog 45 = .ok (.getfield 97, 3) := dk_180 0 97 (dk_at dksX2_amountByLog_2 0 rfl rfl)
theorem dX2_amountByLog_48 : decode cX2_amountByLog 48 = .ok (.iconst 1, 1) := dk_4 (dk_at dksX2_amountByLog_2 3 rfl rfl)
theorem dX2_amountByLog_49 : decode cX2_amountByLog 49 = .ok (.if_icmp .ne 27, 3) := dk_160 0 27 (dk_at dksX2_amountByLog_2 4 rfl rfl)
theorem dX2_amountByLog_52 : decode cX2_amountByLog 52 = .ok (.aload_n 0, 1) := dk_42 (dk_at dksX2_amountByLog_2 7 rfl rfl)
theorem dX2_amountByLog_53 : decode cX2_amountByLog 53 = .ok (.getfield 12, 3) := dk_180 0 12 (dk_at dksX2_amountByLog_2 8 rfl rfl)
theorem dX2_amountByLog_56 : decode cX2_amountByLog 56 = .ok (.aload 4, 2) := dk_25 4 (dk_at dksX2_amountByLog_2 11 rfl rfl)
theorem dX2_amountByLog_58 : decode cX2_amountByLog 58 = .ok (.getfield 94, 3) := dk_180 0 94 (dk_at dksX2_amountByLog_2 13 rfl rfl)
theorem dX2_amountByLog_61 : decode cX2_amountByLog 61 = .ok (.invokeinterface 85 2, 5) := by decide +kernel
theorem dX2_amountByLog_66 : decode cX2_amountByLog 66 = .ok (.checkcast 117, 3) := dk_192 0 117 (dk_at dksX2_amountByLog_2 21 rfl rfl)
theorem dX2_amountByLog_69 : decode cX2_amountByLog 69 = .ok (.iload_n 1, 1) := dk_27 (dk_at dksX2_amountByLog_3 0 rfl rfl)
theorem dX2_amountByLog_70 : decode cX2_amountByLog 70 = .ok (.invokevirtual 153, 3) := dk_182 0 153 (dk_at dksX2_amountByLog_3 1 rfl rfl)
theorem dX2_amountByLog_73 : decode cX2_amountByLog 73 = .ok (.goto 4, 3) := dk_167 0 4 (dk_at dksX2_amountByLog_3 4 rfl rfl)
theorem dX2_amountByLog_76 : decode cX2_amountByLog 76 = .ok (.iconst 0, 1) := dk_3 (dk_at dksX2_amountByLog_3 7 rfl rfl)
theorem dX2_amountByLog_77 : decode cX2_amountByLog 77 = .ok (.iadd, 1) := dk_96 (dk_at dksX2_amountByLog_3 8 rfl rfl)
theorem dX2_amountByLog_78 : decode cX2_amountByLog 78 = .ok (.istore_n 2, 1) := dk_61 (dk_at dksX2_amountByLog_3 9 rfl rfl)
theorem dX2_amountByLog_79 : decode cX2_amountByLog 79 = .ok (.goto (-57), 3) := dk_167 255 199 (dk_at dksX2_amountByLog_3 10 rfl rfl)
theorem dX2_amountByLog_82 : decode cX2_amountByLog 82 = .ok (.iload_n 2, 1) := dk_28 (dk_at dksX2_amountByLog_3 13 rfl rfl)
theorem dX2_amountByLog_83 : decode cX2_amountByLog 83 = .ok (.ireturn, 1) := dk_172 (dk_at dksX2_amountByLog_3 14 rfl rfl)
abbrev cX2_inDoubt : ByteArray := prog_16_method_38_code
def yX2_inDoubt : MethodName := ⟨RX2, "inDoubt", "(I)I"⟩
def dkwX2_inDoubt_1 : List UInt8 := [4, 160, 0, 7, 4, 167, 0, 4, 3, 96, 61, 132, 3, 1, 167, 255, 222, 28, 172]
abbrev dktX2_inDoubt_1 : List UInt8 := dkwX2_inDoubt_1 ++ []
def dkwX2_inDoubt_0 : List UInt8 := [3, 61, 3, 62, 29, 42, 180, 0, 12, 185, 0, 108, 1, 0, 162, 0, 27, 28, 42, 27, 29, 182, 0, 156]
abbrev dktX2_inDoubt_0 : List UInt8 := dkwX2_inDoubt_0 ++ dktX2_inDoubt_1
theorem dksX2_inDoubt_0 : cX2_inDoubt.data.toList.drop 0 = dktX2_inDoubt_0 := by decide +kernel
theorem dksX2_inDoubt_1 : cX2_inDoubt.data.toList.drop 24 = dktX2_inDoubt_1 := dk_seg dksX2_inDoubt_0 24 rfl rfl
theorem dX2_inDoubt_0 : decode cX2_inDoubt 0 = .ok (.iconst 0, 1) := dk_3 (dk_at dksX2_inDoubt_0 0 rfl rfl)
theorem dX2_inDoubt_1 : decode cX2_inDoubt 1 = .ok (.istore_n 2, 1) := dk_61 (dk_at dksX2_inDoubt_0 1 rfl rfl)
theorem dX2_inDoubt_2 : decode cX2_inDoubt 2 = .ok (.iconst 0, 1) := dk_3 (dk_at dksX2_inDoubt_0 2 rfl rfl)
theorem dX2_inDoubt_3 : decode cX2_inDoubt 3 = .ok (.istore_n 3, 1) := dk_62 (dk_at dksX2_inDoubt_0 3 rfl rfl)
theorem dX2_inDoubt_4 : decode cX2_inDoubt 4 = .ok (.iload_n 3, 1) := dk_29 (dk_at dksX2_inDoubt_0 4 rfl rfl)
theorem dX2_inDoubt_5 : decode cX2_inDoubt 5 = .ok (.aload_n 0, 1) := dk_42 (dk_at dksX2_inDoubt_0 5 rfl rfl)
theorem dX2_inDoubt_6 : decode cX2_inDoubt 6 = .ok (.getfield 12, 3) := dk_180 0 12 (dk_at dksX2_inDoubt_0 6 rfl rfl)
theorem dX2_inDoubt_9 : decode cX2_inDoubt 9 = .ok (.invokeinterface 108 1, 5) := by decide +kernel
theorem dX2_inDoubt_14 : decode cX2_inDoubt 14 = .ok (.if_icmp .ge 27, 3) := dk_162 0 27 (dk_at dksX2_inDoubt_0 14 rfl rfl)
theorem dX2_inDoubt_17 : decode cX2_inDoubt 17 = .ok (.iload_n 2, 1) := dk_28 (dk_at dksX2_inDoubt_0 17 rfl rfl)
theorem dX2_inDoubt_18 : decode cX2_inDoubt 18 = .ok (.aload_n 0, 1) := dk_42 (dk_at dksX2_inDoubt_0 18 rfl rfl)
theorem dX2_inDoubt_19 : decode cX2_inDoubt 19 = .ok (.iload_n 1, 1) := dk_27 (dk_at dksX2_inDoubt_0 19 rfl rfl)
theorem dX2_inDoubt_20 : decode cX2_inDoubt 20 = .ok (.iload_n 3, 1) := dk_29 (dk_at dksX2_inDoubt_0 20 rfl rfl)
theorem dX2_inDoubt_21 : decode cX2_inDoubt 21 = .ok (.invokevirtual 156, 3) := dk_182 0 156 (dk_at dksX2_inDoubt_0 21 rfl rfl)
theorem dX2_inDoubt_24 : decode cX2_inDoubt 24 = .ok (.iconst 1, 1) := dk_4 (dk_at dksX2_inDoubt_1 0 rfl rfl)
theorem dX2_inDoubt_25 : decode cX2_inDoubt 25 = .ok (.if_icmp .ne 7, 3) := dk_160 0 7 (dk_at dksX2_inDoubt_1 1 rfl rfl)
theorem dX2_inDoubt_28 : decode cX2_inDoubt 28 = .ok (.iconst 1, 1) := dk_4 (dk_at dksX2_inDoubt_1 4 rfl rfl)
theorem dX2_inDoubt_29 : decode cX2_inDoubt 29 = .ok (.goto 4, 3) := dk_167 0 4 (dk_at dksX2_inDoubt_1 5 rfl rfl)
theorem dX2_inDoubt_32 : decode cX2_inDoubt 32 = .ok (.iconst 0, 1) := dk_3 (dk_at dksX2_inDoubt_1 8 rfl rfl)
theorem dX2_inDoubt_33 : decode cX2_inDoubt 33 = .ok (.iadd, 1) := dk_96 (dk_at dksX2_inDoubt_1 9 rfl rfl)
theorem dX2_inDoubt_34 : decode cX2_inDoubt 34 = .ok (.istore_n 2, 1) := dk_61 (dk_at dksX2_inDoubt_1 10 rfl rfl)
theorem dX2_inDoubt_35 : decode cX2_inDoubt 35 = .ok (.iinc 3 1, 3) := dk_132 3 1 (dk_at dksX2_inDoubt_1 11 rfl rfl)
theorem dX2_inDoubt_38 : decode cX2_inDoubt 38 = .ok (.goto (-34), 3) := dk_167 255 222 (dk_at dksX2_inDoubt_1 14 rfl rfl)
theorem dX2_inDoubt_41 : decode cX2_inDoubt 41 = .ok (.iload_n 2, 1) := dk_28 (dk_at dksX2_inDoubt_1 17 rfl rfl)
theorem dX2_inDoubt_42 : decode cX2_inDoubt 42 = .ok (.ireturn, 1) := dk_172 (dk_at dksX2_inDoubt_1 18 rfl rfl)
abbrev cX2_greatestSize : ByteArray := prog_16_method_43_code
def yX2_greatestSize : MethodName := ⟨RX2, "greatestSize", "(II)I"⟩
def dkwX2_greatestSize_1 : List UInt8 := [172]
abbrev dktX2_greatestSize_1 : List UInt8 := dkwX2_greatestSize_1 ++ []
def dkwX2_greatestSize_0 : List UInt8 := [16, 50, 62, 29, 158, 0, 19, 42, 27, 28, 29, 182, 0, 228, 154, 0, 9, 132, 3, 255, 167, 255, 239, 29]
abbrev dktX2_greatestSize_0 : List UInt8 := dkwX2_greatestSize_0 ++ dktX2_greatestSize_1
theorem dksX2_greatestSize_0 : cX2_greatestSize.data.toList.drop 0 = dktX2_greatestSize_0 := by decide +kernel
theorem dksX2_greatestSize_1 : cX2_greatestSize.data.toList.drop 24 = dktX2_greatestSize_1 := dk_seg dksX2_greatestSize_0 24 rfl rfl
theorem dX2_greatestSize_0 : decode cX2_greatestSize 0 = .ok (.bipush 50, 2) := dk_16 50 (dk_at dksX2_greatestSize_0 0 rfl rfl)
theorem dX2_greatestSize_2 : decode cX2_greatestSize 2 = .ok (.istore_n 3, 1) := dk_62 (dk_at dksX2_greatestSize_0 2 rfl rfl)
theorem dX2_greatestSize_3 : decode cX2_greatestSize 3 = .ok (.iload_n 3, 1) := dk_29 (dk_at dksX2_greatestSize_0 3 rfl rfl)
theorem dX2_greatestSize_4 : decode cX2_greatestSize 4 = .ok (.ifCond .le 19, 3) := dk_158 0 19 (dk_at dksX2_greatestSize_0 4 rfl rfl)
theorem dX2_greatestSize_7 : decode cX2_greatestSize 7 = .ok (.aload_n 0, 1) := dk_42 (dk_at dksX2_greatestSize_0 7 rfl rfl)
theorem dX2_greatestSize_8 : decode cX2_greatestSize 8 = .ok (.iload_n 1, 1) := dk_27 (dk_at dksX2_greatestSize_0 8 rfl rfl)
theorem dX2_greatestSize_9 : decode cX2_greatestSize 9 = .ok (.iload_n 2, 1) := dk_28 (dk_at dksX2_greatestSize_0 9 rfl rfl)
theorem dX2_greatestSize_10 : decode cX2_greatestSize 10 = .ok (.iload_n 3, 1) := dk_29 (dk_at dksX2_greatestSize_0 10 rfl rfl)
theorem dX2_greatestSize_11 : decode cX2_greatestSize 11 = .ok (.invokevirtual 228, 3) := dk_182 0 228 (dk_at dksX2_greatestSize_0 11 rfl rfl)
theorem dX2_greatestSize_14 : decode cX2_greatestSize 14 = .ok (.ifCond .ne 9, 3) := dk_154 0 9 (dk_at dksX2_greatestSize_0 14 rfl rfl)
theorem dX2_greatestSize_17 : decode cX2_greatestSize 17 = .ok (.iinc 3 (-1), 3) := dk_132 3 255 (dk_at dksX2_greatestSize_0 17 rfl rfl)
theorem dX2_greatestSize_20 : decode cX2_greatestSize 20 = .ok (.goto (-17), 3) := dk_167 255 239 (dk_at dksX2_greatestSize_0 20 rfl rfl)
theorem dX2_greatestSize_23 : decode cX2_greatestSize 23 = .ok (.iload_n 3, 1) := dk_29 (dk_at dksX2_greatestSize_0 23 rfl rfl)
theorem dX2_greatestSize_24 : decode cX2_greatestSize 24 = .ok (.ireturn, 1) := dk_172 (dk_at dksX2_greatestSize_1 0 rfl rfl)
abbrev cX2_allCanTake : ByteArray := prog_16_method_42_code
def yX2_allCanTake : MethodName := ⟨RX2, "allCanTake", "(III)Z"⟩
def dkwX2_allCanTake_2 : List UInt8 := [4, 167, 0, 4, 3, 54, 4, 132, 5, 1, 167, 255, 216, 21, 4, 172]
abbrev dktX2_allCanTake_2 : List UInt8 := dkwX2_allCanTake_2 ++ []
def dkwX2_allCanTake_1 : List UInt8 := [21, 4, 153, 0, 26, 28, 21, 5, 184, 0, 81, 153, 0, 13, 42, 21, 5, 29, 182, 0, 164, 153, 0, 7]
abbrev dktX2_allCanTake_1 : List UInt8 := dkwX2_allCanTake_1 ++ dktX2_allCanTake_2
def dkwX2_allCanTake_0 : List UInt8 := [42, 27, 29, 116, 28, 184, 0, 212, 104, 182, 0, 164, 54, 4, 3, 54, 5, 21, 5, 7, 162, 0, 40]
abbrev dktX2_allCanTake_0 : List UInt8 := dkwX2_allCanTake_0 ++ dktX2_allCanTake_1
theorem dksX2_allCanTake_0 : cX2_allCanTake.data.toList.drop 0 = dktX2_allCanTake_0 := by decide +kernel
theorem dksX2_allCanTake_1 : cX2_allCanTake.data.toList.drop 23 = dktX2_allCanTake_1 := dk_seg dksX2_allCanTake_0 23 rfl rfl
theorem dksX2_allCanTake_2 : cX2_allCanTake.data.toList.drop 47 = dktX2_allCanTake_2 := dk_seg dksX2_allCanTake_1 24 rfl rfl
theorem dX2_allCanTake_0 : decode cX2_allCanTake 0 = .ok (.aload_n 0, 1) := dk_42 (dk_at dksX2_allCanTake_0 0 rfl rfl)
theorem dX2_allCanTake_1 : decode cX2_allCanTake 1 = .ok (.iload_n 1, 1) := dk_27 (dk_at dksX2_allCanTake_0 1 rfl rfl)
theorem dX2_allCanTake_2 : decode cX2_allCanTake 2 = .ok (.iload_n 3, 1) := dk_29 (dk_at dksX2_allCanTake_0 2 rfl rfl)
theorem dX2_allCanTake_3 : decode cX2_allCanTake 3 = .ok (.ineg, 1) := dk_116 (dk_at dksX2_allCanTake_0 3 rfl rfl)
theorem dX2_allCanTake_4 : decode cX2_allCanTake 4 = .ok (.iload_n 2, 1) := dk_28 (dk_at dksX2_allCanTake_0 4 rfl rfl)
theorem dX2_allCanTake_5 : decode cX2_allCanTake 5 = .ok (.invokestatic 212, 3) := dk_184 0 212 (dk_at dksX2_allCanTake_0 5 rfl rfl)
theorem dX2_allCanTake_8 : decode cX2_allCanTake 8 = .ok (.imul, 1) := dk_104 (dk_at dksX2_allCanTake_0 8 rfl rfl)
theorem dX2_allCanTake_9 : decode cX2_allCanTake 9 = .ok (.invokevirtual 164, 3) := dk_182 0 164 (dk_at dksX2_allCanTake_0 9 rfl rfl)
theorem dX2_allCanTake_12 : decode cX2_allCanTake 12 = .ok (.istore 4, 2) := dk_54 4 (dk_at dksX2_allCanTake_0 12 rfl rfl)
theorem dX2_allCanTake_14 : decode cX2_allCanTake 14 = .ok (.iconst 0, 1) := dk_3 (dk_at dksX2_allCanTake_0 14 rfl rfl)
theorem dX2_allCanTake_15 : decode cX2_allCanTake 15 = .ok (.istore 5, 2) := dk_54 5 (dk_at dksX2_allCanTake_0 15 rfl rfl)
theorem dX2_allCanTake_17 : decode cX2_allCanTake 17 = .ok (.iload 5, 2) := dk_21 5 (dk_at dksX2_allCanTake_0 17 rfl rfl)
theorem dX2_allCanTake_19 : decode cX2_allCanTake 19 = .ok (.iconst 4, 1) := dk_7 (dk_at dksX2_allCanTake_0 19 rfl rfl)
theorem dX2_allCanTake_20 : decode cX2_allCanTake 20 = .ok (.if_icmp .ge 40, 3) := dk_162 0 40 (dk_at dksX2_allCanTake_0 20 rfl rfl)
theorem dX2_allCanTake_23 : decode cX2_allCanTake 23 = .ok (.iload 4, 2) := dk_21 4 (dk_at dksX2_allCanTake_1 0 rfl rfl)
theorem dX2_allCanTake_25 : decode cX2_allCanTake 25 = .ok (.ifCond .eq 26, 3) := dk_153 0 26 (dk_at dksX2_allCanTake_1 2 rfl rfl)
theorem dX2_allCanTake_28 : decode cX2_allCanTake 28 = .ok (.iload_n 2, 1) := dk_28 (dk_at dksX2_allCanTake_1 5 rfl rfl)
theorem dX2_allCanTake_29 : decode cX2_allCanTake 29 = .ok (.iload 5, 2) := dk_21 5 (dk_at dksX2_allCanTake_1 6 rfl rfl)
theorem dX2_allCanTake_31 : decode cX2_allCanTake 31 = .ok (.invokestatic 81, 3) := dk_184 0 81 (dk_at dksX2_allCanTake_1 8 rfl rfl)
theorem dX2_allCanTake_34 : decode cX2_allCanTake 34 = .ok (.ifCond .eq 13, 3) := dk_153 0 13 (dk_at dksX2_allCanTake_1 11 rfl rfl)
theorem dX2_allCanTake_37 : decode cX2_allCanTake 37 = .ok (.aload_n 0, 1) := dk_42 (dk_at dksX2_allCanTake_1 14 rfl rfl)
theorem dX2_allCanTake_38 : decode cX2_allCanTake 38 = .ok (.iload 5, 2) := dk_21 5 (dk_at dksX2_allCanTake_1 15 rfl rfl)
theorem dX2_allCanTake_40 : decode cX2_allCanTake 40 = .ok (.iload_n 3, 1) := dk_29 (dk_at dksX2_allCanTake_1 17 rfl rfl)
theorem dX2_allCanTake_41 : decode cX2_allCanTake 41 = .ok (.invokevirtual 164, 3) := dk_182 0 164 (dk_at dksX2_allCanTake_1 18 rfl rfl)
theorem dX2_allCanTake_44 : decode cX2_allCanTake 44 = .ok (.ifCond .eq 7, 3) := dk_153 0 7 (dk_at dksX2_allCanTake_1 21 rfl rfl)
theorem dX2_allCanTake_47 : decode cX2_allCanTake 47 = .ok (.iconst 1, 1) := dk_4 (dk_at dksX2_allCanTake_2 0 rfl rfl)
theorem dX2_allCanTake_48 : decode cX2_allCanTake 48 = .ok (.goto 4, 3) := dk_167 0 4 (dk_at dksX2_allCanTake_2 1 rfl rfl)
theorem dX2_allCanTake_51 : decode cX2_allCanTake 51 = .ok (.iconst 0, 1) := dk_3 (dk_at dksX2_allCanTake_2 4 rfl rfl)
theorem dX2_allCanTake_52 : decode cX2_allCanTake 52 = .ok (.istore 4, 2) := dk_54 4 (dk_at dksX2_allCanTake_2 5 rfl rfl)
theorem dX2_allCanTake_54 : decode cX2_allCanTake 54 = .ok (.iinc 5 1, 3) := dk_132 5 1 (dk_at dksX2_allCanTake_2 7 rfl rfl)
theorem dX2_allCanTake_57 : decode cX2_allCanTake 57 = .ok (.goto (-40), 3) := dk_167 255 216 (dk_at dksX2_allCanTake_2 10 rfl rfl)
theorem dX2_allCanTake_60 : decode cX2_allCanTake 60 = .ok (.iload 4, 2) := dk_21 4 (dk_at dksX2_allCanTake_2 13 rfl rfl)
theorem dX2_allCanTake_62 : decode cX2_allCanTake 62 = .ok (.ireturn, 1) := dk_172 (dk_at dksX2_allCanTake_2 15 rfl rfl)
abbrev cX2_canBegin : ByteArray := prog_16_method_27_code
def yX2_canBegin : MethodName := ⟨RX2, "canBegin", "()Z"⟩
def dkwX2_canBegin_1 : List UInt8 := [167, 0, 4, 3, 172]
abbrev dktX2_canBegin_1 : List UInt8 := dkwX2_canBegin_1 ++ []
def dkwX2_canBegin_0 : List UInt8 := [42, 7, 182, 0, 131, 153, 0, 21, 42, 180, 0, 12, 185, 0, 108, 1, 0, 16, 8, 162, 0, 7, 4]
abbrev dktX2_canBegin_0 : List UInt8 := dkwX2_canBegin_0 ++ dktX2_canBegin_1
theorem dksX2_canBegin_0 : cX2_canBegin.data.toList.drop 0 = dktX2_canBegin_0 := by decide +kernel
theorem dksX2_canBegin_1 : cX2_canBegin.data.toList.drop 23 = dktX2_canBegin_1 := dk_seg dksX2_canBegin_0 23 rfl rfl
theorem dX2_canBegin_0 : decode cX2_canBegin 0 = .ok (.aload_n 0, 1) := dk_42 (dk_at dksX2_canBegin_0 0 rfl rfl)
theorem dX2_canBegin_1 : decode cX2_canBegin 1 = .ok (.iconst 4, 1) := dk_7 (dk_at dksX2_canBegin_0 1 rfl rfl)
theorem dX2_canBegin_2 : decode cX2_canBegin 2 = .ok (.invokevirtual 131, 3) := dk_182 0 131 (dk_at dksX2_canBegin_0 2 rfl rfl)
theorem dX2_canBegin_5 : decode cX2_canBegin 5 = .ok (.ifCond .eq 21, 3) := dk_153 0 21 (dk_at dksX2_canBegin_0 5 rfl rfl)
theorem dX2_canBegin_8 : decode cX2_canBegin 8 = .ok (.aload_n 0, 1) := dk_42 (dk_at dksX2_canBegin_0 8 rfl rfl)
theorem dX2_canBegin_9 : decode cX2_canBegin 9 = .ok (.getfield 12, 3) := dk_180 0 12 (dk_at dksX2_canBegin_0 9 rfl rfl)
theorem dX2_canBegin_12 : decode cX2_canBegin 12 = .ok (.invokeinterface 108 1, 5) := by decide +kernel
theorem dX2_canBegin_17 : decode cX2_canBegin 17 = .ok (.bipush 8, 2) := dk_16 8 (dk_at dksX2_canBegin_0 17 rfl rfl)
theorem dX2_canBegin_19 : decode cX2_canBegin 19 = .ok (.if_icmp .ge 7, 3) := dk_162 0 7 (dk_at dksX2_canBegin_0 19 rfl rfl)
theorem dX2_canBegin_22 : decode cX2_canBegin 22 = .ok (.iconst 1, 1) := dk_4 (dk_at dksX2_canBegin_0 22 rfl rfl)
theorem dX2_canBegin_23 : decode cX2_canBegin 23 = .ok (.goto 4, 3) := dk_167 0 4 (dk_at dksX2_canBegin_1 0 rfl rfl)
theorem dX2_canBegin_26 : decode cX2_canBegin 26 = .ok (.iconst 0, 1) := dk_3 (dk_at dksX2_canBegin_1 3 rfl rfl)
theorem dX2_canBegin_27 : decode cX2_canBegin 27 = .ok (.ireturn, 1) := dk_172 (dk_at dksX2_canBegin_1 4 rfl rfl)
abbrev cX2_begins : ByteArray := prog_16_method_28_code
def yX2_begins : MethodName := ⟨RX2, "begins", "(LVoteLogs$Transfer;)I"⟩
def dkwX2_begins_1 : List UInt8 := [28, 182, 0, 167, 42, 178, 0, 206, 28, 182, 0, 193, 28, 172]
abbrev dktX2_begins_1 : List UInt8 := dkwX2_begins_1 ++ []
def dkwX2_begins_0 : List UInt8 := [42, 180, 0, 12, 185, 0, 108, 1, 0, 61, 42, 180, 0, 12, 43, 185, 0, 41, 2, 0, 87, 42, 7, 3]
abbrev dktX2_begins_0 : List UInt8 := dkwX2_begins_0 ++ dktX2_begins_1
theorem dksX2_begins_0 : cX2_begins.data.toList.drop 0 = dktX2_begins_0 := by decide +kernel
theorem dksX2_begins_1 : cX2_begins.data.toList.drop 24 = dktX2_begins_1 := dk_seg dksX2_begins_0 24 rfl rfl
theorem dX2_begins_0 : decode cX2_begins 0 = .ok (.aload_n 0, 1) := dk_42 (dk_at dksX2_begins_0 0 rfl rfl)
theorem dX2_begins_1 : decode cX2_begins 1 = .ok (.getfield 12, 3) := dk_180 0 12 (dk_at dksX2_begins_0 1 rfl rfl)
theorem dX2_begins_4 : decode cX2_begins 4 = .ok (.invokeinterface 108 1, 5) := by decide +kernel
theorem dX2_begins_9 : decode cX2_begins 9 = .ok (.istore_n 2, 1) := dk_61 (dk_at dksX2_begins_0 9 rfl rfl)
theorem dX2_begins_10 : decode cX2_begins 10 = .ok (.aload_n 0, 1) := dk_42 (dk_at dksX2_begins_0 10 rfl rfl)
theorem dX2_begins_11 : decode cX2_begins 11 = .ok (.getfield 12, 3) := dk_180 0 12 (dk_at dksX2_begins_0 11 rfl rfl)
theorem dX2_begins_14 : decode cX2_begins 14 = .ok (.aload_n 1, 1) := dk_43 (dk_at dksX2_begins_0 14 rfl rfl)
theorem dX2_begins_15 : decode cX2_begins 15 = .ok (.invokeinterface 41 2, 5) := by decide +kernel
theorem dX2_begins_20 : decode cX2_begins 20 = .ok (.pop, 1) := dk_87 (dk_at dksX2_begins_0 20 rfl rfl)
theorem dX2_begins_21 : decode cX2_begins 21 = .ok (.aload_n 0, 1) := dk_42 (dk_at dksX2_begins_0 21 rfl rfl)
theorem dX2_begins_22 : decode cX2_begins 22 = .ok (.iconst 4, 1) := dk_7 (dk_at dksX2_begins_0 22 rfl rfl)
theorem dX2_begins_23 : decode cX2_begins 23 = .ok (.iconst 0, 1) := dk_3 (dk_at dksX2_begins_0 23 rfl rfl)
theorem dX2_begins_24 : decode cX2_begins 24 = .ok (.iload_n 2, 1) := dk_28 (dk_at dksX2_begins_1 0 rfl rfl)
theorem dX2_begins_25 : decode cX2_begins 25 = .ok (.invokevirtual 167, 3) := dk_182 0 167 (dk_at dksX2_begins_1 1 rfl rfl)
theorem dX2_begins_28 : decode cX2_begins 28 = .ok (.aload_n 0, 1) := dk_42 (dk_at dksX2_begins_1 4 rfl rfl)
theorem dX2_begins_29 : decode cX2_begins 29 = .ok (.getstatic 206, 3) := dk_178 0 206 (dk_at dksX2_begins_1 5 rfl rfl)
theorem dX2_begins_32 : decode cX2_begins 32 = .ok (.iload_n 2, 1) := dk_28 (dk_at dksX2_begins_1 8 rfl rfl)
theorem dX2_begins_33 : decode cX2_begins 33 = .ok (.invokevirtual 193, 3) := dk_182 0 193 (dk_at dksX2_begins_1 9 rfl rfl)
theorem dX2_begins_36 : decode cX2_begins 36 = .ok (.iload_n 2, 1) := dk_28 (dk_at dksX2_begins_1 12 rfl rfl)
theorem dX2_begins_37 : decode cX2_begins 37 = .ok (.ireturn, 1) := dk_172 (dk_at dksX2_begins_1 13 rfl rfl)
abbrev cX2_canGiveUp : ByteArray := prog_16_method_29_code
def yX2_canGiveUp : MethodName := ⟨RX2, "canGiveUp", "(I)Z"⟩
def dkwX2_canGiveUp_1 : List UInt8 := [182, 0, 197, 153, 0, 7, 4, 167, 0, 4, 3, 172]
abbrev dktX2_canGiveUp_1 : List UInt8 := dkwX2_canGiveUp_1 ++ []
def dkwX2_canGiveUp_0 : List UInt8 := [27, 42, 180, 0, 12, 185, 0, 108, 1, 0, 162, 0, 23, 42, 7, 182, 0, 131, 153, 0, 15, 42, 27]
abbrev dktX2_canGiveUp_0 : List UInt8 := dkwX2_canGiveUp_0 ++ dktX2_canGiveUp_1
theorem dksX2_canGiveUp_0 : cX2_canGiveUp.data.toList.drop 0 = dktX2_canGiveUp_0 := by decide +kernel
theorem dksX2_canGiveUp_1 : cX2_canGiveUp.data.toList.drop 23 = dktX2_canGiveUp_1 := dk_seg dksX2_canGiveUp_0 23 rfl rfl
theorem dX2_canGiveUp_0 : decode cX2_canGiveUp 0 = .ok (.iload_n 1, 1) := dk_27 (dk_at dksX2_canGiveUp_0 0 rfl rfl)
theorem dX2_canGiveUp_1 : decode cX2_canGiveUp 1 = .ok (.aload_n 0, 1) := dk_42 (dk_at dksX2_canGiveUp_0 1 rfl rfl)
theorem dX2_canGiveUp_2 : decode cX2_canGiveUp 2 = .ok (.getfield 12, 3) := dk_180 0 12 (dk_at dksX2_canGiveUp_0 2 rfl rfl)
theorem dX2_canGiveUp_5 : decode cX2_canGiveUp 5 = .ok (.invokeinterface 108 1, 5) := by decide +kernel
theorem dX2_canGiveUp_10 : decode cX2_canGiveUp 10 = .ok (.if_icmp .ge 23, 3) := dk_162 0 23 (dk_at dksX2_canGiveUp_0 10 rfl rfl)
theorem dX2_canGiveUp_13 : decode cX2_canGiveUp 13 = .ok (.aload_n 0, 1) := dk_42 (dk_at dksX2_canGiveUp_0 13 rfl rfl)
theorem dX2_canGiveUp_14 : decode cX2_canGiveUp 14 = .ok (.iconst 4, 1) := dk_7 (dk_at dksX2_canGiveUp_0 14 rfl rfl)
theorem dX2_canGiveUp_15 : decode cX2_canGiveUp 15 = .ok (.invokevirtual 131, 3) := dk_182 0 131 (dk_at dksX2_canGiveUp_0 15 rfl rfl)
theorem dX2_canGiveUp_18 : decode cX2_canGiveUp 18 = .ok (.ifCond .eq 15, 3) := dk_153 0 15 (dk_at dksX2_canGiveUp_0 18 rfl rfl)
theorem dX2_canGiveUp_21 : decode cX2_canGiveUp 21 = .ok (.aload_n 0, 1) := dk_42 (dk_at dksX2_canGiveUp_0 21 rfl rfl)
theorem dX2_canGiveUp_22 : decode cX2_canGiveUp 22 = .ok (.iload_n 1, 1) := dk_27 (dk_at dksX2_canGiveUp_0 22 rfl rfl)
theorem dX2_canGiveUp_23 : decode cX2_canGiveUp 23 = .ok (.invokevirtual 197, 3) := dk_182 0 197 (dk_at dksX2_canGiveUp_1 0 rfl rfl)
theorem dX2_canGiveUp_26 : decode cX2_canGiveUp 26 = .ok (.ifCond .eq 7, 3) := dk_153 0 7 (dk_at dksX2_canGiveUp_1 3 rfl rfl)
theorem dX2_canGiveUp_29 : decode cX2_canGiveUp 29 = .ok (.iconst 1, 1) := dk_4 (dk_at dksX2_canGiveUp_1 6 rfl rfl)
theorem dX2_canGiveUp_30 : decode cX2_canGiveUp 30 = .ok (.goto 4, 3) := dk_167 0 4 (dk_at dksX2_canGiveUp_1 7 rfl rfl)
theorem dX2_canGiveUp_33 : decode cX2_canGiveUp 33 = .ok (.iconst 0, 1) := dk_3 (dk_at dksX2_canGiveUp_1 10 rfl rfl)
theorem dX2_canGiveUp_34 : decode cX2_canGiveUp 34 = .ok (.ireturn, 1) := dk_172 (dk_at dksX2_canGiveUp_1 11 rfl rfl)
abbrev cX2_givesUp : ByteArray := prog_16_method_30_code
def yX2_givesUp : MethodName := ⟨RX2, "givesUp", "(I)I"⟩
def dkwX2_givesUp_0 : List UInt8 := [42, 27, 5, 182, 0, 200, 42, 180, 0, 21, 185, 0, 108, 1, 0, 172]
abbrev dktX2_givesUp_0 : List UInt8 := dkwX2_givesUp_0 ++ []
theorem dksX2_givesUp_0 : cX2_givesUp.data.toList.drop 0 = dktX2_givesUp_0 := by decide +kernel
theorem dX2_givesUp_0 : decode cX2_givesUp 0 = .ok (.aload_n 0, 1) := dk_42 (dk_at dksX2_givesUp_0 0 rfl rfl)
theorem dX2_givesUp_1 : decode cX2_givesUp 1 = .ok (.iload_n 1, 1) := dk_27 (dk_at dksX2_givesUp_0 1 rfl rfl)
theorem dX2_givesUp_2 : decode cX2_givesUp 2 = .ok (.iconst 2, 1) := dk_5 (dk_at dksX2_givesUp_0 2 rfl rfl)
theorem dX2_givesUp_3 : decode cX2_givesUp 3 = .ok (.invokevirtual 200, 3) := dk_182 0 200 (dk_at dksX2_givesUp_0 3 rfl rfl)
theorem dX2_givesUp_6 : decode cX2_givesUp 6 = .ok (.aload_n 0, 1) := dk_42 (dk_at dksX2_givesUp_0 6 rfl rfl)
theorem dX2_givesUp_7 : decode cX2_givesUp 7 = .ok (.getfield 21, 3) := dk_180 0 21 (dk_at dksX2_givesUp_0 7 rfl rfl)
theorem dX2_givesUp_10 : decode cX2_givesUp 10 = .ok (.invokeinterface 108 1, 5) := by decide +kernel
theorem dX2_givesUp_15 : decode cX2_givesUp 15 = .ok (.ireturn, 1) := dk_172 (dk_at dksX2_givesUp_0 15 rfl rfl)
abbrev cX2_canAsk : ByteArray := prog_16_method_31_code
def yX2_canAsk : MethodName := ⟨RX2, "canAsk", "(II)Z"⟩
def dkwX2_canAsk_1 : List UInt8 := [182, 0, 156, 4, 160, 0, 7, 4, 167, 0, 4, 3, 172]
abbrev dktX2_canAsk_1 : List UInt8 := dkwX2_canAsk_1 ++ []
def dkwX2_canAsk_0 : List UInt8 := [28, 42, 180, 0, 12, 185, 0, 108, 1, 0, 162, 0, 25, 42, 27, 182, 0, 131, 153, 0, 17, 42, 27, 28]
abbrev dktX2_canAsk_0 : List UInt8 := dkwX2_canAsk_0 ++ dktX2_canAsk_1
theorem dksX2_canAsk_0 : cX2_canAsk.data.toList.drop 0 = dktX2_canAsk_0 := by decide +kernel
theorem dksX2_canAsk_1 : cX2_canAsk.data.toList.drop 24 = dktX2_canAsk_1 := dk_seg dksX2_canAsk_0 24 rfl rfl
theorem dX2_canAsk_0 : decode cX2_canAsk 0 = .ok (.iload_n 2, 1) := dk_28 (dk_at dksX2_canAsk_0 0 rfl rfl)
theorem dX2_canAsk_1 : decode cX2_canAsk 1 = .ok (.aload_n 0, 1) := dk_42 (dk_at dksX2_canAsk_0 1 rfl rfl)
theorem dX2_canAsk_2 : decode cX2_canAsk 2 = .ok (.getfield 12, 3) := dk_180 0 12 (dk_at dksX2_canAsk_0 2 rfl rfl)
theorem dX2_canAsk_5 : decode cX2_canAsk 5 = .ok (.invokeinterface 108 1, 5) := by decide +kernel
theorem dX2_canAsk_10 : decode cX2_canAsk 10 = .ok (.if_icmp .ge 25, 3) := dk_162 0 25 (dk_at dksX2_canAsk_0 10 rfl rfl)
theorem dX2_canAsk_13 : decode cX2_canAsk 13 = .ok (.aload_n 0, 1) := dk_42 (dk_at dksX2_canAsk_0 13 rfl rfl)
theorem dX2_canAsk_14 : decode cX2_canAsk 14 = .ok (.iload_n 1, 1) := dk_27 (dk_at dksX2_canAsk_0 14 rfl rfl)
theorem dX2_canAsk_15 : decode cX2_canAsk 15 = .ok (.invokevirtual 131, 3) := dk_182 0 131 (dk_at dksX2_canAsk_0 15 rfl rfl)
theorem dX2_canAsk_18 : decode cX2_canAsk 18 = .ok (.ifCond .eq 17, 3) := dk_153 0 17 (dk_at dksX2_canAsk_0 18 rfl rfl)
theorem dX2_canAsk_21 : decode cX2_canAsk 21 = .ok (.aload_n 0, 1) := dk_42 (dk_at dksX2_canAsk_0 21 rfl rfl)
theorem dX2_canAsk_22 : decode cX2_canAsk 22 = .ok (.iload_n 1, 1) := dk_27 (dk_at dksX2_canAsk_0 22 rfl rfl)
theorem dX2_canAsk_23 : decode cX2_canAsk 23 = .ok (.iload_n 2, 1) := dk_28 (dk_at dksX2_canAsk_0 23 rfl rfl)
theorem dX2_canAsk_24 : decode cX2_canAsk 24 = .ok (.invokevirtual 156, 3) := dk_182 0 156 (dk_at dksX2_canAsk_1 0 rfl rfl)
theorem dX2_canAsk_27 : decode cX2_canAsk 27 = .ok (.iconst 1, 1) := dk_4 (dk_at dksX2_canAsk_1 3 rfl rfl)
theorem dX2_canAsk_28 : decode cX2_canAsk 28 = .ok (.if_icmp .ne 7, 3) := dk_160 0 7 (dk_at dksX2_canAsk_1 4 rfl rfl)
theorem dX2_canAsk_31 : decode cX2_canAsk 31 = .ok (.iconst 1, 1) := dk_4 (dk_at dksX2_canAsk_1 7 rfl rfl)
theorem dX2_canAsk_32 : decode cX2_canAsk 32 = .ok (.goto 4, 3) := dk_167 0 4 (dk_at dksX2_canAsk_1 8 rfl rfl)
theorem dX2_canAsk_35 : decode cX2_canAsk 35 = .ok (.iconst 0, 1) := dk_3 (dk_at dksX2_canAsk_1 11 rfl rfl)
theorem dX2_canAsk_36 : decode cX2_canAsk 36 = .ok (.ireturn, 1) := dk_172 (dk_at dksX2_canAsk_1 12 rfl rfl)
abbrev cX2_asks : ByteArray := prog_16_method_32_code
def yX2_asks : MethodName := ⟨RX2, "asks", "(II)I"⟩
def dkwX2_asks_0 : List UInt8 := [42, 178, 0, 209, 28, 27, 182, 0, 122, 42, 180, 0, 21, 185, 0, 108, 1, 0, 172]
abbrev dktX2_asks_0 : List UInt8 := dkwX2_asks_0 ++ []
theorem dksX2_asks_0 : cX2_asks.data.toList.drop 0 = dktX2_asks_0 := by decide +kernel
theorem dX2_asks_0 : decode cX2_asks 0 = .ok (.aload_n 0, 1) := dk_42 (dk_at dksX2_asks_0 0 rfl rfl)
theorem dX2_asks_1 : decode cX2_asks 1 = .ok (.getstatic 209, 3) := dk_178 0 209 (dk_at dksX2_asks_0 1 rfl rfl)
theorem dX2_asks_4 : decode cX2_asks 4 = .ok (.iload_n 2, 1) := dk_28 (dk_at dksX2_asks_0 4 rfl rfl)
theorem dX2_asks_5 : decode cX2_asks 5 = .ok (.iload_n 1, 1) := dk_27 (dk_at dksX2_asks_0 5 rfl rfl)
theorem dX2_asks_6 : decode cX2_asks 6 = .ok (.invokevirtual 122, 3) := dk_182 0 122 (dk_at dksX2_asks_0 6 rfl rfl)
theorem dX2_asks_9 : decode cX2_asks 9 = .ok (.aload_n 0, 1) := dk_42 (dk_at dksX2_asks_0 9 rfl rfl)
theorem dX2_asks_10 : decode cX2_asks 10 = .ok (.getfield 21, 3) := dk_180 0 21 (dk_at dksX2_asks_0 10 rfl rfl)
theorem dX2_asks_13 : decode cX2_asks 13 = .ok (.invokeinterface 108 1, 5) := by decide +kernel
theorem dX2_asks_18 : decode cX2_asks 18 = .ok (.ireturn, 1) := dk_172 (dk_at dksX2_asks_0 18 rfl rfl)
abbrev cX2_loses : ByteArray := prog_16_method_16_code
def yX2_loses : MethodName := ⟨RX2, "loses", "(I)I"⟩
def dkwX2_loses_1 : List UInt8 := [180, 0, 135, 182, 0, 150, 172]
abbrev dktX2_loses_1 : List UInt8 := dkwX2_loses_1 ++ []
def dkwX2_loses_0 : List UInt8 := [42, 89, 180, 0, 78, 4, 96, 181, 0, 78, 42, 180, 0, 21, 27, 185, 0, 125, 2, 0, 192, 0, 112]
abbrev dktX2_loses_0 : List UInt8 := dkwX2_loses_0 ++ dktX2_loses_1
theorem dksX2_loses_0 : cX2_loses.data.toList.drop 0 = dktX2_loses_0 := by decide +kernel
theorem dksX2_loses_1 : cX2_loses.data.toList.drop 23 = dktX2_loses_1 := dk_seg dksX2_loses_0 23 rfl rfl
theorem dX2_loses_0 : decode cX2_loses 0 = .ok (.aload_n 0, 1) := dk_42 (dk_at dksX2_loses_0 0 rfl rfl)
theorem dX2_loses_1 : decode cX2_loses 1 = .ok (.dup, 1) := dk_89 (dk_at dksX2_loses_0 1 rfl rfl)
theorem dX2_loses_2 : decode cX2_loses 2 = .ok (.getfield 78, 3) := dk_180 0 78 (dk_at dksX2_loses_0 2 rfl rfl)
theorem dX2_loses_5 : decode cX2_loses 5 = .ok (.iconst 1, 1) := dk_4 (dk_at dksX2_loses_0 5 rfl rfl)
theorem dX2_loses_6 : decode cX2_loses 6 = .ok (.iadd, 1) := dk_96 (dk_at dksX2_loses_0 6 rfl rfl)
theorem dX2_loses_7 : decode cX2_loses 7 = .ok (.putfield 78, 3) := dk_181 0 78 (dk_at dksX2_loses_0 7 rfl rfl)
theorem dX2_loses_10 : decode cX2_loses 10 = .ok (.aload_n 0, 1) := dk_42 (dk_at dksX2_loses_0 10 rfl rfl)
theorem dX2_loses_11 : decode cX2_loses 11 = .ok (.getfield 21, 3) := dk_180 0 21 (dk_at dksX2_loses_0 11 rfl rfl)
theorem dX2_loses_14 : decode cX2_loses 14 = .ok (.iload_n 1, 1) := dk_27 (dk_at dksX2_loses_0 14 rfl rfl)
theorem dX2_loses_15 : decode cX2_loses 15 = .ok (.invokeinterface 125 2, 5) := by decide +kernel
theorem dX2_loses_20 : decode cX2_loses 20 = .ok (.checkcast 112, 3) := dk_192 0 112 (dk_at dksX2_loses_0 20 rfl rfl)
theorem dX2_loses_23 : decode cX2_loses 23 = .ok (.getfield 135, 3) := dk_180 0 135 (dk_at dksX2_loses_1 0 rfl rfl)
theorem dX2_loses_26 : decode cX2_loses 26 = .ok (.invokevirtual 150, 3) := dk_182 0 150 (dk_at dksX2_loses_1 3 rfl rfl)
theorem dX2_loses_29 : decode cX2_loses 29 = .ok (.ireturn, 1) := dk_172 (dk_at dksX2_loses_1 6 rfl rfl)
abbrev cX2_crashes : ByteArray := prog_16_method_33_code
def yX2_crashes : MethodName := ⟨RX2, "crashes", "(I)I"⟩
def dkwX2_crashes_2 : List UInt8 := [180, 0, 24, 184, 0, 212, 172]
abbrev dktX2_crashes_2 : List UInt8 := dkwX2_crashes_2 ++ []
def dkwX2_crashes_1 : List UInt8 := [160, 0, 23, 42, 180, 0, 35, 28, 3, 79, 42, 180, 0, 38, 28, 3, 79, 132, 2, 1, 167, 255, 228, 42]
abbrev dktX2_crashes_1 : List UInt8 := dkwX2_crashes_1 ++ dktX2_crashes_2
def dkwX2_crashes_0 : List UInt8 := [42, 89, 180, 0, 24, 4, 27, 120, 2, 130, 126, 181, 0, 24, 3, 61, 28, 16, 8, 162, 0, 28, 27, 7]
abbrev dktX2_crashes_0 : List UInt8 := dkwX2_crashes_0 ++ dktX2_crashes_1
theorem dksX2_crashes_0 : cX2_crashes.data.toList.drop 0 = dktX2_crashes_0 := by decide +kernel
theorem dksX2_crashes_1 : cX2_crashes.data.toList.drop 24 = dktX2_crashes_1 := dk_seg dksX2_crashes_0 24 rfl rfl
theorem dksX2_crashes_2 : cX2_crashes.data.toList.drop 48 = dktX2_crashes_2 := dk_seg dksX2_crashes_1 24 rfl rfl
theorem dX2_crashes_0 : decode cX2_crashes 0 = .ok (.aload_n 0, 1) := dk_42 (dk_at dksX2_crashes_0 0 rfl rfl)
theorem dX2_crashes_1 : decode cX2_crashes 1 = .ok (.dup, 1) := dk_89 (dk_at dksX2_crashes_0 1 rfl rfl)
theorem dX2_crashes_2 : decode cX2_crashes 2 = .ok (.getfield 24, 3) := dk_180 0 24 (dk_at dksX2_crashes_0 2 rfl rfl)
theorem dX2_crashes_5 : decode cX2_crashes 5 = .ok (.iconst 1, 1) := dk_4 (dk_at dksX2_crashes_0 5 rfl rfl)
theorem dX2_crashes_6 : decode cX2_crashes 6 = .ok (.iload_n 1, 1) := dk_27 (dk_at dksX2_crashes_0 6 rfl rfl)
theorem dX2_crashes_7 : decode cX2_crashes 7 = .ok (.ishl, 1) := dk_120 (dk_at dksX2_crashes_0 7 rfl rfl)
theorem dX2_crashes_8 : decode cX2_crashes 8 = .ok (.iconst (-1), 1) := dk_2 (dk_at dksX2_crashes_0 8 rfl rfl)
theorem dX2_crashes_9 : decode cX2_crashes 9 = .ok (.ixor, 1) := dk_130 (dk_at dksX2_crashes_0 9 rfl rfl)
theorem dX2_crashes_10 : decode cX2_crashes 10 = .ok (.iand, 1) := dk_126 (dk_at dksX2_crashes_0 10 rfl rfl)
theorem dX2_crashes_11 : decode cX2_crashes 11 = .ok (.putfield 24, 3) := dk_181 0 24 (dk_at dksX2_crashes_0 11 rfl rfl)
theorem dX2_crashes_14 : decode cX2_crashes 14 = .ok (.iconst 0, 1) := dk_3 (dk_at dksX2_crashes_0 14 rfl rfl)
theorem dX2_crashes_15 : decode cX2_crashes 15 = .ok (.istore_n 2, 1) := dk_61 (dk_at dksX2_crashes_0 15 rfl rfl)
theorem dX2_crashes_16 : decode cX2_crashes 16 = .ok (.iload_n 2, 1) := dk_28 (dk_at dksX2_crashes_0 16 rfl rfl)
theorem dX2_crashes_17 : decode cX2_crashes 17 = .ok (.bipush 8, 2) := dk_16 8 (dk_at dksX2_crashes_0 17 rfl rfl)
theorem dX2_crashes_19 : decode cX2_crashes 19 = .ok (.if_icmp .ge 28, 3) := dk_162 0 28 (dk_at dksX2_crashes_0 19 rfl rfl)
theorem dX2_crashes_22 : decode cX2_crashes 22 = .ok (.iload_n 1, 1) := dk_27 (dk_at dksX2_crashes_0 22 rfl rfl)
theorem dX2_crashes_23 : decode cX2_crashes 23 = .ok (.iconst 4, 1) := dk_7 (dk_at dksX2_crashes_0 23 rfl rfl)
theorem dX2_crashes_24 : decode cX2_crashes 24 = .ok (.if_icmp .ne 23, 3) := dk_160 0 23 (dk_at dksX2_crashes_1 0 rfl rfl)
theorem dX2_crashes_27 : decode cX2_crashes 27 = .ok (.aload_n 0, 1) := dk_42 (dk_at dksX2_crashes_1 3 rfl rfl)
theorem dX2_crashes_28 : decode cX2_crashes 28 = .ok (.getfield 35, 3) := dk_180 0 35 (dk_at dksX2_crashes_1 4 rfl rfl)
theorem dX2_crashes_31 : decode cX2_crashes 31 = .ok (.iload_n 2, 1) := dk_28 (dk_at dksX2_crashes_1 7 rfl rfl)
theorem dX2_crashes_32 : decode cX2_crashes 32 = .ok (.iconst 0, 1) := dk_3 (dk_at dksX2_crashes_1 8 rfl rfl)
theorem dX2_crashes_33 : decode cX2_crashes 33 = .ok (.iastore, 1) := dk_79 (dk_at dksX2_crashes_1 9 rfl rfl)
theorem dX2_crashes_34 : decode cX2_crashes 34 = .ok (.aload_n 0, 1) := dk_42 (dk_at dksX2_crashes_1 10 rfl rfl)
theorem dX2_crashes_35 : decode cX2_crashes 35 = .ok (.getfield 38, 3) := dk_180 0 38 (dk_at dksX2_crashes_1 11 rfl rfl)
theorem dX2_crashes_38 : decode cX2_crashes 38 = .ok (.iload_n 2, 1) := dk_28 (dk_at dksX2_crashes_1 14 rfl rfl)
theorem dX2_crashes_39 : decode cX2_crashes 39 = .ok (.iconst 0, 1) := dk_3 (dk_at dksX2_crashes_1 15 rfl rfl)
theorem dX2_crashes_40 : decode cX2_crashes 40 = .ok (.iastore, 1) := dk_79 (dk_at dksX2_crashes_1 16 rfl rfl)
theorem dX2_crashes_41 : decode cX2_crashes 41 = .ok (.iinc 2 1, 3) := dk_132 2 1 (dk_at dksX2_crashes_1 17 rfl rfl)
theorem dX2_crashes_44 : decode cX2_crashes 44 = .ok (.goto (-28), 3) := dk_167 255 228 (dk_at dksX2_crashes_1 20 rfl rfl)
theorem dX2_crashes_47 : decode cX2_crashes 47 = .ok (.aload_n 0, 1) := dk_42 (dk_at dksX2_crashes_1 23 rfl rfl)
theorem dX2_crashes_48 : decode cX2_crashes 48 = .ok (.getfield 24, 3) := dk_180 0 24 (dk_at dksX2_crashes_2 0 rfl rfl)
theorem dX2_crashes_51 : decode cX2_crashes 51 = .ok (.invokestatic 212, 3) := dk_184 0 212 (dk_at dksX2_crashes_2 3 rfl rfl)
theorem dX2_crashes_54 : decode cX2_crashes 54 = .ok (.ireturn, 1) := dk_172 (dk_at dksX2_crashes_2 6 rfl rfl)
theorem q97 : (Jvm.Cond.initialized "VoteLogs$Town") ∈ lw_all := lw_g (lw_at lw_m1 8 rfl) rfl
theorem q192 : (Jvm.Cond.instantiable "VoteLogs$Town" (11 : Nat)) ∈ lw_all := lw_g (lw_at lw_m1 103 rfl) rfl
theorem q194 : (Jvm.Cond.instanceMethod ({ cls := "VoteLogs$Town", name := "<init>", desc := "()V" } : Jvm.MethodName)) ∈ lw_all := lw_g (lw_at lw_m1 105 rfl) rfl
theorem q195 : (Jvm.Cond.code ({ cls := "VoteLogs$Town", name := "<init>", desc := "()V" } : Jvm.MethodName) prog_16_method_1_code (2 : Nat) (Option.none : Option Jvm.ClassFile.FieldType)) ∈ lw_all := lw_g (lw_at lw_m1 106 rfl) rfl
theorem q196 : (Jvm.Cond.methodLink "VoteLogs$Town" (3 : Nat) ({ cls := "java/lang/Object", name := "<init>", desc := "()V" } : Jvm.MethodName)) ∈ lw_all := lw_g (lw_at lw_m1 107 rfl) rfl
theorem q197 : (Jvm.Cond.classLink "VoteLogs$Town" (9 : Nat) "java/util/ArrayList") ∈ lw_all := lw_g (lw_at lw_m1 108 rfl) rfl
theorem q199 : (Jvm.Cond.methodLink "VoteLogs$Town" (11 : Nat) ({ cls := "java/util/ArrayList", name := "<init>", desc := "()V" } : Jvm.MethodName)) ∈ lw_all := lw_g (lw_at lw_m1 110 rfl) rfl
theorem q223 : (Jvm.Cond.interfaceEntry "VoteLogs$Town" (41 : Nat)) ∈ lw_tbl := lw_at lw_m1 134 rfl
theorem q224 : (Jvm.Cond.methodLink "VoteLogs$Town" (41 : Nat) ({ cls := "java/util/List", name := "add", desc := "(Ljava/lang/Object;)Z" } : Jvm.MethodName)) ∈ lw_all := lw_g (lw_at lw_m1 135 rfl) rfl
theorem q274 : (Jvm.Cond.selects "VoteLogs$Town" ({ cls := "java/lang/Object", name := "getClass", desc := "()Ljava/lang/Class;" } : Jvm.MethodName) ({ cls := "java/lang/Object", name := "getClass", desc := "()Ljava/lang/Class;" } : Jvm.MethodName)) ∈ lw_all := lw_g (lw_at lw_m1 185 rfl) rfl
theorem q301 : (Jvm.Cond.fieldLink "VoteLogs$Town" (12 : Nat) "VoteLogs$Town" "transfers" "Ljava/util/List;") ∈ lw_all := lw_g (lw_at lw_m1 212 rfl) rfl
theorem q303 : (Jvm.Cond.fieldLink "VoteLogs$Town" (18 : Nat) "VoteLogs$Town" "logs" "Ljava/util/List;") ∈ lw_all := lw_g (lw_at lw_m1 214 rfl) rfl
theorem q305 : (Jvm.Cond.fieldLink "VoteLogs$Town" (21 : Nat) "VoteLogs$Town" "row" "Ljava/util/List;") ∈ lw_all := lw_g (lw_at lw_m1 216 rfl) rfl
theorem q307 : (Jvm.Cond.fieldLink "VoteLogs$Town" (28 : Nat) "VoteLogs$Town" "amounts" "[I") ∈ lw_all := lw_g (lw_at lw_m1 218 rfl) rfl
theorem q309 : (Jvm.Cond.fieldLink "VoteLogs$Town" (32 : Nat) "VoteLogs$Town" "states" "[I") ∈ lw_all := lw_g (lw_at lw_m1 220 rfl) rfl
theorem q310 : (Jvm.Cond.fieldLink "VoteLogs$Town" (35 : Nat) "VoteLogs$Town" "yes" "[I") ∈ lw_all := lw_g (lw_at lw_m1 221 rfl) rfl
theorem q312 : (Jvm.Cond.fieldLink "VoteLogs$Town" (38 : Nat) "VoteLogs$Town" "done" "[I") ∈ lw_all := lw_g (lw_at lw_m1 223 rfl) rfl
theorem q314 : (Jvm.Cond.fieldLink "VoteLogs$Town" (24 : Nat) "VoteLogs$Town" "up" "I") ∈ lw_all := lw_g (lw_at lw_m1 225 rfl) rfl
theorem q315 : (Jvm.Cond.fieldLink "VoteLogs$Town" (72 : Nat) "VoteLogs$Town" "sent" "I") ∈ lw_all := lw_g (lw_at lw_m1 226 rfl) rfl
theorem q317 : (Jvm.Cond.fieldLink "VoteLogs$Town" (75 : Nat) "VoteLogs$Town" "handled" "I") ∈ lw_all := lw_g (lw_at lw_m1 228 rfl) rfl
theorem q319 : (Jvm.Cond.fieldLink "VoteLogs$Town" (78 : Nat) "VoteLogs$Town" "lost" "I") ∈ lw_all := lw_g (lw_at lw_m1 230 rfl) rfl
theorem q321 : (Jvm.Cond.laysFinal "VoteLogs$Town" "VoteLogs$Town" "transfers" "Ljava/util/List;") ∈ lw_all := lw_g (lw_at lw_m1 232 rfl) rfl
theorem q322 : (Jvm.Cond.soleField "VoteLogs$Town" "transfers") ∈ lw_all := lw_g (lw_at lw_m1 233 rfl) rfl
theorem q323 : (Jvm.Cond.laysFinal "VoteLogs$Town" "VoteLogs$Town" "logs" "Ljava/util/List;") ∈ lw_all := lw_g (lw_at lw_m1 234 rfl) rfl
theorem q324 : (Jvm.Cond.soleField "VoteLogs$Town" "logs") ∈ lw_all := lw_g (lw_at lw_m1 235 rfl) rfl
theorem q325 : (Jvm.Cond.laysFinal "VoteLogs$Town" "VoteLogs$Town" "row" "Ljava/util/List;") ∈ lw_all := lw_g (lw_at lw_m1 236 rfl) rfl
theorem q326 : (Jvm.Cond.soleField "VoteLogs$Town" "row") ∈ lw_all := lw_g (lw_at lw_m1 237 rfl) rfl
theorem q327 : (Jvm.Cond.laysFinal "VoteLogs$Town" "VoteLogs$Town" "amounts" "[I") ∈ lw_all := lw_g (lw_at lw_m1 238 rfl) rfl
theorem q328 : (Jvm.Cond.soleField "VoteLogs$Town" "amounts") ∈ lw_all := lw_g (lw_at lw_m1 239 rfl) rfl
theorem q329 : (Jvm.Cond.laysFinal "VoteLogs$Town" "VoteLogs$Town" "states" "[I") ∈ lw_all := lw_g (lw_at lw_m2 0 rfl) rfl
theorem q330 : (Jvm.Cond.soleField "VoteLogs$Town" "states") ∈ lw_all := lw_g (lw_at lw_m2 1 rfl) rfl
theorem q331 : (Jvm.Cond.laysFinal "VoteLogs$Town" "VoteLogs$Town" "yes" "[I") ∈ lw_all := lw_g (lw_at lw_m2 2 rfl) rfl
theorem q332 : (Jvm.Cond.soleField "VoteLogs$Town" "yes") ∈ lw_all := lw_g (lw_at lw_m2 3 rfl) rfl
theorem q333 : (Jvm.Cond.laysFinal "VoteLogs$Town" "VoteLogs$Town" "done" "[I") ∈ lw_all := lw_g (lw_at lw_m2 4 rfl) rfl
theorem q334 : (Jvm.Cond.soleField "VoteLogs$Town" "done") ∈ lw_all := lw_g (lw_at lw_m2 5 rfl) rfl
theorem q335 : (Jvm.Cond.lays "VoteLogs$Town" "VoteLogs$Town" "up" "I") ∈ lw_all := lw_g (lw_at lw_m2 6 rfl) rfl
theorem q336 : (Jvm.Cond.soleField "VoteLogs$Town" "up") ∈ lw_all := lw_g (lw_at lw_m2 7 rfl) rfl
theorem q337 : (Jvm.Cond.lays "VoteLogs$Town" "VoteLogs$Town" "sent" "I") ∈ lw_all := lw_g (lw_at lw_m2 8 rfl) rfl
theorem q338 : (Jvm.Cond.soleField "VoteLogs$Town" "sent") ∈ lw_all := lw_g (lw_at lw_m2 9 rfl) rfl
theorem q339 : (Jvm.Cond.lays "VoteLogs$Town" "VoteLogs$Town" "handled" "I") ∈ lw_all := lw_g (lw_at lw_m2 10 rfl) rfl
theorem q340 : (Jvm.Cond.soleField "VoteLogs$Town" "handled") ∈ lw_all := lw_g (lw_at lw_m2 11 rfl) rfl
theorem q341 : (Jvm.Cond.lays "VoteLogs$Town" "VoteLogs$Town" "lost" "I") ∈ lw_all := lw_g (lw_at lw_m2 12 rfl) rfl
theorem q342 : (Jvm.Cond.soleField "VoteLogs$Town" "lost") ∈ lw_all := lw_g (lw_at lw_m2 13 rfl) rfl
theorem q343 : (Jvm.Cond.superclass "VoteLogs$Town" "java/lang/Object") ∈ lw_all := lw_g (lw_at lw_m2 14 rfl) rfl
theorem q389 : (Jvm.Cond.instanceMethod ({ cls := "VoteLogs$Town", name := "<init>", desc := "(LVoteLogs$Town;)V" } : Jvm.MethodName)) ∈ lw_all := lw_g (lw_at lw_m2 60 rfl) rfl
theorem q390 : (Jvm.Cond.code ({ cls := "VoteLogs$Town", name := "<init>", desc := "(LVoteLogs$Town;)V" } : Jvm.MethodName) prog_16_method_2_code (4 : Nat) (Option.none : Option Jvm.ClassFile.FieldType)) ∈ lw_all := lw_g (lw_at lw_m2 61 rfl) rfl
theorem q391 : (Jvm.Cond.interfaceEntry "VoteLogs$Town" (47 : Nat)) ∈ lw_tbl := lw_at lw_m2 62 rfl
theorem q392 : (Jvm.Cond.methodLink "VoteLogs$Town" (47 : Nat) ({ cls := "java/util/List", name := "addAll", desc := "(Ljava/util/Collection;)Z" } : Jvm.MethodName)) ∈ lw_all := lw_g (lw_at lw_m2 63 rfl) rfl
theorem q687 : (Jvm.Cond.interfaceEntry "VoteLogs$Town" (51 : Nat)) ∈ lw_tbl := lw_at lw_m3 118 rfl
theorem q688 : (Jvm.Cond.methodLink "VoteLogs$Town" (51 : Nat) ({ cls := "java/util/List", name := "iterator", desc := "()Ljava/util/Iterator;" } : Jvm.MethodName)) ∈ lw_all := lw_g (lw_at lw_m3 119 rfl) rfl
theorem q715 : (Jvm.Cond.interfaceEntry "VoteLogs$Town" (55 : Nat)) ∈ lw_tbl := lw_at lw_m3 146 rfl
theorem q716 : (Jvm.Cond.methodLink "VoteLogs$Town" (55 : Nat) ({ cls := "java/util/Iterator", name := "hasNext", desc := "()Z" } : Jvm.MethodName)) ∈ lw_all := lw_g (lw_at lw_m3 147 rfl) rfl
theorem q725 : (Jvm.Cond.interfaceEntry "VoteLogs$Town" (61 : Nat)) ∈ lw_tbl := lw_at lw_m3 156 rfl
theorem q726 : (Jvm.Cond.methodLink "VoteLogs$Town" (61 : Nat) ({ cls := "java/util/Iterator", name := "next", desc := "()Ljava/lang/Object;" } : Jvm.MethodName)) ∈ lw_all := lw_g (lw_at lw_m3 157 rfl) rfl
theorem q738 : (Jvm.Cond.classLink "VoteLogs$Town" (42 : Nat) "java/util/List") ∈ lw_all := lw_g (lw_at lw_m3 169 rfl) rfl
theorem q739 : (Jvm.Cond.methodLink "VoteLogs$Town" (65 : Nat) ({ cls := "java/util/ArrayList", name := "<init>", desc := "(Ljava/util/Collection;)V" } : Jvm.MethodName)) ∈ lw_all := lw_g (lw_at lw_m3 170 rfl) rfl
theorem q754 : (Jvm.Cond.methodLink "VoteLogs$Town" (68 : Nat) ({ cls := "[I", name := "clone", desc := "()Ljava/lang/Object;" } : Jvm.MethodName)) ∈ lw_all := lw_g (lw_at lw_m3 185 rfl) rfl
theorem q758 : (Jvm.Cond.classLink "VoteLogs$Town" (69 : Nat) "[I") ∈ lw_all := lw_g (lw_at lw_m3 189 rfl) rfl
theorem q792 : (Jvm.Cond.instanceMethod ({ cls := "VoteLogs$Town", name := "deliversFirst", desc := "(I)I" } : Jvm.MethodName)) ∈ lw_all := lw_g (lw_at lw_m3 223 rfl) rfl
theorem q793 : (Jvm.Cond.selects "VoteLogs$Town" ({ cls := "VoteLogs$Town", name := "deliversFirst", desc := "(I)I" } : Jvm.MethodName) ({ cls := "VoteLogs$Town", name := "deliversFirst", desc := "(I)I" } : Jvm.MethodName)) ∈ lw_all := lw_g (lw_at lw_m3 224 rfl) rfl
theorem q794 : (Jvm.Cond.code ({ cls := "VoteLogs$Town", name := "deliversFirst", desc := "(I)I" } : Jvm.MethodName) prog_16_method_15_code (3 : Nat) (Option.some Jvm.ClassFile.FieldType.int)) ∈ lw_all := lw_g (lw_at lw_m3 225 rfl) rfl
theorem q795 : (Jvm.Cond.interfaceEntry "VoteLogs$Town" (144 : Nat)) ∈ lw_tbl := lw_at lw_m3 226 rfl
theorem q796 : (Jvm.Cond.methodLink "VoteLogs$Town" (144 : Nat) ({ cls := "java/util/List", name := "isEmpty", desc := "()Z" } : Jvm.MethodName)) ∈ lw_all := lw_g (lw_at lw_m3 227 rfl) rfl
theorem q804 : (Jvm.Cond.methodLink "VoteLogs$Town" (147 : Nat) ({ cls := "VoteLogs$Town", name := "delivers", desc := "(I)Z" } : Jvm.MethodName)) ∈ lw_all := lw_g (lw_at lw_m3 235 rfl) rfl
theorem q805 : (Jvm.Cond.instanceMethod ({ cls := "VoteLogs$Town", name := "delivers", desc := "(I)Z" } : Jvm.MethodName)) ∈ lw_all := lw_g (lw_at lw_m3 236 rfl) rfl
theorem q806 : (Jvm.Cond.selects "VoteLogs$Town" ({ cls := "VoteLogs$Town", name := "delivers", desc := "(I)Z" } : Jvm.MethodName) ({ cls := "VoteLogs$Town", name := "delivers", desc := "(I)Z" } : Jvm.MethodName)) ∈ lw_all := lw_g (lw_at lw_m3 237 rfl) rfl
theorem q807 : (Jvm.Cond.code ({ cls := "VoteLogs$Town", name := "delivers", desc := "(I)Z" } : Jvm.MethodName) prog_16_method_14_code (4 : Nat) (Option.some Jvm.ClassFile.FieldType.boolean)) ∈ lw_all := lw_g (lw_at lw_m3 238 rfl) rfl
theorem q808 : (Jvm.Cond.interfaceEntry "VoteLogs$Town" (125 : Nat)) ∈ lw_tbl := lw_at lw_m3 239 rfl
theorem q809 : (Jvm.Cond.methodLink "VoteLogs$Town" (125 : Nat) ({ cls := "java/util/List", name := "remove", desc := "(I)Ljava/lang/Object;" } : Jvm.MethodName)) ∈ lw_all := lw_g (lw_at lw_m4 0 rfl) rfl
theorem q827 : (Jvm.Cond.classLink "VoteLogs$Town" (112 : Nat) "VoteLogs$Message") ∈ lw_all := lw_g (lw_at lw_m4 18 rfl) rfl
theorem q828 : (Jvm.Cond.methodLink "VoteLogs$Town" (128 : Nat) ({ cls := "VoteLogs$Message", name := "receiver", desc := "()I" } : Jvm.MethodName)) ∈ lw_all := lw_g (lw_at lw_m4 19 rfl) rfl
theorem q832 : (Jvm.Cond.methodLink "VoteLogs$Town" (131 : Nat) ({ cls := "VoteLogs$Town", name := "isUp", desc := "(I)Z" } : Jvm.MethodName)) ∈ lw_all := lw_g (lw_at lw_m4 23 rfl) rfl
theorem q833 : (Jvm.Cond.instanceMethod ({ cls := "VoteLogs$Town", name := "isUp", desc := "(I)Z" } : Jvm.MethodName)) ∈ lw_all := lw_g (lw_at lw_m4 24 rfl) rfl
theorem q834 : (Jvm.Cond.selects "VoteLogs$Town" ({ cls := "VoteLogs$Town", name := "isUp", desc := "(I)Z" } : Jvm.MethodName) ({ cls := "VoteLogs$Town", name := "isUp", desc := "(I)Z" } : Jvm.MethodName)) ∈ lw_all := lw_g (lw_at lw_m4 25 rfl) rfl
theorem q835 : (Jvm.Cond.code ({ cls := "VoteLogs$Town", name := "isUp", desc := "(I)Z" } : Jvm.MethodName) prog_16_method_3_code (2 : Nat) (Option.some Jvm.ClassFile.FieldType.boolean)) ∈ lw_all := lw_g (lw_at lw_m4 26 rfl) rfl
theorem q836 : (Jvm.Cond.methodLinkNest "VoteLogs$Town" (81 : Nat) ({ cls := "VoteLogs", name := "has", desc := "(II)Z" } : Jvm.MethodName) "VoteLogs") ∈ lw_tbl := lw_at lw_m4 27 rfl
theorem q839 : (Jvm.Cond.methodLink "VoteLogs$Town" (138 : Nat) ({ cls := "VoteLogs$Kind", name := "comes", desc := "(LVoteLogs$Town;LVoteLogs$Message;)V" } : Jvm.MethodName)) ∈ lw_all := lw_g (lw_at lw_m4 30 rfl) rfl
theorem q846 : (Jvm.Cond.instanceMethod ({ cls := "VoteLogs$Town", name := "hearsAsking", desc := "(LVoteLogs$Message;)V" } : Jvm.MethodName)) ∈ lw_all := lw_g (lw_at lw_m4 37 rfl) rfl
theorem q847 : (Jvm.Cond.selects "VoteLogs$Town" ({ cls := "VoteLogs$Town", name := "hearsAsking", desc := "(LVoteLogs$Message;)V" } : Jvm.MethodName) ({ cls := "VoteLogs$Town", name := "hearsAsking", desc := "(LVoteLogs$Message;)V" } : Jvm.MethodName)) ∈ lw_all := lw_g (lw_at lw_m4 38 rfl) rfl
theorem q848 : (Jvm.Cond.code ({ cls := "VoteLogs$Town", name := "hearsAsking", desc := "(LVoteLogs$Message;)V" } : Jvm.MethodName) prog_16_method_18_code (5 : Nat) (Option.none : Option Jvm.ClassFile.FieldType)) ∈ lw_all := lw_g (lw_at lw_m4 39 rfl) rfl
theorem q849 : (Jvm.Cond.methodLink "VoteLogs$Town" (156 : Nat) ({ cls := "VoteLogs$Town", name := "state", desc := "(II)I" } : Jvm.MethodName)) ∈ lw_all := lw_g (lw_at lw_m4 40 rfl) rfl
theorem q850 : (Jvm.Cond.instanceMethod ({ cls := "VoteLogs$Town", name := "state", desc := "(II)I" } : Jvm.MethodName)) ∈ lw_all := lw_g (lw_at lw_m4 41 rfl) rfl
theorem q851 : (Jvm.Cond.selects "VoteLogs$Town" ({ cls := "VoteLogs$Town", name := "state", desc := "(II)I" } : Jvm.MethodName) ({ cls := "VoteLogs$Town", name := "state", desc := "(II)I" } : Jvm.MethodName)) ∈ lw_all := lw_g (lw_at lw_m4 42 rfl) rfl
theorem q852 : (Jvm.Cond.code ({ cls := "VoteLogs$Town", name := "state", desc := "(II)I" } : Jvm.MethodName) prog_16_method_4_code (3 : Nat) (Option.some Jvm.ClassFile.FieldType.int)) ∈ lw_all := lw_g (lw_at lw_m4 43 rfl) rfl
theorem q853 : (Jvm.Cond.interfaceEntry "VoteLogs$Town" (85 : Nat)) ∈ lw_tbl := lw_at lw_m4 44 rfl
theorem q854 : (Jvm.Cond.methodLink "VoteLogs$Town" (85 : Nat) ({ cls := "java/util/List", name := "get", desc := "(I)Ljava/lang/Object;" } : Jvm.MethodName)) ∈ lw_all := lw_g (lw_at lw_m4 45 rfl) rfl
theorem q866 : (Jvm.Cond.classLink "VoteLogs$Town" (117 : Nat) "VoteLogs$Transfer") ∈ lw_all := lw_g (lw_at lw_m4 57 rfl) rfl
theorem q867 : (Jvm.Cond.methodLink "VoteLogs$Town" (153 : Nat) ({ cls := "VoteLogs$Transfer", name := "share", desc := "(I)I" } : Jvm.MethodName)) ∈ lw_all := lw_g (lw_at lw_m4 58 rfl) rfl
theorem q878 : (Jvm.Cond.methodLink "VoteLogs$Town" (164 : Nat) ({ cls := "VoteLogs$Town", name := "canTake", desc := "(II)Z" } : Jvm.MethodName)) ∈ lw_all := lw_g (lw_at lw_m4 69 rfl) rfl
theorem q879 : (Jvm.Cond.instanceMethod ({ cls := "VoteLogs$Town", name := "canTake", desc := "(II)Z" } : Jvm.MethodName)) ∈ lw_all := lw_g (lw_at lw_m4 70 rfl) rfl
theorem q880 : (Jvm.Cond.selects "VoteLogs$Town" ({ cls := "VoteLogs$Town", name := "canTake", desc := "(II)Z" } : Jvm.MethodName) ({ cls := "VoteLogs$Town", name := "canTake", desc := "(II)Z" } : Jvm.MethodName)) ∈ lw_all := lw_g (lw_at lw_m4 71 rfl) rfl
theorem q881 : (Jvm.Cond.code ({ cls := "VoteLogs$Town", name := "canTake", desc := "(II)Z" } : Jvm.MethodName) prog_16_method_17_code (6 : Nat) (Option.some Jvm.ClassFile.FieldType.boolean)) ∈ lw_all := lw_g (lw_at lw_m4 72 rfl) rfl
theorem q882 : (Jvm.Cond.interfaceEntry "VoteLogs$Town" (108 : Nat)) ∈ lw_tbl := lw_at lw_m4 73 rfl
theorem q883 : (Jvm.Cond.methodLink "VoteLogs$Town" (108 : Nat) ({ cls := "java/util/List", name := "size", desc := "()I" } : Jvm.MethodName)) ∈ lw_all := lw_g (lw_at lw_m4 74 rfl) rfl
theorem q891 : (Jvm.Cond.methodLink "VoteLogs$Town" (167 : Nat) ({ cls := "VoteLogs$Town", name := "writes", desc := "(III)V" } : Jvm.MethodName)) ∈ lw_all := lw_g (lw_at lw_m4 82 rfl) rfl
theorem q892 : (Jvm.Cond.privateMethod ({ cls := "VoteLogs$Town", name := "writes", desc := "(III)V" } : Jvm.MethodName)) ∈ lw_tbl := lw_at lw_m4 83 rfl
theorem q893 : (Jvm.Cond.instanceMethod ({ cls := "VoteLogs$Town", name := "writes", desc := "(III)V" } : Jvm.MethodName)) ∈ lw_all := lw_g (lw_at lw_m4 84 rfl) rfl
theorem q894 : (Jvm.Cond.code ({ cls := "VoteLogs$Town", name := "writes", desc := "(III)V" } : Jvm.MethodName) prog_16_method_6_code (4 : Nat) (Option.none : Option Jvm.ClassFile.FieldType)) ∈ lw_all := lw_g (lw_at lw_m4 85 rfl) rfl
theorem q895 : (Jvm.Cond.classLink "VoteLogs$Town" (89 : Nat) "VoteLogs$Entry") ∈ lw_all := lw_g (lw_at lw_m4 86 rfl) rfl
theorem q897 : (Jvm.Cond.methodLink "VoteLogs$Town" (91 : Nat) ({ cls := "VoteLogs$Entry", name := "<init>", desc := "(II)V" } : Jvm.MethodName)) ∈ lw_all := lw_g (lw_at lw_m4 88 rfl) rfl
theorem q902 : (Jvm.Cond.fieldLinkNest "VoteLogs$Town" (97 : Nat) "VoteLogs$Entry" "kind" "I" "VoteLogs") ∈ lw_tbl := lw_at lw_m4 93 rfl
theorem q905 : (Jvm.Cond.fieldLinkNest "VoteLogs$Town" (94 : Nat) "VoteLogs$Entry" "transfer" "I" "VoteLogs") ∈ lw_tbl := lw_at lw_m4 96 rfl
theorem q912 : (Jvm.Cond.methodLink "VoteLogs$Town" (171 : Nat) ({ cls := "VoteLogs$Town", name := "becomes", desc := "(III)V" } : Jvm.MethodName)) ∈ lw_all := lw_g (lw_at lw_m4 103 rfl) rfl
theorem q913 : (Jvm.Cond.privateMethod ({ cls := "VoteLogs$Town", name := "becomes", desc := "(III)V" } : Jvm.MethodName)) ∈ lw_tbl := lw_at lw_m4 104 rfl
theorem q914 : (Jvm.Cond.instanceMethod ({ cls := "VoteLogs$Town", name := "becomes", desc := "(III)V" } : Jvm.MethodName)) ∈ lw_all := lw_g (lw_at lw_m4 105 rfl) rfl
theorem q915 : (Jvm.Cond.code ({ cls := "VoteLogs$Town", name := "becomes", desc := "(III)V" } : Jvm.MethodName) prog_16_method_5_code (4 : Nat) (Option.none : Option Jvm.ClassFile.FieldType)) ∈ lw_all := lw_g (lw_at lw_m4 106 rfl) rfl
theorem q916 : (Jvm.Cond.fieldLink "VoteLogs$Town" (174 : Nat) "VoteLogs$Kind" "NO" "LVoteLogs$Kind;") ∈ lw_all := lw_g (lw_at lw_m4 107 rfl) rfl
theorem q918 : (Jvm.Cond.fieldLink "VoteLogs$Town" (177 : Nat) "VoteLogs$Kind" "YES" "LVoteLogs$Kind;") ∈ lw_all := lw_g (lw_at lw_m4 109 rfl) rfl
theorem q920 : (Jvm.Cond.methodLink "VoteLogs$Town" (122 : Nat) ({ cls := "VoteLogs$Town", name := "sends", desc := "(LVoteLogs$Kind;II)V" } : Jvm.MethodName)) ∈ lw_all := lw_g (lw_at lw_m4 111 rfl) rfl
theorem q921 : (Jvm.Cond.privateMethod ({ cls := "VoteLogs$Town", name := "sends", desc := "(LVoteLogs$Kind;II)V" } : Jvm.MethodName)) ∈ lw_tbl := lw_at lw_m4 112 rfl
theorem q922 : (Jvm.Cond.instanceMethod ({ cls := "VoteLogs$Town", name := "sends", desc := "(LVoteLogs$Kind;II)V" } : Jvm.MethodName)) ∈ lw_all := lw_g (lw_at lw_m4 113 rfl) rfl
theorem q923 : (Jvm.Cond.code ({ cls := "VoteLogs$Town", name := "sends", desc := "(LVoteLogs$Kind;II)V" } : Jvm.MethodName) prog_16_method_12_code (4 : Nat) (Option.none : Option Jvm.ClassFile.FieldType)) ∈ lw_all := lw_g (lw_at lw_m4 114 rfl) rfl
theorem q925 : (Jvm.Cond.methodLink "VoteLogs$Town" (114 : Nat) ({ cls := "VoteLogs$Message", name := "<init>", desc := "(LVoteLogs$Kind;II)V" } : Jvm.MethodName)) ∈ lw_all := lw_g (lw_at lw_m4 116 rfl) rfl
theorem q930 : (Jvm.Cond.fieldLinkNest "VoteLogs$Town" (135 : Nat) "VoteLogs$Message" "kind" "LVoteLogs$Kind;" "VoteLogs") ∈ lw_tbl := lw_at lw_m4 121 rfl
theorem q933 : (Jvm.Cond.fieldLinkNest "VoteLogs$Town" (163 : Nat) "VoteLogs$Message" "transfer" "I" "VoteLogs") ∈ lw_tbl := lw_at lw_m4 124 rfl
theorem q936 : (Jvm.Cond.fieldLinkNest "VoteLogs$Town" (160 : Nat) "VoteLogs$Message" "store" "I" "VoteLogs") ∈ lw_tbl := lw_at lw_m4 127 rfl
theorem q949 : (Jvm.Cond.instanceMethod ({ cls := "VoteLogs$Town", name := "hearsYes", desc := "(LVoteLogs$Message;)V" } : Jvm.MethodName)) ∈ lw_all := lw_g (lw_at lw_m4 140 rfl) rfl
theorem q950 : (Jvm.Cond.selects "VoteLogs$Town" ({ cls := "VoteLogs$Town", name := "hearsYes", desc := "(LVoteLogs$Message;)V" } : Jvm.MethodName) ({ cls := "VoteLogs$Town", name := "hearsYes", desc := "(LVoteLogs$Message;)V" } : Jvm.MethodName)) ∈ lw_all := lw_g (lw_at lw_m4 141 rfl) rfl
theorem q951 : (Jvm.Cond.code ({ cls := "VoteLogs$Town", name := "hearsYes", desc := "(LVoteLogs$Message;)V" } : Jvm.MethodName) prog_16_method_23_code (3 : Nat) (Option.none : Option Jvm.ClassFile.FieldType)) ∈ lw_all := lw_g (lw_at lw_m4 142 rfl) rfl
theorem q952 : (Jvm.Cond.methodLink "VoteLogs$Town" (197 : Nat) ({ cls := "VoteLogs$Town", name := "isUndecided", desc := "(I)Z" } : Jvm.MethodName)) ∈ lw_all := lw_g (lw_at lw_m4 143 rfl) rfl
theorem q953 : (Jvm.Cond.instanceMethod ({ cls := "VoteLogs$Town", name := "isUndecided", desc := "(I)Z" } : Jvm.MethodName)) ∈ lw_all := lw_g (lw_at lw_m4 144 rfl) rfl
theorem q954 : (Jvm.Cond.selects "VoteLogs$Town" ({ cls := "VoteLogs$Town", name := "isUndecided", desc := "(I)Z" } : Jvm.MethodName) ({ cls := "VoteLogs$Town", name := "isUndecided", desc := "(I)Z" } : Jvm.MethodName)) ∈ lw_all := lw_g (lw_at lw_m4 145 rfl) rfl
theorem q955 : (Jvm.Cond.code ({ cls := "VoteLogs$Town", name := "isUndecided", desc := "(I)Z" } : Jvm.MethodName) prog_16_method_9_code (2 : Nat) (Option.some Jvm.ClassFile.FieldType.boolean)) ∈ lw_all := lw_g (lw_at lw_m4 146 rfl) rfl
theorem q956 : (Jvm.Cond.methodLink "VoteLogs$Town" (104 : Nat) ({ cls := "VoteLogs$Town", name := "outcome", desc := "(I)I" } : Jvm.MethodName)) ∈ lw_all := lw_g (lw_at lw_m4 147 rfl) rfl
theorem q957 : (Jvm.Cond.instanceMethod ({ cls := "VoteLogs$Town", name := "outcome", desc := "(I)I" } : Jvm.MethodName)) ∈ lw_all := lw_g (lw_at lw_m4 148 rfl) rfl
theorem q958 : (Jvm.Cond.selects "VoteLogs$Town" ({ cls := "VoteLogs$Town", name := "outcome", desc := "(I)I" } : Jvm.MethodName) ({ cls := "VoteLogs$Town", name := "outcome", desc := "(I)I" } : Jvm.MethodName)) ∈ lw_all := lw_g (lw_at lw_m4 149 rfl) rfl
theorem q959 : (Jvm.Cond.code ({ cls := "VoteLogs$Town", name := "outcome", desc := "(I)I" } : Jvm.MethodName) prog_16_method_8_code (2 : Nat) (Option.some Jvm.ClassFile.FieldType.int)) ∈ lw_all := lw_g (lw_at lw_m4 150 rfl) rfl
theorem q960 : (Jvm.Cond.methodLink "VoteLogs$Town" (100 : Nat) ({ cls := "VoteLogs$Town", name := "lastKind", desc := "(III)I" } : Jvm.MethodName)) ∈ lw_all := lw_g (lw_at lw_m4 151 rfl) rfl
theorem q961 : (Jvm.Cond.instanceMethod ({ cls := "VoteLogs$Town", name := "lastKind", desc := "(III)I" } : Jvm.MethodName)) ∈ lw_all := lw_g (lw_at lw_m4 152 rfl) rfl
theorem q962 : (Jvm.Cond.selects "VoteLogs$Town" ({ cls := "VoteLogs$Town", name := "lastKind", desc := "(III)I" } : Jvm.MethodName) ({ cls := "VoteLogs$Town", name := "lastKind", desc := "(III)I" } : Jvm.MethodName)) ∈ lw_all := lw_g (lw_at lw_m4 153 rfl) rfl
theorem q963 : (Jvm.Cond.code ({ cls := "VoteLogs$Town", name := "lastKind", desc := "(III)I" } : Jvm.MethodName) prog_16_method_7_code (7 : Nat) (Option.some Jvm.ClassFile.FieldType.int)) ∈ lw_all := lw_g (lw_at lw_m4 154 rfl) rfl
theorem q964 : (Jvm.Cond.methodLink "VoteLogs$Town" (119 : Nat) ({ cls := "VoteLogs$Transfer", name := "partners", desc := "()I" } : Jvm.MethodName)) ∈ lw_all := lw_g (lw_at lw_m4 155 rfl) rfl
theorem q968 : (Jvm.Cond.methodLink "VoteLogs$Town" (200 : Nat) ({ cls := "VoteLogs$Town", name := "decides", desc := "(II)V" } : Jvm.MethodName)) ∈ lw_all := lw_g (lw_at lw_m4 159 rfl) rfl
theorem q969 : (Jvm.Cond.privateMethod ({ cls := "VoteLogs$Town", name := "decides", desc := "(II)V" } : Jvm.MethodName)) ∈ lw_tbl := lw_at lw_m4 160 rfl
theorem q970 : (Jvm.Cond.instanceMethod ({ cls := "VoteLogs$Town", name := "decides", desc := "(II)V" } : Jvm.MethodName)) ∈ lw_all := lw_g (lw_at lw_m4 161 rfl) rfl
theorem q971 : (Jvm.Cond.code ({ cls := "VoteLogs$Town", name := "decides", desc := "(II)V" } : Jvm.MethodName) prog_16_method_22_code (3 : Nat) (Option.none : Option Jvm.ClassFile.FieldType)) ∈ lw_all := lw_g (lw_at lw_m4 162 rfl) rfl
theorem q972 : (Jvm.Cond.methodLink "VoteLogs$Town" (189 : Nat) ({ cls := "VoteLogs$Town", name := "tells", desc := "(I)LVoteLogs$Kind;" } : Jvm.MethodName)) ∈ lw_all := lw_g (lw_at lw_m4 163 rfl) rfl
theorem q973 : (Jvm.Cond.static ({ cls := "VoteLogs$Town", name := "tells", desc := "(I)LVoteLogs$Kind;" } : Jvm.MethodName)) ∈ lw_all := lw_g (lw_at lw_m4 164 rfl) rfl
theorem q974 : (Jvm.Cond.code ({ cls := "VoteLogs$Town", name := "tells", desc := "(I)LVoteLogs$Kind;" } : Jvm.MethodName) prog_16_method_21_code (1 : Nat) (Option.some (Jvm.ClassFile.FieldType.object "VoteLogs$Kind"))) ∈ lw_all := lw_g (lw_at lw_m4 165 rfl) rfl
theorem q975 : (Jvm.Cond.fieldLink "VoteLogs$Town" (183 : Nat) "VoteLogs$Kind" "MAKE" "LVoteLogs$Kind;") ∈ lw_all := lw_g (lw_at lw_m4 166 rfl) rfl
theorem q977 : (Jvm.Cond.fieldLink "VoteLogs$Town" (186 : Nat) "VoteLogs$Kind" "DROP" "LVoteLogs$Kind;") ∈ lw_all := lw_g (lw_at lw_m4 168 rfl) rfl
theorem q979 : (Jvm.Cond.methodLink "VoteLogs$Town" (193 : Nat) ({ cls := "VoteLogs$Town", name := "sendsToAll", desc := "(LVoteLogs$Kind;I)V" } : Jvm.MethodName)) ∈ lw_all := lw_g (lw_at lw_m4 170 rfl) rfl
theorem q980 : (Jvm.Cond.privateMethod ({ cls := "VoteLogs$Town", name := "sendsToAll", desc := "(LVoteLogs$Kind;I)V" } : Jvm.MethodName)) ∈ lw_tbl := lw_at lw_m4 171 rfl
theorem q981 : (Jvm.Cond.instanceMethod ({ cls := "VoteLogs$Town", name := "sendsToAll", desc := "(LVoteLogs$Kind;I)V" } : Jvm.MethodName)) ∈ lw_all := lw_g (lw_at lw_m4 172 rfl) rfl
theorem q982 : (Jvm.Cond.code ({ cls := "VoteLogs$Town", name := "sendsToAll", desc := "(LVoteLogs$Kind;I)V" } : Jvm.MethodName) prog_16_method_13_code (5 : Nat) (Option.none : Option Jvm.ClassFile.FieldType)) ∈ lw_all := lw_g (lw_at lw_m4 173 rfl) rfl
theorem q987 : (Jvm.Cond.instanceMethod ({ cls := "VoteLogs$Town", name := "hearsNo", desc := "(LVoteLogs$Message;)V" } : Jvm.MethodName)) ∈ lw_all := lw_g (lw_at lw_m4 178 rfl) rfl
theorem q988 : (Jvm.Cond.selects "VoteLogs$Town" ({ cls := "VoteLogs$Town", name := "hearsNo", desc := "(LVoteLogs$Message;)V" } : Jvm.MethodName) ({ cls := "VoteLogs$Town", name := "hearsNo", desc := "(LVoteLogs$Message;)V" } : Jvm.MethodName)) ∈ lw_all := lw_g (lw_at lw_m4 179 rfl) rfl
theorem q989 : (Jvm.Cond.code ({ cls := "VoteLogs$Town", name := "hearsNo", desc := "(LVoteLogs$Message;)V" } : Jvm.MethodName) prog_16_method_24_code (2 : Nat) (Option.none : Option Jvm.ClassFile.FieldType)) ∈ lw_all := lw_g (lw_at lw_m4 180 rfl) rfl
theorem q994 : (Jvm.Cond.instanceMethod ({ cls := "VoteLogs$Town", name := "hearsMake", desc := "(LVoteLogs$Message;)V" } : Jvm.MethodName)) ∈ lw_all := lw_g (lw_at lw_m4 185 rfl) rfl
theorem q995 : (Jvm.Cond.selects "VoteLogs$Town" ({ cls := "VoteLogs$Town", name := "hearsMake", desc := "(LVoteLogs$Message;)V" } : Jvm.MethodName) ({ cls := "VoteLogs$Town", name := "hearsMake", desc := "(LVoteLogs$Message;)V" } : Jvm.MethodName)) ∈ lw_all := lw_g (lw_at lw_m4 186 rfl) rfl
theorem q996 : (Jvm.Cond.code ({ cls := "VoteLogs$Town", name := "hearsMake", desc := "(LVoteLogs$Message;)V" } : Jvm.MethodName) prog_16_method_19_code (4 : Nat) (Option.none : Option Jvm.ClassFile.FieldType)) ∈ lw_all := lw_g (lw_at lw_m4 187 rfl) rfl
theorem q997 : (Jvm.Cond.fieldLink "VoteLogs$Town" (180 : Nat) "VoteLogs$Kind" "DONE" "LVoteLogs$Kind;") ∈ lw_all := lw_g (lw_at lw_m4 188 rfl) rfl
theorem q1003 : (Jvm.Cond.instanceMethod ({ cls := "VoteLogs$Town", name := "hearsDrop", desc := "(LVoteLogs$Message;)V" } : Jvm.MethodName)) ∈ lw_all := lw_g (lw_at lw_m4 194 rfl) rfl
theorem q1004 : (Jvm.Cond.selects "VoteLogs$Town" ({ cls := "VoteLogs$Town", name := "hearsDrop", desc := "(LVoteLogs$Message;)V" } : Jvm.MethodName) ({ cls := "VoteLogs$Town", name := "hearsDrop", desc := "(LVoteLogs$Message;)V" } : Jvm.MethodName)) ∈ lw_all := lw_g (lw_at lw_m4 195 rfl) rfl
theorem q1005 : (Jvm.Cond.code ({ cls := "VoteLogs$Town", name := "hearsDrop", desc := "(LVoteLogs$Message;)V" } : Jvm.MethodName) prog_16_method_20_code (4 : Nat) (Option.none : Option Jvm.ClassFile.FieldType)) ∈ lw_all := lw_g (lw_at lw_m4 196 rfl) rfl
theorem q1010 : (Jvm.Cond.instanceMethod ({ cls := "VoteLogs$Town", name := "hearsDone", desc := "(LVoteLogs$Message;)V" } : Jvm.MethodName)) ∈ lw_all := lw_g (lw_at lw_m4 201 rfl) rfl
theorem q1011 : (Jvm.Cond.selects "VoteLogs$Town" ({ cls := "VoteLogs$Town", name := "hearsDone", desc := "(LVoteLogs$Message;)V" } : Jvm.MethodName) ({ cls := "VoteLogs$Town", name := "hearsDone", desc := "(LVoteLogs$Message;)V" } : Jvm.MethodName)) ∈ lw_all := lw_g (lw_at lw_m4 202 rfl) rfl
theorem q1012 : (Jvm.Cond.code ({ cls := "VoteLogs$Town", name := "hearsDone", desc := "(LVoteLogs$Message;)V" } : Jvm.MethodName) prog_16_method_25_code (3 : Nat) (Option.none : Option Jvm.ClassFile.FieldType)) ∈ lw_all := lw_g (lw_at lw_m4 203 rfl) rfl
theorem q1013 : (Jvm.Cond.methodLink "VoteLogs$Town" (203 : Nat) ({ cls := "VoteLogs$Town", name := "hasEnded", desc := "(I)Z" } : Jvm.MethodName)) ∈ lw_all := lw_g (lw_at lw_m4 204 rfl) rfl
theorem q1014 : (Jvm.Cond.instanceMethod ({ cls := "VoteLogs$Town", name := "hasEnded", desc := "(I)Z" } : Jvm.MethodName)) ∈ lw_all := lw_g (lw_at lw_m4 205 rfl) rfl
theorem q1015 : (Jvm.Cond.selects "VoteLogs$Town" ({ cls := "VoteLogs$Town", name := "hasEnded", desc := "(I)Z" } : Jvm.MethodName) ({ cls := "VoteLogs$Town", name := "hasEnded", desc := "(I)Z" } : Jvm.MethodName)) ∈ lw_all := lw_g (lw_at lw_m4 206 rfl) rfl
theorem q1016 : (Jvm.Cond.code ({ cls := "VoteLogs$Town", name := "hasEnded", desc := "(I)Z" } : Jvm.MethodName) prog_16_method_10_code (2 : Nat) (Option.some Jvm.ClassFile.FieldType.boolean)) ∈ lw_all := lw_g (lw_at lw_m4 207 rfl) rfl
theorem q1021 : (Jvm.Cond.instanceMethod ({ cls := "VoteLogs$Town", name := "hearsWhatNow", desc := "(LVoteLogs$Message;)V" } : Jvm.MethodName)) ∈ lw_all := lw_g (lw_at lw_m4 212 rfl) rfl
theorem q1022 : (Jvm.Cond.selects "VoteLogs$Town" ({ cls := "VoteLogs$Town", name := "hearsWhatNow", desc := "(LVoteLogs$Message;)V" } : Jvm.MethodName) ({ cls := "VoteLogs$Town", name := "hearsWhatNow", desc := "(LVoteLogs$Message;)V" } : Jvm.MethodName)) ∈ lw_all := lw_g (lw_at lw_m4 213 rfl) rfl
theorem q1023 : (Jvm.Cond.code ({ cls := "VoteLogs$Town", name := "hearsWhatNow", desc := "(LVoteLogs$Message;)V" } : Jvm.MethodName) prog_16_method_26_code (2 : Nat) (Option.none : Option Jvm.ClassFile.FieldType)) ∈ lw_all := lw_g (lw_at lw_m4 214 rfl) rfl
theorem q1178 : (Jvm.Cond.fieldLinkNest "VoteLogs$Town" (232 : Nat) "VoteLogs$Transfer" "size" "I" "VoteLogs") ∈ lw_tbl := lw_at lw_m5 129 rfl
theorem q1239 : (Jvm.Cond.instanceMethod ({ cls := "VoteLogs$Town", name := "total", desc := "()I" } : Jvm.MethodName)) ∈ lw_all := lw_g (lw_at lw_m5 190 rfl) rfl
theorem q1240 : (Jvm.Cond.selects "VoteLogs$Town" ({ cls := "VoteLogs$Town", name := "total", desc := "()I" } : Jvm.MethodName) ({ cls := "VoteLogs$Town", name := "total", desc := "()I" } : Jvm.MethodName)) ∈ lw_all := lw_g (lw_at lw_m5 191 rfl) rfl
theorem q1241 : (Jvm.Cond.code ({ cls := "VoteLogs$Town", name := "total", desc := "()I" } : Jvm.MethodName) prog_16_method_40_code (1 : Nat) (Option.some Jvm.ClassFile.FieldType.int)) ∈ lw_all := lw_g (lw_at lw_m5 192 rfl) rfl
theorem q1247 : (Jvm.Cond.instanceMethod ({ cls := "VoteLogs$Town", name := "onTheWay", desc := "()I" } : Jvm.MethodName)) ∈ lw_all := lw_g (lw_at lw_m5 198 rfl) rfl
theorem q1248 : (Jvm.Cond.selects "VoteLogs$Town" ({ cls := "VoteLogs$Town", name := "onTheWay", desc := "()I" } : Jvm.MethodName) ({ cls := "VoteLogs$Town", name := "onTheWay", desc := "()I" } : Jvm.MethodName)) ∈ lw_all := lw_g (lw_at lw_m5 199 rfl) rfl
theorem q1249 : (Jvm.Cond.code ({ cls := "VoteLogs$Town", name := "onTheWay", desc := "()I" } : Jvm.MethodName) prog_16_method_41_code (4 : Nat) (Option.some Jvm.ClassFile.FieldType.int)) ∈ lw_all := lw_g (lw_at lw_m5 200 rfl) rfl
theorem q1271 : (Jvm.Cond.instanceMethod ({ cls := "VoteLogs$Town", name := "settles", desc := "()I" } : Jvm.MethodName)) ∈ lw_all := lw_g (lw_at lw_m5 222 rfl) rfl
theorem q1272 : (Jvm.Cond.selects "VoteLogs$Town" ({ cls := "VoteLogs$Town", name := "settles", desc := "()I" } : Jvm.MethodName) ({ cls := "VoteLogs$Town", name := "settles", desc := "()I" } : Jvm.MethodName)) ∈ lw_all := lw_g (lw_at lw_m5 223 rfl) rfl
theorem q1273 : (Jvm.Cond.code ({ cls := "VoteLogs$Town", name := "settles", desc := "()I" } : Jvm.MethodName) prog_16_method_36_code (3 : Nat) (Option.some Jvm.ClassFile.FieldType.int)) ∈ lw_all := lw_g (lw_at lw_m5 224 rfl) rfl
theorem q1274 : (Jvm.Cond.methodLink "VoteLogs$Town" (221 : Nat) ({ cls := "VoteLogs$Town", name := "recovers", desc := "(I)I" } : Jvm.MethodName)) ∈ lw_all := lw_g (lw_at lw_m5 225 rfl) rfl
theorem q1275 : (Jvm.Cond.instanceMethod ({ cls := "VoteLogs$Town", name := "recovers", desc := "(I)I" } : Jvm.MethodName)) ∈ lw_all := lw_g (lw_at lw_m5 226 rfl) rfl
theorem q1276 : (Jvm.Cond.selects "VoteLogs$Town" ({ cls := "VoteLogs$Town", name := "recovers", desc := "(I)I" } : Jvm.MethodName) ({ cls := "VoteLogs$Town", name := "recovers", desc := "(I)I" } : Jvm.MethodName)) ∈ lw_all := lw_g (lw_at lw_m5 227 rfl) rfl
theorem q1277 : (Jvm.Cond.code ({ cls := "VoteLogs$Town", name := "recovers", desc := "(I)I" } : Jvm.MethodName) prog_16_method_34_code (3 : Nat) (Option.some Jvm.ClassFile.FieldType.int)) ∈ lw_all := lw_g (lw_at lw_m5 228 rfl) rfl
theorem q1278 : (Jvm.Cond.methodLink "VoteLogs$Town" (217 : Nat) ({ cls := "VoteLogs$Town", name := "clerkRecovers", desc := "(I)V" } : Jvm.MethodName)) ∈ lw_all := lw_g (lw_at lw_m5 229 rfl) rfl
theorem q1279 : (Jvm.Cond.privateMethod ({ cls := "VoteLogs$Town", name := "clerkRecovers", desc := "(I)V" } : Jvm.MethodName)) ∈ lw_tbl := lw_at lw_m5 230 rfl
theorem q1280 : (Jvm.Cond.instanceMethod ({ cls := "VoteLogs$Town", name := "clerkRecovers", desc := "(I)V" } : Jvm.MethodName)) ∈ lw_all := lw_g (lw_at lw_m5 231 rfl) rfl
theorem q1281 : (Jvm.Cond.code ({ cls := "VoteLogs$Town", name := "clerkRecovers", desc := "(I)V" } : Jvm.MethodName) prog_16_method_35_code (2 : Nat) (Option.none : Option Jvm.ClassFile.FieldType)) ∈ lw_all := lw_g (lw_at lw_m5 232 rfl) rfl
theorem q1282 : (Jvm.Cond.fieldLink "VoteLogs$Town" (209 : Nat) "VoteLogs$Kind" "WHAT_NOW" "LVoteLogs$Kind;") ∈ lw_all := lw_g (lw_at lw_m5 233 rfl) rfl
theorem q1284 : (Jvm.Cond.constant "VoteLogs$Town" (224 : Nat) (2147483647 : Int32)) ∈ lw_all := lw_g (lw_at lw_m5 235 rfl) rfl
theorem q1285 : (Jvm.Cond.methodLink "VoteLogs$Town" (225 : Nat) ({ cls := "VoteLogs$Town", name := "deliversFirst", desc := "(I)I" } : Jvm.MethodName)) ∈ lw_all := lw_g (lw_at lw_m5 236 rfl) rfl
theorem q1297 : (Jvm.Cond.instanceMethod ({ cls := "VoteLogs$Town", name := "sizes", desc := "()I" } : Jvm.MethodName)) ∈ lw_all := lw_g (lw_at lw_m6 8 rfl) rfl
theorem q1298 : (Jvm.Cond.selects "VoteLogs$Town" ({ cls := "VoteLogs$Town", name := "sizes", desc := "()I" } : Jvm.MethodName) ({ cls := "VoteLogs$Town", name := "sizes", desc := "()I" } : Jvm.MethodName)) ∈ lw_all := lw_g (lw_at lw_m6 9 rfl) rfl
theorem q1299 : (Jvm.Cond.code ({ cls := "VoteLogs$Town", name := "sizes", desc := "()I" } : Jvm.MethodName) prog_16_method_44_code (4 : Nat) (Option.some Jvm.ClassFile.FieldType.int)) ∈ lw_all := lw_g (lw_at lw_m6 10 rfl) rfl
theorem q1316 : (Jvm.Cond.instanceMethod ({ cls := "VoteLogs$Town", name := "outcomeByStores", desc := "(I)I" } : Jvm.MethodName)) ∈ lw_all := lw_g (lw_at lw_m6 27 rfl) rfl
theorem q1317 : (Jvm.Cond.selects "VoteLogs$Town" ({ cls := "VoteLogs$Town", name := "outcomeByStores", desc := "(I)I" } : Jvm.MethodName) ({ cls := "VoteLogs$Town", name := "outcomeByStores", desc := "(I)I" } : Jvm.MethodName)) ∈ lw_all := lw_g (lw_at lw_m6 28 rfl) rfl
theorem q1318 : (Jvm.Cond.code ({ cls := "VoteLogs$Town", name := "outcomeByStores", desc := "(I)I" } : Jvm.MethodName) prog_16_method_39_code (5 : Nat) (Option.some Jvm.ClassFile.FieldType.int)) ∈ lw_all := lw_g (lw_at lw_m6 29 rfl) rfl
theorem q1323 : (Jvm.Cond.instanceMethod ({ cls := "VoteLogs$Town", name := "stateByLog", desc := "(II)I" } : Jvm.MethodName)) ∈ lw_all := lw_g (lw_at lw_m6 34 rfl) rfl
theorem q1324 : (Jvm.Cond.selects "VoteLogs$Town" ({ cls := "VoteLogs$Town", name := "stateByLog", desc := "(II)I" } : Jvm.MethodName) ({ cls := "VoteLogs$Town", name := "stateByLog", desc := "(II)I" } : Jvm.MethodName)) ∈ lw_all := lw_g (lw_at lw_m6 35 rfl) rfl
theorem q1325 : (Jvm.Cond.code ({ cls := "VoteLogs$Town", name := "stateByLog", desc := "(II)I" } : Jvm.MethodName) prog_16_method_11_code (4 : Nat) (Option.some Jvm.ClassFile.FieldType.int)) ∈ lw_all := lw_g (lw_at lw_m6 36 rfl) rfl
theorem q1331 : (Jvm.Cond.instanceMethod ({ cls := "VoteLogs$Town", name := "amountByLog", desc := "(I)I" } : Jvm.MethodName)) ∈ lw_all := lw_g (lw_at lw_m6 42 rfl) rfl
theorem q1332 : (Jvm.Cond.selects "VoteLogs$Town" ({ cls := "VoteLogs$Town", name := "amountByLog", desc := "(I)I" } : Jvm.MethodName) ({ cls := "VoteLogs$Town", name := "amountByLog", desc := "(I)I" } : Jvm.MethodName)) ∈ lw_all := lw_g (lw_at lw_m6 43 rfl) rfl
theorem q1333 : (Jvm.Cond.code ({ cls := "VoteLogs$Town", name := "amountByLog", desc := "(I)I" } : Jvm.MethodName) prog_16_method_37_code (5 : Nat) (Option.some Jvm.ClassFile.FieldType.int)) ∈ lw_all := lw_g (lw_at lw_m6 44 rfl) rfl
theorem q1335 : (Jvm.Cond.instanceMethod ({ cls := "VoteLogs$Town", name := "inDoubt", desc := "(I)I" } : Jvm.MethodName)) ∈ lw_all := lw_g (lw_at lw_m6 46 rfl) rfl
theorem q1336 : (Jvm.Cond.selects "VoteLogs$Town" ({ cls := "VoteLogs$Town", name := "inDoubt", desc := "(I)I" } : Jvm.MethodName) ({ cls := "VoteLogs$Town", name := "inDoubt", desc := "(I)I" } : Jvm.MethodName)) ∈ lw_all := lw_g (lw_at lw_m6 47 rfl) rfl
theorem q1337 : (Jvm.Cond.code ({ cls := "VoteLogs$Town", name := "inDoubt", desc := "(I)I" } : Jvm.MethodName) prog_16_method_38_code (4 : Nat) (Option.some Jvm.ClassFile.FieldType.int)) ∈ lw_all := lw_g (lw_at lw_m6 48 rfl) rfl
theorem q1403 : (Jvm.Cond.instanceMethod ({ cls := "VoteLogs$Town", name := "greatestSize", desc := "(II)I" } : Jvm.MethodName)) ∈ lw_all := lw_g (lw_at lw_m6 114 rfl) rfl
theorem q1404 : (Jvm.Cond.selects "VoteLogs$Town" ({ cls := "VoteLogs$Town", name := "greatestSize", desc := "(II)I" } : Jvm.MethodName) ({ cls := "VoteLogs$Town", name := "greatestSize", desc := "(II)I" } : Jvm.MethodName)) ∈ lw_all := lw_g (lw_at lw_m6 115 rfl) rfl
theorem q1405 : (Jvm.Cond.code ({ cls := "VoteLogs$Town", name := "greatestSize", desc := "(II)I" } : Jvm.MethodName) prog_16_method_43_code (4 : Nat) (Option.some Jvm.ClassFile.FieldType.int)) ∈ lw_all := lw_g (lw_at lw_m6 116 rfl) rfl
theorem q1406 : (Jvm.Cond.methodLink "VoteLogs$Town" (228 : Nat) ({ cls := "VoteLogs$Town", name := "allCanTake", desc := "(III)Z" } : Jvm.MethodName)) ∈ lw_all := lw_g (lw_at lw_m6 117 rfl) rfl
theorem q1407 : (Jvm.Cond.privateMethod ({ cls := "VoteLogs$Town", name := "allCanTake", desc := "(III)Z" } : Jvm.MethodName)) ∈ lw_tbl := lw_at lw_m6 118 rfl
theorem q1408 : (Jvm.Cond.instanceMethod ({ cls := "VoteLogs$Town", name := "allCanTake", desc := "(III)Z" } : Jvm.MethodName)) ∈ lw_all := lw_g (lw_at lw_m6 119 rfl) rfl
theorem q1409 : (Jvm.Cond.code ({ cls := "VoteLogs$Town", name := "allCanTake", desc := "(III)Z" } : Jvm.MethodName) prog_16_method_42_code (6 : Nat) (Option.some Jvm.ClassFile.FieldType.boolean)) ∈ lw_all := lw_g (lw_at lw_m6 120 rfl) rfl
theorem q1410 : (Jvm.Cond.methodLink "VoteLogs$Town" (212 : Nat) ({ cls := "java/lang/Integer", name := "bitCount", desc := "(I)I" } : Jvm.MethodName)) ∈ lw_all := lw_g (lw_at lw_m6 121 rfl) rfl
theorem q1457 : (Jvm.Cond.instanceMethod ({ cls := "VoteLogs$Town", name := "canBegin", desc := "()Z" } : Jvm.MethodName)) ∈ lw_all := lw_g (lw_at lw_m6 168 rfl) rfl
theorem q1458 : (Jvm.Cond.selects "VoteLogs$Town" ({ cls := "VoteLogs$Town", name := "canBegin", desc := "()Z" } : Jvm.MethodName) ({ cls := "VoteLogs$Town", name := "canBegin", desc := "()Z" } : Jvm.MethodName)) ∈ lw_all := lw_g (lw_at lw_m6 169 rfl) rfl
theorem q1459 : (Jvm.Cond.code ({ cls := "VoteLogs$Town", name := "canBegin", desc := "()Z" } : Jvm.MethodName) prog_16_method_27_code (1 : Nat) (Option.some Jvm.ClassFile.FieldType.boolean)) ∈ lw_all := lw_g (lw_at lw_m6 170 rfl) rfl
theorem q1468 : (Jvm.Cond.instanceMethod ({ cls := "VoteLogs$Town", name := "begins", desc := "(LVoteLogs$Transfer;)I" } : Jvm.MethodName)) ∈ lw_all := lw_g (lw_at lw_m6 179 rfl) rfl
theorem q1469 : (Jvm.Cond.selects "VoteLogs$Town" ({ cls := "VoteLogs$Town", name := "begins", desc := "(LVoteLogs$Transfer;)I" } : Jvm.MethodName) ({ cls := "VoteLogs$Town", name := "begins", desc := "(LVoteLogs$Transfer;)I" } : Jvm.MethodName)) ∈ lw_all := lw_g (lw_at lw_m6 180 rfl) rfl
theorem q1470 : (Jvm.Cond.code ({ cls := "VoteLogs$Town", name := "begins", desc := "(LVoteLogs$Transfer;)I" } : Jvm.MethodName) prog_16_method_28_code (3 : Nat) (Option.some Jvm.ClassFile.FieldType.int)) ∈ lw_all := lw_g (lw_at lw_m6 181 rfl) rfl
theorem q1471 : (Jvm.Cond.fieldLink "VoteLogs$Town" (206 : Nat) "VoteLogs$Kind" "ASKING" "LVoteLogs$Kind;") ∈ lw_all := lw_g (lw_at lw_m6 182 rfl) rfl
theorem q1481 : (Jvm.Cond.instanceMethod ({ cls := "VoteLogs$Town", name := "canGiveUp", desc := "(I)Z" } : Jvm.MethodName)) ∈ lw_all := lw_g (lw_at lw_m6 192 rfl) rfl
theorem q1482 : (Jvm.Cond.selects "VoteLogs$Town" ({ cls := "VoteLogs$Town", name := "canGiveUp", desc := "(I)Z" } : Jvm.MethodName) ({ cls := "VoteLogs$Town", name := "canGiveUp", desc := "(I)Z" } : Jvm.MethodName)) ∈ lw_all := lw_g (lw_at lw_m6 193 rfl) rfl
theorem q1483 : (Jvm.Cond.code ({ cls := "VoteLogs$Town", name := "canGiveUp", desc := "(I)Z" } : Jvm.MethodName) prog_16_method_29_code (2 : Nat) (Option.some Jvm.ClassFile.FieldType.boolean)) ∈ lw_all := lw_g (lw_at lw_m6 194 rfl) rfl
theorem q1485 : (Jvm.Cond.instanceMethod ({ cls := "VoteLogs$Town", name := "givesUp", desc := "(I)I" } : Jvm.MethodName)) ∈ lw_all := lw_g (lw_at lw_m6 196 rfl) rfl
theorem q1486 : (Jvm.Cond.selects "VoteLogs$Town" ({ cls := "VoteLogs$Town", name := "givesUp", desc := "(I)I" } : Jvm.MethodName) ({ cls := "VoteLogs$Town", name := "givesUp", desc := "(I)I" } : Jvm.MethodName)) ∈ lw_all := lw_g (lw_at lw_m6 197 rfl) rfl
theorem q1487 : (Jvm.Cond.code ({ cls := "VoteLogs$Town", name := "givesUp", desc := "(I)I" } : Jvm.MethodName) prog_16_method_30_code (2 : Nat) (Option.some Jvm.ClassFile.FieldType.int)) ∈ lw_all := lw_g (lw_at lw_m6 198 rfl) rfl
theorem q1500 : (Jvm.Cond.instanceMethod ({ cls := "VoteLogs$Town", name := "canAsk", desc := "(II)Z" } : Jvm.MethodName)) ∈ lw_all := lw_g (lw_at lw_m6 211 rfl) rfl
theorem q1501 : (Jvm.Cond.selects "VoteLogs$Town" ({ cls := "VoteLogs$Town", name := "canAsk", desc := "(II)Z" } : Jvm.MethodName) ({ cls := "VoteLogs$Town", name := "canAsk", desc := "(II)Z" } : Jvm.MethodName)) ∈ lw_all := lw_g (lw_at lw_m6 212 rfl) rfl
theorem q1502 : (Jvm.Cond.code ({ cls := "VoteLogs$Town", name := "canAsk", desc := "(II)Z" } : Jvm.MethodName) prog_16_method_31_code (3 : Nat) (Option.some Jvm.ClassFile.FieldType.boolean)) ∈ lw_all := lw_g (lw_at lw_m6 213 rfl) rfl
theorem q1504 : (Jvm.Cond.instanceMethod ({ cls := "VoteLogs$Town", name := "asks", desc := "(II)I" } : Jvm.MethodName)) ∈ lw_all := lw_g (lw_at lw_m6 215 rfl) rfl
theorem q1505 : (Jvm.Cond.selects "VoteLogs$Town" ({ cls := "VoteLogs$Town", name := "asks", desc := "(II)I" } : Jvm.MethodName) ({ cls := "VoteLogs$Town", name := "asks", desc := "(II)I" } : Jvm.MethodName)) ∈ lw_all := lw_g (lw_at lw_m6 216 rfl) rfl
theorem q1506 : (Jvm.Cond.code ({ cls := "VoteLogs$Town", name := "asks", desc := "(II)I" } : Jvm.MethodName) prog_16_method_32_code (3 : Nat) (Option.some Jvm.ClassFile.FieldType.int)) ∈ lw_all := lw_g (lw_at lw_m6 217 rfl) rfl
theorem q1522 : (Jvm.Cond.instanceMethod ({ cls := "VoteLogs$Town", name := "loses", desc := "(I)I" } : Jvm.MethodName)) ∈ lw_all := lw_g (lw_at lw_m6 233 rfl) rfl
theorem q1523 : (Jvm.Cond.selects "VoteLogs$Town" ({ cls := "VoteLogs$Town", name := "loses", desc := "(I)I" } : Jvm.MethodName) ({ cls := "VoteLogs$Town", name := "loses", desc := "(I)I" } : Jvm.MethodName)) ∈ lw_all := lw_g (lw_at lw_m6 234 rfl) rfl
theorem q1524 : (Jvm.Cond.code ({ cls := "VoteLogs$Town", name := "loses", desc := "(I)I" } : Jvm.MethodName) prog_16_method_16_code (2 : Nat) (Option.some Jvm.ClassFile.FieldType.int)) ∈ lw_all := lw_g (lw_at lw_m6 235 rfl) rfl
theorem q1525 : (Jvm.Cond.methodLink "VoteLogs$Town" (150 : Nat) ({ cls := "VoteLogs$Kind", name := "ordinal", desc := "()I" } : Jvm.MethodName)) ∈ lw_all := lw_g (lw_at lw_m6 236 rfl) rfl
theorem q1534 : (Jvm.Cond.instanceMethod ({ cls := "VoteLogs$Town", name := "crashes", desc := "(I)I" } : Jvm.MethodName)) ∈ lw_all := lw_g (lw_at lw_m7 5 rfl) rfl
theorem q1535 : (Jvm.Cond.selects "VoteLogs$Town" ({ cls := "VoteLogs$Town", name := "crashes", desc := "(I)I" } : Jvm.MethodName) ({ cls := "VoteLogs$Town", name := "crashes", desc := "(I)I" } : Jvm.MethodName)) ∈ lw_all := lw_g (lw_at lw_m7 6 rfl) rfl
theorem q1536 : (Jvm.Cond.code ({ cls := "VoteLogs$Town", name := "crashes", desc := "(I)I" } : Jvm.MethodName) prog_16_method_33_code (3 : Nat) (Option.some Jvm.ClassFile.FieldType.int)) ∈ lw_all := lw_g (lw_at lw_m7 7 rfl) rfl
theorem q2295 : (Jvm.Cond.castable "VoteLogs$Town" "java/lang/Object") ∈ lw_tbl := lw_at lw_m10 46 rfl
theorem in_X2 : ∀ w ∈ wsX20, w ∈ lw_all := lw_in wsX20 [321, 323, 325, 327, 329, 331, 333, 335, 337, 339, 341] (by decide +kernel) (by decide +kernel)
