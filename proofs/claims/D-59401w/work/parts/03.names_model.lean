/-! VoteLogsModel -/
set_option maxRecDepth 100000
def RX3 : String := "VoteLogsModel"
def TX3 : u_T := fun k => match k with
  | 0 => ("VoteLogsModel", "thrown", "I", false)
  | 1 => ("VoteLogsModel", "s", "[I", true)
  | 2 => ("VoteLogsModel", "aside", "[I", true)
  | 3 => ("VoteLogsModel", "states", "[I", true)
  | 4 => ("VoteLogsModel", "stateMany", "I", false)
  | 5 => ("VoteLogsModel", "snapshot", "[I", true)
  | 6 => ("VoteLogsModel", "hasSnapshot", "Z", false)
  | 7 => ("VoteLogsModel", "text", "[I", true)
  | 8 => ("VoteLogsModel", "length", "I", false)
  | 9 => ("VoteLogsModel", "at", "I", false)
  | 10 => ("VoteLogsModel", "isWell", "Z", false)
  | 11 => ("VoteLogsModel", "read", "[I", true)
  | _ => ("VoteLogsModel", "readMany", "I", false)
def tyX3 : Nat → FieldType := fun k => match k with
  | 0 => .int
  | 1 => .array .int
  | 2 => .array .int
  | 3 => .array .int
  | 4 => .int
  | 5 => .array .int
  | 6 => .boolean
  | 7 => .array .int
  | 8 => .int
  | 9 => .int
  | 10 => .boolean
  | 11 => .array .int
  | _ => .int
abbrev wsX30 : List Cond := u_ws RX3 TX3 13
set_option maxRecDepth 100000 in
theorem nmX3 : ∀ a, a < 13 → ∀ b, b < 13 → a ≠ b → (TX3 a).2.1 ≠ (TX3 b).2.1 := by decide +kernel
set_option maxRecDepth 100000 in
theorem tyX3_ok : ∀ k, k < 13 → parseFieldDescriptor (TX3 k).2.2.1 = some (tyX3 k) := by decide +kernel
abbrev cX3_init : ByteArray := prog_19_method_1_code
def yX3_init : MethodName := ⟨RX3, "<init>", "()V"⟩
def dkwX3_init_4 : List UInt8 := [180, 0, 7, 8, 27, 96, 16, 100, 79, 132, 1, 1, 167, 255, 238, 177]
abbrev dktX3_init_4 : List UInt8 := dkwX3_init_4 ++ []
def dkwX3_init_3 : List UInt8 := [180, 0, 7, 3, 27, 96, 4, 79, 132, 1, 1, 167, 255, 239, 3, 60, 27, 7, 162, 0, 19, 42]
abbrev dktX3_init_3 : List UInt8 := dkwX3_init_3 ++ dktX3_init_4
def dkwX3_init_2 : List UInt8 := [181, 0, 22, 42, 16, 124, 188, 10, 181, 0, 25, 42, 3, 181, 0, 28, 3, 60, 27, 8, 162, 0, 18, 42]
abbrev dktX3_init_2 : List UInt8 := dkwX3_init_2 ++ dktX3_init_3
def dkwX3_init_1 : List UInt8 := [17, 6, 0, 188, 10, 181, 0, 16, 42, 17, 1, 0, 188, 10, 181, 0, 19, 42, 16, 60, 188, 10]
abbrev dktX3_init_1 : List UInt8 := dkwX3_init_1 ++ dktX3_init_2
def dkwX3_init_0 : List UInt8 := [42, 183, 0, 1, 42, 17, 1, 0, 188, 10, 181, 0, 7, 42, 17, 1, 0, 188, 10, 181, 0, 13, 42]
abbrev dktX3_init_0 : List UInt8 := dkwX3_init_0 ++ dktX3_init_1
theorem dksX3_init_0 : cX3_init.data.toList.drop 0 = dktX3_init_0 := by decide +kernel
theorem dksX3_init_1 : cX3_init.data.toList.drop 23 = dktX3_init_1 := dk_seg dksX3_init_0 23 rfl rfl
theorem dksX3_init_2 : cX3_init.data.toList.drop 45 = dktX3_init_2 := dk_seg dksX3_init_1 22 rfl rfl
theorem dksX3_init_3 : cX3_init.data.toList.drop 69 = dktX3_init_3 := dk_seg dksX3_init_2 24 rfl rfl
theorem dksX3_init_4 : cX3_init.data.toList.drop 91 = dktX3_init_4 := dk_seg dksX3_init_3 22 rfl rfl
theorem dX3_init_0 : decode cX3_init 0 = .ok (.aload_n 0, 1) := dk_42 (dk_at dksX3_init_0 0 rfl rfl)
theorem dX3_init_1 : decode cX3_init 1 = .ok (.invokespecial 1, 3) := dk_183 0 1 (dk_at dksX3_init_0 1 rfl rfl)
theorem dX3_init_4 : decode cX3_init 4 = .ok (.aload_n 0, 1) := dk_42 (dk_at dksX3_init_0 4 rfl rfl)
theorem dX3_init_5 : decode cX3_init 5 = .ok (.sipush 256, 3) := dk_17 1 0 (dk_at dksX3_init_0 5 rfl rfl)
theorem dX3_init_8 : decode cX3_init 8 = .ok (.newarray .int, 2) := dk_188_10 (dk_at dksX3_init_0 8 rfl rfl)
theorem dX3_init_10 : decode cX3_init 10 = .ok (.putfield 7, 3) := dk_181 0 7 (dk_at dksX3_init_0 10 rfl rfl)
theorem dX3_init_13 : decode cX3_init 13 = .ok (.aload_n 0, 1) := dk_42 (dk_at dksX3_init_0 13 rfl rfl)
theorem dX3_init_14 : decode cX3_init 14 = .ok (.sipush 256, 3) := dk_17 1 0 (dk_at dksX3_init_0 14 rfl rfl)
theorem dX3_init_17 : decode cX3_init 17 = .ok (.newarray .int, 2) := dk_188_10 (dk_at dksX3_init_0 17 rfl rfl)
theorem dX3_init_19 : decode cX3_init 19 = .ok (.putfield 13, 3) := dk_181 0 13 (dk_at dksX3_init_0 19 rfl rfl)
theorem dX3_init_22 : decode cX3_init 22 = .ok (.aload_n 0, 1) := dk_42 (dk_at dksX3_init_0 22 rfl rfl)
theorem dX3_init_23 : decode cX3_init 23 = .ok (.sipush 1536, 3) := dk_17 6 0 (dk_at dksX3_init_1 0 rfl rfl)
theorem dX3_init_26 : decode cX3_init 26 = .ok (.newarray .int, 2) := dk_188_10 (dk_at dksX3_init_1 3 rfl rfl)
theorem dX3_init_28 : decode cX3_init 28 = .ok (.putfield 16, 3) := dk_181 0 16 (dk_at dksX3_init_1 5 rfl rfl)
theorem dX3_init_31 : decode cX3_init 31 = .ok (.aload_n 0, 1) := dk_42 (dk_at dksX3_init_1 8 rfl rfl)
theorem dX3_init_32 : decode cX3_init 32 = .ok (.sipush 256, 3) := dk_17 1 0 (dk_at dksX3_init_1 9 rfl rfl)
theorem dX3_init_35 : decode cX3_init 35 = .ok (.newarray .int, 2) := dk_188_10 (dk_at dksX3_init_1 12 rfl rfl)
theorem dX3_init_37 : decode cX3_init 37 = .ok (.putfield 19, 3) := dk_181 0 19 (dk_at dksX3_init_1 14 rfl rfl)
theorem dX3_init_40 : decode cX3_init 40 = .ok (.aload_n 0, 1) := dk_42 (dk_at dksX3_init_1 17 rfl rfl)
theorem dX3_init_41 : decode cX3_init 41 = .ok (.bipush 60, 2) := dk_16 60 (dk_at dksX3_init_1 18 rfl rfl)
theorem dX3_init_43 : decode cX3_init 43 = .ok (.newarray .int, 2) := dk_188_10 (dk_at dksX3_init_1 20 rfl rfl)
theorem dX3_init_45 : decode cX3_init 45 = .ok (.putfield 22, 3) := dk_181 0 22 (dk_at dksX3_init_2 0 rfl rfl)
theorem dX3_init_48 : decode cX3_init 48 = .ok (.aload_n 0, 1) := dk_42 (dk_at dksX3_init_2 3 rfl rfl)
theorem dX3_init_49 : decode cX3_init 49 = .ok (.bipush 124, 2) := dk_16 124 (dk_at dksX3_init_2 4 rfl rfl)
theorem dX3_init_51 : decode cX3_init 51 = .ok (.newarray .int, 2) := dk_188_10 (dk_at dksX3_init_2 6 rfl rfl)
theorem dX3_init_53 : decode cX3_init 53 = .ok (.putfield 25, 3) := dk_181 0 25 (dk_at dksX3_init_2 8 rfl rfl)
theorem dX3_init_56 : decode cX3_init 56 = .ok (.aload_n 0, 1) := dk_42 (dk_at dksX3_init_2 11 rfl rfl)
theorem dX3_init_57 : decode cX3_init 57 = .ok (.iconst 0, 1) := dk_3 (dk_at dksX3_init_2 12 rfl rfl)
theorem dX3_init_58 : decode cX3_init 58 = .ok (.putfield 28, 3) := dk_181 0 28 (dk_at dksX3_init_2 13 rfl rfl)
theorem dX3_init_61 : decode cX3_init 61 = .ok (.iconst 0, 1) := dk_3 (dk_at dksX3_init_2 16 rfl rfl)
theorem dX3_init_62 : decode cX3_init 62 = .ok (.istore_n 1, 1) := dk_60 (dk_at dksX3_init_2 17 rfl rfl)
theorem dX3_init_63 : decode cX3_init 63 = .ok (.iload_n 1, 1) := dk_27 (dk_at dksX3_init_2 18 rfl rfl)
theorem dX3_init_64 : decode cX3_init 64 = .ok (.iconst 5, 1) := dk_8 (dk_at dksX3_init_2 19 rfl rfl)
theorem dX3_init_65 : decode cX3_init 65 = .ok (.if_icmp .ge 18, 3) := dk_162 0 18 (dk_at dksX3_init_2 20 rfl rfl)
theorem dX3_init_68 : decode cX3_init 68 = .ok (.aload_n 0, 1) := dk_42 (dk_at dksX3_init_2 23 rfl rfl)
theorem dX3_init_69 : decode cX3_init 69 = .ok (.getfield 7, 3) := dk_180 0 7 (dk_at dksX3_init_3 0 rfl rfl)
theorem dX3_init_72 : decode cX3_init 72 = .ok (.iconst 0, 1) := dk_3 (dk_at dksX3_init_3 3 rfl rfl)
theorem dX3_init_73 : decode cX3_init 73 = .ok (.iload_n 1, 1) := dk_27 (dk_at dksX3_init_3 4 rfl rfl)
theorem dX3_init_74 : decode cX3_init 74 = .ok (.iadd, 1) := dk_96 (dk_at dksX3_init_3 5 rfl rfl)
theorem dX3_init_75 : decode cX3_init 75 = .ok (.iconst 1, 1) := dk_4 (dk_at dksX3_init_3 6 rfl rfl)
theorem dX3_init_76 : decode cX3_init 76 = .ok (.iastore, 1) := dk_79 (dk_at dksX3_init_3 7 rfl rfl)
theorem dX3_init_77 : decode cX3_init 77 = .ok (.iinc 1 1, 3) := dk_132 1 1 (dk_at dksX3_init_3 8 rfl rfl)
theorem dX3_init_80 : decode cX3_init 80 = .ok (.goto (-17), 3) := dk_167 255 239 (dk_at dksX3_init_3 11 rfl rfl)
theorem dX3_init_83 : decode cX3_init 83 = .ok (.iconst 0, 1) := dk_3 (dk_at dksX3_init_3 14 rfl rfl)
theorem dX3_init_84 : decode cX3_init 84 = .ok (.istore_n 1, 1) := dk_60 (dk_at dksX3_init_3 15 rfl rfl)
theorem dX3_init_85 : decode cX3_init 85 = .ok (.iload_n 1, 1) := dk_27 (dk_at dksX3_init_3 16 rfl rfl)
theorem dX3_init_86 : decode cX3_init 86 = .ok (.iconst 4, 1) := dk_7 (dk_at dksX3_init_3 17 rfl rfl)
theorem dX3_init_87 : decode cX3_init 87 = .ok (.if_icmp .ge 19, 3) := dk_162 0 19 (dk_at dksX3_init_3 18 rfl rfl)
theorem dX3_init_90 : decode cX3_init 90 = .ok (.aload_n 0, 1) := dk_42 (dk_at dksX3_init_3 21 rfl rfl)
theorem dX3_init_91 : decode cX3_init 91 = .ok (.getfield 7, 3) := dk_180 0 7 (dk_at dksX3_init_4 0 rfl rfl)
theorem dX3_init_94 : decode cX3_init 94 = .ok (.iconst 5, 1) := dk_8 (dk_at dksX3_init_4 3 rfl rfl)
theorem dX3_init_95 : decode cX3_init 95 = .ok (.iload_n 1, 1) := dk_27 (dk_at dksX3_init_4 4 rfl rfl)
theorem dX3_init_96 : decode cX3_init 96 = .ok (.iadd, 1) := dk_96 (dk_at dksX3_init_4 5 rfl rfl)
theorem dX3_init_97 : decode cX3_init 97 = .ok (.bipush 100, 2) := dk_16 100 (dk_at dksX3_init_4 6 rfl rfl)
theorem dX3_init_99 : decode cX3_init 99 = .ok (.iastore, 1) := dk_79 (dk_at dksX3_init_4 8 rfl rfl)
theorem dX3_init_100 : decode cX3_init 100 = .ok (.iinc 1 1, 3) := dk_132 1 1 (dk_at dksX3_init_4 9 rfl rfl)
theorem dX3_init_103 : decode cX3_init 103 = .ok (.goto (-18), 3) := dk_167 255 238 (dk_at dksX3_init_4 12 rfl rfl)
theorem dX3_init_106 : decode cX3_init 106 = .ok (.return_, 1) := dk_177 (dk_at dksX3_init_4 15 rfl rfl)
abbrev cX3_thrown : ByteArray := prog_19_method_2_code
def yX3_thrown : MethodName := ⟨RX3, "thrown", "()I"⟩
theorem dX3_thrown_0 : decode cX3_thrown 0 = .ok (.aload_n 0, 1) := by decide +kernel
theorem dX3_thrown_1 : decode cX3_thrown 1 = .ok (.getfield 28, 3) := by decide +kernel
theorem dX3_thrown_4 : decode cX3_thrown 4 = .ok (.ireturn, 1) := by decide +kernel
abbrev cX3_begin : ByteArray := prog_19_method_40_code
def yX3_begin : MethodName := ⟨RX3, "begin", "(III)I"⟩
def dkwX3_begin_2 : List UInt8 := [154, 0, 9, 42, 6, 182, 0, 106, 172, 42, 182, 0, 116, 42, 27, 28, 29, 182, 0, 119, 172]
abbrev dktX3_begin_2 : List UInt8 := dkwX3_begin_2 ++ []
def dkwX3_begin_1 : List UInt8 := [153, 0, 13, 29, 4, 16, 50, 184, 0, 32, 154, 0, 9, 42, 5, 182, 0, 106, 172, 42, 182, 0, 112]
abbrev dktX3_begin_1 : List UInt8 := dkwX3_begin_1 ++ dktX3_begin_2
def dkwX3_begin_0 : List UInt8 := [42, 3, 181, 0, 28, 27, 184, 0, 103, 154, 0, 9, 42, 4, 182, 0, 106, 172, 27, 28, 184, 0, 109]
abbrev dktX3_begin_0 : List UInt8 := dkwX3_begin_0 ++ dktX3_begin_1
theorem dksX3_begin_0 : cX3_begin.data.toList.drop 0 = dktX3_begin_0 := by decide +kernel
theorem dksX3_begin_1 : cX3_begin.data.toList.drop 23 = dktX3_begin_1 := dk_seg dksX3_begin_0 23 rfl rfl
theorem dksX3_begin_2 : cX3_begin.data.toList.drop 46 = dktX3_begin_2 := dk_seg dksX3_begin_1 23 rfl rfl
theorem dX3_begin_0 : decode cX3_begin 0 = .ok (.aload_n 0, 1) := dk_42 (dk_at dksX3_begin_0 0 rfl rfl)
theorem dX3_begin_1 : decode cX3_begin 1 = .ok (.iconst 0, 1) := dk_3 (dk_at dksX3_begin_0 1 rfl rfl)
theorem dX3_begin_2 : decode cX3_begin 2 = .ok (.putfield 28, 3) := dk_181 0 28 (dk_at dksX3_begin_0 2 rfl rfl)
theorem dX3_begin_5 : decode cX3_begin 5 = .ok (.iload_n 1, 1) := dk_27 (dk_at dksX3_begin_0 5 rfl rfl)
theorem dX3_begin_6 : decode cX3_begin 6 = .ok (.invokestatic 103, 3) := dk_184 0 103 (dk_at dksX3_begin_0 6 rfl rfl)
theorem dX3_begin_9 : decode cX3_begin 9 = .ok (.ifCond .ne 9, 3) := dk_154 0 9 (dk_at dksX3_begin_0 9 rfl rfl)
theorem dX3_begin_12 : decode cX3_begin 12 = .ok (.aload_n 0, 1) := dk_42 (dk_at dksX3_begin_0 12 rfl rfl)
theorem dX3_begin_13 : decode cX3_begin 13 = .ok (.iconst 1, 1) := dk_4 (dk_at dksX3_begin_0 13 rfl rfl)
theorem dX3_begin_14 : decode cX3_begin 14 = .ok (.invokevirtual 106, 3) := dk_182 0 106 (dk_at dksX3_begin_0 14 rfl rfl)
theorem dX3_begin_17 : decode cX3_begin 17 = .ok (.ireturn, 1) := dk_172 (dk_at dksX3_begin_0 17 rfl rfl)
theorem dX3_begin_18 : decode cX3_begin 18 = .ok (.iload_n 1, 1) := dk_27 (dk_at dksX3_begin_0 18 rfl rfl)
theorem dX3_begin_19 : decode cX3_begin 19 = .ok (.iload_n 2, 1) := dk_28 (dk_at dksX3_begin_0 19 rfl rfl)
theorem dX3_begin_20 : decode cX3_begin 20 = .ok (.invokestatic 109, 3) := dk_184 0 109 (dk_at dksX3_begin_0 20 rfl rfl)
theorem dX3_begin_23 : decode cX3_begin 23 = .ok (.ifCond .eq 13, 3) := dk_153 0 13 (dk_at dksX3_begin_1 0 rfl rfl)
theorem dX3_begin_26 : decode cX3_begin 26 = .ok (.iload_n 3, 1) := dk_29 (dk_at dksX3_begin_1 3 rfl rfl)
theorem dX3_begin_27 : decode cX3_begin 27 = .ok (.iconst 1, 1) := dk_4 (dk_at dksX3_begin_1 4 rfl rfl)
theorem dX3_begin_28 : decode cX3_begin 28 = .ok (.bipush 50, 2) := dk_16 50 (dk_at dksX3_begin_1 5 rfl rfl)
theorem dX3_begin_30 : decode cX3_begin 30 = .ok (.invokestatic 32, 3) := dk_184 0 32 (dk_at dksX3_begin_1 7 rfl rfl)
theorem dX3_begin_33 : decode cX3_begin 33 = .ok (.ifCond .ne 9, 3) := dk_154 0 9 (dk_at dksX3_begin_1 10 rfl rfl)
theorem dX3_begin_36 : decode cX3_begin 36 = .ok (.aload_n 0, 1) := dk_42 (dk_at dksX3_begin_1 13 rfl rfl)
theorem dX3_begin_37 : decode cX3_begin 37 = .ok (.iconst 2, 1) := dk_5 (dk_at dksX3_begin_1 14 rfl rfl)
theorem dX3_begin_38 : decode cX3_begin 38 = .ok (.invokevirtual 106, 3) := dk_182 0 106 (dk_at dksX3_begin_1 15 rfl rfl)
theorem dX3_begin_41 : decode cX3_begin 41 = .ok (.ireturn, 1) := dk_172 (dk_at dksX3_begin_1 18 rfl rfl)
theorem dX3_begin_42 : decode cX3_begin 42 = .ok (.aload_n 0, 1) := dk_42 (dk_at dksX3_begin_1 19 rfl rfl)
theorem dX3_begin_43 : decode cX3_begin 43 = .ok (.invokevirtual 112, 3) := dk_182 0 112 (dk_at dksX3_begin_1 20 rfl rfl)
theorem dX3_begin_46 : decode cX3_begin 46 = .ok (.ifCond .ne 9, 3) := dk_154 0 9 (dk_at dksX3_begin_2 0 rfl rfl)
theorem dX3_begin_49 : decode cX3_begin 49 = .ok (.aload_n 0, 1) := dk_42 (dk_at dksX3_begin_2 3 rfl rfl)
theorem dX3_begin_50 : decode cX3_begin 50 = .ok (.iconst 3, 1) := dk_6 (dk_at dksX3_begin_2 4 rfl rfl)
theorem dX3_begin_51 : decode cX3_begin 51 = .ok (.invokevirtual 106, 3) := dk_182 0 106 (dk_at dksX3_begin_2 5 rfl rfl)
theorem dX3_begin_54 : decode cX3_begin 54 = .ok (.ireturn, 1) := dk_172 (dk_at dksX3_begin_2 8 rfl rfl)
theorem dX3_begin_55 : decode cX3_begin 55 = .ok (.aload_n 0, 1) := dk_42 (dk_at dksX3_begin_2 9 rfl rfl)
theorem dX3_begin_56 : decode cX3_begin 56 = .ok (.invokevirtual 116, 3) := dk_182 0 116 (dk_at dksX3_begin_2 10 rfl rfl)
theorem dX3_begin_59 : decode cX3_begin 59 = .ok (.aload_n 0, 1) := dk_42 (dk_at dksX3_begin_2 13 rfl rfl)
theorem dX3_begin_60 : decode cX3_begin 60 = .ok (.iload_n 1, 1) := dk_27 (dk_at dksX3_begin_2 14 rfl rfl)
theorem dX3_begin_61 : decode cX3_begin 61 = .ok (.iload_n 2, 1) := dk_28 (dk_at dksX3_begin_2 15 rfl rfl)
theorem dX3_begin_62 : decode cX3_begin 62 = .ok (.iload_n 3, 1) := dk_29 (dk_at dksX3_begin_2 16 rfl rfl)
theorem dX3_begin_63 : decode cX3_begin 63 = .ok (.invokevirtual 119, 3) := dk_182 0 119 (dk_at dksX3_begin_2 17 rfl rfl)
theorem dX3_begin_66 : decode cX3_begin 66 = .ok (.ireturn, 1) := dk_172 (dk_at dksX3_begin_2 20 rfl rfl)
abbrev cX3_isStore : ByteArray := prog_19_method_5_code
def yX3_isStore : MethodName := ⟨RX3, "isStore", "(I)Z"⟩
def dkwX3_isStore_0 : List UInt8 := [26, 3, 6, 184, 0, 32, 172]
abbrev dktX3_isStore_0 : List UInt8 := dkwX3_isStore_0 ++ []
theorem dksX3_isStore_0 : cX3_isStore.data.toList.drop 0 = dktX3_isStore_0 := by decide +kernel
theorem dX3_isStore_0 : decode cX3_isStore 0 = .ok (.iload_n 0, 1) := dk_26 (dk_at dksX3_isStore_0 0 rfl rfl)
theorem dX3_isStore_1 : decode cX3_isStore 1 = .ok (.iconst 0, 1) := dk_3 (dk_at dksX3_isStore_0 1 rfl rfl)
theorem dX3_isStore_2 : decode cX3_isStore 2 = .ok (.iconst 3, 1) := dk_6 (dk_at dksX3_isStore_0 2 rfl rfl)
theorem dX3_isStore_3 : decode cX3_isStore 3 = .ok (.invokestatic 32, 3) := dk_184 0 32 (dk_at dksX3_isStore_0 3 rfl rfl)
theorem dX3_isStore_6 : decode cX3_isStore 6 = .ok (.ireturn, 1) := dk_172 (dk_at dksX3_isStore_0 6 rfl rfl)
abbrev cX3_in : ByteArray := prog_19_method_4_code
def yX3_in : MethodName := ⟨RX3, "in", "(III)Z"⟩
def dkwX3_in_0 : List UInt8 := [26, 27, 161, 0, 12, 26, 28, 163, 0, 7, 4, 167, 0, 4, 3, 172]
abbrev dktX3_in_0 : List UInt8 := dkwX3_in_0 ++ []
theorem dksX3_in_0 : cX3_in.data.toList.drop 0 = dktX3_in_0 := by decide +kernel
theorem dX3_in_0 : decode cX3_in 0 = .ok (.iload_n 0, 1) := dk_26 (dk_at dksX3_in_0 0 rfl rfl)
theorem dX3_in_1 : decode cX3_in 1 = .ok (.iload_n 1, 1) := dk_27 (dk_at dksX3_in_0 1 rfl rfl)
theorem dX3_in_2 : decode cX3_in 2 = .ok (.if_icmp .lt 12, 3) := dk_161 0 12 (dk_at dksX3_in_0 2 rfl rfl)
theorem dX3_in_5 : decode cX3_in 5 = .ok (.iload_n 0, 1) := dk_26 (dk_at dksX3_in_0 5 rfl rfl)
theorem dX3_in_6 : decode cX3_in 6 = .ok (.iload_n 2, 1) := dk_28 (dk_at dksX3_in_0 6 rfl rfl)
theorem dX3_in_7 : decode cX3_in 7 = .ok (.if_icmp .gt 7, 3) := dk_163 0 7 (dk_at dksX3_in_0 7 rfl rfl)
theorem dX3_in_10 : decode cX3_in 10 = .ok (.iconst 1, 1) := dk_4 (dk_at dksX3_in_0 10 rfl rfl)
theorem dX3_in_11 : decode cX3_in 11 = .ok (.goto 4, 3) := dk_167 0 4 (dk_at dksX3_in_0 11 rfl rfl)
theorem dX3_in_14 : decode cX3_in 14 = .ok (.iconst 0, 1) := dk_3 (dk_at dksX3_in_0 14 rfl rfl)
theorem dX3_in_15 : decode cX3_in 15 = .ok (.ireturn, 1) := dk_172 (dk_at dksX3_in_0 15 rfl rfl)
abbrev cX3_fails : ByteArray := prog_19_method_3_code
def yX3_fails : MethodName := ⟨RX3, "fails", "(I)I"⟩
def dkwX3_fails_0 : List UInt8 := [42, 27, 181, 0, 28, 3, 172]
abbrev dktX3_fails_0 : List UInt8 := dkwX3_fails_0 ++ []
theorem dksX3_fails_0 : cX3_fails.data.toList.drop 0 = dktX3_fails_0 := by decide +kernel
theorem dX3_fails_0 : decode cX3_fails 0 = .ok (.aload_n 0, 1) := dk_42 (dk_at dksX3_fails_0 0 rfl rfl)
theorem dX3_fails_1 : decode cX3_fails 1 = .ok (.iload_n 1, 1) := dk_27 (dk_at dksX3_fails_0 1 rfl rfl)
theorem dX3_fails_2 : decode cX3_fails 2 = .ok (.putfield 28, 3) := dk_181 0 28 (dk_at dksX3_fails_0 2 rfl rfl)
theorem dX3_fails_5 : decode cX3_fails 5 = .ok (.iconst 0, 1) := dk_3 (dk_at dksX3_fails_0 5 rfl rfl)
theorem dX3_fails_6 : decode cX3_fails 6 = .ok (.ireturn, 1) := dk_172 (dk_at dksX3_fails_0 6 rfl rfl)
abbrev cX3_areStores : ByteArray := prog_19_method_38_code
def yX3_areStores : MethodName := ⟨RX3, "areStores", "(II)Z"⟩
def dkwX3_areStores_0 : List UInt8 := [27, 4, 16, 15, 184, 0, 32, 153, 0, 15, 27, 26, 122, 4, 126, 154, 0, 7, 4, 167, 0, 4, 3, 172]
abbrev dktX3_areStores_0 : List UInt8 := dkwX3_areStores_0 ++ []
theorem dksX3_areStores_0 : cX3_areStores.data.toList.drop 0 = dktX3_areStores_0 := by decide +kernel
theorem dX3_areStores_0 : decode cX3_areStores 0 = .ok (.iload_n 1, 1) := dk_27 (dk_at dksX3_areStores_0 0 rfl rfl)
theorem dX3_areStores_1 : decode cX3_areStores 1 = .ok (.iconst 1, 1) := dk_4 (dk_at dksX3_areStores_0 1 rfl rfl)
theorem dX3_areStores_2 : decode cX3_areStores 2 = .ok (.bipush 15, 2) := dk_16 15 (dk_at dksX3_areStores_0 2 rfl rfl)
theorem dX3_areStores_4 : decode cX3_areStores 4 = .ok (.invokestatic 32, 3) := dk_184 0 32 (dk_at dksX3_areStores_0 4 rfl rfl)
theorem dX3_areStores_7 : decode cX3_areStores 7 = .ok (.ifCond .eq 15, 3) := dk_153 0 15 (dk_at dksX3_areStores_0 7 rfl rfl)
theorem dX3_areStores_10 : decode cX3_areStores 10 = .ok (.iload_n 1, 1) := dk_27 (dk_at dksX3_areStores_0 10 rfl rfl)
theorem dX3_areStores_11 : decode cX3_areStores 11 = .ok (.iload_n 0, 1) := dk_26 (dk_at dksX3_areStores_0 11 rfl rfl)
theorem dX3_areStores_12 : decode cX3_areStores 12 = .ok (.ishr, 1) := dk_122 (dk_at dksX3_areStores_0 12 rfl rfl)
theorem dX3_areStores_13 : decode cX3_areStores 13 = .ok (.iconst 1, 1) := dk_4 (dk_at dksX3_areStores_0 13 rfl rfl)
theorem dX3_areStores_14 : decode cX3_areStores 14 = .ok (.iand, 1) := dk_126 (dk_at dksX3_areStores_0 14 rfl rfl)
theorem dX3_areStores_15 : decode cX3_areStores 15 = .ok (.ifCond .ne 7, 3) := dk_154 0 7 (dk_at dksX3_areStores_0 15 rfl rfl)
theorem dX3_areStores_18 : decode cX3_areStores 18 = .ok (.iconst 1, 1) := dk_4 (dk_at dksX3_areStores_0 18 rfl rfl)
theorem dX3_areStores_19 : decode cX3_areStores 19 = .ok (.goto 4, 3) := dk_167 0 4 (dk_at dksX3_areStores_0 19 rfl rfl)
theorem dX3_areStores_22 : decode cX3_areStores 22 = .ok (.iconst 0, 1) := dk_3 (dk_at dksX3_areStores_0 22 rfl rfl)
theorem dX3_areStores_23 : decode cX3_areStores 23 = .ok (.ireturn, 1) := dk_172 (dk_at dksX3_areStores_0 23 rfl rfl)
abbrev cX3_canBegin : ByteArray := prog_19_method_39_code
def yX3_canBegin : MethodName := ⟨RX3, "canBegin", "()Z"⟩
def dkwX3_canBegin_1 : List UInt8 := [167, 0, 4, 3, 172]
abbrev dktX3_canBegin_1 : List UInt8 := dkwX3_canBegin_1 ++ []
def dkwX3_canBegin_0 : List UInt8 := [42, 180, 0, 7, 7, 46, 4, 160, 0, 19, 42, 180, 0, 7, 16, 9, 46, 16, 8, 162, 0, 7, 4]
abbrev dktX3_canBegin_0 : List UInt8 := dkwX3_canBegin_0 ++ dktX3_canBegin_1
theorem dksX3_canBegin_0 : cX3_canBegin.data.toList.drop 0 = dktX3_canBegin_0 := by decide +kernel
theorem dksX3_canBegin_1 : cX3_canBegin.data.toList.drop 23 = dktX3_canBegin_1 := dk_seg dksX3_canBegin_0 23 rfl rfl
theorem dX3_canBegin_0 : decode cX3_canBegin 0 = .ok (.aload_n 0, 1) := dk_42 (dk_at dksX3_canBegin_0 0 rfl rfl)
theorem dX3_canBegin_1 : decode cX3_canBegin 1 = .ok (.getfield 7, 3) := dk_180 0 7 (dk_at dksX3_canBegin_0 1 rfl rfl)
theorem dX3_canBegin_4 : decode cX3_canBegin 4 = .ok (.iconst 4, 1) := dk_7 (dk_at dksX3_canBegin_0 4 rfl rfl)
theorem dX3_canBegin_5 : decode cX3_canBegin 5 = .ok (.iaload, 1) := dk_46 (dk_at dksX3_canBegin_0 5 rfl rfl)
theorem dX3_canBegin_6 : decode cX3_canBegin 6 = .ok (.iconst 1, 1) := dk_4 (dk_at dksX3_canBegin_0 6 rfl rfl)
theorem dX3_canBegin_7 : decode cX3_canBegin 7 = .ok (.if_icmp .ne 19, 3) := dk_160 0 19 (dk_at dksX3_canBegin_0 7 rfl rfl)
theorem dX3_canBegin_10 : decode cX3_canBegin 10 = .ok (.aload_n 0, 1) := dk_42 (dk_at dksX3_canBegin_0 10 rfl rfl)
theorem dX3_canBegin_11 : decode cX3_canBegin 11 = .ok (.getfield 7, 3) := dk_180 0 7 (dk_at dksX3_canBegin_0 11 rfl rfl)
theorem dX3_canBegin_14 : decode cX3_canBegin 14 = .ok (.bipush 9, 2) := dk_16 9 (dk_at dksX3_canBegin_0 14 rfl rfl)
theorem dX3_canBegin_16 : decode cX3_canBegin 16 = .ok (.iaload, 1) := dk_46 (dk_at dksX3_canBegin_0 16 rfl rfl)
theorem dX3_canBegin_17 : decode cX3_canBegin 17 = .ok (.bipush 8, 2) := dk_16 8 (dk_at dksX3_canBegin_0 17 rfl rfl)
theorem dX3_canBegin_19 : decode cX3_canBegin 19 = .ok (.if_icmp .ge 7, 3) := dk_162 0 7 (dk_at dksX3_canBegin_0 19 rfl rfl)
theorem dX3_canBegin_22 : decode cX3_canBegin 22 = .ok (.iconst 1, 1) := dk_4 (dk_at dksX3_canBegin_0 22 rfl rfl)
theorem dX3_canBegin_23 : decode cX3_canBegin 23 = .ok (.goto 4, 3) := dk_167 0 4 (dk_at dksX3_canBegin_1 0 rfl rfl)
theorem dX3_canBegin_26 : decode cX3_canBegin 26 = .ok (.iconst 0, 1) := dk_3 (dk_at dksX3_canBegin_1 3 rfl rfl)
theorem dX3_canBegin_27 : decode cX3_canBegin 27 = .ok (.ireturn, 1) := dk_172 (dk_at dksX3_canBegin_1 4 rfl rfl)
abbrev cX3_recordsState : ByteArray := prog_19_method_12_code
def yX3_recordsState : MethodName := ⟨RX3, "recordsState", "()V"⟩
def dkwX3_recordsState_4 : List UInt8 := [181, 0, 36, 177]
abbrev dktX3_recordsState_4 : List UInt8 := dkwX3_recordsState_4 ++ []
def dkwX3_recordsState_3 : List UInt8 := [27, 96, 42, 180, 0, 7, 27, 46, 79, 132, 1, 1, 167, 255, 225, 42, 89, 180, 0, 36, 4, 96]
abbrev dktX3_recordsState_3 : List UInt8 := dkwX3_recordsState_3 ++ dktX3_recordsState_4
def dkwX3_recordsState_2 : List UInt8 := [181, 0, 36, 3, 60, 27, 17, 1, 0, 162, 0, 30, 42, 180, 0, 16, 17, 1, 0, 42, 180, 0, 36, 104]
abbrev dktX3_recordsState_2 : List UInt8 := dkwX3_recordsState_2 ++ dktX3_recordsState_3
def dkwX3_recordsState_1 : List UInt8 := [180, 0, 16, 27, 17, 1, 0, 96, 46, 79, 132, 1, 1, 167, 255, 230, 42, 89, 180, 0, 36, 4, 100]
abbrev dktX3_recordsState_1 : List UInt8 := dkwX3_recordsState_1 ++ dktX3_recordsState_2
def dkwX3_recordsState_0 : List UInt8 := [42, 180, 0, 36, 16, 6, 160, 0, 44, 3, 60, 27, 17, 5, 0, 162, 0, 25, 42, 180, 0, 16, 27, 42]
abbrev dktX3_recordsState_0 : List UInt8 := dkwX3_recordsState_0 ++ dktX3_recordsState_1
theorem dksX3_recordsState_0 : cX3_recordsState.data.toList.drop 0 = dktX3_recordsState_0 := by decide +kernel
theorem dksX3_recordsState_1 : cX3_recordsState.data.toList.drop 24 = dktX3_recordsState_1 := dk_seg dksX3_recordsState_0 24 rfl rfl
theorem dksX3_recordsState_2 : cX3_recordsState.data.toList.drop 47 = dktX3_recordsState_2 := dk_seg dksX3_recordsState_1 23 rfl rfl
theorem dksX3_recordsState_3 : cX3_recordsState.data.toList.drop 71 = dktX3_recordsState_3 := dk_seg dksX3_recordsState_2 24 rfl rfl
theorem dksX3_recordsState_4 : cX3_recordsState.data.toList.drop 93 = dktX3_recordsState_4 := dk_seg dksX3_recordsState_3 22 rfl rfl
theorem dX3_recordsState_0 : decode cX3_recordsState 0 = .ok (.aload_n 0, 1) := dk_42 (dk_at dksX3_recordsState_0 0 rfl rfl)
theorem dX3_recordsState_1 : decode cX3_recordsState 1 = .ok (.getfield 36, 3) := dk_180 0 36 (dk_at dksX3_recordsState_0 1 rfl rfl)
theorem dX3_recordsState_4 : decode cX3_recordsState 4 = .ok (.bipush 6, 2) := dk_16 6 (dk_at dksX3_recordsState_0 4 rfl rfl)
theorem dX3_recordsState_6 : decode cX3_recordsState 6 = .ok (.if_icmp .ne 44, 3) := dk_160 0 44 (dk_at dksX3_recordsState_0 6 rfl rfl)
theorem dX3_recordsState_9 : decode cX3_recordsState 9 = .ok (.iconst 0, 1) := dk_3 (dk_at dksX3_recordsState_0 9 rfl rfl)
theorem dX3_recordsState_10 : decode cX3_recordsState 10 = .ok (.istore_n 1, 1) := dk_60 (dk_at dksX3_recordsState_0 10 rfl rfl)
theorem dX3_recordsState_11 : decode cX3_recordsState 11 = .ok (.iload_n 1, 1) := dk_27 (dk_at dksX3_recordsState_0 11 rfl rfl)
theorem dX3_recordsState_12 : decode cX3_recordsState 12 = .ok (.sipush 1280, 3) := dk_17 5 0 (dk_at dksX3_recordsState_0 12 rfl rfl)
theorem dX3_recordsState_15 : decode cX3_recordsState 15 = .ok (.if_icmp .ge 25, 3) := dk_162 0 25 (dk_at dksX3_recordsState_0 15 rfl rfl)
theorem dX3_recordsState_18 : decode cX3_recordsState 18 = .ok (.aload_n 0, 1) := dk_42 (dk_at dksX3_recordsState_0 18 rfl rfl)
theorem dX3_recordsState_19 : decode cX3_recordsState 19 = .ok (.getfield 16, 3) := dk_180 0 16 (dk_at dksX3_recordsState_0 19 rfl rfl)
theorem dX3_recordsState_22 : decode cX3_recordsState 22 = .ok (.iload_n 1, 1) := dk_27 (dk_at dksX3_recordsState_0 22 rfl rfl)
theorem dX3_recordsState_23 : decode cX3_recordsState 23 = .ok (.aload_n 0, 1) := dk_42 (dk_at dksX3_recordsState_0 23 rfl rfl)
theorem dX3_recordsState_24 : decode cX3_recordsState 24 = .ok (.getfield 16, 3) := dk_180 0 16 (dk_at dksX3_recordsState_1 0 rfl rfl)
theorem dX3_recordsState_27 : decode cX3_recordsState 27 = .ok (.iload_n 1, 1) := dk_27 (dk_at dksX3_recordsState_1 3 rfl rfl)
theorem dX3_recordsState_28 : decode cX3_recordsState 28 = .ok (.sipush 256, 3) := dk_17 1 0 (dk_at dksX3_recordsState_1 4 rfl rfl)
theorem dX3_recordsState_31 : decode cX3_recordsState 31 = .ok (.iadd, 1) := dk_96 (dk_at dksX3_recordsState_1 7 rfl rfl)
theorem dX3_recordsState_32 : decode cX3_recordsState 32 = .ok (.iaload, 1) := dk_46 (dk_at dksX3_recordsState_1 8 rfl rfl)
theorem dX3_recordsState_33 : decode cX3_recordsState 33 = .ok (.iastore, 1) := dk_79 (dk_at dksX3_recordsState_1 9 rfl rfl)
theorem dX3_recordsState_34 : decode cX3_recordsState 34 = .ok (.iinc 1 1, 3) := dk_132 1 1 (dk_at dksX3_recordsState_1 10 rfl rfl)
theorem dX3_recordsState_37 : decode cX3_recordsState 37 = .ok (.goto (-26), 3) := dk_167 255 230 (dk_at dksX3_recordsState_1 13 rfl rfl)
theorem dX3_recordsState_40 : decode cX3_recordsState 40 = .ok (.aload_n 0, 1) := dk_42 (dk_at dksX3_recordsState_1 16 rfl rfl)
theorem dX3_recordsState_41 : decode cX3_recordsState 41 = .ok (.dup, 1) := dk_89 (dk_at dksX3_recordsState_1 17 rfl rfl)
theorem dX3_recordsState_42 : decode cX3_recordsState 42 = .ok (.getfield 36, 3) := dk_180 0 36 (dk_at dksX3_recordsState_1 18 rfl rfl)
theorem dX3_recordsState_45 : decode cX3_recordsState 45 = .ok (.iconst 1, 1) := dk_4 (dk_at dksX3_recordsState_1 21 rfl rfl)
theorem dX3_recordsState_46 : decode cX3_recordsState 46 = .ok (.isub, 1) := dk_100 (dk_at dksX3_recordsState_1 22 rfl rfl)
theorem dX3_recordsState_47 : decode cX3_recordsState 47 = .ok (.putfield 36, 3) := dk_181 0 36 (dk_at dksX3_recordsState_2 0 rfl rfl)
theorem dX3_recordsState_50 : decode cX3_recordsState 50 = .ok (.iconst 0, 1) := dk_3 (dk_at dksX3_recordsState_2 3 rfl rfl)
theorem dX3_recordsState_51 : decode cX3_recordsState 51 = .ok (.istore_n 1, 1) := dk_60 (dk_at dksX3_recordsState_2 4 rfl rfl)
theorem dX3_recordsState_52 : decode cX3_recordsState 52 = .ok (.iload_n 1, 1) := dk_27 (dk_at dksX3_recordsState_2 5 rfl rfl)
theorem dX3_recordsState_53 : decode cX3_recordsState 53 = .ok (.sipush 256, 3) := dk_17 1 0 (dk_at dksX3_recordsState_2 6 rfl rfl)
theorem dX3_recordsState_56 : decode cX3_recordsState 56 = .ok (.if_icmp .ge 30, 3) := dk_162 0 30 (dk_at dksX3_recordsState_2 9 rfl rfl)
theorem dX3_recordsState_59 : decode cX3_recordsState 59 = .ok (.aload_n 0, 1) := dk_42 (dk_at dksX3_recordsState_2 12 rfl rfl)
theorem dX3_recordsState_60 : decode cX3_recordsState 60 = .ok (.getfield 16, 3) := dk_180 0 16 (dk_at dksX3_recordsState_2 13 rfl rfl)
theorem dX3_recordsState_63 : decode cX3_recordsState 63 = .ok (.sipush 256, 3) := dk_17 1 0 (dk_at dksX3_recordsState_2 16 rfl rfl)
theorem dX3_recordsState_66 : decode cX3_recordsState 66 = .ok (.aload_n 0, 1) := dk_42 (dk_at dksX3_recordsState_2 19 rfl rfl)
theorem dX3_recordsState_67 : decode cX3_recordsState 67 = .ok (.getfield 36, 3) := dk_180 0 36 (dk_at dksX3_recordsState_2 20 rfl rfl)
theorem dX3_recordsState_70 : decode cX3_recordsState 70 = .ok (.imul, 1) := dk_104 (dk_at dksX3_recordsState_2 23 rfl rfl)
theorem dX3_recordsState_71 : decode cX3_recordsState 71 = .ok (.iload_n 1, 1) := dk_27 (dk_at dksX3_recordsState_3 0 rfl rfl)
theorem dX3_recordsState_72 : decode cX3_recordsState 72 = .ok (.iadd, 1) := dk_96 (dk_at dksX3_recordsState_3 1 rfl rfl)
theorem dX3_recordsState_73 : decode cX3_recordsState 73 = .ok (.aload_n 0, 1) := dk_42 (dk_at dksX3_recordsState_3 2 rfl rfl)
theorem dX3_recordsState_74 : decode cX3_recordsState 74 = .ok (.getfield 7, 3) := dk_180 0 7 (dk_at dksX3_recordsState_3 3 rfl rfl)
theorem dX3_recordsState_77 : decode cX3_recordsState 77 = .ok (.iload_n 1, 1) := dk_27 (dk_at dksX3_recordsState_3 6 rfl rfl)
theorem dX3_recordsState_78 : decode cX3_recordsState 78 = .ok (.iaload, 1) := dk_46 (dk_at dksX3_recordsState_3 7 rfl rfl)
theorem dX3_recordsState_79 : decode cX3_recordsState 79 = .ok (.iastore, 1) := dk_79 (dk_at dksX3_recordsState_3 8 rfl rfl)
theorem dX3_recordsState_80 : decode cX3_recordsState 80 = .ok (.iinc 1 1, 3) := dk_132 1 1 (dk_at dksX3_recordsState_3 9 rfl rfl)
theorem dX3_recordsState_83 : decode cX3_recordsState 83 = .ok (.goto (-31), 3) := dk_167 255 225 (dk_at dksX3_recordsState_3 12 rfl rfl)
theorem dX3_recordsState_86 : decode cX3_recordsState 86 = .ok (.aload_n 0, 1) := dk_42 (dk_at dksX3_recordsState_3 15 rfl rfl)
theorem dX3_recordsState_87 : decode cX3_recordsState 87 = .ok (.dup, 1) := dk_89 (dk_at dksX3_recordsState_3 16 rfl rfl)
theorem dX3_recordsState_88 : decode cX3_recordsState 88 = .ok (.getfield 36, 3) := dk_180 0 36 (dk_at dksX3_recordsState_3 17 rfl rfl)
theorem dX3_recordsState_91 : decode cX3_recordsState 91 = .ok (.iconst 1, 1) := dk_4 (dk_at dksX3_recordsState_3 20 rfl rfl)
theorem dX3_recordsState_92 : decode cX3_recordsState 92 = .ok (.iadd, 1) := dk_96 (dk_at dksX3_recordsState_3 21 rfl rfl)
theorem dX3_recordsState_93 : decode cX3_recordsState 93 = .ok (.putfield 36, 3) := dk_181 0 36 (dk_at dksX3_recordsState_4 0 rfl rfl)
theorem dX3_recordsState_96 : decode cX3_recordsState 96 = .ok (.return_, 1) := dk_177 (dk_at dksX3_recordsState_4 3 rfl rfl)
abbrev cX3_begins : ByteArray := prog_19_method_32_code
def yX3_begins : MethodName := ⟨RX3, "begins", "(III)I"⟩
def dkwX3_begins_2 : List UInt8 := [21, 4, 182, 0, 67, 42, 3, 21, 4, 182, 0, 70, 21, 4, 172]
abbrev dktX3_begins_2 : List UInt8 := dkwX3_begins_2 ++ []
def dkwX3_begins_1 : List UInt8 := [27, 182, 0, 64, 42, 21, 4, 4, 28, 182, 0, 64, 42, 21, 4, 5, 29, 182, 0, 64, 42, 7, 3]
abbrev dktX3_begins_1 : List UInt8 := dkwX3_begins_1 ++ dktX3_begins_2
def dkwX3_begins_0 : List UInt8 := [42, 180, 0, 7, 16, 9, 46, 54, 4, 42, 180, 0, 7, 16, 9, 92, 46, 4, 96, 79, 42, 21, 4, 3]
abbrev dktX3_begins_0 : List UInt8 := dkwX3_begins_0 ++ dktX3_begins_1
theorem dksX3_begins_0 : cX3_begins.data.toList.drop 0 = dktX3_begins_0 := by decide +kernel
theorem dksX3_begins_1 : cX3_begins.data.toList.drop 24 = dktX3_begins_1 := dk_seg dksX3_begins_0 24 rfl rfl
theorem dksX3_begins_2 : cX3_begins.data.toList.drop 47 = dktX3_begins_2 := dk_seg dksX3_begins_1 23 rfl rfl
theorem dX3_begins_0 : decode cX3_begins 0 = .ok (.aload_n 0, 1) := dk_42 (dk_at dksX3_begins_0 0 rfl rfl)
theorem dX3_begins_1 : decode cX3_begins 1 = .ok (.getfield 7, 3) := dk_180 0 7 (dk_at dksX3_begins_0 1 rfl rfl)
theorem dX3_begins_4 : decode cX3_begins 4 = .ok (.bipush 9, 2) := dk_16 9 (dk_at dksX3_begins_0 4 rfl rfl)
theorem dX3_begins_6 : decode cX3_begins 6 = .ok (.iaload, 1) := dk_46 (dk_at dksX3_begins_0 6 rfl rfl)
theorem dX3_begins_7 : decode cX3_begins 7 = .ok (.istore 4, 2) := dk_54 4 (dk_at dksX3_begins_0 7 rfl rfl)
theorem dX3_begins_9 : decode cX3_begins 9 = .ok (.aload_n 0, 1) := dk_42 (dk_at dksX3_begins_0 9 rfl rfl)
theorem dX3_begins_10 : decode cX3_begins 10 = .ok (.getfield 7, 3) := dk_180 0 7 (dk_at dksX3_begins_0 10 rfl rfl)
theorem dX3_begins_13 : decode cX3_begins 13 = .ok (.bipush 9, 2) := dk_16 9 (dk_at dksX3_begins_0 13 rfl rfl)
theorem dX3_begins_15 : decode cX3_begins 15 = .ok (.dup2, 1) := dk_92 (dk_at dksX3_begins_0 15 rfl rfl)
theorem dX3_begins_16 : decode cX3_begins 16 = .ok (.iaload, 1) := dk_46 (dk_at dksX3_begins_0 16 rfl rfl)
theorem dX3_begins_17 : decode cX3_begins 17 = .ok (.iconst 1, 1) := dk_4 (dk_at dksX3_begins_0 17 rfl rfl)
theorem dX3_begins_18 : decode cX3_begins 18 = .ok (.iadd, 1) := dk_96 (dk_at dksX3_begins_0 18 rfl rfl)
theorem dX3_begins_19 : decode cX3_begins 19 = .ok (.iastore, 1) := dk_79 (dk_at dksX3_begins_0 19 rfl rfl)
theorem dX3_begins_20 : decode cX3_begins 20 = .ok (.aload_n 0, 1) := dk_42 (dk_at dksX3_begins_0 20 rfl rfl)
theorem dX3_begins_21 : decode cX3_begins 21 = .ok (.iload 4, 2) := dk_21 4 (dk_at dksX3_begins_0 21 rfl rfl)
theorem dX3_begins_23 : decode cX3_begins 23 = .ok (.iconst 0, 1) := dk_3 (dk_at dksX3_begins_0 23 rfl rfl)
theorem dX3_begins_24 : decode cX3_begins 24 = .ok (.iload_n 1, 1) := dk_27 (dk_at dksX3_begins_1 0 rfl rfl)
theorem dX3_begins_25 : decode cX3_begins 25 = .ok (.invokevirtual 64, 3) := dk_182 0 64 (dk_at dksX3_begins_1 1 rfl rfl)
theorem dX3_begins_28 : decode cX3_begins 28 = .ok (.aload_n 0, 1) := dk_42 (dk_at dksX3_begins_1 4 rfl rfl)
theorem dX3_begins_29 : decode cX3_begins 29 = .ok (.iload 4, 2) := dk_21 4 (dk_at dksX3_begins_1 5 rfl rfl)
theorem dX3_begins_31 : decode cX3_begins 31 = .ok (.iconst 1, 1) := dk_4 (dk_at dksX3_begins_1 7 rfl rfl)
theorem dX3_begins_32 : decode cX3_begins 32 = .ok (.iload_n 2, 1) := dk_28 (dk_at dksX3_begins_1 8 rfl rfl)
theorem dX3_begins_33 : decode cX3_begins 33 = .ok (.invokevirtual 64, 3) := dk_182 0 64 (dk_at dksX3_begins_1 9 rfl rfl)
theorem dX3_begins_36 : decode cX3_begins 36 = .ok (.aload_n 0, 1) := dk_42 (dk_at dksX3_begins_1 12 rfl rfl)
theorem dX3_begins_37 : decode cX3_begins 37 = .ok (.iload 4, 2) := dk_21 4 (dk_at dksX3_begins_1 13 rfl rfl)
theorem dX3_begins_39 : decode cX3_begins 39 = .ok (.iconst 2, 1) := dk_5 (dk_at dksX3_begins_1 15 rfl rfl)
theorem dX3_begins_40 : decode cX3_begins 40 = .ok (.iload_n 3, 1) := dk_29 (dk_at dksX3_begins_1 16 rfl rfl)
theorem dX3_begins_41 : decode cX3_begins 41 = .ok (.invokevirtual 64, 3) := dk_182 0 64 (dk_at dksX3_begins_1 17 rfl rfl)
theorem dX3_begins_44 : decode cX3_begins 44 = .ok (.aload_n 0, 1) := dk_42 (dk_at dksX3_begins_1 20 rfl rfl)
theorem dX3_begins_45 : decode cX3_begins 45 = .ok (.iconst 4, 1) := dk_7 (dk_at dksX3_begins_1 21 rfl rfl)
theorem dX3_begins_46 : decode cX3_begins 46 = .ok (.iconst 0, 1) := dk_3 (dk_at dksX3_begins_1 22 rfl rfl)
theorem dX3_begins_47 : decode cX3_begins 47 = .ok (.iload 4, 2) := dk_21 4 (dk_at dksX3_begins_2 0 rfl rfl)
theorem dX3_begins_49 : decode cX3_begins 49 = .ok (.invokevirtual 67, 3) := dk_182 0 67 (dk_at dksX3_begins_2 2 rfl rfl)
theorem dX3_begins_52 : decode cX3_begins 52 = .ok (.aload_n 0, 1) := dk_42 (dk_at dksX3_begins_2 5 rfl rfl)
theorem dX3_begins_53 : decode cX3_begins 53 = .ok (.iconst 0, 1) := dk_3 (dk_at dksX3_begins_2 6 rfl rfl)
theorem dX3_begins_54 : decode cX3_begins 54 = .ok (.iload 4, 2) := dk_21 4 (dk_at dksX3_begins_2 7 rfl rfl)
theorem dX3_begins_56 : decode cX3_begins 56 = .ok (.invokevirtual 70, 3) := dk_182 0 70 (dk_at dksX3_begins_2 9 rfl rfl)
theorem dX3_begins_59 : decode cX3_begins 59 = .ok (.iload 4, 2) := dk_21 4 (dk_at dksX3_begins_2 12 rfl rfl)
theorem dX3_begins_61 : decode cX3_begins 61 = .ok (.ireturn, 1) := dk_172 (dk_at dksX3_begins_2 14 rfl rfl)
abbrev cX3_lay : ByteArray := prog_19_method_10_code
def yX3_lay : MethodName := ⟨RX3, "lay", "(III)V"⟩
def dkwX3_lay_0 : List UInt8 := [42, 180, 0, 7, 16, 14, 16, 7, 27, 104, 96, 28, 96, 29, 79, 177]
abbrev dktX3_lay_0 : List UInt8 := dkwX3_lay_0 ++ []
theorem dksX3_lay_0 : cX3_lay.data.toList.drop 0 = dktX3_lay_0 := by decide +kernel
theorem dX3_lay_0 : decode cX3_lay 0 = .ok (.aload_n 0, 1) := dk_42 (dk_at dksX3_lay_0 0 rfl rfl)
theorem dX3_lay_1 : decode cX3_lay 1 = .ok (.getfield 7, 3) := dk_180 0 7 (dk_at dksX3_lay_0 1 rfl rfl)
theorem dX3_lay_4 : decode cX3_lay 4 = .ok (.bipush 14, 2) := dk_16 14 (dk_at dksX3_lay_0 4 rfl rfl)
theorem dX3_lay_6 : decode cX3_lay 6 = .ok (.bipush 7, 2) := dk_16 7 (dk_at dksX3_lay_0 6 rfl rfl)
theorem dX3_lay_8 : decode cX3_lay 8 = .ok (.iload_n 1, 1) := dk_27 (dk_at dksX3_lay_0 8 rfl rfl)
theorem dX3_lay_9 : decode cX3_lay 9 = .ok (.imul, 1) := dk_104 (dk_at dksX3_lay_0 9 rfl rfl)
theorem dX3_lay_10 : decode cX3_lay 10 = .ok (.iadd, 1) := dk_96 (dk_at dksX3_lay_0 10 rfl rfl)
theorem dX3_lay_11 : decode cX3_lay 11 = .ok (.iload_n 2, 1) := dk_28 (dk_at dksX3_lay_0 11 rfl rfl)
theorem dX3_lay_12 : decode cX3_lay 12 = .ok (.iadd, 1) := dk_96 (dk_at dksX3_lay_0 12 rfl rfl)
theorem dX3_lay_13 : decode cX3_lay 13 = .ok (.iload_n 3, 1) := dk_29 (dk_at dksX3_lay_0 13 rfl rfl)
theorem dX3_lay_14 : decode cX3_lay 14 = .ok (.iastore, 1) := dk_79 (dk_at dksX3_lay_0 14 rfl rfl)
theorem dX3_lay_15 : decode cX3_lay 15 = .ok (.return_, 1) := dk_177 (dk_at dksX3_lay_0 15 rfl rfl)
abbrev cX3_writes : ByteArray := prog_19_method_20_code
def yX3_writes : MethodName := ⟨RX3, "writes", "(III)V"⟩
def dkwX3_writes_1 : List UInt8 := [104, 29, 96, 79, 42, 180, 0, 7, 16, 102, 27, 96, 92, 46, 4, 96, 79, 177]
abbrev dktX3_writes_1 : List UInt8 := dkwX3_writes_1 ++ []
def dkwX3_writes_0 : List UInt8 := [42, 180, 0, 7, 16, 107, 16, 16, 27, 104, 96, 42, 180, 0, 7, 16, 102, 27, 96, 46, 96, 16, 8, 28]
abbrev dktX3_writes_0 : List UInt8 := dkwX3_writes_0 ++ dktX3_writes_1
theorem dksX3_writes_0 : cX3_writes.data.toList.drop 0 = dktX3_writes_0 := by decide +kernel
theorem dksX3_writes_1 : cX3_writes.data.toList.drop 24 = dktX3_writes_1 := dk_seg dksX3_writes_0 24 rfl rfl
theorem dX3_writes_0 : decode cX3_writes 0 = .ok (.aload_n 0, 1) := dk_42 (dk_at dksX3_writes_0 0 rfl rfl)
theorem dX3_writes_1 : decode cX3_writes 1 = .ok (.getfield 7, 3) := dk_180 0 7 (dk_at dksX3_writes_0 1 rfl rfl)
theorem dX3_writes_4 : decode cX3_writes 4 = .ok (.bipush 107, 2) := dk_16 107 (dk_at dksX3_writes_0 4 rfl rfl)
theorem dX3_writes_6 : decode cX3_writes 6 = .ok (.bipush 16, 2) := dk_16 16 (dk_at dksX3_writes_0 6 rfl rfl)
theorem dX3_writes_8 : decode cX3_writes 8 = .ok (.iload_n 1, 1) := dk_27 (dk_at dksX3_writes_0 8 rfl rfl)
theorem dX3_writes_9 : decode cX3_writes 9 = .ok (.imul, 1) := dk_104 (dk_at dksX3_writes_0 9 rfl rfl)
theorem dX3_writes_10 : decode cX3_writes 10 = .ok (.iadd, 1) := dk_96 (dk_at dksX3_writes_0 10 rfl rfl)
theorem dX3_writes_11 : decode cX3_writes 11 = .ok (.aload_n 0, 1) := dk_42 (dk_at dksX3_writes_0 11 rfl rfl)
theorem dX3_writes_12 : decode cX3_writes 12 = .ok (.getfield 7, 3) := dk_180 0 7 (dk_at dksX3_writes_0 12 rfl rfl)
theorem dX3_writes_15 : decode cX3_writes 15 = .ok (.bipush 102, 2) := dk_16 102 (dk_at dksX3_writes_0 15 rfl rfl)
theorem dX3_writes_17 : decode cX3_writes 17 = .ok (.iload_n 1, 1) := dk_27 (dk_at dksX3_writes_0 17 rfl rfl)
theorem dX3_writes_18 : decode cX3_writes 18 = .ok (.iadd, 1) := dk_96 (dk_at dksX3_writes_0 18 rfl rfl)
theorem dX3_writes_19 : decode cX3_writes 19 = .ok (.iaload, 1) := dk_46 (dk_at dksX3_writes_0 19 rfl rfl)
theorem dX3_writes_20 : decode cX3_writes 20 = .ok (.iadd, 1) := dk_96 (dk_at dksX3_writes_0 20 rfl rfl)
theorem dX3_writes_21 : decode cX3_writes 21 = .ok (.bipush 8, 2) := dk_16 8 (dk_at dksX3_writes_0 21 rfl rfl)
theorem dX3_writes_23 : decode cX3_writes 23 = .ok (.iload_n 2, 1) := dk_28 (dk_at dksX3_writes_0 23 rfl rfl)
theorem dX3_writes_24 : decode cX3_writes 24 = .ok (.imul, 1) := dk_104 (dk_at dksX3_writes_1 0 rfl rfl)
theorem dX3_writes_25 : decode cX3_writes 25 = .ok (.iload_n 3, 1) := dk_29 (dk_at dksX3_writes_1 1 rfl rfl)
theorem dX3_writes_26 : decode cX3_writes 26 = .ok (.iadd, 1) := dk_96 (dk_at dksX3_writes_1 2 rfl rfl)
theorem dX3_writes_27 : decode cX3_writes 27 = .ok (.iastore, 1) := dk_79 (dk_at dksX3_writes_1 3 rfl rfl)
theorem dX3_writes_28 : decode cX3_writes 28 = .ok (.aload_n 0, 1) := dk_42 (dk_at dksX3_writes_1 4 rfl rfl)
theorem dX3_writes_29 : decode cX3_writes 29 = .ok (.getfield 7, 3) := dk_180 0 7 (dk_at dksX3_writes_1 5 rfl rfl)
theorem dX3_writes_32 : decode cX3_writes 32 = .ok (.bipush 102, 2) := dk_16 102 (dk_at dksX3_writes_1 8 rfl rfl)
theorem dX3_writes_34 : decode cX3_writes 34 = .ok (.iload_n 1, 1) := dk_27 (dk_at dksX3_writes_1 10 rfl rfl)
theorem dX3_writes_35 : decode cX3_writes 35 = .ok (.iadd, 1) := dk_96 (dk_at dksX3_writes_1 11 rfl rfl)
theorem dX3_writes_36 : decode cX3_writes 36 = .ok (.dup2, 1) := dk_92 (dk_at dksX3_writes_1 12 rfl rfl)
theorem dX3_writes_37 : decode cX3_writes 37 = .ok (.iaload, 1) := dk_46 (dk_at dksX3_writes_1 13 rfl rfl)
theorem dX3_writes_38 : decode cX3_writes 38 = .ok (.iconst 1, 1) := dk_4 (dk_at dksX3_writes_1 14 rfl rfl)
theorem dX3_writes_39 : decode cX3_writes 39 = .ok (.iadd, 1) := dk_96 (dk_at dksX3_writes_1 15 rfl rfl)
theorem dX3_writes_40 : decode cX3_writes 40 = .ok (.iastore, 1) := dk_79 (dk_at dksX3_writes_1 16 rfl rfl)
theorem dX3_writes_41 : decode cX3_writes 41 = .ok (.return_, 1) := dk_177 (dk_at dksX3_writes_1 17 rfl rfl)
abbrev cX3_sendsAll : ByteArray := prog_19_method_22_code
def yX3_sendsAll : MethodName := ⟨RX3, "sendsAll", "(II)V"⟩
def dkwX3_sendsAll_1 : List UInt8 := [182, 0, 60, 132, 3, 1, 167, 255, 228, 177]
abbrev dktX3_sendsAll_1 : List UInt8 := dkwX3_sendsAll_1 ++ []
def dkwX3_sendsAll_0 : List UInt8 := [3, 62, 29, 7, 162, 0, 29, 42, 28, 182, 0, 57, 29, 122, 4, 126, 4, 160, 0, 10, 42, 27, 28, 29]
abbrev dktX3_sendsAll_0 : List UInt8 := dkwX3_sendsAll_0 ++ dktX3_sendsAll_1
theorem dksX3_sendsAll_0 : cX3_sendsAll.data.toList.drop 0 = dktX3_sendsAll_0 := by decide +kernel
theorem dksX3_sendsAll_1 : cX3_sendsAll.data.toList.drop 24 = dktX3_sendsAll_1 := dk_seg dksX3_sendsAll_0 24 rfl rfl
theorem dX3_sendsAll_0 : decode cX3_sendsAll 0 = .ok (.iconst 0, 1) := dk_3 (dk_at dksX3_sendsAll_0 0 rfl rfl)
theorem dX3_sendsAll_1 : decode cX3_sendsAll 1 = .ok (.istore_n 3, 1) := dk_62 (dk_at dksX3_sendsAll_0 1 rfl rfl)
theorem dX3_sendsAll_2 : decode cX3_sendsAll 2 = .ok (.iload_n 3, 1) := dk_29 (dk_at dksX3_sendsAll_0 2 rfl rfl)
theorem dX3_sendsAll_3 : decode cX3_sendsAll 3 = .ok (.iconst 4, 1) := dk_7 (dk_at dksX3_sendsAll_0 3 rfl rfl)
theorem dX3_sendsAll_4 : decode cX3_sendsAll 4 = .ok (.if_icmp .ge 29, 3) := dk_162 0 29 (dk_at dksX3_sendsAll_0 4 rfl rfl)
theorem dX3_sendsAll_7 : decode cX3_sendsAll 7 = .ok (.aload_n 0, 1) := dk_42 (dk_at dksX3_sendsAll_0 7 rfl rfl)
theorem dX3_sendsAll_8 : decode cX3_sendsAll 8 = .ok (.iload_n 2, 1) := dk_28 (dk_at dksX3_sendsAll_0 8 rfl rfl)
theorem dX3_sendsAll_9 : decode cX3_sendsAll 9 = .ok (.invokevirtual 57, 3) := dk_182 0 57 (dk_at dksX3_sendsAll_0 9 rfl rfl)
theorem dX3_sendsAll_12 : decode cX3_sendsAll 12 = .ok (.iload_n 3, 1) := dk_29 (dk_at dksX3_sendsAll_0 12 rfl rfl)
theorem dX3_sendsAll_13 : decode cX3_sendsAll 13 = .ok (.ishr, 1) := dk_122 (dk_at dksX3_sendsAll_0 13 rfl rfl)
theorem dX3_sendsAll_14 : decode cX3_sendsAll 14 = .ok (.iconst 1, 1) := dk_4 (dk_at dksX3_sendsAll_0 14 rfl rfl)
theorem dX3_sendsAll_15 : decode cX3_sendsAll 15 = .ok (.iand, 1) := dk_126 (dk_at dksX3_sendsAll_0 15 rfl rfl)
theorem dX3_sendsAll_16 : decode cX3_sendsAll 16 = .ok (.iconst 1, 1) := dk_4 (dk_at dksX3_sendsAll_0 16 rfl rfl)
theorem dX3_sendsAll_17 : decode cX3_sendsAll 17 = .ok (.if_icmp .ne 10, 3) := dk_160 0 10 (dk_at dksX3_sendsAll_0 17 rfl rfl)
theorem dX3_sendsAll_20 : decode cX3_sendsAll 20 = .ok (.aload_n 0, 1) := dk_42 (dk_at dksX3_sendsAll_0 20 rfl rfl)
theorem dX3_sendsAll_21 : decode cX3_sendsAll 21 = .ok (.iload_n 1, 1) := dk_27 (dk_at dksX3_sendsAll_0 21 rfl rfl)
theorem dX3_sendsAll_22 : decode cX3_sendsAll 22 = .ok (.iload_n 2, 1) := dk_28 (dk_at dksX3_sendsAll_0 22 rfl rfl)
theorem dX3_sendsAll_23 : decode cX3_sendsAll 23 = .ok (.iload_n 3, 1) := dk_29 (dk_at dksX3_sendsAll_0 23 rfl rfl)
theorem dX3_sendsAll_24 : decode cX3_sendsAll 24 = .ok (.invokevirtual 60, 3) := dk_182 0 60 (dk_at dksX3_sendsAll_1 0 rfl rfl)
theorem dX3_sendsAll_27 : decode cX3_sendsAll 27 = .ok (.iinc 3 1, 3) := dk_132 3 1 (dk_at dksX3_sendsAll_1 3 rfl rfl)
theorem dX3_sendsAll_30 : decode cX3_sendsAll 30 = .ok (.goto (-28), 3) := dk_167 255 228 (dk_at dksX3_sendsAll_1 6 rfl rfl)
theorem dX3_sendsAll_33 : decode cX3_sendsAll 33 = .ok (.return_, 1) := dk_177 (dk_at dksX3_sendsAll_1 9 rfl rfl)
abbrev cX3_all : ByteArray := prog_19_method_16_code
def yX3_all : MethodName := ⟨RX3, "all", "(I)I"⟩
def dkwX3_all_0 : List UInt8 := [42, 27, 4, 182, 0, 39, 4, 42, 27, 3, 182, 0, 39, 120, 128, 172]
abbrev dktX3_all_0 : List UInt8 := dkwX3_all_0 ++ []
theorem dksX3_all_0 : cX3_all.data.toList.drop 0 = dktX3_all_0 := by decide +kernel
theorem dX3_all_0 : decode cX3_all 0 = .ok (.aload_n 0, 1) := dk_42 (dk_at dksX3_all_0 0 rfl rfl)
theorem dX3_all_1 : decode cX3_all 1 = .ok (.iload_n 1, 1) := dk_27 (dk_at dksX3_all_0 1 rfl rfl)
theorem dX3_all_2 : decode cX3_all 2 = .ok (.iconst 1, 1) := dk_4 (dk_at dksX3_all_0 2 rfl rfl)
theorem dX3_all_3 : decode cX3_all 3 = .ok (.invokevirtual 39, 3) := dk_182 0 39 (dk_at dksX3_all_0 3 rfl rfl)
theorem dX3_all_6 : decode cX3_all 6 = .ok (.iconst 1, 1) := dk_4 (dk_at dksX3_all_0 6 rfl rfl)
theorem dX3_all_7 : decode cX3_all 7 = .ok (.aload_n 0, 1) := dk_42 (dk_at dksX3_all_0 7 rfl rfl)
theorem dX3_all_8 : decode cX3_all 8 = .ok (.iload_n 1, 1) := dk_27 (dk_at dksX3_all_0 8 rfl rfl)
theorem dX3_all_9 : decode cX3_all 9 = .ok (.iconst 0, 1) := dk_3 (dk_at dksX3_all_0 9 rfl rfl)
theorem dX3_all_10 : decode cX3_all 10 = .ok (.invokevirtual 39, 3) := dk_182 0 39 (dk_at dksX3_all_0 10 rfl rfl)
theorem dX3_all_13 : decode cX3_all 13 = .ok (.ishl, 1) := dk_120 (dk_at dksX3_all_0 13 rfl rfl)
theorem dX3_all_14 : decode cX3_all 14 = .ok (.ior, 1) := dk_128 (dk_at dksX3_all_0 14 rfl rfl)
theorem dX3_all_15 : decode cX3_all 15 = .ok (.ireturn, 1) := dk_172 (dk_at dksX3_all_0 15 rfl rfl)
abbrev cX3_of : ByteArray := prog_19_method_9_code
def yX3_of : MethodName := ⟨RX3, "of", "(II)I"⟩
def dkwX3_of_0 : List UInt8 := [42, 180, 0, 7, 16, 14, 16, 7, 27, 104, 96, 28, 96, 46, 172]
abbrev dktX3_of_0 : List UInt8 := dkwX3_of_0 ++ []
theorem dksX3_of_0 : cX3_of.data.toList.drop 0 = dktX3_of_0 := by decide +kernel
theorem dX3_of_0 : decode cX3_of 0 = .ok (.aload_n 0, 1) := dk_42 (dk_at dksX3_of_0 0 rfl rfl)
theorem dX3_of_1 : decode cX3_of 1 = .ok (.getfield 7, 3) := dk_180 0 7 (dk_at dksX3_of_0 1 rfl rfl)
theorem dX3_of_4 : decode cX3_of 4 = .ok (.bipush 14, 2) := dk_16 14 (dk_at dksX3_of_0 4 rfl rfl)
theorem dX3_of_6 : decode cX3_of 6 = .ok (.bipush 7, 2) := dk_16 7 (dk_at dksX3_of_0 6 rfl rfl)
theorem dX3_of_8 : decode cX3_of 8 = .ok (.iload_n 1, 1) := dk_27 (dk_at dksX3_of_0 8 rfl rfl)
theorem dX3_of_9 : decode cX3_of 9 = .ok (.imul, 1) := dk_104 (dk_at dksX3_of_0 9 rfl rfl)
theorem dX3_of_10 : decode cX3_of 10 = .ok (.iadd, 1) := dk_96 (dk_at dksX3_of_0 10 rfl rfl)
theorem dX3_of_11 : decode cX3_of 11 = .ok (.iload_n 2, 1) := dk_28 (dk_at dksX3_of_0 11 rfl rfl)
theorem dX3_of_12 : decode cX3_of 12 = .ok (.iadd, 1) := dk_96 (dk_at dksX3_of_0 12 rfl rfl)
theorem dX3_of_13 : decode cX3_of 13 = .ok (.iaload, 1) := dk_46 (dk_at dksX3_of_0 13 rfl rfl)
theorem dX3_of_14 : decode cX3_of 14 = .ok (.ireturn, 1) := dk_172 (dk_at dksX3_of_0 14 rfl rfl)
abbrev cX3_sends : ByteArray := prog_19_method_21_code
def yX3_sends : MethodName := ⟨RX3, "sends", "(III)V"⟩
def dkwX3_sends_3 : List UInt8 := [96, 79, 177]
abbrev dktX3_sends_3 : List UInt8 := dkwX3_sends_3 ++ []
def dkwX3_sends_2 : List UInt8 := [16, 13, 46, 96, 16, 32, 27, 104, 7, 28, 104, 96, 29, 96, 79, 42, 180, 0, 7, 16, 13, 92, 46, 4]
abbrev dktX3_sends_2 : List UInt8 := dkwX3_sends_2 ++ dktX3_sends_3
def dkwX3_sends_1 : List UInt8 := [180, 0, 7, 16, 12, 92, 46, 4, 96, 79, 167, 0, 40, 42, 180, 0, 7, 17, 0, 195, 42, 180, 0, 7]
abbrev dktX3_sends_1 : List UInt8 := dkwX3_sends_1 ++ dktX3_sends_2
def dkwX3_sends_0 : List UInt8 := [42, 180, 0, 7, 16, 10, 92, 46, 4, 96, 79, 42, 180, 0, 7, 16, 13, 46, 16, 60, 160, 0, 17, 42]
abbrev dktX3_sends_0 : List UInt8 := dkwX3_sends_0 ++ dktX3_sends_1
theorem dksX3_sends_0 : cX3_sends.data.toList.drop 0 = dktX3_sends_0 := by decide +kernel
theorem dksX3_sends_1 : cX3_sends.data.toList.drop 24 = dktX3_sends_1 := dk_seg dksX3_sends_0 24 rfl rfl
theorem dksX3_sends_2 : cX3_sends.data.toList.drop 48 = dktX3_sends_2 := dk_seg dksX3_sends_1 24 rfl rfl
theorem dksX3_sends_3 : cX3_sends.data.toList.drop 72 = dktX3_sends_3 := dk_seg dksX3_sends_2 24 rfl rfl
theorem dX3_sends_0 : decode cX3_sends 0 = .ok (.aload_n 0, 1) := dk_42 (dk_at dksX3_sends_0 0 rfl rfl)
theorem dX3_sends_1 : decode cX3_sends 1 = .ok (.getfield 7, 3) := dk_180 0 7 (dk_at dksX3_sends_0 1 rfl rfl)
theorem dX3_sends_4 : decode cX3_sends 4 = .ok (.bipush 10, 2) := dk_16 10 (dk_at dksX3_sends_0 4 rfl rfl)
theorem dX3_sends_6 : decode cX3_sends 6 = .ok (.dup2, 1) := dk_92 (dk_at dksX3_sends_0 6 rfl rfl)
theorem dX3_sends_7 : decode cX3_sends 7 = .ok (.iaload, 1) := dk_46 (dk_at dksX3_sends_0 7 rfl rfl)
theorem dX3_sends_8 : decode cX3_sends 8 = .ok (.iconst 1, 1) := dk_4 (dk_at dksX3_sends_0 8 rfl rfl)
theorem dX3_sends_9 : decode cX3_sends 9 = .ok (.iadd, 1) := dk_96 (dk_at dksX3_sends_0 9 rfl rfl)
theorem dX3_sends_10 : decode cX3_sends 10 = .ok (.iastore, 1) := dk_79 (dk_at dksX3_sends_0 10 rfl rfl)
theorem dX3_sends_11 : decode cX3_sends 11 = .ok (.aload_n 0, 1) := dk_42 (dk_at dksX3_sends_0 11 rfl rfl)
theorem dX3_sends_12 : decode cX3_sends 12 = .ok (.getfield 7, 3) := dk_180 0 7 (dk_at dksX3_sends_0 12 rfl rfl)
theorem dX3_sends_15 : decode cX3_sends 15 = .ok (.bipush 13, 2) := dk_16 13 (dk_at dksX3_sends_0 15 rfl rfl)
theorem dX3_sends_17 : decode cX3_sends 17 = .ok (.iaload, 1) := dk_46 (dk_at dksX3_sends_0 17 rfl rfl)
theorem dX3_sends_18 : decode cX3_sends 18 = .ok (.bipush 60, 2) := dk_16 60 (dk_at dksX3_sends_0 18 rfl rfl)
theorem dX3_sends_20 : decode cX3_sends 20 = .ok (.if_icmp .ne 17, 3) := dk_160 0 17 (dk_at dksX3_sends_0 20 rfl rfl)
theorem dX3_sends_23 : decode cX3_sends 23 = .ok (.aload_n 0, 1) := dk_42 (dk_at dksX3_sends_0 23 rfl rfl)
theorem dX3_sends_24 : decode cX3_sends 24 = .ok (.getfield 7, 3) := dk_180 0 7 (dk_at dksX3_sends_1 0 rfl rfl)
theorem dX3_sends_27 : decode cX3_sends 27 = .ok (.bipush 12, 2) := dk_16 12 (dk_at dksX3_sends_1 3 rfl rfl)
theorem dX3_sends_29 : decode cX3_sends 29 = .ok (.dup2, 1) := dk_92 (dk_at dksX3_sends_1 5 rfl rfl)
theorem dX3_sends_30 : decode cX3_sends 30 = .ok (.iaload, 1) := dk_46 (dk_at dksX3_sends_1 6 rfl rfl)
theorem dX3_sends_31 : decode cX3_sends 31 = .ok (.iconst 1, 1) := dk_4 (dk_at dksX3_sends_1 7 rfl rfl)
theorem dX3_sends_32 : decode cX3_sends 32 = .ok (.iadd, 1) := dk_96 (dk_at dksX3_sends_1 8 rfl rfl)
theorem dX3_sends_33 : decode cX3_sends 33 = .ok (.iastore, 1) := dk_79 (dk_at dksX3_sends_1 9 rfl rfl)
theorem dX3_sends_34 : decode cX3_sends 34 = .ok (.goto 40, 3) := dk_167 0 40 (dk_at dksX3_sends_1 10 rfl rfl)
theorem dX3_sends_37 : decode cX3_sends 37 = .ok (.aload_n 0, 1) := dk_42 (dk_at dksX3_sends_1 13 rfl rfl)
theorem dX3_sends_38 : decode cX3_sends 38 = .ok (.getfield 7, 3) := dk_180 0 7 (dk_at dksX3_sends_1 14 rfl rfl)
theorem dX3_sends_41 : decode cX3_sends 41 = .ok (.sipush 195, 3) := dk_17 0 195 (dk_at dksX3_sends_1 17 rfl rfl)
theorem dX3_sends_44 : decode cX3_sends 44 = .ok (.aload_n 0, 1) := dk_42 (dk_at dksX3_sends_1 20 rfl rfl)
theorem dX3_sends_45 : decode cX3_sends 45 = .ok (.getfield 7, 3) := dk_180 0 7 (dk_at dksX3_sends_1 21 rfl rfl)
theorem dX3_sends_48 : decode cX3_sends 48 = .ok (.bipush 13, 2) := dk_16 13 (dk_at dksX3_sends_2 0 rfl rfl)
theorem dX3_sends_50 : decode cX3_sends 50 = .ok (.iaload, 1) := dk_46 (dk_at dksX3_sends_2 2 rfl rfl)
theorem dX3_sends_51 : decode cX3_sends 51 = .ok (.iadd, 1) := dk_96 (dk_at dksX3_sends_2 3 rfl rfl)
theorem dX3_sends_52 : decode cX3_sends 52 = .ok (.bipush 32, 2) := dk_16 32 (dk_at dksX3_sends_2 4 rfl rfl)
theorem dX3_sends_54 : decode cX3_sends 54 = .ok (.iload_n 1, 1) := dk_27 (dk_at dksX3_sends_2 6 rfl rfl)
theorem dX3_sends_55 : decode cX3_sends 55 = .ok (.imul, 1) := dk_104 (dk_at dksX3_sends_2 7 rfl rfl)
theorem dX3_sends_56 : decode cX3_sends 56 = .ok (.iconst 4, 1) := dk_7 (dk_at dksX3_sends_2 8 rfl rfl)
theorem dX3_sends_57 : decode cX3_sends 57 = .ok (.iload_n 2, 1) := dk_28 (dk_at dksX3_sends_2 9 rfl rfl)
theorem dX3_sends_58 : decode cX3_sends 58 = .ok (.imul, 1) := dk_104 (dk_at dksX3_sends_2 10 rfl rfl)
theorem dX3_sends_59 : decode cX3_sends 59 = .ok (.iadd, 1) := dk_96 (dk_at dksX3_sends_2 11 rfl rfl)
theorem dX3_sends_60 : decode cX3_sends 60 = .ok (.iload_n 3, 1) := dk_29 (dk_at dksX3_sends_2 12 rfl rfl)
theorem dX3_sends_61 : decode cX3_sends 61 = .ok (.iadd, 1) := dk_96 (dk_at dksX3_sends_2 13 rfl rfl)
theorem dX3_sends_62 : decode cX3_sends 62 = .ok (.iastore, 1) := dk_79 (dk_at dksX3_sends_2 14 rfl rfl)
theorem dX3_sends_63 : decode cX3_sends 63 = .ok (.aload_n 0, 1) := dk_42 (dk_at dksX3_sends_2 15 rfl rfl)
theorem dX3_sends_64 : decode cX3_sends 64 = .ok (.getfield 7, 3) := dk_180 0 7 (dk_at dksX3_sends_2 16 rfl rfl)
theorem dX3_sends_67 : decode cX3_sends 67 = .ok (.bipush 13, 2) := dk_16 13 (dk_at dksX3_sends_2 19 rfl rfl)
theorem dX3_sends_69 : decode cX3_sends 69 = .ok (.dup2, 1) := dk_92 (dk_at dksX3_sends_2 21 rfl rfl)
theorem dX3_sends_70 : decode cX3_sends 70 = .ok (.iaload, 1) := dk_46 (dk_at dksX3_sends_2 22 rfl rfl)
theorem dX3_sends_71 : decode cX3_sends 71 = .ok (.iconst 1, 1) := dk_4 (dk_at dksX3_sends_2 23 rfl rfl)
theorem dX3_sends_72 : decode cX3_sends 72 = .ok (.iadd, 1) := dk_96 (dk_at dksX3_sends_3 0 rfl rfl)
theorem dX3_sends_73 : decode cX3_sends 73 = .ok (.iastore, 1) := dk_79 (dk_at dksX3_sends_3 1 rfl rfl)
theorem dX3_sends_74 : decode cX3_sends 74 = .ok (.return_, 1) := dk_177 (dk_at dksX3_sends_3 2 rfl rfl)
abbrev cX3_giveUp : ByteArray := prog_19_method_41_code
def yX3_giveUp : MethodName := ⟨RX3, "giveUp", "(I)I"⟩
def dkwX3_giveUp_2 : List UInt8 := [16, 13, 46, 172]
abbrev dktX3_giveUp_2 : List UInt8 := dkwX3_giveUp_2 ++ []
def dkwX3_giveUp_1 : List UInt8 := [154, 0, 9, 42, 5, 182, 0, 106, 172, 42, 182, 0, 116, 42, 27, 5, 182, 0, 81, 42, 180, 0, 7]
abbrev dktX3_giveUp_1 : List UInt8 := dkwX3_giveUp_1 ++ dktX3_giveUp_2
def dkwX3_giveUp_0 : List UInt8 := [42, 3, 181, 0, 28, 42, 27, 182, 0, 123, 154, 0, 9, 42, 4, 182, 0, 106, 172, 42, 27, 182, 0, 126]
abbrev dktX3_giveUp_0 : List UInt8 := dkwX3_giveUp_0 ++ dktX3_giveUp_1
theorem dksX3_giveUp_0 : cX3_giveUp.data.toList.drop 0 = dktX3_giveUp_0 := by decide +kernel
theorem dksX3_giveUp_1 : cX3_giveUp.data.toList.drop 24 = dktX3_giveUp_1 := dk_seg dksX3_giveUp_0 24 rfl rfl
theorem dksX3_giveUp_2 : cX3_giveUp.data.toList.drop 47 = dktX3_giveUp_2 := dk_seg dksX3_giveUp_1 23 rfl rfl
theorem dX3_giveUp_0 : decode cX3_giveUp 0 = .ok (.aload_n 0, 1) := dk_42 (dk_at dksX3_giveUp_0 0 rfl rfl)
theorem dX3_giveUp_1 : decode cX3_giveUp 1 = .ok (.iconst 0, 1) := dk_3 (dk_at dksX3_giveUp_0 1 rfl rfl)
theorem dX3_giveUp_2 : decode cX3_giveUp 2 = .ok (.putfield 28, 3) := dk_181 0 28 (dk_at dksX3_giveUp_0 2 rfl rfl)
theorem dX3_giveUp_5 : decode cX3_giveUp 5 = .ok (.aload_n 0, 1) := dk_42 (dk_at dksX3_giveUp_0 5 rfl rfl)
theorem dX3_giveUp_6 : decode cX3_giveUp 6 = .ok (.iload_n 1, 1) := dk_27 (dk_at dksX3_giveUp_0 6 rfl rfl)
theorem dX3_giveUp_7 : decode cX3_giveUp 7 = .ok (.invokevirtual 123, 3) := dk_182 0 123 (dk_at dksX3_giveUp_0 7 rfl rfl)
theorem dX3_giveUp_10 : decode cX3_giveUp 10 = .ok (.ifCond .ne 9, 3) := dk_154 0 9 (dk_at dksX3_giveUp_0 10 rfl rfl)
theorem dX3_giveUp_13 : decode cX3_giveUp 13 = .ok (.aload_n 0, 1) := dk_42 (dk_at dksX3_giveUp_0 13 rfl rfl)
theorem dX3_giveUp_14 : decode cX3_giveUp 14 = .ok (.iconst 1, 1) := dk_4 (dk_at dksX3_giveUp_0 14 rfl rfl)
theorem dX3_giveUp_15 : decode cX3_giveUp 15 = .ok (.invokevirtual 106, 3) := dk_182 0 106 (dk_at dksX3_giveUp_0 15 rfl rfl)
theorem dX3_giveUp_18 : decode cX3_giveUp 18 = .ok (.ireturn, 1) := dk_172 (dk_at dksX3_giveUp_0 18 rfl rfl)
theorem dX3_giveUp_19 : decode cX3_giveUp 19 = .ok (.aload_n 0, 1) := dk_42 (dk_at dksX3_giveUp_0 19 rfl rfl)
theorem dX3_giveUp_20 : decode cX3_giveUp 20 = .ok (.iload_n 1, 1) := dk_27 (dk_at dksX3_giveUp_0 20 rfl rfl)
theorem dX3_giveUp_21 : decode cX3_giveUp 21 = .ok (.invokevirtual 126, 3) := dk_182 0 126 (dk_at dksX3_giveUp_0 21 rfl rfl)
theorem dX3_giveUp_24 : decode cX3_giveUp 24 = .ok (.ifCond .ne 9, 3) := dk_154 0 9 (dk_at dksX3_giveUp_1 0 rfl rfl)
theorem dX3_giveUp_27 : decode cX3_giveUp 27 = .ok (.aload_n 0, 1) := dk_42 (dk_at dksX3_giveUp_1 3 rfl rfl)
theorem dX3_giveUp_28 : decode cX3_giveUp 28 = .ok (.iconst 2, 1) := dk_5 (dk_at dksX3_giveUp_1 4 rfl rfl)
theorem dX3_giveUp_29 : decode cX3_giveUp 29 = .ok (.invokevirtual 106, 3) := dk_182 0 106 (dk_at dksX3_giveUp_1 5 rfl rfl)
theorem dX3_giveUp_32 : decode cX3_giveUp 32 = .ok (.ireturn, 1) := dk_172 (dk_at dksX3_giveUp_1 8 rfl rfl)
theorem dX3_giveUp_33 : decode cX3_giveUp 33 = .ok (.aload_n 0, 1) := dk_42 (dk_at dksX3_giveUp_1 9 rfl rfl)
theorem dX3_giveUp_34 : decode cX3_giveUp 34 = .ok (.invokevirtual 116, 3) := dk_182 0 116 (dk_at dksX3_giveUp_1 10 rfl rfl)
theorem dX3_giveUp_37 : decode cX3_giveUp 37 = .ok (.aload_n 0, 1) := dk_42 (dk_at dksX3_giveUp_1 13 rfl rfl)
theorem dX3_giveUp_38 : decode cX3_giveUp 38 = .ok (.iload_n 1, 1) := dk_27 (dk_at dksX3_giveUp_1 14 rfl rfl)
theorem dX3_giveUp_39 : decode cX3_giveUp 39 = .ok (.iconst 2, 1) := dk_5 (dk_at dksX3_giveUp_1 15 rfl rfl)
theorem dX3_giveUp_40 : decode cX3_giveUp 40 = .ok (.invokevirtual 81, 3) := dk_182 0 81 (dk_at dksX3_giveUp_1 16 rfl rfl)
theorem dX3_giveUp_43 : decode cX3_giveUp 43 = .ok (.aload_n 0, 1) := dk_42 (dk_at dksX3_giveUp_1 19 rfl rfl)
theorem dX3_giveUp_44 : decode cX3_giveUp 44 = .ok (.getfield 7, 3) := dk_180 0 7 (dk_at dksX3_giveUp_1 20 rfl rfl)
theorem dX3_giveUp_47 : decode cX3_giveUp 47 = .ok (.bipush 13, 2) := dk_16 13 (dk_at dksX3_giveUp_2 0 rfl rfl)
theorem dX3_giveUp_49 : decode cX3_giveUp 49 = .ok (.iaload, 1) := dk_46 (dk_at dksX3_giveUp_2 2 rfl rfl)
theorem dX3_giveUp_50 : decode cX3_giveUp 50 = .ok (.ireturn, 1) := dk_172 (dk_at dksX3_giveUp_2 3 rfl rfl)
abbrev cX3_isTransfer : ByteArray := prog_19_method_7_code
def yX3_isTransfer : MethodName := ⟨RX3, "isTransfer", "(I)Z"⟩
def dkwX3_isTransfer_0 : List UInt8 := [27, 3, 42, 180, 0, 7, 16, 9, 46, 4, 100, 184, 0, 32, 172]
abbrev dktX3_isTransfer_0 : List UInt8 := dkwX3_isTransfer_0 ++ []
theorem dksX3_isTransfer_0 : cX3_isTransfer.data.toList.drop 0 = dktX3_isTransfer_0 := by decide +kernel
theorem dX3_isTransfer_0 : decode cX3_isTransfer 0 = .ok (.iload_n 1, 1) := dk_27 (dk_at dksX3_isTransfer_0 0 rfl rfl)
theorem dX3_isTransfer_1 : decode cX3_isTransfer 1 = .ok (.iconst 0, 1) := dk_3 (dk_at dksX3_isTransfer_0 1 rfl rfl)
theorem dX3_isTransfer_2 : decode cX3_isTransfer 2 = .ok (.aload_n 0, 1) := dk_42 (dk_at dksX3_isTransfer_0 2 rfl rfl)
theorem dX3_isTransfer_3 : decode cX3_isTransfer 3 = .ok (.getfield 7, 3) := dk_180 0 7 (dk_at dksX3_isTransfer_0 3 rfl rfl)
theorem dX3_isTransfer_6 : decode cX3_isTransfer 6 = .ok (.bipush 9, 2) := dk_16 9 (dk_at dksX3_isTransfer_0 6 rfl rfl)
theorem dX3_isTransfer_8 : decode cX3_isTransfer 8 = .ok (.iaload, 1) := dk_46 (dk_at dksX3_isTransfer_0 8 rfl rfl)
theorem dX3_isTransfer_9 : decode cX3_isTransfer 9 = .ok (.iconst 1, 1) := dk_4 (dk_at dksX3_isTransfer_0 9 rfl rfl)
theorem dX3_isTransfer_10 : decode cX3_isTransfer 10 = .ok (.isub, 1) := dk_100 (dk_at dksX3_isTransfer_0 10 rfl rfl)
theorem dX3_isTransfer_11 : decode cX3_isTransfer 11 = .ok (.invokestatic 32, 3) := dk_184 0 32 (dk_at dksX3_isTransfer_0 11 rfl rfl)
theorem dX3_isTransfer_14 : decode cX3_isTransfer 14 = .ok (.ireturn, 1) := dk_172 (dk_at dksX3_isTransfer_0 14 rfl rfl)
abbrev cX3_canGiveUp : ByteArray := prog_19_method_33_code
def yX3_canGiveUp : MethodName := ⟨RX3, "canGiveUp", "(I)Z"⟩
def dkwX3_canGiveUp_1 : List UInt8 := [172]
abbrev dktX3_canGiveUp_1 : List UInt8 := dkwX3_canGiveUp_1 ++ []
def dkwX3_canGiveUp_0 : List UInt8 := [42, 180, 0, 7, 7, 46, 4, 160, 0, 16, 42, 27, 8, 182, 0, 39, 154, 0, 7, 4, 167, 0, 4, 3]
abbrev dktX3_canGiveUp_0 : List UInt8 := dkwX3_canGiveUp_0 ++ dktX3_canGiveUp_1
theorem dksX3_canGiveUp_0 : cX3_canGiveUp.data.toList.drop 0 = dktX3_canGiveUp_0 := by decide +kernel
theorem dksX3_canGiveUp_1 : cX3_canGiveUp.data.toList.drop 24 = dktX3_canGiveUp_1 := dk_seg dksX3_canGiveUp_0 24 rfl rfl
theorem dX3_canGiveUp_0 : decode cX3_canGiveUp 0 = .ok (.aload_n 0, 1) := dk_42 (dk_at dksX3_canGiveUp_0 0 rfl rfl)
theorem dX3_canGiveUp_1 : decode cX3_canGiveUp 1 = .ok (.getfield 7, 3) := dk_180 0 7 (dk_at dksX3_canGiveUp_0 1 rfl rfl)
theorem dX3_canGiveUp_4 : decode cX3_canGiveUp 4 = .ok (.iconst 4, 1) := dk_7 (dk_at dksX3_canGiveUp_0 4 rfl rfl)
theorem dX3_canGiveUp_5 : decode cX3_canGiveUp 5 = .ok (.iaload, 1) := dk_46 (dk_at dksX3_canGiveUp_0 5 rfl rfl)
theorem dX3_canGiveUp_6 : decode cX3_canGiveUp 6 = .ok (.iconst 1, 1) := dk_4 (dk_at dksX3_canGiveUp_0 6 rfl rfl)
theorem dX3_canGiveUp_7 : decode cX3_canGiveUp 7 = .ok (.if_icmp .ne 16, 3) := dk_160 0 16 (dk_at dksX3_canGiveUp_0 7 rfl rfl)
theorem dX3_canGiveUp_10 : decode cX3_canGiveUp 10 = .ok (.aload_n 0, 1) := dk_42 (dk_at dksX3_canGiveUp_0 10 rfl rfl)
theorem dX3_canGiveUp_11 : decode cX3_canGiveUp 11 = .ok (.iload_n 1, 1) := dk_27 (dk_at dksX3_canGiveUp_0 11 rfl rfl)
theorem dX3_canGiveUp_12 : decode cX3_canGiveUp 12 = .ok (.iconst 5, 1) := dk_8 (dk_at dksX3_canGiveUp_0 12 rfl rfl)
theorem dX3_canGiveUp_13 : decode cX3_canGiveUp 13 = .ok (.invokevirtual 39, 3) := dk_182 0 39 (dk_at dksX3_canGiveUp_0 13 rfl rfl)
theorem dX3_canGiveUp_16 : decode cX3_canGiveUp 16 = .ok (.ifCond .ne 7, 3) := dk_154 0 7 (dk_at dksX3_canGiveUp_0 16 rfl rfl)
theorem dX3_canGiveUp_19 : decode cX3_canGiveUp 19 = .ok (.iconst 1, 1) := dk_4 (dk_at dksX3_canGiveUp_0 19 rfl rfl)
theorem dX3_canGiveUp_20 : decode cX3_canGiveUp 20 = .ok (.goto 4, 3) := dk_167 0 4 (dk_at dksX3_canGiveUp_0 20 rfl rfl)
theorem dX3_canGiveUp_23 : decode cX3_canGiveUp 23 = .ok (.iconst 0, 1) := dk_3 (dk_at dksX3_canGiveUp_0 23 rfl rfl)
theorem dX3_canGiveUp_24 : decode cX3_canGiveUp 24 = .ok (.ireturn, 1) := dk_172 (dk_at dksX3_canGiveUp_1 0 rfl rfl)
abbrev cX3_decides : ByteArray := prog_19_method_23_code
def yX3_decides : MethodName := ⟨RX3, "decides", "(II)V"⟩
def dkwX3_decides_0 : List UInt8 := [42, 27, 8, 28, 182, 0, 64, 42, 7, 28, 27, 182, 0, 67, 42, 5, 28, 96, 27, 182, 0, 70, 177]
abbrev dktX3_decides_0 : List UInt8 := dkwX3_decides_0 ++ []
theorem dksX3_decides_0 : cX3_decides.data.toList.drop 0 = dktX3_decides_0 := by decide +kernel
theorem dX3_decides_0 : decode cX3_decides 0 = .ok (.aload_n 0, 1) := dk_42 (dk_at dksX3_decides_0 0 rfl rfl)
theorem dX3_decides_1 : decode cX3_decides 1 = .ok (.iload_n 1, 1) := dk_27 (dk_at dksX3_decides_0 1 rfl rfl)
theorem dX3_decides_2 : decode cX3_decides 2 = .ok (.iconst 5, 1) := dk_8 (dk_at dksX3_decides_0 2 rfl rfl)
theorem dX3_decides_3 : decode cX3_decides 3 = .ok (.iload_n 2, 1) := dk_28 (dk_at dksX3_decides_0 3 rfl rfl)
theorem dX3_decides_4 : decode cX3_decides 4 = .ok (.invokevirtual 64, 3) := dk_182 0 64 (dk_at dksX3_decides_0 4 rfl rfl)
theorem dX3_decides_7 : decode cX3_decides 7 = .ok (.aload_n 0, 1) := dk_42 (dk_at dksX3_decides_0 7 rfl rfl)
theorem dX3_decides_8 : decode cX3_decides 8 = .ok (.iconst 4, 1) := dk_7 (dk_at dksX3_decides_0 8 rfl rfl)
theorem dX3_decides_9 : decode cX3_decides 9 = .ok (.iload_n 2, 1) := dk_28 (dk_at dksX3_decides_0 9 rfl rfl)
theorem dX3_decides_10 : decode cX3_decides 10 = .ok (.iload_n 1, 1) := dk_27 (dk_at dksX3_decides_0 10 rfl rfl)
theorem dX3_decides_11 : decode cX3_decides 11 = .ok (.invokevirtual 67, 3) := dk_182 0 67 (dk_at dksX3_decides_0 11 rfl rfl)
theorem dX3_decides_14 : decode cX3_decides 14 = .ok (.aload_n 0, 1) := dk_42 (dk_at dksX3_decides_0 14 rfl rfl)
theorem dX3_decides_15 : decode cX3_decides 15 = .ok (.iconst 2, 1) := dk_5 (dk_at dksX3_decides_0 15 rfl rfl)
theorem dX3_decides_16 : decode cX3_decides 16 = .ok (.iload_n 2, 1) := dk_28 (dk_at dksX3_decides_0 16 rfl rfl)
theorem dX3_decides_17 : decode cX3_decides 17 = .ok (.iadd, 1) := dk_96 (dk_at dksX3_decides_0 17 rfl rfl)
theorem dX3_decides_18 : decode cX3_decides 18 = .ok (.iload_n 1, 1) := dk_27 (dk_at dksX3_decides_0 18 rfl rfl)
theorem dX3_decides_19 : decode cX3_decides 19 = .ok (.invokevirtual 70, 3) := dk_182 0 70 (dk_at dksX3_decides_0 19 rfl rfl)
theorem dX3_decides_22 : decode cX3_decides 22 = .ok (.return_, 1) := dk_177 (dk_at dksX3_decides_0 22 rfl rfl)
abbrev cX3_ask : ByteArray := prog_19_method_42_code
def yX3_ask : MethodName := ⟨RX3, "ask", "(II)I"⟩
def dkwX3_ask_2 : List UInt8 := [16, 6, 28, 27, 182, 0, 60, 42, 180, 0, 7, 16, 13, 46, 172]
abbrev dktX3_ask_2 : List UInt8 := dkwX3_ask_2 ++ []
def dkwX3_ask_1 : List UInt8 := [182, 0, 106, 172, 42, 27, 28, 182, 0, 129, 154, 0, 9, 42, 5, 182, 0, 106, 172, 42, 182, 0, 116, 42]
abbrev dktX3_ask_1 : List UInt8 := dkwX3_ask_1 ++ dktX3_ask_2
def dkwX3_ask_0 : List UInt8 := [42, 3, 181, 0, 28, 27, 184, 0, 103, 153, 0, 11, 42, 28, 182, 0, 123, 154, 0, 9, 42, 4]
abbrev dktX3_ask_0 : List UInt8 := dkwX3_ask_0 ++ dktX3_ask_1
theorem dksX3_ask_0 : cX3_ask.data.toList.drop 0 = dktX3_ask_0 := by decide +kernel
theorem dksX3_ask_1 : cX3_ask.data.toList.drop 22 = dktX3_ask_1 := dk_seg dksX3_ask_0 22 rfl rfl
theorem dksX3_ask_2 : cX3_ask.data.toList.drop 46 = dktX3_ask_2 := dk_seg dksX3_ask_1 24 rfl rfl
theorem dX3_ask_0 : decode cX3_ask 0 = .ok (.aload_n 0, 1) := dk_42 (dk_at dksX3_ask_0 0 rfl rfl)
theorem dX3_ask_1 : decode cX3_ask 1 = .ok (.iconst 0, 1) := dk_3 (dk_at dksX3_ask_0 1 rfl rfl)
theorem dX3_ask_2 : decode cX3_ask 2 = .ok (.putfield 28, 3) := dk_181 0 28 (dk_at dksX3_ask_0 2 rfl rfl)
theorem dX3_ask_5 : decode cX3_ask 5 = .ok (.iload_n 1, 1) := dk_27 (dk_at dksX3_ask_0 5 rfl rfl)
theorem dX3_ask_6 : decode cX3_ask 6 = .ok (.invokestatic 103, 3) := dk_184 0 103 (dk_at dksX3_ask_0 6 rfl rfl)
theorem dX3_ask_9 : decode cX3_ask 9 = .ok (.ifCond .eq 11, 3) := dk_153 0 11 (dk_at dksX3_ask_0 9 rfl rfl)
theorem dX3_ask_12 : decode cX3_ask 12 = .ok (.aload_n 0, 1) := dk_42 (dk_at dksX3_ask_0 12 rfl rfl)
theorem dX3_ask_13 : decode cX3_ask 13 = .ok (.iload_n 2, 1) := dk_28 (dk_at dksX3_ask_0 13 rfl rfl)
theorem dX3_ask_14 : decode cX3_ask 14 = .ok (.invokevirtual 123, 3) := dk_182 0 123 (dk_at dksX3_ask_0 14 rfl rfl)
theorem dX3_ask_17 : decode cX3_ask 17 = .ok (.ifCond .ne 9, 3) := dk_154 0 9 (dk_at dksX3_ask_0 17 rfl rfl)
theorem dX3_ask_20 : decode cX3_ask 20 = .ok (.aload_n 0, 1) := dk_42 (dk_at dksX3_ask_0 20 rfl rfl)
theorem dX3_ask_21 : decode cX3_ask 21 = .ok (.iconst 1, 1) := dk_4 (dk_at dksX3_ask_0 21 rfl rfl)
theorem dX3_ask_22 : decode cX3_ask 22 = .ok (.invokevirtual 106, 3) := dk_182 0 106 (dk_at dksX3_ask_1 0 rfl rfl)
theorem dX3_ask_25 : decode cX3_ask 25 = .ok (.ireturn, 1) := dk_172 (dk_at dksX3_ask_1 3 rfl rfl)
theorem dX3_ask_26 : decode cX3_ask 26 = .ok (.aload_n 0, 1) := dk_42 (dk_at dksX3_ask_1 4 rfl rfl)
theorem dX3_ask_27 : decode cX3_ask 27 = .ok (.iload_n 1, 1) := dk_27 (dk_at dksX3_ask_1 5 rfl rfl)
theorem dX3_ask_28 : decode cX3_ask 28 = .ok (.iload_n 2, 1) := dk_28 (dk_at dksX3_ask_1 6 rfl rfl)
theorem dX3_ask_29 : decode cX3_ask 29 = .ok (.invokevirtual 129, 3) := dk_182 0 129 (dk_at dksX3_ask_1 7 rfl rfl)
theorem dX3_ask_32 : decode cX3_ask 32 = .ok (.ifCond .ne 9, 3) := dk_154 0 9 (dk_at dksX3_ask_1 10 rfl rfl)
theorem dX3_ask_35 : decode cX3_ask 35 = .ok (.aload_n 0, 1) := dk_42 (dk_at dksX3_ask_1 13 rfl rfl)
theorem dX3_ask_36 : decode cX3_ask 36 = .ok (.iconst 2, 1) := dk_5 (dk_at dksX3_ask_1 14 rfl rfl)
theorem dX3_ask_37 : decode cX3_ask 37 = .ok (.invokevirtual 106, 3) := dk_182 0 106 (dk_at dksX3_ask_1 15 rfl rfl)
theorem dX3_ask_40 : decode cX3_ask 40 = .ok (.ireturn, 1) := dk_172 (dk_at dksX3_ask_1 18 rfl rfl)
theorem dX3_ask_41 : decode cX3_ask 41 = .ok (.aload_n 0, 1) := dk_42 (dk_at dksX3_ask_1 19 rfl rfl)
theorem dX3_ask_42 : decode cX3_ask 42 = .ok (.invokevirtual 116, 3) := dk_182 0 116 (dk_at dksX3_ask_1 20 rfl rfl)
theorem dX3_ask_45 : decode cX3_ask 45 = .ok (.aload_n 0, 1) := dk_42 (dk_at dksX3_ask_1 23 rfl rfl)
theorem dX3_ask_46 : decode cX3_ask 46 = .ok (.bipush 6, 2) := dk_16 6 (dk_at dksX3_ask_2 0 rfl rfl)
theorem dX3_ask_48 : decode cX3_ask 48 = .ok (.iload_n 2, 1) := dk_28 (dk_at dksX3_ask_2 2 rfl rfl)
theorem dX3_ask_49 : decode cX3_ask 49 = .ok (.iload_n 1, 1) := dk_27 (dk_at dksX3_ask_2 3 rfl rfl)
theorem dX3_ask_50 : decode cX3_ask 50 = .ok (.invokevirtual 60, 3) := dk_182 0 60 (dk_at dksX3_ask_2 4 rfl rfl)
theorem dX3_ask_53 : decode cX3_ask 53 = .ok (.aload_n 0, 1) := dk_42 (dk_at dksX3_ask_2 7 rfl rfl)
theorem dX3_ask_54 : decode cX3_ask 54 = .ok (.getfield 7, 3) := dk_180 0 7 (dk_at dksX3_ask_2 8 rfl rfl)
theorem dX3_ask_57 : decode cX3_ask 57 = .ok (.bipush 13, 2) := dk_16 13 (dk_at dksX3_ask_2 11 rfl rfl)
theorem dX3_ask_59 : decode cX3_ask 59 = .ok (.iaload, 1) := dk_46 (dk_at dksX3_ask_2 13 rfl rfl)
theorem dX3_ask_60 : decode cX3_ask 60 = .ok (.ireturn, 1) := dk_172 (dk_at dksX3_ask_2 14 rfl rfl)
abbrev cX3_canAsk : ByteArray := prog_19_method_34_code
def yX3_canAsk : MethodName := ⟨RX3, "canAsk", "(II)Z"⟩
def dkwX3_canAsk_1 : List UInt8 := [167, 0, 4, 3, 172]
abbrev dktX3_canAsk_1 : List UInt8 := dkwX3_canAsk_1 ++ []
def dkwX3_canAsk_0 : List UInt8 := [42, 180, 0, 7, 3, 27, 96, 46, 4, 160, 0, 17, 42, 27, 28, 182, 0, 51, 4, 160, 0, 7, 4]
abbrev dktX3_canAsk_0 : List UInt8 := dkwX3_canAsk_0 ++ dktX3_canAsk_1
theorem dksX3_canAsk_0 : cX3_canAsk.data.toList.drop 0 = dktX3_canAsk_0 := by decide +kernel
theorem dksX3_canAsk_1 : cX3_canAsk.data.toList.drop 23 = dktX3_canAsk_1 := dk_seg dksX3_canAsk_0 23 rfl rfl
theorem dX3_canAsk_0 : decode cX3_canAsk 0 = .ok (.aload_n 0, 1) := dk_42 (dk_at dksX3_canAsk_0 0 rfl rfl)
theorem dX3_canAsk_1 : decode cX3_canAsk 1 = .ok (.getfield 7, 3) := dk_180 0 7 (dk_at dksX3_canAsk_0 1 rfl rfl)
theorem dX3_canAsk_4 : decode cX3_canAsk 4 = .ok (.iconst 0, 1) := dk_3 (dk_at dksX3_canAsk_0 4 rfl rfl)
theorem dX3_canAsk_5 : decode cX3_canAsk 5 = .ok (.iload_n 1, 1) := dk_27 (dk_at dksX3_canAsk_0 5 rfl rfl)
theorem dX3_canAsk_6 : decode cX3_canAsk 6 = .ok (.iadd, 1) := dk_96 (dk_at dksX3_canAsk_0 6 rfl rfl)
theorem dX3_canAsk_7 : decode cX3_canAsk 7 = .ok (.iaload, 1) := dk_46 (dk_at dksX3_canAsk_0 7 rfl rfl)
theorem dX3_canAsk_8 : decode cX3_canAsk 8 = .ok (.iconst 1, 1) := dk_4 (dk_at dksX3_canAsk_0 8 rfl rfl)
theorem dX3_canAsk_9 : decode cX3_canAsk 9 = .ok (.if_icmp .ne 17, 3) := dk_160 0 17 (dk_at dksX3_canAsk_0 9 rfl rfl)
theorem dX3_canAsk_12 : decode cX3_canAsk 12 = .ok (.aload_n 0, 1) := dk_42 (dk_at dksX3_canAsk_0 12 rfl rfl)
theorem dX3_canAsk_13 : decode cX3_canAsk 13 = .ok (.iload_n 1, 1) := dk_27 (dk_at dksX3_canAsk_0 13 rfl rfl)
theorem dX3_canAsk_14 : decode cX3_canAsk 14 = .ok (.iload_n 2, 1) := dk_28 (dk_at dksX3_canAsk_0 14 rfl rfl)
theorem dX3_canAsk_15 : decode cX3_canAsk 15 = .ok (.invokevirtual 51, 3) := dk_182 0 51 (dk_at dksX3_canAsk_0 15 rfl rfl)
theorem dX3_canAsk_18 : decode cX3_canAsk 18 = .ok (.iconst 1, 1) := dk_4 (dk_at dksX3_canAsk_0 18 rfl rfl)
theorem dX3_canAsk_19 : decode cX3_canAsk 19 = .ok (.if_icmp .ne 7, 3) := dk_160 0 7 (dk_at dksX3_canAsk_0 19 rfl rfl)
theorem dX3_canAsk_22 : decode cX3_canAsk 22 = .ok (.iconst 1, 1) := dk_4 (dk_at dksX3_canAsk_0 22 rfl rfl)
theorem dX3_canAsk_23 : decode cX3_canAsk 23 = .ok (.goto 4, 3) := dk_167 0 4 (dk_at dksX3_canAsk_1 0 rfl rfl)
theorem dX3_canAsk_26 : decode cX3_canAsk 26 = .ok (.iconst 0, 1) := dk_3 (dk_at dksX3_canAsk_1 3 rfl rfl)
theorem dX3_canAsk_27 : decode cX3_canAsk 27 = .ok (.ireturn, 1) := dk_172 (dk_at dksX3_canAsk_1 4 rfl rfl)
abbrev cX3_stateIn : ByteArray := prog_19_method_11_code
def yX3_stateIn : MethodName := ⟨RX3, "stateIn", "(II)I"⟩
def dkwX3_stateIn_0 : List UInt8 := [42, 180, 0, 7, 16, 70, 16, 8, 27, 104, 96, 28, 96, 46, 172]
abbrev dktX3_stateIn_0 : List UInt8 := dkwX3_stateIn_0 ++ []
theorem dksX3_stateIn_0 : cX3_stateIn.data.toList.drop 0 = dktX3_stateIn_0 := by decide +kernel
theorem dX3_stateIn_0 : decode cX3_stateIn 0 = .ok (.aload_n 0, 1) := dk_42 (dk_at dksX3_stateIn_0 0 rfl rfl)
theorem dX3_stateIn_1 : decode cX3_stateIn 1 = .ok (.getfield 7, 3) := dk_180 0 7 (dk_at dksX3_stateIn_0 1 rfl rfl)
theorem dX3_stateIn_4 : decode cX3_stateIn 4 = .ok (.bipush 70, 2) := dk_16 70 (dk_at dksX3_stateIn_0 4 rfl rfl)
theorem dX3_stateIn_6 : decode cX3_stateIn 6 = .ok (.bipush 8, 2) := dk_16 8 (dk_at dksX3_stateIn_0 6 rfl rfl)
theorem dX3_stateIn_8 : decode cX3_stateIn 8 = .ok (.iload_n 1, 1) := dk_27 (dk_at dksX3_stateIn_0 8 rfl rfl)
theorem dX3_stateIn_9 : decode cX3_stateIn 9 = .ok (.imul, 1) := dk_104 (dk_at dksX3_stateIn_0 9 rfl rfl)
theorem dX3_stateIn_10 : decode cX3_stateIn 10 = .ok (.iadd, 1) := dk_96 (dk_at dksX3_stateIn_0 10 rfl rfl)
theorem dX3_stateIn_11 : decode cX3_stateIn 11 = .ok (.iload_n 2, 1) := dk_28 (dk_at dksX3_stateIn_0 11 rfl rfl)
theorem dX3_stateIn_12 : decode cX3_stateIn 12 = .ok (.iadd, 1) := dk_96 (dk_at dksX3_stateIn_0 12 rfl rfl)
theorem dX3_stateIn_13 : decode cX3_stateIn 13 = .ok (.iaload, 1) := dk_46 (dk_at dksX3_stateIn_0 13 rfl rfl)
theorem dX3_stateIn_14 : decode cX3_stateIn 14 = .ok (.ireturn, 1) := dk_172 (dk_at dksX3_stateIn_0 14 rfl rfl)
abbrev cX3_deliver : ByteArray := prog_19_method_43_code
def yX3_deliver : MethodName := ⟨RX3, "deliver", "(I)Z"⟩
def dkwX3_deliver_1 : List UInt8 := [167, 0, 4, 3, 172, 42, 182, 0, 116, 42, 27, 182, 0, 100, 172]
abbrev dktX3_deliver_1 : List UInt8 := dkwX3_deliver_1 ++ []
def dkwX3_deliver_0 : List UInt8 := [42, 3, 181, 0, 28, 42, 27, 182, 0, 132, 154, 0, 17, 42, 4, 182, 0, 106, 158, 0, 7, 4]
abbrev dktX3_deliver_0 : List UInt8 := dkwX3_deliver_0 ++ dktX3_deliver_1
theorem dksX3_deliver_0 : cX3_deliver.data.toList.drop 0 = dktX3_deliver_0 := by decide +kernel
theorem dksX3_deliver_1 : cX3_deliver.data.toList.drop 22 = dktX3_deliver_1 := dk_seg dksX3_deliver_0 22 rfl rfl
theorem dX3_deliver_0 : decode cX3_deliver 0 = .ok (.aload_n 0, 1) := dk_42 (dk_at dksX3_deliver_0 0 rfl rfl)
theorem dX3_deliver_1 : decode cX3_deliver 1 = .ok (.iconst 0, 1) := dk_3 (dk_at dksX3_deliver_0 1 rfl rfl)
theorem dX3_deliver_2 : decode cX3_deliver 2 = .ok (.putfield 28, 3) := dk_181 0 28 (dk_at dksX3_deliver_0 2 rfl rfl)
theorem dX3_deliver_5 : decode cX3_deliver 5 = .ok (.aload_n 0, 1) := dk_42 (dk_at dksX3_deliver_0 5 rfl rfl)
theorem dX3_deliver_6 : decode cX3_deliver 6 = .ok (.iload_n 1, 1) := dk_27 (dk_at dksX3_deliver_0 6 rfl rfl)
theorem dX3_deliver_7 : decode cX3_deliver 7 = .ok (.invokevirtual 132, 3) := dk_182 0 132 (dk_at dksX3_deliver_0 7 rfl rfl)
theorem dX3_deliver_10 : decode cX3_deliver 10 = .ok (.ifCond .ne 17, 3) := dk_154 0 17 (dk_at dksX3_deliver_0 10 rfl rfl)
theorem dX3_deliver_13 : decode cX3_deliver 13 = .ok (.aload_n 0, 1) := dk_42 (dk_at dksX3_deliver_0 13 rfl rfl)
theorem dX3_deliver_14 : decode cX3_deliver 14 = .ok (.iconst 1, 1) := dk_4 (dk_at dksX3_deliver_0 14 rfl rfl)
theorem dX3_deliver_15 : decode cX3_deliver 15 = .ok (.invokevirtual 106, 3) := dk_182 0 106 (dk_at dksX3_deliver_0 15 rfl rfl)
theorem dX3_deliver_18 : decode cX3_deliver 18 = .ok (.ifCond .le 7, 3) := dk_158 0 7 (dk_at dksX3_deliver_0 18 rfl rfl)
theorem dX3_deliver_21 : decode cX3_deliver 21 = .ok (.iconst 1, 1) := dk_4 (dk_at dksX3_deliver_0 21 rfl rfl)
theorem dX3_deliver_22 : decode cX3_deliver 22 = .ok (.goto 4, 3) := dk_167 0 4 (dk_at dksX3_deliver_1 0 rfl rfl)
theorem dX3_deliver_25 : decode cX3_deliver 25 = .ok (.iconst 0, 1) := dk_3 (dk_at dksX3_deliver_1 3 rfl rfl)
theorem dX3_deliver_26 : decode cX3_deliver 26 = .ok (.ireturn, 1) := dk_172 (dk_at dksX3_deliver_1 4 rfl rfl)
theorem dX3_deliver_27 : decode cX3_deliver 27 = .ok (.aload_n 0, 1) := dk_42 (dk_at dksX3_deliver_1 5 rfl rfl)
theorem dX3_deliver_28 : decode cX3_deliver 28 = .ok (.invokevirtual 116, 3) := dk_182 0 116 (dk_at dksX3_deliver_1 6 rfl rfl)
theorem dX3_deliver_31 : decode cX3_deliver 31 = .ok (.aload_n 0, 1) := dk_42 (dk_at dksX3_deliver_1 9 rfl rfl)
theorem dX3_deliver_32 : decode cX3_deliver 32 = .ok (.iload_n 1, 1) := dk_27 (dk_at dksX3_deliver_1 10 rfl rfl)
theorem dX3_deliver_33 : decode cX3_deliver 33 = .ok (.invokevirtual 100, 3) := dk_182 0 100 (dk_at dksX3_deliver_1 11 rfl rfl)
theorem dX3_deliver_36 : decode cX3_deliver 36 = .ok (.ireturn, 1) := dk_172 (dk_at dksX3_deliver_1 14 rfl rfl)
abbrev cX3_isMessage : ByteArray := prog_19_method_8_code
def yX3_isMessage : MethodName := ⟨RX3, "isMessage", "(I)Z"⟩
def dkwX3_isMessage_0 : List UInt8 := [27, 3, 42, 180, 0, 7, 16, 13, 46, 4, 100, 184, 0, 32, 172]
abbrev dktX3_isMessage_0 : List UInt8 := dkwX3_isMessage_0 ++ []
theorem dksX3_isMessage_0 : cX3_isMessage.data.toList.drop 0 = dktX3_isMessage_0 := by decide +kernel
theorem dX3_isMessage_0 : decode cX3_isMessage 0 = .ok (.iload_n 1, 1) := dk_27 (dk_at dksX3_isMessage_0 0 rfl rfl)
theorem dX3_isMessage_1 : decode cX3_isMessage 1 = .ok (.iconst 0, 1) := dk_3 (dk_at dksX3_isMessage_0 1 rfl rfl)
theorem dX3_isMessage_2 : decode cX3_isMessage 2 = .ok (.aload_n 0, 1) := dk_42 (dk_at dksX3_isMessage_0 2 rfl rfl)
theorem dX3_isMessage_3 : decode cX3_isMessage 3 = .ok (.getfield 7, 3) := dk_180 0 7 (dk_at dksX3_isMessage_0 3 rfl rfl)
theorem dX3_isMessage_6 : decode cX3_isMessage 6 = .ok (.bipush 13, 2) := dk_16 13 (dk_at dksX3_isMessage_0 6 rfl rfl)
theorem dX3_isMessage_8 : decode cX3_isMessage 8 = .ok (.iaload, 1) := dk_46 (dk_at dksX3_isMessage_0 8 rfl rfl)
theorem dX3_isMessage_9 : decode cX3_isMessage 9 = .ok (.iconst 1, 1) := dk_4 (dk_at dksX3_isMessage_0 9 rfl rfl)
theorem dX3_isMessage_10 : decode cX3_isMessage 10 = .ok (.isub, 1) := dk_100 (dk_at dksX3_isMessage_0 10 rfl rfl)
theorem dX3_isMessage_11 : decode cX3_isMessage 11 = .ok (.invokestatic 32, 3) := dk_184 0 32 (dk_at dksX3_isMessage_0 11 rfl rfl)
theorem dX3_isMessage_14 : decode cX3_isMessage 14 = .ok (.ireturn, 1) := dk_172 (dk_at dksX3_isMessage_0 14 rfl rfl)
abbrev cX3_delivers : ByteArray := prog_19_method_30_code
def yX3_delivers : MethodName := ⟨RX3, "delivers", "(I)Z"⟩
def dkwX3_delivers_4 : List UInt8 := [16, 8, 112, 29, 7, 112, 182, 0, 97, 28, 172]
abbrev dktX3_delivers_4 : List UInt8 := dkwX3_delivers_4 ++ []
def dkwX3_delivers_3 : List UInt8 := [16, 8, 112, 29, 7, 112, 182, 0, 94, 167, 0, 24, 28, 153, 0, 20, 42, 29, 16, 32, 108, 29, 7, 108]
abbrev dktX3_delivers_3 : List UInt8 := dkwX3_delivers_3 ++ dktX3_delivers_4
def dkwX3_delivers_2 : List UInt8 := [96, 79, 28, 153, 0, 33, 29, 16, 32, 108, 184, 0, 84, 153, 0, 23, 42, 29, 16, 32, 108, 29, 7, 108]
abbrev dktX3_delivers_2 : List UInt8 := dkwX3_delivers_2 ++ dktX3_delivers_3
def dkwX3_delivers_1 : List UInt8 := [4, 167, 0, 4, 3, 96, 79, 42, 180, 0, 7, 16, 12, 92, 46, 28, 153, 0, 7, 3, 167, 0, 4, 4]
abbrev dktX3_delivers_1 : List UInt8 := dkwX3_delivers_1 ++ dktX3_delivers_2
def dkwX3_delivers_0 : List UInt8 := [42, 27, 182, 0, 88, 61, 42, 27, 182, 0, 91, 62, 42, 180, 0, 7, 16, 11, 92, 46, 28, 153, 0, 7]
abbrev dktX3_delivers_0 : List UInt8 := dkwX3_delivers_0 ++ dktX3_delivers_1
theorem dksX3_delivers_0 : cX3_delivers.data.toList.drop 0 = dktX3_delivers_0 := by decide +kernel
theorem dksX3_delivers_1 : cX3_delivers.data.toList.drop 24 = dktX3_delivers_1 := dk_seg dksX3_delivers_0 24 rfl rfl
theorem dksX3_delivers_2 : cX3_delivers.data.toList.drop 48 = dktX3_delivers_2 := dk_seg dksX3_delivers_1 24 rfl rfl
theorem dksX3_delivers_3 : cX3_delivers.data.toList.drop 72 = dktX3_delivers_3 := dk_seg dksX3_delivers_2 24 rfl rfl
theorem dksX3_delivers_4 : cX3_delivers.data.toList.drop 96 = dktX3_delivers_4 := dk_seg dksX3_delivers_3 24 rfl rfl
theorem dX3_delivers_0 : decode cX3_delivers 0 = .ok (.aload_n 0, 1) := dk_42 (dk_at dksX3_delivers_0 0 rfl rfl)
theorem dX3_delivers_1 : decode cX3_delivers 1 = .ok (.iload_n 1, 1) := dk_27 (dk_at dksX3_delivers_0 1 rfl rfl)
theorem dX3_delivers_2 : decode cX3_delivers 2 = .ok (.invokevirtual 88, 3) := dk_182 0 88 (dk_at dksX3_delivers_0 2 rfl rfl)
theorem dX3_delivers_5 : decode cX3_delivers 5 = .ok (.istore_n 2, 1) := dk_61 (dk_at dksX3_delivers_0 5 rfl rfl)
theorem dX3_delivers_6 : decode cX3_delivers 6 = .ok (.aload_n 0, 1) := dk_42 (dk_at dksX3_delivers_0 6 rfl rfl)
theorem dX3_delivers_7 : decode cX3_delivers 7 = .ok (.iload_n 1, 1) := dk_27 (dk_at dksX3_delivers_0 7 rfl rfl)
theorem dX3_delivers_8 : decode cX3_delivers 8 = .ok (.invokevirtual 91, 3) := dk_182 0 91 (dk_at dksX3_delivers_0 8 rfl rfl)
theorem dX3_delivers_11 : decode cX3_delivers 11 = .ok (.istore_n 3, 1) := dk_62 (dk_at dksX3_delivers_0 11 rfl rfl)
theorem dX3_delivers_12 : decode cX3_delivers 12 = .ok (.aload_n 0, 1) := dk_42 (dk_at dksX3_delivers_0 12 rfl rfl)
theorem dX3_delivers_13 : decode cX3_delivers 13 = .ok (.getfield 7, 3) := dk_180 0 7 (dk_at dksX3_delivers_0 13 rfl rfl)
theorem dX3_delivers_16 : decode cX3_delivers 16 = .ok (.bipush 11, 2) := dk_16 11 (dk_at dksX3_delivers_0 16 rfl rfl)
theorem dX3_delivers_18 : decode cX3_delivers 18 = .ok (.dup2, 1) := dk_92 (dk_at dksX3_delivers_0 18 rfl rfl)
theorem dX3_delivers_19 : decode cX3_delivers 19 = .ok (.iaload, 1) := dk_46 (dk_at dksX3_delivers_0 19 rfl rfl)
theorem dX3_delivers_20 : decode cX3_delivers 20 = .ok (.iload_n 2, 1) := dk_28 (dk_at dksX3_delivers_0 20 rfl rfl)
theorem dX3_delivers_21 : decode cX3_delivers 21 = .ok (.ifCond .eq 7, 3) := dk_153 0 7 (dk_at dksX3_delivers_0 21 rfl rfl)
theorem dX3_delivers_24 : decode cX3_delivers 24 = .ok (.iconst 1, 1) := dk_4 (dk_at dksX3_delivers_1 0 rfl rfl)
theorem dX3_delivers_25 : decode cX3_delivers 25 = .ok (.goto 4, 3) := dk_167 0 4 (dk_at dksX3_delivers_1 1 rfl rfl)
theorem dX3_delivers_28 : decode cX3_delivers 28 = .ok (.iconst 0, 1) := dk_3 (dk_at dksX3_delivers_1 4 rfl rfl)
theorem dX3_delivers_29 : decode cX3_delivers 29 = .ok (.iadd, 1) := dk_96 (dk_at dksX3_delivers_1 5 rfl rfl)
theorem dX3_delivers_30 : decode cX3_delivers 30 = .ok (.iastore, 1) := dk_79 (dk_at dksX3_delivers_1 6 rfl rfl)
theorem dX3_delivers_31 : decode cX3_delivers 31 = .ok (.aload_n 0, 1) := dk_42 (dk_at dksX3_delivers_1 7 rfl rfl)
theorem dX3_delivers_32 : decode cX3_delivers 32 = .ok (.getfield 7, 3) := dk_180 0 7 (dk_at dksX3_delivers_1 8 rfl rfl)
theorem dX3_delivers_35 : decode cX3_delivers 35 = .ok (.bipush 12, 2) := dk_16 12 (dk_at dksX3_delivers_1 11 rfl rfl)
theorem dX3_delivers_37 : decode cX3_delivers 37 = .ok (.dup2, 1) := dk_92 (dk_at dksX3_delivers_1 13 rfl rfl)
theorem dX3_delivers_38 : decode cX3_delivers 38 = .ok (.iaload, 1) := dk_46 (dk_at dksX3_delivers_1 14 rfl rfl)
theorem dX3_delivers_39 : decode cX3_delivers 39 = .ok (.iload_n 2, 1) := dk_28 (dk_at dksX3_delivers_1 15 rfl rfl)
theorem dX3_delivers_40 : decode cX3_delivers 40 = .ok (.ifCond .eq 7, 3) := dk_153 0 7 (dk_at dksX3_delivers_1 16 rfl rfl)
theorem dX3_delivers_43 : decode cX3_delivers 43 = .ok (.iconst 0, 1) := dk_3 (dk_at dksX3_delivers_1 19 rfl rfl)
theorem dX3_delivers_44 : decode cX3_delivers 44 = .ok (.goto 4, 3) := dk_167 0 4 (dk_at dksX3_delivers_1 20 rfl rfl)
theorem dX3_delivers_47 : decode cX3_delivers 47 = .ok (.iconst 1, 1) := dk_4 (dk_at dksX3_delivers_1 23 rfl rfl)
theorem dX3_delivers_48 : decode cX3_delivers 48 = .ok (.iadd, 1) := dk_96 (dk_at dksX3_delivers_2 0 rfl rfl)
theorem dX3_delivers_49 : decode cX3_delivers 49 = .ok (.iastore, 1) := dk_79 (dk_at dksX3_delivers_2 1 rfl rfl)
theorem dX3_delivers_50 : decode cX3_delivers 50 = .ok (.iload_n 2, 1) := dk_28 (dk_at dksX3_delivers_2 2 rfl rfl)
theorem dX3_delivers_51 : decode cX3_delivers 51 = .ok (.ifCond .eq 33, 3) := dk_153 0 33 (dk_at dksX3_delivers_2 3 rfl rfl)
theorem dX3_delivers_54 : decode cX3_delivers 54 = .ok (.iload_n 3, 1) := dk_29 (dk_at dksX3_delivers_2 6 rfl rfl)
theorem dX3_delivers_55 : decode cX3_delivers 55 = .ok (.bipush 32, 2) := dk_16 32 (dk_at dksX3_delivers_2 7 rfl rfl)
theorem dX3_delivers_57 : decode cX3_delivers 57 = .ok (.idiv, 1) := dk_108 (dk_at dksX3_delivers_2 9 rfl rfl)
theorem dX3_delivers_58 : decode cX3_delivers 58 = .ok (.invokestatic 84, 3) := dk_184 0 84 (dk_at dksX3_delivers_2 10 rfl rfl)
theorem dX3_delivers_61 : decode cX3_delivers 61 = .ok (.ifCond .eq 23, 3) := dk_153 0 23 (dk_at dksX3_delivers_2 13 rfl rfl)
theorem dX3_delivers_64 : decode cX3_delivers 64 = .ok (.aload_n 0, 1) := dk_42 (dk_at dksX3_delivers_2 16 rfl rfl)
theorem dX3_delivers_65 : decode cX3_delivers 65 = .ok (.iload_n 3, 1) := dk_29 (dk_at dksX3_delivers_2 17 rfl rfl)
theorem dX3_delivers_66 : decode cX3_delivers 66 = .ok (.bipush 32, 2) := dk_16 32 (dk_at dksX3_delivers_2 18 rfl rfl)
theorem dX3_delivers_68 : decode cX3_delivers 68 = .ok (.idiv, 1) := dk_108 (dk_at dksX3_delivers_2 20 rfl rfl)
theorem dX3_delivers_69 : decode cX3_delivers 69 = .ok (.iload_n 3, 1) := dk_29 (dk_at dksX3_delivers_2 21 rfl rfl)
theorem dX3_delivers_70 : decode cX3_delivers 70 = .ok (.iconst 4, 1) := dk_7 (dk_at dksX3_delivers_2 22 rfl rfl)
theorem dX3_delivers_71 : decode cX3_delivers 71 = .ok (.idiv, 1) := dk_108 (dk_at dksX3_delivers_2 23 rfl rfl)
theorem dX3_delivers_72 : decode cX3_delivers 72 = .ok (.bipush 8, 2) := dk_16 8 (dk_at dksX3_delivers_3 0 rfl rfl)
theorem dX3_delivers_74 : decode cX3_delivers 74 = .ok (.irem, 1) := dk_112 (dk_at dksX3_delivers_3 2 rfl rfl)
theorem dX3_delivers_75 : decode cX3_delivers 75 = .ok (.iload_n 3, 1) := dk_29 (dk_at dksX3_delivers_3 3 rfl rfl)
theorem dX3_delivers_76 : decode cX3_delivers 76 = .ok (.iconst 4, 1) := dk_7 (dk_at dksX3_delivers_3 4 rfl rfl)
theorem dX3_delivers_77 : decode cX3_delivers 77 = .ok (.irem, 1) := dk_112 (dk_at dksX3_delivers_3 5 rfl rfl)
theorem dX3_delivers_78 : decode cX3_delivers 78 = .ok (.invokevirtual 94, 3) := dk_182 0 94 (dk_at dksX3_delivers_3 6 rfl rfl)
theorem dX3_delivers_81 : decode cX3_delivers 81 = .ok (.goto 24, 3) := dk_167 0 24 (dk_at dksX3_delivers_3 9 rfl rfl)
theorem dX3_delivers_84 : decode cX3_delivers 84 = .ok (.iload_n 2, 1) := dk_28 (dk_at dksX3_delivers_3 12 rfl rfl)
theorem dX3_delivers_85 : decode cX3_delivers 85 = .ok (.ifCond .eq 20, 3) := dk_153 0 20 (dk_at dksX3_delivers_3 13 rfl rfl)
theorem dX3_delivers_88 : decode cX3_delivers 88 = .ok (.aload_n 0, 1) := dk_42 (dk_at dksX3_delivers_3 16 rfl rfl)
theorem dX3_delivers_89 : decode cX3_delivers 89 = .ok (.iload_n 3, 1) := dk_29 (dk_at dksX3_delivers_3 17 rfl rfl)
theorem dX3_delivers_90 : decode cX3_delivers 90 = .ok (.bipush 32, 2) := dk_16 32 (dk_at dksX3_delivers_3 18 rfl rfl)
theorem dX3_delivers_92 : decode cX3_delivers 92 = .ok (.idiv, 1) := dk_108 (dk_at dksX3_delivers_3 20 rfl rfl)
theorem dX3_delivers_93 : decode cX3_delivers 93 = .ok (.iload_n 3, 1) := dk_29 (dk_at dksX3_delivers_3 21 rfl rfl)
theorem dX3_delivers_94 : decode cX3_delivers 94 = .ok (.iconst 4, 1) := dk_7 (dk_at dksX3_delivers_3 22 rfl rfl)
theorem dX3_delivers_95 : decode cX3_delivers 95 = .ok (.idiv, 1) := dk_108 (dk_at dksX3_delivers_3 23 rfl rfl)
theorem dX3_delivers_96 : decode cX3_delivers 96 = .ok (.bipush 8, 2) := dk_16 8 (dk_at dksX3_delivers_4 0 rfl rfl)
theorem dX3_delivers_98 : decode cX3_delivers 98 = .ok (.irem, 1) := dk_112 (dk_at dksX3_delivers_4 2 rfl rfl)
theorem dX3_delivers_99 : decode cX3_delivers 99 = .ok (.iload_n 3, 1) := dk_29 (dk_at dksX3_delivers_4 3 rfl rfl)
theorem dX3_delivers_100 : decode cX3_delivers 100 = .ok (.iconst 4, 1) := dk_7 (dk_at dksX3_delivers_4 4 rfl rfl)
theorem dX3_delivers_101 : decode cX3_delivers 101 = .ok (.irem, 1) := dk_112 (dk_at dksX3_delivers_4 5 rfl rfl)
theorem dX3_delivers_102 : decode cX3_delivers 102 = .ok (.invokevirtual 97, 3) := dk_182 0 97 (dk_at dksX3_delivers_4 6 rfl rfl)
theorem dX3_delivers_105 : decode cX3_delivers 105 = .ok (.iload_n 2, 1) := dk_28 (dk_at dksX3_delivers_4 9 rfl rfl)
theorem dX3_delivers_106 : decode cX3_delivers 106 = .ok (.ireturn, 1) := dk_172 (dk_at dksX3_delivers_4 10 rfl rfl)
abbrev cX3_isUpFor : ByteArray := prog_19_method_28_code
def yX3_isUpFor : MethodName := ⟨RX3, "isUpFor", "(I)Z"⟩
def dkwX3_isUpFor_1 : List UInt8 := [153, 0, 9, 28, 7, 112, 167, 0, 4, 7, 96, 46, 4, 160, 0, 7, 4, 167, 0, 4, 3, 172]
abbrev dktX3_isUpFor_1 : List UInt8 := dkwX3_isUpFor_1 ++ []
def dkwX3_isUpFor_0 : List UInt8 := [42, 180, 0, 7, 17, 0, 195, 27, 96, 46, 61, 42, 180, 0, 7, 3, 28, 16, 32, 108, 184, 0, 84]
abbrev dktX3_isUpFor_0 : List UInt8 := dkwX3_isUpFor_0 ++ dktX3_isUpFor_1
theorem dksX3_isUpFor_0 : cX3_isUpFor.data.toList.drop 0 = dktX3_isUpFor_0 := by decide +kernel
theorem dksX3_isUpFor_1 : cX3_isUpFor.data.toList.drop 23 = dktX3_isUpFor_1 := dk_seg dksX3_isUpFor_0 23 rfl rfl
theorem dX3_isUpFor_0 : decode cX3_isUpFor 0 = .ok (.aload_n 0, 1) := dk_42 (dk_at dksX3_isUpFor_0 0 rfl rfl)
theorem dX3_isUpFor_1 : decode cX3_isUpFor 1 = .ok (.getfield 7, 3) := dk_180 0 7 (dk_at dksX3_isUpFor_0 1 rfl rfl)
theorem dX3_isUpFor_4 : decode cX3_isUpFor 4 = .ok (.sipush 195, 3) := dk_17 0 195 (dk_at dksX3_isUpFor_0 4 rfl rfl)
theorem dX3_isUpFor_7 : decode cX3_isUpFor 7 = .ok (.iload_n 1, 1) := dk_27 (dk_at dksX3_isUpFor_0 7 rfl rfl)
theorem dX3_isUpFor_8 : decode cX3_isUpFor 8 = .ok (.iadd, 1) := dk_96 (dk_at dksX3_isUpFor_0 8 rfl rfl)
theorem dX3_isUpFor_9 : decode cX3_isUpFor 9 = .ok (.iaload, 1) := dk_46 (dk_at dksX3_isUpFor_0 9 rfl rfl)
theorem dX3_isUpFor_10 : decode cX3_isUpFor 10 = .ok (.istore_n 2, 1) := dk_61 (dk_at dksX3_isUpFor_0 10 rfl rfl)
theorem dX3_isUpFor_11 : decode cX3_isUpFor 11 = .ok (.aload_n 0, 1) := dk_42 (dk_at dksX3_isUpFor_0 11 rfl rfl)
theorem dX3_isUpFor_12 : decode cX3_isUpFor 12 = .ok (.getfield 7, 3) := dk_180 0 7 (dk_at dksX3_isUpFor_0 12 rfl rfl)
theorem dX3_isUpFor_15 : decode cX3_isUpFor 15 = .ok (.iconst 0, 1) := dk_3 (dk_at dksX3_isUpFor_0 15 rfl rfl)
theorem dX3_isUpFor_16 : decode cX3_isUpFor 16 = .ok (.iload_n 2, 1) := dk_28 (dk_at dksX3_isUpFor_0 16 rfl rfl)
theorem dX3_isUpFor_17 : decode cX3_isUpFor 17 = .ok (.bipush 32, 2) := dk_16 32 (dk_at dksX3_isUpFor_0 17 rfl rfl)
theorem dX3_isUpFor_19 : decode cX3_isUpFor 19 = .ok (.idiv, 1) := dk_108 (dk_at dksX3_isUpFor_0 19 rfl rfl)
theorem dX3_isUpFor_20 : decode cX3_isUpFor 20 = .ok (.invokestatic 84, 3) := dk_184 0 84 (dk_at dksX3_isUpFor_0 20 rfl rfl)
theorem dX3_isUpFor_23 : decode cX3_isUpFor 23 = .ok (.ifCond .eq 9, 3) := dk_153 0 9 (dk_at dksX3_isUpFor_1 0 rfl rfl)
theorem dX3_isUpFor_26 : decode cX3_isUpFor 26 = .ok (.iload_n 2, 1) := dk_28 (dk_at dksX3_isUpFor_1 3 rfl rfl)
theorem dX3_isUpFor_27 : decode cX3_isUpFor 27 = .ok (.iconst 4, 1) := dk_7 (dk_at dksX3_isUpFor_1 4 rfl rfl)
theorem dX3_isUpFor_28 : decode cX3_isUpFor 28 = .ok (.irem, 1) := dk_112 (dk_at dksX3_isUpFor_1 5 rfl rfl)
theorem dX3_isUpFor_29 : decode cX3_isUpFor 29 = .ok (.goto 4, 3) := dk_167 0 4 (dk_at dksX3_isUpFor_1 6 rfl rfl)
theorem dX3_isUpFor_32 : decode cX3_isUpFor 32 = .ok (.iconst 4, 1) := dk_7 (dk_at dksX3_isUpFor_1 9 rfl rfl)
theorem dX3_isUpFor_33 : decode cX3_isUpFor 33 = .ok (.iadd, 1) := dk_96 (dk_at dksX3_isUpFor_1 10 rfl rfl)
theorem dX3_isUpFor_34 : decode cX3_isUpFor 34 = .ok (.iaload, 1) := dk_46 (dk_at dksX3_isUpFor_1 11 rfl rfl)
theorem dX3_isUpFor_35 : decode cX3_isUpFor 35 = .ok (.iconst 1, 1) := dk_4 (dk_at dksX3_isUpFor_1 12 rfl rfl)
theorem dX3_isUpFor_36 : decode cX3_isUpFor 36 = .ok (.if_icmp .ne 7, 3) := dk_160 0 7 (dk_at dksX3_isUpFor_1 13 rfl rfl)
theorem dX3_isUpFor_39 : decode cX3_isUpFor 39 = .ok (.iconst 1, 1) := dk_4 (dk_at dksX3_isUpFor_1 16 rfl rfl)
theorem dX3_isUpFor_40 : decode cX3_isUpFor 40 = .ok (.goto 4, 3) := dk_167 0 4 (dk_at dksX3_isUpFor_1 17 rfl rfl)
theorem dX3_isUpFor_43 : decode cX3_isUpFor 43 = .ok (.iconst 0, 1) := dk_3 (dk_at dksX3_isUpFor_1 20 rfl rfl)
theorem dX3_isUpFor_44 : decode cX3_isUpFor 44 = .ok (.ireturn, 1) := dk_172 (dk_at dksX3_isUpFor_1 21 rfl rfl)
abbrev cX3_goesToStore : ByteArray := prog_19_method_27_code
def yX3_goesToStore : MethodName := ⟨RX3, "goesToStore", "(I)Z"⟩
def dkwX3_goesToStore_0 : List UInt8 := [26, 153, 0, 13, 26, 6, 159, 0, 8, 26, 7, 160, 0, 7, 4, 167, 0, 4, 3, 172]
abbrev dktX3_goesToStore_0 : List UInt8 := dkwX3_goesToStore_0 ++ []
theorem dksX3_goesToStore_0 : cX3_goesToStore.data.toList.drop 0 = dktX3_goesToStore_0 := by decide +kernel
theorem dX3_goesToStore_0 : decode cX3_goesToStore 0 = .ok (.iload_n 0, 1) := dk_26 (dk_at dksX3_goesToStore_0 0 rfl rfl)
theorem dX3_goesToStore_1 : decode cX3_goesToStore 1 = .ok (.ifCond .eq 13, 3) := dk_153 0 13 (dk_at dksX3_goesToStore_0 1 rfl rfl)
theorem dX3_goesToStore_4 : decode cX3_goesToStore 4 = .ok (.iload_n 0, 1) := dk_26 (dk_at dksX3_goesToStore_0 4 rfl rfl)
theorem dX3_goesToStore_5 : decode cX3_goesToStore 5 = .ok (.iconst 3, 1) := dk_6 (dk_at dksX3_goesToStore_0 5 rfl rfl)
theorem dX3_goesToStore_6 : decode cX3_goesToStore 6 = .ok (.if_icmp .eq 8, 3) := dk_159 0 8 (dk_at dksX3_goesToStore_0 6 rfl rfl)
theorem dX3_goesToStore_9 : decode cX3_goesToStore 9 = .ok (.iload_n 0, 1) := dk_26 (dk_at dksX3_goesToStore_0 9 rfl rfl)
theorem dX3_goesToStore_10 : decode cX3_goesToStore 10 = .ok (.iconst 4, 1) := dk_7 (dk_at dksX3_goesToStore_0 10 rfl rfl)
theorem dX3_goesToStore_11 : decode cX3_goesToStore 11 = .ok (.if_icmp .ne 7, 3) := dk_160 0 7 (dk_at dksX3_goesToStore_0 11 rfl rfl)
theorem dX3_goesToStore_14 : decode cX3_goesToStore 14 = .ok (.iconst 1, 1) := dk_4 (dk_at dksX3_goesToStore_0 14 rfl rfl)
theorem dX3_goesToStore_15 : decode cX3_goesToStore 15 = .ok (.goto 4, 3) := dk_167 0 4 (dk_at dksX3_goesToStore_0 15 rfl rfl)
theorem dX3_goesToStore_18 : decode cX3_goesToStore 18 = .ok (.iconst 0, 1) := dk_3 (dk_at dksX3_goesToStore_0 18 rfl rfl)
theorem dX3_goesToStore_19 : decode cX3_goesToStore 19 = .ok (.ireturn, 1) := dk_172 (dk_at dksX3_goesToStore_0 19 rfl rfl)
abbrev cX3_takes : ByteArray := prog_19_method_29_code
def yX3_takes : MethodName := ⟨RX3, "takes", "(I)I"⟩
def dkwX3_takes_3 : List UInt8 := [180, 0, 7, 16, 13, 46, 96, 3, 79, 28, 172]
abbrev dktX3_takes_3 : List UInt8 := dkwX3_takes_3 ++ []
def dkwX3_takes_2 : List UInt8 := [17, 0, 195, 29, 96, 4, 96, 46, 79, 132, 3, 1, 167, 255, 220, 42, 180, 0, 7, 17, 0, 195, 42]
abbrev dktX3_takes_2 : List UInt8 := dkwX3_takes_2 ++ dktX3_takes_3
def dkwX3_takes_1 : List UInt8 := [29, 42, 180, 0, 7, 16, 13, 46, 162, 0, 31, 42, 180, 0, 7, 17, 0, 195, 29, 96, 42, 180, 0, 7]
abbrev dktX3_takes_1 : List UInt8 := dkwX3_takes_1 ++ dktX3_takes_2
def dkwX3_takes_0 : List UInt8 := [42, 180, 0, 7, 17, 0, 195, 27, 96, 46, 61, 42, 180, 0, 7, 16, 13, 92, 46, 4, 100, 79, 27, 62]
abbrev dktX3_takes_0 : List UInt8 := dkwX3_takes_0 ++ dktX3_takes_1
theorem dksX3_takes_0 : cX3_takes.data.toList.drop 0 = dktX3_takes_0 := by decide +kernel
theorem dksX3_takes_1 : cX3_takes.data.toList.drop 24 = dktX3_takes_1 := dk_seg dksX3_takes_0 24 rfl rfl
theorem dksX3_takes_2 : cX3_takes.data.toList.drop 48 = dktX3_takes_2 := dk_seg dksX3_takes_1 24 rfl rfl
theorem dksX3_takes_3 : cX3_takes.data.toList.drop 71 = dktX3_takes_3 := dk_seg dksX3_takes_2 23 rfl rfl
theorem dX3_takes_0 : decode cX3_takes 0 = .ok (.aload_n 0, 1) := dk_42 (dk_at dksX3_takes_0 0 rfl rfl)
theorem dX3_takes_1 : decode cX3_takes 1 = .ok (.getfield 7, 3) := dk_180 0 7 (dk_at dksX3_takes_0 1 rfl rfl)
theorem dX3_takes_4 : decode cX3_takes 4 = .ok (.sipush 195, 3) := dk_17 0 195 (dk_at dksX3_takes_0 4 rfl rfl)
theorem dX3_takes_7 : decode cX3_takes 7 = .ok (.iload_n 1, 1) := dk_27 (dk_at dksX3_takes_0 7 rfl rfl)
theorem dX3_takes_8 : decode cX3_takes 8 = .ok (.iadd, 1) := dk_96 (dk_at dksX3_takes_0 8 rfl rfl)
theorem dX3_takes_9 : decode cX3_takes 9 = .ok (.iaload, 1) := dk_46 (dk_at dksX3_takes_0 9 rfl rfl)
theorem dX3_takes_10 : decode cX3_takes 10 = .ok (.istore_n 2, 1) := dk_61 (dk_at dksX3_takes_0 10 rfl rfl)
theorem dX3_takes_11 : decode cX3_takes 11 = .ok (.aload_n 0, 1) := dk_42 (dk_at dksX3_takes_0 11 rfl rfl)
theorem dX3_takes_12 : decode cX3_takes 12 = .ok (.getfield 7, 3) := dk_180 0 7 (dk_at dksX3_takes_0 12 rfl rfl)
theorem dX3_takes_15 : decode cX3_takes 15 = .ok (.bipush 13, 2) := dk_16 13 (dk_at dksX3_takes_0 15 rfl rfl)
theorem dX3_takes_17 : decode cX3_takes 17 = .ok (.dup2, 1) := dk_92 (dk_at dksX3_takes_0 17 rfl rfl)
theorem dX3_takes_18 : decode cX3_takes 18 = .ok (.iaload, 1) := dk_46 (dk_at dksX3_takes_0 18 rfl rfl)
theorem dX3_takes_19 : decode cX3_takes 19 = .ok (.iconst 1, 1) := dk_4 (dk_at dksX3_takes_0 19 rfl rfl)
theorem dX3_takes_20 : decode cX3_takes 20 = .ok (.isub, 1) := dk_100 (dk_at dksX3_takes_0 20 rfl rfl)
theorem dX3_takes_21 : decode cX3_takes 21 = .ok (.iastore, 1) := dk_79 (dk_at dksX3_takes_0 21 rfl rfl)
theorem dX3_takes_22 : decode cX3_takes 22 = .ok (.iload_n 1, 1) := dk_27 (dk_at dksX3_takes_0 22 rfl rfl)
theorem dX3_takes_23 : decode cX3_takes 23 = .ok (.istore_n 3, 1) := dk_62 (dk_at dksX3_takes_0 23 rfl rfl)
theorem dX3_takes_24 : decode cX3_takes 24 = .ok (.iload_n 3, 1) := dk_29 (dk_at dksX3_takes_1 0 rfl rfl)
theorem dX3_takes_25 : decode cX3_takes 25 = .ok (.aload_n 0, 1) := dk_42 (dk_at dksX3_takes_1 1 rfl rfl)
theorem dX3_takes_26 : decode cX3_takes 26 = .ok (.getfield 7, 3) := dk_180 0 7 (dk_at dksX3_takes_1 2 rfl rfl)
theorem dX3_takes_29 : decode cX3_takes 29 = .ok (.bipush 13, 2) := dk_16 13 (dk_at dksX3_takes_1 5 rfl rfl)
theorem dX3_takes_31 : decode cX3_takes 31 = .ok (.iaload, 1) := dk_46 (dk_at dksX3_takes_1 7 rfl rfl)
theorem dX3_takes_32 : decode cX3_takes 32 = .ok (.if_icmp .ge 31, 3) := dk_162 0 31 (dk_at dksX3_takes_1 8 rfl rfl)
theorem dX3_takes_35 : decode cX3_takes 35 = .ok (.aload_n 0, 1) := dk_42 (dk_at dksX3_takes_1 11 rfl rfl)
theorem dX3_takes_36 : decode cX3_takes 36 = .ok (.getfield 7, 3) := dk_180 0 7 (dk_at dksX3_takes_1 12 rfl rfl)
theorem dX3_takes_39 : decode cX3_takes 39 = .ok (.sipush 195, 3) := dk_17 0 195 (dk_at dksX3_takes_1 15 rfl rfl)
theorem dX3_takes_42 : decode cX3_takes 42 = .ok (.iload_n 3, 1) := dk_29 (dk_at dksX3_takes_1 18 rfl rfl)
theorem dX3_takes_43 : decode cX3_takes 43 = .ok (.iadd, 1) := dk_96 (dk_at dksX3_takes_1 19 rfl rfl)
theorem dX3_takes_44 : decode cX3_takes 44 = .ok (.aload_n 0, 1) := dk_42 (dk_at dksX3_takes_1 20 rfl rfl)
theorem dX3_takes_45 : decode cX3_takes 45 = .ok (.getfield 7, 3) := dk_180 0 7 (dk_at dksX3_takes_1 21 rfl rfl)
theorem dX3_takes_48 : decode cX3_takes 48 = .ok (.sipush 195, 3) := dk_17 0 195 (dk_at dksX3_takes_2 0 rfl rfl)
theorem dX3_takes_51 : decode cX3_takes 51 = .ok (.iload_n 3, 1) := dk_29 (dk_at dksX3_takes_2 3 rfl rfl)
theorem dX3_takes_52 : decode cX3_takes 52 = .ok (.iadd, 1) := dk_96 (dk_at dksX3_takes_2 4 rfl rfl)
theorem dX3_takes_53 : decode cX3_takes 53 = .ok (.iconst 1, 1) := dk_4 (dk_at dksX3_takes_2 5 rfl rfl)
theorem dX3_takes_54 : decode cX3_takes 54 = .ok (.iadd, 1) := dk_96 (dk_at dksX3_takes_2 6 rfl rfl)
theorem dX3_takes_55 : decode cX3_takes 55 = .ok (.iaload, 1) := dk_46 (dk_at dksX3_takes_2 7 rfl rfl)
theorem dX3_takes_56 : decode cX3_takes 56 = .ok (.iastore, 1) := dk_79 (dk_at dksX3_takes_2 8 rfl rfl)
theorem dX3_takes_57 : decode cX3_takes 57 = .ok (.iinc 3 1, 3) := dk_132 3 1 (dk_at dksX3_takes_2 9 rfl rfl)
theorem dX3_takes_60 : decode cX3_takes 60 = .ok (.goto (-36), 3) := dk_167 255 220 (dk_at dksX3_takes_2 12 rfl rfl)
theorem dX3_takes_63 : decode cX3_takes 63 = .ok (.aload_n 0, 1) := dk_42 (dk_at dksX3_takes_2 15 rfl rfl)
theorem dX3_takes_64 : decode cX3_takes 64 = .ok (.getfield 7, 3) := dk_180 0 7 (dk_at dksX3_takes_2 16 rfl rfl)
theorem dX3_takes_67 : decode cX3_takes 67 = .ok (.sipush 195, 3) := dk_17 0 195 (dk_at dksX3_takes_2 19 rfl rfl)
theorem dX3_takes_70 : decode cX3_takes 70 = .ok (.aload_n 0, 1) := dk_42 (dk_at dksX3_takes_2 22 rfl rfl)
theorem dX3_takes_71 : decode cX3_takes 71 = .ok (.getfield 7, 3) := dk_180 0 7 (dk_at dksX3_takes_3 0 rfl rfl)
theorem dX3_takes_74 : decode cX3_takes 74 = .ok (.bipush 13, 2) := dk_16 13 (dk_at dksX3_takes_3 3 rfl rfl)
theorem dX3_takes_76 : decode cX3_takes 76 = .ok (.iaload, 1) := dk_46 (dk_at dksX3_takes_3 5 rfl rfl)
theorem dX3_takes_77 : decode cX3_takes 77 = .ok (.iadd, 1) := dk_96 (dk_at dksX3_takes_3 6 rfl rfl)
theorem dX3_takes_78 : decode cX3_takes 78 = .ok (.iconst 0, 1) := dk_3 (dk_at dksX3_takes_3 7 rfl rfl)
theorem dX3_takes_79 : decode cX3_takes 79 = .ok (.iastore, 1) := dk_79 (dk_at dksX3_takes_3 8 rfl rfl)
theorem dX3_takes_80 : decode cX3_takes 80 = .ok (.iload_n 2, 1) := dk_28 (dk_at dksX3_takes_3 9 rfl rfl)
theorem dX3_takes_81 : decode cX3_takes 81 = .ok (.ireturn, 1) := dk_172 (dk_at dksX3_takes_3 10 rfl rfl)
abbrev cX3_atStore : ByteArray := prog_19_method_25_code
def yX3_atStore : MethodName := ⟨RX3, "atStore", "(III)V"⟩
def dkwX3_atStore_5 : List UInt8 := [182, 0, 78, 21, 4, 5, 159, 0, 10, 42, 8, 28, 29, 182, 0, 60, 177]
abbrev dktX3_atStore_5 : List UInt8 := dkwX3_atStore_5 ++ []
def dkwX3_atStore_4 : List UInt8 := [5, 160, 0, 39, 42, 8, 28, 29, 182, 0, 60, 167, 0, 29, 21, 4, 5, 162, 0, 10, 42, 29, 28, 6]
abbrev dktX3_atStore_4 : List UInt8 := dkwX3_atStore_4 ++ dktX3_atStore_5
def dkwX3_atStore_3 : List UInt8 := [160, 0, 38, 21, 4, 4, 160, 0, 10, 42, 29, 28, 5, 182, 0, 78, 21, 4, 4, 159, 0, 9, 21, 4]
abbrev dktX3_atStore_3 : List UInt8 := dkwX3_atStore_3 ++ dktX3_atStore_4
def dkwX3_atStore_2 : List UInt8 := [42, 21, 4, 6, 160, 0, 7, 5, 167, 0, 4, 4, 28, 29, 182, 0, 60, 167, 0, 69, 27, 6]
abbrev dktX3_atStore_2 : List UInt8 := dkwX3_atStore_2 ++ dktX3_atStore_3
def dkwX3_atStore_1 : List UInt8 := [182, 0, 54, 182, 0, 74, 153, 0, 7, 4, 167, 0, 4, 6, 54, 4, 42, 29, 28, 21, 4, 182, 0, 78]
abbrev dktX3_atStore_1 : List UInt8 := dkwX3_atStore_1 ++ dktX3_atStore_2
def dkwX3_atStore_0 : List UInt8 := [42, 29, 28, 182, 0, 51, 54, 4, 27, 154, 0, 57, 21, 4, 154, 0, 32, 42, 29, 42, 28, 29]
abbrev dktX3_atStore_0 : List UInt8 := dkwX3_atStore_0 ++ dktX3_atStore_1
theorem dksX3_atStore_0 : cX3_atStore.data.toList.drop 0 = dktX3_atStore_0 := by decide +kernel
theorem dksX3_atStore_1 : cX3_atStore.data.toList.drop 22 = dktX3_atStore_1 := dk_seg dksX3_atStore_0 22 rfl rfl
theorem dksX3_atStore_2 : cX3_atStore.data.toList.drop 46 = dktX3_atStore_2 := dk_seg dksX3_atStore_1 24 rfl rfl
theorem dksX3_atStore_3 : cX3_atStore.data.toList.drop 68 = dktX3_atStore_3 := dk_seg dksX3_atStore_2 22 rfl rfl
theorem dksX3_atStore_4 : cX3_atStore.data.toList.drop 92 = dktX3_atStore_4 := dk_seg dksX3_atStore_3 24 rfl rfl
theorem dksX3_atStore_5 : cX3_atStore.data.toList.drop 116 = dktX3_atStore_5 := dk_seg dksX3_atStore_4 24 rfl rfl
theorem dX3_atStore_0 : decode cX3_atStore 0 = .ok (.aload_n 0, 1) := dk_42 (dk_at dksX3_atStore_0 0 rfl rfl)
theorem dX3_atStore_1 : decode cX3_atStore 1 = .ok (.iload_n 3, 1) := dk_29 (dk_at dksX3_atStore_0 1 rfl rfl)
theorem dX3_atStore_2 : decode cX3_atStore 2 = .ok (.iload_n 2, 1) := dk_28 (dk_at dksX3_atStore_0 2 rfl rfl)
theorem dX3_atStore_3 : decode cX3_atStore 3 = .ok (.invokevirtual 51, 3) := dk_182 0 51 (dk_at dksX3_atStore_0 3 rfl rfl)
theorem dX3_atStore_6 : decode cX3_atStore 6 = .ok (.istore 4, 2) := dk_54 4 (dk_at dksX3_atStore_0 6 rfl rfl)
theorem dX3_atStore_8 : decode cX3_atStore 8 = .ok (.iload_n 1, 1) := dk_27 (dk_at dksX3_atStore_0 8 rfl rfl)
theorem dX3_atStore_9 : decode cX3_atStore 9 = .ok (.ifCond .ne 57, 3) := dk_154 0 57 (dk_at dksX3_atStore_0 9 rfl rfl)
theorem dX3_atStore_12 : decode cX3_atStore 12 = .ok (.iload 4, 2) := dk_21 4 (dk_at dksX3_atStore_0 12 rfl rfl)
theorem dX3_atStore_14 : decode cX3_atStore 14 = .ok (.ifCond .ne 32, 3) := dk_154 0 32 (dk_at dksX3_atStore_0 14 rfl rfl)
theorem dX3_atStore_17 : decode cX3_atStore 17 = .ok (.aload_n 0, 1) := dk_42 (dk_at dksX3_atStore_0 17 rfl rfl)
theorem dX3_atStore_18 : decode cX3_atStore 18 = .ok (.iload_n 3, 1) := dk_29 (dk_at dksX3_atStore_0 18 rfl rfl)
theorem dX3_atStore_19 : decode cX3_atStore 19 = .ok (.aload_n 0, 1) := dk_42 (dk_at dksX3_atStore_0 19 rfl rfl)
theorem dX3_atStore_20 : decode cX3_atStore 20 = .ok (.iload_n 2, 1) := dk_28 (dk_at dksX3_atStore_0 20 rfl rfl)
theorem dX3_atStore_21 : decode cX3_atStore 21 = .ok (.iload_n 3, 1) := dk_29 (dk_at dksX3_atStore_0 21 rfl rfl)
theorem dX3_atStore_22 : decode cX3_atStore 22 = .ok (.invokevirtual 54, 3) := dk_182 0 54 (dk_at dksX3_atStore_1 0 rfl rfl)
theorem dX3_atStore_25 : decode cX3_atStore 25 = .ok (.invokevirtual 74, 3) := dk_182 0 74 (dk_at dksX3_atStore_1 3 rfl rfl)
theorem dX3_atStore_28 : decode cX3_atStore 28 = .ok (.ifCond .eq 7, 3) := dk_153 0 7 (dk_at dksX3_atStore_1 6 rfl rfl)
theorem dX3_atStore_31 : decode cX3_atStore 31 = .ok (.iconst 1, 1) := dk_4 (dk_at dksX3_atStore_1 9 rfl rfl)
theorem dX3_atStore_32 : decode cX3_atStore 32 = .ok (.goto 4, 3) := dk_167 0 4 (dk_at dksX3_atStore_1 10 rfl rfl)
theorem dX3_atStore_35 : decode cX3_atStore 35 = .ok (.iconst 3, 1) := dk_6 (dk_at dksX3_atStore_1 13 rfl rfl)
theorem dX3_atStore_36 : decode cX3_atStore 36 = .ok (.istore 4, 2) := dk_54 4 (dk_at dksX3_atStore_1 14 rfl rfl)
theorem dX3_atStore_38 : decode cX3_atStore 38 = .ok (.aload_n 0, 1) := dk_42 (dk_at dksX3_atStore_1 16 rfl rfl)
theorem dX3_atStore_39 : decode cX3_atStore 39 = .ok (.iload_n 3, 1) := dk_29 (dk_at dksX3_atStore_1 17 rfl rfl)
theorem dX3_atStore_40 : decode cX3_atStore 40 = .ok (.iload_n 2, 1) := dk_28 (dk_at dksX3_atStore_1 18 rfl rfl)
theorem dX3_atStore_41 : decode cX3_atStore 41 = .ok (.iload 4, 2) := dk_21 4 (dk_at dksX3_atStore_1 19 rfl rfl)
theorem dX3_atStore_43 : decode cX3_atStore 43 = .ok (.invokevirtual 78, 3) := dk_182 0 78 (dk_at dksX3_atStore_1 21 rfl rfl)
theorem dX3_atStore_46 : decode cX3_atStore 46 = .ok (.aload_n 0, 1) := dk_42 (dk_at dksX3_atStore_2 0 rfl rfl)
theorem dX3_atStore_47 : decode cX3_atStore 47 = .ok (.iload 4, 2) := dk_21 4 (dk_at dksX3_atStore_2 1 rfl rfl)
theorem dX3_atStore_49 : decode cX3_atStore 49 = .ok (.iconst 3, 1) := dk_6 (dk_at dksX3_atStore_2 3 rfl rfl)
theorem dX3_atStore_50 : decode cX3_atStore 50 = .ok (.if_icmp .ne 7, 3) := dk_160 0 7 (dk_at dksX3_atStore_2 4 rfl rfl)
theorem dX3_atStore_53 : decode cX3_atStore 53 = .ok (.iconst 2, 1) := dk_5 (dk_at dksX3_atStore_2 7 rfl rfl)
theorem dX3_atStore_54 : decode cX3_atStore 54 = .ok (.goto 4, 3) := dk_167 0 4 (dk_at dksX3_atStore_2 8 rfl rfl)
theorem dX3_atStore_57 : decode cX3_atStore 57 = .ok (.iconst 1, 1) := dk_4 (dk_at dksX3_atStore_2 11 rfl rfl)
theorem dX3_atStore_58 : decode cX3_atStore 58 = .ok (.iload_n 2, 1) := dk_28 (dk_at dksX3_atStore_2 12 rfl rfl)
theorem dX3_atStore_59 : decode cX3_atStore 59 = .ok (.iload_n 3, 1) := dk_29 (dk_at dksX3_atStore_2 13 rfl rfl)
theorem dX3_atStore_60 : decode cX3_atStore 60 = .ok (.invokevirtual 60, 3) := dk_182 0 60 (dk_at dksX3_atStore_2 14 rfl rfl)
theorem dX3_atStore_63 : decode cX3_atStore 63 = .ok (.goto 69, 3) := dk_167 0 69 (dk_at dksX3_atStore_2 17 rfl rfl)
theorem dX3_atStore_66 : decode cX3_atStore 66 = .ok (.iload_n 1, 1) := dk_27 (dk_at dksX3_atStore_2 20 rfl rfl)
theorem dX3_atStore_67 : decode cX3_atStore 67 = .ok (.iconst 3, 1) := dk_6 (dk_at dksX3_atStore_2 21 rfl rfl)
theorem dX3_atStore_68 : decode cX3_atStore 68 = .ok (.if_icmp .ne 38, 3) := dk_160 0 38 (dk_at dksX3_atStore_3 0 rfl rfl)
theorem dX3_atStore_71 : decode cX3_atStore 71 = .ok (.iload 4, 2) := dk_21 4 (dk_at dksX3_atStore_3 3 rfl rfl)
theorem dX3_atStore_73 : decode cX3_atStore 73 = .ok (.iconst 1, 1) := dk_4 (dk_at dksX3_atStore_3 5 rfl rfl)
theorem dX3_atStore_74 : decode cX3_atStore 74 = .ok (.if_icmp .ne 10, 3) := dk_160 0 10 (dk_at dksX3_atStore_3 6 rfl rfl)
theorem dX3_atStore_77 : decode cX3_atStore 77 = .ok (.aload_n 0, 1) := dk_42 (dk_at dksX3_atStore_3 9 rfl rfl)
theorem dX3_atStore_78 : decode cX3_atStore 78 = .ok (.iload_n 3, 1) := dk_29 (dk_at dksX3_atStore_3 10 rfl rfl)
theorem dX3_atStore_79 : decode cX3_atStore 79 = .ok (.iload_n 2, 1) := dk_28 (dk_at dksX3_atStore_3 11 rfl rfl)
theorem dX3_atStore_80 : decode cX3_atStore 80 = .ok (.iconst 2, 1) := dk_5 (dk_at dksX3_atStore_3 12 rfl rfl)
theorem dX3_atStore_81 : decode cX3_atStore 81 = .ok (.invokevirtual 78, 3) := dk_182 0 78 (dk_at dksX3_atStore_3 13 rfl rfl)
theorem dX3_atStore_84 : decode cX3_atStore 84 = .ok (.iload 4, 2) := dk_21 4 (dk_at dksX3_atStore_3 16 rfl rfl)
theorem dX3_atStore_86 : decode cX3_atStore 86 = .ok (.iconst 1, 1) := dk_4 (dk_at dksX3_atStore_3 18 rfl rfl)
theorem dX3_atStore_87 : decode cX3_atStore 87 = .ok (.if_icmp .eq 9, 3) := dk_159 0 9 (dk_at dksX3_atStore_3 19 rfl rfl)
theorem dX3_atStore_90 : decode cX3_atStore 90 = .ok (.iload 4, 2) := dk_21 4 (dk_at dksX3_atStore_3 22 rfl rfl)
theorem dX3_atStore_92 : decode cX3_atStore 92 = .ok (.iconst 2, 1) := dk_5 (dk_at dksX3_atStore_4 0 rfl rfl)
theorem dX3_atStore_93 : decode cX3_atStore 93 = .ok (.if_icmp .ne 39, 3) := dk_160 0 39 (dk_at dksX3_atStore_4 1 rfl rfl)
theorem dX3_atStore_96 : decode cX3_atStore 96 = .ok (.aload_n 0, 1) := dk_42 (dk_at dksX3_atStore_4 4 rfl rfl)
theorem dX3_atStore_97 : decode cX3_atStore 97 = .ok (.iconst 5, 1) := dk_8 (dk_at dksX3_atStore_4 5 rfl rfl)
theorem dX3_atStore_98 : decode cX3_atStore 98 = .ok (.iload_n 2, 1) := dk_28 (dk_at dksX3_atStore_4 6 rfl rfl)
theorem dX3_atStore_99 : decode cX3_atStore 99 = .ok (.iload_n 3, 1) := dk_29 (dk_at dksX3_atStore_4 7 rfl rfl)
theorem dX3_atStore_100 : decode cX3_atStore 100 = .ok (.invokevirtual 60, 3) := dk_182 0 60 (dk_at dksX3_atStore_4 8 rfl rfl)
theorem dX3_atStore_103 : decode cX3_atStore 103 = .ok (.goto 29, 3) := dk_167 0 29 (dk_at dksX3_atStore_4 11 rfl rfl)
theorem dX3_atStore_106 : decode cX3_atStore 106 = .ok (.iload 4, 2) := dk_21 4 (dk_at dksX3_atStore_4 14 rfl rfl)
theorem dX3_atStore_108 : decode cX3_atStore 108 = .ok (.iconst 2, 1) := dk_5 (dk_at dksX3_atStore_4 16 rfl rfl)
theorem dX3_atStore_109 : decode cX3_atStore 109 = .ok (.if_icmp .ge 10, 3) := dk_162 0 10 (dk_at dksX3_atStore_4 17 rfl rfl)
theorem dX3_atStore_112 : decode cX3_atStore 112 = .ok (.aload_n 0, 1) := dk_42 (dk_at dksX3_atStore_4 20 rfl rfl)
theorem dX3_atStore_113 : decode cX3_atStore 113 = .ok (.iload_n 3, 1) := dk_29 (dk_at dksX3_atStore_4 21 rfl rfl)
theorem dX3_atStore_114 : decode cX3_atStore 114 = .ok (.iload_n 2, 1) := dk_28 (dk_at dksX3_atStore_4 22 rfl rfl)
theorem dX3_atStore_115 : decode cX3_atStore 115 = .ok (.iconst 3, 1) := dk_6 (dk_at dksX3_atStore_4 23 rfl rfl)
theorem dX3_atStore_116 : decode cX3_atStore 116 = .ok (.invokevirtual 78, 3) := dk_182 0 78 (dk_at dksX3_atStore_5 0 rfl rfl)
theorem dX3_atStore_119 : decode cX3_atStore 119 = .ok (.iload 4, 2) := dk_21 4 (dk_at dksX3_atStore_5 3 rfl rfl)
theorem dX3_atStore_121 : decode cX3_atStore 121 = .ok (.iconst 2, 1) := dk_5 (dk_at dksX3_atStore_5 5 rfl rfl)
theorem dX3_atStore_122 : decode cX3_atStore 122 = .ok (.if_icmp .eq 10, 3) := dk_159 0 10 (dk_at dksX3_atStore_5 6 rfl rfl)
theorem dX3_atStore_125 : decode cX3_atStore 125 = .ok (.aload_n 0, 1) := dk_42 (dk_at dksX3_atStore_5 9 rfl rfl)
theorem dX3_atStore_126 : decode cX3_atStore 126 = .ok (.iconst 5, 1) := dk_8 (dk_at dksX3_atStore_5 10 rfl rfl)
theorem dX3_atStore_127 : decode cX3_atStore 127 = .ok (.iload_n 2, 1) := dk_28 (dk_at dksX3_atStore_5 11 rfl rfl)
theorem dX3_atStore_128 : decode cX3_atStore 128 = .ok (.iload_n 3, 1) := dk_29 (dk_at dksX3_atStore_5 12 rfl rfl)
theorem dX3_atStore_129 : decode cX3_atStore 129 = .ok (.invokevirtual 60, 3) := dk_182 0 60 (dk_at dksX3_atStore_5 13 rfl rfl)
theorem dX3_atStore_132 : decode cX3_atStore 132 = .ok (.return_, 1) := dk_177 (dk_at dksX3_atStore_5 16 rfl rfl)
abbrev cX3_shareIn : ByteArray := prog_19_method_18_code
def yX3_shareIn : MethodName := ⟨RX3, "shareIn", "(II)I"⟩
def dkwX3_shareIn_0 : List UInt8 := [42, 27, 3, 182, 0, 39, 42, 27, 4, 182, 0, 39, 42, 27, 5, 182, 0, 39, 28, 184, 0, 47, 172]
abbrev dktX3_shareIn_0 : List UInt8 := dkwX3_shareIn_0 ++ []
theorem dksX3_shareIn_0 : cX3_shareIn.data.toList.drop 0 = dktX3_shareIn_0 := by decide +kernel
theorem dX3_shareIn_0 : decode cX3_shareIn 0 = .ok (.aload_n 0, 1) := dk_42 (dk_at dksX3_shareIn_0 0 rfl rfl)
theorem dX3_shareIn_1 : decode cX3_shareIn 1 = .ok (.iload_n 1, 1) := dk_27 (dk_at dksX3_shareIn_0 1 rfl rfl)
theorem dX3_shareIn_2 : decode cX3_shareIn 2 = .ok (.iconst 0, 1) := dk_3 (dk_at dksX3_shareIn_0 2 rfl rfl)
theorem dX3_shareIn_3 : decode cX3_shareIn 3 = .ok (.invokevirtual 39, 3) := dk_182 0 39 (dk_at dksX3_shareIn_0 3 rfl rfl)
theorem dX3_shareIn_6 : decode cX3_shareIn 6 = .ok (.aload_n 0, 1) := dk_42 (dk_at dksX3_shareIn_0 6 rfl rfl)
theorem dX3_shareIn_7 : decode cX3_shareIn 7 = .ok (.iload_n 1, 1) := dk_27 (dk_at dksX3_shareIn_0 7 rfl rfl)
theorem dX3_shareIn_8 : decode cX3_shareIn 8 = .ok (.iconst 1, 1) := dk_4 (dk_at dksX3_shareIn_0 8 rfl rfl)
theorem dX3_shareIn_9 : decode cX3_shareIn 9 = .ok (.invokevirtual 39, 3) := dk_182 0 39 (dk_at dksX3_shareIn_0 9 rfl rfl)
theorem dX3_shareIn_12 : decode cX3_shareIn 12 = .ok (.aload_n 0, 1) := dk_42 (dk_at dksX3_shareIn_0 12 rfl rfl)
theorem dX3_shareIn_13 : decode cX3_shareIn 13 = .ok (.iload_n 1, 1) := dk_27 (dk_at dksX3_shareIn_0 13 rfl rfl)
theorem dX3_shareIn_14 : decode cX3_shareIn 14 = .ok (.iconst 2, 1) := dk_5 (dk_at dksX3_shareIn_0 14 rfl rfl)
theorem dX3_shareIn_15 : decode cX3_shareIn 15 = .ok (.invokevirtual 39, 3) := dk_182 0 39 (dk_at dksX3_shareIn_0 15 rfl rfl)
theorem dX3_shareIn_18 : decode cX3_shareIn 18 = .ok (.iload_n 2, 1) := dk_28 (dk_at dksX3_shareIn_0 18 rfl rfl)
theorem dX3_shareIn_19 : decode cX3_shareIn 19 = .ok (.invokestatic 47, 3) := dk_184 0 47 (dk_at dksX3_shareIn_0 19 rfl rfl)
theorem dX3_shareIn_22 : decode cX3_shareIn 22 = .ok (.ireturn, 1) := dk_172 (dk_at dksX3_shareIn_0 22 rfl rfl)
abbrev cX3_shareOf : ByteArray := prog_19_method_17_code
def yX3_shareOf : MethodName := ⟨RX3, "shareOf", "(IIII)I"⟩
def dkwX3_shareOf_1 : List UInt8 := [184, 0, 43, 104, 167, 0, 5, 21, 4, 172]
abbrev dktX3_shareOf_1 : List UInt8 := dkwX3_shareOf_1 ++ []
def dkwX3_shareOf_0 : List UInt8 := [27, 29, 122, 4, 126, 4, 160, 0, 7, 28, 167, 0, 4, 3, 54, 4, 29, 26, 160, 0, 13, 28, 116, 27]
abbrev dktX3_shareOf_0 : List UInt8 := dkwX3_shareOf_0 ++ dktX3_shareOf_1
theorem dksX3_shareOf_0 : cX3_shareOf.data.toList.drop 0 = dktX3_shareOf_0 := by decide +kernel
theorem dksX3_shareOf_1 : cX3_shareOf.data.toList.drop 24 = dktX3_shareOf_1 := dk_seg dksX3_shareOf_0 24 rfl rfl
theorem dX3_shareOf_0 : decode cX3_shareOf 0 = .ok (.iload_n 1, 1) := dk_27 (dk_at dksX3_shareOf_0 0 rfl rfl)
theorem dX3_shareOf_1 : decode cX3_shareOf 1 = .ok (.iload_n 3, 1) := dk_29 (dk_at dksX3_shareOf_0 1 rfl rfl)
theorem dX3_shareOf_2 : decode cX3_shareOf 2 = .ok (.ishr, 1) := dk_122 (dk_at dksX3_shareOf_0 2 rfl rfl)
theorem dX3_shareOf_3 : decode cX3_shareOf 3 = .ok (.iconst 1, 1) := dk_4 (dk_at dksX3_shareOf_0 3 rfl rfl)
theorem dX3_shareOf_4 : decode cX3_shareOf 4 = .ok (.iand, 1) := dk_126 (dk_at dksX3_shareOf_0 4 rfl rfl)
theorem dX3_shareOf_5 : decode cX3_shareOf 5 = .ok (.iconst 1, 1) := dk_4 (dk_at dksX3_shareOf_0 5 rfl rfl)
theorem dX3_shareOf_6 : decode cX3_shareOf 6 = .ok (.if_icmp .ne 7, 3) := dk_160 0 7 (dk_at dksX3_shareOf_0 6 rfl rfl)
theorem dX3_shareOf_9 : decode cX3_shareOf 9 = .ok (.iload_n 2, 1) := dk_28 (dk_at dksX3_shareOf_0 9 rfl rfl)
theorem dX3_shareOf_10 : decode cX3_shareOf 10 = .ok (.goto 4, 3) := dk_167 0 4 (dk_at dksX3_shareOf_0 10 rfl rfl)
theorem dX3_shareOf_13 : decode cX3_shareOf 13 = .ok (.iconst 0, 1) := dk_3 (dk_at dksX3_shareOf_0 13 rfl rfl)
theorem dX3_shareOf_14 : decode cX3_shareOf 14 = .ok (.istore 4, 2) := dk_54 4 (dk_at dksX3_shareOf_0 14 rfl rfl)
theorem dX3_shareOf_16 : decode cX3_shareOf 16 = .ok (.iload_n 3, 1) := dk_29 (dk_at dksX3_shareOf_0 16 rfl rfl)
theorem dX3_shareOf_17 : decode cX3_shareOf 17 = .ok (.iload_n 0, 1) := dk_26 (dk_at dksX3_shareOf_0 17 rfl rfl)
theorem dX3_shareOf_18 : decode cX3_shareOf 18 = .ok (.if_icmp .ne 13, 3) := dk_160 0 13 (dk_at dksX3_shareOf_0 18 rfl rfl)
theorem dX3_shareOf_21 : decode cX3_shareOf 21 = .ok (.iload_n 2, 1) := dk_28 (dk_at dksX3_shareOf_0 21 rfl rfl)
theorem dX3_shareOf_22 : decode cX3_shareOf 22 = .ok (.ineg, 1) := dk_116 (dk_at dksX3_shareOf_0 22 rfl rfl)
theorem dX3_shareOf_23 : decode cX3_shareOf 23 = .ok (.iload_n 1, 1) := dk_27 (dk_at dksX3_shareOf_0 23 rfl rfl)
theorem dX3_shareOf_24 : decode cX3_shareOf 24 = .ok (.invokestatic 43, 3) := dk_184 0 43 (dk_at dksX3_shareOf_1 0 rfl rfl)
theorem dX3_shareOf_27 : decode cX3_shareOf 27 = .ok (.imul, 1) := dk_104 (dk_at dksX3_shareOf_1 3 rfl rfl)
theorem dX3_shareOf_28 : decode cX3_shareOf 28 = .ok (.goto 5, 3) := dk_167 0 5 (dk_at dksX3_shareOf_1 4 rfl rfl)
theorem dX3_shareOf_31 : decode cX3_shareOf 31 = .ok (.iload 4, 2) := dk_21 4 (dk_at dksX3_shareOf_1 7 rfl rfl)
theorem dX3_shareOf_33 : decode cX3_shareOf 33 = .ok (.ireturn, 1) := dk_172 (dk_at dksX3_shareOf_1 9 rfl rfl)
abbrev cX3_bits : ByteArray := prog_19_method_15_code
def yX3_bits : MethodName := ⟨RX3, "bits", "(I)I"⟩
def dkwX3_bits_1 : List UInt8 := [172]
abbrev dktX3_bits_1 : List UInt8 := dkwX3_bits_1 ++ []
def dkwX3_bits_0 : List UInt8 := [3, 60, 3, 61, 28, 7, 162, 0, 17, 27, 26, 28, 122, 4, 126, 96, 60, 132, 2, 1, 167, 255, 240, 27]
abbrev dktX3_bits_0 : List UInt8 := dkwX3_bits_0 ++ dktX3_bits_1
theorem dksX3_bits_0 : cX3_bits.data.toList.drop 0 = dktX3_bits_0 := by decide +kernel
theorem dksX3_bits_1 : cX3_bits.data.toList.drop 24 = dktX3_bits_1 := dk_seg dksX3_bits_0 24 rfl rfl
theorem dX3_bits_0 : decode cX3_bits 0 = .ok (.iconst 0, 1) := dk_3 (dk_at dksX3_bits_0 0 rfl rfl)
theorem dX3_bits_1 : decode cX3_bits 1 = .ok (.istore_n 1, 1) := dk_60 (dk_at dksX3_bits_0 1 rfl rfl)
theorem dX3_bits_2 : decode cX3_bits 2 = .ok (.iconst 0, 1) := dk_3 (dk_at dksX3_bits_0 2 rfl rfl)
theorem dX3_bits_3 : decode cX3_bits 3 = .ok (.istore_n 2, 1) := dk_61 (dk_at dksX3_bits_0 3 rfl rfl)
theorem dX3_bits_4 : decode cX3_bits 4 = .ok (.iload_n 2, 1) := dk_28 (dk_at dksX3_bits_0 4 rfl rfl)
theorem dX3_bits_5 : decode cX3_bits 5 = .ok (.iconst 4, 1) := dk_7 (dk_at dksX3_bits_0 5 rfl rfl)
theorem dX3_bits_6 : decode cX3_bits 6 = .ok (.if_icmp .ge 17, 3) := dk_162 0 17 (dk_at dksX3_bits_0 6 rfl rfl)
theorem dX3_bits_9 : decode cX3_bits 9 = .ok (.iload_n 1, 1) := dk_27 (dk_at dksX3_bits_0 9 rfl rfl)
theorem dX3_bits_10 : decode cX3_bits 10 = .ok (.iload_n 0, 1) := dk_26 (dk_at dksX3_bits_0 10 rfl rfl)
theorem dX3_bits_11 : decode cX3_bits 11 = .ok (.iload_n 2, 1) := dk_28 (dk_at dksX3_bits_0 11 rfl rfl)
theorem dX3_bits_12 : decode cX3_bits 12 = .ok (.ishr, 1) := dk_122 (dk_at dksX3_bits_0 12 rfl rfl)
theorem dX3_bits_13 : decode cX3_bits 13 = .ok (.iconst 1, 1) := dk_4 (dk_at dksX3_bits_0 13 rfl rfl)
theorem dX3_bits_14 : decode cX3_bits 14 = .ok (.iand, 1) := dk_126 (dk_at dksX3_bits_0 14 rfl rfl)
theorem dX3_bits_15 : decode cX3_bits 15 = .ok (.iadd, 1) := dk_96 (dk_at dksX3_bits_0 15 rfl rfl)
theorem dX3_bits_16 : decode cX3_bits 16 = .ok (.istore_n 1, 1) := dk_60 (dk_at dksX3_bits_0 16 rfl rfl)
theorem dX3_bits_17 : decode cX3_bits 17 = .ok (.iinc 2 1, 3) := dk_132 2 1 (dk_at dksX3_bits_0 17 rfl rfl)
theorem dX3_bits_20 : decode cX3_bits 20 = .ok (.goto (-16), 3) := dk_167 255 240 (dk_at dksX3_bits_0 20 rfl rfl)
theorem dX3_bits_23 : decode cX3_bits 23 = .ok (.iload_n 1, 1) := dk_27 (dk_at dksX3_bits_0 23 rfl rfl)
theorem dX3_bits_24 : decode cX3_bits 24 = .ok (.ireturn, 1) := dk_172 (dk_at dksX3_bits_1 0 rfl rfl)
abbrev cX3_canTake : ByteArray := prog_19_method_19_code
def yX3_canTake : MethodName := ⟨RX3, "canTake", "(II)Z"⟩
def dkwX3_canTake_3 : List UInt8 := [167, 0, 4, 3, 96, 62, 132, 4, 1, 167, 255, 190, 29, 3, 17, 3, 231, 184, 0, 32, 172]
abbrev dktX3_canTake_3 : List UInt8 := dkwX3_canTake_3 ++ []
def dkwX3_canTake_2 : List UInt8 := [3, 54, 5, 29, 28, 156, 0, 8, 21, 5, 155, 0, 12, 28, 158, 0, 13, 21, 5, 158, 0, 8, 21, 5]
abbrev dktX3_canTake_2 : List UInt8 := dkwX3_canTake_2 ++ dktX3_canTake_3
def dkwX3_canTake_1 : List UInt8 := [162, 0, 60, 42, 27, 21, 4, 182, 0, 51, 4, 160, 0, 13, 42, 21, 4, 27, 182, 0, 54, 167, 0, 4]
abbrev dktX3_canTake_1 : List UInt8 := dkwX3_canTake_1 ++ dktX3_canTake_2
def dkwX3_canTake_0 : List UInt8 := [42, 180, 0, 7, 8, 27, 96, 46, 28, 96, 62, 3, 54, 4, 21, 4, 42, 180, 0, 7, 16, 9, 46]
abbrev dktX3_canTake_0 : List UInt8 := dkwX3_canTake_0 ++ dktX3_canTake_1
theorem dksX3_canTake_0 : cX3_canTake.data.toList.drop 0 = dktX3_canTake_0 := by decide +kernel
theorem dksX3_canTake_1 : cX3_canTake.data.toList.drop 23 = dktX3_canTake_1 := dk_seg dksX3_canTake_0 23 rfl rfl
theorem dksX3_canTake_2 : cX3_canTake.data.toList.drop 47 = dktX3_canTake_2 := dk_seg dksX3_canTake_1 24 rfl rfl
theorem dksX3_canTake_3 : cX3_canTake.data.toList.drop 71 = dktX3_canTake_3 := dk_seg dksX3_canTake_2 24 rfl rfl
theorem dX3_canTake_0 : decode cX3_canTake 0 = .ok (.aload_n 0, 1) := dk_42 (dk_at dksX3_canTake_0 0 rfl rfl)
theorem dX3_canTake_1 : decode cX3_canTake 1 = .ok (.getfield 7, 3) := dk_180 0 7 (dk_at dksX3_canTake_0 1 rfl rfl)
theorem dX3_canTake_4 : decode cX3_canTake 4 = .ok (.iconst 5, 1) := dk_8 (dk_at dksX3_canTake_0 4 rfl rfl)
theorem dX3_canTake_5 : decode cX3_canTake 5 = .ok (.iload_n 1, 1) := dk_27 (dk_at dksX3_canTake_0 5 rfl rfl)
theorem dX3_canTake_6 : decode cX3_canTake 6 = .ok (.iadd, 1) := dk_96 (dk_at dksX3_canTake_0 6 rfl rfl)
theorem dX3_canTake_7 : decode cX3_canTake 7 = .ok (.iaload, 1) := dk_46 (dk_at dksX3_canTake_0 7 rfl rfl)
theorem dX3_canTake_8 : decode cX3_canTake 8 = .ok (.iload_n 2, 1) := dk_28 (dk_at dksX3_canTake_0 8 rfl rfl)
theorem dX3_canTake_9 : decode cX3_canTake 9 = .ok (.iadd, 1) := dk_96 (dk_at dksX3_canTake_0 9 rfl rfl)
theorem dX3_canTake_10 : decode cX3_canTake 10 = .ok (.istore_n 3, 1) := dk_62 (dk_at dksX3_canTake_0 10 rfl rfl)
theorem dX3_canTake_11 : decode cX3_canTake 11 = .ok (.iconst 0, 1) := dk_3 (dk_at dksX3_canTake_0 11 rfl rfl)
theorem dX3_canTake_12 : decode cX3_canTake 12 = .ok (.istore 4, 2) := dk_54 4 (dk_at dksX3_canTake_0 12 rfl rfl)
theorem dX3_canTake_14 : decode cX3_canTake 14 = .ok (.iload 4, 2) := dk_21 4 (dk_at dksX3_canTake_0 14 rfl rfl)
theorem dX3_canTake_16 : decode cX3_canTake 16 = .ok (.aload_n 0, 1) := dk_42 (dk_at dksX3_canTake_0 16 rfl rfl)
theorem dX3_canTake_17 : decode cX3_canTake 17 = .ok (.getfield 7, 3) := dk_180 0 7 (dk_at dksX3_canTake_0 17 rfl rfl)
theorem dX3_canTake_20 : decode cX3_canTake 20 = .ok (.bipush 9, 2) := dk_16 9 (dk_at dksX3_canTake_0 20 rfl rfl)
theorem dX3_canTake_22 : decode cX3_canTake 22 = .ok (.iaload, 1) := dk_46 (dk_at dksX3_canTake_0 22 rfl rfl)
theorem dX3_canTake_23 : decode cX3_canTake 23 = .ok (.if_icmp .ge 60, 3) := dk_162 0 60 (dk_at dksX3_canTake_1 0 rfl rfl)
theorem dX3_canTake_26 : decode cX3_canTake 26 = .ok (.aload_n 0, 1) := dk_42 (dk_at dksX3_canTake_1 3 rfl rfl)
theorem dX3_canTake_27 : decode cX3_canTake 27 = .ok (.iload_n 1, 1) := dk_27 (dk_at dksX3_canTake_1 4 rfl rfl)
theorem dX3_canTake_28 : decode cX3_canTake 28 = .ok (.iload 4, 2) := dk_21 4 (dk_at dksX3_canTake_1 5 rfl rfl)
theorem dX3_canTake_30 : decode cX3_canTake 30 = .ok (.invokevirtual 51, 3) := dk_182 0 51 (dk_at dksX3_canTake_1 7 rfl rfl)
theorem dX3_canTake_33 : decode cX3_canTake 33 = .ok (.iconst 1, 1) := dk_4 (dk_at dksX3_canTake_1 10 rfl rfl)
theorem dX3_canTake_34 : decode cX3_canTake 34 = .ok (.if_icmp .ne 13, 3) := dk_160 0 13 (dk_at dksX3_canTake_1 11 rfl rfl)
theorem dX3_canTake_37 : decode cX3_canTake 37 = .ok (.aload_n 0, 1) := dk_42 (dk_at dksX3_canTake_1 14 rfl rfl)
theorem dX3_canTake_38 : decode cX3_canTake 38 = .ok (.iload 4, 2) := dk_21 4 (dk_at dksX3_canTake_1 15 rfl rfl)
theorem dX3_canTake_40 : decode cX3_canTake 40 = .ok (.iload_n 1, 1) := dk_27 (dk_at dksX3_canTake_1 17 rfl rfl)
theorem dX3_canTake_41 : decode cX3_canTake 41 = .ok (.invokevirtual 54, 3) := dk_182 0 54 (dk_at dksX3_canTake_1 18 rfl rfl)
theorem dX3_canTake_44 : decode cX3_canTake 44 = .ok (.goto 4, 3) := dk_167 0 4 (dk_at dksX3_canTake_1 21 rfl rfl)
theorem dX3_canTake_47 : decode cX3_canTake 47 = .ok (.iconst 0, 1) := dk_3 (dk_at dksX3_canTake_2 0 rfl rfl)
theorem dX3_canTake_48 : decode cX3_canTake 48 = .ok (.istore 5, 2) := dk_54 5 (dk_at dksX3_canTake_2 1 rfl rfl)
theorem dX3_canTake_50 : decode cX3_canTake 50 = .ok (.iload_n 3, 1) := dk_29 (dk_at dksX3_canTake_2 3 rfl rfl)
theorem dX3_canTake_51 : decode cX3_canTake 51 = .ok (.iload_n 2, 1) := dk_28 (dk_at dksX3_canTake_2 4 rfl rfl)
theorem dX3_canTake_52 : decode cX3_canTake 52 = .ok (.ifCond .ge 8, 3) := dk_156 0 8 (dk_at dksX3_canTake_2 5 rfl rfl)
theorem dX3_canTake_55 : decode cX3_canTake 55 = .ok (.iload 5, 2) := dk_21 5 (dk_at dksX3_canTake_2 8 rfl rfl)
theorem dX3_canTake_57 : decode cX3_canTake 57 = .ok (.ifCond .lt 12, 3) := dk_155 0 12 (dk_at dksX3_canTake_2 10 rfl rfl)
theorem dX3_canTake_60 : decode cX3_canTake 60 = .ok (.iload_n 2, 1) := dk_28 (dk_at dksX3_canTake_2 13 rfl rfl)
theorem dX3_canTake_61 : decode cX3_canTake 61 = .ok (.ifCond .le 13, 3) := dk_158 0 13 (dk_at dksX3_canTake_2 14 rfl rfl)
theorem dX3_canTake_64 : decode cX3_canTake 64 = .ok (.iload 5, 2) := dk_21 5 (dk_at dksX3_canTake_2 17 rfl rfl)
theorem dX3_canTake_66 : decode cX3_canTake 66 = .ok (.ifCond .le 8, 3) := dk_158 0 8 (dk_at dksX3_canTake_2 19 rfl rfl)
theorem dX3_canTake_69 : decode cX3_canTake 69 = .ok (.iload 5, 2) := dk_21 5 (dk_at dksX3_canTake_2 22 rfl rfl)
theorem dX3_canTake_71 : decode cX3_canTake 71 = .ok (.goto 4, 3) := dk_167 0 4 (dk_at dksX3_canTake_3 0 rfl rfl)
theorem dX3_canTake_74 : decode cX3_canTake 74 = .ok (.iconst 0, 1) := dk_3 (dk_at dksX3_canTake_3 3 rfl rfl)
theorem dX3_canTake_75 : decode cX3_canTake 75 = .ok (.iadd, 1) := dk_96 (dk_at dksX3_canTake_3 4 rfl rfl)
theorem dX3_canTake_76 : decode cX3_canTake 76 = .ok (.istore_n 3, 1) := dk_62 (dk_at dksX3_canTake_3 5 rfl rfl)
theorem dX3_canTake_77 : decode cX3_canTake 77 = .ok (.iinc 4 1, 3) := dk_132 4 1 (dk_at dksX3_canTake_3 6 rfl rfl)
theorem dX3_canTake_80 : decode cX3_canTake 80 = .ok (.goto (-66), 3) := dk_167 255 190 (dk_at dksX3_canTake_3 9 rfl rfl)
theorem dX3_canTake_83 : decode cX3_canTake 83 = .ok (.iload_n 3, 1) := dk_29 (dk_at dksX3_canTake_3 12 rfl rfl)
theorem dX3_canTake_84 : decode cX3_canTake 84 = .ok (.iconst 0, 1) := dk_3 (dk_at dksX3_canTake_3 13 rfl rfl)
theorem dX3_canTake_85 : decode cX3_canTake 85 = .ok (.sipush 999, 3) := dk_17 3 231 (dk_at dksX3_canTake_3 14 rfl rfl)
theorem dX3_canTake_88 : decode cX3_canTake 88 = .ok (.invokestatic 32, 3) := dk_184 0 32 (dk_at dksX3_canTake_3 17 rfl rfl)
theorem dX3_canTake_91 : decode cX3_canTake 91 = .ok (.ireturn, 1) := dk_172 (dk_at dksX3_canTake_3 20 rfl rfl)
abbrev cX3_becomes : ByteArray := prog_19_method_24_code
def yX3_becomes : MethodName := ⟨RX3, "becomes", "(III)V"⟩
def dkwX3_becomes_2 : List UInt8 := [42, 28, 27, 182, 0, 54, 167, 0, 4, 3, 96, 79, 177]
abbrev dktX3_becomes_2 : List UInt8 := dkwX3_becomes_2 ++ []
def dkwX3_becomes_1 : List UInt8 := [167, 0, 6, 29, 4, 100, 28, 182, 0, 67, 42, 180, 0, 7, 8, 27, 96, 92, 46, 29, 5, 160, 0, 12]
abbrev dktX3_becomes_1 : List UInt8 := dkwX3_becomes_1 ++ dktX3_becomes_2
def dkwX3_becomes_0 : List UInt8 := [42, 180, 0, 7, 16, 70, 16, 8, 27, 104, 96, 28, 96, 29, 79, 42, 27, 29, 4, 160, 0, 7, 7]
abbrev dktX3_becomes_0 : List UInt8 := dkwX3_becomes_0 ++ dktX3_becomes_1
theorem dksX3_becomes_0 : cX3_becomes.data.toList.drop 0 = dktX3_becomes_0 := by decide +kernel
theorem dksX3_becomes_1 : cX3_becomes.data.toList.drop 23 = dktX3_becomes_1 := dk_seg dksX3_becomes_0 23 rfl rfl
theorem dksX3_becomes_2 : cX3_becomes.data.toList.drop 47 = dktX3_becomes_2 := dk_seg dksX3_becomes_1 24 rfl rfl
theorem dX3_becomes_0 : decode cX3_becomes 0 = .ok (.aload_n 0, 1) := dk_42 (dk_at dksX3_becomes_0 0 rfl rfl)
theorem dX3_becomes_1 : decode cX3_becomes 1 = .ok (.getfield 7, 3) := dk_180 0 7 (dk_at dksX3_becomes_0 1 rfl rfl)
theorem dX3_becomes_4 : decode cX3_becomes 4 = .ok (.bipush 70, 2) := dk_16 70 (dk_at dksX3_becomes_0 4 rfl rfl)
theorem dX3_becomes_6 : decode cX3_becomes 6 = .ok (.bipush 8, 2) := dk_16 8 (dk_at dksX3_becomes_0 6 rfl rfl)
theorem dX3_becomes_8 : decode cX3_becomes 8 = .ok (.iload_n 1, 1) := dk_27 (dk_at dksX3_becomes_0 8 rfl rfl)
theorem dX3_becomes_9 : decode cX3_becomes 9 = .ok (.imul, 1) := dk_104 (dk_at dksX3_becomes_0 9 rfl rfl)
theorem dX3_becomes_10 : decode cX3_becomes 10 = .ok (.iadd, 1) := dk_96 (dk_at dksX3_becomes_0 10 rfl rfl)
theorem dX3_becomes_11 : decode cX3_becomes 11 = .ok (.iload_n 2, 1) := dk_28 (dk_at dksX3_becomes_0 11 rfl rfl)
theorem dX3_becomes_12 : decode cX3_becomes 12 = .ok (.iadd, 1) := dk_96 (dk_at dksX3_becomes_0 12 rfl rfl)
theorem dX3_becomes_13 : decode cX3_becomes 13 = .ok (.iload_n 3, 1) := dk_29 (dk_at dksX3_becomes_0 13 rfl rfl)
theorem dX3_becomes_14 : decode cX3_becomes 14 = .ok (.iastore, 1) := dk_79 (dk_at dksX3_becomes_0 14 rfl rfl)
theorem dX3_becomes_15 : decode cX3_becomes 15 = .ok (.aload_n 0, 1) := dk_42 (dk_at dksX3_becomes_0 15 rfl rfl)
theorem dX3_becomes_16 : decode cX3_becomes 16 = .ok (.iload_n 1, 1) := dk_27 (dk_at dksX3_becomes_0 16 rfl rfl)
theorem dX3_becomes_17 : decode cX3_becomes 17 = .ok (.iload_n 3, 1) := dk_29 (dk_at dksX3_becomes_0 17 rfl rfl)
theorem dX3_becomes_18 : decode cX3_becomes 18 = .ok (.iconst 1, 1) := dk_4 (dk_at dksX3_becomes_0 18 rfl rfl)
theorem dX3_becomes_19 : decode cX3_becomes 19 = .ok (.if_icmp .ne 7, 3) := dk_160 0 7 (dk_at dksX3_becomes_0 19 rfl rfl)
theorem dX3_becomes_22 : decode cX3_becomes 22 = .ok (.iconst 4, 1) := dk_7 (dk_at dksX3_becomes_0 22 rfl rfl)
theorem dX3_becomes_23 : decode cX3_becomes 23 = .ok (.goto 6, 3) := dk_167 0 6 (dk_at dksX3_becomes_1 0 rfl rfl)
theorem dX3_becomes_26 : decode cX3_becomes 26 = .ok (.iload_n 3, 1) := dk_29 (dk_at dksX3_becomes_1 3 rfl rfl)
theorem dX3_becomes_27 : decode cX3_becomes 27 = .ok (.iconst 1, 1) := dk_4 (dk_at dksX3_becomes_1 4 rfl rfl)
theorem dX3_becomes_28 : decode cX3_becomes 28 = .ok (.isub, 1) := dk_100 (dk_at dksX3_becomes_1 5 rfl rfl)
theorem dX3_becomes_29 : decode cX3_becomes 29 = .ok (.iload_n 2, 1) := dk_28 (dk_at dksX3_becomes_1 6 rfl rfl)
theorem dX3_becomes_30 : decode cX3_becomes 30 = .ok (.invokevirtual 67, 3) := dk_182 0 67 (dk_at dksX3_becomes_1 7 rfl rfl)
theorem dX3_becomes_33 : decode cX3_becomes 33 = .ok (.aload_n 0, 1) := dk_42 (dk_at dksX3_becomes_1 10 rfl rfl)
theorem dX3_becomes_34 : decode cX3_becomes 34 = .ok (.getfield 7, 3) := dk_180 0 7 (dk_at dksX3_becomes_1 11 rfl rfl)
theorem dX3_becomes_37 : decode cX3_becomes 37 = .ok (.iconst 5, 1) := dk_8 (dk_at dksX3_becomes_1 14 rfl rfl)
theorem dX3_becomes_38 : decode cX3_becomes 38 = .ok (.iload_n 1, 1) := dk_27 (dk_at dksX3_becomes_1 15 rfl rfl)
theorem dX3_becomes_39 : decode cX3_becomes 39 = .ok (.iadd, 1) := dk_96 (dk_at dksX3_becomes_1 16 rfl rfl)
theorem dX3_becomes_40 : decode cX3_becomes 40 = .ok (.dup2, 1) := dk_92 (dk_at dksX3_becomes_1 17 rfl rfl)
theorem dX3_becomes_41 : decode cX3_becomes 41 = .ok (.iaload, 1) := dk_46 (dk_at dksX3_becomes_1 18 rfl rfl)
theorem dX3_becomes_42 : decode cX3_becomes 42 = .ok (.iload_n 3, 1) := dk_29 (dk_at dksX3_becomes_1 19 rfl rfl)
theorem dX3_becomes_43 : decode cX3_becomes 43 = .ok (.iconst 2, 1) := dk_5 (dk_at dksX3_becomes_1 20 rfl rfl)
theorem dX3_becomes_44 : decode cX3_becomes 44 = .ok (.if_icmp .ne 12, 3) := dk_160 0 12 (dk_at dksX3_becomes_1 21 rfl rfl)
theorem dX3_becomes_47 : decode cX3_becomes 47 = .ok (.aload_n 0, 1) := dk_42 (dk_at dksX3_becomes_2 0 rfl rfl)
theorem dX3_becomes_48 : decode cX3_becomes 48 = .ok (.iload_n 2, 1) := dk_28 (dk_at dksX3_becomes_2 1 rfl rfl)
theorem dX3_becomes_49 : decode cX3_becomes 49 = .ok (.iload_n 1, 1) := dk_27 (dk_at dksX3_becomes_2 2 rfl rfl)
theorem dX3_becomes_50 : decode cX3_becomes 50 = .ok (.invokevirtual 54, 3) := dk_182 0 54 (dk_at dksX3_becomes_2 3 rfl rfl)
theorem dX3_becomes_53 : decode cX3_becomes 53 = .ok (.goto 4, 3) := dk_167 0 4 (dk_at dksX3_becomes_2 6 rfl rfl)
theorem dX3_becomes_56 : decode cX3_becomes 56 = .ok (.iconst 0, 1) := dk_3 (dk_at dksX3_becomes_2 9 rfl rfl)
theorem dX3_becomes_57 : decode cX3_becomes 57 = .ok (.iadd, 1) := dk_96 (dk_at dksX3_becomes_2 10 rfl rfl)
theorem dX3_becomes_58 : decode cX3_becomes 58 = .ok (.iastore, 1) := dk_79 (dk_at dksX3_becomes_2 11 rfl rfl)
theorem dX3_becomes_59 : decode cX3_becomes 59 = .ok (.return_, 1) := dk_177 (dk_at dksX3_becomes_2 12 rfl rfl)
abbrev cX3_atClerk : ByteArray := prog_19_method_26_code
def yX3_atClerk : MethodName := ⟨RX3, "atClerk", "(III)V"⟩
def dkwX3_atClerk_7 : List UInt8 := [28, 8, 182, 0, 39, 96, 28, 29, 182, 0, 60, 177]
abbrev dktX3_atClerk_7 : List UInt8 := dkwX3_atClerk_7 ++ []
def dkwX3_atClerk_6 : List UInt8 := [42, 7, 6, 28, 182, 0, 67, 167, 0, 28, 27, 16, 6, 160, 0, 22, 21, 4, 154, 0, 17, 42, 5, 42]
abbrev dktX3_atClerk_6 : List UInt8 := dkwX3_atClerk_6 ++ dktX3_atClerk_7
def dkwX3_atClerk_5 : List UInt8 := [182, 0, 57, 160, 0, 56, 42, 28, 16, 6, 182, 0, 39, 154, 0, 46, 42, 28, 16, 6, 4, 182, 0, 64]
abbrev dktX3_atClerk_5 : List UInt8 := dkwX3_atClerk_5 ++ dktX3_atClerk_6
def dkwX3_atClerk_4 : List UInt8 := [7, 42, 28, 7, 182, 0, 39, 4, 29, 120, 128, 182, 0, 64, 42, 28, 7, 182, 0, 39, 42, 28]
abbrev dktX3_atClerk_4 : List UInt8 := dkwX3_atClerk_4 ++ dktX3_atClerk_5
def dkwX3_atClerk_3 : List UInt8 := [160, 0, 17, 21, 4, 153, 0, 12, 42, 28, 5, 182, 0, 81, 167, 0, 91, 27, 8, 160, 0, 61, 42, 28]
abbrev dktX3_atClerk_3 : List UInt8 := dkwX3_atClerk_3 ++ dktX3_atClerk_4
def dkwX3_atClerk_2 : List UInt8 := [182, 0, 39, 42, 28, 182, 0, 57, 160, 0, 119, 42, 28, 4, 182, 0, 81, 167, 0, 110, 27, 5]
abbrev dktX3_atClerk_2 : List UInt8 := dkwX3_atClerk_2 ++ dktX3_atClerk_3
def dkwX3_atClerk_1 : List UInt8 := [153, 0, 42, 42, 28, 6, 42, 28, 6, 182, 0, 39, 4, 29, 120, 128, 182, 0, 64, 42, 28, 6]
abbrev dktX3_atClerk_1 : List UInt8 := dkwX3_atClerk_1 ++ dktX3_atClerk_2
def dkwX3_atClerk_0 : List UInt8 := [42, 28, 8, 182, 0, 39, 154, 0, 7, 4, 167, 0, 4, 3, 54, 4, 27, 4, 160, 0, 47, 21, 4]
abbrev dktX3_atClerk_0 : List UInt8 := dkwX3_atClerk_0 ++ dktX3_atClerk_1
theorem dksX3_atClerk_0 : cX3_atClerk.data.toList.drop 0 = dktX3_atClerk_0 := by decide +kernel
theorem dksX3_atClerk_1 : cX3_atClerk.data.toList.drop 23 = dktX3_atClerk_1 := dk_seg dksX3_atClerk_0 23 rfl rfl
theorem dksX3_atClerk_2 : cX3_atClerk.data.toList.drop 45 = dktX3_atClerk_2 := dk_seg dksX3_atClerk_1 22 rfl rfl
theorem dksX3_atClerk_3 : cX3_atClerk.data.toList.drop 67 = dktX3_atClerk_3 := dk_seg dksX3_atClerk_2 22 rfl rfl
theorem dksX3_atClerk_4 : cX3_atClerk.data.toList.drop 91 = dktX3_atClerk_4 := dk_seg dksX3_atClerk_3 24 rfl rfl
theorem dksX3_atClerk_5 : cX3_atClerk.data.toList.drop 113 = dktX3_atClerk_5 := dk_seg dksX3_atClerk_4 22 rfl rfl
theorem dksX3_atClerk_6 : cX3_atClerk.data.toList.drop 137 = dktX3_atClerk_6 := dk_seg dksX3_atClerk_5 24 rfl rfl
theorem dksX3_atClerk_7 : cX3_atClerk.data.toList.drop 161 = dktX3_atClerk_7 := dk_seg dksX3_atClerk_6 24 rfl rfl
theorem dX3_atClerk_0 : decode cX3_atClerk 0 = .ok (.aload_n 0, 1) := dk_42 (dk_at dksX3_atClerk_0 0 rfl rfl)
theorem dX3_atClerk_1 : decode cX3_atClerk 1 = .ok (.iload_n 2, 1) := dk_28 (dk_at dksX3_atClerk_0 1 rfl rfl)
theorem dX3_atClerk_2 : decode cX3_atClerk 2 = .ok (.iconst 5, 1) := dk_8 (dk_at dksX3_atClerk_0 2 rfl rfl)
theorem dX3_atClerk_3 : decode cX3_atClerk 3 = .ok (.invokevirtual 39, 3) := dk_182 0 39 (dk_at dksX3_atClerk_0 3 rfl rfl)
theorem dX3_atClerk_6 : decode cX3_atClerk 6 = .ok (.ifCond .ne 7, 3) := dk_154 0 7 (dk_at dksX3_atClerk_0 6 rfl rfl)
theorem dX3_atClerk_9 : decode cX3_atClerk 9 = .ok (.iconst 1, 1) := dk_4 (dk_at dksX3_atClerk_0 9 rfl rfl)
theorem dX3_atClerk_10 : decode cX3_atClerk 10 = .ok (.goto 4, 3) := dk_167 0 4 (dk_at dksX3_atClerk_0 10 rfl rfl)
theorem dX3_atClerk_13 : decode cX3_atClerk 13 = .ok (.iconst 0, 1) := dk_3 (dk_at dksX3_atClerk_0 13 rfl rfl)
theorem dX3_atClerk_14 : decode cX3_atClerk 14 = .ok (.istore 4, 2) := dk_54 4 (dk_at dksX3_atClerk_0 14 rfl rfl)
theorem dX3_atClerk_16 : decode cX3_atClerk 16 = .ok (.iload_n 1, 1) := dk_27 (dk_at dksX3_atClerk_0 16 rfl rfl)
theorem dX3_atClerk_17 : decode cX3_atClerk 17 = .ok (.iconst 1, 1) := dk_4 (dk_at dksX3_atClerk_0 17 rfl rfl)
theorem dX3_atClerk_18 : decode cX3_atClerk 18 = .ok (.if_icmp .ne 47, 3) := dk_160 0 47 (dk_at dksX3_atClerk_0 18 rfl rfl)
theorem dX3_atClerk_21 : decode cX3_atClerk 21 = .ok (.iload 4, 2) := dk_21 4 (dk_at dksX3_atClerk_0 21 rfl rfl)
theorem dX3_atClerk_23 : decode cX3_atClerk 23 = .ok (.ifCond .eq 42, 3) := dk_153 0 42 (dk_at dksX3_atClerk_1 0 rfl rfl)
theorem dX3_atClerk_26 : decode cX3_atClerk 26 = .ok (.aload_n 0, 1) := dk_42 (dk_at dksX3_atClerk_1 3 rfl rfl)
theorem dX3_atClerk_27 : decode cX3_atClerk 27 = .ok (.iload_n 2, 1) := dk_28 (dk_at dksX3_atClerk_1 4 rfl rfl)
theorem dX3_atClerk_28 : decode cX3_atClerk 28 = .ok (.iconst 3, 1) := dk_6 (dk_at dksX3_atClerk_1 5 rfl rfl)
theorem dX3_atClerk_29 : decode cX3_atClerk 29 = .ok (.aload_n 0, 1) := dk_42 (dk_at dksX3_atClerk_1 6 rfl rfl)
theorem dX3_atClerk_30 : decode cX3_atClerk 30 = .ok (.iload_n 2, 1) := dk_28 (dk_at dksX3_atClerk_1 7 rfl rfl)
theorem dX3_atClerk_31 : decode cX3_atClerk 31 = .ok (.iconst 3, 1) := dk_6 (dk_at dksX3_atClerk_1 8 rfl rfl)
theorem dX3_atClerk_32 : decode cX3_atClerk 32 = .ok (.invokevirtual 39, 3) := dk_182 0 39 (dk_at dksX3_atClerk_1 9 rfl rfl)
theorem dX3_atClerk_35 : decode cX3_atClerk 35 = .ok (.iconst 1, 1) := dk_4 (dk_at dksX3_atClerk_1 12 rfl rfl)
theorem dX3_atClerk_36 : decode cX3_atClerk 36 = .ok (.iload_n 3, 1) := dk_29 (dk_at dksX3_atClerk_1 13 rfl rfl)
theorem dX3_atClerk_37 : decode cX3_atClerk 37 = .ok (.ishl, 1) := dk_120 (dk_at dksX3_atClerk_1 14 rfl rfl)
theorem dX3_atClerk_38 : decode cX3_atClerk 38 = .ok (.ior, 1) := dk_128 (dk_at dksX3_atClerk_1 15 rfl rfl)
theorem dX3_atClerk_39 : decode cX3_atClerk 39 = .ok (.invokevirtual 64, 3) := dk_182 0 64 (dk_at dksX3_atClerk_1 16 rfl rfl)
theorem dX3_atClerk_42 : decode cX3_atClerk 42 = .ok (.aload_n 0, 1) := dk_42 (dk_at dksX3_atClerk_1 19 rfl rfl)
theorem dX3_atClerk_43 : decode cX3_atClerk 43 = .ok (.iload_n 2, 1) := dk_28 (dk_at dksX3_atClerk_1 20 rfl rfl)
theorem dX3_atClerk_44 : decode cX3_atClerk 44 = .ok (.iconst 3, 1) := dk_6 (dk_at dksX3_atClerk_1 21 rfl rfl)
theorem dX3_atClerk_45 : decode cX3_atClerk 45 = .ok (.invokevirtual 39, 3) := dk_182 0 39 (dk_at dksX3_atClerk_2 0 rfl rfl)
theorem dX3_atClerk_48 : decode cX3_atClerk 48 = .ok (.aload_n 0, 1) := dk_42 (dk_at dksX3_atClerk_2 3 rfl rfl)
theorem dX3_atClerk_49 : decode cX3_atClerk 49 = .ok (.iload_n 2, 1) := dk_28 (dk_at dksX3_atClerk_2 4 rfl rfl)
theorem dX3_atClerk_50 : decode cX3_atClerk 50 = .ok (.invokevirtual 57, 3) := dk_182 0 57 (dk_at dksX3_atClerk_2 5 rfl rfl)
theorem dX3_atClerk_53 : decode cX3_atClerk 53 = .ok (.if_icmp .ne 119, 3) := dk_160 0 119 (dk_at dksX3_atClerk_2 8 rfl rfl)
theorem dX3_atClerk_56 : decode cX3_atClerk 56 = .ok (.aload_n 0, 1) := dk_42 (dk_at dksX3_atClerk_2 11 rfl rfl)
theorem dX3_atClerk_57 : decode cX3_atClerk 57 = .ok (.iload_n 2, 1) := dk_28 (dk_at dksX3_atClerk_2 12 rfl rfl)
theorem dX3_atClerk_58 : decode cX3_atClerk 58 = .ok (.iconst 1, 1) := dk_4 (dk_at dksX3_atClerk_2 13 rfl rfl)
theorem dX3_atClerk_59 : decode cX3_atClerk 59 = .ok (.invokevirtual 81, 3) := dk_182 0 81 (dk_at dksX3_atClerk_2 14 rfl rfl)
theorem dX3_atClerk_62 : decode cX3_atClerk 62 = .ok (.goto 110, 3) := dk_167 0 110 (dk_at dksX3_atClerk_2 17 rfl rfl)
theorem dX3_atClerk_65 : decode cX3_atClerk 65 = .ok (.iload_n 1, 1) := dk_27 (dk_at dksX3_atClerk_2 20 rfl rfl)
theorem dX3_atClerk_66 : decode cX3_atClerk 66 = .ok (.iconst 2, 1) := dk_5 (dk_at dksX3_atClerk_2 21 rfl rfl)
theorem dX3_atClerk_67 : decode cX3_atClerk 67 = .ok (.if_icmp .ne 17, 3) := dk_160 0 17 (dk_at dksX3_atClerk_3 0 rfl rfl)
theorem dX3_atClerk_70 : decode cX3_atClerk 70 = .ok (.iload 4, 2) := dk_21 4 (dk_at dksX3_atClerk_3 3 rfl rfl)
theorem dX3_atClerk_72 : decode cX3_atClerk 72 = .ok (.ifCond .eq 12, 3) := dk_153 0 12 (dk_at dksX3_atClerk_3 5 rfl rfl)
theorem dX3_atClerk_75 : decode cX3_atClerk 75 = .ok (.aload_n 0, 1) := dk_42 (dk_at dksX3_atClerk_3 8 rfl rfl)
theorem dX3_atClerk_76 : decode cX3_atClerk 76 = .ok (.iload_n 2, 1) := dk_28 (dk_at dksX3_atClerk_3 9 rfl rfl)
theorem dX3_atClerk_77 : decode cX3_atClerk 77 = .ok (.iconst 2, 1) := dk_5 (dk_at dksX3_atClerk_3 10 rfl rfl)
theorem dX3_atClerk_78 : decode cX3_atClerk 78 = .ok (.invokevirtual 81, 3) := dk_182 0 81 (dk_at dksX3_atClerk_3 11 rfl rfl)
theorem dX3_atClerk_81 : decode cX3_atClerk 81 = .ok (.goto 91, 3) := dk_167 0 91 (dk_at dksX3_atClerk_3 14 rfl rfl)
theorem dX3_atClerk_84 : decode cX3_atClerk 84 = .ok (.iload_n 1, 1) := dk_27 (dk_at dksX3_atClerk_3 17 rfl rfl)
theorem dX3_atClerk_85 : decode cX3_atClerk 85 = .ok (.iconst 5, 1) := dk_8 (dk_at dksX3_atClerk_3 18 rfl rfl)
theorem dX3_atClerk_86 : decode cX3_atClerk 86 = .ok (.if_icmp .ne 61, 3) := dk_160 0 61 (dk_at dksX3_atClerk_3 19 rfl rfl)
theorem dX3_atClerk_89 : decode cX3_atClerk 89 = .ok (.aload_n 0, 1) := dk_42 (dk_at dksX3_atClerk_3 22 rfl rfl)
theorem dX3_atClerk_90 : decode cX3_atClerk 90 = .ok (.iload_n 2, 1) := dk_28 (dk_at dksX3_atClerk_3 23 rfl rfl)
theorem dX3_atClerk_91 : decode cX3_atClerk 91 = .ok (.iconst 4, 1) := dk_7 (dk_at dksX3_atClerk_4 0 rfl rfl)
theorem dX3_atClerk_92 : decode cX3_atClerk 92 = .ok (.aload_n 0, 1) := dk_42 (dk_at dksX3_atClerk_4 1 rfl rfl)
theorem dX3_atClerk_93 : decode cX3_atClerk 93 = .ok (.iload_n 2, 1) := dk_28 (dk_at dksX3_atClerk_4 2 rfl rfl)
theorem dX3_atClerk_94 : decode cX3_atClerk 94 = .ok (.iconst 4, 1) := dk_7 (dk_at dksX3_atClerk_4 3 rfl rfl)
theorem dX3_atClerk_95 : decode cX3_atClerk 95 = .ok (.invokevirtual 39, 3) := dk_182 0 39 (dk_at dksX3_atClerk_4 4 rfl rfl)
theorem dX3_atClerk_98 : decode cX3_atClerk 98 = .ok (.iconst 1, 1) := dk_4 (dk_at dksX3_atClerk_4 7 rfl rfl)
theorem dX3_atClerk_99 : decode cX3_atClerk 99 = .ok (.iload_n 3, 1) := dk_29 (dk_at dksX3_atClerk_4 8 rfl rfl)
theorem dX3_atClerk_100 : decode cX3_atClerk 100 = .ok (.ishl, 1) := dk_120 (dk_at dksX3_atClerk_4 9 rfl rfl)
theorem dX3_atClerk_101 : decode cX3_atClerk 101 = .ok (.ior, 1) := dk_128 (dk_at dksX3_atClerk_4 10 rfl rfl)
theorem dX3_atClerk_102 : decode cX3_atClerk 102 = .ok (.invokevirtual 64, 3) := dk_182 0 64 (dk_at dksX3_atClerk_4 11 rfl rfl)
theorem dX3_atClerk_105 : decode cX3_atClerk 105 = .ok (.aload_n 0, 1) := dk_42 (dk_at dksX3_atClerk_4 14 rfl rfl)
theorem dX3_atClerk_106 : decode cX3_atClerk 106 = .ok (.iload_n 2, 1) := dk_28 (dk_at dksX3_atClerk_4 15 rfl rfl)
theorem dX3_atClerk_107 : decode cX3_atClerk 107 = .ok (.iconst 4, 1) := dk_7 (dk_at dksX3_atClerk_4 16 rfl rfl)
theorem dX3_atClerk_108 : decode cX3_atClerk 108 = .ok (.invokevirtual 39, 3) := dk_182 0 39 (dk_at dksX3_atClerk_4 17 rfl rfl)
theorem dX3_atClerk_111 : decode cX3_atClerk 111 = .ok (.aload_n 0, 1) := dk_42 (dk_at dksX3_atClerk_4 20 rfl rfl)
theorem dX3_atClerk_112 : decode cX3_atClerk 112 = .ok (.iload_n 2, 1) := dk_28 (dk_at dksX3_atClerk_4 21 rfl rfl)
theorem dX3_atClerk_113 : decode cX3_atClerk 113 = .ok (.invokevirtual 57, 3) := dk_182 0 57 (dk_at dksX3_atClerk_5 0 rfl rfl)
theorem dX3_atClerk_116 : decode cX3_atClerk 116 = .ok (.if_icmp .ne 56, 3) := dk_160 0 56 (dk_at dksX3_atClerk_5 3 rfl rfl)
theorem dX3_atClerk_119 : decode cX3_atClerk 119 = .ok (.aload_n 0, 1) := dk_42 (dk_at dksX3_atClerk_5 6 rfl rfl)
theorem dX3_atClerk_120 : decode cX3_atClerk 120 = .ok (.iload_n 2, 1) := dk_28 (dk_at dksX3_atClerk_5 7 rfl rfl)
theorem dX3_atClerk_121 : decode cX3_atClerk 121 = .ok (.bipush 6, 2) := dk_16 6 (dk_at dksX3_atClerk_5 8 rfl rfl)
theorem dX3_atClerk_123 : decode cX3_atClerk 123 = .ok (.invokevirtual 39, 3) := dk_182 0 39 (dk_at dksX3_atClerk_5 10 rfl rfl)
theorem dX3_atClerk_126 : decode cX3_atClerk 126 = .ok (.ifCond .ne 46, 3) := dk_154 0 46 (dk_at dksX3_atClerk_5 13 rfl rfl)
theorem dX3_atClerk_129 : decode cX3_atClerk 129 = .ok (.aload_n 0, 1) := dk_42 (dk_at dksX3_atClerk_5 16 rfl rfl)
theorem dX3_atClerk_130 : decode cX3_atClerk 130 = .ok (.iload_n 2, 1) := dk_28 (dk_at dksX3_atClerk_5 17 rfl rfl)
theorem dX3_atClerk_131 : decode cX3_atClerk 131 = .ok (.bipush 6, 2) := dk_16 6 (dk_at dksX3_atClerk_5 18 rfl rfl)
theorem dX3_atClerk_133 : decode cX3_atClerk 133 = .ok (.iconst 1, 1) := dk_4 (dk_at dksX3_atClerk_5 20 rfl rfl)
theorem dX3_atClerk_134 : decode cX3_atClerk 134 = .ok (.invokevirtual 64, 3) := dk_182 0 64 (dk_at dksX3_atClerk_5 21 rfl rfl)
theorem dX3_atClerk_137 : decode cX3_atClerk 137 = .ok (.aload_n 0, 1) := dk_42 (dk_at dksX3_atClerk_6 0 rfl rfl)
theorem dX3_atClerk_138 : decode cX3_atClerk 138 = .ok (.iconst 4, 1) := dk_7 (dk_at dksX3_atClerk_6 1 rfl rfl)
theorem dX3_atClerk_139 : decode cX3_atClerk 139 = .ok (.iconst 3, 1) := dk_6 (dk_at dksX3_atClerk_6 2 rfl rfl)
theorem dX3_atClerk_140 : decode cX3_atClerk 140 = .ok (.iload_n 2, 1) := dk_28 (dk_at dksX3_atClerk_6 3 rfl rfl)
theorem dX3_atClerk_141 : decode cX3_atClerk 141 = .ok (.invokevirtual 67, 3) := dk_182 0 67 (dk_at dksX3_atClerk_6 4 rfl rfl)
theorem dX3_atClerk_144 : decode cX3_atClerk 144 = .ok (.goto 28, 3) := dk_167 0 28 (dk_at dksX3_atClerk_6 7 rfl rfl)
theorem dX3_atClerk_147 : decode cX3_atClerk 147 = .ok (.iload_n 1, 1) := dk_27 (dk_at dksX3_atClerk_6 10 rfl rfl)
theorem dX3_atClerk_148 : decode cX3_atClerk 148 = .ok (.bipush 6, 2) := dk_16 6 (dk_at dksX3_atClerk_6 11 rfl rfl)
theorem dX3_atClerk_150 : decode cX3_atClerk 150 = .ok (.if_icmp .ne 22, 3) := dk_160 0 22 (dk_at dksX3_atClerk_6 13 rfl rfl)
theorem dX3_atClerk_153 : decode cX3_atClerk 153 = .ok (.iload 4, 2) := dk_21 4 (dk_at dksX3_atClerk_6 16 rfl rfl)
theorem dX3_atClerk_155 : decode cX3_atClerk 155 = .ok (.ifCond .ne 17, 3) := dk_154 0 17 (dk_at dksX3_atClerk_6 18 rfl rfl)
theorem dX3_atClerk_158 : decode cX3_atClerk 158 = .ok (.aload_n 0, 1) := dk_42 (dk_at dksX3_atClerk_6 21 rfl rfl)
theorem dX3_atClerk_159 : decode cX3_atClerk 159 = .ok (.iconst 2, 1) := dk_5 (dk_at dksX3_atClerk_6 22 rfl rfl)
theorem dX3_atClerk_160 : decode cX3_atClerk 160 = .ok (.aload_n 0, 1) := dk_42 (dk_at dksX3_atClerk_6 23 rfl rfl)
theorem dX3_atClerk_161 : decode cX3_atClerk 161 = .ok (.iload_n 2, 1) := dk_28 (dk_at dksX3_atClerk_7 0 rfl rfl)
theorem dX3_atClerk_162 : decode cX3_atClerk 162 = .ok (.iconst 5, 1) := dk_8 (dk_at dksX3_atClerk_7 1 rfl rfl)
theorem dX3_atClerk_163 : decode cX3_atClerk 163 = .ok (.invokevirtual 39, 3) := dk_182 0 39 (dk_at dksX3_atClerk_7 2 rfl rfl)
theorem dX3_atClerk_166 : decode cX3_atClerk 166 = .ok (.iadd, 1) := dk_96 (dk_at dksX3_atClerk_7 5 rfl rfl)
theorem dX3_atClerk_167 : decode cX3_atClerk 167 = .ok (.iload_n 2, 1) := dk_28 (dk_at dksX3_atClerk_7 6 rfl rfl)
theorem dX3_atClerk_168 : decode cX3_atClerk 168 = .ok (.iload_n 3, 1) := dk_29 (dk_at dksX3_atClerk_7 7 rfl rfl)
theorem dX3_atClerk_169 : decode cX3_atClerk 169 = .ok (.invokevirtual 60, 3) := dk_182 0 60 (dk_at dksX3_atClerk_7 8 rfl rfl)
theorem dX3_atClerk_172 : decode cX3_atClerk 172 = .ok (.return_, 1) := dk_177 (dk_at dksX3_atClerk_7 11 rfl rfl)
abbrev cX3_deliverAll : ByteArray := prog_19_method_45_code
def yX3_deliverAll : MethodName := ⟨RX3, "deliverAll", "()I"⟩
def dkwX3_deliverAll_0 : List UInt8 := [42, 3, 181, 0, 28, 42, 182, 0, 116, 42, 182, 0, 139, 172]
abbrev dktX3_deliverAll_0 : List UInt8 := dkwX3_deliverAll_0 ++ []
theorem dksX3_deliverAll_0 : cX3_deliverAll.data.toList.drop 0 = dktX3_deliverAll_0 := by decide +kernel
theorem dX3_deliverAll_0 : decode cX3_deliverAll 0 = .ok (.aload_n 0, 1) := dk_42 (dk_at dksX3_deliverAll_0 0 rfl rfl)
theorem dX3_deliverAll_1 : decode cX3_deliverAll 1 = .ok (.iconst 0, 1) := dk_3 (dk_at dksX3_deliverAll_0 1 rfl rfl)
theorem dX3_deliverAll_2 : decode cX3_deliverAll 2 = .ok (.putfield 28, 3) := dk_181 0 28 (dk_at dksX3_deliverAll_0 2 rfl rfl)
theorem dX3_deliverAll_5 : decode cX3_deliverAll 5 = .ok (.aload_n 0, 1) := dk_42 (dk_at dksX3_deliverAll_0 5 rfl rfl)
theorem dX3_deliverAll_6 : decode cX3_deliverAll 6 = .ok (.invokevirtual 116, 3) := dk_182 0 116 (dk_at dksX3_deliverAll_0 6 rfl rfl)
theorem dX3_deliverAll_9 : decode cX3_deliverAll 9 = .ok (.aload_n 0, 1) := dk_42 (dk_at dksX3_deliverAll_0 9 rfl rfl)
theorem dX3_deliverAll_10 : decode cX3_deliverAll 10 = .ok (.invokevirtual 139, 3) := dk_182 0 139 (dk_at dksX3_deliverAll_0 10 rfl rfl)
theorem dX3_deliverAll_13 : decode cX3_deliverAll 13 = .ok (.ireturn, 1) := dk_172 (dk_at dksX3_deliverAll_0 13 rfl rfl)
abbrev cX3_deliversAll : ByteArray := prog_19_method_44_code
def yX3_deliversAll : MethodName := ⟨RX3, "deliversAll", "()I"⟩
def dkwX3_deliversAll_0 : List UInt8 := [42, 18, 135, 182, 0, 136, 172]
abbrev dktX3_deliversAll_0 : List UInt8 := dkwX3_deliversAll_0 ++ []
theorem dksX3_deliversAll_0 : cX3_deliversAll.data.toList.drop 0 = dktX3_deliversAll_0 := by decide +kernel
theorem dX3_deliversAll_0 : decode cX3_deliversAll 0 = .ok (.aload_n 0, 1) := dk_42 (dk_at dksX3_deliversAll_0 0 rfl rfl)
theorem dX3_deliversAll_1 : decode cX3_deliversAll 1 = .ok (.ldc 135, 2) := dk_18 135 (dk_at dksX3_deliversAll_0 1 rfl rfl)
theorem dX3_deliversAll_3 : decode cX3_deliversAll 3 = .ok (.invokevirtual 136, 3) := dk_182 0 136 (dk_at dksX3_deliversAll_0 3 rfl rfl)
theorem dX3_deliversAll_6 : decode cX3_deliversAll 6 = .ok (.ireturn, 1) := dk_172 (dk_at dksX3_deliversAll_0 6 rfl rfl)
abbrev cX3_deliversFirst : ByteArray := prog_19_method_31_code
def yX3_deliversFirst : MethodName := ⟨RX3, "deliversFirst", "(I)I"⟩
def dkwX3_deliversFirst_1 : List UInt8 := [132, 2, 1, 167, 255, 232, 28, 172]
abbrev dktX3_deliversFirst_1 : List UInt8 := dkwX3_deliversFirst_1 ++ []
def dkwX3_deliversFirst_0 : List UInt8 := [3, 61, 28, 27, 162, 0, 25, 42, 180, 0, 7, 16, 13, 46, 158, 0, 15, 42, 3, 182, 0, 100, 87]
abbrev dktX3_deliversFirst_0 : List UInt8 := dkwX3_deliversFirst_0 ++ dktX3_deliversFirst_1
theorem dksX3_deliversFirst_0 : cX3_deliversFirst.data.toList.drop 0 = dktX3_deliversFirst_0 := by decide +kernel
theorem dksX3_deliversFirst_1 : cX3_deliversFirst.data.toList.drop 23 = dktX3_deliversFirst_1 := dk_seg dksX3_deliversFirst_0 23 rfl rfl
theorem dX3_deliversFirst_0 : decode cX3_deliversFirst 0 = .ok (.iconst 0, 1) := dk_3 (dk_at dksX3_deliversFirst_0 0 rfl rfl)
theorem dX3_deliversFirst_1 : decode cX3_deliversFirst 1 = .ok (.istore_n 2, 1) := dk_61 (dk_at dksX3_deliversFirst_0 1 rfl rfl)
theorem dX3_deliversFirst_2 : decode cX3_deliversFirst 2 = .ok (.iload_n 2, 1) := dk_28 (dk_at dksX3_deliversFirst_0 2 rfl rfl)
theorem dX3_deliversFirst_3 : decode cX3_deliversFirst 3 = .ok (.iload_n 1, 1) := dk_27 (dk_at dksX3_deliversFirst_0 3 rfl rfl)
theorem dX3_deliversFirst_4 : decode cX3_deliversFirst 4 = .ok (.if_icmp .ge 25, 3) := dk_162 0 25 (dk_at dksX3_deliversFirst_0 4 rfl rfl)
theorem dX3_deliversFirst_7 : decode cX3_deliversFirst 7 = .ok (.aload_n 0, 1) := dk_42 (dk_at dksX3_deliversFirst_0 7 rfl rfl)
theorem dX3_deliversFirst_8 : decode cX3_deliversFirst 8 = .ok (.getfield 7, 3) := dk_180 0 7 (dk_at dksX3_deliversFirst_0 8 rfl rfl)
theorem dX3_deliversFirst_11 : decode cX3_deliversFirst 11 = .ok (.bipush 13, 2) := dk_16 13 (dk_at dksX3_deliversFirst_0 11 rfl rfl)
theorem dX3_deliversFirst_13 : decode cX3_deliversFirst 13 = .ok (.iaload, 1) := dk_46 (dk_at dksX3_deliversFirst_0 13 rfl rfl)
theorem dX3_deliversFirst_14 : decode cX3_deliversFirst 14 = .ok (.ifCond .le 15, 3) := dk_158 0 15 (dk_at dksX3_deliversFirst_0 14 rfl rfl)
theorem dX3_deliversFirst_17 : decode cX3_deliversFirst 17 = .ok (.aload_n 0, 1) := dk_42 (dk_at dksX3_deliversFirst_0 17 rfl rfl)
theorem dX3_deliversFirst_18 : decode cX3_deliversFirst 18 = .ok (.iconst 0, 1) := dk_3 (dk_at dksX3_deliversFirst_0 18 rfl rfl)
theorem dX3_deliversFirst_19 : decode cX3_deliversFirst 19 = .ok (.invokevirtual 100, 3) := dk_182 0 100 (dk_at dksX3_deliversFirst_0 19 rfl rfl)
theorem dX3_deliversFirst_22 : decode cX3_deliversFirst 22 = .ok (.pop, 1) := dk_87 (dk_at dksX3_deliversFirst_0 22 rfl rfl)
theorem dX3_deliversFirst_23 : decode cX3_deliversFirst 23 = .ok (.iinc 2 1, 3) := dk_132 2 1 (dk_at dksX3_deliversFirst_1 0 rfl rfl)
theorem dX3_deliversFirst_26 : decode cX3_deliversFirst 26 = .ok (.goto (-24), 3) := dk_167 255 232 (dk_at dksX3_deliversFirst_1 3 rfl rfl)
theorem dX3_deliversFirst_29 : decode cX3_deliversFirst 29 = .ok (.iload_n 2, 1) := dk_28 (dk_at dksX3_deliversFirst_1 6 rfl rfl)
theorem dX3_deliversFirst_30 : decode cX3_deliversFirst 30 = .ok (.ireturn, 1) := dk_172 (dk_at dksX3_deliversFirst_1 7 rfl rfl)
abbrev cX3_lose : ByteArray := prog_19_method_46_code
def yX3_lose : MethodName := ⟨RX3, "lose", "(I)I"⟩
def dkwX3_lose_1 : List UInt8 := [27, 182, 0, 143, 172]
abbrev dktX3_lose_1 : List UInt8 := dkwX3_lose_1 ++ []
def dkwX3_lose_0 : List UInt8 := [42, 3, 181, 0, 28, 42, 27, 182, 0, 132, 154, 0, 9, 42, 4, 182, 0, 106, 172, 42, 182, 0, 116, 42]
abbrev dktX3_lose_0 : List UInt8 := dkwX3_lose_0 ++ dktX3_lose_1
theorem dksX3_lose_0 : cX3_lose.data.toList.drop 0 = dktX3_lose_0 := by decide +kernel
theorem dksX3_lose_1 : cX3_lose.data.toList.drop 24 = dktX3_lose_1 := dk_seg dksX3_lose_0 24 rfl rfl
theorem dX3_lose_0 : decode cX3_lose 0 = .ok (.aload_n 0, 1) := dk_42 (dk_at dksX3_lose_0 0 rfl rfl)
theorem dX3_lose_1 : decode cX3_lose 1 = .ok (.iconst 0, 1) := dk_3 (dk_at dksX3_lose_0 1 rfl rfl)
theorem dX3_lose_2 : decode cX3_lose 2 = .ok (.putfield 28, 3) := dk_181 0 28 (dk_at dksX3_lose_0 2 rfl rfl)
theorem dX3_lose_5 : decode cX3_lose 5 = .ok (.aload_n 0, 1) := dk_42 (dk_at dksX3_lose_0 5 rfl rfl)
theorem dX3_lose_6 : decode cX3_lose 6 = .ok (.iload_n 1, 1) := dk_27 (dk_at dksX3_lose_0 6 rfl rfl)
theorem dX3_lose_7 : decode cX3_lose 7 = .ok (.invokevirtual 132, 3) := dk_182 0 132 (dk_at dksX3_lose_0 7 rfl rfl)
theorem dX3_lose_10 : decode cX3_lose 10 = .ok (.ifCond .ne 9, 3) := dk_154 0 9 (dk_at dksX3_lose_0 10 rfl rfl)
theorem dX3_lose_13 : decode cX3_lose 13 = .ok (.aload_n 0, 1) := dk_42 (dk_at dksX3_lose_0 13 rfl rfl)
theorem dX3_lose_14 : decode cX3_lose 14 = .ok (.iconst 1, 1) := dk_4 (dk_at dksX3_lose_0 14 rfl rfl)
theorem dX3_lose_15 : decode cX3_lose 15 = .ok (.invokevirtual 106, 3) := dk_182 0 106 (dk_at dksX3_lose_0 15 rfl rfl)
theorem dX3_lose_18 : decode cX3_lose 18 = .ok (.ireturn, 1) := dk_172 (dk_at dksX3_lose_0 18 rfl rfl)
theorem dX3_lose_19 : decode cX3_lose 19 = .ok (.aload_n 0, 1) := dk_42 (dk_at dksX3_lose_0 19 rfl rfl)
theorem dX3_lose_20 : decode cX3_lose 20 = .ok (.invokevirtual 116, 3) := dk_182 0 116 (dk_at dksX3_lose_0 20 rfl rfl)
theorem dX3_lose_23 : decode cX3_lose 23 = .ok (.aload_n 0, 1) := dk_42 (dk_at dksX3_lose_0 23 rfl rfl)
theorem dX3_lose_24 : decode cX3_lose 24 = .ok (.iload_n 1, 1) := dk_27 (dk_at dksX3_lose_1 0 rfl rfl)
theorem dX3_lose_25 : decode cX3_lose 25 = .ok (.invokevirtual 143, 3) := dk_182 0 143 (dk_at dksX3_lose_1 1 rfl rfl)
theorem dX3_lose_28 : decode cX3_lose 28 = .ok (.ireturn, 1) := dk_172 (dk_at dksX3_lose_1 4 rfl rfl)
abbrev cX3_loses : ByteArray := prog_19_method_35_code
def yX3_loses : MethodName := ⟨RX3, "loses", "(I)I"⟩
def dkwX3_loses_0 : List UInt8 := [42, 180, 0, 7, 16, 12, 92, 46, 4, 96, 79, 42, 27, 182, 0, 91, 16, 32, 108, 172]
abbrev dktX3_loses_0 : List UInt8 := dkwX3_loses_0 ++ []
theorem dksX3_loses_0 : cX3_loses.data.toList.drop 0 = dktX3_loses_0 := by decide +kernel
theorem dX3_loses_0 : decode cX3_loses 0 = .ok (.aload_n 0, 1) := dk_42 (dk_at dksX3_loses_0 0 rfl rfl)
theorem dX3_loses_1 : decode cX3_loses 1 = .ok (.getfield 7, 3) := dk_180 0 7 (dk_at dksX3_loses_0 1 rfl rfl)
theorem dX3_loses_4 : decode cX3_loses 4 = .ok (.bipush 12, 2) := dk_16 12 (dk_at dksX3_loses_0 4 rfl rfl)
theorem dX3_loses_6 : decode cX3_loses 6 = .ok (.dup2, 1) := dk_92 (dk_at dksX3_loses_0 6 rfl rfl)
theorem dX3_loses_7 : decode cX3_loses 7 = .ok (.iaload, 1) := dk_46 (dk_at dksX3_loses_0 7 rfl rfl)
theorem dX3_loses_8 : decode cX3_loses 8 = .ok (.iconst 1, 1) := dk_4 (dk_at dksX3_loses_0 8 rfl rfl)
theorem dX3_loses_9 : decode cX3_loses 9 = .ok (.iadd, 1) := dk_96 (dk_at dksX3_loses_0 9 rfl rfl)
theorem dX3_loses_10 : decode cX3_loses 10 = .ok (.iastore, 1) := dk_79 (dk_at dksX3_loses_0 10 rfl rfl)
theorem dX3_loses_11 : decode cX3_loses 11 = .ok (.aload_n 0, 1) := dk_42 (dk_at dksX3_loses_0 11 rfl rfl)
theorem dX3_loses_12 : decode cX3_loses 12 = .ok (.iload_n 1, 1) := dk_27 (dk_at dksX3_loses_0 12 rfl rfl)
theorem dX3_loses_13 : decode cX3_loses 13 = .ok (.invokevirtual 91, 3) := dk_182 0 91 (dk_at dksX3_loses_0 13 rfl rfl)
theorem dX3_loses_16 : decode cX3_loses 16 = .ok (.bipush 32, 2) := dk_16 32 (dk_at dksX3_loses_0 16 rfl rfl)
theorem dX3_loses_18 : decode cX3_loses 18 = .ok (.idiv, 1) := dk_108 (dk_at dksX3_loses_0 18 rfl rfl)
theorem dX3_loses_19 : decode cX3_loses 19 = .ok (.ireturn, 1) := dk_172 (dk_at dksX3_loses_0 19 rfl rfl)
abbrev cX3_crash : ByteArray := prog_19_method_47_code
def yX3_crash : MethodName := ⟨RX3, "crash", "(I)I"⟩
def dkwX3_crash_1 : List UInt8 := [96, 46, 154, 0, 9, 42, 5, 182, 0, 106, 172, 42, 182, 0, 116, 42, 27, 182, 0, 149, 172]
abbrev dktX3_crash_1 : List UInt8 := dkwX3_crash_1 ++ []
def dkwX3_crash_0 : List UInt8 := [42, 3, 181, 0, 28, 27, 184, 0, 146, 154, 0, 9, 42, 4, 182, 0, 106, 172, 42, 180, 0, 7, 3, 27]
abbrev dktX3_crash_0 : List UInt8 := dkwX3_crash_0 ++ dktX3_crash_1
theorem dksX3_crash_0 : cX3_crash.data.toList.drop 0 = dktX3_crash_0 := by decide +kernel
theorem dksX3_crash_1 : cX3_crash.data.toList.drop 24 = dktX3_crash_1 := dk_seg dksX3_crash_0 24 rfl rfl
theorem dX3_crash_0 : decode cX3_crash 0 = .ok (.aload_n 0, 1) := dk_42 (dk_at dksX3_crash_0 0 rfl rfl)
theorem dX3_crash_1 : decode cX3_crash 1 = .ok (.iconst 0, 1) := dk_3 (dk_at dksX3_crash_0 1 rfl rfl)
theorem dX3_crash_2 : decode cX3_crash 2 = .ok (.putfield 28, 3) := dk_181 0 28 (dk_at dksX3_crash_0 2 rfl rfl)
theorem dX3_crash_5 : decode cX3_crash 5 = .ok (.iload_n 1, 1) := dk_27 (dk_at dksX3_crash_0 5 rfl rfl)
theorem dX3_crash_6 : decode cX3_crash 6 = .ok (.invokestatic 146, 3) := dk_184 0 146 (dk_at dksX3_crash_0 6 rfl rfl)
theorem dX3_crash_9 : decode cX3_crash 9 = .ok (.ifCond .ne 9, 3) := dk_154 0 9 (dk_at dksX3_crash_0 9 rfl rfl)
theorem dX3_crash_12 : decode cX3_crash 12 = .ok (.aload_n 0, 1) := dk_42 (dk_at dksX3_crash_0 12 rfl rfl)
theorem dX3_crash_13 : decode cX3_crash 13 = .ok (.iconst 1, 1) := dk_4 (dk_at dksX3_crash_0 13 rfl rfl)
theorem dX3_crash_14 : decode cX3_crash 14 = .ok (.invokevirtual 106, 3) := dk_182 0 106 (dk_at dksX3_crash_0 14 rfl rfl)
theorem dX3_crash_17 : decode cX3_crash 17 = .ok (.ireturn, 1) := dk_172 (dk_at dksX3_crash_0 17 rfl rfl)
theorem dX3_crash_18 : decode cX3_crash 18 = .ok (.aload_n 0, 1) := dk_42 (dk_at dksX3_crash_0 18 rfl rfl)
theorem dX3_crash_19 : decode cX3_crash 19 = .ok (.getfield 7, 3) := dk_180 0 7 (dk_at dksX3_crash_0 19 rfl rfl)
theorem dX3_crash_22 : decode cX3_crash 22 = .ok (.iconst 0, 1) := dk_3 (dk_at dksX3_crash_0 22 rfl rfl)
theorem dX3_crash_23 : decode cX3_crash 23 = .ok (.iload_n 1, 1) := dk_27 (dk_at dksX3_crash_0 23 rfl rfl)
theorem dX3_crash_24 : decode cX3_crash 24 = .ok (.iadd, 1) := dk_96 (dk_at dksX3_crash_1 0 rfl rfl)
theorem dX3_crash_25 : decode cX3_crash 25 = .ok (.iaload, 1) := dk_46 (dk_at dksX3_crash_1 1 rfl rfl)
theorem dX3_crash_26 : decode cX3_crash 26 = .ok (.ifCond .ne 9, 3) := dk_154 0 9 (dk_at dksX3_crash_1 2 rfl rfl)
theorem dX3_crash_29 : decode cX3_crash 29 = .ok (.aload_n 0, 1) := dk_42 (dk_at dksX3_crash_1 5 rfl rfl)
theorem dX3_crash_30 : decode cX3_crash 30 = .ok (.iconst 2, 1) := dk_5 (dk_at dksX3_crash_1 6 rfl rfl)
theorem dX3_crash_31 : decode cX3_crash 31 = .ok (.invokevirtual 106, 3) := dk_182 0 106 (dk_at dksX3_crash_1 7 rfl rfl)
theorem dX3_crash_34 : decode cX3_crash 34 = .ok (.ireturn, 1) := dk_172 (dk_at dksX3_crash_1 10 rfl rfl)
theorem dX3_crash_35 : decode cX3_crash 35 = .ok (.aload_n 0, 1) := dk_42 (dk_at dksX3_crash_1 11 rfl rfl)
theorem dX3_crash_36 : decode cX3_crash 36 = .ok (.invokevirtual 116, 3) := dk_182 0 116 (dk_at dksX3_crash_1 12 rfl rfl)
theorem dX3_crash_39 : decode cX3_crash 39 = .ok (.aload_n 0, 1) := dk_42 (dk_at dksX3_crash_1 15 rfl rfl)
theorem dX3_crash_40 : decode cX3_crash 40 = .ok (.iload_n 1, 1) := dk_27 (dk_at dksX3_crash_1 16 rfl rfl)
theorem dX3_crash_41 : decode cX3_crash 41 = .ok (.invokevirtual 149, 3) := dk_182 0 149 (dk_at dksX3_crash_1 17 rfl rfl)
theorem dX3_crash_44 : decode cX3_crash 44 = .ok (.ireturn, 1) := dk_172 (dk_at dksX3_crash_1 20 rfl rfl)
abbrev cX3_isSite : ByteArray := prog_19_method_6_code
def yX3_isSite : MethodName := ⟨RX3, "isSite", "(I)Z"⟩
def dkwX3_isSite_0 : List UInt8 := [26, 3, 7, 184, 0, 32, 172]
abbrev dktX3_isSite_0 : List UInt8 := dkwX3_isSite_0 ++ []
theorem dksX3_isSite_0 : cX3_isSite.data.toList.drop 0 = dktX3_isSite_0 := by decide +kernel
theorem dX3_isSite_0 : decode cX3_isSite 0 = .ok (.iload_n 0, 1) := dk_26 (dk_at dksX3_isSite_0 0 rfl rfl)
theorem dX3_isSite_1 : decode cX3_isSite 1 = .ok (.iconst 0, 1) := dk_3 (dk_at dksX3_isSite_0 1 rfl rfl)
theorem dX3_isSite_2 : decode cX3_isSite 2 = .ok (.iconst 4, 1) := dk_7 (dk_at dksX3_isSite_0 2 rfl rfl)
theorem dX3_isSite_3 : decode cX3_isSite 3 = .ok (.invokestatic 32, 3) := dk_184 0 32 (dk_at dksX3_isSite_0 3 rfl rfl)
theorem dX3_isSite_6 : decode cX3_isSite 6 = .ok (.ireturn, 1) := dk_172 (dk_at dksX3_isSite_0 6 rfl rfl)
abbrev cX3_crashes : ByteArray := prog_19_method_36_code
def yX3_crashes : MethodName := ⟨RX3, "crashes", "(I)I"⟩
def dkwX3_crashes_3 : List UInt8 := [167, 255, 237, 28, 172]
abbrev dktX3_crashes_3 : List UInt8 := dkwX3_crashes_3 ++ []
def dkwX3_crashes_2 : List UInt8 := [61, 3, 62, 29, 8, 162, 0, 20, 28, 42, 180, 0, 7, 3, 29, 96, 46, 96, 61, 132, 3, 1]
abbrev dktX3_crashes_2 : List UInt8 := dkwX3_crashes_2 ++ dktX3_crashes_3
def dkwX3_crashes_1 : List UInt8 := [160, 0, 23, 42, 28, 6, 3, 182, 0, 64, 42, 28, 7, 3, 182, 0, 64, 132, 2, 1, 167, 255, 223, 3]
abbrev dktX3_crashes_1 : List UInt8 := dkwX3_crashes_1 ++ dktX3_crashes_2
def dkwX3_crashes_0 : List UInt8 := [42, 180, 0, 7, 3, 27, 96, 3, 79, 3, 61, 28, 42, 180, 0, 7, 16, 9, 46, 162, 0, 28, 27, 7]
abbrev dktX3_crashes_0 : List UInt8 := dkwX3_crashes_0 ++ dktX3_crashes_1
theorem dksX3_crashes_0 : cX3_crashes.data.toList.drop 0 = dktX3_crashes_0 := by decide +kernel
theorem dksX3_crashes_1 : cX3_crashes.data.toList.drop 24 = dktX3_crashes_1 := dk_seg dksX3_crashes_0 24 rfl rfl
theorem dksX3_crashes_2 : cX3_crashes.data.toList.drop 48 = dktX3_crashes_2 := dk_seg dksX3_crashes_1 24 rfl rfl
theorem dksX3_crashes_3 : cX3_crashes.data.toList.drop 70 = dktX3_crashes_3 := dk_seg dksX3_crashes_2 22 rfl rfl
theorem dX3_crashes_0 : decode cX3_crashes 0 = .ok (.aload_n 0, 1) := dk_42 (dk_at dksX3_crashes_0 0 rfl rfl)
theorem dX3_crashes_1 : decode cX3_crashes 1 = .ok (.getfield 7, 3) := dk_180 0 7 (dk_at dksX3_crashes_0 1 rfl rfl)
theorem dX3_crashes_4 : decode cX3_crashes 4 = .ok (.iconst 0, 1) := dk_3 (dk_at dksX3_crashes_0 4 rfl rfl)
theorem dX3_crashes_5 : decode cX3_crashes 5 = .ok (.iload_n 1, 1) := dk_27 (dk_at dksX3_crashes_0 5 rfl rfl)
theorem dX3_crashes_6 : decode cX3_crashes 6 = .ok (.iadd, 1) := dk_96 (dk_at dksX3_crashes_0 6 rfl rfl)
theorem dX3_crashes_7 : decode cX3_crashes 7 = .ok (.iconst 0, 1) := dk_3 (dk_at dksX3_crashes_0 7 rfl rfl)
theorem dX3_crashes_8 : decode cX3_crashes 8 = .ok (.iastore, 1) := dk_79 (dk_at dksX3_crashes_0 8 rfl rfl)
theorem dX3_crashes_9 : decode cX3_crashes 9 = .ok (.iconst 0, 1) := dk_3 (dk_at dksX3_crashes_0 9 rfl rfl)
theorem dX3_crashes_10 : decode cX3_crashes 10 = .ok (.istore_n 2, 1) := dk_61 (dk_at dksX3_crashes_0 10 rfl rfl)
theorem dX3_crashes_11 : decode cX3_crashes 11 = .ok (.iload_n 2, 1) := dk_28 (dk_at dksX3_crashes_0 11 rfl rfl)
theorem dX3_crashes_12 : decode cX3_crashes 12 = .ok (.aload_n 0, 1) := dk_42 (dk_at dksX3_crashes_0 12 rfl rfl)
theorem dX3_crashes_13 : decode cX3_crashes 13 = .ok (.getfield 7, 3) := dk_180 0 7 (dk_at dksX3_crashes_0 13 rfl rfl)
theorem dX3_crashes_16 : decode cX3_crashes 16 = .ok (.bipush 9, 2) := dk_16 9 (dk_at dksX3_crashes_0 16 rfl rfl)
theorem dX3_crashes_18 : decode cX3_crashes 18 = .ok (.iaload, 1) := dk_46 (dk_at dksX3_crashes_0 18 rfl rfl)
theorem dX3_crashes_19 : decode cX3_crashes 19 = .ok (.if_icmp .ge 28, 3) := dk_162 0 28 (dk_at dksX3_crashes_0 19 rfl rfl)
theorem dX3_crashes_22 : decode cX3_crashes 22 = .ok (.iload_n 1, 1) := dk_27 (dk_at dksX3_crashes_0 22 rfl rfl)
theorem dX3_crashes_23 : decode cX3_crashes 23 = .ok (.iconst 4, 1) := dk_7 (dk_at dksX3_crashes_0 23 rfl rfl)
theorem dX3_crashes_24 : decode cX3_crashes 24 = .ok (.if_icmp .ne 23, 3) := dk_160 0 23 (dk_at dksX3_crashes_1 0 rfl rfl)
theorem dX3_crashes_27 : decode cX3_crashes 27 = .ok (.aload_n 0, 1) := dk_42 (dk_at dksX3_crashes_1 3 rfl rfl)
theorem dX3_crashes_28 : decode cX3_crashes 28 = .ok (.iload_n 2, 1) := dk_28 (dk_at dksX3_crashes_1 4 rfl rfl)
theorem dX3_crashes_29 : decode cX3_crashes 29 = .ok (.iconst 3, 1) := dk_6 (dk_at dksX3_crashes_1 5 rfl rfl)
theorem dX3_crashes_30 : decode cX3_crashes 30 = .ok (.iconst 0, 1) := dk_3 (dk_at dksX3_crashes_1 6 rfl rfl)
theorem dX3_crashes_31 : decode cX3_crashes 31 = .ok (.invokevirtual 64, 3) := dk_182 0 64 (dk_at dksX3_crashes_1 7 rfl rfl)
theorem dX3_crashes_34 : decode cX3_crashes 34 = .ok (.aload_n 0, 1) := dk_42 (dk_at dksX3_crashes_1 10 rfl rfl)
theorem dX3_crashes_35 : decode cX3_crashes 35 = .ok (.iload_n 2, 1) := dk_28 (dk_at dksX3_crashes_1 11 rfl rfl)
theorem dX3_crashes_36 : decode cX3_crashes 36 = .ok (.iconst 4, 1) := dk_7 (dk_at dksX3_crashes_1 12 rfl rfl)
theorem dX3_crashes_37 : decode cX3_crashes 37 = .ok (.iconst 0, 1) := dk_3 (dk_at dksX3_crashes_1 13 rfl rfl)
theorem dX3_crashes_38 : decode cX3_crashes 38 = .ok (.invokevirtual 64, 3) := dk_182 0 64 (dk_at dksX3_crashes_1 14 rfl rfl)
theorem dX3_crashes_41 : decode cX3_crashes 41 = .ok (.iinc 2 1, 3) := dk_132 2 1 (dk_at dksX3_crashes_1 17 rfl rfl)
theorem dX3_crashes_44 : decode cX3_crashes 44 = .ok (.goto (-33), 3) := dk_167 255 223 (dk_at dksX3_crashes_1 20 rfl rfl)
theorem dX3_crashes_47 : decode cX3_crashes 47 = .ok (.iconst 0, 1) := dk_3 (dk_at dksX3_crashes_1 23 rfl rfl)
theorem dX3_crashes_48 : decode cX3_crashes 48 = .ok (.istore_n 2, 1) := dk_61 (dk_at dksX3_crashes_2 0 rfl rfl)
theorem dX3_crashes_49 : decode cX3_crashes 49 = .ok (.iconst 0, 1) := dk_3 (dk_at dksX3_crashes_2 1 rfl rfl)
theorem dX3_crashes_50 : decode cX3_crashes 50 = .ok (.istore_n 3, 1) := dk_62 (dk_at dksX3_crashes_2 2 rfl rfl)
theorem dX3_crashes_51 : decode cX3_crashes 51 = .ok (.iload_n 3, 1) := dk_29 (dk_at dksX3_crashes_2 3 rfl rfl)
theorem dX3_crashes_52 : decode cX3_crashes 52 = .ok (.iconst 5, 1) := dk_8 (dk_at dksX3_crashes_2 4 rfl rfl)
theorem dX3_crashes_53 : decode cX3_crashes 53 = .ok (.if_icmp .ge 20, 3) := dk_162 0 20 (dk_at dksX3_crashes_2 5 rfl rfl)
theorem dX3_crashes_56 : decode cX3_crashes 56 = .ok (.iload_n 2, 1) := dk_28 (dk_at dksX3_crashes_2 8 rfl rfl)
theorem dX3_crashes_57 : decode cX3_crashes 57 = .ok (.aload_n 0, 1) := dk_42 (dk_at dksX3_crashes_2 9 rfl rfl)
theorem dX3_crashes_58 : decode cX3_crashes 58 = .ok (.getfield 7, 3) := dk_180 0 7 (dk_at dksX3_crashes_2 10 rfl rfl)
theorem dX3_crashes_61 : decode cX3_crashes 61 = .ok (.iconst 0, 1) := dk_3 (dk_at dksX3_crashes_2 13 rfl rfl)
theorem dX3_crashes_62 : decode cX3_crashes 62 = .ok (.iload_n 3, 1) := dk_29 (dk_at dksX3_crashes_2 14 rfl rfl)
theorem dX3_crashes_63 : decode cX3_crashes 63 = .ok (.iadd, 1) := dk_96 (dk_at dksX3_crashes_2 15 rfl rfl)
theorem dX3_crashes_64 : decode cX3_crashes 64 = .ok (.iaload, 1) := dk_46 (dk_at dksX3_crashes_2 16 rfl rfl)
theorem dX3_crashes_65 : decode cX3_crashes 65 = .ok (.iadd, 1) := dk_96 (dk_at dksX3_crashes_2 17 rfl rfl)
theorem dX3_crashes_66 : decode cX3_crashes 66 = .ok (.istore_n 2, 1) := dk_61 (dk_at dksX3_crashes_2 18 rfl rfl)
theorem dX3_crashes_67 : decode cX3_crashes 67 = .ok (.iinc 3 1, 3) := dk_132 3 1 (dk_at dksX3_crashes_2 19 rfl rfl)
theorem dX3_crashes_70 : decode cX3_crashes 70 = .ok (.goto (-19), 3) := dk_167 255 237 (dk_at dksX3_crashes_3 0 rfl rfl)
theorem dX3_crashes_73 : decode cX3_crashes 73 = .ok (.iload_n 2, 1) := dk_28 (dk_at dksX3_crashes_3 3 rfl rfl)
theorem dX3_crashes_74 : decode cX3_crashes 74 = .ok (.ireturn, 1) := dk_172 (dk_at dksX3_crashes_3 4 rfl rfl)
abbrev cX3_recover : ByteArray := prog_19_method_48_code
def yX3_recover : MethodName := ⟨RX3, "recover", "(I)I"⟩
def dkwX3_recover_2 : List UInt8 := [180, 0, 7, 16, 13, 46, 172]
abbrev dktX3_recover_2 : List UInt8 := dkwX3_recover_2 ++ []
def dkwX3_recover_1 : List UInt8 := [96, 46, 4, 160, 0, 9, 42, 5, 182, 0, 106, 172, 42, 182, 0, 116, 42, 27, 182, 0, 152, 42]
abbrev dktX3_recover_1 : List UInt8 := dkwX3_recover_1 ++ dktX3_recover_2
def dkwX3_recover_0 : List UInt8 := [42, 3, 181, 0, 28, 27, 184, 0, 146, 154, 0, 9, 42, 4, 182, 0, 106, 172, 42, 180, 0, 7, 3, 27]
abbrev dktX3_recover_0 : List UInt8 := dkwX3_recover_0 ++ dktX3_recover_1
theorem dksX3_recover_0 : cX3_recover.data.toList.drop 0 = dktX3_recover_0 := by decide +kernel
theorem dksX3_recover_1 : cX3_recover.data.toList.drop 24 = dktX3_recover_1 := dk_seg dksX3_recover_0 24 rfl rfl
theorem dksX3_recover_2 : cX3_recover.data.toList.drop 46 = dktX3_recover_2 := dk_seg dksX3_recover_1 22 rfl rfl
theorem dX3_recover_0 : decode cX3_recover 0 = .ok (.aload_n 0, 1) := dk_42 (dk_at dksX3_recover_0 0 rfl rfl)
theorem dX3_recover_1 : decode cX3_recover 1 = .ok (.iconst 0, 1) := dk_3 (dk_at dksX3_recover_0 1 rfl rfl)
theorem dX3_recover_2 : decode cX3_recover 2 = .ok (.putfield 28, 3) := dk_181 0 28 (dk_at dksX3_recover_0 2 rfl rfl)
theorem dX3_recover_5 : decode cX3_recover 5 = .ok (.iload_n 1, 1) := dk_27 (dk_at dksX3_recover_0 5 rfl rfl)
theorem dX3_recover_6 : decode cX3_recover 6 = .ok (.invokestatic 146, 3) := dk_184 0 146 (dk_at dksX3_recover_0 6 rfl rfl)
theorem dX3_recover_9 : decode cX3_recover 9 = .ok (.ifCond .ne 9, 3) := dk_154 0 9 (dk_at dksX3_recover_0 9 rfl rfl)
theorem dX3_recover_12 : decode cX3_recover 12 = .ok (.aload_n 0, 1) := dk_42 (dk_at dksX3_recover_0 12 rfl rfl)
theorem dX3_recover_13 : decode cX3_recover 13 = .ok (.iconst 1, 1) := dk_4 (dk_at dksX3_recover_0 13 rfl rfl)
theorem dX3_recover_14 : decode cX3_recover 14 = .ok (.invokevirtual 106, 3) := dk_182 0 106 (dk_at dksX3_recover_0 14 rfl rfl)
theorem dX3_recover_17 : decode cX3_recover 17 = .ok (.ireturn, 1) := dk_172 (dk_at dksX3_recover_0 17 rfl rfl)
theorem dX3_recover_18 : decode cX3_recover 18 = .ok (.aload_n 0, 1) := dk_42 (dk_at dksX3_recover_0 18 rfl rfl)
theorem dX3_recover_19 : decode cX3_recover 19 = .ok (.getfield 7, 3) := dk_180 0 7 (dk_at dksX3_recover_0 19 rfl rfl)
theorem dX3_recover_22 : decode cX3_recover 22 = .ok (.iconst 0, 1) := dk_3 (dk_at dksX3_recover_0 22 rfl rfl)
theorem dX3_recover_23 : decode cX3_recover 23 = .ok (.iload_n 1, 1) := dk_27 (dk_at dksX3_recover_0 23 rfl rfl)
theorem dX3_recover_24 : decode cX3_recover 24 = .ok (.iadd, 1) := dk_96 (dk_at dksX3_recover_1 0 rfl rfl)
theorem dX3_recover_25 : decode cX3_recover 25 = .ok (.iaload, 1) := dk_46 (dk_at dksX3_recover_1 1 rfl rfl)
theorem dX3_recover_26 : decode cX3_recover 26 = .ok (.iconst 1, 1) := dk_4 (dk_at dksX3_recover_1 2 rfl rfl)
theorem dX3_recover_27 : decode cX3_recover 27 = .ok (.if_icmp .ne 9, 3) := dk_160 0 9 (dk_at dksX3_recover_1 3 rfl rfl)
theorem dX3_recover_30 : decode cX3_recover 30 = .ok (.aload_n 0, 1) := dk_42 (dk_at dksX3_recover_1 6 rfl rfl)
theorem dX3_recover_31 : decode cX3_recover 31 = .ok (.iconst 2, 1) := dk_5 (dk_at dksX3_recover_1 7 rfl rfl)
theorem dX3_recover_32 : decode cX3_recover 32 = .ok (.invokevirtual 106, 3) := dk_182 0 106 (dk_at dksX3_recover_1 8 rfl rfl)
theorem dX3_recover_35 : decode cX3_recover 35 = .ok (.ireturn, 1) := dk_172 (dk_at dksX3_recover_1 11 rfl rfl)
theorem dX3_recover_36 : decode cX3_recover 36 = .ok (.aload_n 0, 1) := dk_42 (dk_at dksX3_recover_1 12 rfl rfl)
theorem dX3_recover_37 : decode cX3_recover 37 = .ok (.invokevirtual 116, 3) := dk_182 0 116 (dk_at dksX3_recover_1 13 rfl rfl)
theorem dX3_recover_40 : decode cX3_recover 40 = .ok (.aload_n 0, 1) := dk_42 (dk_at dksX3_recover_1 16 rfl rfl)
theorem dX3_recover_41 : decode cX3_recover 41 = .ok (.iload_n 1, 1) := dk_27 (dk_at dksX3_recover_1 17 rfl rfl)
theorem dX3_recover_42 : decode cX3_recover 42 = .ok (.invokevirtual 152, 3) := dk_182 0 152 (dk_at dksX3_recover_1 18 rfl rfl)
theorem dX3_recover_45 : decode cX3_recover 45 = .ok (.aload_n 0, 1) := dk_42 (dk_at dksX3_recover_1 21 rfl rfl)
theorem dX3_recover_46 : decode cX3_recover 46 = .ok (.getfield 7, 3) := dk_180 0 7 (dk_at dksX3_recover_2 0 rfl rfl)
theorem dX3_recover_49 : decode cX3_recover 49 = .ok (.bipush 13, 2) := dk_16 13 (dk_at dksX3_recover_2 3 rfl rfl)
theorem dX3_recover_51 : decode cX3_recover 51 = .ok (.iaload, 1) := dk_46 (dk_at dksX3_recover_2 5 rfl rfl)
theorem dX3_recover_52 : decode cX3_recover 52 = .ok (.ireturn, 1) := dk_172 (dk_at dksX3_recover_2 6 rfl rfl)
abbrev cX3_recovers : ByteArray := prog_19_method_37_code
def yX3_recovers : MethodName := ⟨RX3, "recovers", "(I)V"⟩
def dkwX3_recovers_4 : List UInt8 := [28, 27, 182, 0, 60, 132, 2, 1, 167, 255, 165, 177]
abbrev dktX3_recovers_4 : List UInt8 := dkwX3_recovers_4 ++ []
def dkwX3_recovers_3 : List UInt8 := [182, 0, 70, 167, 0, 26, 27, 7, 159, 0, 21, 42, 27, 28, 182, 0, 51, 4, 160, 0, 11, 42, 16, 6]
abbrev dktX3_recovers_3 : List UInt8 := dkwX3_recovers_3 ++ dktX3_recovers_4
def dkwX3_recovers_2 : List UInt8 := [160, 0, 29, 42, 28, 16, 6, 182, 0, 39, 154, 0, 19, 42, 5, 42, 28, 8, 182, 0, 39, 96, 28]
abbrev dktX3_recovers_2 : List UInt8 := dkwX3_recovers_2 ++ dktX3_recovers_3
def dkwX3_recovers_1 : List UInt8 := [160, 0, 21, 42, 28, 8, 182, 0, 39, 154, 0, 12, 42, 28, 5, 182, 0, 81, 167, 0, 57, 27, 7]
abbrev dktX3_recovers_1 : List UInt8 := dkwX3_recovers_1 ++ dktX3_recovers_2
def dkwX3_recovers_0 : List UInt8 := [42, 180, 0, 7, 3, 27, 96, 4, 79, 3, 61, 28, 42, 180, 0, 7, 16, 9, 46, 162, 0, 86, 27, 7]
abbrev dktX3_recovers_0 : List UInt8 := dkwX3_recovers_0 ++ dktX3_recovers_1
theorem dksX3_recovers_0 : cX3_recovers.data.toList.drop 0 = dktX3_recovers_0 := by decide +kernel
theorem dksX3_recovers_1 : cX3_recovers.data.toList.drop 24 = dktX3_recovers_1 := dk_seg dksX3_recovers_0 24 rfl rfl
theorem dksX3_recovers_2 : cX3_recovers.data.toList.drop 47 = dktX3_recovers_2 := dk_seg dksX3_recovers_1 23 rfl rfl
theorem dksX3_recovers_3 : cX3_recovers.data.toList.drop 70 = dktX3_recovers_3 := dk_seg dksX3_recovers_2 23 rfl rfl
theorem dksX3_recovers_4 : cX3_recovers.data.toList.drop 94 = dktX3_recovers_4 := dk_seg dksX3_recovers_3 24 rfl rfl
theorem dX3_recovers_0 : decode cX3_recovers 0 = .ok (.aload_n 0, 1) := dk_42 (dk_at dksX3_recovers_0 0 rfl rfl)
theorem dX3_recovers_1 : decode cX3_recovers 1 = .ok (.getfield 7, 3) := dk_180 0 7 (dk_at dksX3_recovers_0 1 rfl rfl)
theorem dX3_recovers_4 : decode cX3_recovers 4 = .ok (.iconst 0, 1) := dk_3 (dk_at dksX3_recovers_0 4 rfl rfl)
theorem dX3_recovers_5 : decode cX3_recovers 5 = .ok (.iload_n 1, 1) := dk_27 (dk_at dksX3_recovers_0 5 rfl rfl)
theorem dX3_recovers_6 : decode cX3_recovers 6 = .ok (.iadd, 1) := dk_96 (dk_at dksX3_recovers_0 6 rfl rfl)
theorem dX3_recovers_7 : decode cX3_recovers 7 = .ok (.iconst 1, 1) := dk_4 (dk_at dksX3_recovers_0 7 rfl rfl)
theorem dX3_recovers_8 : decode cX3_recovers 8 = .ok (.iastore, 1) := dk_79 (dk_at dksX3_recovers_0 8 rfl rfl)
theorem dX3_recovers_9 : decode cX3_recovers 9 = .ok (.iconst 0, 1) := dk_3 (dk_at dksX3_recovers_0 9 rfl rfl)
theorem dX3_recovers_10 : decode cX3_recovers 10 = .ok (.istore_n 2, 1) := dk_61 (dk_at dksX3_recovers_0 10 rfl rfl)
theorem dX3_recovers_11 : decode cX3_recovers 11 = .ok (.iload_n 2, 1) := dk_28 (dk_at dksX3_recovers_0 11 rfl rfl)
theorem dX3_recovers_12 : decode cX3_recovers 12 = .ok (.aload_n 0, 1) := dk_42 (dk_at dksX3_recovers_0 12 rfl rfl)
theorem dX3_recovers_13 : decode cX3_recovers 13 = .ok (.getfield 7, 3) := dk_180 0 7 (dk_at dksX3_recovers_0 13 rfl rfl)
theorem dX3_recovers_16 : decode cX3_recovers 16 = .ok (.bipush 9, 2) := dk_16 9 (dk_at dksX3_recovers_0 16 rfl rfl)
theorem dX3_recovers_18 : decode cX3_recovers 18 = .ok (.iaload, 1) := dk_46 (dk_at dksX3_recovers_0 18 rfl rfl)
theorem dX3_recovers_19 : decode cX3_recovers 19 = .ok (.if_icmp .ge 86, 3) := dk_162 0 86 (dk_at dksX3_recovers_0 19 rfl rfl)
theorem dX3_recovers_22 : decode cX3_recovers 22 = .ok (.iload_n 1, 1) := dk_27 (dk_at dksX3_recovers_0 22 rfl rfl)
theorem dX3_recovers_23 : decode cX3_recovers 23 = .ok (.iconst 4, 1) := dk_7 (dk_at dksX3_recovers_0 23 rfl rfl)
theorem dX3_recovers_24 : decode cX3_recovers 24 = .ok (.if_icmp .ne 21, 3) := dk_160 0 21 (dk_at dksX3_recovers_1 0 rfl rfl)
theorem dX3_recovers_27 : decode cX3_recovers 27 = .ok (.aload_n 0, 1) := dk_42 (dk_at dksX3_recovers_1 3 rfl rfl)
theorem dX3_recovers_28 : decode cX3_recovers 28 = .ok (.iload_n 2, 1) := dk_28 (dk_at dksX3_recovers_1 4 rfl rfl)
theorem dX3_recovers_29 : decode cX3_recovers 29 = .ok (.iconst 5, 1) := dk_8 (dk_at dksX3_recovers_1 5 rfl rfl)
theorem dX3_recovers_30 : decode cX3_recovers 30 = .ok (.invokevirtual 39, 3) := dk_182 0 39 (dk_at dksX3_recovers_1 6 rfl rfl)
theorem dX3_recovers_33 : decode cX3_recovers 33 = .ok (.ifCond .ne 12, 3) := dk_154 0 12 (dk_at dksX3_recovers_1 9 rfl rfl)
theorem dX3_recovers_36 : decode cX3_recovers 36 = .ok (.aload_n 0, 1) := dk_42 (dk_at dksX3_recovers_1 12 rfl rfl)
theorem dX3_recovers_37 : decode cX3_recovers 37 = .ok (.iload_n 2, 1) := dk_28 (dk_at dksX3_recovers_1 13 rfl rfl)
theorem dX3_recovers_38 : decode cX3_recovers 38 = .ok (.iconst 2, 1) := dk_5 (dk_at dksX3_recovers_1 14 rfl rfl)
theorem dX3_recovers_39 : decode cX3_recovers 39 = .ok (.invokevirtual 81, 3) := dk_182 0 81 (dk_at dksX3_recovers_1 15 rfl rfl)
theorem dX3_recovers_42 : decode cX3_recovers 42 = .ok (.goto 57, 3) := dk_167 0 57 (dk_at dksX3_recovers_1 18 rfl rfl)
theorem dX3_recovers_45 : decode cX3_recovers 45 = .ok (.iload_n 1, 1) := dk_27 (dk_at dksX3_recovers_1 21 rfl rfl)
theorem dX3_recovers_46 : decode cX3_recovers 46 = .ok (.iconst 4, 1) := dk_7 (dk_at dksX3_recovers_1 22 rfl rfl)
theorem dX3_recovers_47 : decode cX3_recovers 47 = .ok (.if_icmp .ne 29, 3) := dk_160 0 29 (dk_at dksX3_recovers_2 0 rfl rfl)
theorem dX3_recovers_50 : decode cX3_recovers 50 = .ok (.aload_n 0, 1) := dk_42 (dk_at dksX3_recovers_2 3 rfl rfl)
theorem dX3_recovers_51 : decode cX3_recovers 51 = .ok (.iload_n 2, 1) := dk_28 (dk_at dksX3_recovers_2 4 rfl rfl)
theorem dX3_recovers_52 : decode cX3_recovers 52 = .ok (.bipush 6, 2) := dk_16 6 (dk_at dksX3_recovers_2 5 rfl rfl)
theorem dX3_recovers_54 : decode cX3_recovers 54 = .ok (.invokevirtual 39, 3) := dk_182 0 39 (dk_at dksX3_recovers_2 7 rfl rfl)
theorem dX3_recovers_57 : decode cX3_recovers 57 = .ok (.ifCond .ne 19, 3) := dk_154 0 19 (dk_at dksX3_recovers_2 10 rfl rfl)
theorem dX3_recovers_60 : decode cX3_recovers 60 = .ok (.aload_n 0, 1) := dk_42 (dk_at dksX3_recovers_2 13 rfl rfl)
theorem dX3_recovers_61 : decode cX3_recovers 61 = .ok (.iconst 2, 1) := dk_5 (dk_at dksX3_recovers_2 14 rfl rfl)
theorem dX3_recovers_62 : decode cX3_recovers 62 = .ok (.aload_n 0, 1) := dk_42 (dk_at dksX3_recovers_2 15 rfl rfl)
theorem dX3_recovers_63 : decode cX3_recovers 63 = .ok (.iload_n 2, 1) := dk_28 (dk_at dksX3_recovers_2 16 rfl rfl)
theorem dX3_recovers_64 : decode cX3_recovers 64 = .ok (.iconst 5, 1) := dk_8 (dk_at dksX3_recovers_2 17 rfl rfl)
theorem dX3_recovers_65 : decode cX3_recovers 65 = .ok (.invokevirtual 39, 3) := dk_182 0 39 (dk_at dksX3_recovers_2 18 rfl rfl)
theorem dX3_recovers_68 : decode cX3_recovers 68 = .ok (.iadd, 1) := dk_96 (dk_at dksX3_recovers_2 21 rfl rfl)
theorem dX3_recovers_69 : decode cX3_recovers 69 = .ok (.iload_n 2, 1) := dk_28 (dk_at dksX3_recovers_2 22 rfl rfl)
theorem dX3_recovers_70 : decode cX3_recovers 70 = .ok (.invokevirtual 70, 3) := dk_182 0 70 (dk_at dksX3_recovers_3 0 rfl rfl)
theorem dX3_recovers_73 : decode cX3_recovers 73 = .ok (.goto 26, 3) := dk_167 0 26 (dk_at dksX3_recovers_3 3 rfl rfl)
theorem dX3_recovers_76 : decode cX3_recovers 76 = .ok (.iload_n 1, 1) := dk_27 (dk_at dksX3_recovers_3 6 rfl rfl)
theorem dX3_recovers_77 : decode cX3_recovers 77 = .ok (.iconst 4, 1) := dk_7 (dk_at dksX3_recovers_3 7 rfl rfl)
theorem dX3_recovers_78 : decode cX3_recovers 78 = .ok (.if_icmp .eq 21, 3) := dk_159 0 21 (dk_at dksX3_recovers_3 8 rfl rfl)
theorem dX3_recovers_81 : decode cX3_recovers 81 = .ok (.aload_n 0, 1) := dk_42 (dk_at dksX3_recovers_3 11 rfl rfl)
theorem dX3_recovers_82 : decode cX3_recovers 82 = .ok (.iload_n 1, 1) := dk_27 (dk_at dksX3_recovers_3 12 rfl rfl)
theorem dX3_recovers_83 : decode cX3_recovers 83 = .ok (.iload_n 2, 1) := dk_28 (dk_at dksX3_recovers_3 13 rfl rfl)
theorem dX3_recovers_84 : decode cX3_recovers 84 = .ok (.invokevirtual 51, 3) := dk_182 0 51 (dk_at dksX3_recovers_3 14 rfl rfl)
theorem dX3_recovers_87 : decode cX3_recovers 87 = .ok (.iconst 1, 1) := dk_4 (dk_at dksX3_recovers_3 17 rfl rfl)
theorem dX3_recovers_88 : decode cX3_recovers 88 = .ok (.if_icmp .ne 11, 3) := dk_160 0 11 (dk_at dksX3_recovers_3 18 rfl rfl)
theorem dX3_recovers_91 : decode cX3_recovers 91 = .ok (.aload_n 0, 1) := dk_42 (dk_at dksX3_recovers_3 21 rfl rfl)
theorem dX3_recovers_92 : decode cX3_recovers 92 = .ok (.bipush 6, 2) := dk_16 6 (dk_at dksX3_recovers_3 22 rfl rfl)
theorem dX3_recovers_94 : decode cX3_recovers 94 = .ok (.iload_n 2, 1) := dk_28 (dk_at dksX3_recovers_4 0 rfl rfl)
theorem dX3_recovers_95 : decode cX3_recovers 95 = .ok (.iload_n 1, 1) := dk_27 (dk_at dksX3_recovers_4 1 rfl rfl)
theorem dX3_recovers_96 : decode cX3_recovers 96 = .ok (.invokevirtual 60, 3) := dk_182 0 60 (dk_at dksX3_recovers_4 2 rfl rfl)
theorem dX3_recovers_99 : decode cX3_recovers 99 = .ok (.iinc 2 1, 3) := dk_132 2 1 (dk_at dksX3_recovers_4 5 rfl rfl)
theorem dX3_recovers_102 : decode cX3_recovers 102 = .ok (.goto (-91), 3) := dk_167 255 165 (dk_at dksX3_recovers_4 8 rfl rfl)
theorem dX3_recovers_105 : decode cX3_recovers 105 = .ok (.return_, 1) := dk_177 (dk_at dksX3_recovers_4 11 rfl rfl)
abbrev cX3_append : ByteArray := prog_19_method_49_code
def yX3_append : MethodName := ⟨RX3, "append", "(I)I"⟩
def dkwX3_append_2 : List UInt8 := [42, 89, 180, 0, 156, 4, 96, 181, 0, 156, 42, 180, 0, 156, 172]
abbrev dktX3_append_2 : List UInt8 := dkwX3_append_2 ++ []
def dkwX3_append_1 : List UInt8 := [180, 0, 156, 16, 60, 160, 0, 9, 42, 5, 182, 0, 106, 172, 42, 180, 0, 22, 42, 180, 0, 156, 27, 79]
abbrev dktX3_append_1 : List UInt8 := dkwX3_append_1 ++ dktX3_append_2
def dkwX3_append_0 : List UInt8 := [42, 3, 181, 0, 28, 27, 16, 33, 16, 126, 184, 0, 32, 154, 0, 9, 42, 4, 182, 0, 106, 172, 42]
abbrev dktX3_append_0 : List UInt8 := dkwX3_append_0 ++ dktX3_append_1
theorem dksX3_append_0 : cX3_append.data.toList.drop 0 = dktX3_append_0 := by decide +kernel
theorem dksX3_append_1 : cX3_append.data.toList.drop 23 = dktX3_append_1 := dk_seg dksX3_append_0 23 rfl rfl
theorem dksX3_append_2 : cX3_append.data.toList.drop 47 = dktX3_append_2 := dk_seg dksX3_append_1 24 rfl rfl
theorem dX3_append_0 : decode cX3_append 0 = .ok (.aload_n 0, 1) := dk_42 (dk_at dksX3_append_0 0 rfl rfl)
theorem dX3_append_1 : decode cX3_append 1 = .ok (.iconst 0, 1) := dk_3 (dk_at dksX3_append_0 1 rfl rfl)
theorem dX3_append_2 : decode cX3_append 2 = .ok (.putfield 28, 3) := dk_181 0 28 (dk_at dksX3_append_0 2 rfl rfl)
theorem dX3_append_5 : decode cX3_append 5 = .ok (.iload_n 1, 1) := dk_27 (dk_at dksX3_append_0 5 rfl rfl)
theorem dX3_append_6 : decode cX3_append 6 = .ok (.bipush 33, 2) := dk_16 33 (dk_at dksX3_append_0 6 rfl rfl)
theorem dX3_append_8 : decode cX3_append 8 = .ok (.bipush 126, 2) := dk_16 126 (dk_at dksX3_append_0 8 rfl rfl)
theorem dX3_append_10 : decode cX3_append 10 = .ok (.invokestatic 32, 3) := dk_184 0 32 (dk_at dksX3_append_0 10 rfl rfl)
theorem dX3_append_13 : decode cX3_append 13 = .ok (.ifCond .ne 9, 3) := dk_154 0 9 (dk_at dksX3_append_0 13 rfl rfl)
theorem dX3_append_16 : decode cX3_append 16 = .ok (.aload_n 0, 1) := dk_42 (dk_at dksX3_append_0 16 rfl rfl)
theorem dX3_append_17 : decode cX3_append 17 = .ok (.iconst 1, 1) := dk_4 (dk_at dksX3_append_0 17 rfl rfl)
theorem dX3_append_18 : decode cX3_append 18 = .ok (.invokevirtual 106, 3) := dk_182 0 106 (dk_at dksX3_append_0 18 rfl rfl)
theorem dX3_append_21 : decode cX3_append 21 = .ok (.ireturn, 1) := dk_172 (dk_at dksX3_append_0 21 rfl rfl)
theorem dX3_append_22 : decode cX3_append 22 = .ok (.aload_n 0, 1) := dk_42 (dk_at dksX3_append_0 22 rfl rfl)
theorem dX3_append_23 : decode cX3_append 23 = .ok (.getfield 156, 3) := dk_180 0 156 (dk_at dksX3_append_1 0 rfl rfl)
theorem dX3_append_26 : decode cX3_append 26 = .ok (.bipush 60, 2) := dk_16 60 (dk_at dksX3_append_1 3 rfl rfl)
theorem dX3_append_28 : decode cX3_append 28 = .ok (.if_icmp .ne 9, 3) := dk_160 0 9 (dk_at dksX3_append_1 5 rfl rfl)
theorem dX3_append_31 : decode cX3_append 31 = .ok (.aload_n 0, 1) := dk_42 (dk_at dksX3_append_1 8 rfl rfl)
theorem dX3_append_32 : decode cX3_append 32 = .ok (.iconst 2, 1) := dk_5 (dk_at dksX3_append_1 9 rfl rfl)
theorem dX3_append_33 : decode cX3_append 33 = .ok (.invokevirtual 106, 3) := dk_182 0 106 (dk_at dksX3_append_1 10 rfl rfl)
theorem dX3_append_36 : decode cX3_append 36 = .ok (.ireturn, 1) := dk_172 (dk_at dksX3_append_1 13 rfl rfl)
theorem dX3_append_37 : decode cX3_append 37 = .ok (.aload_n 0, 1) := dk_42 (dk_at dksX3_append_1 14 rfl rfl)
theorem dX3_append_38 : decode cX3_append 38 = .ok (.getfield 22, 3) := dk_180 0 22 (dk_at dksX3_append_1 15 rfl rfl)
theorem dX3_append_41 : decode cX3_append 41 = .ok (.aload_n 0, 1) := dk_42 (dk_at dksX3_append_1 18 rfl rfl)
theorem dX3_append_42 : decode cX3_append 42 = .ok (.getfield 156, 3) := dk_180 0 156 (dk_at dksX3_append_1 19 rfl rfl)
theorem dX3_append_45 : decode cX3_append 45 = .ok (.iload_n 1, 1) := dk_27 (dk_at dksX3_append_1 22 rfl rfl)
theorem dX3_append_46 : decode cX3_append 46 = .ok (.iastore, 1) := dk_79 (dk_at dksX3_append_1 23 rfl rfl)
theorem dX3_append_47 : decode cX3_append 47 = .ok (.aload_n 0, 1) := dk_42 (dk_at dksX3_append_2 0 rfl rfl)
theorem dX3_append_48 : decode cX3_append 48 = .ok (.dup, 1) := dk_89 (dk_at dksX3_append_2 1 rfl rfl)
theorem dX3_append_49 : decode cX3_append 49 = .ok (.getfield 156, 3) := dk_180 0 156 (dk_at dksX3_append_2 2 rfl rfl)
theorem dX3_append_52 : decode cX3_append 52 = .ok (.iconst 1, 1) := dk_4 (dk_at dksX3_append_2 5 rfl rfl)
theorem dX3_append_53 : decode cX3_append 53 = .ok (.iadd, 1) := dk_96 (dk_at dksX3_append_2 6 rfl rfl)
theorem dX3_append_54 : decode cX3_append 54 = .ok (.putfield 156, 3) := dk_181 0 156 (dk_at dksX3_append_2 7 rfl rfl)
theorem dX3_append_57 : decode cX3_append 57 = .ok (.aload_n 0, 1) := dk_42 (dk_at dksX3_append_2 10 rfl rfl)
theorem dX3_append_58 : decode cX3_append 58 = .ok (.getfield 156, 3) := dk_180 0 156 (dk_at dksX3_append_2 11 rfl rfl)
theorem dX3_append_61 : decode cX3_append 61 = .ok (.ireturn, 1) := dk_172 (dk_at dksX3_append_2 14 rfl rfl)
abbrev cX3_clearBuffer : ByteArray := prog_19_method_50_code
def yX3_clearBuffer : MethodName := ⟨RX3, "clearBuffer", "()I"⟩
def dkwX3_clearBuffer_0 : List UInt8 := [42, 3, 181, 0, 28, 42, 180, 0, 156, 60, 42, 3, 181, 0, 156, 27, 172]
abbrev dktX3_clearBuffer_0 : List UInt8 := dkwX3_clearBuffer_0 ++ []
theorem dksX3_clearBuffer_0 : cX3_clearBuffer.data.toList.drop 0 = dktX3_clearBuffer_0 := by decide +kernel
theorem dX3_clearBuffer_0 : decode cX3_clearBuffer 0 = .ok (.aload_n 0, 1) := dk_42 (dk_at dksX3_clearBuffer_0 0 rfl rfl)
theorem dX3_clearBuffer_1 : decode cX3_clearBuffer 1 = .ok (.iconst 0, 1) := dk_3 (dk_at dksX3_clearBuffer_0 1 rfl rfl)
theorem dX3_clearBuffer_2 : decode cX3_clearBuffer 2 = .ok (.putfield 28, 3) := dk_181 0 28 (dk_at dksX3_clearBuffer_0 2 rfl rfl)
theorem dX3_clearBuffer_5 : decode cX3_clearBuffer 5 = .ok (.aload_n 0, 1) := dk_42 (dk_at dksX3_clearBuffer_0 5 rfl rfl)
theorem dX3_clearBuffer_6 : decode cX3_clearBuffer 6 = .ok (.getfield 156, 3) := dk_180 0 156 (dk_at dksX3_clearBuffer_0 6 rfl rfl)
theorem dX3_clearBuffer_9 : decode cX3_clearBuffer 9 = .ok (.istore_n 1, 1) := dk_60 (dk_at dksX3_clearBuffer_0 9 rfl rfl)
theorem dX3_clearBuffer_10 : decode cX3_clearBuffer 10 = .ok (.aload_n 0, 1) := dk_42 (dk_at dksX3_clearBuffer_0 10 rfl rfl)
theorem dX3_clearBuffer_11 : decode cX3_clearBuffer 11 = .ok (.iconst 0, 1) := dk_3 (dk_at dksX3_clearBuffer_0 11 rfl rfl)
theorem dX3_clearBuffer_12 : decode cX3_clearBuffer 12 = .ok (.putfield 156, 3) := dk_181 0 156 (dk_at dksX3_clearBuffer_0 12 rfl rfl)
theorem dX3_clearBuffer_15 : decode cX3_clearBuffer 15 = .ok (.iload_n 1, 1) := dk_27 (dk_at dksX3_clearBuffer_0 15 rfl rfl)
theorem dX3_clearBuffer_16 : decode cX3_clearBuffer 16 = .ok (.ireturn, 1) := dk_172 (dk_at dksX3_clearBuffer_0 16 rfl rfl)
abbrev cX3_firstError : ByteArray := prog_19_method_57_code
def yX3_firstError : MethodName := ⟨RX3, "firstError", "()I"⟩
def dkwX3_firstError_0 : List UInt8 := [42, 3, 181, 0, 28, 42, 182, 0, 184, 153, 0, 10, 42, 180, 0, 156, 167, 0, 7, 42, 180, 0, 159, 172]
abbrev dktX3_firstError_0 : List UInt8 := dkwX3_firstError_0 ++ []
theorem dksX3_firstError_0 : cX3_firstError.data.toList.drop 0 = dktX3_firstError_0 := by decide +kernel
theorem dX3_firstError_0 : decode cX3_firstError 0 = .ok (.aload_n 0, 1) := dk_42 (dk_at dksX3_firstError_0 0 rfl rfl)
theorem dX3_firstError_1 : decode cX3_firstError 1 = .ok (.iconst 0, 1) := dk_3 (dk_at dksX3_firstError_0 1 rfl rfl)
theorem dX3_firstError_2 : decode cX3_firstError 2 = .ok (.putfield 28, 3) := dk_181 0 28 (dk_at dksX3_firstError_0 2 rfl rfl)
theorem dX3_firstError_5 : decode cX3_firstError 5 = .ok (.aload_n 0, 1) := dk_42 (dk_at dksX3_firstError_0 5 rfl rfl)
theorem dX3_firstError_6 : decode cX3_firstError 6 = .ok (.invokevirtual 184, 3) := dk_182 0 184 (dk_at dksX3_firstError_0 6 rfl rfl)
theorem dX3_firstError_9 : decode cX3_firstError 9 = .ok (.ifCond .eq 10, 3) := dk_153 0 10 (dk_at dksX3_firstError_0 9 rfl rfl)
theorem dX3_firstError_12 : decode cX3_firstError 12 = .ok (.aload_n 0, 1) := dk_42 (dk_at dksX3_firstError_0 12 rfl rfl)
theorem dX3_firstError_13 : decode cX3_firstError 13 = .ok (.getfield 156, 3) := dk_180 0 156 (dk_at dksX3_firstError_0 13 rfl rfl)
theorem dX3_firstError_16 : decode cX3_firstError 16 = .ok (.goto 7, 3) := dk_167 0 7 (dk_at dksX3_firstError_0 16 rfl rfl)
theorem dX3_firstError_19 : decode cX3_firstError 19 = .ok (.aload_n 0, 1) := dk_42 (dk_at dksX3_firstError_0 19 rfl rfl)
theorem dX3_firstError_20 : decode cX3_firstError 20 = .ok (.getfield 159, 3) := dk_180 0 159 (dk_at dksX3_firstError_0 20 rfl rfl)
theorem dX3_firstError_23 : decode cX3_firstError 23 = .ok (.ireturn, 1) := dk_172 (dk_at dksX3_firstError_0 23 rfl rfl)
abbrev cX3_readsCourse : ByteArray := prog_19_method_56_code
def yX3_readsCourse : MethodName := ⟨RX3, "readsCourse", "()Z"⟩
def dkwX3_readsCourse_2 : List UInt8 := [153, 255, 225, 42, 182, 0, 181, 167, 255, 218, 42, 180, 0, 162, 172]
abbrev dktX3_readsCourse_2 : List UInt8 := dkwX3_readsCourse_2 ++ []
def dkwX3_readsCourse_1 : List UInt8 := [180, 0, 159, 42, 180, 0, 156, 162, 0, 26, 42, 16, 59, 16, 59, 182, 0, 169, 87, 42, 180, 0, 162]
abbrev dktX3_readsCourse_1 : List UInt8 := dkwX3_readsCourse_1 ++ dktX3_readsCourse_2
def dkwX3_readsCourse_0 : List UInt8 := [42, 3, 181, 0, 159, 42, 3, 181, 0, 172, 42, 182, 0, 181, 42, 180, 0, 162, 153, 0, 37, 42]
abbrev dktX3_readsCourse_0 : List UInt8 := dkwX3_readsCourse_0 ++ dktX3_readsCourse_1
theorem dksX3_readsCourse_0 : cX3_readsCourse.data.toList.drop 0 = dktX3_readsCourse_0 := by decide +kernel
theorem dksX3_readsCourse_1 : cX3_readsCourse.data.toList.drop 22 = dktX3_readsCourse_1 := dk_seg dksX3_readsCourse_0 22 rfl rfl
theorem dksX3_readsCourse_2 : cX3_readsCourse.data.toList.drop 45 = dktX3_readsCourse_2 := dk_seg dksX3_readsCourse_1 23 rfl rfl
theorem dX3_readsCourse_0 : decode cX3_readsCourse 0 = .ok (.aload_n 0, 1) := dk_42 (dk_at dksX3_readsCourse_0 0 rfl rfl)
theorem dX3_readsCourse_1 : decode cX3_readsCourse 1 = .ok (.iconst 0, 1) := dk_3 (dk_at dksX3_readsCourse_0 1 rfl rfl)
theorem dX3_readsCourse_2 : decode cX3_readsCourse 2 = .ok (.putfield 159, 3) := dk_181 0 159 (dk_at dksX3_readsCourse_0 2 rfl rfl)
theorem dX3_readsCourse_5 : decode cX3_readsCourse 5 = .ok (.aload_n 0, 1) := dk_42 (dk_at dksX3_readsCourse_0 5 rfl rfl)
theorem dX3_readsCourse_6 : decode cX3_readsCourse 6 = .ok (.iconst 0, 1) := dk_3 (dk_at dksX3_readsCourse_0 6 rfl rfl)
theorem dX3_readsCourse_7 : decode cX3_readsCourse 7 = .ok (.putfield 172, 3) := dk_181 0 172 (dk_at dksX3_readsCourse_0 7 rfl rfl)
theorem dX3_readsCourse_10 : decode cX3_readsCourse 10 = .ok (.aload_n 0, 1) := dk_42 (dk_at dksX3_readsCourse_0 10 rfl rfl)
theorem dX3_readsCourse_11 : decode cX3_readsCourse 11 = .ok (.invokevirtual 181, 3) := dk_182 0 181 (dk_at dksX3_readsCourse_0 11 rfl rfl)
theorem dX3_readsCourse_14 : decode cX3_readsCourse 14 = .ok (.aload_n 0, 1) := dk_42 (dk_at dksX3_readsCourse_0 14 rfl rfl)
theorem dX3_readsCourse_15 : decode cX3_readsCourse 15 = .ok (.getfield 162, 3) := dk_180 0 162 (dk_at dksX3_readsCourse_0 15 rfl rfl)
theorem dX3_readsCourse_18 : decode cX3_readsCourse 18 = .ok (.ifCond .eq 37, 3) := dk_153 0 37 (dk_at dksX3_readsCourse_0 18 rfl rfl)
theorem dX3_readsCourse_21 : decode cX3_readsCourse 21 = .ok (.aload_n 0, 1) := dk_42 (dk_at dksX3_readsCourse_0 21 rfl rfl)
theorem dX3_readsCourse_22 : decode cX3_readsCourse 22 = .ok (.getfield 159, 3) := dk_180 0 159 (dk_at dksX3_readsCourse_1 0 rfl rfl)
theorem dX3_readsCourse_25 : decode cX3_readsCourse 25 = .ok (.aload_n 0, 1) := dk_42 (dk_at dksX3_readsCourse_1 3 rfl rfl)
theorem dX3_readsCourse_26 : decode cX3_readsCourse 26 = .ok (.getfield 156, 3) := dk_180 0 156 (dk_at dksX3_readsCourse_1 4 rfl rfl)
theorem dX3_readsCourse_29 : decode cX3_readsCourse 29 = .ok (.if_icmp .ge 26, 3) := dk_162 0 26 (dk_at dksX3_readsCourse_1 7 rfl rfl)
theorem dX3_readsCourse_32 : decode cX3_readsCourse 32 = .ok (.aload_n 0, 1) := dk_42 (dk_at dksX3_readsCourse_1 10 rfl rfl)
theorem dX3_readsCourse_33 : decode cX3_readsCourse 33 = .ok (.bipush 59, 2) := dk_16 59 (dk_at dksX3_readsCourse_1 11 rfl rfl)
theorem dX3_readsCourse_35 : decode cX3_readsCourse 35 = .ok (.bipush 59, 2) := dk_16 59 (dk_at dksX3_readsCourse_1 13 rfl rfl)
theorem dX3_readsCourse_37 : decode cX3_readsCourse 37 = .ok (.invokevirtual 169, 3) := dk_182 0 169 (dk_at dksX3_readsCourse_1 15 rfl rfl)
theorem dX3_readsCourse_40 : decode cX3_readsCourse 40 = .ok (.pop, 1) := dk_87 (dk_at dksX3_readsCourse_1 18 rfl rfl)
theorem dX3_readsCourse_41 : decode cX3_readsCourse 41 = .ok (.aload_n 0, 1) := dk_42 (dk_at dksX3_readsCourse_1 19 rfl rfl)
theorem dX3_readsCourse_42 : decode cX3_readsCourse 42 = .ok (.getfield 162, 3) := dk_180 0 162 (dk_at dksX3_readsCourse_1 20 rfl rfl)
theorem dX3_readsCourse_45 : decode cX3_readsCourse 45 = .ok (.ifCond .eq (-31), 3) := dk_153 255 225 (dk_at dksX3_readsCourse_2 0 rfl rfl)
theorem dX3_readsCourse_48 : decode cX3_readsCourse 48 = .ok (.aload_n 0, 1) := dk_42 (dk_at dksX3_readsCourse_2 3 rfl rfl)
theorem dX3_readsCourse_49 : decode cX3_readsCourse 49 = .ok (.invokevirtual 181, 3) := dk_182 0 181 (dk_at dksX3_readsCourse_2 4 rfl rfl)
theorem dX3_readsCourse_52 : decode cX3_readsCourse 52 = .ok (.goto (-38), 3) := dk_167 255 218 (dk_at dksX3_readsCourse_2 7 rfl rfl)
theorem dX3_readsCourse_55 : decode cX3_readsCourse 55 = .ok (.aload_n 0, 1) := dk_42 (dk_at dksX3_readsCourse_2 10 rfl rfl)
theorem dX3_readsCourse_56 : decode cX3_readsCourse 56 = .ok (.getfield 162, 3) := dk_180 0 162 (dk_at dksX3_readsCourse_2 11 rfl rfl)
theorem dX3_readsCourse_59 : decode cX3_readsCourse 59 = .ok (.ireturn, 1) := dk_172 (dk_at dksX3_readsCourse_2 14 rfl rfl)
abbrev cX3_readsPart : ByteArray := prog_19_method_55_code
def yX3_readsPart : MethodName := ⟨RX3, "readsPart", "()V"⟩
def dkwX3_readsPart_12 : List UInt8 := [3, 96, 181, 0, 172, 177]
abbrev dktX3_readsPart_12 : List UInt8 := dkwX3_readsPart_12 ++ []
def dkwX3_readsPart_11 : List UInt8 := [181, 0, 159, 42, 3, 181, 0, 162, 42, 89, 180, 0, 172, 42, 180, 0, 162, 153, 0, 7, 4, 167, 0, 4]
abbrev dktX3_readsPart_11 : List UInt8 := dkwX3_readsPart_11 ++ dktX3_readsPart_12
def dkwX3_readsPart_10 : List UInt8 := [27, 5, 96, 42, 16, 48, 16, 55, 182, 0, 169, 79, 167, 0, 18, 42, 89, 180, 0, 159, 4, 100]
abbrev dktX3_readsPart_10 : List UInt8 := dkwX3_readsPart_10 ++ dktX3_readsPart_11
def dkwX3_readsPart_9 : List UInt8 := [79, 167, 0, 53, 42, 180, 0, 25, 27, 4, 96, 42, 16, 48, 16, 51, 182, 0, 169, 79, 42, 180, 0, 25]
abbrev dktX3_readsPart_9 : List UInt8 := dkwX3_readsPart_9 ++ dktX3_readsPart_10
def dkwX3_readsPart_8 : List UInt8 := [16, 52, 182, 0, 169, 79, 167, 0, 72, 42, 180, 0, 25, 27, 4, 96, 42, 16, 48, 16, 55, 182, 0, 169]
abbrev dktX3_readsPart_8 : List UInt8 := dkwX3_readsPart_8 ++ dktX3_readsPart_9
def dkwX3_readsPart_7 : List UInt8 := [96, 42, 16, 48, 16, 57, 182, 0, 169, 79, 167, 0, 91, 42, 180, 0, 25, 27, 4, 96, 42, 16, 48]
abbrev dktX3_readsPart_7 : List UInt8 := dkwX3_readsPart_7 ++ dktX3_readsPart_8
def dkwX3_readsPart_6 : List UInt8 := [180, 0, 25, 27, 4, 96, 42, 16, 49, 16, 57, 182, 0, 169, 79, 167, 0, 110, 42, 180, 0, 25, 27, 4]
abbrev dktX3_readsPart_6 : List UInt8 := dkwX3_readsPart_6 ++ dktX3_readsPart_7
def dkwX3_readsPart_5 : List UInt8 := [16, 58, 182, 0, 169, 87, 42, 180, 0, 25, 27, 6, 96, 42, 182, 0, 178, 79, 167, 0, 129, 42]
abbrev dktX3_readsPart_5 : List UInt8 := dkwX3_readsPart_5 ++ dktX3_readsPart_6
def dkwX3_readsPart_4 : List UInt8 := [87, 42, 180, 0, 25, 27, 5, 96, 42, 42, 180, 0, 25, 27, 4, 96, 46, 182, 0, 175, 79, 42, 16, 58]
abbrev dktX3_readsPart_4 : List UInt8 := dkwX3_readsPart_4 ++ dktX3_readsPart_5
def dkwX3_readsPart_3 : List UInt8 := [42, 180, 0, 25, 27, 4, 96, 42, 16, 48, 16, 51, 182, 0, 169, 79, 42, 16, 62, 16, 62, 182, 0, 169]
abbrev dktX3_readsPart_3 : List UInt8 := dkwX3_readsPart_3 ++ dktX3_readsPart_4
def dkwX3_readsPart_2 : List UInt8 := [170, 0, 0, 0, 0, 0, 1, 8, 0, 0, 0, 98, 0, 0, 0, 114, 0, 0, 0, 84, 0, 0, 0, 191, 0, 0, 0, 153, 0, 0, 1, 8, 0, 0, 1, 8, 0, 0, 0, 210, 0, 0, 1, 8, 0, 0, 1, 8, 0, 0, 1, 8, 0, 0, 1, 8, 0, 0, 0, 172, 0, 0, 1, 8, 0, 0, 1, 8, 0, 0, 1, 8, 0, 0, 1, 8, 0, 0, 0, 229, 0, 0, 0, 191]
abbrev dktX3_readsPart_2 : List UInt8 := dkwX3_readsPart_2 ++ dktX3_readsPart_3
def dkwX3_readsPart_1 : List UInt8 := [42, 180, 0, 25, 27, 5, 96, 3, 79, 42, 89, 180, 0, 159, 4, 96, 181, 0, 159, 28]
abbrev dktX3_readsPart_1 : List UInt8 := dkwX3_readsPart_1 ++ dktX3_readsPart_2
def dkwX3_readsPart_0 : List UInt8 := [7, 42, 180, 0, 172, 104, 60, 42, 182, 0, 166, 61, 42, 4, 181, 0, 162, 42, 180, 0, 25, 27, 28, 79]
abbrev dktX3_readsPart_0 : List UInt8 := dkwX3_readsPart_0 ++ dktX3_readsPart_1
theorem dksX3_readsPart_0 : cX3_readsPart.data.toList.drop 0 = dktX3_readsPart_0 := by decide +kernel
theorem dksX3_readsPart_1 : cX3_readsPart.data.toList.drop 24 = dktX3_readsPart_1 := dk_seg dksX3_readsPart_0 24 rfl rfl
theorem dksX3_readsPart_2 : cX3_readsPart.data.toList.drop 44 = dktX3_readsPart_2 := dk_seg dksX3_readsPart_1 20 rfl rfl
theorem dksX3_readsPart_3 : cX3_readsPart.data.toList.drop 128 = dktX3_readsPart_3 := dk_seg dksX3_readsPart_2 84 rfl rfl
theorem dksX3_readsPart_4 : cX3_readsPart.data.toList.drop 152 = dktX3_readsPart_4 := dk_seg dksX3_readsPart_3 24 rfl rfl
theorem dksX3_readsPart_5 : cX3_readsPart.data.toList.drop 176 = dktX3_readsPart_5 := dk_seg dksX3_readsPart_4 24 rfl rfl
theorem dksX3_readsPart_6 : cX3_readsPart.data.toList.drop 198 = dktX3_readsPart_6 := dk_seg dksX3_readsPart_5 22 rfl rfl
theorem dksX3_readsPart_7 : cX3_readsPart.data.toList.drop 222 = dktX3_readsPart_7 := dk_seg dksX3_readsPart_6 24 rfl rfl
theorem dksX3_readsPart_8 : cX3_readsPart.data.toList.drop 245 = dktX3_readsPart_8 := dk_seg dksX3_readsPart_7 23 rfl rfl
theorem dksX3_readsPart_9 : cX3_readsPart.data.toList.drop 269 = dktX3_readsPart_9 := dk_seg dksX3_readsPart_8 24 rfl rfl
theorem dksX3_readsPart_10 : cX3_readsPart.data.toList.drop 293 = dktX3_readsPart_10 := dk_seg dksX3_readsPart_9 24 rfl rfl
theorem dksX3_readsPart_11 : cX3_readsPart.data.toList.drop 315 = dktX3_readsPart_11 := dk_seg dksX3_readsPart_10 22 rfl rfl
theorem dksX3_readsPart_12 : cX3_readsPart.data.toList.drop 339 = dktX3_readsPart_12 := dk_seg dksX3_readsPart_11 24 rfl rfl
theorem dX3_readsPart_0 : decode cX3_readsPart 0 = .ok (.iconst 4, 1) := dk_7 (dk_at dksX3_readsPart_0 0 rfl rfl)
theorem dX3_readsPart_1 : decode cX3_readsPart 1 = .ok (.aload_n 0, 1) := dk_42 (dk_at dksX3_readsPart_0 1 rfl rfl)
theorem dX3_readsPart_2 : decode cX3_readsPart 2 = .ok (.getfield 172, 3) := dk_180 0 172 (dk_at dksX3_readsPart_0 2 rfl rfl)
theorem dX3_readsPart_5 : decode cX3_readsPart 5 = .ok (.imul, 1) := dk_104 (dk_at dksX3_readsPart_0 5 rfl rfl)
theorem dX3_readsPart_6 : decode cX3_readsPart 6 = .ok (.istore_n 1, 1) := dk_60 (dk_at dksX3_readsPart_0 6 rfl rfl)
theorem dX3_readsPart_7 : decode cX3_readsPart 7 = .ok (.aload_n 0, 1) := dk_42 (dk_at dksX3_readsPart_0 7 rfl rfl)
theorem dX3_readsPart_8 : decode cX3_readsPart 8 = .ok (.invokevirtual 166, 3) := dk_182 0 166 (dk_at dksX3_readsPart_0 8 rfl rfl)
theorem dX3_readsPart_11 : decode cX3_readsPart 11 = .ok (.istore_n 2, 1) := dk_61 (dk_at dksX3_readsPart_0 11 rfl rfl)
theorem dX3_readsPart_12 : decode cX3_readsPart 12 = .ok (.aload_n 0, 1) := dk_42 (dk_at dksX3_readsPart_0 12 rfl rfl)
theorem dX3_readsPart_13 : decode cX3_readsPart 13 = .ok (.iconst 1, 1) := dk_4 (dk_at dksX3_readsPart_0 13 rfl rfl)
theorem dX3_readsPart_14 : decode cX3_readsPart 14 = .ok (.putfield 162, 3) := dk_181 0 162 (dk_at dksX3_readsPart_0 14 rfl rfl)
theorem dX3_readsPart_17 : decode cX3_readsPart 17 = .ok (.aload_n 0, 1) := dk_42 (dk_at dksX3_readsPart_0 17 rfl rfl)
theorem dX3_readsPart_18 : decode cX3_readsPart 18 = .ok (.getfield 25, 3) := dk_180 0 25 (dk_at dksX3_readsPart_0 18 rfl rfl)
theorem dX3_readsPart_21 : decode cX3_readsPart 21 = .ok (.iload_n 1, 1) := dk_27 (dk_at dksX3_readsPart_0 21 rfl rfl)
theorem dX3_readsPart_22 : decode cX3_readsPart 22 = .ok (.iload_n 2, 1) := dk_28 (dk_at dksX3_readsPart_0 22 rfl rfl)
theorem dX3_readsPart_23 : decode cX3_readsPart 23 = .ok (.iastore, 1) := dk_79 (dk_at dksX3_readsPart_0 23 rfl rfl)
theorem dX3_readsPart_24 : decode cX3_readsPart 24 = .ok (.aload_n 0, 1) := dk_42 (dk_at dksX3_readsPart_1 0 rfl rfl)
theorem dX3_readsPart_25 : decode cX3_readsPart 25 = .ok (.getfield 25, 3) := dk_180 0 25 (dk_at dksX3_readsPart_1 1 rfl rfl)
theorem dX3_readsPart_28 : decode cX3_readsPart 28 = .ok (.iload_n 1, 1) := dk_27 (dk_at dksX3_readsPart_1 4 rfl rfl)
theorem dX3_readsPart_29 : decode cX3_readsPart 29 = .ok (.iconst 2, 1) := dk_5 (dk_at dksX3_readsPart_1 5 rfl rfl)
theorem dX3_readsPart_30 : decode cX3_readsPart 30 = .ok (.iadd, 1) := dk_96 (dk_at dksX3_readsPart_1 6 rfl rfl)
theorem dX3_readsPart_31 : decode cX3_readsPart 31 = .ok (.iconst 0, 1) := dk_3 (dk_at dksX3_readsPart_1 7 rfl rfl)
theorem dX3_readsPart_32 : decode cX3_readsPart 32 = .ok (.iastore, 1) := dk_79 (dk_at dksX3_readsPart_1 8 rfl rfl)
theorem dX3_readsPart_33 : decode cX3_readsPart 33 = .ok (.aload_n 0, 1) := dk_42 (dk_at dksX3_readsPart_1 9 rfl rfl)
theorem dX3_readsPart_34 : decode cX3_readsPart 34 = .ok (.dup, 1) := dk_89 (dk_at dksX3_readsPart_1 10 rfl rfl)
theorem dX3_readsPart_35 : decode cX3_readsPart 35 = .ok (.getfield 159, 3) := dk_180 0 159 (dk_at dksX3_readsPart_1 11 rfl rfl)
theorem dX3_readsPart_38 : decode cX3_readsPart 38 = .ok (.iconst 1, 1) := dk_4 (dk_at dksX3_readsPart_1 14 rfl rfl)
theorem dX3_readsPart_39 : decode cX3_readsPart 39 = .ok (.iadd, 1) := dk_96 (dk_at dksX3_readsPart_1 15 rfl rfl)
theorem dX3_readsPart_40 : decode cX3_readsPart 40 = .ok (.putfield 159, 3) := dk_181 0 159 (dk_at dksX3_readsPart_1 16 rfl rfl)
theorem dX3_readsPart_43 : decode cX3_readsPart 43 = .ok (.iload_n 2, 1) := dk_28 (dk_at dksX3_readsPart_1 19 rfl rfl)
theorem dX3_readsPart_44 : decode cX3_readsPart 44 = .ok (.tableswitch 264 98 114 #[84, 191, 153, 264, 264, 210, 264, 264, 264, 264, 172, 264, 264, 264, 264, 229, 191], 84) := by decide +kernel
theorem dX3_readsPart_128 : decode cX3_readsPart 128 = .ok (.aload_n 0, 1) := dk_42 (dk_at dksX3_readsPart_3 0 rfl rfl)
theorem dX3_readsPart_129 : decode cX3_readsPart 129 = .ok (.getfield 25, 3) := dk_180 0 25 (dk_at dksX3_readsPart_3 1 rfl rfl)
theorem dX3_readsPart_132 : decode cX3_readsPart 132 = .ok (.iload_n 1, 1) := dk_27 (dk_at dksX3_readsPart_3 4 rfl rfl)
theorem dX3_readsPart_133 : decode cX3_readsPart 133 = .ok (.iconst 1, 1) := dk_4 (dk_at dksX3_readsPart_3 5 rfl rfl)
theorem dX3_readsPart_134 : decode cX3_readsPart 134 = .ok (.iadd, 1) := dk_96 (dk_at dksX3_readsPart_3 6 rfl rfl)
theorem dX3_readsPart_135 : decode cX3_readsPart 135 = .ok (.aload_n 0, 1) := dk_42 (dk_at dksX3_readsPart_3 7 rfl rfl)
theorem dX3_readsPart_136 : decode cX3_readsPart 136 = .ok (.bipush 48, 2) := dk_16 48 (dk_at dksX3_readsPart_3 8 rfl rfl)
theorem dX3_readsPart_138 : decode cX3_readsPart 138 = .ok (.bipush 51, 2) := dk_16 51 (dk_at dksX3_readsPart_3 10 rfl rfl)
theorem dX3_readsPart_140 : decode cX3_readsPart 140 = .ok (.invokevirtual 169, 3) := dk_182 0 169 (dk_at dksX3_readsPart_3 12 rfl rfl)
theorem dX3_readsPart_143 : decode cX3_readsPart 143 = .ok (.iastore, 1) := dk_79 (dk_at dksX3_readsPart_3 15 rfl rfl)
theorem dX3_readsPart_144 : decode cX3_readsPart 144 = .ok (.aload_n 0, 1) := dk_42 (dk_at dksX3_readsPart_3 16 rfl rfl)
theorem dX3_readsPart_145 : decode cX3_readsPart 145 = .ok (.bipush 62, 2) := dk_16 62 (dk_at dksX3_readsPart_3 17 rfl rfl)
theorem dX3_readsPart_147 : decode cX3_readsPart 147 = .ok (.bipush 62, 2) := dk_16 62 (dk_at dksX3_readsPart_3 19 rfl rfl)
theorem dX3_readsPart_149 : decode cX3_readsPart 149 = .ok (.invokevirtual 169, 3) := dk_182 0 169 (dk_at dksX3_readsPart_3 21 rfl rfl)
theorem dX3_readsPart_152 : decode cX3_readsPart 152 = .ok (.pop, 1) := dk_87 (dk_at dksX3_readsPart_4 0 rfl rfl)
theorem dX3_readsPart_153 : decode cX3_readsPart 153 = .ok (.aload_n 0, 1) := dk_42 (dk_at dksX3_readsPart_4 1 rfl rfl)
theorem dX3_readsPart_154 : decode cX3_readsPart 154 = .ok (.getfield 25, 3) := dk_180 0 25 (dk_at dksX3_readsPart_4 2 rfl rfl)
theorem dX3_readsPart_157 : decode cX3_readsPart 157 = .ok (.iload_n 1, 1) := dk_27 (dk_at dksX3_readsPart_4 5 rfl rfl)
theorem dX3_readsPart_158 : decode cX3_readsPart 158 = .ok (.iconst 2, 1) := dk_5 (dk_at dksX3_readsPart_4 6 rfl rfl)
theorem dX3_readsPart_159 : decode cX3_readsPart 159 = .ok (.iadd, 1) := dk_96 (dk_at dksX3_readsPart_4 7 rfl rfl)
theorem dX3_readsPart_160 : decode cX3_readsPart 160 = .ok (.aload_n 0, 1) := dk_42 (dk_at dksX3_readsPart_4 8 rfl rfl)
theorem dX3_readsPart_161 : decode cX3_readsPart 161 = .ok (.aload_n 0, 1) := dk_42 (dk_at dksX3_readsPart_4 9 rfl rfl)
theorem dX3_readsPart_162 : decode cX3_readsPart 162 = .ok (.getfield 25, 3) := dk_180 0 25 (dk_at dksX3_readsPart_4 10 rfl rfl)
theorem dX3_readsPart_165 : decode cX3_readsPart 165 = .ok (.iload_n 1, 1) := dk_27 (dk_at dksX3_readsPart_4 13 rfl rfl)
theorem dX3_readsPart_166 : decode cX3_readsPart 166 = .ok (.iconst 1, 1) := dk_4 (dk_at dksX3_readsPart_4 14 rfl rfl)
theorem dX3_readsPart_167 : decode cX3_readsPart 167 = .ok (.iadd, 1) := dk_96 (dk_at dksX3_readsPart_4 15 rfl rfl)
theorem dX3_readsPart_168 : decode cX3_readsPart 168 = .ok (.iaload, 1) := dk_46 (dk_at dksX3_readsPart_4 16 rfl rfl)
theorem dX3_readsPart_169 : decode cX3_readsPart 169 = .ok (.invokevirtual 175, 3) := dk_182 0 175 (dk_at dksX3_readsPart_4 17 rfl rfl)
theorem dX3_readsPart_172 : decode cX3_readsPart 172 = .ok (.iastore, 1) := dk_79 (dk_at dksX3_readsPart_4 20 rfl rfl)
theorem dX3_readsPart_173 : decode cX3_readsPart 173 = .ok (.aload_n 0, 1) := dk_42 (dk_at dksX3_readsPart_4 21 rfl rfl)
theorem dX3_readsPart_174 : decode cX3_readsPart 174 = .ok (.bipush 58, 2) := dk_16 58 (dk_at dksX3_readsPart_4 22 rfl rfl)
theorem dX3_readsPart_176 : decode cX3_readsPart 176 = .ok (.bipush 58, 2) := dk_16 58 (dk_at dksX3_readsPart_5 0 rfl rfl)
theorem dX3_readsPart_178 : decode cX3_readsPart 178 = .ok (.invokevirtual 169, 3) := dk_182 0 169 (dk_at dksX3_readsPart_5 2 rfl rfl)
theorem dX3_readsPart_181 : decode cX3_readsPart 181 = .ok (.pop, 1) := dk_87 (dk_at dksX3_readsPart_5 5 rfl rfl)
theorem dX3_readsPart_182 : decode cX3_readsPart 182 = .ok (.aload_n 0, 1) := dk_42 (dk_at dksX3_readsPart_5 6 rfl rfl)
theorem dX3_readsPart_183 : decode cX3_readsPart 183 = .ok (.getfield 25, 3) := dk_180 0 25 (dk_at dksX3_readsPart_5 7 rfl rfl)
theorem dX3_readsPart_186 : decode cX3_readsPart 186 = .ok (.iload_n 1, 1) := dk_27 (dk_at dksX3_readsPart_5 10 rfl rfl)
theorem dX3_readsPart_187 : decode cX3_readsPart 187 = .ok (.iconst 3, 1) := dk_6 (dk_at dksX3_readsPart_5 11 rfl rfl)
theorem dX3_readsPart_188 : decode cX3_readsPart 188 = .ok (.iadd, 1) := dk_96 (dk_at dksX3_readsPart_5 12 rfl rfl)
theorem dX3_readsPart_189 : decode cX3_readsPart 189 = .ok (.aload_n 0, 1) := dk_42 (dk_at dksX3_readsPart_5 13 rfl rfl)
theorem dX3_readsPart_190 : decode cX3_readsPart 190 = .ok (.invokevirtual 178, 3) := dk_182 0 178 (dk_at dksX3_readsPart_5 14 rfl rfl)
theorem dX3_readsPart_193 : decode cX3_readsPart 193 = .ok (.iastore, 1) := dk_79 (dk_at dksX3_readsPart_5 17 rfl rfl)
theorem dX3_readsPart_194 : decode cX3_readsPart 194 = .ok (.goto 129, 3) := dk_167 0 129 (dk_at dksX3_readsPart_5 18 rfl rfl)
theorem dX3_readsPart_197 : decode cX3_readsPart 197 = .ok (.aload_n 0, 1) := dk_42 (dk_at dksX3_readsPart_5 21 rfl rfl)
theorem dX3_readsPart_198 : decode cX3_readsPart 198 = .ok (.getfield 25, 3) := dk_180 0 25 (dk_at dksX3_readsPart_6 0 rfl rfl)
theorem dX3_readsPart_201 : decode cX3_readsPart 201 = .ok (.iload_n 1, 1) := dk_27 (dk_at dksX3_readsPart_6 3 rfl rfl)
theorem dX3_readsPart_202 : decode cX3_readsPart 202 = .ok (.iconst 1, 1) := dk_4 (dk_at dksX3_readsPart_6 4 rfl rfl)
theorem dX3_readsPart_203 : decode cX3_readsPart 203 = .ok (.iadd, 1) := dk_96 (dk_at dksX3_readsPart_6 5 rfl rfl)
theorem dX3_readsPart_204 : decode cX3_readsPart 204 = .ok (.aload_n 0, 1) := dk_42 (dk_at dksX3_readsPart_6 6 rfl rfl)
theorem dX3_readsPart_205 : decode cX3_readsPart 205 = .ok (.bipush 49, 2) := dk_16 49 (dk_at dksX3_readsPart_6 7 rfl rfl)
theorem dX3_readsPart_207 : decode cX3_readsPart 207 = .ok (.bipush 57, 2) := dk_16 57 (dk_at dksX3_readsPart_6 9 rfl rfl)
theorem dX3_readsPart_209 : decode cX3_readsPart 209 = .ok (.invokevirtual 169, 3) := dk_182 0 169 (dk_at dksX3_readsPart_6 11 rfl rfl)
theorem dX3_readsPart_212 : decode cX3_readsPart 212 = .ok (.iastore, 1) := dk_79 (dk_at dksX3_readsPart_6 14 rfl rfl)
theorem dX3_readsPart_213 : decode cX3_readsPart 213 = .ok (.goto 110, 3) := dk_167 0 110 (dk_at dksX3_readsPart_6 15 rfl rfl)
theorem dX3_readsPart_216 : decode cX3_readsPart 216 = .ok (.aload_n 0, 1) := dk_42 (dk_at dksX3_readsPart_6 18 rfl rfl)
theorem dX3_readsPart_217 : decode cX3_readsPart 217 = .ok (.getfield 25, 3) := dk_180 0 25 (dk_at dksX3_readsPart_6 19 rfl rfl)
theorem dX3_readsPart_220 : decode cX3_readsPart 220 = .ok (.iload_n 1, 1) := dk_27 (dk_at dksX3_readsPart_6 22 rfl rfl)
theorem dX3_readsPart_221 : decode cX3_readsPart 221 = .ok (.iconst 1, 1) := dk_4 (dk_at dksX3_readsPart_6 23 rfl rfl)
theorem dX3_readsPart_222 : decode cX3_readsPart 222 = .ok (.iadd, 1) := dk_96 (dk_at dksX3_readsPart_7 0 rfl rfl)
theorem dX3_readsPart_223 : decode cX3_readsPart 223 = .ok (.aload_n 0, 1) := dk_42 (dk_at dksX3_readsPart_7 1 rfl rfl)
theorem dX3_readsPart_224 : decode cX3_readsPart 224 = .ok (.bipush 48, 2) := dk_16 48 (dk_at dksX3_readsPart_7 2 rfl rfl)
theorem dX3_readsPart_226 : decode cX3_readsPart 226 = .ok (.bipush 57, 2) := dk_16 57 (dk_at dksX3_readsPart_7 4 rfl rfl)
theorem dX3_readsPart_228 : decode cX3_readsPart 228 = .ok (.invokevirtual 169, 3) := dk_182 0 169 (dk_at dksX3_readsPart_7 6 rfl rfl)
theorem dX3_readsPart_231 : decode cX3_readsPart 231 = .ok (.iastore, 1) := dk_79 (dk_at dksX3_readsPart_7 9 rfl rfl)
theorem dX3_readsPart_232 : decode cX3_readsPart 232 = .ok (.goto 91, 3) := dk_167 0 91 (dk_at dksX3_readsPart_7 10 rfl rfl)
theorem dX3_readsPart_235 : decode cX3_readsPart 235 = .ok (.aload_n 0, 1) := dk_42 (dk_at dksX3_readsPart_7 13 rfl rfl)
theorem dX3_readsPart_236 : decode cX3_readsPart 236 = .ok (.getfield 25, 3) := dk_180 0 25 (dk_at dksX3_readsPart_7 14 rfl rfl)
theorem dX3_readsPart_239 : decode cX3_readsPart 239 = .ok (.iload_n 1, 1) := dk_27 (dk_at dksX3_readsPart_7 17 rfl rfl)
theorem dX3_readsPart_240 : decode cX3_readsPart 240 = .ok (.iconst 1, 1) := dk_4 (dk_at dksX3_readsPart_7 18 rfl rfl)
theorem dX3_readsPart_241 : decode cX3_readsPart 241 = .ok (.iadd, 1) := dk_96 (dk_at dksX3_readsPart_7 19 rfl rfl)
theorem dX3_readsPart_242 : decode cX3_readsPart 242 = .ok (.aload_n 0, 1) := dk_42 (dk_at dksX3_readsPart_7 20 rfl rfl)
theorem dX3_readsPart_243 : decode cX3_readsPart 243 = .ok (.bipush 48, 2) := dk_16 48 (dk_at dksX3_readsPart_7 21 rfl rfl)
theorem dX3_readsPart_245 : decode cX3_readsPart 245 = .ok (.bipush 52, 2) := dk_16 52 (dk_at dksX3_readsPart_8 0 rfl rfl)
theorem dX3_readsPart_247 : decode cX3_readsPart 247 = .ok (.invokevirtual 169, 3) := dk_182 0 169 (dk_at dksX3_readsPart_8 2 rfl rfl)
theorem dX3_readsPart_250 : decode cX3_readsPart 250 = .ok (.iastore, 1) := dk_79 (dk_at dksX3_readsPart_8 5 rfl rfl)
theorem dX3_readsPart_251 : decode cX3_readsPart 251 = .ok (.goto 72, 3) := dk_167 0 72 (dk_at dksX3_readsPart_8 6 rfl rfl)
theorem dX3_readsPart_254 : decode cX3_readsPart 254 = .ok (.aload_n 0, 1) := dk_42 (dk_at dksX3_readsPart_8 9 rfl rfl)
theorem dX3_readsPart_255 : decode cX3_readsPart 255 = .ok (.getfield 25, 3) := dk_180 0 25 (dk_at dksX3_readsPart_8 10 rfl rfl)
theorem dX3_readsPart_258 : decode cX3_readsPart 258 = .ok (.iload_n 1, 1) := dk_27 (dk_at dksX3_readsPart_8 13 rfl rfl)
theorem dX3_readsPart_259 : decode cX3_readsPart 259 = .ok (.iconst 1, 1) := dk_4 (dk_at dksX3_readsPart_8 14 rfl rfl)
theorem dX3_readsPart_260 : decode cX3_readsPart 260 = .ok (.iadd, 1) := dk_96 (dk_at dksX3_readsPart_8 15 rfl rfl)
theorem dX3_readsPart_261 : decode cX3_readsPart 261 = .ok (.aload_n 0, 1) := dk_42 (dk_at dksX3_readsPart_8 16 rfl rfl)
theorem dX3_readsPart_262 : decode cX3_readsPart 262 = .ok (.bipush 48, 2) := dk_16 48 (dk_at dksX3_readsPart_8 17 rfl rfl)
theorem dX3_readsPart_264 : decode cX3_readsPart 264 = .ok (.bipush 55, 2) := dk_16 55 (dk_at dksX3_readsPart_8 19 rfl rfl)
theorem dX3_readsPart_266 : decode cX3_readsPart 266 = .ok (.invokevirtual 169, 3) := dk_182 0 169 (dk_at dksX3_readsPart_8 21 rfl rfl)
theorem dX3_readsPart_269 : decode cX3_readsPart 269 = .ok (.iastore, 1) := dk_79 (dk_at dksX3_readsPart_9 0 rfl rfl)
theorem dX3_readsPart_270 : decode cX3_readsPart 270 = .ok (.goto 53, 3) := dk_167 0 53 (dk_at dksX3_readsPart_9 1 rfl rfl)
theorem dX3_readsPart_273 : decode cX3_readsPart 273 = .ok (.aload_n 0, 1) := dk_42 (dk_at dksX3_readsPart_9 4 rfl rfl)
theorem dX3_readsPart_274 : decode cX3_readsPart 274 = .ok (.getfield 25, 3) := dk_180 0 25 (dk_at dksX3_readsPart_9 5 rfl rfl)
theorem dX3_readsPart_277 : decode cX3_readsPart 277 = .ok (.iload_n 1, 1) := dk_27 (dk_at dksX3_readsPart_9 8 rfl rfl)
theorem dX3_readsPart_278 : decode cX3_readsPart 278 = .ok (.iconst 1, 1) := dk_4 (dk_at dksX3_readsPart_9 9 rfl rfl)
theorem dX3_readsPart_279 : decode cX3_readsPart 279 = .ok (.iadd, 1) := dk_96 (dk_at dksX3_readsPart_9 10 rfl rfl)
theorem dX3_readsPart_280 : decode cX3_readsPart 280 = .ok (.aload_n 0, 1) := dk_42 (dk_at dksX3_readsPart_9 11 rfl rfl)
theorem dX3_readsPart_281 : decode cX3_readsPart 281 = .ok (.bipush 48, 2) := dk_16 48 (dk_at dksX3_readsPart_9 12 rfl rfl)
theorem dX3_readsPart_283 : decode cX3_readsPart 283 = .ok (.bipush 51, 2) := dk_16 51 (dk_at dksX3_readsPart_9 14 rfl rfl)
theorem dX3_readsPart_285 : decode cX3_readsPart 285 = .ok (.invokevirtual 169, 3) := dk_182 0 169 (dk_at dksX3_readsPart_9 16 rfl rfl)
theorem dX3_readsPart_288 : decode cX3_readsPart 288 = .ok (.iastore, 1) := dk_79 (dk_at dksX3_readsPart_9 19 rfl rfl)
theorem dX3_readsPart_289 : decode cX3_readsPart 289 = .ok (.aload_n 0, 1) := dk_42 (dk_at dksX3_readsPart_9 20 rfl rfl)
theorem dX3_readsPart_290 : decode cX3_readsPart 290 = .ok (.getfield 25, 3) := dk_180 0 25 (dk_at dksX3_readsPart_9 21 rfl rfl)
theorem dX3_readsPart_293 : decode cX3_readsPart 293 = .ok (.iload_n 1, 1) := dk_27 (dk_at dksX3_readsPart_10 0 rfl rfl)
theorem dX3_readsPart_294 : decode cX3_readsPart 294 = .ok (.iconst 2, 1) := dk_5 (dk_at dksX3_readsPart_10 1 rfl rfl)
theorem dX3_readsPart_295 : decode cX3_readsPart 295 = .ok (.iadd, 1) := dk_96 (dk_at dksX3_readsPart_10 2 rfl rfl)
theorem dX3_readsPart_296 : decode cX3_readsPart 296 = .ok (.aload_n 0, 1) := dk_42 (dk_at dksX3_readsPart_10 3 rfl rfl)
theorem dX3_readsPart_297 : decode cX3_readsPart 297 = .ok (.bipush 48, 2) := dk_16 48 (dk_at dksX3_readsPart_10 4 rfl rfl)
theorem dX3_readsPart_299 : decode cX3_readsPart 299 = .ok (.bipush 55, 2) := dk_16 55 (dk_at dksX3_readsPart_10 6 rfl rfl)
theorem dX3_readsPart_301 : decode cX3_readsPart 301 = .ok (.invokevirtual 169, 3) := dk_182 0 169 (dk_at dksX3_readsPart_10 8 rfl rfl)
theorem dX3_readsPart_304 : decode cX3_readsPart 304 = .ok (.iastore, 1) := dk_79 (dk_at dksX3_readsPart_10 11 rfl rfl)
theorem dX3_readsPart_305 : decode cX3_readsPart 305 = .ok (.goto 18, 3) := dk_167 0 18 (dk_at dksX3_readsPart_10 12 rfl rfl)
theorem dX3_readsPart_308 : decode cX3_readsPart 308 = .ok (.aload_n 0, 1) := dk_42 (dk_at dksX3_readsPart_10 15 rfl rfl)
theorem dX3_readsPart_309 : decode cX3_readsPart 309 = .ok (.dup, 1) := dk_89 (dk_at dksX3_readsPart_10 16 rfl rfl)
theorem dX3_readsPart_310 : decode cX3_readsPart 310 = .ok (.getfield 159, 3) := dk_180 0 159 (dk_at dksX3_readsPart_10 17 rfl rfl)
theorem dX3_readsPart_313 : decode cX3_readsPart 313 = .ok (.iconst 1, 1) := dk_4 (dk_at dksX3_readsPart_10 20 rfl rfl)
theorem dX3_readsPart_314 : decode cX3_readsPart 314 = .ok (.isub, 1) := dk_100 (dk_at dksX3_readsPart_10 21 rfl rfl)
theorem dX3_readsPart_315 : decode cX3_readsPart 315 = .ok (.putfield 159, 3) := dk_181 0 159 (dk_at dksX3_readsPart_11 0 rfl rfl)
theorem dX3_readsPart_318 : decode cX3_readsPart 318 = .ok (.aload_n 0, 1) := dk_42 (dk_at dksX3_readsPart_11 3 rfl rfl)
theorem dX3_readsPart_319 : decode cX3_readsPart 319 = .ok (.iconst 0, 1) := dk_3 (dk_at dksX3_readsPart_11 4 rfl rfl)
theorem dX3_readsPart_320 : decode cX3_readsPart 320 = .ok (.putfield 162, 3) := dk_181 0 162 (dk_at dksX3_readsPart_11 5 rfl rfl)
theorem dX3_readsPart_323 : decode cX3_readsPart 323 = .ok (.aload_n 0, 1) := dk_42 (dk_at dksX3_readsPart_11 8 rfl rfl)
theorem dX3_readsPart_324 : decode cX3_readsPart 324 = .ok (.dup, 1) := dk_89 (dk_at dksX3_readsPart_11 9 rfl rfl)
theorem dX3_readsPart_325 : decode cX3_readsPart 325 = .ok (.getfield 172, 3) := dk_180 0 172 (dk_at dksX3_readsPart_11 10 rfl rfl)
theorem dX3_readsPart_328 : decode cX3_readsPart 328 = .ok (.aload_n 0, 1) := dk_42 (dk_at dksX3_readsPart_11 13 rfl rfl)
theorem dX3_readsPart_329 : decode cX3_readsPart 329 = .ok (.getfield 162, 3) := dk_180 0 162 (dk_at dksX3_readsPart_11 14 rfl rfl)
theorem dX3_readsPart_332 : decode cX3_readsPart 332 = .ok (.ifCond .eq 7, 3) := dk_153 0 7 (dk_at dksX3_readsPart_11 17 rfl rfl)
theorem dX3_readsPart_335 : decode cX3_readsPart 335 = .ok (.iconst 1, 1) := dk_4 (dk_at dksX3_readsPart_11 20 rfl rfl)
theorem dX3_readsPart_336 : decode cX3_readsPart 336 = .ok (.goto 4, 3) := dk_167 0 4 (dk_at dksX3_readsPart_11 21 rfl rfl)
theorem dX3_readsPart_339 : decode cX3_readsPart 339 = .ok (.iconst 0, 1) := dk_3 (dk_at dksX3_readsPart_12 0 rfl rfl)
theorem dX3_readsPart_340 : decode cX3_readsPart 340 = .ok (.iadd, 1) := dk_96 (dk_at dksX3_readsPart_12 1 rfl rfl)
theorem dX3_readsPart_341 : decode cX3_readsPart 341 = .ok (.putfield 172, 3) := dk_181 0 172 (dk_at dksX3_readsPart_12 2 rfl rfl)
theorem dX3_readsPart_344 : decode cX3_readsPart 344 = .ok (.return_, 1) := dk_177 (dk_at dksX3_readsPart_12 5 rfl rfl)
abbrev cX3_sign : ByteArray := prog_19_method_51_code
def yX3_sign : MethodName := ⟨RX3, "sign", "()I"⟩
def dkwX3_sign_1 : List UInt8 := [172]
abbrev dktX3_sign_1 : List UInt8 := dkwX3_sign_1 ++ []
def dkwX3_sign_0 : List UInt8 := [42, 180, 0, 159, 42, 180, 0, 156, 162, 0, 15, 42, 180, 0, 22, 42, 180, 0, 159, 46, 167, 0, 4, 3]
abbrev dktX3_sign_0 : List UInt8 := dkwX3_sign_0 ++ dktX3_sign_1
theorem dksX3_sign_0 : cX3_sign.data.toList.drop 0 = dktX3_sign_0 := by decide +kernel
theorem dksX3_sign_1 : cX3_sign.data.toList.drop 24 = dktX3_sign_1 := dk_seg dksX3_sign_0 24 rfl rfl
theorem dX3_sign_0 : decode cX3_sign 0 = .ok (.aload_n 0, 1) := dk_42 (dk_at dksX3_sign_0 0 rfl rfl)
theorem dX3_sign_1 : decode cX3_sign 1 = .ok (.getfield 159, 3) := dk_180 0 159 (dk_at dksX3_sign_0 1 rfl rfl)
theorem dX3_sign_4 : decode cX3_sign 4 = .ok (.aload_n 0, 1) := dk_42 (dk_at dksX3_sign_0 4 rfl rfl)
theorem dX3_sign_5 : decode cX3_sign 5 = .ok (.getfield 156, 3) := dk_180 0 156 (dk_at dksX3_sign_0 5 rfl rfl)
theorem dX3_sign_8 : decode cX3_sign 8 = .ok (.if_icmp .ge 15, 3) := dk_162 0 15 (dk_at dksX3_sign_0 8 rfl rfl)
theorem dX3_sign_11 : decode cX3_sign 11 = .ok (.aload_n 0, 1) := dk_42 (dk_at dksX3_sign_0 11 rfl rfl)
theorem dX3_sign_12 : decode cX3_sign 12 = .ok (.getfield 22, 3) := dk_180 0 22 (dk_at dksX3_sign_0 12 rfl rfl)
theorem dX3_sign_15 : decode cX3_sign 15 = .ok (.aload_n 0, 1) := dk_42 (dk_at dksX3_sign_0 15 rfl rfl)
theorem dX3_sign_16 : decode cX3_sign 16 = .ok (.getfield 159, 3) := dk_180 0 159 (dk_at dksX3_sign_0 16 rfl rfl)
theorem dX3_sign_19 : decode cX3_sign 19 = .ok (.iaload, 1) := dk_46 (dk_at dksX3_sign_0 19 rfl rfl)
theorem dX3_sign_20 : decode cX3_sign 20 = .ok (.goto 4, 3) := dk_167 0 4 (dk_at dksX3_sign_0 20 rfl rfl)
theorem dX3_sign_23 : decode cX3_sign 23 = .ok (.iconst 0, 1) := dk_3 (dk_at dksX3_sign_0 23 rfl rfl)
theorem dX3_sign_24 : decode cX3_sign 24 = .ok (.ireturn, 1) := dk_172 (dk_at dksX3_sign_1 0 rfl rfl)
abbrev cX3_reads : ByteArray := prog_19_method_52_code
def yX3_reads : MethodName := ⟨RX3, "reads", "(II)I"⟩
def dkwX3_reads_2 : List UInt8 := [4, 167, 0, 4, 3, 96, 181, 0, 159, 29, 172]
abbrev dktX3_reads_2 : List UInt8 := dkwX3_reads_2 ++ []
def dkwX3_reads_1 : List UInt8 := [3, 181, 0, 162, 42, 182, 0, 166, 16, 48, 100, 62, 42, 89, 180, 0, 159, 42, 180, 0, 162, 153, 0, 7]
abbrev dktX3_reads_1 : List UInt8 := dkwX3_reads_1 ++ dktX3_reads_2
def dkwX3_reads_0 : List UInt8 := [42, 42, 180, 0, 162, 153, 0, 19, 42, 182, 0, 166, 27, 28, 184, 0, 32, 153, 0, 7, 4, 167, 0, 4]
abbrev dktX3_reads_0 : List UInt8 := dkwX3_reads_0 ++ dktX3_reads_1
theorem dksX3_reads_0 : cX3_reads.data.toList.drop 0 = dktX3_reads_0 := by decide +kernel
theorem dksX3_reads_1 : cX3_reads.data.toList.drop 24 = dktX3_reads_1 := dk_seg dksX3_reads_0 24 rfl rfl
theorem dksX3_reads_2 : cX3_reads.data.toList.drop 48 = dktX3_reads_2 := dk_seg dksX3_reads_1 24 rfl rfl
theorem dX3_reads_0 : decode cX3_reads 0 = .ok (.aload_n 0, 1) := dk_42 (dk_at dksX3_reads_0 0 rfl rfl)
theorem dX3_reads_1 : decode cX3_reads 1 = .ok (.aload_n 0, 1) := dk_42 (dk_at dksX3_reads_0 1 rfl rfl)
theorem dX3_reads_2 : decode cX3_reads 2 = .ok (.getfield 162, 3) := dk_180 0 162 (dk_at dksX3_reads_0 2 rfl rfl)
theorem dX3_reads_5 : decode cX3_reads 5 = .ok (.ifCond .eq 19, 3) := dk_153 0 19 (dk_at dksX3_reads_0 5 rfl rfl)
theorem dX3_reads_8 : decode cX3_reads 8 = .ok (.aload_n 0, 1) := dk_42 (dk_at dksX3_reads_0 8 rfl rfl)
theorem dX3_reads_9 : decode cX3_reads 9 = .ok (.invokevirtual 166, 3) := dk_182 0 166 (dk_at dksX3_reads_0 9 rfl rfl)
theorem dX3_reads_12 : decode cX3_reads 12 = .ok (.iload_n 1, 1) := dk_27 (dk_at dksX3_reads_0 12 rfl rfl)
theorem dX3_reads_13 : decode cX3_reads 13 = .ok (.iload_n 2, 1) := dk_28 (dk_at dksX3_reads_0 13 rfl rfl)
theorem dX3_reads_14 : decode cX3_reads 14 = .ok (.invokestatic 32, 3) := dk_184 0 32 (dk_at dksX3_reads_0 14 rfl rfl)
theorem dX3_reads_17 : decode cX3_reads 17 = .ok (.ifCond .eq 7, 3) := dk_153 0 7 (dk_at dksX3_reads_0 17 rfl rfl)
theorem dX3_reads_20 : decode cX3_reads 20 = .ok (.iconst 1, 1) := dk_4 (dk_at dksX3_reads_0 20 rfl rfl)
theorem dX3_reads_21 : decode cX3_reads 21 = .ok (.goto 4, 3) := dk_167 0 4 (dk_at dksX3_reads_0 21 rfl rfl)
theorem dX3_reads_24 : decode cX3_reads 24 = .ok (.iconst 0, 1) := dk_3 (dk_at dksX3_reads_1 0 rfl rfl)
theorem dX3_reads_25 : decode cX3_reads 25 = .ok (.putfield 162, 3) := dk_181 0 162 (dk_at dksX3_reads_1 1 rfl rfl)
theorem dX3_reads_28 : decode cX3_reads 28 = .ok (.aload_n 0, 1) := dk_42 (dk_at dksX3_reads_1 4 rfl rfl)
theorem dX3_reads_29 : decode cX3_reads 29 = .ok (.invokevirtual 166, 3) := dk_182 0 166 (dk_at dksX3_reads_1 5 rfl rfl)
theorem dX3_reads_32 : decode cX3_reads 32 = .ok (.bipush 48, 2) := dk_16 48 (dk_at dksX3_reads_1 8 rfl rfl)
theorem dX3_reads_34 : decode cX3_reads 34 = .ok (.isub, 1) := dk_100 (dk_at dksX3_reads_1 10 rfl rfl)
theorem dX3_reads_35 : decode cX3_reads 35 = .ok (.istore_n 3, 1) := dk_62 (dk_at dksX3_reads_1 11 rfl rfl)
theorem dX3_reads_36 : decode cX3_reads 36 = .ok (.aload_n 0, 1) := dk_42 (dk_at dksX3_reads_1 12 rfl rfl)
theorem dX3_reads_37 : decode cX3_reads 37 = .ok (.dup, 1) := dk_89 (dk_at dksX3_reads_1 13 rfl rfl)
theorem dX3_reads_38 : decode cX3_reads 38 = .ok (.getfield 159, 3) := dk_180 0 159 (dk_at dksX3_reads_1 14 rfl rfl)
theorem dX3_reads_41 : decode cX3_reads 41 = .ok (.aload_n 0, 1) := dk_42 (dk_at dksX3_reads_1 17 rfl rfl)
theorem dX3_reads_42 : decode cX3_reads 42 = .ok (.getfield 162, 3) := dk_180 0 162 (dk_at dksX3_reads_1 18 rfl rfl)
theorem dX3_reads_45 : decode cX3_reads 45 = .ok (.ifCond .eq 7, 3) := dk_153 0 7 (dk_at dksX3_reads_1 21 rfl rfl)
theorem dX3_reads_48 : decode cX3_reads 48 = .ok (.iconst 1, 1) := dk_4 (dk_at dksX3_reads_2 0 rfl rfl)
theorem dX3_reads_49 : decode cX3_reads 49 = .ok (.goto 4, 3) := dk_167 0 4 (dk_at dksX3_reads_2 1 rfl rfl)
theorem dX3_reads_52 : decode cX3_reads 52 = .ok (.iconst 0, 1) := dk_3 (dk_at dksX3_reads_2 4 rfl rfl)
theorem dX3_reads_53 : decode cX3_reads 53 = .ok (.iadd, 1) := dk_96 (dk_at dksX3_reads_2 5 rfl rfl)
theorem dX3_reads_54 : decode cX3_reads 54 = .ok (.putfield 159, 3) := dk_181 0 159 (dk_at dksX3_reads_2 6 rfl rfl)
theorem dX3_reads_57 : decode cX3_reads 57 = .ok (.iload_n 3, 1) := dk_29 (dk_at dksX3_reads_2 9 rfl rfl)
theorem dX3_reads_58 : decode cX3_reads 58 = .ok (.ireturn, 1) := dk_172 (dk_at dksX3_reads_2 10 rfl rfl)
abbrev cX3_readsStores : ByteArray := prog_19_method_53_code
def yX3_readsStores : MethodName := ⟨RX3, "readsStores", "(I)I"⟩
def dkwX3_readsStores_4 : List UInt8 := [167, 0, 4, 3, 181, 0, 162, 28, 172]
abbrev dktX3_readsStores_4 : List UInt8 := dkwX3_readsStores_4 ++ []
def dkwX3_readsStores_3 : List UInt8 := [180, 0, 159, 4, 96, 181, 0, 159, 167, 255, 188, 42, 42, 180, 0, 162, 153, 0, 11, 28, 153, 0, 7, 4]
abbrev dktX3_readsStores_3 : List UInt8 := dkwX3_readsStores_3 ++ dktX3_readsStores_4
def dkwX3_readsStores_2 : List UInt8 := [54, 4, 21, 4, 153, 0, 28, 28, 4, 21, 5, 16, 48, 100, 120, 128, 61, 21, 5, 4, 96, 62, 42, 89]
abbrev dktX3_readsStores_2 : List UInt8 := dkwX3_readsStores_2 ++ dktX3_readsStores_3
def dkwX3_readsStores_1 : List UInt8 := [29, 16, 51, 184, 0, 32, 153, 0, 16, 21, 5, 16, 48, 100, 27, 159, 0, 7, 4, 167, 0, 4, 3]
abbrev dktX3_readsStores_1 : List UInt8 := dkwX3_readsStores_1 ++ dktX3_readsStores_2
def dkwX3_readsStores_0 : List UInt8 := [3, 61, 16, 48, 62, 42, 180, 0, 162, 54, 4, 21, 4, 153, 0, 69, 42, 182, 0, 166, 54, 5, 21, 5]
abbrev dktX3_readsStores_0 : List UInt8 := dkwX3_readsStores_0 ++ dktX3_readsStores_1
theorem dksX3_readsStores_0 : cX3_readsStores.data.toList.drop 0 = dktX3_readsStores_0 := by decide +kernel
theorem dksX3_readsStores_1 : cX3_readsStores.data.toList.drop 24 = dktX3_readsStores_1 := dk_seg dksX3_readsStores_0 24 rfl rfl
theorem dksX3_readsStores_2 : cX3_readsStores.data.toList.drop 47 = dktX3_readsStores_2 := dk_seg dksX3_readsStores_1 23 rfl rfl
theorem dksX3_readsStores_3 : cX3_readsStores.data.toList.drop 71 = dktX3_readsStores_3 := dk_seg dksX3_readsStores_2 24 rfl rfl
theorem dksX3_readsStores_4 : cX3_readsStores.data.toList.drop 95 = dktX3_readsStores_4 := dk_seg dksX3_readsStores_3 24 rfl rfl
theorem dX3_readsStores_0 : decode cX3_readsStores 0 = .ok (.iconst 0, 1) := dk_3 (dk_at dksX3_readsStores_0 0 rfl rfl)
theorem dX3_readsStores_1 : decode cX3_readsStores 1 = .ok (.istore_n 2, 1) := dk_61 (dk_at dksX3_readsStores_0 1 rfl rfl)
theorem dX3_readsStores_2 : decode cX3_readsStores 2 = .ok (.bipush 48, 2) := dk_16 48 (dk_at dksX3_readsStores_0 2 rfl rfl)
theorem dX3_readsStores_4 : decode cX3_readsStores 4 = .ok (.istore_n 3, 1) := dk_62 (dk_at dksX3_readsStores_0 4 rfl rfl)
theorem dX3_readsStores_5 : decode cX3_readsStores 5 = .ok (.aload_n 0, 1) := dk_42 (dk_at dksX3_readsStores_0 5 rfl rfl)
theorem dX3_readsStores_6 : decode cX3_readsStores 6 = .ok (.getfield 162, 3) := dk_180 0 162 (dk_at dksX3_readsStores_0 6 rfl rfl)
theorem dX3_readsStores_9 : decode cX3_readsStores 9 = .ok (.istore 4, 2) := dk_54 4 (dk_at dksX3_readsStores_0 9 rfl rfl)
theorem dX3_readsStores_11 : decode cX3_readsStores 11 = .ok (.iload 4, 2) := dk_21 4 (dk_at dksX3_readsStores_0 11 rfl rfl)
theorem dX3_readsStores_13 : decode cX3_readsStores 13 = .ok (.ifCond .eq 69, 3) := dk_153 0 69 (dk_at dksX3_readsStores_0 13 rfl rfl)
theorem dX3_readsStores_16 : decode cX3_readsStores 16 = .ok (.aload_n 0, 1) := dk_42 (dk_at dksX3_readsStores_0 16 rfl rfl)
theorem dX3_readsStores_17 : decode cX3_readsStores 17 = .ok (.invokevirtual 166, 3) := dk_182 0 166 (dk_at dksX3_readsStores_0 17 rfl rfl)
theorem dX3_readsStores_20 : decode cX3_readsStores 20 = .ok (.istore 5, 2) := dk_54 5 (dk_at dksX3_readsStores_0 20 rfl rfl)
theorem dX3_readsStores_22 : decode cX3_readsStores 22 = .ok (.iload 5, 2) := dk_21 5 (dk_at dksX3_readsStores_0 22 rfl rfl)
theorem dX3_readsStores_24 : decode cX3_readsStores 24 = .ok (.iload_n 3, 1) := dk_29 (dk_at dksX3_readsStores_1 0 rfl rfl)
theorem dX3_readsStores_25 : decode cX3_readsStores 25 = .ok (.bipush 51, 2) := dk_16 51 (dk_at dksX3_readsStores_1 1 rfl rfl)
theorem dX3_readsStores_27 : decode cX3_readsStores 27 = .ok (.invokestatic 32, 3) := dk_184 0 32 (dk_at dksX3_readsStores_1 3 rfl rfl)
theorem dX3_readsStores_30 : decode cX3_readsStores 30 = .ok (.ifCond .eq 16, 3) := dk_153 0 16 (dk_at dksX3_readsStores_1 6 rfl rfl)
theorem dX3_readsStores_33 : decode cX3_readsStores 33 = .ok (.iload 5, 2) := dk_21 5 (dk_at dksX3_readsStores_1 9 rfl rfl)
theorem dX3_readsStores_35 : decode cX3_readsStores 35 = .ok (.bipush 48, 2) := dk_16 48 (dk_at dksX3_readsStores_1 11 rfl rfl)
theorem dX3_readsStores_37 : decode cX3_readsStores 37 = .ok (.isub, 1) := dk_100 (dk_at dksX3_readsStores_1 13 rfl rfl)
theorem dX3_readsStores_38 : decode cX3_readsStores 38 = .ok (.iload_n 1, 1) := dk_27 (dk_at dksX3_readsStores_1 14 rfl rfl)
theorem dX3_readsStores_39 : decode cX3_readsStores 39 = .ok (.if_icmp .eq 7, 3) := dk_159 0 7 (dk_at dksX3_readsStores_1 15 rfl rfl)
theorem dX3_readsStores_42 : decode cX3_readsStores 42 = .ok (.iconst 1, 1) := dk_4 (dk_at dksX3_readsStores_1 18 rfl rfl)
theorem dX3_readsStores_43 : decode cX3_readsStores 43 = .ok (.goto 4, 3) := dk_167 0 4 (dk_at dksX3_readsStores_1 19 rfl rfl)
theorem dX3_readsStores_46 : decode cX3_readsStores 46 = .ok (.iconst 0, 1) := dk_3 (dk_at dksX3_readsStores_1 22 rfl rfl)
theorem dX3_readsStores_47 : decode cX3_readsStores 47 = .ok (.istore 4, 2) := dk_54 4 (dk_at dksX3_readsStores_2 0 rfl rfl)
theorem dX3_readsStores_49 : decode cX3_readsStores 49 = .ok (.iload 4, 2) := dk_21 4 (dk_at dksX3_readsStores_2 2 rfl rfl)
theorem dX3_readsStores_51 : decode cX3_readsStores 51 = .ok (.ifCond .eq 28, 3) := dk_153 0 28 (dk_at dksX3_readsStores_2 4 rfl rfl)
theorem dX3_readsStores_54 : decode cX3_readsStores 54 = .ok (.iload_n 2, 1) := dk_28 (dk_at dksX3_readsStores_2 7 rfl rfl)
theorem dX3_readsStores_55 : decode cX3_readsStores 55 = .ok (.iconst 1, 1) := dk_4 (dk_at dksX3_readsStores_2 8 rfl rfl)
theorem dX3_readsStores_56 : decode cX3_readsStores 56 = .ok (.iload 5, 2) := dk_21 5 (dk_at dksX3_readsStores_2 9 rfl rfl)
theorem dX3_readsStores_58 : decode cX3_readsStores 58 = .ok (.bipush 48, 2) := dk_16 48 (dk_at dksX3_readsStores_2 11 rfl rfl)
theorem dX3_readsStores_60 : decode cX3_readsStores 60 = .ok (.isub, 1) := dk_100 (dk_at dksX3_readsStores_2 13 rfl rfl)
theorem dX3_readsStores_61 : decode cX3_readsStores 61 = .ok (.ishl, 1) := dk_120 (dk_at dksX3_readsStores_2 14 rfl rfl)
theorem dX3_readsStores_62 : decode cX3_readsStores 62 = .ok (.ior, 1) := dk_128 (dk_at dksX3_readsStores_2 15 rfl rfl)
theorem dX3_readsStores_63 : decode cX3_readsStores 63 = .ok (.istore_n 2, 1) := dk_61 (dk_at dksX3_readsStores_2 16 rfl rfl)
theorem dX3_readsStores_64 : decode cX3_readsStores 64 = .ok (.iload 5, 2) := dk_21 5 (dk_at dksX3_readsStores_2 17 rfl rfl)
theorem dX3_readsStores_66 : decode cX3_readsStores 66 = .ok (.iconst 1, 1) := dk_4 (dk_at dksX3_readsStores_2 19 rfl rfl)
theorem dX3_readsStores_67 : decode cX3_readsStores 67 = .ok (.iadd, 1) := dk_96 (dk_at dksX3_readsStores_2 20 rfl rfl)
theorem dX3_readsStores_68 : decode cX3_readsStores 68 = .ok (.istore_n 3, 1) := dk_62 (dk_at dksX3_readsStores_2 21 rfl rfl)
theorem dX3_readsStores_69 : decode cX3_readsStores 69 = .ok (.aload_n 0, 1) := dk_42 (dk_at dksX3_readsStores_2 22 rfl rfl)
theorem dX3_readsStores_70 : decode cX3_readsStores 70 = .ok (.dup, 1) := dk_89 (dk_at dksX3_readsStores_2 23 rfl rfl)
theorem dX3_readsStores_71 : decode cX3_readsStores 71 = .ok (.getfield 159, 3) := dk_180 0 159 (dk_at dksX3_readsStores_3 0 rfl rfl)
theorem dX3_readsStores_74 : decode cX3_readsStores 74 = .ok (.iconst 1, 1) := dk_4 (dk_at dksX3_readsStores_3 3 rfl rfl)
theorem dX3_readsStores_75 : decode cX3_readsStores 75 = .ok (.iadd, 1) := dk_96 (dk_at dksX3_readsStores_3 4 rfl rfl)
theorem dX3_readsStores_76 : decode cX3_readsStores 76 = .ok (.putfield 159, 3) := dk_181 0 159 (dk_at dksX3_readsStores_3 5 rfl rfl)
theorem dX3_readsStores_79 : decode cX3_readsStores 79 = .ok (.goto (-68), 3) := dk_167 255 188 (dk_at dksX3_readsStores_3 8 rfl rfl)
theorem dX3_readsStores_82 : decode cX3_readsStores 82 = .ok (.aload_n 0, 1) := dk_42 (dk_at dksX3_readsStores_3 11 rfl rfl)
theorem dX3_readsStores_83 : decode cX3_readsStores 83 = .ok (.aload_n 0, 1) := dk_42 (dk_at dksX3_readsStores_3 12 rfl rfl)
theorem dX3_readsStores_84 : decode cX3_readsStores 84 = .ok (.getfield 162, 3) := dk_180 0 162 (dk_at dksX3_readsStores_3 13 rfl rfl)
theorem dX3_readsStores_87 : decode cX3_readsStores 87 = .ok (.ifCond .eq 11, 3) := dk_153 0 11 (dk_at dksX3_readsStores_3 16 rfl rfl)
theorem dX3_readsStores_90 : decode cX3_readsStores 90 = .ok (.iload_n 2, 1) := dk_28 (dk_at dksX3_readsStores_3 19 rfl rfl)
theorem dX3_readsStores_91 : decode cX3_readsStores 91 = .ok (.ifCond .eq 7, 3) := dk_153 0 7 (dk_at dksX3_readsStores_3 20 rfl rfl)
theorem dX3_readsStores_94 : decode cX3_readsStores 94 = .ok (.iconst 1, 1) := dk_4 (dk_at dksX3_readsStores_3 23 rfl rfl)
theorem dX3_readsStores_95 : decode cX3_readsStores 95 = .ok (.goto 4, 3) := dk_167 0 4 (dk_at dksX3_readsStores_4 0 rfl rfl)
theorem dX3_readsStores_98 : decode cX3_readsStores 98 = .ok (.iconst 0, 1) := dk_3 (dk_at dksX3_readsStores_4 3 rfl rfl)
theorem dX3_readsStores_99 : decode cX3_readsStores 99 = .ok (.putfield 162, 3) := dk_181 0 162 (dk_at dksX3_readsStores_4 4 rfl rfl)
theorem dX3_readsStores_102 : decode cX3_readsStores 102 = .ok (.iload_n 2, 1) := dk_28 (dk_at dksX3_readsStores_4 7 rfl rfl)
theorem dX3_readsStores_103 : decode cX3_readsStores 103 = .ok (.ireturn, 1) := dk_172 (dk_at dksX3_readsStores_4 8 rfl rfl)
abbrev cX3_readsSize : ByteArray := prog_19_method_54_code
def yX3_readsSize : MethodName := ⟨RX3, "readsSize", "()I"⟩
def dkwX3_readsSize_3 : List UInt8 := [172]
abbrev dktX3_readsSize_3 : List UInt8 := dkwX3_readsSize_3 ++ []
def dkwX3_readsSize_2 : List UInt8 := [16, 10, 27, 104, 42, 182, 0, 166, 96, 16, 48, 100, 60, 42, 89, 180, 0, 159, 4, 96, 181, 0, 159, 27]
abbrev dktX3_readsSize_2 : List UInt8 := dkwX3_readsSize_2 ++ dktX3_readsSize_3
def dkwX3_readsSize_1 : List UInt8 := [184, 0, 32, 153, 0, 43, 16, 10, 27, 104, 42, 182, 0, 166, 96, 16, 48, 100, 16, 50, 163, 0, 26]
abbrev dktX3_readsSize_1 : List UInt8 := dkwX3_readsSize_1 ++ dktX3_readsSize_2
def dkwX3_readsSize_0 : List UInt8 := [42, 16, 49, 16, 57, 182, 0, 169, 60, 42, 180, 0, 162, 153, 0, 57, 42, 182, 0, 166, 16, 48, 16, 57]
abbrev dktX3_readsSize_0 : List UInt8 := dkwX3_readsSize_0 ++ dktX3_readsSize_1
theorem dksX3_readsSize_0 : cX3_readsSize.data.toList.drop 0 = dktX3_readsSize_0 := by decide +kernel
theorem dksX3_readsSize_1 : cX3_readsSize.data.toList.drop 24 = dktX3_readsSize_1 := dk_seg dksX3_readsSize_0 24 rfl rfl
theorem dksX3_readsSize_2 : cX3_readsSize.data.toList.drop 47 = dktX3_readsSize_2 := dk_seg dksX3_readsSize_1 23 rfl rfl
theorem dksX3_readsSize_3 : cX3_readsSize.data.toList.drop 71 = dktX3_readsSize_3 := dk_seg dksX3_readsSize_2 24 rfl rfl
theorem dX3_readsSize_0 : decode cX3_readsSize 0 = .ok (.aload_n 0, 1) := dk_42 (dk_at dksX3_readsSize_0 0 rfl rfl)
theorem dX3_readsSize_1 : decode cX3_readsSize 1 = .ok (.bipush 49, 2) := dk_16 49 (dk_at dksX3_readsSize_0 1 rfl rfl)
theorem dX3_readsSize_3 : decode cX3_readsSize 3 = .ok (.bipush 57, 2) := dk_16 57 (dk_at dksX3_readsSize_0 3 rfl rfl)
theorem dX3_readsSize_5 : decode cX3_readsSize 5 = .ok (.invokevirtual 169, 3) := dk_182 0 169 (dk_at dksX3_readsSize_0 5 rfl rfl)
theorem dX3_readsSize_8 : decode cX3_readsSize 8 = .ok (.istore_n 1, 1) := dk_60 (dk_at dksX3_readsSize_0 8 rfl rfl)
theorem dX3_readsSize_9 : decode cX3_readsSize 9 = .ok (.aload_n 0, 1) := dk_42 (dk_at dksX3_readsSize_0 9 rfl rfl)
theorem dX3_readsSize_10 : decode cX3_readsSize 10 = .ok (.getfield 162, 3) := dk_180 0 162 (dk_at dksX3_readsSize_0 10 rfl rfl)
theorem dX3_readsSize_13 : decode cX3_readsSize 13 = .ok (.ifCond .eq 57, 3) := dk_153 0 57 (dk_at dksX3_readsSize_0 13 rfl rfl)
theorem dX3_readsSize_16 : decode cX3_readsSize 16 = .ok (.aload_n 0, 1) := dk_42 (dk_at dksX3_readsSize_0 16 rfl rfl)
theorem dX3_readsSize_17 : decode cX3_readsSize 17 = .ok (.invokevirtual 166, 3) := dk_182 0 166 (dk_at dksX3_readsSize_0 17 rfl rfl)
theorem dX3_readsSize_20 : decode cX3_readsSize 20 = .ok (.bipush 48, 2) := dk_16 48 (dk_at dksX3_readsSize_0 20 rfl rfl)
theorem dX3_readsSize_22 : decode cX3_readsSize 22 = .ok (.bipush 57, 2) := dk_16 57 (dk_at dksX3_readsSize_0 22 rfl rfl)
theorem dX3_readsSize_24 : decode cX3_readsSize 24 = .ok (.invokestatic 32, 3) := dk_184 0 32 (dk_at dksX3_readsSize_1 0 rfl rfl)
theorem dX3_readsSize_27 : decode cX3_readsSize 27 = .ok (.ifCond .eq 43, 3) := dk_153 0 43 (dk_at dksX3_readsSize_1 3 rfl rfl)
theorem dX3_readsSize_30 : decode cX3_readsSize 30 = .ok (.bipush 10, 2) := dk_16 10 (dk_at dksX3_readsSize_1 6 rfl rfl)
theorem dX3_readsSize_32 : decode cX3_readsSize 32 = .ok (.iload_n 1, 1) := dk_27 (dk_at dksX3_readsSize_1 8 rfl rfl)
theorem dX3_readsSize_33 : decode cX3_readsSize 33 = .ok (.imul, 1) := dk_104 (dk_at dksX3_readsSize_1 9 rfl rfl)
theorem dX3_readsSize_34 : decode cX3_readsSize 34 = .ok (.aload_n 0, 1) := dk_42 (dk_at dksX3_readsSize_1 10 rfl rfl)
theorem dX3_readsSize_35 : decode cX3_readsSize 35 = .ok (.invokevirtual 166, 3) := dk_182 0 166 (dk_at dksX3_readsSize_1 11 rfl rfl)
theorem dX3_readsSize_38 : decode cX3_readsSize 38 = .ok (.iadd, 1) := dk_96 (dk_at dksX3_readsSize_1 14 rfl rfl)
theorem dX3_readsSize_39 : decode cX3_readsSize 39 = .ok (.bipush 48, 2) := dk_16 48 (dk_at dksX3_readsSize_1 15 rfl rfl)
theorem dX3_readsSize_41 : decode cX3_readsSize 41 = .ok (.isub, 1) := dk_100 (dk_at dksX3_readsSize_1 17 rfl rfl)
theorem dX3_readsSize_42 : decode cX3_readsSize 42 = .ok (.bipush 50, 2) := dk_16 50 (dk_at dksX3_readsSize_1 18 rfl rfl)
theorem dX3_readsSize_44 : decode cX3_readsSize 44 = .ok (.if_icmp .gt 26, 3) := dk_163 0 26 (dk_at dksX3_readsSize_1 20 rfl rfl)
theorem dX3_readsSize_47 : decode cX3_readsSize 47 = .ok (.bipush 10, 2) := dk_16 10 (dk_at dksX3_readsSize_2 0 rfl rfl)
theorem dX3_readsSize_49 : decode cX3_readsSize 49 = .ok (.iload_n 1, 1) := dk_27 (dk_at dksX3_readsSize_2 2 rfl rfl)
theorem dX3_readsSize_50 : decode cX3_readsSize 50 = .ok (.imul, 1) := dk_104 (dk_at dksX3_readsSize_2 3 rfl rfl)
theorem dX3_readsSize_51 : decode cX3_readsSize 51 = .ok (.aload_n 0, 1) := dk_42 (dk_at dksX3_readsSize_2 4 rfl rfl)
theorem dX3_readsSize_52 : decode cX3_readsSize 52 = .ok (.invokevirtual 166, 3) := dk_182 0 166 (dk_at dksX3_readsSize_2 5 rfl rfl)
theorem dX3_readsSize_55 : decode cX3_readsSize 55 = .ok (.iadd, 1) := dk_96 (dk_at dksX3_readsSize_2 8 rfl rfl)
theorem dX3_readsSize_56 : decode cX3_readsSize 56 = .ok (.bipush 48, 2) := dk_16 48 (dk_at dksX3_readsSize_2 9 rfl rfl)
theorem dX3_readsSize_58 : decode cX3_readsSize 58 = .ok (.isub, 1) := dk_100 (dk_at dksX3_readsSize_2 11 rfl rfl)
theorem dX3_readsSize_59 : decode cX3_readsSize 59 = .ok (.istore_n 1, 1) := dk_60 (dk_at dksX3_readsSize_2 12 rfl rfl)
theorem dX3_readsSize_60 : decode cX3_readsSize 60 = .ok (.aload_n 0, 1) := dk_42 (dk_at dksX3_readsSize_2 13 rfl rfl)
theorem dX3_readsSize_61 : decode cX3_readsSize 61 = .ok (.dup, 1) := dk_89 (dk_at dksX3_readsSize_2 14 rfl rfl)
theorem dX3_readsSize_62 : decode cX3_readsSize 62 = .ok (.getfield 159, 3) := dk_180 0 159 (dk_at dksX3_readsSize_2 15 rfl rfl)
theorem dX3_readsSize_65 : decode cX3_readsSize 65 = .ok (.iconst 1, 1) := dk_4 (dk_at dksX3_readsSize_2 18 rfl rfl)
theorem dX3_readsSize_66 : decode cX3_readsSize 66 = .ok (.iadd, 1) := dk_96 (dk_at dksX3_readsSize_2 19 rfl rfl)
theorem dX3_readsSize_67 : decode cX3_readsSize 67 = .ok (.putfield 159, 3) := dk_181 0 159 (dk_at dksX3_readsSize_2 20 rfl rfl)
theorem dX3_readsSize_70 : decode cX3_readsSize 70 = .ok (.iload_n 1, 1) := dk_27 (dk_at dksX3_readsSize_2 23 rfl rfl)
theorem dX3_readsSize_71 : decode cX3_readsSize 71 = .ok (.ireturn, 1) := dk_172 (dk_at dksX3_readsSize_3 0 rfl rfl)
abbrev cX3_runCourse : ByteArray := prog_19_method_59_code
def yX3_runCourse : MethodName := ⟨RX3, "runCourse", "()I"⟩
def dkwX3_runCourse_2 : List UInt8 := [132, 1, 1, 167, 255, 235, 27, 172]
abbrev dktX3_runCourse_2 : List UInt8 := dkwX3_runCourse_2 ++ []
def dkwX3_runCourse_1 : List UInt8 := [181, 0, 156, 3, 60, 27, 42, 180, 0, 172, 162, 0, 19, 42, 7, 27, 104, 182, 0, 187, 153, 0, 9]
abbrev dktX3_runCourse_1 : List UInt8 := dkwX3_runCourse_1 ++ dktX3_runCourse_2
def dkwX3_runCourse_0 : List UInt8 := [42, 3, 181, 0, 28, 42, 182, 0, 184, 154, 0, 9, 42, 4, 182, 0, 106, 172, 42, 182, 0, 116, 42, 3]
abbrev dktX3_runCourse_0 : List UInt8 := dkwX3_runCourse_0 ++ dktX3_runCourse_1
theorem dksX3_runCourse_0 : cX3_runCourse.data.toList.drop 0 = dktX3_runCourse_0 := by decide +kernel
theorem dksX3_runCourse_1 : cX3_runCourse.data.toList.drop 24 = dktX3_runCourse_1 := dk_seg dksX3_runCourse_0 24 rfl rfl
theorem dksX3_runCourse_2 : cX3_runCourse.data.toList.drop 47 = dktX3_runCourse_2 := dk_seg dksX3_runCourse_1 23 rfl rfl
theorem dX3_runCourse_0 : decode cX3_runCourse 0 = .ok (.aload_n 0, 1) := dk_42 (dk_at dksX3_runCourse_0 0 rfl rfl)
theorem dX3_runCourse_1 : decode cX3_runCourse 1 = .ok (.iconst 0, 1) := dk_3 (dk_at dksX3_runCourse_0 1 rfl rfl)
theorem dX3_runCourse_2 : decode cX3_runCourse 2 = .ok (.putfield 28, 3) := dk_181 0 28 (dk_at dksX3_runCourse_0 2 rfl rfl)
theorem dX3_runCourse_5 : decode cX3_runCourse 5 = .ok (.aload_n 0, 1) := dk_42 (dk_at dksX3_runCourse_0 5 rfl rfl)
theorem dX3_runCourse_6 : decode cX3_runCourse 6 = .ok (.invokevirtual 184, 3) := dk_182 0 184 (dk_at dksX3_runCourse_0 6 rfl rfl)
theorem dX3_runCourse_9 : decode cX3_runCourse 9 = .ok (.ifCond .ne 9, 3) := dk_154 0 9 (dk_at dksX3_runCourse_0 9 rfl rfl)
theorem dX3_runCourse_12 : decode cX3_runCourse 12 = .ok (.aload_n 0, 1) := dk_42 (dk_at dksX3_runCourse_0 12 rfl rfl)
theorem dX3_runCourse_13 : decode cX3_runCourse 13 = .ok (.iconst 1, 1) := dk_4 (dk_at dksX3_runCourse_0 13 rfl rfl)
theorem dX3_runCourse_14 : decode cX3_runCourse 14 = .ok (.invokevirtual 106, 3) := dk_182 0 106 (dk_at dksX3_runCourse_0 14 rfl rfl)
theorem dX3_runCourse_17 : decode cX3_runCourse 17 = .ok (.ireturn, 1) := dk_172 (dk_at dksX3_runCourse_0 17 rfl rfl)
theorem dX3_runCourse_18 : decode cX3_runCourse 18 = .ok (.aload_n 0, 1) := dk_42 (dk_at dksX3_runCourse_0 18 rfl rfl)
theorem dX3_runCourse_19 : decode cX3_runCourse 19 = .ok (.invokevirtual 116, 3) := dk_182 0 116 (dk_at dksX3_runCourse_0 19 rfl rfl)
theorem dX3_runCourse_22 : decode cX3_runCourse 22 = .ok (.aload_n 0, 1) := dk_42 (dk_at dksX3_runCourse_0 22 rfl rfl)
theorem dX3_runCourse_23 : decode cX3_runCourse 23 = .ok (.iconst 0, 1) := dk_3 (dk_at dksX3_runCourse_0 23 rfl rfl)
theorem dX3_runCourse_24 : decode cX3_runCourse 24 = .ok (.putfield 156, 3) := dk_181 0 156 (dk_at dksX3_runCourse_1 0 rfl rfl)
theorem dX3_runCourse_27 : decode cX3_runCourse 27 = .ok (.iconst 0, 1) := dk_3 (dk_at dksX3_runCourse_1 3 rfl rfl)
theorem dX3_runCourse_28 : decode cX3_runCourse 28 = .ok (.istore_n 1, 1) := dk_60 (dk_at dksX3_runCourse_1 4 rfl rfl)
theorem dX3_runCourse_29 : decode cX3_runCourse 29 = .ok (.iload_n 1, 1) := dk_27 (dk_at dksX3_runCourse_1 5 rfl rfl)
theorem dX3_runCourse_30 : decode cX3_runCourse 30 = .ok (.aload_n 0, 1) := dk_42 (dk_at dksX3_runCourse_1 6 rfl rfl)
theorem dX3_runCourse_31 : decode cX3_runCourse 31 = .ok (.getfield 172, 3) := dk_180 0 172 (dk_at dksX3_runCourse_1 7 rfl rfl)
theorem dX3_runCourse_34 : decode cX3_runCourse 34 = .ok (.if_icmp .ge 19, 3) := dk_162 0 19 (dk_at dksX3_runCourse_1 10 rfl rfl)
theorem dX3_runCourse_37 : decode cX3_runCourse 37 = .ok (.aload_n 0, 1) := dk_42 (dk_at dksX3_runCourse_1 13 rfl rfl)
theorem dX3_runCourse_38 : decode cX3_runCourse 38 = .ok (.iconst 4, 1) := dk_7 (dk_at dksX3_runCourse_1 14 rfl rfl)
theorem dX3_runCourse_39 : decode cX3_runCourse 39 = .ok (.iload_n 1, 1) := dk_27 (dk_at dksX3_runCourse_1 15 rfl rfl)
theorem dX3_runCourse_40 : decode cX3_runCourse 40 = .ok (.imul, 1) := dk_104 (dk_at dksX3_runCourse_1 16 rfl rfl)
theorem dX3_runCourse_41 : decode cX3_runCourse 41 = .ok (.invokevirtual 187, 3) := dk_182 0 187 (dk_at dksX3_runCourse_1 17 rfl rfl)
theorem dX3_runCourse_44 : decode cX3_runCourse 44 = .ok (.ifCond .eq 9, 3) := dk_153 0 9 (dk_at dksX3_runCourse_1 20 rfl rfl)
theorem dX3_runCourse_47 : decode cX3_runCourse 47 = .ok (.iinc 1 1, 3) := dk_132 1 1 (dk_at dksX3_runCourse_2 0 rfl rfl)
theorem dX3_runCourse_50 : decode cX3_runCourse 50 = .ok (.goto (-21), 3) := dk_167 255 235 (dk_at dksX3_runCourse_2 3 rfl rfl)
theorem dX3_runCourse_53 : decode cX3_runCourse 53 = .ok (.iload_n 1, 1) := dk_27 (dk_at dksX3_runCourse_2 6 rfl rfl)
theorem dX3_runCourse_54 : decode cX3_runCourse 54 = .ok (.ireturn, 1) := dk_172 (dk_at dksX3_runCourse_2 7 rfl rfl)
abbrev cX3_does : ByteArray := prog_19_method_58_code
def yX3_does : MethodName := ⟨RX3, "does", "(I)Z"⟩
def dkwX3_does_10 : List UInt8 := [182, 0, 60, 21, 4, 172, 42, 28, 182, 0, 136, 87, 4, 172]
abbrev dktX3_does_10 : List UInt8 := dkwX3_does_10 ++ []
def dkwX3_does_9 : List UInt8 := [182, 0, 129, 153, 0, 7, 4, 167, 0, 4, 3, 54, 4, 21, 4, 153, 0, 11, 42, 16, 6, 29, 28]
abbrev dktX3_does_9 : List UInt8 := dkwX3_does_9 ++ dktX3_does_10
def dkwX3_does_8 : List UInt8 := [153, 0, 9, 42, 28, 5, 182, 0, 81, 21, 4, 172, 42, 29, 182, 0, 123, 153, 0, 16, 42, 28, 29]
abbrev dktX3_does_8 : List UInt8 := dkwX3_does_8 ++ dktX3_does_9
def dkwX3_does_7 : List UInt8 := [28, 182, 0, 123, 153, 0, 15, 42, 28, 182, 0, 126, 153, 0, 7, 4, 167, 0, 4, 3, 54, 4, 21, 4]
abbrev dktX3_does_7 : List UInt8 := dkwX3_does_7 ++ dktX3_does_8
def dkwX3_does_6 : List UInt8 := [154, 0, 7, 4, 167, 0, 4, 3, 54, 4, 21, 4, 153, 0, 8, 42, 28, 182, 0, 152, 21, 4, 172, 42]
abbrev dktX3_does_6 : List UInt8 := dkwX3_does_6 ++ dktX3_does_7
def dkwX3_does_5 : List UInt8 := [21, 4, 153, 0, 9, 42, 28, 182, 0, 149, 87, 21, 4, 172, 42, 180, 0, 7, 3, 28, 96, 46]
abbrev dktX3_does_5 : List UInt8 := dkwX3_does_5 ++ dktX3_does_6
def dkwX3_does_4 : List UInt8 := [87, 21, 4, 172, 42, 180, 0, 7, 3, 28, 96, 46, 4, 160, 0, 7, 4, 167, 0, 4, 3, 54, 4]
abbrev dktX3_does_4 : List UInt8 := dkwX3_does_4 ++ dktX3_does_5
def dkwX3_does_3 : List UInt8 := [182, 0, 119, 87, 21, 4, 172, 42, 28, 182, 0, 132, 54, 4, 21, 4, 153, 0, 9, 42, 28, 182, 0, 143]
abbrev dktX3_does_3 : List UInt8 := dkwX3_does_3 ++ dktX3_does_4
def dkwX3_does_2 : List UInt8 := [42, 182, 0, 112, 54, 4, 21, 4, 153, 0, 18, 42, 28, 29, 42, 180, 0, 25, 27, 6, 96, 46]
abbrev dktX3_does_2 : List UInt8 := dkwX3_does_2 ++ dktX3_does_3
def dkwX3_does_1 : List UInt8 := [170, 0, 0, 0, 0, 0, 1, 19, 0, 0, 0, 98, 0, 0, 0, 114, 0, 0, 0, 84, 0, 0, 0, 134, 0, 0, 1, 19, 0, 0, 1, 19, 0, 0, 1, 19, 0, 0, 0, 198, 0, 0, 1, 19, 0, 0, 1, 19, 0, 0, 1, 19, 0, 0, 1, 19, 0, 0, 0, 113, 0, 0, 1, 19, 0, 0, 1, 19, 0, 0, 1, 19, 0, 0, 1, 19, 0, 0, 0, 235, 0, 0, 0, 167]
abbrev dktX3_does_1 : List UInt8 := dkwX3_does_1 ++ dktX3_does_2
def dkwX3_does_0 : List UInt8 := [42, 180, 0, 25, 27, 4, 96, 46, 61, 42, 180, 0, 25, 27, 5, 96, 46, 62, 42, 180, 0, 25, 27, 46]
abbrev dktX3_does_0 : List UInt8 := dkwX3_does_0 ++ dktX3_does_1
theorem dksX3_does_0 : cX3_does.data.toList.drop 0 = dktX3_does_0 := by decide +kernel
theorem dksX3_does_1 : cX3_does.data.toList.drop 24 = dktX3_does_1 := dk_seg dksX3_does_0 24 rfl rfl
theorem dksX3_does_2 : cX3_does.data.toList.drop 108 = dktX3_does_2 := dk_seg dksX3_does_1 84 rfl rfl
theorem dksX3_does_3 : cX3_does.data.toList.drop 130 = dktX3_does_3 := dk_seg dksX3_does_2 22 rfl rfl
theorem dksX3_does_4 : cX3_does.data.toList.drop 154 = dktX3_does_4 := dk_seg dksX3_does_3 24 rfl rfl
theorem dksX3_does_5 : cX3_does.data.toList.drop 177 = dktX3_does_5 := dk_seg dksX3_does_4 23 rfl rfl
theorem dksX3_does_6 : cX3_does.data.toList.drop 199 = dktX3_does_6 := dk_seg dksX3_does_5 22 rfl rfl
theorem dksX3_does_7 : cX3_does.data.toList.drop 223 = dktX3_does_7 := dk_seg dksX3_does_6 24 rfl rfl
theorem dksX3_does_8 : cX3_does.data.toList.drop 247 = dktX3_does_8 := dk_seg dksX3_does_7 24 rfl rfl
theorem dksX3_does_9 : cX3_does.data.toList.drop 270 = dktX3_does_9 := dk_seg dksX3_does_8 23 rfl rfl
theorem dksX3_does_10 : cX3_does.data.toList.drop 293 = dktX3_does_10 := dk_seg dksX3_does_9 23 rfl rfl
theorem dX3_does_0 : decode cX3_does 0 = .ok (.aload_n 0, 1) := dk_42 (dk_at dksX3_does_0 0 rfl rfl)
theorem dX3_does_1 : decode cX3_does 1 = .ok (.getfield 25, 3) := dk_180 0 25 (dk_at dksX3_does_0 1 rfl rfl)
theorem dX3_does_4 : decode cX3_does 4 = .ok (.iload_n 1, 1) := dk_27 (dk_at dksX3_does_0 4 rfl rfl)
theorem dX3_does_5 : decode cX3_does 5 = .ok (.iconst 1, 1) := dk_4 (dk_at dksX3_does_0 5 rfl rfl)
theorem dX3_does_6 : decode cX3_does 6 = .ok (.iadd, 1) := dk_96 (dk_at dksX3_does_0 6 rfl rfl)
theorem dX3_does_7 : decode cX3_does 7 = .ok (.iaload, 1) := dk_46 (dk_at dksX3_does_0 7 rfl rfl)
theorem dX3_does_8 : decode cX3_does 8 = .ok (.istore_n 2, 1) := dk_61 (dk_at dksX3_does_0 8 rfl rfl)
theorem dX3_does_9 : decode cX3_does 9 = .ok (.aload_n 0, 1) := dk_42 (dk_at dksX3_does_0 9 rfl rfl)
theorem dX3_does_10 : decode cX3_does 10 = .ok (.getfield 25, 3) := dk_180 0 25 (dk_at dksX3_does_0 10 rfl rfl)
theorem dX3_does_13 : decode cX3_does 13 = .ok (.iload_n 1, 1) := dk_27 (dk_at dksX3_does_0 13 rfl rfl)
theorem dX3_does_14 : decode cX3_does 14 = .ok (.iconst 2, 1) := dk_5 (dk_at dksX3_does_0 14 rfl rfl)
theorem dX3_does_15 : decode cX3_does 15 = .ok (.iadd, 1) := dk_96 (dk_at dksX3_does_0 15 rfl rfl)
theorem dX3_does_16 : decode cX3_does 16 = .ok (.iaload, 1) := dk_46 (dk_at dksX3_does_0 16 rfl rfl)
theorem dX3_does_17 : decode cX3_does 17 = .ok (.istore_n 3, 1) := dk_62 (dk_at dksX3_does_0 17 rfl rfl)
theorem dX3_does_18 : decode cX3_does 18 = .ok (.aload_n 0, 1) := dk_42 (dk_at dksX3_does_0 18 rfl rfl)
theorem dX3_does_19 : decode cX3_does 19 = .ok (.getfield 25, 3) := dk_180 0 25 (dk_at dksX3_does_0 19 rfl rfl)
theorem dX3_does_22 : decode cX3_does 22 = .ok (.iload_n 1, 1) := dk_27 (dk_at dksX3_does_0 22 rfl rfl)
theorem dX3_does_23 : decode cX3_does 23 = .ok (.iaload, 1) := dk_46 (dk_at dksX3_does_0 23 rfl rfl)
theorem dX3_does_24 : decode cX3_does 24 = .ok (.tableswitch 275 98 114 #[84, 134, 275, 275, 275, 198, 275, 275, 275, 275, 113, 275, 275, 275, 275, 235, 167], 84) := by decide +kernel
theorem dX3_does_108 : decode cX3_does 108 = .ok (.aload_n 0, 1) := dk_42 (dk_at dksX3_does_2 0 rfl rfl)
theorem dX3_does_109 : decode cX3_does 109 = .ok (.invokevirtual 112, 3) := dk_182 0 112 (dk_at dksX3_does_2 1 rfl rfl)
theorem dX3_does_112 : decode cX3_does 112 = .ok (.istore 4, 2) := dk_54 4 (dk_at dksX3_does_2 4 rfl rfl)
theorem dX3_does_114 : decode cX3_does 114 = .ok (.iload 4, 2) := dk_21 4 (dk_at dksX3_does_2 6 rfl rfl)
theorem dX3_does_116 : decode cX3_does 116 = .ok (.ifCond .eq 18, 3) := dk_153 0 18 (dk_at dksX3_does_2 8 rfl rfl)
theorem dX3_does_119 : decode cX3_does 119 = .ok (.aload_n 0, 1) := dk_42 (dk_at dksX3_does_2 11 rfl rfl)
theorem dX3_does_120 : decode cX3_does 120 = .ok (.iload_n 2, 1) := dk_28 (dk_at dksX3_does_2 12 rfl rfl)
theorem dX3_does_121 : decode cX3_does 121 = .ok (.iload_n 3, 1) := dk_29 (dk_at dksX3_does_2 13 rfl rfl)
theorem dX3_does_122 : decode cX3_does 122 = .ok (.aload_n 0, 1) := dk_42 (dk_at dksX3_does_2 14 rfl rfl)
theorem dX3_does_123 : decode cX3_does 123 = .ok (.getfield 25, 3) := dk_180 0 25 (dk_at dksX3_does_2 15 rfl rfl)
theorem dX3_does_126 : decode cX3_does 126 = .ok (.iload_n 1, 1) := dk_27 (dk_at dksX3_does_2 18 rfl rfl)
theorem dX3_does_127 : decode cX3_does 127 = .ok (.iconst 3, 1) := dk_6 (dk_at dksX3_does_2 19 rfl rfl)
theorem dX3_does_128 : decode cX3_does 128 = .ok (.iadd, 1) := dk_96 (dk_at dksX3_does_2 20 rfl rfl)
theorem dX3_does_129 : decode cX3_does 129 = .ok (.iaload, 1) := dk_46 (dk_at dksX3_does_2 21 rfl rfl)
theorem dX3_does_130 : decode cX3_does 130 = .ok (.invokevirtual 119, 3) := dk_182 0 119 (dk_at dksX3_does_3 0 rfl rfl)
theorem dX3_does_133 : decode cX3_does 133 = .ok (.pop, 1) := dk_87 (dk_at dksX3_does_3 3 rfl rfl)
theorem dX3_does_134 : decode cX3_does 134 = .ok (.iload 4, 2) := dk_21 4 (dk_at dksX3_does_3 4 rfl rfl)
theorem dX3_does_136 : decode cX3_does 136 = .ok (.ireturn, 1) := dk_172 (dk_at dksX3_does_3 6 rfl rfl)
theorem dX3_does_137 : decode cX3_does 137 = .ok (.aload_n 0, 1) := dk_42 (dk_at dksX3_does_3 7 rfl rfl)
theorem dX3_does_138 : decode cX3_does 138 = .ok (.iload_n 2, 1) := dk_28 (dk_at dksX3_does_3 8 rfl rfl)
theorem dX3_does_139 : decode cX3_does 139 = .ok (.invokevirtual 132, 3) := dk_182 0 132 (dk_at dksX3_does_3 9 rfl rfl)
theorem dX3_does_142 : decode cX3_does 142 = .ok (.istore 4, 2) := dk_54 4 (dk_at dksX3_does_3 12 rfl rfl)
theorem dX3_does_144 : decode cX3_does 144 = .ok (.iload 4, 2) := dk_21 4 (dk_at dksX3_does_3 14 rfl rfl)
theorem dX3_does_146 : decode cX3_does 146 = .ok (.ifCond .eq 9, 3) := dk_153 0 9 (dk_at dksX3_does_3 16 rfl rfl)
theorem dX3_does_149 : decode cX3_does 149 = .ok (.aload_n 0, 1) := dk_42 (dk_at dksX3_does_3 19 rfl rfl)
theorem dX3_does_150 : decode cX3_does 150 = .ok (.iload_n 2, 1) := dk_28 (dk_at dksX3_does_3 20 rfl rfl)
theorem dX3_does_151 : decode cX3_does 151 = .ok (.invokevirtual 143, 3) := dk_182 0 143 (dk_at dksX3_does_3 21 rfl rfl)
theorem dX3_does_154 : decode cX3_does 154 = .ok (.pop, 1) := dk_87 (dk_at dksX3_does_4 0 rfl rfl)
theorem dX3_does_155 : decode cX3_does 155 = .ok (.iload 4, 2) := dk_21 4 (dk_at dksX3_does_4 1 rfl rfl)
theorem dX3_does_157 : decode cX3_does 157 = .ok (.ireturn, 1) := dk_172 (dk_at dksX3_does_4 3 rfl rfl)
theorem dX3_does_158 : decode cX3_does 158 = .ok (.aload_n 0, 1) := dk_42 (dk_at dksX3_does_4 4 rfl rfl)
theorem dX3_does_159 : decode cX3_does 159 = .ok (.getfield 7, 3) := dk_180 0 7 (dk_at dksX3_does_4 5 rfl rfl)
theorem dX3_does_162 : decode cX3_does 162 = .ok (.iconst 0, 1) := dk_3 (dk_at dksX3_does_4 8 rfl rfl)
theorem dX3_does_163 : decode cX3_does 163 = .ok (.iload_n 2, 1) := dk_28 (dk_at dksX3_does_4 9 rfl rfl)
theorem dX3_does_164 : decode cX3_does 164 = .ok (.iadd, 1) := dk_96 (dk_at dksX3_does_4 10 rfl rfl)
theorem dX3_does_165 : decode cX3_does 165 = .ok (.iaload, 1) := dk_46 (dk_at dksX3_does_4 11 rfl rfl)
theorem dX3_does_166 : decode cX3_does 166 = .ok (.iconst 1, 1) := dk_4 (dk_at dksX3_does_4 12 rfl rfl)
theorem dX3_does_167 : decode cX3_does 167 = .ok (.if_icmp .ne 7, 3) := dk_160 0 7 (dk_at dksX3_does_4 13 rfl rfl)
theorem dX3_does_170 : decode cX3_does 170 = .ok (.iconst 1, 1) := dk_4 (dk_at dksX3_does_4 16 rfl rfl)
theorem dX3_does_171 : decode cX3_does 171 = .ok (.goto 4, 3) := dk_167 0 4 (dk_at dksX3_does_4 17 rfl rfl)
theorem dX3_does_174 : decode cX3_does 174 = .ok (.iconst 0, 1) := dk_3 (dk_at dksX3_does_4 20 rfl rfl)
theorem dX3_does_175 : decode cX3_does 175 = .ok (.istore 4, 2) := dk_54 4 (dk_at dksX3_does_4 21 rfl rfl)
theorem dX3_does_177 : decode cX3_does 177 = .ok (.iload 4, 2) := dk_21 4 (dk_at dksX3_does_5 0 rfl rfl)
theorem dX3_does_179 : decode cX3_does 179 = .ok (.ifCond .eq 9, 3) := dk_153 0 9 (dk_at dksX3_does_5 2 rfl rfl)
theorem dX3_does_182 : decode cX3_does 182 = .ok (.aload_n 0, 1) := dk_42 (dk_at dksX3_does_5 5 rfl rfl)
theorem dX3_does_183 : decode cX3_does 183 = .ok (.iload_n 2, 1) := dk_28 (dk_at dksX3_does_5 6 rfl rfl)
theorem dX3_does_184 : decode cX3_does 184 = .ok (.invokevirtual 149, 3) := dk_182 0 149 (dk_at dksX3_does_5 7 rfl rfl)
theorem dX3_does_187 : decode cX3_does 187 = .ok (.pop, 1) := dk_87 (dk_at dksX3_does_5 10 rfl rfl)
theorem dX3_does_188 : decode cX3_does 188 = .ok (.iload 4, 2) := dk_21 4 (dk_at dksX3_does_5 11 rfl rfl)
theorem dX3_does_190 : decode cX3_does 190 = .ok (.ireturn, 1) := dk_172 (dk_at dksX3_does_5 13 rfl rfl)
theorem dX3_does_191 : decode cX3_does 191 = .ok (.aload_n 0, 1) := dk_42 (dk_at dksX3_does_5 14 rfl rfl)
theorem dX3_does_192 : decode cX3_does 192 = .ok (.getfield 7, 3) := dk_180 0 7 (dk_at dksX3_does_5 15 rfl rfl)
theorem dX3_does_195 : decode cX3_does 195 = .ok (.iconst 0, 1) := dk_3 (dk_at dksX3_does_5 18 rfl rfl)
theorem dX3_does_196 : decode cX3_does 196 = .ok (.iload_n 2, 1) := dk_28 (dk_at dksX3_does_5 19 rfl rfl)
theorem dX3_does_197 : decode cX3_does 197 = .ok (.iadd, 1) := dk_96 (dk_at dksX3_does_5 20 rfl rfl)
theorem dX3_does_198 : decode cX3_does 198 = .ok (.iaload, 1) := dk_46 (dk_at dksX3_does_5 21 rfl rfl)
theorem dX3_does_199 : decode cX3_does 199 = .ok (.ifCond .ne 7, 3) := dk_154 0 7 (dk_at dksX3_does_6 0 rfl rfl)
theorem dX3_does_202 : decode cX3_does 202 = .ok (.iconst 1, 1) := dk_4 (dk_at dksX3_does_6 3 rfl rfl)
theorem dX3_does_203 : decode cX3_does 203 = .ok (.goto 4, 3) := dk_167 0 4 (dk_at dksX3_does_6 4 rfl rfl)
theorem dX3_does_206 : decode cX3_does 206 = .ok (.iconst 0, 1) := dk_3 (dk_at dksX3_does_6 7 rfl rfl)
theorem dX3_does_207 : decode cX3_does 207 = .ok (.istore 4, 2) := dk_54 4 (dk_at dksX3_does_6 8 rfl rfl)
theorem dX3_does_209 : decode cX3_does 209 = .ok (.iload 4, 2) := dk_21 4 (dk_at dksX3_does_6 10 rfl rfl)
theorem dX3_does_211 : decode cX3_does 211 = .ok (.ifCond .eq 8, 3) := dk_153 0 8 (dk_at dksX3_does_6 12 rfl rfl)
theorem dX3_does_214 : decode cX3_does 214 = .ok (.aload_n 0, 1) := dk_42 (dk_at dksX3_does_6 15 rfl rfl)
theorem dX3_does_215 : decode cX3_does 215 = .ok (.iload_n 2, 1) := dk_28 (dk_at dksX3_does_6 16 rfl rfl)
theorem dX3_does_216 : decode cX3_does 216 = .ok (.invokevirtual 152, 3) := dk_182 0 152 (dk_at dksX3_does_6 17 rfl rfl)
theorem dX3_does_219 : decode cX3_does 219 = .ok (.iload 4, 2) := dk_21 4 (dk_at dksX3_does_6 20 rfl rfl)
theorem dX3_does_221 : decode cX3_does 221 = .ok (.ireturn, 1) := dk_172 (dk_at dksX3_does_6 22 rfl rfl)
theorem dX3_does_222 : decode cX3_does 222 = .ok (.aload_n 0, 1) := dk_42 (dk_at dksX3_does_6 23 rfl rfl)
theorem dX3_does_223 : decode cX3_does 223 = .ok (.iload_n 2, 1) := dk_28 (dk_at dksX3_does_7 0 rfl rfl)
theorem dX3_does_224 : decode cX3_does 224 = .ok (.invokevirtual 123, 3) := dk_182 0 123 (dk_at dksX3_does_7 1 rfl rfl)
theorem dX3_does_227 : decode cX3_does 227 = .ok (.ifCond .eq 15, 3) := dk_153 0 15 (dk_at dksX3_does_7 4 rfl rfl)
theorem dX3_does_230 : decode cX3_does 230 = .ok (.aload_n 0, 1) := dk_42 (dk_at dksX3_does_7 7 rfl rfl)
theorem dX3_does_231 : decode cX3_does 231 = .ok (.iload_n 2, 1) := dk_28 (dk_at dksX3_does_7 8 rfl rfl)
theorem dX3_does_232 : decode cX3_does 232 = .ok (.invokevirtual 126, 3) := dk_182 0 126 (dk_at dksX3_does_7 9 rfl rfl)
theorem dX3_does_235 : decode cX3_does 235 = .ok (.ifCond .eq 7, 3) := dk_153 0 7 (dk_at dksX3_does_7 12 rfl rfl)
theorem dX3_does_238 : decode cX3_does 238 = .ok (.iconst 1, 1) := dk_4 (dk_at dksX3_does_7 15 rfl rfl)
theorem dX3_does_239 : decode cX3_does 239 = .ok (.goto 4, 3) := dk_167 0 4 (dk_at dksX3_does_7 16 rfl rfl)
theorem dX3_does_242 : decode cX3_does 242 = .ok (.iconst 0, 1) := dk_3 (dk_at dksX3_does_7 19 rfl rfl)
theorem dX3_does_243 : decode cX3_does 243 = .ok (.istore 4, 2) := dk_54 4 (dk_at dksX3_does_7 20 rfl rfl)
theorem dX3_does_245 : decode cX3_does 245 = .ok (.iload 4, 2) := dk_21 4 (dk_at dksX3_does_7 22 rfl rfl)
theorem dX3_does_247 : decode cX3_does 247 = .ok (.ifCond .eq 9, 3) := dk_153 0 9 (dk_at dksX3_does_8 0 rfl rfl)
theorem dX3_does_250 : decode cX3_does 250 = .ok (.aload_n 0, 1) := dk_42 (dk_at dksX3_does_8 3 rfl rfl)
theorem dX3_does_251 : decode cX3_does 251 = .ok (.iload_n 2, 1) := dk_28 (dk_at dksX3_does_8 4 rfl rfl)
theorem dX3_does_252 : decode cX3_does 252 = .ok (.iconst 2, 1) := dk_5 (dk_at dksX3_does_8 5 rfl rfl)
theorem dX3_does_253 : decode cX3_does 253 = .ok (.invokevirtual 81, 3) := dk_182 0 81 (dk_at dksX3_does_8 6 rfl rfl)
theorem dX3_does_256 : decode cX3_does 256 = .ok (.iload 4, 2) := dk_21 4 (dk_at dksX3_does_8 9 rfl rfl)
theorem dX3_does_258 : decode cX3_does 258 = .ok (.ireturn, 1) := dk_172 (dk_at dksX3_does_8 11 rfl rfl)
theorem dX3_does_259 : decode cX3_does 259 = .ok (.aload_n 0, 1) := dk_42 (dk_at dksX3_does_8 12 rfl rfl)
theorem dX3_does_260 : decode cX3_does 260 = .ok (.iload_n 3, 1) := dk_29 (dk_at dksX3_does_8 13 rfl rfl)
theorem dX3_does_261 : decode cX3_does 261 = .ok (.invokevirtual 123, 3) := dk_182 0 123 (dk_at dksX3_does_8 14 rfl rfl)
theorem dX3_does_264 : decode cX3_does 264 = .ok (.ifCond .eq 16, 3) := dk_153 0 16 (dk_at dksX3_does_8 17 rfl rfl)
theorem dX3_does_267 : decode cX3_does 267 = .ok (.aload_n 0, 1) := dk_42 (dk_at dksX3_does_8 20 rfl rfl)
theorem dX3_does_268 : decode cX3_does 268 = .ok (.iload_n 2, 1) := dk_28 (dk_at dksX3_does_8 21 rfl rfl)
theorem dX3_does_269 : decode cX3_does 269 = .ok (.iload_n 3, 1) := dk_29 (dk_at dksX3_does_8 22 rfl rfl)
theorem dX3_does_270 : decode cX3_does 270 = .ok (.invokevirtual 129, 3) := dk_182 0 129 (dk_at dksX3_does_9 0 rfl rfl)
theorem dX3_does_273 : decode cX3_does 273 = .ok (.ifCond .eq 7, 3) := dk_153 0 7 (dk_at dksX3_does_9 3 rfl rfl)
theorem dX3_does_276 : decode cX3_does 276 = .ok (.iconst 1, 1) := dk_4 (dk_at dksX3_does_9 6 rfl rfl)
theorem dX3_does_277 : decode cX3_does 277 = .ok (.goto 4, 3) := dk_167 0 4 (dk_at dksX3_does_9 7 rfl rfl)
theorem dX3_does_280 : decode cX3_does 280 = .ok (.iconst 0, 1) := dk_3 (dk_at dksX3_does_9 10 rfl rfl)
theorem dX3_does_281 : decode cX3_does 281 = .ok (.istore 4, 2) := dk_54 4 (dk_at dksX3_does_9 11 rfl rfl)
theorem dX3_does_283 : decode cX3_does 283 = .ok (.iload 4, 2) := dk_21 4 (dk_at dksX3_does_9 13 rfl rfl)
theorem dX3_does_285 : decode cX3_does 285 = .ok (.ifCond .eq 11, 3) := dk_153 0 11 (dk_at dksX3_does_9 15 rfl rfl)
theorem dX3_does_288 : decode cX3_does 288 = .ok (.aload_n 0, 1) := dk_42 (dk_at dksX3_does_9 18 rfl rfl)
theorem dX3_does_289 : decode cX3_does 289 = .ok (.bipush 6, 2) := dk_16 6 (dk_at dksX3_does_9 19 rfl rfl)
theorem dX3_does_291 : decode cX3_does 291 = .ok (.iload_n 3, 1) := dk_29 (dk_at dksX3_does_9 21 rfl rfl)
theorem dX3_does_292 : decode cX3_does 292 = .ok (.iload_n 2, 1) := dk_28 (dk_at dksX3_does_9 22 rfl rfl)
theorem dX3_does_293 : decode cX3_does 293 = .ok (.invokevirtual 60, 3) := dk_182 0 60 (dk_at dksX3_does_10 0 rfl rfl)
theorem dX3_does_296 : decode cX3_does 296 = .ok (.iload 4, 2) := dk_21 4 (dk_at dksX3_does_10 3 rfl rfl)
theorem dX3_does_298 : decode cX3_does 298 = .ok (.ireturn, 1) := dk_172 (dk_at dksX3_does_10 5 rfl rfl)
theorem dX3_does_299 : decode cX3_does 299 = .ok (.aload_n 0, 1) := dk_42 (dk_at dksX3_does_10 6 rfl rfl)
theorem dX3_does_300 : decode cX3_does 300 = .ok (.iload_n 2, 1) := dk_28 (dk_at dksX3_does_10 7 rfl rfl)
theorem dX3_does_301 : decode cX3_does 301 = .ok (.invokevirtual 136, 3) := dk_182 0 136 (dk_at dksX3_does_10 8 rfl rfl)
theorem dX3_does_304 : decode cX3_does 304 = .ok (.pop, 1) := dk_87 (dk_at dksX3_does_10 11 rfl rfl)
theorem dX3_does_305 : decode cX3_does 305 = .ok (.iconst 1, 1) := dk_4 (dk_at dksX3_does_10 12 rfl rfl)
theorem dX3_does_306 : decode cX3_does 306 = .ok (.ireturn, 1) := dk_172 (dk_at dksX3_does_10 13 rfl rfl)
abbrev cX3_keep : ByteArray := prog_19_method_60_code
def yX3_keep : MethodName := ⟨RX3, "keep", "()I"⟩
def dkwX3_keep_1 : List UInt8 := [46, 79, 132, 1, 1, 167, 255, 234, 42, 4, 181, 0, 190, 42, 180, 0, 7, 16, 13, 46, 172]
abbrev dktX3_keep_1 : List UInt8 := dkwX3_keep_1 ++ []
def dkwX3_keep_0 : List UInt8 := [42, 3, 181, 0, 28, 3, 60, 27, 17, 1, 0, 162, 0, 21, 42, 180, 0, 19, 27, 42, 180, 0, 7, 27]
abbrev dktX3_keep_0 : List UInt8 := dkwX3_keep_0 ++ dktX3_keep_1
theorem dksX3_keep_0 : cX3_keep.data.toList.drop 0 = dktX3_keep_0 := by decide +kernel
theorem dksX3_keep_1 : cX3_keep.data.toList.drop 24 = dktX3_keep_1 := dk_seg dksX3_keep_0 24 rfl rfl
theorem dX3_keep_0 : decode cX3_keep 0 = .ok (.aload_n 0, 1) := dk_42 (dk_at dksX3_keep_0 0 rfl rfl)
theorem dX3_keep_1 : decode cX3_keep 1 = .ok (.iconst 0, 1) := dk_3 (dk_at dksX3_keep_0 1 rfl rfl)
theorem dX3_keep_2 : decode cX3_keep 2 = .ok (.putfield 28, 3) := dk_181 0 28 (dk_at dksX3_keep_0 2 rfl rfl)
theorem dX3_keep_5 : decode cX3_keep 5 = .ok (.iconst 0, 1) := dk_3 (dk_at dksX3_keep_0 5 rfl rfl)
theorem dX3_keep_6 : decode cX3_keep 6 = .ok (.istore_n 1, 1) := dk_60 (dk_at dksX3_keep_0 6 rfl rfl)
theorem dX3_keep_7 : decode cX3_keep 7 = .ok (.iload_n 1, 1) := dk_27 (dk_at dksX3_keep_0 7 rfl rfl)
theorem dX3_keep_8 : decode cX3_keep 8 = .ok (.sipush 256, 3) := dk_17 1 0 (dk_at dksX3_keep_0 8 rfl rfl)
theorem dX3_keep_11 : decode cX3_keep 11 = .ok (.if_icmp .ge 21, 3) := dk_162 0 21 (dk_at dksX3_keep_0 11 rfl rfl)
theorem dX3_keep_14 : decode cX3_keep 14 = .ok (.aload_n 0, 1) := dk_42 (dk_at dksX3_keep_0 14 rfl rfl)
theorem dX3_keep_15 : decode cX3_keep 15 = .ok (.getfield 19, 3) := dk_180 0 19 (dk_at dksX3_keep_0 15 rfl rfl)
theorem dX3_keep_18 : decode cX3_keep 18 = .ok (.iload_n 1, 1) := dk_27 (dk_at dksX3_keep_0 18 rfl rfl)
theorem dX3_keep_19 : decode cX3_keep 19 = .ok (.aload_n 0, 1) := dk_42 (dk_at dksX3_keep_0 19 rfl rfl)
theorem dX3_keep_20 : decode cX3_keep 20 = .ok (.getfield 7, 3) := dk_180 0 7 (dk_at dksX3_keep_0 20 rfl rfl)
theorem dX3_keep_23 : decode cX3_keep 23 = .ok (.iload_n 1, 1) := dk_27 (dk_at dksX3_keep_0 23 rfl rfl)
theorem dX3_keep_24 : decode cX3_keep 24 = .ok (.iaload, 1) := dk_46 (dk_at dksX3_keep_1 0 rfl rfl)
theorem dX3_keep_25 : decode cX3_keep 25 = .ok (.iastore, 1) := dk_79 (dk_at dksX3_keep_1 1 rfl rfl)
theorem dX3_keep_26 : decode cX3_keep 26 = .ok (.iinc 1 1, 3) := dk_132 1 1 (dk_at dksX3_keep_1 2 rfl rfl)
theorem dX3_keep_29 : decode cX3_keep 29 = .ok (.goto (-22), 3) := dk_167 255 234 (dk_at dksX3_keep_1 5 rfl rfl)
theorem dX3_keep_32 : decode cX3_keep 32 = .ok (.aload_n 0, 1) := dk_42 (dk_at dksX3_keep_1 8 rfl rfl)
theorem dX3_keep_33 : decode cX3_keep 33 = .ok (.iconst 1, 1) := dk_4 (dk_at dksX3_keep_1 9 rfl rfl)
theorem dX3_keep_34 : decode cX3_keep 34 = .ok (.putfield 190, 3) := dk_181 0 190 (dk_at dksX3_keep_1 10 rfl rfl)
theorem dX3_keep_37 : decode cX3_keep 37 = .ok (.aload_n 0, 1) := dk_42 (dk_at dksX3_keep_1 13 rfl rfl)
theorem dX3_keep_38 : decode cX3_keep 38 = .ok (.getfield 7, 3) := dk_180 0 7 (dk_at dksX3_keep_1 14 rfl rfl)
theorem dX3_keep_41 : decode cX3_keep 41 = .ok (.bipush 13, 2) := dk_16 13 (dk_at dksX3_keep_1 17 rfl rfl)
theorem dX3_keep_43 : decode cX3_keep 43 = .ok (.iaload, 1) := dk_46 (dk_at dksX3_keep_1 19 rfl rfl)
theorem dX3_keep_44 : decode cX3_keep 44 = .ok (.ireturn, 1) := dk_172 (dk_at dksX3_keep_1 20 rfl rfl)
abbrev cX3_goBack : ByteArray := prog_19_method_61_code
def yX3_goBack : MethodName := ⟨RX3, "goBack", "()I"⟩
def dkwX3_goBack_2 : List UInt8 := [167, 255, 234, 42, 180, 0, 7, 16, 13, 46, 172]
abbrev dktX3_goBack_2 : List UInt8 := dkwX3_goBack_2 ++ []
def dkwX3_goBack_1 : List UInt8 := [27, 17, 1, 0, 162, 0, 21, 42, 180, 0, 7, 27, 42, 180, 0, 19, 27, 46, 79, 132, 1, 1]
abbrev dktX3_goBack_1 : List UInt8 := dkwX3_goBack_1 ++ dktX3_goBack_2
def dkwX3_goBack_0 : List UInt8 := [42, 3, 181, 0, 28, 42, 180, 0, 190, 154, 0, 9, 42, 4, 182, 0, 106, 172, 42, 182, 0, 116, 3, 60]
abbrev dktX3_goBack_0 : List UInt8 := dkwX3_goBack_0 ++ dktX3_goBack_1
theorem dksX3_goBack_0 : cX3_goBack.data.toList.drop 0 = dktX3_goBack_0 := by decide +kernel
theorem dksX3_goBack_1 : cX3_goBack.data.toList.drop 24 = dktX3_goBack_1 := dk_seg dksX3_goBack_0 24 rfl rfl
theorem dksX3_goBack_2 : cX3_goBack.data.toList.drop 46 = dktX3_goBack_2 := dk_seg dksX3_goBack_1 22 rfl rfl
theorem dX3_goBack_0 : decode cX3_goBack 0 = .ok (.aload_n 0, 1) := dk_42 (dk_at dksX3_goBack_0 0 rfl rfl)
theorem dX3_goBack_1 : decode cX3_goBack 1 = .ok (.iconst 0, 1) := dk_3 (dk_at dksX3_goBack_0 1 rfl rfl)
theorem dX3_goBack_2 : decode cX3_goBack 2 = .ok (.putfield 28, 3) := dk_181 0 28 (dk_at dksX3_goBack_0 2 rfl rfl)
theorem dX3_goBack_5 : decode cX3_goBack 5 = .ok (.aload_n 0, 1) := dk_42 (dk_at dksX3_goBack_0 5 rfl rfl)
theorem dX3_goBack_6 : decode cX3_goBack 6 = .ok (.getfield 190, 3) := dk_180 0 190 (dk_at dksX3_goBack_0 6 rfl rfl)
theorem dX3_goBack_9 : decode cX3_goBack 9 = .ok (.ifCond .ne 9, 3) := dk_154 0 9 (dk_at dksX3_goBack_0 9 rfl rfl)
theorem dX3_goBack_12 : decode cX3_goBack 12 = .ok (.aload_n 0, 1) := dk_42 (dk_at dksX3_goBack_0 12 rfl rfl)
theorem dX3_goBack_13 : decode cX3_goBack 13 = .ok (.iconst 1, 1) := dk_4 (dk_at dksX3_goBack_0 13 rfl rfl)
theorem dX3_goBack_14 : decode cX3_goBack 14 = .ok (.invokevirtual 106, 3) := dk_182 0 106 (dk_at dksX3_goBack_0 14 rfl rfl)
theorem dX3_goBack_17 : decode cX3_goBack 17 = .ok (.ireturn, 1) := dk_172 (dk_at dksX3_goBack_0 17 rfl rfl)
theorem dX3_goBack_18 : decode cX3_goBack 18 = .ok (.aload_n 0, 1) := dk_42 (dk_at dksX3_goBack_0 18 rfl rfl)
theorem dX3_goBack_19 : decode cX3_goBack 19 = .ok (.invokevirtual 116, 3) := dk_182 0 116 (dk_at dksX3_goBack_0 19 rfl rfl)
theorem dX3_goBack_22 : decode cX3_goBack 22 = .ok (.iconst 0, 1) := dk_3 (dk_at dksX3_goBack_0 22 rfl rfl)
theorem dX3_goBack_23 : decode cX3_goBack 23 = .ok (.istore_n 1, 1) := dk_60 (dk_at dksX3_goBack_0 23 rfl rfl)
theorem dX3_goBack_24 : decode cX3_goBack 24 = .ok (.iload_n 1, 1) := dk_27 (dk_at dksX3_goBack_1 0 rfl rfl)
theorem dX3_goBack_25 : decode cX3_goBack 25 = .ok (.sipush 256, 3) := dk_17 1 0 (dk_at dksX3_goBack_1 1 rfl rfl)
theorem dX3_goBack_28 : decode cX3_goBack 28 = .ok (.if_icmp .ge 21, 3) := dk_162 0 21 (dk_at dksX3_goBack_1 4 rfl rfl)
theorem dX3_goBack_31 : decode cX3_goBack 31 = .ok (.aload_n 0, 1) := dk_42 (dk_at dksX3_goBack_1 7 rfl rfl)
theorem dX3_goBack_32 : decode cX3_goBack 32 = .ok (.getfield 7, 3) := dk_180 0 7 (dk_at dksX3_goBack_1 8 rfl rfl)
theorem dX3_goBack_35 : decode cX3_goBack 35 = .ok (.iload_n 1, 1) := dk_27 (dk_at dksX3_goBack_1 11 rfl rfl)
theorem dX3_goBack_36 : decode cX3_goBack 36 = .ok (.aload_n 0, 1) := dk_42 (dk_at dksX3_goBack_1 12 rfl rfl)
theorem dX3_goBack_37 : decode cX3_goBack 37 = .ok (.getfield 19, 3) := dk_180 0 19 (dk_at dksX3_goBack_1 13 rfl rfl)
theorem dX3_goBack_40 : decode cX3_goBack 40 = .ok (.iload_n 1, 1) := dk_27 (dk_at dksX3_goBack_1 16 rfl rfl)
theorem dX3_goBack_41 : decode cX3_goBack 41 = .ok (.iaload, 1) := dk_46 (dk_at dksX3_goBack_1 17 rfl rfl)
theorem dX3_goBack_42 : decode cX3_goBack 42 = .ok (.iastore, 1) := dk_79 (dk_at dksX3_goBack_1 18 rfl rfl)
theorem dX3_goBack_43 : decode cX3_goBack 43 = .ok (.iinc 1 1, 3) := dk_132 1 1 (dk_at dksX3_goBack_1 19 rfl rfl)
theorem dX3_goBack_46 : decode cX3_goBack 46 = .ok (.goto (-22), 3) := dk_167 255 234 (dk_at dksX3_goBack_2 0 rfl rfl)
theorem dX3_goBack_49 : decode cX3_goBack 49 = .ok (.aload_n 0, 1) := dk_42 (dk_at dksX3_goBack_2 3 rfl rfl)
theorem dX3_goBack_50 : decode cX3_goBack 50 = .ok (.getfield 7, 3) := dk_180 0 7 (dk_at dksX3_goBack_2 4 rfl rfl)
theorem dX3_goBack_53 : decode cX3_goBack 53 = .ok (.bipush 13, 2) := dk_16 13 (dk_at dksX3_goBack_2 7 rfl rfl)
theorem dX3_goBack_55 : decode cX3_goBack 55 = .ok (.iaload, 1) := dk_46 (dk_at dksX3_goBack_2 9 rfl rfl)
theorem dX3_goBack_56 : decode cX3_goBack 56 = .ok (.ireturn, 1) := dk_172 (dk_at dksX3_goBack_2 10 rfl rfl)
abbrev cX3_undo : ByteArray := prog_19_method_62_code
def yX3_undo : MethodName := ⟨RX3, "undo", "()I"⟩
def dkwX3_undo_2 : List UInt8 := [17, 1, 0, 42, 180, 0, 36, 104, 27, 96, 46, 79, 132, 1, 1, 167, 255, 225, 42, 180, 0, 36, 172]
abbrev dktX3_undo_2 : List UInt8 := dkwX3_undo_2 ++ []
def dkwX3_undo_1 : List UInt8 := [100, 181, 0, 36, 3, 60, 27, 17, 1, 0, 162, 0, 30, 42, 180, 0, 7, 27, 42, 180, 0, 16]
abbrev dktX3_undo_1 : List UInt8 := dkwX3_undo_1 ++ dktX3_undo_2
def dkwX3_undo_0 : List UInt8 := [42, 3, 181, 0, 28, 42, 180, 0, 36, 154, 0, 9, 42, 4, 182, 0, 106, 172, 42, 89, 180, 0, 36, 4]
abbrev dktX3_undo_0 : List UInt8 := dkwX3_undo_0 ++ dktX3_undo_1
theorem dksX3_undo_0 : cX3_undo.data.toList.drop 0 = dktX3_undo_0 := by decide +kernel
theorem dksX3_undo_1 : cX3_undo.data.toList.drop 24 = dktX3_undo_1 := dk_seg dksX3_undo_0 24 rfl rfl
theorem dksX3_undo_2 : cX3_undo.data.toList.drop 46 = dktX3_undo_2 := dk_seg dksX3_undo_1 22 rfl rfl
theorem dX3_undo_0 : decode cX3_undo 0 = .ok (.aload_n 0, 1) := dk_42 (dk_at dksX3_undo_0 0 rfl rfl)
theorem dX3_undo_1 : decode cX3_undo 1 = .ok (.iconst 0, 1) := dk_3 (dk_at dksX3_undo_0 1 rfl rfl)
theorem dX3_undo_2 : decode cX3_undo 2 = .ok (.putfield 28, 3) := dk_181 0 28 (dk_at dksX3_undo_0 2 rfl rfl)
theorem dX3_undo_5 : decode cX3_undo 5 = .ok (.aload_n 0, 1) := dk_42 (dk_at dksX3_undo_0 5 rfl rfl)
theorem dX3_undo_6 : decode cX3_undo 6 = .ok (.getfield 36, 3) := dk_180 0 36 (dk_at dksX3_undo_0 6 rfl rfl)
theorem dX3_undo_9 : decode cX3_undo 9 = .ok (.ifCond .ne 9, 3) := dk_154 0 9 (dk_at dksX3_undo_0 9 rfl rfl)
theorem dX3_undo_12 : decode cX3_undo 12 = .ok (.aload_n 0, 1) := dk_42 (dk_at dksX3_undo_0 12 rfl rfl)
theorem dX3_undo_13 : decode cX3_undo 13 = .ok (.iconst 1, 1) := dk_4 (dk_at dksX3_undo_0 13 rfl rfl)
theorem dX3_undo_14 : decode cX3_undo 14 = .ok (.invokevirtual 106, 3) := dk_182 0 106 (dk_at dksX3_undo_0 14 rfl rfl)
theorem dX3_undo_17 : decode cX3_undo 17 = .ok (.ireturn, 1) := dk_172 (dk_at dksX3_undo_0 17 rfl rfl)
theorem dX3_undo_18 : decode cX3_undo 18 = .ok (.aload_n 0, 1) := dk_42 (dk_at dksX3_undo_0 18 rfl rfl)
theorem dX3_undo_19 : decode cX3_undo 19 = .ok (.dup, 1) := dk_89 (dk_at dksX3_undo_0 19 rfl rfl)
theorem dX3_undo_20 : decode cX3_undo 20 = .ok (.getfield 36, 3) := dk_180 0 36 (dk_at dksX3_undo_0 20 rfl rfl)
theorem dX3_undo_23 : decode cX3_undo 23 = .ok (.iconst 1, 1) := dk_4 (dk_at dksX3_undo_0 23 rfl rfl)
theorem dX3_undo_24 : decode cX3_undo 24 = .ok (.isub, 1) := dk_100 (dk_at dksX3_undo_1 0 rfl rfl)
theorem dX3_undo_25 : decode cX3_undo 25 = .ok (.putfield 36, 3) := dk_181 0 36 (dk_at dksX3_undo_1 1 rfl rfl)
theorem dX3_undo_28 : decode cX3_undo 28 = .ok (.iconst 0, 1) := dk_3 (dk_at dksX3_undo_1 4 rfl rfl)
theorem dX3_undo_29 : decode cX3_undo 29 = .ok (.istore_n 1, 1) := dk_60 (dk_at dksX3_undo_1 5 rfl rfl)
theorem dX3_undo_30 : decode cX3_undo 30 = .ok (.iload_n 1, 1) := dk_27 (dk_at dksX3_undo_1 6 rfl rfl)
theorem dX3_undo_31 : decode cX3_undo 31 = .ok (.sipush 256, 3) := dk_17 1 0 (dk_at dksX3_undo_1 7 rfl rfl)
theorem dX3_undo_34 : decode cX3_undo 34 = .ok (.if_icmp .ge 30, 3) := dk_162 0 30 (dk_at dksX3_undo_1 10 rfl rfl)
theorem dX3_undo_37 : decode cX3_undo 37 = .ok (.aload_n 0, 1) := dk_42 (dk_at dksX3_undo_1 13 rfl rfl)
theorem dX3_undo_38 : decode cX3_undo 38 = .ok (.getfield 7, 3) := dk_180 0 7 (dk_at dksX3_undo_1 14 rfl rfl)
theorem dX3_undo_41 : decode cX3_undo 41 = .ok (.iload_n 1, 1) := dk_27 (dk_at dksX3_undo_1 17 rfl rfl)
theorem dX3_undo_42 : decode cX3_undo 42 = .ok (.aload_n 0, 1) := dk_42 (dk_at dksX3_undo_1 18 rfl rfl)
theorem dX3_undo_43 : decode cX3_undo 43 = .ok (.getfield 16, 3) := dk_180 0 16 (dk_at dksX3_undo_1 19 rfl rfl)
theorem dX3_undo_46 : decode cX3_undo 46 = .ok (.sipush 256, 3) := dk_17 1 0 (dk_at dksX3_undo_2 0 rfl rfl)
theorem dX3_undo_49 : decode cX3_undo 49 = .ok (.aload_n 0, 1) := dk_42 (dk_at dksX3_undo_2 3 rfl rfl)
theorem dX3_undo_50 : decode cX3_undo 50 = .ok (.getfield 36, 3) := dk_180 0 36 (dk_at dksX3_undo_2 4 rfl rfl)
theorem dX3_undo_53 : decode cX3_undo 53 = .ok (.imul, 1) := dk_104 (dk_at dksX3_undo_2 7 rfl rfl)
theorem dX3_undo_54 : decode cX3_undo 54 = .ok (.iload_n 1, 1) := dk_27 (dk_at dksX3_undo_2 8 rfl rfl)
theorem dX3_undo_55 : decode cX3_undo 55 = .ok (.iadd, 1) := dk_96 (dk_at dksX3_undo_2 9 rfl rfl)
theorem dX3_undo_56 : decode cX3_undo 56 = .ok (.iaload, 1) := dk_46 (dk_at dksX3_undo_2 10 rfl rfl)
theorem dX3_undo_57 : decode cX3_undo 57 = .ok (.iastore, 1) := dk_79 (dk_at dksX3_undo_2 11 rfl rfl)
theorem dX3_undo_58 : decode cX3_undo 58 = .ok (.iinc 1 1, 3) := dk_132 1 1 (dk_at dksX3_undo_2 12 rfl rfl)
theorem dX3_undo_61 : decode cX3_undo 61 = .ok (.goto (-31), 3) := dk_167 255 225 (dk_at dksX3_undo_2 15 rfl rfl)
theorem dX3_undo_64 : decode cX3_undo 64 = .ok (.aload_n 0, 1) := dk_42 (dk_at dksX3_undo_2 18 rfl rfl)
theorem dX3_undo_65 : decode cX3_undo 65 = .ok (.getfield 36, 3) := dk_180 0 36 (dk_at dksX3_undo_2 19 rfl rfl)
theorem dX3_undo_68 : decode cX3_undo 68 = .ok (.ireturn, 1) := dk_172 (dk_at dksX3_undo_2 22 rfl rfl)
abbrev cX3_transfers : ByteArray := prog_19_method_63_code
def yX3_transfers : MethodName := ⟨RX3, "transfers", "()I"⟩
def dkwX3_transfers_0 : List UInt8 := [42, 3, 181, 0, 28, 42, 180, 0, 7, 16, 9, 46, 172]
abbrev dktX3_transfers_0 : List UInt8 := dkwX3_transfers_0 ++ []
theorem dksX3_transfers_0 : cX3_transfers.data.toList.drop 0 = dktX3_transfers_0 := by decide +kernel
theorem dX3_transfers_0 : decode cX3_transfers 0 = .ok (.aload_n 0, 1) := dk_42 (dk_at dksX3_transfers_0 0 rfl rfl)
theorem dX3_transfers_1 : decode cX3_transfers 1 = .ok (.iconst 0, 1) := dk_3 (dk_at dksX3_transfers_0 1 rfl rfl)
theorem dX3_transfers_2 : decode cX3_transfers 2 = .ok (.putfield 28, 3) := dk_181 0 28 (dk_at dksX3_transfers_0 2 rfl rfl)
theorem dX3_transfers_5 : decode cX3_transfers 5 = .ok (.aload_n 0, 1) := dk_42 (dk_at dksX3_transfers_0 5 rfl rfl)
theorem dX3_transfers_6 : decode cX3_transfers 6 = .ok (.getfield 7, 3) := dk_180 0 7 (dk_at dksX3_transfers_0 6 rfl rfl)
theorem dX3_transfers_9 : decode cX3_transfers 9 = .ok (.bipush 9, 2) := dk_16 9 (dk_at dksX3_transfers_0 9 rfl rfl)
theorem dX3_transfers_11 : decode cX3_transfers 11 = .ok (.iaload, 1) := dk_46 (dk_at dksX3_transfers_0 11 rfl rfl)
theorem dX3_transfers_12 : decode cX3_transfers 12 = .ok (.ireturn, 1) := dk_172 (dk_at dksX3_transfers_0 12 rfl rfl)
abbrev cX3_partners : ByteArray := prog_19_method_64_code
def yX3_partners : MethodName := ⟨RX3, "partners", "(I)I"⟩
def dkwX3_partners_1 : List UInt8 := [182, 0, 106, 172]
abbrev dktX3_partners_1 : List UInt8 := dkwX3_partners_1 ++ []
def dkwX3_partners_0 : List UInt8 := [42, 3, 181, 0, 28, 42, 27, 182, 0, 123, 153, 0, 11, 42, 27, 182, 0, 57, 167, 0, 8, 42, 4]
abbrev dktX3_partners_0 : List UInt8 := dkwX3_partners_0 ++ dktX3_partners_1
theorem dksX3_partners_0 : cX3_partners.data.toList.drop 0 = dktX3_partners_0 := by decide +kernel
theorem dksX3_partners_1 : cX3_partners.data.toList.drop 23 = dktX3_partners_1 := dk_seg dksX3_partners_0 23 rfl rfl
theorem dX3_partners_0 : decode cX3_partners 0 = .ok (.aload_n 0, 1) := dk_42 (dk_at dksX3_partners_0 0 rfl rfl)
theorem dX3_partners_1 : decode cX3_partners 1 = .ok (.iconst 0, 1) := dk_3 (dk_at dksX3_partners_0 1 rfl rfl)
theorem dX3_partners_2 : decode cX3_partners 2 = .ok (.putfield 28, 3) := dk_181 0 28 (dk_at dksX3_partners_0 2 rfl rfl)
theorem dX3_partners_5 : decode cX3_partners 5 = .ok (.aload_n 0, 1) := dk_42 (dk_at dksX3_partners_0 5 rfl rfl)
theorem dX3_partners_6 : decode cX3_partners 6 = .ok (.iload_n 1, 1) := dk_27 (dk_at dksX3_partners_0 6 rfl rfl)
theorem dX3_partners_7 : decode cX3_partners 7 = .ok (.invokevirtual 123, 3) := dk_182 0 123 (dk_at dksX3_partners_0 7 rfl rfl)
theorem dX3_partners_10 : decode cX3_partners 10 = .ok (.ifCond .eq 11, 3) := dk_153 0 11 (dk_at dksX3_partners_0 10 rfl rfl)
theorem dX3_partners_13 : decode cX3_partners 13 = .ok (.aload_n 0, 1) := dk_42 (dk_at dksX3_partners_0 13 rfl rfl)
theorem dX3_partners_14 : decode cX3_partners 14 = .ok (.iload_n 1, 1) := dk_27 (dk_at dksX3_partners_0 14 rfl rfl)
theorem dX3_partners_15 : decode cX3_partners 15 = .ok (.invokevirtual 57, 3) := dk_182 0 57 (dk_at dksX3_partners_0 15 rfl rfl)
theorem dX3_partners_18 : decode cX3_partners 18 = .ok (.goto 8, 3) := dk_167 0 8 (dk_at dksX3_partners_0 18 rfl rfl)
theorem dX3_partners_21 : decode cX3_partners 21 = .ok (.aload_n 0, 1) := dk_42 (dk_at dksX3_partners_0 21 rfl rfl)
theorem dX3_partners_22 : decode cX3_partners 22 = .ok (.iconst 1, 1) := dk_4 (dk_at dksX3_partners_0 22 rfl rfl)
theorem dX3_partners_23 : decode cX3_partners 23 = .ok (.invokevirtual 106, 3) := dk_182 0 106 (dk_at dksX3_partners_1 0 rfl rfl)
theorem dX3_partners_26 : decode cX3_partners 26 = .ok (.ireturn, 1) := dk_172 (dk_at dksX3_partners_1 3 rfl rfl)
abbrev cX3_share : ByteArray := prog_19_method_65_code
def yX3_share : MethodName := ⟨RX3, "share", "(II)I"⟩
def dkwX3_share_1 : List UInt8 := [182, 0, 54, 167, 0, 8, 42, 4, 182, 0, 106, 172]
abbrev dktX3_share_1 : List UInt8 := dkwX3_share_1 ++ []
def dkwX3_share_0 : List UInt8 := [42, 3, 181, 0, 28, 42, 27, 182, 0, 123, 153, 0, 19, 28, 184, 0, 103, 153, 0, 12, 42, 27, 28]
abbrev dktX3_share_0 : List UInt8 := dkwX3_share_0 ++ dktX3_share_1
theorem dksX3_share_0 : cX3_share.data.toList.drop 0 = dktX3_share_0 := by decide +kernel
theorem dksX3_share_1 : cX3_share.data.toList.drop 23 = dktX3_share_1 := dk_seg dksX3_share_0 23 rfl rfl
theorem dX3_share_0 : decode cX3_share 0 = .ok (.aload_n 0, 1) := dk_42 (dk_at dksX3_share_0 0 rfl rfl)
theorem dX3_share_1 : decode cX3_share 1 = .ok (.iconst 0, 1) := dk_3 (dk_at dksX3_share_0 1 rfl rfl)
theorem dX3_share_2 : decode cX3_share 2 = .ok (.putfield 28, 3) := dk_181 0 28 (dk_at dksX3_share_0 2 rfl rfl)
theorem dX3_share_5 : decode cX3_share 5 = .ok (.aload_n 0, 1) := dk_42 (dk_at dksX3_share_0 5 rfl rfl)
theorem dX3_share_6 : decode cX3_share 6 = .ok (.iload_n 1, 1) := dk_27 (dk_at dksX3_share_0 6 rfl rfl)
theorem dX3_share_7 : decode cX3_share 7 = .ok (.invokevirtual 123, 3) := dk_182 0 123 (dk_at dksX3_share_0 7 rfl rfl)
theorem dX3_share_10 : decode cX3_share 10 = .ok (.ifCond .eq 19, 3) := dk_153 0 19 (dk_at dksX3_share_0 10 rfl rfl)
theorem dX3_share_13 : decode cX3_share 13 = .ok (.iload_n 2, 1) := dk_28 (dk_at dksX3_share_0 13 rfl rfl)
theorem dX3_share_14 : decode cX3_share 14 = .ok (.invokestatic 103, 3) := dk_184 0 103 (dk_at dksX3_share_0 14 rfl rfl)
theorem dX3_share_17 : decode cX3_share 17 = .ok (.ifCond .eq 12, 3) := dk_153 0 12 (dk_at dksX3_share_0 17 rfl rfl)
theorem dX3_share_20 : decode cX3_share 20 = .ok (.aload_n 0, 1) := dk_42 (dk_at dksX3_share_0 20 rfl rfl)
theorem dX3_share_21 : decode cX3_share 21 = .ok (.iload_n 1, 1) := dk_27 (dk_at dksX3_share_0 21 rfl rfl)
theorem dX3_share_22 : decode cX3_share 22 = .ok (.iload_n 2, 1) := dk_28 (dk_at dksX3_share_0 22 rfl rfl)
theorem dX3_share_23 : decode cX3_share 23 = .ok (.invokevirtual 54, 3) := dk_182 0 54 (dk_at dksX3_share_1 0 rfl rfl)
theorem dX3_share_26 : decode cX3_share 26 = .ok (.goto 8, 3) := dk_167 0 8 (dk_at dksX3_share_1 3 rfl rfl)
theorem dX3_share_29 : decode cX3_share 29 = .ok (.aload_n 0, 1) := dk_42 (dk_at dksX3_share_1 6 rfl rfl)
theorem dX3_share_30 : decode cX3_share 30 = .ok (.iconst 1, 1) := dk_4 (dk_at dksX3_share_1 7 rfl rfl)
theorem dX3_share_31 : decode cX3_share 31 = .ok (.invokevirtual 106, 3) := dk_182 0 106 (dk_at dksX3_share_1 8 rfl rfl)
theorem dX3_share_34 : decode cX3_share 34 = .ok (.ireturn, 1) := dk_172 (dk_at dksX3_share_1 11 rfl rfl)
abbrev cX3_isUp : ByteArray := prog_19_method_66_code
def yX3_isUp : MethodName := ⟨RX3, "isUp", "(I)Z"⟩
def dkwX3_isUp_1 : List UInt8 := [4, 167, 0, 20, 3, 167, 0, 16, 42, 4, 182, 0, 106, 158, 0, 7, 4, 167, 0, 4, 3, 172]
abbrev dktX3_isUp_1 : List UInt8 := dkwX3_isUp_1 ++ []
def dkwX3_isUp_0 : List UInt8 := [42, 3, 181, 0, 28, 27, 184, 0, 146, 153, 0, 23, 42, 180, 0, 7, 3, 27, 96, 46, 4, 160, 0, 7]
abbrev dktX3_isUp_0 : List UInt8 := dkwX3_isUp_0 ++ dktX3_isUp_1
theorem dksX3_isUp_0 : cX3_isUp.data.toList.drop 0 = dktX3_isUp_0 := by decide +kernel
theorem dksX3_isUp_1 : cX3_isUp.data.toList.drop 24 = dktX3_isUp_1 := dk_seg dksX3_isUp_0 24 rfl rfl
theorem dX3_isUp_0 : decode cX3_isUp 0 = .ok (.aload_n 0, 1) := dk_42 (dk_at dksX3_isUp_0 0 rfl rfl)
theorem dX3_isUp_1 : decode cX3_isUp 1 = .ok (.iconst 0, 1) := dk_3 (dk_at dksX3_isUp_0 1 rfl rfl)
theorem dX3_isUp_2 : decode cX3_isUp 2 = .ok (.putfield 28, 3) := dk_181 0 28 (dk_at dksX3_isUp_0 2 rfl rfl)
theorem dX3_isUp_5 : decode cX3_isUp 5 = .ok (.iload_n 1, 1) := dk_27 (dk_at dksX3_isUp_0 5 rfl rfl)
theorem dX3_isUp_6 : decode cX3_isUp 6 = .ok (.invokestatic 146, 3) := dk_184 0 146 (dk_at dksX3_isUp_0 6 rfl rfl)
theorem dX3_isUp_9 : decode cX3_isUp 9 = .ok (.ifCond .eq 23, 3) := dk_153 0 23 (dk_at dksX3_isUp_0 9 rfl rfl)
theorem dX3_isUp_12 : decode cX3_isUp 12 = .ok (.aload_n 0, 1) := dk_42 (dk_at dksX3_isUp_0 12 rfl rfl)
theorem dX3_isUp_13 : decode cX3_isUp 13 = .ok (.getfield 7, 3) := dk_180 0 7 (dk_at dksX3_isUp_0 13 rfl rfl)
theorem dX3_isUp_16 : decode cX3_isUp 16 = .ok (.iconst 0, 1) := dk_3 (dk_at dksX3_isUp_0 16 rfl rfl)
theorem dX3_isUp_17 : decode cX3_isUp 17 = .ok (.iload_n 1, 1) := dk_27 (dk_at dksX3_isUp_0 17 rfl rfl)
theorem dX3_isUp_18 : decode cX3_isUp 18 = .ok (.iadd, 1) := dk_96 (dk_at dksX3_isUp_0 18 rfl rfl)
theorem dX3_isUp_19 : decode cX3_isUp 19 = .ok (.iaload, 1) := dk_46 (dk_at dksX3_isUp_0 19 rfl rfl)
theorem dX3_isUp_20 : decode cX3_isUp 20 = .ok (.iconst 1, 1) := dk_4 (dk_at dksX3_isUp_0 20 rfl rfl)
theorem dX3_isUp_21 : decode cX3_isUp 21 = .ok (.if_icmp .ne 7, 3) := dk_160 0 7 (dk_at dksX3_isUp_0 21 rfl rfl)
theorem dX3_isUp_24 : decode cX3_isUp 24 = .ok (.iconst 1, 1) := dk_4 (dk_at dksX3_isUp_1 0 rfl rfl)
theorem dX3_isUp_25 : decode cX3_isUp 25 = .ok (.goto 20, 3) := dk_167 0 20 (dk_at dksX3_isUp_1 1 rfl rfl)
theorem dX3_isUp_28 : decode cX3_isUp 28 = .ok (.iconst 0, 1) := dk_3 (dk_at dksX3_isUp_1 4 rfl rfl)
theorem dX3_isUp_29 : decode cX3_isUp 29 = .ok (.goto 16, 3) := dk_167 0 16 (dk_at dksX3_isUp_1 5 rfl rfl)
theorem dX3_isUp_32 : decode cX3_isUp 32 = .ok (.aload_n 0, 1) := dk_42 (dk_at dksX3_isUp_1 8 rfl rfl)
theorem dX3_isUp_33 : decode cX3_isUp 33 = .ok (.iconst 1, 1) := dk_4 (dk_at dksX3_isUp_1 9 rfl rfl)
theorem dX3_isUp_34 : decode cX3_isUp 34 = .ok (.invokevirtual 106, 3) := dk_182 0 106 (dk_at dksX3_isUp_1 10 rfl rfl)
theorem dX3_isUp_37 : decode cX3_isUp 37 = .ok (.ifCond .le 7, 3) := dk_158 0 7 (dk_at dksX3_isUp_1 13 rfl rfl)
theorem dX3_isUp_40 : decode cX3_isUp 40 = .ok (.iconst 1, 1) := dk_4 (dk_at dksX3_isUp_1 16 rfl rfl)
theorem dX3_isUp_41 : decode cX3_isUp 41 = .ok (.goto 4, 3) := dk_167 0 4 (dk_at dksX3_isUp_1 17 rfl rfl)
theorem dX3_isUp_44 : decode cX3_isUp 44 = .ok (.iconst 0, 1) := dk_3 (dk_at dksX3_isUp_1 20 rfl rfl)
theorem dX3_isUp_45 : decode cX3_isUp 45 = .ok (.ireturn, 1) := dk_172 (dk_at dksX3_isUp_1 21 rfl rfl)
abbrev cX3_amount : ByteArray := prog_19_method_67_code
def yX3_amount : MethodName := ⟨RX3, "amount", "(I)I"⟩
def dkwX3_amount_1 : List UInt8 := [4, 182, 0, 106, 172]
abbrev dktX3_amount_1 : List UInt8 := dkwX3_amount_1 ++ []
def dkwX3_amount_0 : List UInt8 := [42, 3, 181, 0, 28, 27, 184, 0, 103, 153, 0, 14, 42, 180, 0, 7, 8, 27, 96, 46, 167, 0, 8, 42]
abbrev dktX3_amount_0 : List UInt8 := dkwX3_amount_0 ++ dktX3_amount_1
theorem dksX3_amount_0 : cX3_amount.data.toList.drop 0 = dktX3_amount_0 := by decide +kernel
theorem dksX3_amount_1 : cX3_amount.data.toList.drop 24 = dktX3_amount_1 := dk_seg dksX3_amount_0 24 rfl rfl
theorem dX3_amount_0 : decode cX3_amount 0 = .ok (.aload_n 0, 1) := dk_42 (dk_at dksX3_amount_0 0 rfl rfl)
theorem dX3_amount_1 : decode cX3_amount 1 = .ok (.iconst 0, 1) := dk_3 (dk_at dksX3_amount_0 1 rfl rfl)
theorem dX3_amount_2 : decode cX3_amount 2 = .ok (.putfield 28, 3) := dk_181 0 28 (dk_at dksX3_amount_0 2 rfl rfl)
theorem dX3_amount_5 : decode cX3_amount 5 = .ok (.iload_n 1, 1) := dk_27 (dk_at dksX3_amount_0 5 rfl rfl)
theorem dX3_amount_6 : decode cX3_amount 6 = .ok (.invokestatic 103, 3) := dk_184 0 103 (dk_at dksX3_amount_0 6 rfl rfl)
theorem dX3_amount_9 : decode cX3_amount 9 = .ok (.ifCond .eq 14, 3) := dk_153 0 14 (dk_at dksX3_amount_0 9 rfl rfl)
theorem dX3_amount_12 : decode cX3_amount 12 = .ok (.aload_n 0, 1) := dk_42 (dk_at dksX3_amount_0 12 rfl rfl)
theorem dX3_amount_13 : decode cX3_amount 13 = .ok (.getfield 7, 3) := dk_180 0 7 (dk_at dksX3_amount_0 13 rfl rfl)
theorem dX3_amount_16 : decode cX3_amount 16 = .ok (.iconst 5, 1) := dk_8 (dk_at dksX3_amount_0 16 rfl rfl)
theorem dX3_amount_17 : decode cX3_amount 17 = .ok (.iload_n 1, 1) := dk_27 (dk_at dksX3_amount_0 17 rfl rfl)
theorem dX3_amount_18 : decode cX3_amount 18 = .ok (.iadd, 1) := dk_96 (dk_at dksX3_amount_0 18 rfl rfl)
theorem dX3_amount_19 : decode cX3_amount 19 = .ok (.iaload, 1) := dk_46 (dk_at dksX3_amount_0 19 rfl rfl)
theorem dX3_amount_20 : decode cX3_amount 20 = .ok (.goto 8, 3) := dk_167 0 8 (dk_at dksX3_amount_0 20 rfl rfl)
theorem dX3_amount_23 : decode cX3_amount 23 = .ok (.aload_n 0, 1) := dk_42 (dk_at dksX3_amount_0 23 rfl rfl)
theorem dX3_amount_24 : decode cX3_amount 24 = .ok (.iconst 1, 1) := dk_4 (dk_at dksX3_amount_1 0 rfl rfl)
theorem dX3_amount_25 : decode cX3_amount 25 = .ok (.invokevirtual 106, 3) := dk_182 0 106 (dk_at dksX3_amount_1 1 rfl rfl)
theorem dX3_amount_28 : decode cX3_amount 28 = .ok (.ireturn, 1) := dk_172 (dk_at dksX3_amount_1 4 rfl rfl)
abbrev cX3_amountByLog : ByteArray := prog_19_method_69_code
def yX3_amountByLog : MethodName := ⟨RX3, "amountByLog", "(I)I"⟩
def dkwX3_amountByLog_1 : List UInt8 := [182, 0, 106, 172]
abbrev dktX3_amountByLog_1 : List UInt8 := dkwX3_amountByLog_1 ++ []
def dkwX3_amountByLog_0 : List UInt8 := [42, 3, 181, 0, 28, 27, 184, 0, 103, 153, 0, 11, 42, 27, 182, 0, 193, 167, 0, 8, 42, 4]
abbrev dktX3_amountByLog_0 : List UInt8 := dkwX3_amountByLog_0 ++ dktX3_amountByLog_1
theorem dksX3_amountByLog_0 : cX3_amountByLog.data.toList.drop 0 = dktX3_amountByLog_0 := by decide +kernel
theorem dksX3_amountByLog_1 : cX3_amountByLog.data.toList.drop 22 = dktX3_amountByLog_1 := dk_seg dksX3_amountByLog_0 22 rfl rfl
theorem dX3_amountByLog_0 : decode cX3_amountByLog 0 = .ok (.aload_n 0, 1) := dk_42 (dk_at dksX3_amountByLog_0 0 rfl rfl)
theorem dX3_amountByLog_1 : decode cX3_amountByLog 1 = .ok (.iconst 0, 1) := dk_3 (dk_at dksX3_amountByLog_0 1 rfl rfl)
theorem dX3_amountByLog_2 : decode cX3_amountByLog 2 = .ok (.putfield 28, 3) := dk_181 0 28 (dk_at dksX3_amountByLog_0 2 rfl rfl)
theorem dX3_amountByLog_5 : decode cX3_amountByLog 5 = .ok (.iload_n 1, 1) := dk_27 (dk_at dksX3_amountByLog_0 5 rfl rfl)
theorem dX3_amountByLog_6 : decode cX3_amountByLog 6 = .ok (.invokestatic 103, 3) := dk_184 0 103 (dk_at dksX3_amountByLog_0 6 rfl rfl)
theorem dX3_amountByLog_9 : decode cX3_amountByLog 9 = .ok (.ifCond .eq 11, 3) := dk_153 0 11 (dk_at dksX3_amountByLog_0 9 rfl rfl)
theorem dX3_amountByLog_12 : decode cX3_amountByLog 12 = .ok (.aload_n 0, 1) := dk_42 (dk_at dksX3_amountByLog_0 12 rfl rfl)
theorem dX3_amountByLog_13 : decode cX3_amountByLog 13 = .ok (.iload_n 1, 1) := dk_27 (dk_at dksX3_amountByLog_0 13 rfl rfl)
theorem dX3_amountByLog_14 : decode cX3_amountByLog 14 = .ok (.invokevirtual 193, 3) := dk_182 0 193 (dk_at dksX3_amountByLog_0 14 rfl rfl)
theorem dX3_amountByLog_17 : decode cX3_amountByLog 17 = .ok (.goto 8, 3) := dk_167 0 8 (dk_at dksX3_amountByLog_0 17 rfl rfl)
theorem dX3_amountByLog_20 : decode cX3_amountByLog 20 = .ok (.aload_n 0, 1) := dk_42 (dk_at dksX3_amountByLog_0 20 rfl rfl)
theorem dX3_amountByLog_21 : decode cX3_amountByLog 21 = .ok (.iconst 1, 1) := dk_4 (dk_at dksX3_amountByLog_0 21 rfl rfl)
theorem dX3_amountByLog_22 : decode cX3_amountByLog 22 = .ok (.invokevirtual 106, 3) := dk_182 0 106 (dk_at dksX3_amountByLog_1 0 rfl rfl)
theorem dX3_amountByLog_25 : decode cX3_amountByLog 25 = .ok (.ireturn, 1) := dk_172 (dk_at dksX3_amountByLog_1 3 rfl rfl)
abbrev cX3_amountLogged : ByteArray := prog_19_method_68_code
def yX3_amountLogged : MethodName := ⟨RX3, "amountLogged", "(I)I"⟩
def dkwX3_amountLogged_2 : List UInt8 := [16, 8, 112, 27, 182, 0, 54, 167, 0, 4, 3, 96, 61, 132, 3, 1, 167, 255, 198, 28, 172]
abbrev dktX3_amountLogged_2 : List UInt8 := dkwX3_amountLogged_2 ++ []
def dkwX3_amountLogged_1 : List UInt8 := [16, 16, 27, 104, 96, 29, 96, 46, 54, 4, 28, 21, 4, 16, 8, 108, 4, 160, 0, 16, 42, 21, 4]
abbrev dktX3_amountLogged_1 : List UInt8 := dkwX3_amountLogged_1 ++ dktX3_amountLogged_2
def dkwX3_amountLogged_0 : List UInt8 := [16, 100, 61, 3, 62, 29, 42, 180, 0, 7, 16, 102, 27, 96, 46, 162, 0, 51, 42, 180, 0, 7, 16, 107]
abbrev dktX3_amountLogged_0 : List UInt8 := dkwX3_amountLogged_0 ++ dktX3_amountLogged_1
theorem dksX3_amountLogged_0 : cX3_amountLogged.data.toList.drop 0 = dktX3_amountLogged_0 := by decide +kernel
theorem dksX3_amountLogged_1 : cX3_amountLogged.data.toList.drop 24 = dktX3_amountLogged_1 := dk_seg dksX3_amountLogged_0 24 rfl rfl
theorem dksX3_amountLogged_2 : cX3_amountLogged.data.toList.drop 47 = dktX3_amountLogged_2 := dk_seg dksX3_amountLogged_1 23 rfl rfl
theorem dX3_amountLogged_0 : decode cX3_amountLogged 0 = .ok (.bipush 100, 2) := dk_16 100 (dk_at dksX3_amountLogged_0 0 rfl rfl)
theorem dX3_amountLogged_2 : decode cX3_amountLogged 2 = .ok (.istore_n 2, 1) := dk_61 (dk_at dksX3_amountLogged_0 2 rfl rfl)
theorem dX3_amountLogged_3 : decode cX3_amountLogged 3 = .ok (.iconst 0, 1) := dk_3 (dk_at dksX3_amountLogged_0 3 rfl rfl)
theorem dX3_amountLogged_4 : decode cX3_amountLogged 4 = .ok (.istore_n 3, 1) := dk_62 (dk_at dksX3_amountLogged_0 4 rfl rfl)
theorem dX3_amountLogged_5 : decode cX3_amountLogged 5 = .ok (.iload_n 3, 1) := dk_29 (dk_at dksX3_amountLogged_0 5 rfl rfl)
theorem dX3_amountLogged_6 : decode cX3_amountLogged 6 = .ok (.aload_n 0, 1) := dk_42 (dk_at dksX3_amountLogged_0 6 rfl rfl)
theorem dX3_amountLogged_7 : decode cX3_amountLogged 7 = .ok (.getfield 7, 3) := dk_180 0 7 (dk_at dksX3_amountLogged_0 7 rfl rfl)
theorem dX3_amountLogged_10 : decode cX3_amountLogged 10 = .ok (.bipush 102, 2) := dk_16 102 (dk_at dksX3_amountLogged_0 10 rfl rfl)
theorem dX3_amountLogged_12 : decode cX3_amountLogged 12 = .ok (.iload_n 1, 1) := dk_27 (dk_at dksX3_amountLogged_0 12 rfl rfl)
theorem dX3_amountLogged_13 : decode cX3_amountLogged 13 = .ok (.iadd, 1) := dk_96 (dk_at dksX3_amountLogged_0 13 rfl rfl)
theorem dX3_amountLogged_14 : decode cX3_amountLogged 14 = .ok (.iaload, 1) := dk_46 (dk_at dksX3_amountLogged_0 14 rfl rfl)
theorem dX3_amountLogged_15 : decode cX3_amountLogged 15 = .ok (.if_icmp .ge 51, 3) := dk_162 0 51 (dk_at dksX3_amountLogged_0 15 rfl rfl)
theorem dX3_amountLogged_18 : decode cX3_amountLogged 18 = .ok (.aload_n 0, 1) := dk_42 (dk_at dksX3_amountLogged_0 18 rfl rfl)
theorem dX3_amountLogged_19 : decode cX3_amountLogged 19 = .ok (.getfield 7, 3) := dk_180 0 7 (dk_at dksX3_amountLogged_0 19 rfl rfl)
theorem dX3_amountLogged_22 : decode cX3_amountLogged 22 = .ok (.bipush 107, 2) := dk_16 107 (dk_at dksX3_amountLogged_0 22 rfl rfl)
theorem dX3_amountLogged_24 : decode cX3_amountLogged 24 = .ok (.bipush 16, 2) := dk_16 16 (dk_at dksX3_amountLogged_1 0 rfl rfl)
theorem dX3_amountLogged_26 : decode cX3_amountLogged 26 = .ok (.iload_n 1, 1) := dk_27 (dk_at dksX3_amountLogged_1 2 rfl rfl)
theorem dX3_amountLogged_27 : decode cX3_amountLogged 27 = .ok (.imul, 1) := dk_104 (dk_at dksX3_amountLogged_1 3 rfl rfl)
theorem dX3_amountLogged_28 : decode cX3_amountLogged 28 = .ok (.iadd, 1) := dk_96 (dk_at dksX3_amountLogged_1 4 rfl rfl)
theorem dX3_amountLogged_29 : decode cX3_amountLogged 29 = .ok (.iload_n 3, 1) := dk_29 (dk_at dksX3_amountLogged_1 5 rfl rfl)
theorem dX3_amountLogged_30 : decode cX3_amountLogged 30 = .ok (.iadd, 1) := dk_96 (dk_at dksX3_amountLogged_1 6 rfl rfl)
theorem dX3_amountLogged_31 : decode cX3_amountLogged 31 = .ok (.iaload, 1) := dk_46 (dk_at dksX3_amountLogged_1 7 rfl rfl)
theorem dX3_amountLogged_32 : decode cX3_amountLogged 32 = .ok (.istore 4, 2) := dk_54 4 (dk_at dksX3_amountLogged_1 8 rfl rfl)
theorem dX3_amountLogged_34 : decode cX3_amountLogged 34 = .ok (.iload_n 2, 1) := dk_28 (dk_at dksX3_amountLogged_1 10 rfl rfl)
theorem dX3_amountLogged_35 : decode cX3_amountLogged 35 = .ok (.iload 4, 2) := dk_21 4 (dk_at dksX3_amountLogged_1 11 rfl rfl)
theorem dX3_amountLogged_37 : decode cX3_amountLogged 37 = .ok (.bipush 8, 2) := dk_16 8 (dk_at dksX3_amountLogged_1 13 rfl rfl)
theorem dX3_amountLogged_39 : decode cX3_amountLogged 39 = .ok (.idiv, 1) := dk_108 (dk_at dksX3_amountLogged_1 15 rfl rfl)
theorem dX3_amountLogged_40 : decode cX3_amountLogged 40 = .ok (.iconst 1, 1) := dk_4 (dk_at dksX3_amountLogged_1 16 rfl rfl)
theorem dX3_amountLogged_41 : decode cX3_amountLogged 41 = .ok (.if_icmp .ne 16, 3) := dk_160 0 16 (dk_at dksX3_amountLogged_1 17 rfl rfl)
theorem dX3_amountLogged_44 : decode cX3_amountLogged 44 = .ok (.aload_n 0, 1) := dk_42 (dk_at dksX3_amountLogged_1 20 rfl rfl)
theorem dX3_amountLogged_45 : decode cX3_amountLogged 45 = .ok (.iload 4, 2) := dk_21 4 (dk_at dksX3_amountLogged_1 21 rfl rfl)
theorem dX3_amountLogged_47 : decode cX3_amountLogged 47 = .ok (.bipush 8, 2) := dk_16 8 (dk_at dksX3_amountLogged_2 0 rfl rfl)
theorem dX3_amountLogged_49 : decode cX3_amountLogged 49 = .ok (.irem, 1) := dk_112 (dk_at dksX3_amountLogged_2 2 rfl rfl)
theorem dX3_amountLogged_50 : decode cX3_amountLogged 50 = .ok (.iload_n 1, 1) := dk_27 (dk_at dksX3_amountLogged_2 3 rfl rfl)
theorem dX3_amountLogged_51 : decode cX3_amountLogged 51 = .ok (.invokevirtual 54, 3) := dk_182 0 54 (dk_at dksX3_amountLogged_2 4 rfl rfl)
theorem dX3_amountLogged_54 : decode cX3_amountLogged 54 = .ok (.goto 4, 3) := dk_167 0 4 (dk_at dksX3_amountLogged_2 7 rfl rfl)
theorem dX3_amountLogged_57 : decode cX3_amountLogged 57 = .ok (.iconst 0, 1) := dk_3 (dk_at dksX3_amountLogged_2 10 rfl rfl)
theorem dX3_amountLogged_58 : decode cX3_amountLogged 58 = .ok (.iadd, 1) := dk_96 (dk_at dksX3_amountLogged_2 11 rfl rfl)
theorem dX3_amountLogged_59 : decode cX3_amountLogged 59 = .ok (.istore_n 2, 1) := dk_61 (dk_at dksX3_amountLogged_2 12 rfl rfl)
theorem dX3_amountLogged_60 : decode cX3_amountLogged 60 = .ok (.iinc 3 1, 3) := dk_132 3 1 (dk_at dksX3_amountLogged_2 13 rfl rfl)
theorem dX3_amountLogged_63 : decode cX3_amountLogged 63 = .ok (.goto (-58), 3) := dk_167 255 198 (dk_at dksX3_amountLogged_2 16 rfl rfl)
theorem dX3_amountLogged_66 : decode cX3_amountLogged 66 = .ok (.iload_n 2, 1) := dk_28 (dk_at dksX3_amountLogged_2 19 rfl rfl)
theorem dX3_amountLogged_67 : decode cX3_amountLogged 67 = .ok (.ireturn, 1) := dk_172 (dk_at dksX3_amountLogged_2 20 rfl rfl)
abbrev cX3_state : ByteArray := prog_19_method_70_code
def yX3_state : MethodName := ⟨RX3, "state", "(II)I"⟩
def dkwX3_state_1 : List UInt8 := [182, 0, 51, 167, 0, 8, 42, 4, 182, 0, 106, 172]
abbrev dktX3_state_1 : List UInt8 := dkwX3_state_1 ++ []
def dkwX3_state_0 : List UInt8 := [42, 3, 181, 0, 28, 27, 184, 0, 103, 153, 0, 20, 42, 28, 182, 0, 123, 153, 0, 12, 42, 27, 28]
abbrev dktX3_state_0 : List UInt8 := dkwX3_state_0 ++ dktX3_state_1
theorem dksX3_state_0 : cX3_state.data.toList.drop 0 = dktX3_state_0 := by decide +kernel
theorem dksX3_state_1 : cX3_state.data.toList.drop 23 = dktX3_state_1 := dk_seg dksX3_state_0 23 rfl rfl
theorem dX3_state_0 : decode cX3_state 0 = .ok (.aload_n 0, 1) := dk_42 (dk_at dksX3_state_0 0 rfl rfl)
theorem dX3_state_1 : decode cX3_state 1 = .ok (.iconst 0, 1) := dk_3 (dk_at dksX3_state_0 1 rfl rfl)
theorem dX3_state_2 : decode cX3_state 2 = .ok (.putfield 28, 3) := dk_181 0 28 (dk_at dksX3_state_0 2 rfl rfl)
theorem dX3_state_5 : decode cX3_state 5 = .ok (.iload_n 1, 1) := dk_27 (dk_at dksX3_state_0 5 rfl rfl)
theorem dX3_state_6 : decode cX3_state 6 = .ok (.invokestatic 103, 3) := dk_184 0 103 (dk_at dksX3_state_0 6 rfl rfl)
theorem dX3_state_9 : decode cX3_state 9 = .ok (.ifCond .eq 20, 3) := dk_153 0 20 (dk_at dksX3_state_0 9 rfl rfl)
theorem dX3_state_12 : decode cX3_state 12 = .ok (.aload_n 0, 1) := dk_42 (dk_at dksX3_state_0 12 rfl rfl)
theorem dX3_state_13 : decode cX3_state 13 = .ok (.iload_n 2, 1) := dk_28 (dk_at dksX3_state_0 13 rfl rfl)
theorem dX3_state_14 : decode cX3_state 14 = .ok (.invokevirtual 123, 3) := dk_182 0 123 (dk_at dksX3_state_0 14 rfl rfl)
theorem dX3_state_17 : decode cX3_state 17 = .ok (.ifCond .eq 12, 3) := dk_153 0 12 (dk_at dksX3_state_0 17 rfl rfl)
theorem dX3_state_20 : decode cX3_state 20 = .ok (.aload_n 0, 1) := dk_42 (dk_at dksX3_state_0 20 rfl rfl)
theorem dX3_state_21 : decode cX3_state 21 = .ok (.iload_n 1, 1) := dk_27 (dk_at dksX3_state_0 21 rfl rfl)
theorem dX3_state_22 : decode cX3_state 22 = .ok (.iload_n 2, 1) := dk_28 (dk_at dksX3_state_0 22 rfl rfl)
theorem dX3_state_23 : decode cX3_state 23 = .ok (.invokevirtual 51, 3) := dk_182 0 51 (dk_at dksX3_state_1 0 rfl rfl)
theorem dX3_state_26 : decode cX3_state 26 = .ok (.goto 8, 3) := dk_167 0 8 (dk_at dksX3_state_1 3 rfl rfl)
theorem dX3_state_29 : decode cX3_state 29 = .ok (.aload_n 0, 1) := dk_42 (dk_at dksX3_state_1 6 rfl rfl)
theorem dX3_state_30 : decode cX3_state 30 = .ok (.iconst 1, 1) := dk_4 (dk_at dksX3_state_1 7 rfl rfl)
theorem dX3_state_31 : decode cX3_state 31 = .ok (.invokevirtual 106, 3) := dk_182 0 106 (dk_at dksX3_state_1 8 rfl rfl)
theorem dX3_state_34 : decode cX3_state 34 = .ok (.ireturn, 1) := dk_172 (dk_at dksX3_state_1 11 rfl rfl)
abbrev cX3_stateByLog : ByteArray := prog_19_method_72_code
def yX3_stateByLog : MethodName := ⟨RX3, "stateByLog", "(II)I"⟩
def dkwX3_stateByLog_1 : List UInt8 := [182, 0, 196, 167, 0, 8, 42, 4, 182, 0, 106, 172]
abbrev dktX3_stateByLog_1 : List UInt8 := dkwX3_stateByLog_1 ++ []
def dkwX3_stateByLog_0 : List UInt8 := [42, 3, 181, 0, 28, 27, 184, 0, 103, 153, 0, 20, 42, 28, 182, 0, 123, 153, 0, 12, 42, 27, 28]
abbrev dktX3_stateByLog_0 : List UInt8 := dkwX3_stateByLog_0 ++ dktX3_stateByLog_1
theorem dksX3_stateByLog_0 : cX3_stateByLog.data.toList.drop 0 = dktX3_stateByLog_0 := by decide +kernel
theorem dksX3_stateByLog_1 : cX3_stateByLog.data.toList.drop 23 = dktX3_stateByLog_1 := dk_seg dksX3_stateByLog_0 23 rfl rfl
theorem dX3_stateByLog_0 : decode cX3_stateByLog 0 = .ok (.aload_n 0, 1) := dk_42 (dk_at dksX3_stateByLog_0 0 rfl rfl)
theorem dX3_stateByLog_1 : decode cX3_stateByLog 1 = .ok (.iconst 0, 1) := dk_3 (dk_at dksX3_stateByLog_0 1 rfl rfl)
theorem dX3_stateByLog_2 : decode cX3_stateByLog 2 = .ok (.putfield 28, 3) := dk_181 0 28 (dk_at dksX3_stateByLog_0 2 rfl rfl)
theorem dX3_stateByLog_5 : decode cX3_stateByLog 5 = .ok (.iload_n 1, 1) := dk_27 (dk_at dksX3_stateByLog_0 5 rfl rfl)
theorem dX3_stateByLog_6 : decode cX3_stateByLog 6 = .ok (.invokestatic 103, 3) := dk_184 0 103 (dk_at dksX3_stateByLog_0 6 rfl rfl)
theorem dX3_stateByLog_9 : decode cX3_stateByLog 9 = .ok (.ifCond .eq 20, 3) := dk_153 0 20 (dk_at dksX3_stateByLog_0 9 rfl rfl)
theorem dX3_stateByLog_12 : decode cX3_stateByLog 12 = .ok (.aload_n 0, 1) := dk_42 (dk_at dksX3_stateByLog_0 12 rfl rfl)
theorem dX3_stateByLog_13 : decode cX3_stateByLog 13 = .ok (.iload_n 2, 1) := dk_28 (dk_at dksX3_stateByLog_0 13 rfl rfl)
theorem dX3_stateByLog_14 : decode cX3_stateByLog 14 = .ok (.invokevirtual 123, 3) := dk_182 0 123 (dk_at dksX3_stateByLog_0 14 rfl rfl)
theorem dX3_stateByLog_17 : decode cX3_stateByLog 17 = .ok (.ifCond .eq 12, 3) := dk_153 0 12 (dk_at dksX3_stateByLog_0 17 rfl rfl)
theorem dX3_stateByLog_20 : decode cX3_stateByLog 20 = .ok (.aload_n 0, 1) := dk_42 (dk_at dksX3_stateByLog_0 20 rfl rfl)
theorem dX3_stateByLog_21 : decode cX3_stateByLog 21 = .ok (.iload_n 1, 1) := dk_27 (dk_at dksX3_stateByLog_0 21 rfl rfl)
theorem dX3_stateByLog_22 : decode cX3_stateByLog 22 = .ok (.iload_n 2, 1) := dk_28 (dk_at dksX3_stateByLog_0 22 rfl rfl)
theorem dX3_stateByLog_23 : decode cX3_stateByLog 23 = .ok (.invokevirtual 196, 3) := dk_182 0 196 (dk_at dksX3_stateByLog_1 0 rfl rfl)
theorem dX3_stateByLog_26 : decode cX3_stateByLog 26 = .ok (.goto 8, 3) := dk_167 0 8 (dk_at dksX3_stateByLog_1 3 rfl rfl)
theorem dX3_stateByLog_29 : decode cX3_stateByLog 29 = .ok (.aload_n 0, 1) := dk_42 (dk_at dksX3_stateByLog_1 6 rfl rfl)
theorem dX3_stateByLog_30 : decode cX3_stateByLog 30 = .ok (.iconst 1, 1) := dk_4 (dk_at dksX3_stateByLog_1 7 rfl rfl)
theorem dX3_stateByLog_31 : decode cX3_stateByLog 31 = .ok (.invokevirtual 106, 3) := dk_182 0 106 (dk_at dksX3_stateByLog_1 8 rfl rfl)
theorem dX3_stateByLog_34 : decode cX3_stateByLog 34 = .ok (.ireturn, 1) := dk_172 (dk_at dksX3_stateByLog_1 11 rfl rfl)
abbrev cX3_stateLogged : ByteArray := prog_19_method_71_code
def yX3_stateLogged : MethodName := ⟨RX3, "stateLogged", "(II)I"⟩
def dkwX3_stateLogged_3 : List UInt8 := [132, 4, 1, 167, 255, 188, 29, 172]
abbrev dktX3_stateLogged_3 : List UInt8 := dkwX3_stateLogged_3 ++ []
def dkwX3_stateLogged_2 : List UInt8 := [167, 0, 23, 21, 5, 16, 8, 108, 7, 160, 0, 7, 4, 167, 0, 10, 21, 5, 16, 8, 108, 4, 96, 62]
abbrev dktX3_stateLogged_2 : List UInt8 := dkwX3_stateLogged_2 ++ dktX3_stateLogged_3
def dkwX3_stateLogged_1 : List UInt8 := [16, 107, 16, 16, 27, 104, 96, 21, 4, 96, 46, 54, 5, 21, 5, 16, 8, 112, 28, 159, 0, 7, 29]
abbrev dktX3_stateLogged_1 : List UInt8 := dkwX3_stateLogged_1 ++ dktX3_stateLogged_2
def dkwX3_stateLogged_0 : List UInt8 := [3, 62, 3, 54, 4, 21, 4, 42, 180, 0, 7, 16, 102, 27, 96, 46, 162, 0, 60, 42, 180, 0, 7]
abbrev dktX3_stateLogged_0 : List UInt8 := dkwX3_stateLogged_0 ++ dktX3_stateLogged_1
theorem dksX3_stateLogged_0 : cX3_stateLogged.data.toList.drop 0 = dktX3_stateLogged_0 := by decide +kernel
theorem dksX3_stateLogged_1 : cX3_stateLogged.data.toList.drop 23 = dktX3_stateLogged_1 := dk_seg dksX3_stateLogged_0 23 rfl rfl
theorem dksX3_stateLogged_2 : cX3_stateLogged.data.toList.drop 46 = dktX3_stateLogged_2 := dk_seg dksX3_stateLogged_1 23 rfl rfl
theorem dksX3_stateLogged_3 : cX3_stateLogged.data.toList.drop 70 = dktX3_stateLogged_3 := dk_seg dksX3_stateLogged_2 24 rfl rfl
theorem dX3_stateLogged_0 : decode cX3_stateLogged 0 = .ok (.iconst 0, 1) := dk_3 (dk_at dksX3_stateLogged_0 0 rfl rfl)
theorem dX3_stateLogged_1 : decode cX3_stateLogged 1 = .ok (.istore_n 3, 1) := dk_62 (dk_at dksX3_stateLogged_0 1 rfl rfl)
theorem dX3_stateLogged_2 : decode cX3_stateLogged 2 = .ok (.iconst 0, 1) := dk_3 (dk_at dksX3_stateLogged_0 2 rfl rfl)
theorem dX3_stateLogged_3 : decode cX3_stateLogged 3 = .ok (.istore 4, 2) := dk_54 4 (dk_at dksX3_stateLogged_0 3 rfl rfl)
theorem dX3_stateLogged_5 : decode cX3_stateLogged 5 = .ok (.iload 4, 2) := dk_21 4 (dk_at dksX3_stateLogged_0 5 rfl rfl)
theorem dX3_stateLogged_7 : decode cX3_stateLogged 7 = .ok (.aload_n 0, 1) := dk_42 (dk_at dksX3_stateLogged_0 7 rfl rfl)
theorem dX3_stateLogged_8 : decode cX3_stateLogged 8 = .ok (.getfield 7, 3) := dk_180 0 7 (dk_at dksX3_stateLogged_0 8 rfl rfl)
theorem dX3_stateLogged_11 : decode cX3_stateLogged 11 = .ok (.bipush 102, 2) := dk_16 102 (dk_at dksX3_stateLogged_0 11 rfl rfl)
theorem dX3_stateLogged_13 : decode cX3_stateLogged 13 = .ok (.iload_n 1, 1) := dk_27 (dk_at dksX3_stateLogged_0 13 rfl rfl)
theorem dX3_stateLogged_14 : decode cX3_stateLogged 14 = .ok (.iadd, 1) := dk_96 (dk_at dksX3_stateLogged_0 14 rfl rfl)
theorem dX3_stateLogged_15 : decode cX3_stateLogged 15 = .ok (.iaload, 1) := dk_46 (dk_at dksX3_stateLogged_0 15 rfl rfl)
theorem dX3_stateLogged_16 : decode cX3_stateLogged 16 = .ok (.if_icmp .ge 60, 3) := dk_162 0 60 (dk_at dksX3_stateLogged_0 16 rfl rfl)
theorem dX3_stateLogged_19 : decode cX3_stateLogged 19 = .ok (.aload_n 0, 1) := dk_42 (dk_at dksX3_stateLogged_0 19 rfl rfl)
theorem dX3_stateLogged_20 : decode cX3_stateLogged 20 = .ok (.getfield 7, 3) := dk_180 0 7 (dk_at dksX3_stateLogged_0 20 rfl rfl)
theorem dX3_stateLogged_23 : decode cX3_stateLogged 23 = .ok (.bipush 107, 2) := dk_16 107 (dk_at dksX3_stateLogged_1 0 rfl rfl)
theorem dX3_stateLogged_25 : decode cX3_stateLogged 25 = .ok (.bipush 16, 2) := dk_16 16 (dk_at dksX3_stateLogged_1 2 rfl rfl)
theorem dX3_stateLogged_27 : decode cX3_stateLogged 27 = .ok (.iload_n 1, 1) := dk_27 (dk_at dksX3_stateLogged_1 4 rfl rfl)
theorem dX3_stateLogged_28 : decode cX3_stateLogged 28 = .ok (.imul, 1) := dk_104 (dk_at dksX3_stateLogged_1 5 rfl rfl)
theorem dX3_stateLogged_29 : decode cX3_stateLogged 29 = .ok (.iadd, 1) := dk_96 (dk_at dksX3_stateLogged_1 6 rfl rfl)
theorem dX3_stateLogged_30 : decode cX3_stateLogged 30 = .ok (.iload 4, 2) := dk_21 4 (dk_at dksX3_stateLogged_1 7 rfl rfl)
theorem dX3_stateLogged_32 : decode cX3_stateLogged 32 = .ok (.iadd, 1) := dk_96 (dk_at dksX3_stateLogged_1 9 rfl rfl)
theorem dX3_stateLogged_33 : decode cX3_stateLogged 33 = .ok (.iaload, 1) := dk_46 (dk_at dksX3_stateLogged_1 10 rfl rfl)
theorem dX3_stateLogged_34 : decode cX3_stateLogged 34 = .ok (.istore 5, 2) := dk_54 5 (dk_at dksX3_stateLogged_1 11 rfl rfl)
theorem dX3_stateLogged_36 : decode cX3_stateLogged 36 = .ok (.iload 5, 2) := dk_21 5 (dk_at dksX3_stateLogged_1 13 rfl rfl)
theorem dX3_stateLogged_38 : decode cX3_stateLogged 38 = .ok (.bipush 8, 2) := dk_16 8 (dk_at dksX3_stateLogged_1 15 rfl rfl)
theorem dX3_stateLogged_40 : decode cX3_stateLogged 40 = .ok (.irem, 1) := dk_112 (dk_at dksX3_stateLogged_1 17 rfl rfl)
theorem dX3_stateLogged_41 : decode cX3_stateLogged 41 = .ok (.iload_n 2, 1) := dk_28 (dk_at dksX3_stateLogged_1 18 rfl rfl)
theorem dX3_stateLogged_42 : decode cX3_stateLogged 42 = .ok (.if_icmp .eq 7, 3) := dk_159 0 7 (dk_at dksX3_stateLogged_1 19 rfl rfl)
theorem dX3_stateLogged_45 : decode cX3_stateLogged 45 = .ok (.iload_n 3, 1) := dk_29 (dk_at dksX3_stateLogged_1 22 rfl rfl)
theorem dX3_stateLogged_46 : decode cX3_stateLogged 46 = .ok (.goto 23, 3) := dk_167 0 23 (dk_at dksX3_stateLogged_2 0 rfl rfl)
theorem dX3_stateLogged_49 : decode cX3_stateLogged 49 = .ok (.iload 5, 2) := dk_21 5 (dk_at dksX3_stateLogged_2 3 rfl rfl)
theorem dX3_stateLogged_51 : decode cX3_stateLogged 51 = .ok (.bipush 8, 2) := dk_16 8 (dk_at dksX3_stateLogged_2 5 rfl rfl)
theorem dX3_stateLogged_53 : decode cX3_stateLogged 53 = .ok (.idiv, 1) := dk_108 (dk_at dksX3_stateLogged_2 7 rfl rfl)
theorem dX3_stateLogged_54 : decode cX3_stateLogged 54 = .ok (.iconst 4, 1) := dk_7 (dk_at dksX3_stateLogged_2 8 rfl rfl)
theorem dX3_stateLogged_55 : decode cX3_stateLogged 55 = .ok (.if_icmp .ne 7, 3) := dk_160 0 7 (dk_at dksX3_stateLogged_2 9 rfl rfl)
theorem dX3_stateLogged_58 : decode cX3_stateLogged 58 = .ok (.iconst 1, 1) := dk_4 (dk_at dksX3_stateLogged_2 12 rfl rfl)
theorem dX3_stateLogged_59 : decode cX3_stateLogged 59 = .ok (.goto 10, 3) := dk_167 0 10 (dk_at dksX3_stateLogged_2 13 rfl rfl)
theorem dX3_stateLogged_62 : decode cX3_stateLogged 62 = .ok (.iload 5, 2) := dk_21 5 (dk_at dksX3_stateLogged_2 16 rfl rfl)
theorem dX3_stateLogged_64 : decode cX3_stateLogged 64 = .ok (.bipush 8, 2) := dk_16 8 (dk_at dksX3_stateLogged_2 18 rfl rfl)
theorem dX3_stateLogged_66 : decode cX3_stateLogged 66 = .ok (.idiv, 1) := dk_108 (dk_at dksX3_stateLogged_2 20 rfl rfl)
theorem dX3_stateLogged_67 : decode cX3_stateLogged 67 = .ok (.iconst 1, 1) := dk_4 (dk_at dksX3_stateLogged_2 21 rfl rfl)
theorem dX3_stateLogged_68 : decode cX3_stateLogged 68 = .ok (.iadd, 1) := dk_96 (dk_at dksX3_stateLogged_2 22 rfl rfl)
theorem dX3_stateLogged_69 : decode cX3_stateLogged 69 = .ok (.istore_n 3, 1) := dk_62 (dk_at dksX3_stateLogged_2 23 rfl rfl)
theorem dX3_stateLogged_70 : decode cX3_stateLogged 70 = .ok (.iinc 4 1, 3) := dk_132 4 1 (dk_at dksX3_stateLogged_3 0 rfl rfl)
theorem dX3_stateLogged_73 : decode cX3_stateLogged 73 = .ok (.goto (-68), 3) := dk_167 255 188 (dk_at dksX3_stateLogged_3 3 rfl rfl)
theorem dX3_stateLogged_76 : decode cX3_stateLogged 76 = .ok (.iload_n 3, 1) := dk_29 (dk_at dksX3_stateLogged_3 6 rfl rfl)
theorem dX3_stateLogged_77 : decode cX3_stateLogged 77 = .ok (.ireturn, 1) := dk_172 (dk_at dksX3_stateLogged_3 7 rfl rfl)
abbrev cX3_inDoubt : ByteArray := prog_19_method_74_code
def yX3_inDoubt : MethodName := ⟨RX3, "inDoubt", "(I)I"⟩
def dkwX3_inDoubt_1 : List UInt8 := [182, 0, 106, 172]
abbrev dktX3_inDoubt_1 : List UInt8 := dkwX3_inDoubt_1 ++ []
def dkwX3_inDoubt_0 : List UInt8 := [42, 3, 181, 0, 28, 27, 184, 0, 103, 153, 0, 11, 42, 27, 182, 0, 199, 167, 0, 8, 42, 4]
abbrev dktX3_inDoubt_0 : List UInt8 := dkwX3_inDoubt_0 ++ dktX3_inDoubt_1
theorem dksX3_inDoubt_0 : cX3_inDoubt.data.toList.drop 0 = dktX3_inDoubt_0 := by decide +kernel
theorem dksX3_inDoubt_1 : cX3_inDoubt.data.toList.drop 22 = dktX3_inDoubt_1 := dk_seg dksX3_inDoubt_0 22 rfl rfl
theorem dX3_inDoubt_0 : decode cX3_inDoubt 0 = .ok (.aload_n 0, 1) := dk_42 (dk_at dksX3_inDoubt_0 0 rfl rfl)
theorem dX3_inDoubt_1 : decode cX3_inDoubt 1 = .ok (.iconst 0, 1) := dk_3 (dk_at dksX3_inDoubt_0 1 rfl rfl)
theorem dX3_inDoubt_2 : decode cX3_inDoubt 2 = .ok (.putfield 28, 3) := dk_181 0 28 (dk_at dksX3_inDoubt_0 2 rfl rfl)
theorem dX3_inDoubt_5 : decode cX3_inDoubt 5 = .ok (.iload_n 1, 1) := dk_27 (dk_at dksX3_inDoubt_0 5 rfl rfl)
theorem dX3_inDoubt_6 : decode cX3_inDoubt 6 = .ok (.invokestatic 103, 3) := dk_184 0 103 (dk_at dksX3_inDoubt_0 6 rfl rfl)
theorem dX3_inDoubt_9 : decode cX3_inDoubt 9 = .ok (.ifCond .eq 11, 3) := dk_153 0 11 (dk_at dksX3_inDoubt_0 9 rfl rfl)
theorem dX3_inDoubt_12 : decode cX3_inDoubt 12 = .ok (.aload_n 0, 1) := dk_42 (dk_at dksX3_inDoubt_0 12 rfl rfl)
theorem dX3_inDoubt_13 : decode cX3_inDoubt 13 = .ok (.iload_n 1, 1) := dk_27 (dk_at dksX3_inDoubt_0 13 rfl rfl)
theorem dX3_inDoubt_14 : decode cX3_inDoubt 14 = .ok (.invokevirtual 199, 3) := dk_182 0 199 (dk_at dksX3_inDoubt_0 14 rfl rfl)
theorem dX3_inDoubt_17 : decode cX3_inDoubt 17 = .ok (.goto 8, 3) := dk_167 0 8 (dk_at dksX3_inDoubt_0 17 rfl rfl)
theorem dX3_inDoubt_20 : decode cX3_inDoubt 20 = .ok (.aload_n 0, 1) := dk_42 (dk_at dksX3_inDoubt_0 20 rfl rfl)
theorem dX3_inDoubt_21 : decode cX3_inDoubt 21 = .ok (.iconst 1, 1) := dk_4 (dk_at dksX3_inDoubt_0 21 rfl rfl)
theorem dX3_inDoubt_22 : decode cX3_inDoubt 22 = .ok (.invokevirtual 106, 3) := dk_182 0 106 (dk_at dksX3_inDoubt_1 0 rfl rfl)
theorem dX3_inDoubt_25 : decode cX3_inDoubt 25 = .ok (.ireturn, 1) := dk_172 (dk_at dksX3_inDoubt_1 3 rfl rfl)
abbrev cX3_doubts : ByteArray := prog_19_method_73_code
def yX3_doubts : MethodName := ⟨RX3, "doubts", "(I)I"⟩
def dkwX3_doubts_1 : List UInt8 := [160, 0, 7, 4, 167, 0, 4, 3, 96, 61, 132, 3, 1, 167, 255, 224, 28, 172]
abbrev dktX3_doubts_1 : List UInt8 := dkwX3_doubts_1 ++ []
def dkwX3_doubts_0 : List UInt8 := [3, 61, 3, 62, 29, 42, 180, 0, 7, 16, 9, 46, 162, 0, 27, 28, 42, 27, 29, 182, 0, 51, 4]
abbrev dktX3_doubts_0 : List UInt8 := dkwX3_doubts_0 ++ dktX3_doubts_1
theorem dksX3_doubts_0 : cX3_doubts.data.toList.drop 0 = dktX3_doubts_0 := by decide +kernel
theorem dksX3_doubts_1 : cX3_doubts.data.toList.drop 23 = dktX3_doubts_1 := dk_seg dksX3_doubts_0 23 rfl rfl
theorem dX3_doubts_0 : decode cX3_doubts 0 = .ok (.iconst 0, 1) := dk_3 (dk_at dksX3_doubts_0 0 rfl rfl)
theorem dX3_doubts_1 : decode cX3_doubts 1 = .ok (.istore_n 2, 1) := dk_61 (dk_at dksX3_doubts_0 1 rfl rfl)
theorem dX3_doubts_2 : decode cX3_doubts 2 = .ok (.iconst 0, 1) := dk_3 (dk_at dksX3_doubts_0 2 rfl rfl)
theorem dX3_doubts_3 : decode cX3_doubts 3 = .ok (.istore_n 3, 1) := dk_62 (dk_at dksX3_doubts_0 3 rfl rfl)
theorem dX3_doubts_4 : decode cX3_doubts 4 = .ok (.iload_n 3, 1) := dk_29 (dk_at dksX3_doubts_0 4 rfl rfl)
theorem dX3_doubts_5 : decode cX3_doubts 5 = .ok (.aload_n 0, 1) := dk_42 (dk_at dksX3_doubts_0 5 rfl rfl)
theorem dX3_doubts_6 : decode cX3_doubts 6 = .ok (.getfield 7, 3) := dk_180 0 7 (dk_at dksX3_doubts_0 6 rfl rfl)
theorem dX3_doubts_9 : decode cX3_doubts 9 = .ok (.bipush 9, 2) := dk_16 9 (dk_at dksX3_doubts_0 9 rfl rfl)
theorem dX3_doubts_11 : decode cX3_doubts 11 = .ok (.iaload, 1) := dk_46 (dk_at dksX3_doubts_0 11 rfl rfl)
theorem dX3_doubts_12 : decode cX3_doubts 12 = .ok (.if_icmp .ge 27, 3) := dk_162 0 27 (dk_at dksX3_doubts_0 12 rfl rfl)
theorem dX3_doubts_15 : decode cX3_doubts 15 = .ok (.iload_n 2, 1) := dk_28 (dk_at dksX3_doubts_0 15 rfl rfl)
theorem dX3_doubts_16 : decode cX3_doubts 16 = .ok (.aload_n 0, 1) := dk_42 (dk_at dksX3_doubts_0 16 rfl rfl)
theorem dX3_doubts_17 : decode cX3_doubts 17 = .ok (.iload_n 1, 1) := dk_27 (dk_at dksX3_doubts_0 17 rfl rfl)
theorem dX3_doubts_18 : decode cX3_doubts 18 = .ok (.iload_n 3, 1) := dk_29 (dk_at dksX3_doubts_0 18 rfl rfl)
theorem dX3_doubts_19 : decode cX3_doubts 19 = .ok (.invokevirtual 51, 3) := dk_182 0 51 (dk_at dksX3_doubts_0 19 rfl rfl)
theorem dX3_doubts_22 : decode cX3_doubts 22 = .ok (.iconst 1, 1) := dk_4 (dk_at dksX3_doubts_0 22 rfl rfl)
theorem dX3_doubts_23 : decode cX3_doubts 23 = .ok (.if_icmp .ne 7, 3) := dk_160 0 7 (dk_at dksX3_doubts_1 0 rfl rfl)
theorem dX3_doubts_26 : decode cX3_doubts 26 = .ok (.iconst 1, 1) := dk_4 (dk_at dksX3_doubts_1 3 rfl rfl)
theorem dX3_doubts_27 : decode cX3_doubts 27 = .ok (.goto 4, 3) := dk_167 0 4 (dk_at dksX3_doubts_1 4 rfl rfl)
theorem dX3_doubts_30 : decode cX3_doubts 30 = .ok (.iconst 0, 1) := dk_3 (dk_at dksX3_doubts_1 7 rfl rfl)
theorem dX3_doubts_31 : decode cX3_doubts 31 = .ok (.iadd, 1) := dk_96 (dk_at dksX3_doubts_1 8 rfl rfl)
theorem dX3_doubts_32 : decode cX3_doubts 32 = .ok (.istore_n 2, 1) := dk_61 (dk_at dksX3_doubts_1 9 rfl rfl)
theorem dX3_doubts_33 : decode cX3_doubts 33 = .ok (.iinc 3 1, 3) := dk_132 3 1 (dk_at dksX3_doubts_1 10 rfl rfl)
theorem dX3_doubts_36 : decode cX3_doubts 36 = .ok (.goto (-32), 3) := dk_167 255 224 (dk_at dksX3_doubts_1 13 rfl rfl)
theorem dX3_doubts_39 : decode cX3_doubts 39 = .ok (.iload_n 2, 1) := dk_28 (dk_at dksX3_doubts_1 16 rfl rfl)
theorem dX3_doubts_40 : decode cX3_doubts 40 = .ok (.ireturn, 1) := dk_172 (dk_at dksX3_doubts_1 17 rfl rfl)
abbrev cX3_outcome : ByteArray := prog_19_method_75_code
def yX3_outcome : MethodName := ⟨RX3, "outcome", "(I)I"⟩
def dkwX3_outcome_1 : List UInt8 := [182, 0, 106, 172]
abbrev dktX3_outcome_1 : List UInt8 := dkwX3_outcome_1 ++ []
def dkwX3_outcome_0 : List UInt8 := [42, 3, 181, 0, 28, 42, 27, 182, 0, 123, 153, 0, 12, 42, 27, 8, 182, 0, 39, 167, 0, 8, 42, 4]
abbrev dktX3_outcome_0 : List UInt8 := dkwX3_outcome_0 ++ dktX3_outcome_1
theorem dksX3_outcome_0 : cX3_outcome.data.toList.drop 0 = dktX3_outcome_0 := by decide +kernel
theorem dksX3_outcome_1 : cX3_outcome.data.toList.drop 24 = dktX3_outcome_1 := dk_seg dksX3_outcome_0 24 rfl rfl
theorem dX3_outcome_0 : decode cX3_outcome 0 = .ok (.aload_n 0, 1) := dk_42 (dk_at dksX3_outcome_0 0 rfl rfl)
theorem dX3_outcome_1 : decode cX3_outcome 1 = .ok (.iconst 0, 1) := dk_3 (dk_at dksX3_outcome_0 1 rfl rfl)
theorem dX3_outcome_2 : decode cX3_outcome 2 = .ok (.putfield 28, 3) := dk_181 0 28 (dk_at dksX3_outcome_0 2 rfl rfl)
theorem dX3_outcome_5 : decode cX3_outcome 5 = .ok (.aload_n 0, 1) := dk_42 (dk_at dksX3_outcome_0 5 rfl rfl)
theorem dX3_outcome_6 : decode cX3_outcome 6 = .ok (.iload_n 1, 1) := dk_27 (dk_at dksX3_outcome_0 6 rfl rfl)
theorem dX3_outcome_7 : decode cX3_outcome 7 = .ok (.invokevirtual 123, 3) := dk_182 0 123 (dk_at dksX3_outcome_0 7 rfl rfl)
theorem dX3_outcome_10 : decode cX3_outcome 10 = .ok (.ifCond .eq 12, 3) := dk_153 0 12 (dk_at dksX3_outcome_0 10 rfl rfl)
theorem dX3_outcome_13 : decode cX3_outcome 13 = .ok (.aload_n 0, 1) := dk_42 (dk_at dksX3_outcome_0 13 rfl rfl)
theorem dX3_outcome_14 : decode cX3_outcome 14 = .ok (.iload_n 1, 1) := dk_27 (dk_at dksX3_outcome_0 14 rfl rfl)
theorem dX3_outcome_15 : decode cX3_outcome 15 = .ok (.iconst 5, 1) := dk_8 (dk_at dksX3_outcome_0 15 rfl rfl)
theorem dX3_outcome_16 : decode cX3_outcome 16 = .ok (.invokevirtual 39, 3) := dk_182 0 39 (dk_at dksX3_outcome_0 16 rfl rfl)
theorem dX3_outcome_19 : decode cX3_outcome 19 = .ok (.goto 8, 3) := dk_167 0 8 (dk_at dksX3_outcome_0 19 rfl rfl)
theorem dX3_outcome_22 : decode cX3_outcome 22 = .ok (.aload_n 0, 1) := dk_42 (dk_at dksX3_outcome_0 22 rfl rfl)
theorem dX3_outcome_23 : decode cX3_outcome 23 = .ok (.iconst 1, 1) := dk_4 (dk_at dksX3_outcome_0 23 rfl rfl)
theorem dX3_outcome_24 : decode cX3_outcome 24 = .ok (.invokevirtual 106, 3) := dk_182 0 106 (dk_at dksX3_outcome_1 0 rfl rfl)
theorem dX3_outcome_27 : decode cX3_outcome 27 = .ok (.ireturn, 1) := dk_172 (dk_at dksX3_outcome_1 3 rfl rfl)
abbrev cX3_outcomeByStores : ByteArray := prog_19_method_77_code
def yX3_outcomeByStores : MethodName := ⟨RX3, "outcomeByStores", "(I)I"⟩
def dkwX3_outcomeByStores_1 : List UInt8 := [182, 0, 106, 172]
abbrev dktX3_outcomeByStores_1 : List UInt8 := dkwX3_outcomeByStores_1 ++ []
def dkwX3_outcomeByStores_0 : List UInt8 := [42, 3, 181, 0, 28, 42, 27, 182, 0, 123, 153, 0, 11, 42, 27, 182, 0, 202, 167, 0, 8, 42, 4]
abbrev dktX3_outcomeByStores_0 : List UInt8 := dkwX3_outcomeByStores_0 ++ dktX3_outcomeByStores_1
theorem dksX3_outcomeByStores_0 : cX3_outcomeByStores.data.toList.drop 0 = dktX3_outcomeByStores_0 := by decide +kernel
theorem dksX3_outcomeByStores_1 : cX3_outcomeByStores.data.toList.drop 23 = dktX3_outcomeByStores_1 := dk_seg dksX3_outcomeByStores_0 23 rfl rfl
theorem dX3_outcomeByStores_0 : decode cX3_outcomeByStores 0 = .ok (.aload_n 0, 1) := dk_42 (dk_at dksX3_outcomeByStores_0 0 rfl rfl)
theorem dX3_outcomeByStores_1 : decode cX3_outcomeByStores 1 = .ok (.iconst 0, 1) := dk_3 (dk_at dksX3_outcomeByStores_0 1 rfl rfl)
theorem dX3_outcomeByStores_2 : decode cX3_outcomeByStores 2 = .ok (.putfield 28, 3) := dk_181 0 28 (dk_at dksX3_outcomeByStores_0 2 rfl rfl)
theorem dX3_outcomeByStores_5 : decode cX3_outcomeByStores 5 = .ok (.aload_n 0, 1) := dk_42 (dk_at dksX3_outcomeByStores_0 5 rfl rfl)
theorem dX3_outcomeByStores_6 : decode cX3_outcomeByStores 6 = .ok (.iload_n 1, 1) := dk_27 (dk_at dksX3_outcomeByStores_0 6 rfl rfl)
theorem dX3_outcomeByStores_7 : decode cX3_outcomeByStores 7 = .ok (.invokevirtual 123, 3) := dk_182 0 123 (dk_at dksX3_outcomeByStores_0 7 rfl rfl)
theorem dX3_outcomeByStores_10 : decode cX3_outcomeByStores 10 = .ok (.ifCond .eq 11, 3) := dk_153 0 11 (dk_at dksX3_outcomeByStores_0 10 rfl rfl)
theorem dX3_outcomeByStores_13 : decode cX3_outcomeByStores 13 = .ok (.aload_n 0, 1) := dk_42 (dk_at dksX3_outcomeByStores_0 13 rfl rfl)
theorem dX3_outcomeByStores_14 : decode cX3_outcomeByStores 14 = .ok (.iload_n 1, 1) := dk_27 (dk_at dksX3_outcomeByStores_0 14 rfl rfl)
theorem dX3_outcomeByStores_15 : decode cX3_outcomeByStores 15 = .ok (.invokevirtual 202, 3) := dk_182 0 202 (dk_at dksX3_outcomeByStores_0 15 rfl rfl)
theorem dX3_outcomeByStores_18 : decode cX3_outcomeByStores 18 = .ok (.goto 8, 3) := dk_167 0 8 (dk_at dksX3_outcomeByStores_0 18 rfl rfl)
theorem dX3_outcomeByStores_21 : decode cX3_outcomeByStores 21 = .ok (.aload_n 0, 1) := dk_42 (dk_at dksX3_outcomeByStores_0 21 rfl rfl)
theorem dX3_outcomeByStores_22 : decode cX3_outcomeByStores 22 = .ok (.iconst 1, 1) := dk_4 (dk_at dksX3_outcomeByStores_0 22 rfl rfl)
theorem dX3_outcomeByStores_23 : decode cX3_outcomeByStores 23 = .ok (.invokevirtual 106, 3) := dk_182 0 106 (dk_at dksX3_outcomeByStores_1 0 rfl rfl)
theorem dX3_outcomeByStores_26 : decode cX3_outcomeByStores 26 = .ok (.ireturn, 1) := dk_172 (dk_at dksX3_outcomeByStores_1 3 rfl rfl)
abbrev cX3_outcomeOf : ByteArray := prog_19_method_76_code
def yX3_outcomeOf : MethodName := ⟨RX3, "outcomeOf", "(I)I"⟩
def dkwX3_outcomeOf_2 : List UInt8 := [172]
abbrev dktX3_outcomeOf_2 : List UInt8 := dkwX3_outcomeOf_2 ++ []
def dkwX3_outcomeOf_1 : List UInt8 := [42, 29, 27, 182, 0, 51, 6, 160, 0, 7, 5, 167, 0, 4, 3, 128, 61, 132, 3, 1, 167, 255, 216, 28]
abbrev dktX3_outcomeOf_1 : List UInt8 := dkwX3_outcomeOf_1 ++ dktX3_outcomeOf_2
def dkwX3_outcomeOf_0 : List UInt8 := [3, 61, 3, 62, 29, 7, 162, 0, 41, 28, 42, 29, 27, 182, 0, 51, 5, 160, 0, 7, 4, 167, 0, 18]
abbrev dktX3_outcomeOf_0 : List UInt8 := dkwX3_outcomeOf_0 ++ dktX3_outcomeOf_1
theorem dksX3_outcomeOf_0 : cX3_outcomeOf.data.toList.drop 0 = dktX3_outcomeOf_0 := by decide +kernel
theorem dksX3_outcomeOf_1 : cX3_outcomeOf.data.toList.drop 24 = dktX3_outcomeOf_1 := dk_seg dksX3_outcomeOf_0 24 rfl rfl
theorem dksX3_outcomeOf_2 : cX3_outcomeOf.data.toList.drop 48 = dktX3_outcomeOf_2 := dk_seg dksX3_outcomeOf_1 24 rfl rfl
theorem dX3_outcomeOf_0 : decode cX3_outcomeOf 0 = .ok (.iconst 0, 1) := dk_3 (dk_at dksX3_outcomeOf_0 0 rfl rfl)
theorem dX3_outcomeOf_1 : decode cX3_outcomeOf 1 = .ok (.istore_n 2, 1) := dk_61 (dk_at dksX3_outcomeOf_0 1 rfl rfl)
theorem dX3_outcomeOf_2 : decode cX3_outcomeOf 2 = .ok (.iconst 0, 1) := dk_3 (dk_at dksX3_outcomeOf_0 2 rfl rfl)
theorem dX3_outcomeOf_3 : decode cX3_outcomeOf 3 = .ok (.istore_n 3, 1) := dk_62 (dk_at dksX3_outcomeOf_0 3 rfl rfl)
theorem dX3_outcomeOf_4 : decode cX3_outcomeOf 4 = .ok (.iload_n 3, 1) := dk_29 (dk_at dksX3_outcomeOf_0 4 rfl rfl)
theorem dX3_outcomeOf_5 : decode cX3_outcomeOf 5 = .ok (.iconst 4, 1) := dk_7 (dk_at dksX3_outcomeOf_0 5 rfl rfl)
theorem dX3_outcomeOf_6 : decode cX3_outcomeOf 6 = .ok (.if_icmp .ge 41, 3) := dk_162 0 41 (dk_at dksX3_outcomeOf_0 6 rfl rfl)
theorem dX3_outcomeOf_9 : decode cX3_outcomeOf 9 = .ok (.iload_n 2, 1) := dk_28 (dk_at dksX3_outcomeOf_0 9 rfl rfl)
theorem dX3_outcomeOf_10 : decode cX3_outcomeOf 10 = .ok (.aload_n 0, 1) := dk_42 (dk_at dksX3_outcomeOf_0 10 rfl rfl)
theorem dX3_outcomeOf_11 : decode cX3_outcomeOf 11 = .ok (.iload_n 3, 1) := dk_29 (dk_at dksX3_outcomeOf_0 11 rfl rfl)
theorem dX3_outcomeOf_12 : decode cX3_outcomeOf 12 = .ok (.iload_n 1, 1) := dk_27 (dk_at dksX3_outcomeOf_0 12 rfl rfl)
theorem dX3_outcomeOf_13 : decode cX3_outcomeOf 13 = .ok (.invokevirtual 51, 3) := dk_182 0 51 (dk_at dksX3_outcomeOf_0 13 rfl rfl)
theorem dX3_outcomeOf_16 : decode cX3_outcomeOf 16 = .ok (.iconst 2, 1) := dk_5 (dk_at dksX3_outcomeOf_0 16 rfl rfl)
theorem dX3_outcomeOf_17 : decode cX3_outcomeOf 17 = .ok (.if_icmp .ne 7, 3) := dk_160 0 7 (dk_at dksX3_outcomeOf_0 17 rfl rfl)
theorem dX3_outcomeOf_20 : decode cX3_outcomeOf 20 = .ok (.iconst 1, 1) := dk_4 (dk_at dksX3_outcomeOf_0 20 rfl rfl)
theorem dX3_outcomeOf_21 : decode cX3_outcomeOf 21 = .ok (.goto 18, 3) := dk_167 0 18 (dk_at dksX3_outcomeOf_0 21 rfl rfl)
theorem dX3_outcomeOf_24 : decode cX3_outcomeOf 24 = .ok (.aload_n 0, 1) := dk_42 (dk_at dksX3_outcomeOf_1 0 rfl rfl)
theorem dX3_outcomeOf_25 : decode cX3_outcomeOf 25 = .ok (.iload_n 3, 1) := dk_29 (dk_at dksX3_outcomeOf_1 1 rfl rfl)
theorem dX3_outcomeOf_26 : decode cX3_outcomeOf 26 = .ok (.iload_n 1, 1) := dk_27 (dk_at dksX3_outcomeOf_1 2 rfl rfl)
theorem dX3_outcomeOf_27 : decode cX3_outcomeOf 27 = .ok (.invokevirtual 51, 3) := dk_182 0 51 (dk_at dksX3_outcomeOf_1 3 rfl rfl)
theorem dX3_outcomeOf_30 : decode cX3_outcomeOf 30 = .ok (.iconst 3, 1) := dk_6 (dk_at dksX3_outcomeOf_1 6 rfl rfl)
theorem dX3_outcomeOf_31 : decode cX3_outcomeOf 31 = .ok (.if_icmp .ne 7, 3) := dk_160 0 7 (dk_at dksX3_outcomeOf_1 7 rfl rfl)
theorem dX3_outcomeOf_34 : decode cX3_outcomeOf 34 = .ok (.iconst 2, 1) := dk_5 (dk_at dksX3_outcomeOf_1 10 rfl rfl)
theorem dX3_outcomeOf_35 : decode cX3_outcomeOf 35 = .ok (.goto 4, 3) := dk_167 0 4 (dk_at dksX3_outcomeOf_1 11 rfl rfl)
theorem dX3_outcomeOf_38 : decode cX3_outcomeOf 38 = .ok (.iconst 0, 1) := dk_3 (dk_at dksX3_outcomeOf_1 14 rfl rfl)
theorem dX3_outcomeOf_39 : decode cX3_outcomeOf 39 = .ok (.ior, 1) := dk_128 (dk_at dksX3_outcomeOf_1 15 rfl rfl)
theorem dX3_outcomeOf_40 : decode cX3_outcomeOf 40 = .ok (.istore_n 2, 1) := dk_61 (dk_at dksX3_outcomeOf_1 16 rfl rfl)
theorem dX3_outcomeOf_41 : decode cX3_outcomeOf 41 = .ok (.iinc 3 1, 3) := dk_132 3 1 (dk_at dksX3_outcomeOf_1 17 rfl rfl)
theorem dX3_outcomeOf_44 : decode cX3_outcomeOf 44 = .ok (.goto (-40), 3) := dk_167 255 216 (dk_at dksX3_outcomeOf_1 20 rfl rfl)
theorem dX3_outcomeOf_47 : decode cX3_outcomeOf 47 = .ok (.iload_n 2, 1) := dk_28 (dk_at dksX3_outcomeOf_1 23 rfl rfl)
theorem dX3_outcomeOf_48 : decode cX3_outcomeOf 48 = .ok (.ireturn, 1) := dk_172 (dk_at dksX3_outcomeOf_2 0 rfl rfl)
abbrev cX3_hasEnded : ByteArray := prog_19_method_78_code
def yX3_hasEnded : MethodName := ⟨RX3, "hasEnded", "(I)Z"⟩
def dkwX3_hasEnded_1 : List UInt8 := [4, 167, 0, 20, 3, 167, 0, 16, 42, 4, 182, 0, 106, 158, 0, 7, 4, 167, 0, 4, 3, 172]
abbrev dktX3_hasEnded_1 : List UInt8 := dkwX3_hasEnded_1 ++ []
def dkwX3_hasEnded_0 : List UInt8 := [42, 3, 181, 0, 28, 42, 27, 182, 0, 123, 153, 0, 22, 42, 27, 16, 6, 182, 0, 39, 4, 160, 0, 7]
abbrev dktX3_hasEnded_0 : List UInt8 := dkwX3_hasEnded_0 ++ dktX3_hasEnded_1
theorem dksX3_hasEnded_0 : cX3_hasEnded.data.toList.drop 0 = dktX3_hasEnded_0 := by decide +kernel
theorem dksX3_hasEnded_1 : cX3_hasEnded.data.toList.drop 24 = dktX3_hasEnded_1 := dk_seg dksX3_hasEnded_0 24 rfl rfl
theorem dX3_hasEnded_0 : decode cX3_hasEnded 0 = .ok (.aload_n 0, 1) := dk_42 (dk_at dksX3_hasEnded_0 0 rfl rfl)
theorem dX3_hasEnded_1 : decode cX3_hasEnded 1 = .ok (.iconst 0, 1) := dk_3 (dk_at dksX3_hasEnded_0 1 rfl rfl)
theorem dX3_hasEnded_2 : decode cX3_hasEnded 2 = .ok (.putfield 28, 3) := dk_181 0 28 (dk_at dksX3_hasEnded_0 2 rfl rfl)
theorem dX3_hasEnded_5 : decode cX3_hasEnded 5 = .ok (.aload_n 0, 1) := dk_42 (dk_at dksX3_hasEnded_0 5 rfl rfl)
theorem dX3_hasEnded_6 : decode cX3_hasEnded 6 = .ok (.iload_n 1, 1) := dk_27 (dk_at dksX3_hasEnded_0 6 rfl rfl)
theorem dX3_hasEnded_7 : decode cX3_hasEnded 7 = .ok (.invokevirtual 123, 3) := dk_182 0 123 (dk_at dksX3_hasEnded_0 7 rfl rfl)
theorem dX3_hasEnded_10 : decode cX3_hasEnded 10 = .ok (.ifCond .eq 22, 3) := dk_153 0 22 (dk_at dksX3_hasEnded_0 10 rfl rfl)
theorem dX3_hasEnded_13 : decode cX3_hasEnded 13 = .ok (.aload_n 0, 1) := dk_42 (dk_at dksX3_hasEnded_0 13 rfl rfl)
theorem dX3_hasEnded_14 : decode cX3_hasEnded 14 = .ok (.iload_n 1, 1) := dk_27 (dk_at dksX3_hasEnded_0 14 rfl rfl)
theorem dX3_hasEnded_15 : decode cX3_hasEnded 15 = .ok (.bipush 6, 2) := dk_16 6 (dk_at dksX3_hasEnded_0 15 rfl rfl)
theorem dX3_hasEnded_17 : decode cX3_hasEnded 17 = .ok (.invokevirtual 39, 3) := dk_182 0 39 (dk_at dksX3_hasEnded_0 17 rfl rfl)
theorem dX3_hasEnded_20 : decode cX3_hasEnded 20 = .ok (.iconst 1, 1) := dk_4 (dk_at dksX3_hasEnded_0 20 rfl rfl)
theorem dX3_hasEnded_21 : decode cX3_hasEnded 21 = .ok (.if_icmp .ne 7, 3) := dk_160 0 7 (dk_at dksX3_hasEnded_0 21 rfl rfl)
theorem dX3_hasEnded_24 : decode cX3_hasEnded 24 = .ok (.iconst 1, 1) := dk_4 (dk_at dksX3_hasEnded_1 0 rfl rfl)
theorem dX3_hasEnded_25 : decode cX3_hasEnded 25 = .ok (.goto 20, 3) := dk_167 0 20 (dk_at dksX3_hasEnded_1 1 rfl rfl)
theorem dX3_hasEnded_28 : decode cX3_hasEnded 28 = .ok (.iconst 0, 1) := dk_3 (dk_at dksX3_hasEnded_1 4 rfl rfl)
theorem dX3_hasEnded_29 : decode cX3_hasEnded 29 = .ok (.goto 16, 3) := dk_167 0 16 (dk_at dksX3_hasEnded_1 5 rfl rfl)
theorem dX3_hasEnded_32 : decode cX3_hasEnded 32 = .ok (.aload_n 0, 1) := dk_42 (dk_at dksX3_hasEnded_1 8 rfl rfl)
theorem dX3_hasEnded_33 : decode cX3_hasEnded 33 = .ok (.iconst 1, 1) := dk_4 (dk_at dksX3_hasEnded_1 9 rfl rfl)
theorem dX3_hasEnded_34 : decode cX3_hasEnded 34 = .ok (.invokevirtual 106, 3) := dk_182 0 106 (dk_at dksX3_hasEnded_1 10 rfl rfl)
theorem dX3_hasEnded_37 : decode cX3_hasEnded 37 = .ok (.ifCond .le 7, 3) := dk_158 0 7 (dk_at dksX3_hasEnded_1 13 rfl rfl)
theorem dX3_hasEnded_40 : decode cX3_hasEnded 40 = .ok (.iconst 1, 1) := dk_4 (dk_at dksX3_hasEnded_1 16 rfl rfl)
theorem dX3_hasEnded_41 : decode cX3_hasEnded 41 = .ok (.goto 4, 3) := dk_167 0 4 (dk_at dksX3_hasEnded_1 17 rfl rfl)
theorem dX3_hasEnded_44 : decode cX3_hasEnded 44 = .ok (.iconst 0, 1) := dk_3 (dk_at dksX3_hasEnded_1 20 rfl rfl)
theorem dX3_hasEnded_45 : decode cX3_hasEnded 45 = .ok (.ireturn, 1) := dk_172 (dk_at dksX3_hasEnded_1 21 rfl rfl)
abbrev cX3_saidYes : ByteArray := prog_19_method_79_code
def yX3_saidYes : MethodName := ⟨RX3, "saidYes", "(I)I"⟩
def dkwX3_saidYes_1 : List UInt8 := [182, 0, 106, 172]
abbrev dktX3_saidYes_1 : List UInt8 := dkwX3_saidYes_1 ++ []
def dkwX3_saidYes_0 : List UInt8 := [42, 3, 181, 0, 28, 42, 27, 182, 0, 123, 153, 0, 12, 42, 27, 6, 182, 0, 39, 167, 0, 8, 42, 4]
abbrev dktX3_saidYes_0 : List UInt8 := dkwX3_saidYes_0 ++ dktX3_saidYes_1
theorem dksX3_saidYes_0 : cX3_saidYes.data.toList.drop 0 = dktX3_saidYes_0 := by decide +kernel
theorem dksX3_saidYes_1 : cX3_saidYes.data.toList.drop 24 = dktX3_saidYes_1 := dk_seg dksX3_saidYes_0 24 rfl rfl
theorem dX3_saidYes_0 : decode cX3_saidYes 0 = .ok (.aload_n 0, 1) := dk_42 (dk_at dksX3_saidYes_0 0 rfl rfl)
theorem dX3_saidYes_1 : decode cX3_saidYes 1 = .ok (.iconst 0, 1) := dk_3 (dk_at dksX3_saidYes_0 1 rfl rfl)
theorem dX3_saidYes_2 : decode cX3_saidYes 2 = .ok (.putfield 28, 3) := dk_181 0 28 (dk_at dksX3_saidYes_0 2 rfl rfl)
theorem dX3_saidYes_5 : decode cX3_saidYes 5 = .ok (.aload_n 0, 1) := dk_42 (dk_at dksX3_saidYes_0 5 rfl rfl)
theorem dX3_saidYes_6 : decode cX3_saidYes 6 = .ok (.iload_n 1, 1) := dk_27 (dk_at dksX3_saidYes_0 6 rfl rfl)
theorem dX3_saidYes_7 : decode cX3_saidYes 7 = .ok (.invokevirtual 123, 3) := dk_182 0 123 (dk_at dksX3_saidYes_0 7 rfl rfl)
theorem dX3_saidYes_10 : decode cX3_saidYes 10 = .ok (.ifCond .eq 12, 3) := dk_153 0 12 (dk_at dksX3_saidYes_0 10 rfl rfl)
theorem dX3_saidYes_13 : decode cX3_saidYes 13 = .ok (.aload_n 0, 1) := dk_42 (dk_at dksX3_saidYes_0 13 rfl rfl)
theorem dX3_saidYes_14 : decode cX3_saidYes 14 = .ok (.iload_n 1, 1) := dk_27 (dk_at dksX3_saidYes_0 14 rfl rfl)
theorem dX3_saidYes_15 : decode cX3_saidYes 15 = .ok (.iconst 3, 1) := dk_6 (dk_at dksX3_saidYes_0 15 rfl rfl)
theorem dX3_saidYes_16 : decode cX3_saidYes 16 = .ok (.invokevirtual 39, 3) := dk_182 0 39 (dk_at dksX3_saidYes_0 16 rfl rfl)
theorem dX3_saidYes_19 : decode cX3_saidYes 19 = .ok (.goto 8, 3) := dk_167 0 8 (dk_at dksX3_saidYes_0 19 rfl rfl)
theorem dX3_saidYes_22 : decode cX3_saidYes 22 = .ok (.aload_n 0, 1) := dk_42 (dk_at dksX3_saidYes_0 22 rfl rfl)
theorem dX3_saidYes_23 : decode cX3_saidYes 23 = .ok (.iconst 1, 1) := dk_4 (dk_at dksX3_saidYes_0 23 rfl rfl)
theorem dX3_saidYes_24 : decode cX3_saidYes 24 = .ok (.invokevirtual 106, 3) := dk_182 0 106 (dk_at dksX3_saidYes_1 0 rfl rfl)
theorem dX3_saidYes_27 : decode cX3_saidYes 27 = .ok (.ireturn, 1) := dk_172 (dk_at dksX3_saidYes_1 3 rfl rfl)
abbrev cX3_saidDone : ByteArray := prog_19_method_80_code
def yX3_saidDone : MethodName := ⟨RX3, "saidDone", "(I)I"⟩
def dkwX3_saidDone_1 : List UInt8 := [182, 0, 106, 172]
abbrev dktX3_saidDone_1 : List UInt8 := dkwX3_saidDone_1 ++ []
def dkwX3_saidDone_0 : List UInt8 := [42, 3, 181, 0, 28, 42, 27, 182, 0, 123, 153, 0, 12, 42, 27, 7, 182, 0, 39, 167, 0, 8, 42, 4]
abbrev dktX3_saidDone_0 : List UInt8 := dkwX3_saidDone_0 ++ dktX3_saidDone_1
theorem dksX3_saidDone_0 : cX3_saidDone.data.toList.drop 0 = dktX3_saidDone_0 := by decide +kernel
theorem dksX3_saidDone_1 : cX3_saidDone.data.toList.drop 24 = dktX3_saidDone_1 := dk_seg dksX3_saidDone_0 24 rfl rfl
theorem dX3_saidDone_0 : decode cX3_saidDone 0 = .ok (.aload_n 0, 1) := dk_42 (dk_at dksX3_saidDone_0 0 rfl rfl)
theorem dX3_saidDone_1 : decode cX3_saidDone 1 = .ok (.iconst 0, 1) := dk_3 (dk_at dksX3_saidDone_0 1 rfl rfl)
theorem dX3_saidDone_2 : decode cX3_saidDone 2 = .ok (.putfield 28, 3) := dk_181 0 28 (dk_at dksX3_saidDone_0 2 rfl rfl)
theorem dX3_saidDone_5 : decode cX3_saidDone 5 = .ok (.aload_n 0, 1) := dk_42 (dk_at dksX3_saidDone_0 5 rfl rfl)
theorem dX3_saidDone_6 : decode cX3_saidDone 6 = .ok (.iload_n 1, 1) := dk_27 (dk_at dksX3_saidDone_0 6 rfl rfl)
theorem dX3_saidDone_7 : decode cX3_saidDone 7 = .ok (.invokevirtual 123, 3) := dk_182 0 123 (dk_at dksX3_saidDone_0 7 rfl rfl)
theorem dX3_saidDone_10 : decode cX3_saidDone 10 = .ok (.ifCond .eq 12, 3) := dk_153 0 12 (dk_at dksX3_saidDone_0 10 rfl rfl)
theorem dX3_saidDone_13 : decode cX3_saidDone 13 = .ok (.aload_n 0, 1) := dk_42 (dk_at dksX3_saidDone_0 13 rfl rfl)
theorem dX3_saidDone_14 : decode cX3_saidDone 14 = .ok (.iload_n 1, 1) := dk_27 (dk_at dksX3_saidDone_0 14 rfl rfl)
theorem dX3_saidDone_15 : decode cX3_saidDone 15 = .ok (.iconst 4, 1) := dk_7 (dk_at dksX3_saidDone_0 15 rfl rfl)
theorem dX3_saidDone_16 : decode cX3_saidDone 16 = .ok (.invokevirtual 39, 3) := dk_182 0 39 (dk_at dksX3_saidDone_0 16 rfl rfl)
theorem dX3_saidDone_19 : decode cX3_saidDone 19 = .ok (.goto 8, 3) := dk_167 0 8 (dk_at dksX3_saidDone_0 19 rfl rfl)
theorem dX3_saidDone_22 : decode cX3_saidDone 22 = .ok (.aload_n 0, 1) := dk_42 (dk_at dksX3_saidDone_0 22 rfl rfl)
theorem dX3_saidDone_23 : decode cX3_saidDone 23 = .ok (.iconst 1, 1) := dk_4 (dk_at dksX3_saidDone_0 23 rfl rfl)
theorem dX3_saidDone_24 : decode cX3_saidDone 24 = .ok (.invokevirtual 106, 3) := dk_182 0 106 (dk_at dksX3_saidDone_1 0 rfl rfl)
theorem dX3_saidDone_27 : decode cX3_saidDone 27 = .ok (.ireturn, 1) := dk_172 (dk_at dksX3_saidDone_1 3 rfl rfl)
abbrev cX3_total : ByteArray := prog_19_method_82_code
def yX3_total : MethodName := ⟨RX3, "total", "()I"⟩
def dkwX3_total_0 : List UInt8 := [42, 3, 181, 0, 28, 42, 182, 0, 205, 172]
abbrev dktX3_total_0 : List UInt8 := dkwX3_total_0 ++ []
theorem dksX3_total_0 : cX3_total.data.toList.drop 0 = dktX3_total_0 := by decide +kernel
theorem dX3_total_0 : decode cX3_total 0 = .ok (.aload_n 0, 1) := dk_42 (dk_at dksX3_total_0 0 rfl rfl)
theorem dX3_total_1 : decode cX3_total 1 = .ok (.iconst 0, 1) := dk_3 (dk_at dksX3_total_0 1 rfl rfl)
theorem dX3_total_2 : decode cX3_total 2 = .ok (.putfield 28, 3) := dk_181 0 28 (dk_at dksX3_total_0 2 rfl rfl)
theorem dX3_total_5 : decode cX3_total 5 = .ok (.aload_n 0, 1) := dk_42 (dk_at dksX3_total_0 5 rfl rfl)
theorem dX3_total_6 : decode cX3_total 6 = .ok (.invokevirtual 205, 3) := dk_182 0 205 (dk_at dksX3_total_0 6 rfl rfl)
theorem dX3_total_9 : decode cX3_total 9 = .ok (.ireturn, 1) := dk_172 (dk_at dksX3_total_0 9 rfl rfl)
abbrev cX3_totalOf : ByteArray := prog_19_method_81_code
def yX3_totalOf : MethodName := ⟨RX3, "totalOf", "()I"⟩
def dkwX3_totalOf_1 : List UInt8 := [180, 0, 7, 16, 8, 46, 96, 172]
abbrev dktX3_totalOf_1 : List UInt8 := dkwX3_totalOf_1 ++ []
def dkwX3_totalOf_0 : List UInt8 := [42, 180, 0, 7, 8, 46, 42, 180, 0, 7, 16, 6, 46, 96, 42, 180, 0, 7, 16, 7, 46, 96, 42]
abbrev dktX3_totalOf_0 : List UInt8 := dkwX3_totalOf_0 ++ dktX3_totalOf_1
theorem dksX3_totalOf_0 : cX3_totalOf.data.toList.drop 0 = dktX3_totalOf_0 := by decide +kernel
theorem dksX3_totalOf_1 : cX3_totalOf.data.toList.drop 23 = dktX3_totalOf_1 := dk_seg dksX3_totalOf_0 23 rfl rfl
theorem dX3_totalOf_0 : decode cX3_totalOf 0 = .ok (.aload_n 0, 1) := dk_42 (dk_at dksX3_totalOf_0 0 rfl rfl)
theorem dX3_totalOf_1 : decode cX3_totalOf 1 = .ok (.getfield 7, 3) := dk_180 0 7 (dk_at dksX3_totalOf_0 1 rfl rfl)
theorem dX3_totalOf_4 : decode cX3_totalOf 4 = .ok (.iconst 5, 1) := dk_8 (dk_at dksX3_totalOf_0 4 rfl rfl)
theorem dX3_totalOf_5 : decode cX3_totalOf 5 = .ok (.iaload, 1) := dk_46 (dk_at dksX3_totalOf_0 5 rfl rfl)
theorem dX3_totalOf_6 : decode cX3_totalOf 6 = .ok (.aload_n 0, 1) := dk_42 (dk_at dksX3_totalOf_0 6 rfl rfl)
theorem dX3_totalOf_7 : decode cX3_totalOf 7 = .ok (.getfield 7, 3) := dk_180 0 7 (dk_at dksX3_totalOf_0 7 rfl rfl)
theorem dX3_totalOf_10 : decode cX3_totalOf 10 = .ok (.bipush 6, 2) := dk_16 6 (dk_at dksX3_totalOf_0 10 rfl rfl)
theorem dX3_totalOf_12 : decode cX3_totalOf 12 = .ok (.iaload, 1) := dk_46 (dk_at dksX3_totalOf_0 12 rfl rfl)
theorem dX3_totalOf_13 : decode cX3_totalOf 13 = .ok (.iadd, 1) := dk_96 (dk_at dksX3_totalOf_0 13 rfl rfl)
theorem dX3_totalOf_14 : decode cX3_totalOf 14 = .ok (.aload_n 0, 1) := dk_42 (dk_at dksX3_totalOf_0 14 rfl rfl)
theorem dX3_totalOf_15 : decode cX3_totalOf 15 = .ok (.getfield 7, 3) := dk_180 0 7 (dk_at dksX3_totalOf_0 15 rfl rfl)
theorem dX3_totalOf_18 : decode cX3_totalOf 18 = .ok (.bipush 7, 2) := dk_16 7 (dk_at dksX3_totalOf_0 18 rfl rfl)
theorem dX3_totalOf_20 : decode cX3_totalOf 20 = .ok (.iaload, 1) := dk_46 (dk_at dksX3_totalOf_0 20 rfl rfl)
theorem dX3_totalOf_21 : decode cX3_totalOf 21 = .ok (.iadd, 1) := dk_96 (dk_at dksX3_totalOf_0 21 rfl rfl)
theorem dX3_totalOf_22 : decode cX3_totalOf 22 = .ok (.aload_n 0, 1) := dk_42 (dk_at dksX3_totalOf_0 22 rfl rfl)
theorem dX3_totalOf_23 : decode cX3_totalOf 23 = .ok (.getfield 7, 3) := dk_180 0 7 (dk_at dksX3_totalOf_1 0 rfl rfl)
theorem dX3_totalOf_26 : decode cX3_totalOf 26 = .ok (.bipush 8, 2) := dk_16 8 (dk_at dksX3_totalOf_1 3 rfl rfl)
theorem dX3_totalOf_28 : decode cX3_totalOf 28 = .ok (.iaload, 1) := dk_46 (dk_at dksX3_totalOf_1 5 rfl rfl)
theorem dX3_totalOf_29 : decode cX3_totalOf 29 = .ok (.iadd, 1) := dk_96 (dk_at dksX3_totalOf_1 6 rfl rfl)
theorem dX3_totalOf_30 : decode cX3_totalOf 30 = .ok (.ireturn, 1) := dk_172 (dk_at dksX3_totalOf_1 7 rfl rfl)
abbrev cX3_onTheWay : ByteArray := prog_19_method_84_code
def yX3_onTheWay : MethodName := ⟨RX3, "onTheWay", "()I"⟩
def dkwX3_onTheWay_0 : List UInt8 := [42, 3, 181, 0, 28, 42, 182, 0, 208, 172]
abbrev dktX3_onTheWay_0 : List UInt8 := dkwX3_onTheWay_0 ++ []
theorem dksX3_onTheWay_0 : cX3_onTheWay.data.toList.drop 0 = dktX3_onTheWay_0 := by decide +kernel
theorem dX3_onTheWay_0 : decode cX3_onTheWay 0 = .ok (.aload_n 0, 1) := dk_42 (dk_at dksX3_onTheWay_0 0 rfl rfl)
theorem dX3_onTheWay_1 : decode cX3_onTheWay 1 = .ok (.iconst 0, 1) := dk_3 (dk_at dksX3_onTheWay_0 1 rfl rfl)
theorem dX3_onTheWay_2 : decode cX3_onTheWay 2 = .ok (.putfield 28, 3) := dk_181 0 28 (dk_at dksX3_onTheWay_0 2 rfl rfl)
theorem dX3_onTheWay_5 : decode cX3_onTheWay 5 = .ok (.aload_n 0, 1) := dk_42 (dk_at dksX3_onTheWay_0 5 rfl rfl)
theorem dX3_onTheWay_6 : decode cX3_onTheWay 6 = .ok (.invokevirtual 208, 3) := dk_182 0 208 (dk_at dksX3_onTheWay_0 6 rfl rfl)
theorem dX3_onTheWay_9 : decode cX3_onTheWay 9 = .ok (.ireturn, 1) := dk_172 (dk_at dksX3_onTheWay_0 9 rfl rfl)
abbrev cX3_away : ByteArray := prog_19_method_83_code
def yX3_away : MethodName := ⟨RX3, "away", "()I"⟩
def dkwX3_away_2 : List UInt8 := [182, 0, 54, 167, 0, 4, 3, 96, 60, 132, 3, 1, 167, 255, 215, 132, 2, 1, 167, 255, 196, 27, 172]
abbrev dktX3_away_2 : List UInt8 := dkwX3_away_2 ++ []
def dkwX3_away_1 : List UInt8 := [28, 8, 182, 0, 39, 4, 160, 0, 22, 42, 29, 28, 182, 0, 51, 5, 159, 0, 12, 42, 28, 29]
abbrev dktX3_away_1 : List UInt8 := dkwX3_away_1 ++ dktX3_away_2
def dkwX3_away_0 : List UInt8 := [3, 60, 3, 61, 28, 42, 180, 0, 7, 16, 9, 46, 162, 0, 55, 3, 62, 29, 7, 162, 0, 42, 27, 42]
abbrev dktX3_away_0 : List UInt8 := dkwX3_away_0 ++ dktX3_away_1
theorem dksX3_away_0 : cX3_away.data.toList.drop 0 = dktX3_away_0 := by decide +kernel
theorem dksX3_away_1 : cX3_away.data.toList.drop 24 = dktX3_away_1 := dk_seg dksX3_away_0 24 rfl rfl
theorem dksX3_away_2 : cX3_away.data.toList.drop 46 = dktX3_away_2 := dk_seg dksX3_away_1 22 rfl rfl
theorem dX3_away_0 : decode cX3_away 0 = .ok (.iconst 0, 1) := dk_3 (dk_at dksX3_away_0 0 rfl rfl)
theorem dX3_away_1 : decode cX3_away 1 = .ok (.istore_n 1, 1) := dk_60 (dk_at dksX3_away_0 1 rfl rfl)
theorem dX3_away_2 : decode cX3_away 2 = .ok (.iconst 0, 1) := dk_3 (dk_at dksX3_away_0 2 rfl rfl)
theorem dX3_away_3 : decode cX3_away 3 = .ok (.istore_n 2, 1) := dk_61 (dk_at dksX3_away_0 3 rfl rfl)
theorem dX3_away_4 : decode cX3_away 4 = .ok (.iload_n 2, 1) := dk_28 (dk_at dksX3_away_0 4 rfl rfl)
theorem dX3_away_5 : decode cX3_away 5 = .ok (.aload_n 0, 1) := dk_42 (dk_at dksX3_away_0 5 rfl rfl)
theorem dX3_away_6 : decode cX3_away 6 = .ok (.getfield 7, 3) := dk_180 0 7 (dk_at dksX3_away_0 6 rfl rfl)
theorem dX3_away_9 : decode cX3_away 9 = .ok (.bipush 9, 2) := dk_16 9 (dk_at dksX3_away_0 9 rfl rfl)
theorem dX3_away_11 : decode cX3_away 11 = .ok (.iaload, 1) := dk_46 (dk_at dksX3_away_0 11 rfl rfl)
theorem dX3_away_12 : decode cX3_away 12 = .ok (.if_icmp .ge 55, 3) := dk_162 0 55 (dk_at dksX3_away_0 12 rfl rfl)
theorem dX3_away_15 : decode cX3_away 15 = .ok (.iconst 0, 1) := dk_3 (dk_at dksX3_away_0 15 rfl rfl)
theorem dX3_away_16 : decode cX3_away 16 = .ok (.istore_n 3, 1) := dk_62 (dk_at dksX3_away_0 16 rfl rfl)
theorem dX3_away_17 : decode cX3_away 17 = .ok (.iload_n 3, 1) := dk_29 (dk_at dksX3_away_0 17 rfl rfl)
theorem dX3_away_18 : decode cX3_away 18 = .ok (.iconst 4, 1) := dk_7 (dk_at dksX3_away_0 18 rfl rfl)
theorem dX3_away_19 : decode cX3_away 19 = .ok (.if_icmp .ge 42, 3) := dk_162 0 42 (dk_at dksX3_away_0 19 rfl rfl)
theorem dX3_away_22 : decode cX3_away 22 = .ok (.iload_n 1, 1) := dk_27 (dk_at dksX3_away_0 22 rfl rfl)
theorem dX3_away_23 : decode cX3_away 23 = .ok (.aload_n 0, 1) := dk_42 (dk_at dksX3_away_0 23 rfl rfl)
theorem dX3_away_24 : decode cX3_away 24 = .ok (.iload_n 2, 1) := dk_28 (dk_at dksX3_away_1 0 rfl rfl)
theorem dX3_away_25 : decode cX3_away 25 = .ok (.iconst 5, 1) := dk_8 (dk_at dksX3_away_1 1 rfl rfl)
theorem dX3_away_26 : decode cX3_away 26 = .ok (.invokevirtual 39, 3) := dk_182 0 39 (dk_at dksX3_away_1 2 rfl rfl)
theorem dX3_away_29 : decode cX3_away 29 = .ok (.iconst 1, 1) := dk_4 (dk_at dksX3_away_1 5 rfl rfl)
theorem dX3_away_30 : decode cX3_away 30 = .ok (.if_icmp .ne 22, 3) := dk_160 0 22 (dk_at dksX3_away_1 6 rfl rfl)
theorem dX3_away_33 : decode cX3_away 33 = .ok (.aload_n 0, 1) := dk_42 (dk_at dksX3_away_1 9 rfl rfl)
theorem dX3_away_34 : decode cX3_away 34 = .ok (.iload_n 3, 1) := dk_29 (dk_at dksX3_away_1 10 rfl rfl)
theorem dX3_away_35 : decode cX3_away 35 = .ok (.iload_n 2, 1) := dk_28 (dk_at dksX3_away_1 11 rfl rfl)
theorem dX3_away_36 : decode cX3_away 36 = .ok (.invokevirtual 51, 3) := dk_182 0 51 (dk_at dksX3_away_1 12 rfl rfl)
theorem dX3_away_39 : decode cX3_away 39 = .ok (.iconst 2, 1) := dk_5 (dk_at dksX3_away_1 15 rfl rfl)
theorem dX3_away_40 : decode cX3_away 40 = .ok (.if_icmp .eq 12, 3) := dk_159 0 12 (dk_at dksX3_away_1 16 rfl rfl)
theorem dX3_away_43 : decode cX3_away 43 = .ok (.aload_n 0, 1) := dk_42 (dk_at dksX3_away_1 19 rfl rfl)
theorem dX3_away_44 : decode cX3_away 44 = .ok (.iload_n 2, 1) := dk_28 (dk_at dksX3_away_1 20 rfl rfl)
theorem dX3_away_45 : decode cX3_away 45 = .ok (.iload_n 3, 1) := dk_29 (dk_at dksX3_away_1 21 rfl rfl)
theorem dX3_away_46 : decode cX3_away 46 = .ok (.invokevirtual 54, 3) := dk_182 0 54 (dk_at dksX3_away_2 0 rfl rfl)
theorem dX3_away_49 : decode cX3_away 49 = .ok (.goto 4, 3) := dk_167 0 4 (dk_at dksX3_away_2 3 rfl rfl)
theorem dX3_away_52 : decode cX3_away 52 = .ok (.iconst 0, 1) := dk_3 (dk_at dksX3_away_2 6 rfl rfl)
theorem dX3_away_53 : decode cX3_away 53 = .ok (.iadd, 1) := dk_96 (dk_at dksX3_away_2 7 rfl rfl)
theorem dX3_away_54 : decode cX3_away 54 = .ok (.istore_n 1, 1) := dk_60 (dk_at dksX3_away_2 8 rfl rfl)
theorem dX3_away_55 : decode cX3_away 55 = .ok (.iinc 3 1, 3) := dk_132 3 1 (dk_at dksX3_away_2 9 rfl rfl)
theorem dX3_away_58 : decode cX3_away 58 = .ok (.goto (-41), 3) := dk_167 255 215 (dk_at dksX3_away_2 12 rfl rfl)
theorem dX3_away_61 : decode cX3_away 61 = .ok (.iinc 2 1, 3) := dk_132 2 1 (dk_at dksX3_away_2 15 rfl rfl)
theorem dX3_away_64 : decode cX3_away 64 = .ok (.goto (-60), 3) := dk_167 255 196 (dk_at dksX3_away_2 18 rfl rfl)
theorem dX3_away_67 : decode cX3_away 67 = .ok (.iload_n 1, 1) := dk_27 (dk_at dksX3_away_2 21 rfl rfl)
theorem dX3_away_68 : decode cX3_away 68 = .ok (.ireturn, 1) := dk_172 (dk_at dksX3_away_2 22 rfl rfl)
abbrev cX3_records : ByteArray := prog_19_method_85_code
def yX3_records : MethodName := ⟨RX3, "records", "(I)I"⟩
def dkwX3_records_1 : List UInt8 := [42, 4, 182, 0, 106, 172]
abbrev dktX3_records_1 : List UInt8 := dkwX3_records_1 ++ []
def dkwX3_records_0 : List UInt8 := [42, 3, 181, 0, 28, 27, 184, 0, 146, 153, 0, 15, 42, 180, 0, 7, 16, 102, 27, 96, 46, 167, 0, 8]
abbrev dktX3_records_0 : List UInt8 := dkwX3_records_0 ++ dktX3_records_1
theorem dksX3_records_0 : cX3_records.data.toList.drop 0 = dktX3_records_0 := by decide +kernel
theorem dksX3_records_1 : cX3_records.data.toList.drop 24 = dktX3_records_1 := dk_seg dksX3_records_0 24 rfl rfl
theorem dX3_records_0 : decode cX3_records 0 = .ok (.aload_n 0, 1) := dk_42 (dk_at dksX3_records_0 0 rfl rfl)
theorem dX3_records_1 : decode cX3_records 1 = .ok (.iconst 0, 1) := dk_3 (dk_at dksX3_records_0 1 rfl rfl)
theorem dX3_records_2 : decode cX3_records 2 = .ok (.putfield 28, 3) := dk_181 0 28 (dk_at dksX3_records_0 2 rfl rfl)
theorem dX3_records_5 : decode cX3_records 5 = .ok (.iload_n 1, 1) := dk_27 (dk_at dksX3_records_0 5 rfl rfl)
theorem dX3_records_6 : decode cX3_records 6 = .ok (.invokestatic 146, 3) := dk_184 0 146 (dk_at dksX3_records_0 6 rfl rfl)
theorem dX3_records_9 : decode cX3_records 9 = .ok (.ifCond .eq 15, 3) := dk_153 0 15 (dk_at dksX3_records_0 9 rfl rfl)
theorem dX3_records_12 : decode cX3_records 12 = .ok (.aload_n 0, 1) := dk_42 (dk_at dksX3_records_0 12 rfl rfl)
theorem dX3_records_13 : decode cX3_records 13 = .ok (.getfield 7, 3) := dk_180 0 7 (dk_at dksX3_records_0 13 rfl rfl)
theorem dX3_records_16 : decode cX3_records 16 = .ok (.bipush 102, 2) := dk_16 102 (dk_at dksX3_records_0 16 rfl rfl)
theorem dX3_records_18 : decode cX3_records 18 = .ok (.iload_n 1, 1) := dk_27 (dk_at dksX3_records_0 18 rfl rfl)
theorem dX3_records_19 : decode cX3_records 19 = .ok (.iadd, 1) := dk_96 (dk_at dksX3_records_0 19 rfl rfl)
theorem dX3_records_20 : decode cX3_records 20 = .ok (.iaload, 1) := dk_46 (dk_at dksX3_records_0 20 rfl rfl)
theorem dX3_records_21 : decode cX3_records 21 = .ok (.goto 8, 3) := dk_167 0 8 (dk_at dksX3_records_0 21 rfl rfl)
theorem dX3_records_24 : decode cX3_records 24 = .ok (.aload_n 0, 1) := dk_42 (dk_at dksX3_records_1 0 rfl rfl)
theorem dX3_records_25 : decode cX3_records 25 = .ok (.iconst 1, 1) := dk_4 (dk_at dksX3_records_1 1 rfl rfl)
theorem dX3_records_26 : decode cX3_records 26 = .ok (.invokevirtual 106, 3) := dk_182 0 106 (dk_at dksX3_records_1 2 rfl rfl)
theorem dX3_records_29 : decode cX3_records 29 = .ok (.ireturn, 1) := dk_172 (dk_at dksX3_records_1 5 rfl rfl)
abbrev cX3_recordKind : ByteArray := prog_19_method_87_code
def yX3_recordKind : MethodName := ⟨RX3, "recordKind", "(II)I"⟩
def dkwX3_recordKind_1 : List UInt8 := [28, 182, 0, 211, 2, 160, 0, 7, 2, 167, 0, 12, 42, 27, 28, 182, 0, 211, 16, 8, 108, 172]
abbrev dktX3_recordKind_1 : List UInt8 := dkwX3_recordKind_1 ++ []
def dkwX3_recordKind_0 : List UInt8 := [42, 3, 181, 0, 28, 27, 184, 0, 146, 153, 0, 7, 28, 156, 0, 9, 42, 4, 182, 0, 106, 172, 42, 27]
abbrev dktX3_recordKind_0 : List UInt8 := dkwX3_recordKind_0 ++ dktX3_recordKind_1
theorem dksX3_recordKind_0 : cX3_recordKind.data.toList.drop 0 = dktX3_recordKind_0 := by decide +kernel
theorem dksX3_recordKind_1 : cX3_recordKind.data.toList.drop 24 = dktX3_recordKind_1 := dk_seg dksX3_recordKind_0 24 rfl rfl
theorem dX3_recordKind_0 : decode cX3_recordKind 0 = .ok (.aload_n 0, 1) := dk_42 (dk_at dksX3_recordKind_0 0 rfl rfl)
theorem dX3_recordKind_1 : decode cX3_recordKind 1 = .ok (.iconst 0, 1) := dk_3 (dk_at dksX3_recordKind_0 1 rfl rfl)
theorem dX3_recordKind_2 : decode cX3_recordKind 2 = .ok (.putfield 28, 3) := dk_181 0 28 (dk_at dksX3_recordKind_0 2 rfl rfl)
theorem dX3_recordKind_5 : decode cX3_recordKind 5 = .ok (.iload_n 1, 1) := dk_27 (dk_at dksX3_recordKind_0 5 rfl rfl)
theorem dX3_recordKind_6 : decode cX3_recordKind 6 = .ok (.invokestatic 146, 3) := dk_184 0 146 (dk_at dksX3_recordKind_0 6 rfl rfl)
theorem dX3_recordKind_9 : decode cX3_recordKind 9 = .ok (.ifCond .eq 7, 3) := dk_153 0 7 (dk_at dksX3_recordKind_0 9 rfl rfl)
theorem dX3_recordKind_12 : decode cX3_recordKind 12 = .ok (.iload_n 2, 1) := dk_28 (dk_at dksX3_recordKind_0 12 rfl rfl)
theorem dX3_recordKind_13 : decode cX3_recordKind 13 = .ok (.ifCond .ge 9, 3) := dk_156 0 9 (dk_at dksX3_recordKind_0 13 rfl rfl)
theorem dX3_recordKind_16 : decode cX3_recordKind 16 = .ok (.aload_n 0, 1) := dk_42 (dk_at dksX3_recordKind_0 16 rfl rfl)
theorem dX3_recordKind_17 : decode cX3_recordKind 17 = .ok (.iconst 1, 1) := dk_4 (dk_at dksX3_recordKind_0 17 rfl rfl)
theorem dX3_recordKind_18 : decode cX3_recordKind 18 = .ok (.invokevirtual 106, 3) := dk_182 0 106 (dk_at dksX3_recordKind_0 18 rfl rfl)
theorem dX3_recordKind_21 : decode cX3_recordKind 21 = .ok (.ireturn, 1) := dk_172 (dk_at dksX3_recordKind_0 21 rfl rfl)
theorem dX3_recordKind_22 : decode cX3_recordKind 22 = .ok (.aload_n 0, 1) := dk_42 (dk_at dksX3_recordKind_0 22 rfl rfl)
theorem dX3_recordKind_23 : decode cX3_recordKind 23 = .ok (.iload_n 1, 1) := dk_27 (dk_at dksX3_recordKind_0 23 rfl rfl)
theorem dX3_recordKind_24 : decode cX3_recordKind 24 = .ok (.iload_n 2, 1) := dk_28 (dk_at dksX3_recordKind_1 0 rfl rfl)
theorem dX3_recordKind_25 : decode cX3_recordKind 25 = .ok (.invokevirtual 211, 3) := dk_182 0 211 (dk_at dksX3_recordKind_1 1 rfl rfl)
theorem dX3_recordKind_28 : decode cX3_recordKind 28 = .ok (.iconst (-1), 1) := dk_2 (dk_at dksX3_recordKind_1 4 rfl rfl)
theorem dX3_recordKind_29 : decode cX3_recordKind 29 = .ok (.if_icmp .ne 7, 3) := dk_160 0 7 (dk_at dksX3_recordKind_1 5 rfl rfl)
theorem dX3_recordKind_32 : decode cX3_recordKind 32 = .ok (.iconst (-1), 1) := dk_2 (dk_at dksX3_recordKind_1 8 rfl rfl)
theorem dX3_recordKind_33 : decode cX3_recordKind 33 = .ok (.goto 12, 3) := dk_167 0 12 (dk_at dksX3_recordKind_1 9 rfl rfl)
theorem dX3_recordKind_36 : decode cX3_recordKind 36 = .ok (.aload_n 0, 1) := dk_42 (dk_at dksX3_recordKind_1 12 rfl rfl)
theorem dX3_recordKind_37 : decode cX3_recordKind 37 = .ok (.iload_n 1, 1) := dk_27 (dk_at dksX3_recordKind_1 13 rfl rfl)
theorem dX3_recordKind_38 : decode cX3_recordKind 38 = .ok (.iload_n 2, 1) := dk_28 (dk_at dksX3_recordKind_1 14 rfl rfl)
theorem dX3_recordKind_39 : decode cX3_recordKind 39 = .ok (.invokevirtual 211, 3) := dk_182 0 211 (dk_at dksX3_recordKind_1 15 rfl rfl)
theorem dX3_recordKind_42 : decode cX3_recordKind 42 = .ok (.bipush 8, 2) := dk_16 8 (dk_at dksX3_recordKind_1 18 rfl rfl)
theorem dX3_recordKind_44 : decode cX3_recordKind 44 = .ok (.idiv, 1) := dk_108 (dk_at dksX3_recordKind_1 20 rfl rfl)
theorem dX3_recordKind_45 : decode cX3_recordKind 45 = .ok (.ireturn, 1) := dk_172 (dk_at dksX3_recordKind_1 21 rfl rfl)
abbrev cX3_record : ByteArray := prog_19_method_86_code
def yX3_record : MethodName := ⟨RX3, "record", "(II)I"⟩
def dkwX3_record_1 : List UInt8 := [28, 96, 46, 167, 0, 4, 2, 172]
abbrev dktX3_record_1 : List UInt8 := dkwX3_record_1 ++ []
def dkwX3_record_0 : List UInt8 := [28, 42, 180, 0, 7, 16, 102, 27, 96, 46, 162, 0, 20, 42, 180, 0, 7, 16, 107, 16, 16, 27, 104, 96]
abbrev dktX3_record_0 : List UInt8 := dkwX3_record_0 ++ dktX3_record_1
theorem dksX3_record_0 : cX3_record.data.toList.drop 0 = dktX3_record_0 := by decide +kernel
theorem dksX3_record_1 : cX3_record.data.toList.drop 24 = dktX3_record_1 := dk_seg dksX3_record_0 24 rfl rfl
theorem dX3_record_0 : decode cX3_record 0 = .ok (.iload_n 2, 1) := dk_28 (dk_at dksX3_record_0 0 rfl rfl)
theorem dX3_record_1 : decode cX3_record 1 = .ok (.aload_n 0, 1) := dk_42 (dk_at dksX3_record_0 1 rfl rfl)
theorem dX3_record_2 : decode cX3_record 2 = .ok (.getfield 7, 3) := dk_180 0 7 (dk_at dksX3_record_0 2 rfl rfl)
theorem dX3_record_5 : decode cX3_record 5 = .ok (.bipush 102, 2) := dk_16 102 (dk_at dksX3_record_0 5 rfl rfl)
theorem dX3_record_7 : decode cX3_record 7 = .ok (.iload_n 1, 1) := dk_27 (dk_at dksX3_record_0 7 rfl rfl)
theorem dX3_record_8 : decode cX3_record 8 = .ok (.iadd, 1) := dk_96 (dk_at dksX3_record_0 8 rfl rfl)
theorem dX3_record_9 : decode cX3_record 9 = .ok (.iaload, 1) := dk_46 (dk_at dksX3_record_0 9 rfl rfl)
theorem dX3_record_10 : decode cX3_record 10 = .ok (.if_icmp .ge 20, 3) := dk_162 0 20 (dk_at dksX3_record_0 10 rfl rfl)
theorem dX3_record_13 : decode cX3_record 13 = .ok (.aload_n 0, 1) := dk_42 (dk_at dksX3_record_0 13 rfl rfl)
theorem dX3_record_14 : decode cX3_record 14 = .ok (.getfield 7, 3) := dk_180 0 7 (dk_at dksX3_record_0 14 rfl rfl)
theorem dX3_record_17 : decode cX3_record 17 = .ok (.bipush 107, 2) := dk_16 107 (dk_at dksX3_record_0 17 rfl rfl)
theorem dX3_record_19 : decode cX3_record 19 = .ok (.bipush 16, 2) := dk_16 16 (dk_at dksX3_record_0 19 rfl rfl)
theorem dX3_record_21 : decode cX3_record 21 = .ok (.iload_n 1, 1) := dk_27 (dk_at dksX3_record_0 21 rfl rfl)
theorem dX3_record_22 : decode cX3_record 22 = .ok (.imul, 1) := dk_104 (dk_at dksX3_record_0 22 rfl rfl)
theorem dX3_record_23 : decode cX3_record 23 = .ok (.iadd, 1) := dk_96 (dk_at dksX3_record_0 23 rfl rfl)
theorem dX3_record_24 : decode cX3_record 24 = .ok (.iload_n 2, 1) := dk_28 (dk_at dksX3_record_1 0 rfl rfl)
theorem dX3_record_25 : decode cX3_record 25 = .ok (.iadd, 1) := dk_96 (dk_at dksX3_record_1 1 rfl rfl)
theorem dX3_record_26 : decode cX3_record 26 = .ok (.iaload, 1) := dk_46 (dk_at dksX3_record_1 2 rfl rfl)
theorem dX3_record_27 : decode cX3_record 27 = .ok (.goto 4, 3) := dk_167 0 4 (dk_at dksX3_record_1 3 rfl rfl)
theorem dX3_record_30 : decode cX3_record 30 = .ok (.iconst (-1), 1) := dk_2 (dk_at dksX3_record_1 6 rfl rfl)
theorem dX3_record_31 : decode cX3_record 31 = .ok (.ireturn, 1) := dk_172 (dk_at dksX3_record_1 7 rfl rfl)
abbrev cX3_recordTransfer : ByteArray := prog_19_method_88_code
def yX3_recordTransfer : MethodName := ⟨RX3, "recordTransfer", "(II)I"⟩
def dkwX3_recordTransfer_1 : List UInt8 := [28, 182, 0, 211, 2, 160, 0, 7, 2, 167, 0, 12, 42, 27, 28, 182, 0, 211, 16, 8, 112, 172]
abbrev dktX3_recordTransfer_1 : List UInt8 := dkwX3_recordTransfer_1 ++ []
def dkwX3_recordTransfer_0 : List UInt8 := [42, 3, 181, 0, 28, 27, 184, 0, 146, 153, 0, 7, 28, 156, 0, 9, 42, 4, 182, 0, 106, 172, 42, 27]
abbrev dktX3_recordTransfer_0 : List UInt8 := dkwX3_recordTransfer_0 ++ dktX3_recordTransfer_1
theorem dksX3_recordTransfer_0 : cX3_recordTransfer.data.toList.drop 0 = dktX3_recordTransfer_0 := by decide +kernel
theorem dksX3_recordTransfer_1 : cX3_recordTransfer.data.toList.drop 24 = dktX3_recordTransfer_1 := dk_seg dksX3_recordTransfer_0 24 rfl rfl
theorem dX3_recordTransfer_0 : decode cX3_recordTransfer 0 = .ok (.aload_n 0, 1) := dk_42 (dk_at dksX3_recordTransfer_0 0 rfl rfl)
theorem dX3_recordTransfer_1 : decode cX3_recordTransfer 1 = .ok (.iconst 0, 1) := dk_3 (dk_at dksX3_recordTransfer_0 1 rfl rfl)
theorem dX3_recordTransfer_2 : decode cX3_recordTransfer 2 = .ok (.putfield 28, 3) := dk_181 0 28 (dk_at dksX3_recordTransfer_0 2 rfl rfl)
theorem dX3_recordTransfer_5 : decode cX3_recordTransfer 5 = .ok (.iload_n 1, 1) := dk_27 (dk_at dksX3_recordTransfer_0 5 rfl rfl)
theorem dX3_recordTransfer_6 : decode cX3_recordTransfer 6 = .ok (.invokestatic 146, 3) := dk_184 0 146 (dk_at dksX3_recordTransfer_0 6 rfl rfl)
theorem dX3_recordTransfer_9 : decode cX3_recordTransfer 9 = .ok (.ifCond .eq 7, 3) := dk_153 0 7 (dk_at dksX3_recordTransfer_0 9 rfl rfl)
theorem dX3_recordTransfer_12 : decode cX3_recordTransfer 12 = .ok (.iload_n 2, 1) := dk_28 (dk_at dksX3_recordTransfer_0 12 rfl rfl)
theorem dX3_recordTransfer_13 : decode cX3_recordTransfer 13 = .ok (.ifCond .ge 9, 3) := dk_156 0 9 (dk_at dksX3_recordTransfer_0 13 rfl rfl)
theorem dX3_recordTransfer_16 : decode cX3_recordTransfer 16 = .ok (.aload_n 0, 1) := dk_42 (dk_at dksX3_recordTransfer_0 16 rfl rfl)
theorem dX3_recordTransfer_17 : decode cX3_recordTransfer 17 = .ok (.iconst 1, 1) := dk_4 (dk_at dksX3_recordTransfer_0 17 rfl rfl)
theorem dX3_recordTransfer_18 : decode cX3_recordTransfer 18 = .ok (.invokevirtual 106, 3) := dk_182 0 106 (dk_at dksX3_recordTransfer_0 18 rfl rfl)
theorem dX3_recordTransfer_21 : decode cX3_recordTransfer 21 = .ok (.ireturn, 1) := dk_172 (dk_at dksX3_recordTransfer_0 21 rfl rfl)
theorem dX3_recordTransfer_22 : decode cX3_recordTransfer 22 = .ok (.aload_n 0, 1) := dk_42 (dk_at dksX3_recordTransfer_0 22 rfl rfl)
theorem dX3_recordTransfer_23 : decode cX3_recordTransfer 23 = .ok (.iload_n 1, 1) := dk_27 (dk_at dksX3_recordTransfer_0 23 rfl rfl)
theorem dX3_recordTransfer_24 : decode cX3_recordTransfer 24 = .ok (.iload_n 2, 1) := dk_28 (dk_at dksX3_recordTransfer_1 0 rfl rfl)
theorem dX3_recordTransfer_25 : decode cX3_recordTransfer 25 = .ok (.invokevirtual 211, 3) := dk_182 0 211 (dk_at dksX3_recordTransfer_1 1 rfl rfl)
theorem dX3_recordTransfer_28 : decode cX3_recordTransfer 28 = .ok (.iconst (-1), 1) := dk_2 (dk_at dksX3_recordTransfer_1 4 rfl rfl)
theorem dX3_recordTransfer_29 : decode cX3_recordTransfer 29 = .ok (.if_icmp .ne 7, 3) := dk_160 0 7 (dk_at dksX3_recordTransfer_1 5 rfl rfl)
theorem dX3_recordTransfer_32 : decode cX3_recordTransfer 32 = .ok (.iconst (-1), 1) := dk_2 (dk_at dksX3_recordTransfer_1 8 rfl rfl)
theorem dX3_recordTransfer_33 : decode cX3_recordTransfer 33 = .ok (.goto 12, 3) := dk_167 0 12 (dk_at dksX3_recordTransfer_1 9 rfl rfl)
theorem dX3_recordTransfer_36 : decode cX3_recordTransfer 36 = .ok (.aload_n 0, 1) := dk_42 (dk_at dksX3_recordTransfer_1 12 rfl rfl)
theorem dX3_recordTransfer_37 : decode cX3_recordTransfer 37 = .ok (.iload_n 1, 1) := dk_27 (dk_at dksX3_recordTransfer_1 13 rfl rfl)
theorem dX3_recordTransfer_38 : decode cX3_recordTransfer 38 = .ok (.iload_n 2, 1) := dk_28 (dk_at dksX3_recordTransfer_1 14 rfl rfl)
theorem dX3_recordTransfer_39 : decode cX3_recordTransfer 39 = .ok (.invokevirtual 211, 3) := dk_182 0 211 (dk_at dksX3_recordTransfer_1 15 rfl rfl)
theorem dX3_recordTransfer_42 : decode cX3_recordTransfer 42 = .ok (.bipush 8, 2) := dk_16 8 (dk_at dksX3_recordTransfer_1 18 rfl rfl)
theorem dX3_recordTransfer_44 : decode cX3_recordTransfer 44 = .ok (.irem, 1) := dk_112 (dk_at dksX3_recordTransfer_1 20 rfl rfl)
theorem dX3_recordTransfer_45 : decode cX3_recordTransfer 45 = .ok (.ireturn, 1) := dk_172 (dk_at dksX3_recordTransfer_1 21 rfl rfl)
abbrev cX3_waiting : ByteArray := prog_19_method_89_code
def yX3_waiting : MethodName := ⟨RX3, "waiting", "()I"⟩
def dkwX3_waiting_0 : List UInt8 := [42, 3, 181, 0, 28, 42, 180, 0, 7, 16, 13, 46, 172]
abbrev dktX3_waiting_0 : List UInt8 := dkwX3_waiting_0 ++ []
theorem dksX3_waiting_0 : cX3_waiting.data.toList.drop 0 = dktX3_waiting_0 := by decide +kernel
theorem dX3_waiting_0 : decode cX3_waiting 0 = .ok (.aload_n 0, 1) := dk_42 (dk_at dksX3_waiting_0 0 rfl rfl)
theorem dX3_waiting_1 : decode cX3_waiting 1 = .ok (.iconst 0, 1) := dk_3 (dk_at dksX3_waiting_0 1 rfl rfl)
theorem dX3_waiting_2 : decode cX3_waiting 2 = .ok (.putfield 28, 3) := dk_181 0 28 (dk_at dksX3_waiting_0 2 rfl rfl)
theorem dX3_waiting_5 : decode cX3_waiting 5 = .ok (.aload_n 0, 1) := dk_42 (dk_at dksX3_waiting_0 5 rfl rfl)
theorem dX3_waiting_6 : decode cX3_waiting 6 = .ok (.getfield 7, 3) := dk_180 0 7 (dk_at dksX3_waiting_0 6 rfl rfl)
theorem dX3_waiting_9 : decode cX3_waiting 9 = .ok (.bipush 13, 2) := dk_16 13 (dk_at dksX3_waiting_0 9 rfl rfl)
theorem dX3_waiting_11 : decode cX3_waiting 11 = .ok (.iaload, 1) := dk_46 (dk_at dksX3_waiting_0 11 rfl rfl)
theorem dX3_waiting_12 : decode cX3_waiting 12 = .ok (.ireturn, 1) := dk_172 (dk_at dksX3_waiting_0 12 rfl rfl)
abbrev cX3_kindOf : ByteArray := prog_19_method_90_code
def yX3_kindOf : MethodName := ⟨RX3, "kindOf", "(I)I"⟩
def dkwX3_kindOf_1 : List UInt8 := [180, 0, 7, 17, 0, 195, 27, 96, 46, 16, 32, 108, 167, 0, 4, 2, 172]
abbrev dktX3_kindOf_1 : List UInt8 := dkwX3_kindOf_1 ++ []
def dkwX3_kindOf_0 : List UInt8 := [42, 3, 181, 0, 28, 27, 156, 0, 9, 42, 4, 182, 0, 106, 172, 42, 27, 182, 0, 132, 153, 0, 19, 42]
abbrev dktX3_kindOf_0 : List UInt8 := dkwX3_kindOf_0 ++ dktX3_kindOf_1
theorem dksX3_kindOf_0 : cX3_kindOf.data.toList.drop 0 = dktX3_kindOf_0 := by decide +kernel
theorem dksX3_kindOf_1 : cX3_kindOf.data.toList.drop 24 = dktX3_kindOf_1 := dk_seg dksX3_kindOf_0 24 rfl rfl
theorem dX3_kindOf_0 : decode cX3_kindOf 0 = .ok (.aload_n 0, 1) := dk_42 (dk_at dksX3_kindOf_0 0 rfl rfl)
theorem dX3_kindOf_1 : decode cX3_kindOf 1 = .ok (.iconst 0, 1) := dk_3 (dk_at dksX3_kindOf_0 1 rfl rfl)
theorem dX3_kindOf_2 : decode cX3_kindOf 2 = .ok (.putfield 28, 3) := dk_181 0 28 (dk_at dksX3_kindOf_0 2 rfl rfl)
theorem dX3_kindOf_5 : decode cX3_kindOf 5 = .ok (.iload_n 1, 1) := dk_27 (dk_at dksX3_kindOf_0 5 rfl rfl)
theorem dX3_kindOf_6 : decode cX3_kindOf 6 = .ok (.ifCond .ge 9, 3) := dk_156 0 9 (dk_at dksX3_kindOf_0 6 rfl rfl)
theorem dX3_kindOf_9 : decode cX3_kindOf 9 = .ok (.aload_n 0, 1) := dk_42 (dk_at dksX3_kindOf_0 9 rfl rfl)
theorem dX3_kindOf_10 : decode cX3_kindOf 10 = .ok (.iconst 1, 1) := dk_4 (dk_at dksX3_kindOf_0 10 rfl rfl)
theorem dX3_kindOf_11 : decode cX3_kindOf 11 = .ok (.invokevirtual 106, 3) := dk_182 0 106 (dk_at dksX3_kindOf_0 11 rfl rfl)
theorem dX3_kindOf_14 : decode cX3_kindOf 14 = .ok (.ireturn, 1) := dk_172 (dk_at dksX3_kindOf_0 14 rfl rfl)
theorem dX3_kindOf_15 : decode cX3_kindOf 15 = .ok (.aload_n 0, 1) := dk_42 (dk_at dksX3_kindOf_0 15 rfl rfl)
theorem dX3_kindOf_16 : decode cX3_kindOf 16 = .ok (.iload_n 1, 1) := dk_27 (dk_at dksX3_kindOf_0 16 rfl rfl)
theorem dX3_kindOf_17 : decode cX3_kindOf 17 = .ok (.invokevirtual 132, 3) := dk_182 0 132 (dk_at dksX3_kindOf_0 17 rfl rfl)
theorem dX3_kindOf_20 : decode cX3_kindOf 20 = .ok (.ifCond .eq 19, 3) := dk_153 0 19 (dk_at dksX3_kindOf_0 20 rfl rfl)
theorem dX3_kindOf_23 : decode cX3_kindOf 23 = .ok (.aload_n 0, 1) := dk_42 (dk_at dksX3_kindOf_0 23 rfl rfl)
theorem dX3_kindOf_24 : decode cX3_kindOf 24 = .ok (.getfield 7, 3) := dk_180 0 7 (dk_at dksX3_kindOf_1 0 rfl rfl)
theorem dX3_kindOf_27 : decode cX3_kindOf 27 = .ok (.sipush 195, 3) := dk_17 0 195 (dk_at dksX3_kindOf_1 3 rfl rfl)
theorem dX3_kindOf_30 : decode cX3_kindOf 30 = .ok (.iload_n 1, 1) := dk_27 (dk_at dksX3_kindOf_1 6 rfl rfl)
theorem dX3_kindOf_31 : decode cX3_kindOf 31 = .ok (.iadd, 1) := dk_96 (dk_at dksX3_kindOf_1 7 rfl rfl)
theorem dX3_kindOf_32 : decode cX3_kindOf 32 = .ok (.iaload, 1) := dk_46 (dk_at dksX3_kindOf_1 8 rfl rfl)
theorem dX3_kindOf_33 : decode cX3_kindOf 33 = .ok (.bipush 32, 2) := dk_16 32 (dk_at dksX3_kindOf_1 9 rfl rfl)
theorem dX3_kindOf_35 : decode cX3_kindOf 35 = .ok (.idiv, 1) := dk_108 (dk_at dksX3_kindOf_1 11 rfl rfl)
theorem dX3_kindOf_36 : decode cX3_kindOf 36 = .ok (.goto 4, 3) := dk_167 0 4 (dk_at dksX3_kindOf_1 12 rfl rfl)
theorem dX3_kindOf_39 : decode cX3_kindOf 39 = .ok (.iconst (-1), 1) := dk_2 (dk_at dksX3_kindOf_1 15 rfl rfl)
theorem dX3_kindOf_40 : decode cX3_kindOf 40 = .ok (.ireturn, 1) := dk_172 (dk_at dksX3_kindOf_1 16 rfl rfl)
abbrev cX3_transferOf : ByteArray := prog_19_method_91_code
def yX3_transferOf : MethodName := ⟨RX3, "transferOf", "(I)I"⟩
def dkwX3_transferOf_1 : List UInt8 := [180, 0, 7, 17, 0, 195, 27, 96, 46, 7, 108, 16, 8, 112, 167, 0, 4, 2, 172]
abbrev dktX3_transferOf_1 : List UInt8 := dkwX3_transferOf_1 ++ []
def dkwX3_transferOf_0 : List UInt8 := [42, 3, 181, 0, 28, 27, 156, 0, 9, 42, 4, 182, 0, 106, 172, 42, 27, 182, 0, 132, 153, 0, 21, 42]
abbrev dktX3_transferOf_0 : List UInt8 := dkwX3_transferOf_0 ++ dktX3_transferOf_1
theorem dksX3_transferOf_0 : cX3_transferOf.data.toList.drop 0 = dktX3_transferOf_0 := by decide +kernel
theorem dksX3_transferOf_1 : cX3_transferOf.data.toList.drop 24 = dktX3_transferOf_1 := dk_seg dksX3_transferOf_0 24 rfl rfl
theorem dX3_transferOf_0 : decode cX3_transferOf 0 = .ok (.aload_n 0, 1) := dk_42 (dk_at dksX3_transferOf_0 0 rfl rfl)
theorem dX3_transferOf_1 : decode cX3_transferOf 1 = .ok (.iconst 0, 1) := dk_3 (dk_at dksX3_transferOf_0 1 rfl rfl)
theorem dX3_transferOf_2 : decode cX3_transferOf 2 = .ok (.putfield 28, 3) := dk_181 0 28 (dk_at dksX3_transferOf_0 2 rfl rfl)
theorem dX3_transferOf_5 : decode cX3_transferOf 5 = .ok (.iload_n 1, 1) := dk_27 (dk_at dksX3_transferOf_0 5 rfl rfl)
theorem dX3_transferOf_6 : decode cX3_transferOf 6 = .ok (.ifCond .ge 9, 3) := dk_156 0 9 (dk_at dksX3_transferOf_0 6 rfl rfl)
theorem dX3_transferOf_9 : decode cX3_transferOf 9 = .ok (.aload_n 0, 1) := dk_42 (dk_at dksX3_transferOf_0 9 rfl rfl)
theorem dX3_transferOf_10 : decode cX3_transferOf 10 = .ok (.iconst 1, 1) := dk_4 (dk_at dksX3_transferOf_0 10 rfl rfl)
theorem dX3_transferOf_11 : decode cX3_transferOf 11 = .ok (.invokevirtual 106, 3) := dk_182 0 106 (dk_at dksX3_transferOf_0 11 rfl rfl)
theorem dX3_transferOf_14 : decode cX3_transferOf 14 = .ok (.ireturn, 1) := dk_172 (dk_at dksX3_transferOf_0 14 rfl rfl)
theorem dX3_transferOf_15 : decode cX3_transferOf 15 = .ok (.aload_n 0, 1) := dk_42 (dk_at dksX3_transferOf_0 15 rfl rfl)
theorem dX3_transferOf_16 : decode cX3_transferOf 16 = .ok (.iload_n 1, 1) := dk_27 (dk_at dksX3_transferOf_0 16 rfl rfl)
theorem dX3_transferOf_17 : decode cX3_transferOf 17 = .ok (.invokevirtual 132, 3) := dk_182 0 132 (dk_at dksX3_transferOf_0 17 rfl rfl)
theorem dX3_transferOf_20 : decode cX3_transferOf 20 = .ok (.ifCond .eq 21, 3) := dk_153 0 21 (dk_at dksX3_transferOf_0 20 rfl rfl)
theorem dX3_transferOf_23 : decode cX3_transferOf 23 = .ok (.aload_n 0, 1) := dk_42 (dk_at dksX3_transferOf_0 23 rfl rfl)
theorem dX3_transferOf_24 : decode cX3_transferOf 24 = .ok (.getfield 7, 3) := dk_180 0 7 (dk_at dksX3_transferOf_1 0 rfl rfl)
theorem dX3_transferOf_27 : decode cX3_transferOf 27 = .ok (.sipush 195, 3) := dk_17 0 195 (dk_at dksX3_transferOf_1 3 rfl rfl)
theorem dX3_transferOf_30 : decode cX3_transferOf 30 = .ok (.iload_n 1, 1) := dk_27 (dk_at dksX3_transferOf_1 6 rfl rfl)
theorem dX3_transferOf_31 : decode cX3_transferOf 31 = .ok (.iadd, 1) := dk_96 (dk_at dksX3_transferOf_1 7 rfl rfl)
theorem dX3_transferOf_32 : decode cX3_transferOf 32 = .ok (.iaload, 1) := dk_46 (dk_at dksX3_transferOf_1 8 rfl rfl)
theorem dX3_transferOf_33 : decode cX3_transferOf 33 = .ok (.iconst 4, 1) := dk_7 (dk_at dksX3_transferOf_1 9 rfl rfl)
theorem dX3_transferOf_34 : decode cX3_transferOf 34 = .ok (.idiv, 1) := dk_108 (dk_at dksX3_transferOf_1 10 rfl rfl)
theorem dX3_transferOf_35 : decode cX3_transferOf 35 = .ok (.bipush 8, 2) := dk_16 8 (dk_at dksX3_transferOf_1 11 rfl rfl)
theorem dX3_transferOf_37 : decode cX3_transferOf 37 = .ok (.irem, 1) := dk_112 (dk_at dksX3_transferOf_1 13 rfl rfl)
theorem dX3_transferOf_38 : decode cX3_transferOf 38 = .ok (.goto 4, 3) := dk_167 0 4 (dk_at dksX3_transferOf_1 14 rfl rfl)
theorem dX3_transferOf_41 : decode cX3_transferOf 41 = .ok (.iconst (-1), 1) := dk_2 (dk_at dksX3_transferOf_1 17 rfl rfl)
theorem dX3_transferOf_42 : decode cX3_transferOf 42 = .ok (.ireturn, 1) := dk_172 (dk_at dksX3_transferOf_1 18 rfl rfl)
abbrev cX3_storeOf : ByteArray := prog_19_method_92_code
def yX3_storeOf : MethodName := ⟨RX3, "storeOf", "(I)I"⟩
def dkwX3_storeOf_1 : List UInt8 := [180, 0, 7, 17, 0, 195, 27, 96, 46, 7, 112, 167, 0, 4, 2, 172]
abbrev dktX3_storeOf_1 : List UInt8 := dkwX3_storeOf_1 ++ []
def dkwX3_storeOf_0 : List UInt8 := [42, 3, 181, 0, 28, 27, 156, 0, 9, 42, 4, 182, 0, 106, 172, 42, 27, 182, 0, 132, 153, 0, 18, 42]
abbrev dktX3_storeOf_0 : List UInt8 := dkwX3_storeOf_0 ++ dktX3_storeOf_1
theorem dksX3_storeOf_0 : cX3_storeOf.data.toList.drop 0 = dktX3_storeOf_0 := by decide +kernel
theorem dksX3_storeOf_1 : cX3_storeOf.data.toList.drop 24 = dktX3_storeOf_1 := dk_seg dksX3_storeOf_0 24 rfl rfl
theorem dX3_storeOf_0 : decode cX3_storeOf 0 = .ok (.aload_n 0, 1) := dk_42 (dk_at dksX3_storeOf_0 0 rfl rfl)
theorem dX3_storeOf_1 : decode cX3_storeOf 1 = .ok (.iconst 0, 1) := dk_3 (dk_at dksX3_storeOf_0 1 rfl rfl)
theorem dX3_storeOf_2 : decode cX3_storeOf 2 = .ok (.putfield 28, 3) := dk_181 0 28 (dk_at dksX3_storeOf_0 2 rfl rfl)
theorem dX3_storeOf_5 : decode cX3_storeOf 5 = .ok (.iload_n 1, 1) := dk_27 (dk_at dksX3_storeOf_0 5 rfl rfl)
theorem dX3_storeOf_6 : decode cX3_storeOf 6 = .ok (.ifCond .ge 9, 3) := dk_156 0 9 (dk_at dksX3_storeOf_0 6 rfl rfl)
theorem dX3_storeOf_9 : decode cX3_storeOf 9 = .ok (.aload_n 0, 1) := dk_42 (dk_at dksX3_storeOf_0 9 rfl rfl)
theorem dX3_storeOf_10 : decode cX3_storeOf 10 = .ok (.iconst 1, 1) := dk_4 (dk_at dksX3_storeOf_0 10 rfl rfl)
theorem dX3_storeOf_11 : decode cX3_storeOf 11 = .ok (.invokevirtual 106, 3) := dk_182 0 106 (dk_at dksX3_storeOf_0 11 rfl rfl)
theorem dX3_storeOf_14 : decode cX3_storeOf 14 = .ok (.ireturn, 1) := dk_172 (dk_at dksX3_storeOf_0 14 rfl rfl)
theorem dX3_storeOf_15 : decode cX3_storeOf 15 = .ok (.aload_n 0, 1) := dk_42 (dk_at dksX3_storeOf_0 15 rfl rfl)
theorem dX3_storeOf_16 : decode cX3_storeOf 16 = .ok (.iload_n 1, 1) := dk_27 (dk_at dksX3_storeOf_0 16 rfl rfl)
theorem dX3_storeOf_17 : decode cX3_storeOf 17 = .ok (.invokevirtual 132, 3) := dk_182 0 132 (dk_at dksX3_storeOf_0 17 rfl rfl)
theorem dX3_storeOf_20 : decode cX3_storeOf 20 = .ok (.ifCond .eq 18, 3) := dk_153 0 18 (dk_at dksX3_storeOf_0 20 rfl rfl)
theorem dX3_storeOf_23 : decode cX3_storeOf 23 = .ok (.aload_n 0, 1) := dk_42 (dk_at dksX3_storeOf_0 23 rfl rfl)
theorem dX3_storeOf_24 : decode cX3_storeOf 24 = .ok (.getfield 7, 3) := dk_180 0 7 (dk_at dksX3_storeOf_1 0 rfl rfl)
theorem dX3_storeOf_27 : decode cX3_storeOf 27 = .ok (.sipush 195, 3) := dk_17 0 195 (dk_at dksX3_storeOf_1 3 rfl rfl)
theorem dX3_storeOf_30 : decode cX3_storeOf 30 = .ok (.iload_n 1, 1) := dk_27 (dk_at dksX3_storeOf_1 6 rfl rfl)
theorem dX3_storeOf_31 : decode cX3_storeOf 31 = .ok (.iadd, 1) := dk_96 (dk_at dksX3_storeOf_1 7 rfl rfl)
theorem dX3_storeOf_32 : decode cX3_storeOf 32 = .ok (.iaload, 1) := dk_46 (dk_at dksX3_storeOf_1 8 rfl rfl)
theorem dX3_storeOf_33 : decode cX3_storeOf 33 = .ok (.iconst 4, 1) := dk_7 (dk_at dksX3_storeOf_1 9 rfl rfl)
theorem dX3_storeOf_34 : decode cX3_storeOf 34 = .ok (.irem, 1) := dk_112 (dk_at dksX3_storeOf_1 10 rfl rfl)
theorem dX3_storeOf_35 : decode cX3_storeOf 35 = .ok (.goto 4, 3) := dk_167 0 4 (dk_at dksX3_storeOf_1 11 rfl rfl)
theorem dX3_storeOf_38 : decode cX3_storeOf 38 = .ok (.iconst (-1), 1) := dk_2 (dk_at dksX3_storeOf_1 14 rfl rfl)
theorem dX3_storeOf_39 : decode cX3_storeOf 39 = .ok (.ireturn, 1) := dk_172 (dk_at dksX3_storeOf_1 15 rfl rfl)
abbrev cX3_sent : ByteArray := prog_19_method_93_code
def yX3_sent : MethodName := ⟨RX3, "sent", "()I"⟩
def dkwX3_sent_0 : List UInt8 := [42, 3, 181, 0, 28, 42, 180, 0, 7, 16, 10, 46, 172]
abbrev dktX3_sent_0 : List UInt8 := dkwX3_sent_0 ++ []
theorem dksX3_sent_0 : cX3_sent.data.toList.drop 0 = dktX3_sent_0 := by decide +kernel
theorem dX3_sent_0 : decode cX3_sent 0 = .ok (.aload_n 0, 1) := dk_42 (dk_at dksX3_sent_0 0 rfl rfl)
theorem dX3_sent_1 : decode cX3_sent 1 = .ok (.iconst 0, 1) := dk_3 (dk_at dksX3_sent_0 1 rfl rfl)
theorem dX3_sent_2 : decode cX3_sent 2 = .ok (.putfield 28, 3) := dk_181 0 28 (dk_at dksX3_sent_0 2 rfl rfl)
theorem dX3_sent_5 : decode cX3_sent 5 = .ok (.aload_n 0, 1) := dk_42 (dk_at dksX3_sent_0 5 rfl rfl)
theorem dX3_sent_6 : decode cX3_sent 6 = .ok (.getfield 7, 3) := dk_180 0 7 (dk_at dksX3_sent_0 6 rfl rfl)
theorem dX3_sent_9 : decode cX3_sent 9 = .ok (.bipush 10, 2) := dk_16 10 (dk_at dksX3_sent_0 9 rfl rfl)
theorem dX3_sent_11 : decode cX3_sent 11 = .ok (.iaload, 1) := dk_46 (dk_at dksX3_sent_0 11 rfl rfl)
theorem dX3_sent_12 : decode cX3_sent 12 = .ok (.ireturn, 1) := dk_172 (dk_at dksX3_sent_0 12 rfl rfl)
abbrev cX3_sentByAccount : ByteArray := prog_19_method_95_code
def yX3_sentByAccount : MethodName := ⟨RX3, "sentByAccount", "()I"⟩
def dkwX3_sentByAccount_0 : List UInt8 := [42, 3, 181, 0, 28, 42, 182, 0, 214, 172]
abbrev dktX3_sentByAccount_0 : List UInt8 := dkwX3_sentByAccount_0 ++ []
theorem dksX3_sentByAccount_0 : cX3_sentByAccount.data.toList.drop 0 = dktX3_sentByAccount_0 := by decide +kernel
theorem dX3_sentByAccount_0 : decode cX3_sentByAccount 0 = .ok (.aload_n 0, 1) := dk_42 (dk_at dksX3_sentByAccount_0 0 rfl rfl)
theorem dX3_sentByAccount_1 : decode cX3_sentByAccount 1 = .ok (.iconst 0, 1) := dk_3 (dk_at dksX3_sentByAccount_0 1 rfl rfl)
theorem dX3_sentByAccount_2 : decode cX3_sentByAccount 2 = .ok (.putfield 28, 3) := dk_181 0 28 (dk_at dksX3_sentByAccount_0 2 rfl rfl)
theorem dX3_sentByAccount_5 : decode cX3_sentByAccount 5 = .ok (.aload_n 0, 1) := dk_42 (dk_at dksX3_sentByAccount_0 5 rfl rfl)
theorem dX3_sentByAccount_6 : decode cX3_sentByAccount 6 = .ok (.invokevirtual 214, 3) := dk_182 0 214 (dk_at dksX3_sentByAccount_0 6 rfl rfl)
theorem dX3_sentByAccount_9 : decode cX3_sentByAccount 9 = .ok (.ireturn, 1) := dk_172 (dk_at dksX3_sentByAccount_0 9 rfl rfl)
abbrev cX3_sentOf : ByteArray := prog_19_method_94_code
def yX3_sentOf : MethodName := ⟨RX3, "sentOf", "()I"⟩
def dkwX3_sentOf_0 : List UInt8 := [42, 180, 0, 7, 16, 11, 46, 42, 180, 0, 7, 16, 12, 46, 96, 42, 180, 0, 7, 16, 13, 46, 96, 172]
abbrev dktX3_sentOf_0 : List UInt8 := dkwX3_sentOf_0 ++ []
theorem dksX3_sentOf_0 : cX3_sentOf.data.toList.drop 0 = dktX3_sentOf_0 := by decide +kernel
theorem dX3_sentOf_0 : decode cX3_sentOf 0 = .ok (.aload_n 0, 1) := dk_42 (dk_at dksX3_sentOf_0 0 rfl rfl)
theorem dX3_sentOf_1 : decode cX3_sentOf 1 = .ok (.getfield 7, 3) := dk_180 0 7 (dk_at dksX3_sentOf_0 1 rfl rfl)
theorem dX3_sentOf_4 : decode cX3_sentOf 4 = .ok (.bipush 11, 2) := dk_16 11 (dk_at dksX3_sentOf_0 4 rfl rfl)
theorem dX3_sentOf_6 : decode cX3_sentOf 6 = .ok (.iaload, 1) := dk_46 (dk_at dksX3_sentOf_0 6 rfl rfl)
theorem dX3_sentOf_7 : decode cX3_sentOf 7 = .ok (.aload_n 0, 1) := dk_42 (dk_at dksX3_sentOf_0 7 rfl rfl)
theorem dX3_sentOf_8 : decode cX3_sentOf 8 = .ok (.getfield 7, 3) := dk_180 0 7 (dk_at dksX3_sentOf_0 8 rfl rfl)
theorem dX3_sentOf_11 : decode cX3_sentOf 11 = .ok (.bipush 12, 2) := dk_16 12 (dk_at dksX3_sentOf_0 11 rfl rfl)
theorem dX3_sentOf_13 : decode cX3_sentOf 13 = .ok (.iaload, 1) := dk_46 (dk_at dksX3_sentOf_0 13 rfl rfl)
theorem dX3_sentOf_14 : decode cX3_sentOf 14 = .ok (.iadd, 1) := dk_96 (dk_at dksX3_sentOf_0 14 rfl rfl)
theorem dX3_sentOf_15 : decode cX3_sentOf 15 = .ok (.aload_n 0, 1) := dk_42 (dk_at dksX3_sentOf_0 15 rfl rfl)
theorem dX3_sentOf_16 : decode cX3_sentOf 16 = .ok (.getfield 7, 3) := dk_180 0 7 (dk_at dksX3_sentOf_0 16 rfl rfl)
theorem dX3_sentOf_19 : decode cX3_sentOf 19 = .ok (.bipush 13, 2) := dk_16 13 (dk_at dksX3_sentOf_0 19 rfl rfl)
theorem dX3_sentOf_21 : decode cX3_sentOf 21 = .ok (.iaload, 1) := dk_46 (dk_at dksX3_sentOf_0 21 rfl rfl)
theorem dX3_sentOf_22 : decode cX3_sentOf 22 = .ok (.iadd, 1) := dk_96 (dk_at dksX3_sentOf_0 22 rfl rfl)
theorem dX3_sentOf_23 : decode cX3_sentOf 23 = .ok (.ireturn, 1) := dk_172 (dk_at dksX3_sentOf_0 23 rfl rfl)
abbrev cX3_lost : ByteArray := prog_19_method_96_code
def yX3_lost : MethodName := ⟨RX3, "lost", "()I"⟩
def dkwX3_lost_0 : List UInt8 := [42, 3, 181, 0, 28, 42, 180, 0, 7, 16, 12, 46, 172]
abbrev dktX3_lost_0 : List UInt8 := dkwX3_lost_0 ++ []
theorem dksX3_lost_0 : cX3_lost.data.toList.drop 0 = dktX3_lost_0 := by decide +kernel
theorem dX3_lost_0 : decode cX3_lost 0 = .ok (.aload_n 0, 1) := dk_42 (dk_at dksX3_lost_0 0 rfl rfl)
theorem dX3_lost_1 : decode cX3_lost 1 = .ok (.iconst 0, 1) := dk_3 (dk_at dksX3_lost_0 1 rfl rfl)
theorem dX3_lost_2 : decode cX3_lost 2 = .ok (.putfield 28, 3) := dk_181 0 28 (dk_at dksX3_lost_0 2 rfl rfl)
theorem dX3_lost_5 : decode cX3_lost 5 = .ok (.aload_n 0, 1) := dk_42 (dk_at dksX3_lost_0 5 rfl rfl)
theorem dX3_lost_6 : decode cX3_lost 6 = .ok (.getfield 7, 3) := dk_180 0 7 (dk_at dksX3_lost_0 6 rfl rfl)
theorem dX3_lost_9 : decode cX3_lost 9 = .ok (.bipush 12, 2) := dk_16 12 (dk_at dksX3_lost_0 9 rfl rfl)
theorem dX3_lost_11 : decode cX3_lost 11 = .ok (.iaload, 1) := dk_46 (dk_at dksX3_lost_0 11 rfl rfl)
theorem dX3_lost_12 : decode cX3_lost 12 = .ok (.ireturn, 1) := dk_172 (dk_at dksX3_lost_0 12 rfl rfl)
abbrev cX3_wouldSend : ByteArray := prog_19_method_98_code
def yX3_wouldSend : MethodName := ⟨RX3, "wouldSend", "(I)I"⟩
def dkwX3_wouldSend_1 : List UInt8 := [182, 0, 106, 172]
abbrev dktX3_wouldSend_1 : List UInt8 := dkwX3_wouldSend_1 ++ []
def dkwX3_wouldSend_0 : List UInt8 := [42, 3, 181, 0, 28, 42, 27, 182, 0, 132, 153, 0, 11, 42, 27, 182, 0, 223, 167, 0, 8, 42, 4]
abbrev dktX3_wouldSend_0 : List UInt8 := dkwX3_wouldSend_0 ++ dktX3_wouldSend_1
theorem dksX3_wouldSend_0 : cX3_wouldSend.data.toList.drop 0 = dktX3_wouldSend_0 := by decide +kernel
theorem dksX3_wouldSend_1 : cX3_wouldSend.data.toList.drop 23 = dktX3_wouldSend_1 := dk_seg dksX3_wouldSend_0 23 rfl rfl
theorem dX3_wouldSend_0 : decode cX3_wouldSend 0 = .ok (.aload_n 0, 1) := dk_42 (dk_at dksX3_wouldSend_0 0 rfl rfl)
theorem dX3_wouldSend_1 : decode cX3_wouldSend 1 = .ok (.iconst 0, 1) := dk_3 (dk_at dksX3_wouldSend_0 1 rfl rfl)
theorem dX3_wouldSend_2 : decode cX3_wouldSend 2 = .ok (.putfield 28, 3) := dk_181 0 28 (dk_at dksX3_wouldSend_0 2 rfl rfl)
theorem dX3_wouldSend_5 : decode cX3_wouldSend 5 = .ok (.aload_n 0, 1) := dk_42 (dk_at dksX3_wouldSend_0 5 rfl rfl)
theorem dX3_wouldSend_6 : decode cX3_wouldSend 6 = .ok (.iload_n 1, 1) := dk_27 (dk_at dksX3_wouldSend_0 6 rfl rfl)
theorem dX3_wouldSend_7 : decode cX3_wouldSend 7 = .ok (.invokevirtual 132, 3) := dk_182 0 132 (dk_at dksX3_wouldSend_0 7 rfl rfl)
theorem dX3_wouldSend_10 : decode cX3_wouldSend 10 = .ok (.ifCond .eq 11, 3) := dk_153 0 11 (dk_at dksX3_wouldSend_0 10 rfl rfl)
theorem dX3_wouldSend_13 : decode cX3_wouldSend 13 = .ok (.aload_n 0, 1) := dk_42 (dk_at dksX3_wouldSend_0 13 rfl rfl)
theorem dX3_wouldSend_14 : decode cX3_wouldSend 14 = .ok (.iload_n 1, 1) := dk_27 (dk_at dksX3_wouldSend_0 14 rfl rfl)
theorem dX3_wouldSend_15 : decode cX3_wouldSend 15 = .ok (.invokevirtual 223, 3) := dk_182 0 223 (dk_at dksX3_wouldSend_0 15 rfl rfl)
theorem dX3_wouldSend_18 : decode cX3_wouldSend 18 = .ok (.goto 8, 3) := dk_167 0 8 (dk_at dksX3_wouldSend_0 18 rfl rfl)
theorem dX3_wouldSend_21 : decode cX3_wouldSend 21 = .ok (.aload_n 0, 1) := dk_42 (dk_at dksX3_wouldSend_0 21 rfl rfl)
theorem dX3_wouldSend_22 : decode cX3_wouldSend 22 = .ok (.iconst 1, 1) := dk_4 (dk_at dksX3_wouldSend_0 22 rfl rfl)
theorem dX3_wouldSend_23 : decode cX3_wouldSend 23 = .ok (.invokevirtual 106, 3) := dk_182 0 106 (dk_at dksX3_wouldSend_1 0 rfl rfl)
theorem dX3_wouldSend_26 : decode cX3_wouldSend 26 = .ok (.ireturn, 1) := dk_172 (dk_at dksX3_wouldSend_1 3 rfl rfl)
abbrev cX3_sendsBy : ByteArray := prog_19_method_97_code
def yX3_sendsBy : MethodName := ⟨RX3, "sendsBy", "(I)I"⟩
def dkwX3_sendsBy_1 : List UInt8 := [182, 0, 100, 87, 42, 180, 0, 7, 16, 10, 46, 28, 100, 62, 42, 182, 0, 220, 29, 172]
abbrev dktX3_sendsBy_1 : List UInt8 := dkwX3_sendsBy_1 ++ []
def dkwX3_sendsBy_0 : List UInt8 := [42, 27, 182, 0, 88, 154, 0, 5, 2, 172, 42, 182, 0, 217, 42, 180, 0, 7, 16, 10, 46, 61, 42, 27]
abbrev dktX3_sendsBy_0 : List UInt8 := dkwX3_sendsBy_0 ++ dktX3_sendsBy_1
theorem dksX3_sendsBy_0 : cX3_sendsBy.data.toList.drop 0 = dktX3_sendsBy_0 := by decide +kernel
theorem dksX3_sendsBy_1 : cX3_sendsBy.data.toList.drop 24 = dktX3_sendsBy_1 := dk_seg dksX3_sendsBy_0 24 rfl rfl
theorem dX3_sendsBy_0 : decode cX3_sendsBy 0 = .ok (.aload_n 0, 1) := dk_42 (dk_at dksX3_sendsBy_0 0 rfl rfl)
theorem dX3_sendsBy_1 : decode cX3_sendsBy 1 = .ok (.iload_n 1, 1) := dk_27 (dk_at dksX3_sendsBy_0 1 rfl rfl)
theorem dX3_sendsBy_2 : decode cX3_sendsBy 2 = .ok (.invokevirtual 88, 3) := dk_182 0 88 (dk_at dksX3_sendsBy_0 2 rfl rfl)
theorem dX3_sendsBy_5 : decode cX3_sendsBy 5 = .ok (.ifCond .ne 5, 3) := dk_154 0 5 (dk_at dksX3_sendsBy_0 5 rfl rfl)
theorem dX3_sendsBy_8 : decode cX3_sendsBy 8 = .ok (.iconst (-1), 1) := dk_2 (dk_at dksX3_sendsBy_0 8 rfl rfl)
theorem dX3_sendsBy_9 : decode cX3_sendsBy 9 = .ok (.ireturn, 1) := dk_172 (dk_at dksX3_sendsBy_0 9 rfl rfl)
theorem dX3_sendsBy_10 : decode cX3_sendsBy 10 = .ok (.aload_n 0, 1) := dk_42 (dk_at dksX3_sendsBy_0 10 rfl rfl)
theorem dX3_sendsBy_11 : decode cX3_sendsBy 11 = .ok (.invokevirtual 217, 3) := dk_182 0 217 (dk_at dksX3_sendsBy_0 11 rfl rfl)
theorem dX3_sendsBy_14 : decode cX3_sendsBy 14 = .ok (.aload_n 0, 1) := dk_42 (dk_at dksX3_sendsBy_0 14 rfl rfl)
theorem dX3_sendsBy_15 : decode cX3_sendsBy 15 = .ok (.getfield 7, 3) := dk_180 0 7 (dk_at dksX3_sendsBy_0 15 rfl rfl)
theorem dX3_sendsBy_18 : decode cX3_sendsBy 18 = .ok (.bipush 10, 2) := dk_16 10 (dk_at dksX3_sendsBy_0 18 rfl rfl)
theorem dX3_sendsBy_20 : decode cX3_sendsBy 20 = .ok (.iaload, 1) := dk_46 (dk_at dksX3_sendsBy_0 20 rfl rfl)
theorem dX3_sendsBy_21 : decode cX3_sendsBy 21 = .ok (.istore_n 2, 1) := dk_61 (dk_at dksX3_sendsBy_0 21 rfl rfl)
theorem dX3_sendsBy_22 : decode cX3_sendsBy 22 = .ok (.aload_n 0, 1) := dk_42 (dk_at dksX3_sendsBy_0 22 rfl rfl)
theorem dX3_sendsBy_23 : decode cX3_sendsBy 23 = .ok (.iload_n 1, 1) := dk_27 (dk_at dksX3_sendsBy_0 23 rfl rfl)
theorem dX3_sendsBy_24 : decode cX3_sendsBy 24 = .ok (.invokevirtual 100, 3) := dk_182 0 100 (dk_at dksX3_sendsBy_1 0 rfl rfl)
theorem dX3_sendsBy_27 : decode cX3_sendsBy 27 = .ok (.pop, 1) := dk_87 (dk_at dksX3_sendsBy_1 3 rfl rfl)
theorem dX3_sendsBy_28 : decode cX3_sendsBy 28 = .ok (.aload_n 0, 1) := dk_42 (dk_at dksX3_sendsBy_1 4 rfl rfl)
theorem dX3_sendsBy_29 : decode cX3_sendsBy 29 = .ok (.getfield 7, 3) := dk_180 0 7 (dk_at dksX3_sendsBy_1 5 rfl rfl)
theorem dX3_sendsBy_32 : decode cX3_sendsBy 32 = .ok (.bipush 10, 2) := dk_16 10 (dk_at dksX3_sendsBy_1 8 rfl rfl)
theorem dX3_sendsBy_34 : decode cX3_sendsBy 34 = .ok (.iaload, 1) := dk_46 (dk_at dksX3_sendsBy_1 10 rfl rfl)
theorem dX3_sendsBy_35 : decode cX3_sendsBy 35 = .ok (.iload_n 2, 1) := dk_28 (dk_at dksX3_sendsBy_1 11 rfl rfl)
theorem dX3_sendsBy_36 : decode cX3_sendsBy 36 = .ok (.isub, 1) := dk_100 (dk_at dksX3_sendsBy_1 12 rfl rfl)
theorem dX3_sendsBy_37 : decode cX3_sendsBy 37 = .ok (.istore_n 3, 1) := dk_62 (dk_at dksX3_sendsBy_1 13 rfl rfl)
theorem dX3_sendsBy_38 : decode cX3_sendsBy 38 = .ok (.aload_n 0, 1) := dk_42 (dk_at dksX3_sendsBy_1 14 rfl rfl)
theorem dX3_sendsBy_39 : decode cX3_sendsBy 39 = .ok (.invokevirtual 220, 3) := dk_182 0 220 (dk_at dksX3_sendsBy_1 15 rfl rfl)
theorem dX3_sendsBy_42 : decode cX3_sendsBy 42 = .ok (.iload_n 3, 1) := dk_29 (dk_at dksX3_sendsBy_1 18 rfl rfl)
theorem dX3_sendsBy_43 : decode cX3_sendsBy 43 = .ok (.ireturn, 1) := dk_172 (dk_at dksX3_sendsBy_1 19 rfl rfl)
abbrev cX3_putAside : ByteArray := prog_19_method_13_code
def yX3_putAside : MethodName := ⟨RX3, "putAside", "()V"⟩
def dkwX3_putAside_1 : List UInt8 := [167, 255, 234, 177]
abbrev dktX3_putAside_1 : List UInt8 := dkwX3_putAside_1 ++ []
def dkwX3_putAside_0 : List UInt8 := [3, 60, 27, 17, 1, 0, 162, 0, 21, 42, 180, 0, 13, 27, 42, 180, 0, 7, 27, 46, 79, 132, 1, 1]
abbrev dktX3_putAside_0 : List UInt8 := dkwX3_putAside_0 ++ dktX3_putAside_1
theorem dksX3_putAside_0 : cX3_putAside.data.toList.drop 0 = dktX3_putAside_0 := by decide +kernel
theorem dksX3_putAside_1 : cX3_putAside.data.toList.drop 24 = dktX3_putAside_1 := dk_seg dksX3_putAside_0 24 rfl rfl
theorem dX3_putAside_0 : decode cX3_putAside 0 = .ok (.iconst 0, 1) := dk_3 (dk_at dksX3_putAside_0 0 rfl rfl)
theorem dX3_putAside_1 : decode cX3_putAside 1 = .ok (.istore_n 1, 1) := dk_60 (dk_at dksX3_putAside_0 1 rfl rfl)
theorem dX3_putAside_2 : decode cX3_putAside 2 = .ok (.iload_n 1, 1) := dk_27 (dk_at dksX3_putAside_0 2 rfl rfl)
theorem dX3_putAside_3 : decode cX3_putAside 3 = .ok (.sipush 256, 3) := dk_17 1 0 (dk_at dksX3_putAside_0 3 rfl rfl)
theorem dX3_putAside_6 : decode cX3_putAside 6 = .ok (.if_icmp .ge 21, 3) := dk_162 0 21 (dk_at dksX3_putAside_0 6 rfl rfl)
theorem dX3_putAside_9 : decode cX3_putAside 9 = .ok (.aload_n 0, 1) := dk_42 (dk_at dksX3_putAside_0 9 rfl rfl)
theorem dX3_putAside_10 : decode cX3_putAside 10 = .ok (.getfield 13, 3) := dk_180 0 13 (dk_at dksX3_putAside_0 10 rfl rfl)
theorem dX3_putAside_13 : decode cX3_putAside 13 = .ok (.iload_n 1, 1) := dk_27 (dk_at dksX3_putAside_0 13 rfl rfl)
theorem dX3_putAside_14 : decode cX3_putAside 14 = .ok (.aload_n 0, 1) := dk_42 (dk_at dksX3_putAside_0 14 rfl rfl)
theorem dX3_putAside_15 : decode cX3_putAside 15 = .ok (.getfield 7, 3) := dk_180 0 7 (dk_at dksX3_putAside_0 15 rfl rfl)
theorem dX3_putAside_18 : decode cX3_putAside 18 = .ok (.iload_n 1, 1) := dk_27 (dk_at dksX3_putAside_0 18 rfl rfl)
theorem dX3_putAside_19 : decode cX3_putAside 19 = .ok (.iaload, 1) := dk_46 (dk_at dksX3_putAside_0 19 rfl rfl)
theorem dX3_putAside_20 : decode cX3_putAside 20 = .ok (.iastore, 1) := dk_79 (dk_at dksX3_putAside_0 20 rfl rfl)
theorem dX3_putAside_21 : decode cX3_putAside 21 = .ok (.iinc 1 1, 3) := dk_132 1 1 (dk_at dksX3_putAside_0 21 rfl rfl)
theorem dX3_putAside_24 : decode cX3_putAside 24 = .ok (.goto (-22), 3) := dk_167 255 234 (dk_at dksX3_putAside_1 0 rfl rfl)
theorem dX3_putAside_27 : decode cX3_putAside 27 = .ok (.return_, 1) := dk_177 (dk_at dksX3_putAside_1 3 rfl rfl)
abbrev cX3_takeBack : ByteArray := prog_19_method_14_code
def yX3_takeBack : MethodName := ⟨RX3, "takeBack", "()V"⟩
def dkwX3_takeBack_1 : List UInt8 := [167, 255, 234, 177]
abbrev dktX3_takeBack_1 : List UInt8 := dkwX3_takeBack_1 ++ []
def dkwX3_takeBack_0 : List UInt8 := [3, 60, 27, 17, 1, 0, 162, 0, 21, 42, 180, 0, 7, 27, 42, 180, 0, 13, 27, 46, 79, 132, 1, 1]
abbrev dktX3_takeBack_0 : List UInt8 := dkwX3_takeBack_0 ++ dktX3_takeBack_1
theorem dksX3_takeBack_0 : cX3_takeBack.data.toList.drop 0 = dktX3_takeBack_0 := by decide +kernel
theorem dksX3_takeBack_1 : cX3_takeBack.data.toList.drop 24 = dktX3_takeBack_1 := dk_seg dksX3_takeBack_0 24 rfl rfl
theorem dX3_takeBack_0 : decode cX3_takeBack 0 = .ok (.iconst 0, 1) := dk_3 (dk_at dksX3_takeBack_0 0 rfl rfl)
theorem dX3_takeBack_1 : decode cX3_takeBack 1 = .ok (.istore_n 1, 1) := dk_60 (dk_at dksX3_takeBack_0 1 rfl rfl)
theorem dX3_takeBack_2 : decode cX3_takeBack 2 = .ok (.iload_n 1, 1) := dk_27 (dk_at dksX3_takeBack_0 2 rfl rfl)
theorem dX3_takeBack_3 : decode cX3_takeBack 3 = .ok (.sipush 256, 3) := dk_17 1 0 (dk_at dksX3_takeBack_0 3 rfl rfl)
theorem dX3_takeBack_6 : decode cX3_takeBack 6 = .ok (.if_icmp .ge 21, 3) := dk_162 0 21 (dk_at dksX3_takeBack_0 6 rfl rfl)
theorem dX3_takeBack_9 : decode cX3_takeBack 9 = .ok (.aload_n 0, 1) := dk_42 (dk_at dksX3_takeBack_0 9 rfl rfl)
theorem dX3_takeBack_10 : decode cX3_takeBack 10 = .ok (.getfield 7, 3) := dk_180 0 7 (dk_at dksX3_takeBack_0 10 rfl rfl)
theorem dX3_takeBack_13 : decode cX3_takeBack 13 = .ok (.iload_n 1, 1) := dk_27 (dk_at dksX3_takeBack_0 13 rfl rfl)
theorem dX3_takeBack_14 : decode cX3_takeBack 14 = .ok (.aload_n 0, 1) := dk_42 (dk_at dksX3_takeBack_0 14 rfl rfl)
theorem dX3_takeBack_15 : decode cX3_takeBack 15 = .ok (.getfield 13, 3) := dk_180 0 13 (dk_at dksX3_takeBack_0 15 rfl rfl)
theorem dX3_takeBack_18 : decode cX3_takeBack 18 = .ok (.iload_n 1, 1) := dk_27 (dk_at dksX3_takeBack_0 18 rfl rfl)
theorem dX3_takeBack_19 : decode cX3_takeBack 19 = .ok (.iaload, 1) := dk_46 (dk_at dksX3_takeBack_0 19 rfl rfl)
theorem dX3_takeBack_20 : decode cX3_takeBack 20 = .ok (.iastore, 1) := dk_79 (dk_at dksX3_takeBack_0 20 rfl rfl)
theorem dX3_takeBack_21 : decode cX3_takeBack 21 = .ok (.iinc 1 1, 3) := dk_132 1 1 (dk_at dksX3_takeBack_0 21 rfl rfl)
theorem dX3_takeBack_24 : decode cX3_takeBack 24 = .ok (.goto (-22), 3) := dk_167 255 234 (dk_at dksX3_takeBack_1 0 rfl rfl)
theorem dX3_takeBack_27 : decode cX3_takeBack 27 = .ok (.return_, 1) := dk_177 (dk_at dksX3_takeBack_1 3 rfl rfl)
abbrev cX3_messagesToSettle : ByteArray := prog_19_method_101_code
def yX3_messagesToSettle : MethodName := ⟨RX3, "messagesToSettle", "()I"⟩
def dkwX3_messagesToSettle_0 : List UInt8 := [42, 3, 181, 0, 28, 42, 182, 0, 229, 172]
abbrev dktX3_messagesToSettle_0 : List UInt8 := dkwX3_messagesToSettle_0 ++ []
theorem dksX3_messagesToSettle_0 : cX3_messagesToSettle.data.toList.drop 0 = dktX3_messagesToSettle_0 := by decide +kernel
theorem dX3_messagesToSettle_0 : decode cX3_messagesToSettle 0 = .ok (.aload_n 0, 1) := dk_42 (dk_at dksX3_messagesToSettle_0 0 rfl rfl)
theorem dX3_messagesToSettle_1 : decode cX3_messagesToSettle 1 = .ok (.iconst 0, 1) := dk_3 (dk_at dksX3_messagesToSettle_0 1 rfl rfl)
theorem dX3_messagesToSettle_2 : decode cX3_messagesToSettle 2 = .ok (.putfield 28, 3) := dk_181 0 28 (dk_at dksX3_messagesToSettle_0 2 rfl rfl)
theorem dX3_messagesToSettle_5 : decode cX3_messagesToSettle 5 = .ok (.aload_n 0, 1) := dk_42 (dk_at dksX3_messagesToSettle_0 5 rfl rfl)
theorem dX3_messagesToSettle_6 : decode cX3_messagesToSettle 6 = .ok (.invokevirtual 229, 3) := dk_182 0 229 (dk_at dksX3_messagesToSettle_0 6 rfl rfl)
theorem dX3_messagesToSettle_9 : decode cX3_messagesToSettle 9 = .ok (.ireturn, 1) := dk_172 (dk_at dksX3_messagesToSettle_0 9 rfl rfl)
abbrev cX3_settledMany : ByteArray := prog_19_method_100_code
def yX3_settledMany : MethodName := ⟨RX3, "settledMany", "()I"⟩
def dkwX3_settledMany_0 : List UInt8 := [42, 182, 0, 226, 60, 42, 182, 0, 220, 27, 172]
abbrev dktX3_settledMany_0 : List UInt8 := dkwX3_settledMany_0 ++ []
theorem dksX3_settledMany_0 : cX3_settledMany.data.toList.drop 0 = dktX3_settledMany_0 := by decide +kernel
theorem dX3_settledMany_0 : decode cX3_settledMany 0 = .ok (.aload_n 0, 1) := dk_42 (dk_at dksX3_settledMany_0 0 rfl rfl)
theorem dX3_settledMany_1 : decode cX3_settledMany 1 = .ok (.invokevirtual 226, 3) := dk_182 0 226 (dk_at dksX3_settledMany_0 1 rfl rfl)
theorem dX3_settledMany_4 : decode cX3_settledMany 4 = .ok (.istore_n 1, 1) := dk_60 (dk_at dksX3_settledMany_0 4 rfl rfl)
theorem dX3_settledMany_5 : decode cX3_settledMany 5 = .ok (.aload_n 0, 1) := dk_42 (dk_at dksX3_settledMany_0 5 rfl rfl)
theorem dX3_settledMany_6 : decode cX3_settledMany 6 = .ok (.invokevirtual 220, 3) := dk_182 0 220 (dk_at dksX3_settledMany_0 6 rfl rfl)
theorem dX3_settledMany_9 : decode cX3_settledMany 9 = .ok (.iload_n 1, 1) := dk_27 (dk_at dksX3_settledMany_0 9 rfl rfl)
theorem dX3_settledMany_10 : decode cX3_settledMany 10 = .ok (.ireturn, 1) := dk_172 (dk_at dksX3_settledMany_0 10 rfl rfl)
abbrev cX3_settles : ByteArray := prog_19_method_99_code
def yX3_settles : MethodName := ⟨RX3, "settles", "()I"⟩
def dkwX3_settles_2 : List UInt8 := [167, 255, 232, 42, 182, 0, 139, 172]
abbrev dktX3_settles_2 : List UInt8 := dkwX3_settles_2 ++ []
def dkwX3_settles_1 : List UInt8 := [162, 0, 25, 42, 180, 0, 7, 3, 27, 96, 46, 154, 0, 8, 42, 27, 182, 0, 152, 132, 1, 1]
abbrev dktX3_settles_1 : List UInt8 := dkwX3_settles_1 ++ dktX3_settles_2
def dkwX3_settles_0 : List UInt8 := [42, 182, 0, 217, 42, 180, 0, 7, 7, 46, 154, 0, 8, 42, 7, 182, 0, 152, 3, 60, 27, 7]
abbrev dktX3_settles_0 : List UInt8 := dkwX3_settles_0 ++ dktX3_settles_1
theorem dksX3_settles_0 : cX3_settles.data.toList.drop 0 = dktX3_settles_0 := by decide +kernel
theorem dksX3_settles_1 : cX3_settles.data.toList.drop 22 = dktX3_settles_1 := dk_seg dksX3_settles_0 22 rfl rfl
theorem dksX3_settles_2 : cX3_settles.data.toList.drop 44 = dktX3_settles_2 := dk_seg dksX3_settles_1 22 rfl rfl
theorem dX3_settles_0 : decode cX3_settles 0 = .ok (.aload_n 0, 1) := dk_42 (dk_at dksX3_settles_0 0 rfl rfl)
theorem dX3_settles_1 : decode cX3_settles 1 = .ok (.invokevirtual 217, 3) := dk_182 0 217 (dk_at dksX3_settles_0 1 rfl rfl)
theorem dX3_settles_4 : decode cX3_settles 4 = .ok (.aload_n 0, 1) := dk_42 (dk_at dksX3_settles_0 4 rfl rfl)
theorem dX3_settles_5 : decode cX3_settles 5 = .ok (.getfield 7, 3) := dk_180 0 7 (dk_at dksX3_settles_0 5 rfl rfl)
theorem dX3_settles_8 : decode cX3_settles 8 = .ok (.iconst 4, 1) := dk_7 (dk_at dksX3_settles_0 8 rfl rfl)
theorem dX3_settles_9 : decode cX3_settles 9 = .ok (.iaload, 1) := dk_46 (dk_at dksX3_settles_0 9 rfl rfl)
theorem dX3_settles_10 : decode cX3_settles 10 = .ok (.ifCond .ne 8, 3) := dk_154 0 8 (dk_at dksX3_settles_0 10 rfl rfl)
theorem dX3_settles_13 : decode cX3_settles 13 = .ok (.aload_n 0, 1) := dk_42 (dk_at dksX3_settles_0 13 rfl rfl)
theorem dX3_settles_14 : decode cX3_settles 14 = .ok (.iconst 4, 1) := dk_7 (dk_at dksX3_settles_0 14 rfl rfl)
theorem dX3_settles_15 : decode cX3_settles 15 = .ok (.invokevirtual 152, 3) := dk_182 0 152 (dk_at dksX3_settles_0 15 rfl rfl)
theorem dX3_settles_18 : decode cX3_settles 18 = .ok (.iconst 0, 1) := dk_3 (dk_at dksX3_settles_0 18 rfl rfl)
theorem dX3_settles_19 : decode cX3_settles 19 = .ok (.istore_n 1, 1) := dk_60 (dk_at dksX3_settles_0 19 rfl rfl)
theorem dX3_settles_20 : decode cX3_settles 20 = .ok (.iload_n 1, 1) := dk_27 (dk_at dksX3_settles_0 20 rfl rfl)
theorem dX3_settles_21 : decode cX3_settles 21 = .ok (.iconst 4, 1) := dk_7 (dk_at dksX3_settles_0 21 rfl rfl)
theorem dX3_settles_22 : decode cX3_settles 22 = .ok (.if_icmp .ge 25, 3) := dk_162 0 25 (dk_at dksX3_settles_1 0 rfl rfl)
theorem dX3_settles_25 : decode cX3_settles 25 = .ok (.aload_n 0, 1) := dk_42 (dk_at dksX3_settles_1 3 rfl rfl)
theorem dX3_settles_26 : decode cX3_settles 26 = .ok (.getfield 7, 3) := dk_180 0 7 (dk_at dksX3_settles_1 4 rfl rfl)
theorem dX3_settles_29 : decode cX3_settles 29 = .ok (.iconst 0, 1) := dk_3 (dk_at dksX3_settles_1 7 rfl rfl)
theorem dX3_settles_30 : decode cX3_settles 30 = .ok (.iload_n 1, 1) := dk_27 (dk_at dksX3_settles_1 8 rfl rfl)
theorem dX3_settles_31 : decode cX3_settles 31 = .ok (.iadd, 1) := dk_96 (dk_at dksX3_settles_1 9 rfl rfl)
theorem dX3_settles_32 : decode cX3_settles 32 = .ok (.iaload, 1) := dk_46 (dk_at dksX3_settles_1 10 rfl rfl)
theorem dX3_settles_33 : decode cX3_settles 33 = .ok (.ifCond .ne 8, 3) := dk_154 0 8 (dk_at dksX3_settles_1 11 rfl rfl)
theorem dX3_settles_36 : decode cX3_settles 36 = .ok (.aload_n 0, 1) := dk_42 (dk_at dksX3_settles_1 14 rfl rfl)
theorem dX3_settles_37 : decode cX3_settles 37 = .ok (.iload_n 1, 1) := dk_27 (dk_at dksX3_settles_1 15 rfl rfl)
theorem dX3_settles_38 : decode cX3_settles 38 = .ok (.invokevirtual 152, 3) := dk_182 0 152 (dk_at dksX3_settles_1 16 rfl rfl)
theorem dX3_settles_41 : decode cX3_settles 41 = .ok (.iinc 1 1, 3) := dk_132 1 1 (dk_at dksX3_settles_1 19 rfl rfl)
theorem dX3_settles_44 : decode cX3_settles 44 = .ok (.goto (-24), 3) := dk_167 255 232 (dk_at dksX3_settles_2 0 rfl rfl)
theorem dX3_settles_47 : decode cX3_settles 47 = .ok (.aload_n 0, 1) := dk_42 (dk_at dksX3_settles_2 3 rfl rfl)
theorem dX3_settles_48 : decode cX3_settles 48 = .ok (.invokevirtual 139, 3) := dk_182 0 139 (dk_at dksX3_settles_2 4 rfl rfl)
theorem dX3_settles_51 : decode cX3_settles 51 = .ok (.ireturn, 1) := dk_172 (dk_at dksX3_settles_2 7 rfl rfl)
abbrev cX3_outcomeIfSettled : ByteArray := prog_19_method_103_code
def yX3_outcomeIfSettled : MethodName := ⟨RX3, "outcomeIfSettled", "(I)I"⟩
def dkwX3_outcomeIfSettled_1 : List UInt8 := [182, 0, 106, 172]
abbrev dktX3_outcomeIfSettled_1 : List UInt8 := dkwX3_outcomeIfSettled_1 ++ []
def dkwX3_outcomeIfSettled_0 : List UInt8 := [42, 3, 181, 0, 28, 42, 27, 182, 0, 123, 153, 0, 11, 42, 27, 182, 0, 232, 167, 0, 8, 42, 4]
abbrev dktX3_outcomeIfSettled_0 : List UInt8 := dkwX3_outcomeIfSettled_0 ++ dktX3_outcomeIfSettled_1
theorem dksX3_outcomeIfSettled_0 : cX3_outcomeIfSettled.data.toList.drop 0 = dktX3_outcomeIfSettled_0 := by decide +kernel
theorem dksX3_outcomeIfSettled_1 : cX3_outcomeIfSettled.data.toList.drop 23 = dktX3_outcomeIfSettled_1 := dk_seg dksX3_outcomeIfSettled_0 23 rfl rfl
theorem dX3_outcomeIfSettled_0 : decode cX3_outcomeIfSettled 0 = .ok (.aload_n 0, 1) := dk_42 (dk_at dksX3_outcomeIfSettled_0 0 rfl rfl)
theorem dX3_outcomeIfSettled_1 : decode cX3_outcomeIfSettled 1 = .ok (.iconst 0, 1) := dk_3 (dk_at dksX3_outcomeIfSettled_0 1 rfl rfl)
theorem dX3_outcomeIfSettled_2 : decode cX3_outcomeIfSettled 2 = .ok (.putfield 28, 3) := dk_181 0 28 (dk_at dksX3_outcomeIfSettled_0 2 rfl rfl)
theorem dX3_outcomeIfSettled_5 : decode cX3_outcomeIfSettled 5 = .ok (.aload_n 0, 1) := dk_42 (dk_at dksX3_outcomeIfSettled_0 5 rfl rfl)
theorem dX3_outcomeIfSettled_6 : decode cX3_outcomeIfSettled 6 = .ok (.iload_n 1, 1) := dk_27 (dk_at dksX3_outcomeIfSettled_0 6 rfl rfl)
theorem dX3_outcomeIfSettled_7 : decode cX3_outcomeIfSettled 7 = .ok (.invokevirtual 123, 3) := dk_182 0 123 (dk_at dksX3_outcomeIfSettled_0 7 rfl rfl)
theorem dX3_outcomeIfSettled_10 : decode cX3_outcomeIfSettled 10 = .ok (.ifCond .eq 11, 3) := dk_153 0 11 (dk_at dksX3_outcomeIfSettled_0 10 rfl rfl)
theorem dX3_outcomeIfSettled_13 : decode cX3_outcomeIfSettled 13 = .ok (.aload_n 0, 1) := dk_42 (dk_at dksX3_outcomeIfSettled_0 13 rfl rfl)
theorem dX3_outcomeIfSettled_14 : decode cX3_outcomeIfSettled 14 = .ok (.iload_n 1, 1) := dk_27 (dk_at dksX3_outcomeIfSettled_0 14 rfl rfl)
theorem dX3_outcomeIfSettled_15 : decode cX3_outcomeIfSettled 15 = .ok (.invokevirtual 232, 3) := dk_182 0 232 (dk_at dksX3_outcomeIfSettled_0 15 rfl rfl)
theorem dX3_outcomeIfSettled_18 : decode cX3_outcomeIfSettled 18 = .ok (.goto 8, 3) := dk_167 0 8 (dk_at dksX3_outcomeIfSettled_0 18 rfl rfl)
theorem dX3_outcomeIfSettled_21 : decode cX3_outcomeIfSettled 21 = .ok (.aload_n 0, 1) := dk_42 (dk_at dksX3_outcomeIfSettled_0 21 rfl rfl)
theorem dX3_outcomeIfSettled_22 : decode cX3_outcomeIfSettled 22 = .ok (.iconst 1, 1) := dk_4 (dk_at dksX3_outcomeIfSettled_0 22 rfl rfl)
theorem dX3_outcomeIfSettled_23 : decode cX3_outcomeIfSettled 23 = .ok (.invokevirtual 106, 3) := dk_182 0 106 (dk_at dksX3_outcomeIfSettled_1 0 rfl rfl)
theorem dX3_outcomeIfSettled_26 : decode cX3_outcomeIfSettled 26 = .ok (.ireturn, 1) := dk_172 (dk_at dksX3_outcomeIfSettled_1 3 rfl rfl)
abbrev cX3_settledOutcome : ByteArray := prog_19_method_102_code
def yX3_settledOutcome : MethodName := ⟨RX3, "settledOutcome", "(I)I"⟩
def dkwX3_settledOutcome_0 : List UInt8 := [42, 182, 0, 226, 87, 42, 27, 8, 182, 0, 39, 61, 42, 182, 0, 220, 28, 172]
abbrev dktX3_settledOutcome_0 : List UInt8 := dkwX3_settledOutcome_0 ++ []
theorem dksX3_settledOutcome_0 : cX3_settledOutcome.data.toList.drop 0 = dktX3_settledOutcome_0 := by decide +kernel
theorem dX3_settledOutcome_0 : decode cX3_settledOutcome 0 = .ok (.aload_n 0, 1) := dk_42 (dk_at dksX3_settledOutcome_0 0 rfl rfl)
theorem dX3_settledOutcome_1 : decode cX3_settledOutcome 1 = .ok (.invokevirtual 226, 3) := dk_182 0 226 (dk_at dksX3_settledOutcome_0 1 rfl rfl)
theorem dX3_settledOutcome_4 : decode cX3_settledOutcome 4 = .ok (.pop, 1) := dk_87 (dk_at dksX3_settledOutcome_0 4 rfl rfl)
theorem dX3_settledOutcome_5 : decode cX3_settledOutcome 5 = .ok (.aload_n 0, 1) := dk_42 (dk_at dksX3_settledOutcome_0 5 rfl rfl)
theorem dX3_settledOutcome_6 : decode cX3_settledOutcome 6 = .ok (.iload_n 1, 1) := dk_27 (dk_at dksX3_settledOutcome_0 6 rfl rfl)
theorem dX3_settledOutcome_7 : decode cX3_settledOutcome 7 = .ok (.iconst 5, 1) := dk_8 (dk_at dksX3_settledOutcome_0 7 rfl rfl)
theorem dX3_settledOutcome_8 : decode cX3_settledOutcome 8 = .ok (.invokevirtual 39, 3) := dk_182 0 39 (dk_at dksX3_settledOutcome_0 8 rfl rfl)
theorem dX3_settledOutcome_11 : decode cX3_settledOutcome 11 = .ok (.istore_n 2, 1) := dk_61 (dk_at dksX3_settledOutcome_0 11 rfl rfl)
theorem dX3_settledOutcome_12 : decode cX3_settledOutcome 12 = .ok (.aload_n 0, 1) := dk_42 (dk_at dksX3_settledOutcome_0 12 rfl rfl)
theorem dX3_settledOutcome_13 : decode cX3_settledOutcome 13 = .ok (.invokevirtual 220, 3) := dk_182 0 220 (dk_at dksX3_settledOutcome_0 13 rfl rfl)
theorem dX3_settledOutcome_16 : decode cX3_settledOutcome 16 = .ok (.iload_n 2, 1) := dk_28 (dk_at dksX3_settledOutcome_0 16 rfl rfl)
theorem dX3_settledOutcome_17 : decode cX3_settledOutcome 17 = .ok (.ireturn, 1) := dk_172 (dk_at dksX3_settledOutcome_0 17 rfl rfl)
abbrev cX3_amountIfSettled : ByteArray := prog_19_method_105_code
def yX3_amountIfSettled : MethodName := ⟨RX3, "amountIfSettled", "(I)I"⟩
def dkwX3_amountIfSettled_1 : List UInt8 := [182, 0, 106, 172]
abbrev dktX3_amountIfSettled_1 : List UInt8 := dkwX3_amountIfSettled_1 ++ []
def dkwX3_amountIfSettled_0 : List UInt8 := [42, 3, 181, 0, 28, 27, 184, 0, 103, 153, 0, 11, 42, 27, 182, 0, 235, 167, 0, 8, 42, 4]
abbrev dktX3_amountIfSettled_0 : List UInt8 := dkwX3_amountIfSettled_0 ++ dktX3_amountIfSettled_1
theorem dksX3_amountIfSettled_0 : cX3_amountIfSettled.data.toList.drop 0 = dktX3_amountIfSettled_0 := by decide +kernel
theorem dksX3_amountIfSettled_1 : cX3_amountIfSettled.data.toList.drop 22 = dktX3_amountIfSettled_1 := dk_seg dksX3_amountIfSettled_0 22 rfl rfl
theorem dX3_amountIfSettled_0 : decode cX3_amountIfSettled 0 = .ok (.aload_n 0, 1) := dk_42 (dk_at dksX3_amountIfSettled_0 0 rfl rfl)
theorem dX3_amountIfSettled_1 : decode cX3_amountIfSettled 1 = .ok (.iconst 0, 1) := dk_3 (dk_at dksX3_amountIfSettled_0 1 rfl rfl)
theorem dX3_amountIfSettled_2 : decode cX3_amountIfSettled 2 = .ok (.putfield 28, 3) := dk_181 0 28 (dk_at dksX3_amountIfSettled_0 2 rfl rfl)
theorem dX3_amountIfSettled_5 : decode cX3_amountIfSettled 5 = .ok (.iload_n 1, 1) := dk_27 (dk_at dksX3_amountIfSettled_0 5 rfl rfl)
theorem dX3_amountIfSettled_6 : decode cX3_amountIfSettled 6 = .ok (.invokestatic 103, 3) := dk_184 0 103 (dk_at dksX3_amountIfSettled_0 6 rfl rfl)
theorem dX3_amountIfSettled_9 : decode cX3_amountIfSettled 9 = .ok (.ifCond .eq 11, 3) := dk_153 0 11 (dk_at dksX3_amountIfSettled_0 9 rfl rfl)
theorem dX3_amountIfSettled_12 : decode cX3_amountIfSettled 12 = .ok (.aload_n 0, 1) := dk_42 (dk_at dksX3_amountIfSettled_0 12 rfl rfl)
theorem dX3_amountIfSettled_13 : decode cX3_amountIfSettled 13 = .ok (.iload_n 1, 1) := dk_27 (dk_at dksX3_amountIfSettled_0 13 rfl rfl)
theorem dX3_amountIfSettled_14 : decode cX3_amountIfSettled 14 = .ok (.invokevirtual 235, 3) := dk_182 0 235 (dk_at dksX3_amountIfSettled_0 14 rfl rfl)
theorem dX3_amountIfSettled_17 : decode cX3_amountIfSettled 17 = .ok (.goto 8, 3) := dk_167 0 8 (dk_at dksX3_amountIfSettled_0 17 rfl rfl)
theorem dX3_amountIfSettled_20 : decode cX3_amountIfSettled 20 = .ok (.aload_n 0, 1) := dk_42 (dk_at dksX3_amountIfSettled_0 20 rfl rfl)
theorem dX3_amountIfSettled_21 : decode cX3_amountIfSettled 21 = .ok (.iconst 1, 1) := dk_4 (dk_at dksX3_amountIfSettled_0 21 rfl rfl)
theorem dX3_amountIfSettled_22 : decode cX3_amountIfSettled 22 = .ok (.invokevirtual 106, 3) := dk_182 0 106 (dk_at dksX3_amountIfSettled_1 0 rfl rfl)
theorem dX3_amountIfSettled_25 : decode cX3_amountIfSettled 25 = .ok (.ireturn, 1) := dk_172 (dk_at dksX3_amountIfSettled_1 3 rfl rfl)
abbrev cX3_settledAmount : ByteArray := prog_19_method_104_code
def yX3_settledAmount : MethodName := ⟨RX3, "settledAmount", "(I)I"⟩
def dkwX3_settledAmount_0 : List UInt8 := [42, 182, 0, 226, 87, 42, 180, 0, 7, 8, 27, 96, 46, 61, 42, 182, 0, 220, 28, 172]
abbrev dktX3_settledAmount_0 : List UInt8 := dkwX3_settledAmount_0 ++ []
theorem dksX3_settledAmount_0 : cX3_settledAmount.data.toList.drop 0 = dktX3_settledAmount_0 := by decide +kernel
theorem dX3_settledAmount_0 : decode cX3_settledAmount 0 = .ok (.aload_n 0, 1) := dk_42 (dk_at dksX3_settledAmount_0 0 rfl rfl)
theorem dX3_settledAmount_1 : decode cX3_settledAmount 1 = .ok (.invokevirtual 226, 3) := dk_182 0 226 (dk_at dksX3_settledAmount_0 1 rfl rfl)
theorem dX3_settledAmount_4 : decode cX3_settledAmount 4 = .ok (.pop, 1) := dk_87 (dk_at dksX3_settledAmount_0 4 rfl rfl)
theorem dX3_settledAmount_5 : decode cX3_settledAmount 5 = .ok (.aload_n 0, 1) := dk_42 (dk_at dksX3_settledAmount_0 5 rfl rfl)
theorem dX3_settledAmount_6 : decode cX3_settledAmount 6 = .ok (.getfield 7, 3) := dk_180 0 7 (dk_at dksX3_settledAmount_0 6 rfl rfl)
theorem dX3_settledAmount_9 : decode cX3_settledAmount 9 = .ok (.iconst 5, 1) := dk_8 (dk_at dksX3_settledAmount_0 9 rfl rfl)
theorem dX3_settledAmount_10 : decode cX3_settledAmount 10 = .ok (.iload_n 1, 1) := dk_27 (dk_at dksX3_settledAmount_0 10 rfl rfl)
theorem dX3_settledAmount_11 : decode cX3_settledAmount 11 = .ok (.iadd, 1) := dk_96 (dk_at dksX3_settledAmount_0 11 rfl rfl)
theorem dX3_settledAmount_12 : decode cX3_settledAmount 12 = .ok (.iaload, 1) := dk_46 (dk_at dksX3_settledAmount_0 12 rfl rfl)
theorem dX3_settledAmount_13 : decode cX3_settledAmount 13 = .ok (.istore_n 2, 1) := dk_61 (dk_at dksX3_settledAmount_0 13 rfl rfl)
theorem dX3_settledAmount_14 : decode cX3_settledAmount 14 = .ok (.aload_n 0, 1) := dk_42 (dk_at dksX3_settledAmount_0 14 rfl rfl)
theorem dX3_settledAmount_15 : decode cX3_settledAmount 15 = .ok (.invokevirtual 220, 3) := dk_182 0 220 (dk_at dksX3_settledAmount_0 15 rfl rfl)
theorem dX3_settledAmount_18 : decode cX3_settledAmount 18 = .ok (.iload_n 2, 1) := dk_28 (dk_at dksX3_settledAmount_0 18 rfl rfl)
theorem dX3_settledAmount_19 : decode cX3_settledAmount 19 = .ok (.ireturn, 1) := dk_172 (dk_at dksX3_settledAmount_0 19 rfl rfl)
abbrev cX3_greatestSize : ByteArray := prog_19_method_107_code
def yX3_greatestSize : MethodName := ⟨RX3, "greatestSize", "(II)I"⟩
def dkwX3_greatestSize_1 : List UInt8 := [153, 0, 12, 42, 27, 28, 182, 0, 238, 167, 0, 8, 42, 5, 182, 0, 106, 172]
abbrev dktX3_greatestSize_1 : List UInt8 := dkwX3_greatestSize_1 ++ []
def dkwX3_greatestSize_0 : List UInt8 := [42, 3, 181, 0, 28, 27, 184, 0, 103, 154, 0, 9, 42, 4, 182, 0, 106, 172, 27, 28, 184, 0, 109]
abbrev dktX3_greatestSize_0 : List UInt8 := dkwX3_greatestSize_0 ++ dktX3_greatestSize_1
theorem dksX3_greatestSize_0 : cX3_greatestSize.data.toList.drop 0 = dktX3_greatestSize_0 := by decide +kernel
theorem dksX3_greatestSize_1 : cX3_greatestSize.data.toList.drop 23 = dktX3_greatestSize_1 := dk_seg dksX3_greatestSize_0 23 rfl rfl
theorem dX3_greatestSize_0 : decode cX3_greatestSize 0 = .ok (.aload_n 0, 1) := dk_42 (dk_at dksX3_greatestSize_0 0 rfl rfl)
theorem dX3_greatestSize_1 : decode cX3_greatestSize 1 = .ok (.iconst 0, 1) := dk_3 (dk_at dksX3_greatestSize_0 1 rfl rfl)
theorem dX3_greatestSize_2 : decode cX3_greatestSize 2 = .ok (.putfield 28, 3) := dk_181 0 28 (dk_at dksX3_greatestSize_0 2 rfl rfl)
theorem dX3_greatestSize_5 : decode cX3_greatestSize 5 = .ok (.iload_n 1, 1) := dk_27 (dk_at dksX3_greatestSize_0 5 rfl rfl)
theorem dX3_greatestSize_6 : decode cX3_greatestSize 6 = .ok (.invokestatic 103, 3) := dk_184 0 103 (dk_at dksX3_greatestSize_0 6 rfl rfl)
theorem dX3_greatestSize_9 : decode cX3_greatestSize 9 = .ok (.ifCond .ne 9, 3) := dk_154 0 9 (dk_at dksX3_greatestSize_0 9 rfl rfl)
theorem dX3_greatestSize_12 : decode cX3_greatestSize 12 = .ok (.aload_n 0, 1) := dk_42 (dk_at dksX3_greatestSize_0 12 rfl rfl)
theorem dX3_greatestSize_13 : decode cX3_greatestSize 13 = .ok (.iconst 1, 1) := dk_4 (dk_at dksX3_greatestSize_0 13 rfl rfl)
theorem dX3_greatestSize_14 : decode cX3_greatestSize 14 = .ok (.invokevirtual 106, 3) := dk_182 0 106 (dk_at dksX3_greatestSize_0 14 rfl rfl)
theorem dX3_greatestSize_17 : decode cX3_greatestSize 17 = .ok (.ireturn, 1) := dk_172 (dk_at dksX3_greatestSize_0 17 rfl rfl)
theorem dX3_greatestSize_18 : decode cX3_greatestSize 18 = .ok (.iload_n 1, 1) := dk_27 (dk_at dksX3_greatestSize_0 18 rfl rfl)
theorem dX3_greatestSize_19 : decode cX3_greatestSize 19 = .ok (.iload_n 2, 1) := dk_28 (dk_at dksX3_greatestSize_0 19 rfl rfl)
theorem dX3_greatestSize_20 : decode cX3_greatestSize 20 = .ok (.invokestatic 109, 3) := dk_184 0 109 (dk_at dksX3_greatestSize_0 20 rfl rfl)
theorem dX3_greatestSize_23 : decode cX3_greatestSize 23 = .ok (.ifCond .eq 12, 3) := dk_153 0 12 (dk_at dksX3_greatestSize_1 0 rfl rfl)
theorem dX3_greatestSize_26 : decode cX3_greatestSize 26 = .ok (.aload_n 0, 1) := dk_42 (dk_at dksX3_greatestSize_1 3 rfl rfl)
theorem dX3_greatestSize_27 : decode cX3_greatestSize 27 = .ok (.iload_n 1, 1) := dk_27 (dk_at dksX3_greatestSize_1 4 rfl rfl)
theorem dX3_greatestSize_28 : decode cX3_greatestSize 28 = .ok (.iload_n 2, 1) := dk_28 (dk_at dksX3_greatestSize_1 5 rfl rfl)
theorem dX3_greatestSize_29 : decode cX3_greatestSize 29 = .ok (.invokevirtual 238, 3) := dk_182 0 238 (dk_at dksX3_greatestSize_1 6 rfl rfl)
theorem dX3_greatestSize_32 : decode cX3_greatestSize 32 = .ok (.goto 8, 3) := dk_167 0 8 (dk_at dksX3_greatestSize_1 9 rfl rfl)
theorem dX3_greatestSize_35 : decode cX3_greatestSize 35 = .ok (.aload_n 0, 1) := dk_42 (dk_at dksX3_greatestSize_1 12 rfl rfl)
theorem dX3_greatestSize_36 : decode cX3_greatestSize 36 = .ok (.iconst 2, 1) := dk_5 (dk_at dksX3_greatestSize_1 13 rfl rfl)
theorem dX3_greatestSize_37 : decode cX3_greatestSize 37 = .ok (.invokevirtual 106, 3) := dk_182 0 106 (dk_at dksX3_greatestSize_1 14 rfl rfl)
theorem dX3_greatestSize_40 : decode cX3_greatestSize 40 = .ok (.ireturn, 1) := dk_172 (dk_at dksX3_greatestSize_1 17 rfl rfl)
abbrev cX3_greatest : ByteArray := prog_19_method_106_code
def yX3_greatest : MethodName := ⟨RX3, "greatest", "(II)I"⟩
def dkwX3_greatest_3 : List UInt8 := [153, 0, 8, 21, 4, 167, 0, 4, 29, 62, 132, 4, 1, 167, 255, 177, 29, 172]
abbrev dktX3_greatest_3 : List UInt8 := dkwX3_greatest_3 ++ []
def dkwX3_greatest_2 : List UInt8 := [21, 7, 182, 0, 74, 153, 0, 7, 4, 167, 0, 4, 3, 54, 5, 132, 6, 1, 167, 255, 208, 21, 5]
abbrev dktX3_greatest_2 : List UInt8 := dkwX3_greatest_2 ++ dktX3_greatest_3
def dkwX3_greatest_1 : List UInt8 := [27, 28, 21, 4, 21, 6, 184, 0, 47, 54, 7, 21, 5, 153, 0, 23, 21, 7, 153, 0, 14, 42, 21, 6]
abbrev dktX3_greatest_1 : List UInt8 := dkwX3_greatest_1 ++ dktX3_greatest_2
def dkwX3_greatest_0 : List UInt8 := [3, 62, 4, 54, 4, 21, 4, 16, 51, 162, 0, 78, 4, 54, 5, 3, 54, 6, 21, 6, 7, 162, 0, 48]
abbrev dktX3_greatest_0 : List UInt8 := dkwX3_greatest_0 ++ dktX3_greatest_1
theorem dksX3_greatest_0 : cX3_greatest.data.toList.drop 0 = dktX3_greatest_0 := by decide +kernel
theorem dksX3_greatest_1 : cX3_greatest.data.toList.drop 24 = dktX3_greatest_1 := dk_seg dksX3_greatest_0 24 rfl rfl
theorem dksX3_greatest_2 : cX3_greatest.data.toList.drop 48 = dktX3_greatest_2 := dk_seg dksX3_greatest_1 24 rfl rfl
theorem dksX3_greatest_3 : cX3_greatest.data.toList.drop 71 = dktX3_greatest_3 := dk_seg dksX3_greatest_2 23 rfl rfl
theorem dX3_greatest_0 : decode cX3_greatest 0 = .ok (.iconst 0, 1) := dk_3 (dk_at dksX3_greatest_0 0 rfl rfl)
theorem dX3_greatest_1 : decode cX3_greatest 1 = .ok (.istore_n 3, 1) := dk_62 (dk_at dksX3_greatest_0 1 rfl rfl)
theorem dX3_greatest_2 : decode cX3_greatest 2 = .ok (.iconst 1, 1) := dk_4 (dk_at dksX3_greatest_0 2 rfl rfl)
theorem dX3_greatest_3 : decode cX3_greatest 3 = .ok (.istore 4, 2) := dk_54 4 (dk_at dksX3_greatest_0 3 rfl rfl)
theorem dX3_greatest_5 : decode cX3_greatest 5 = .ok (.iload 4, 2) := dk_21 4 (dk_at dksX3_greatest_0 5 rfl rfl)
theorem dX3_greatest_7 : decode cX3_greatest 7 = .ok (.bipush 51, 2) := dk_16 51 (dk_at dksX3_greatest_0 7 rfl rfl)
theorem dX3_greatest_9 : decode cX3_greatest 9 = .ok (.if_icmp .ge 78, 3) := dk_162 0 78 (dk_at dksX3_greatest_0 9 rfl rfl)
theorem dX3_greatest_12 : decode cX3_greatest 12 = .ok (.iconst 1, 1) := dk_4 (dk_at dksX3_greatest_0 12 rfl rfl)
theorem dX3_greatest_13 : decode cX3_greatest 13 = .ok (.istore 5, 2) := dk_54 5 (dk_at dksX3_greatest_0 13 rfl rfl)
theorem dX3_greatest_15 : decode cX3_greatest 15 = .ok (.iconst 0, 1) := dk_3 (dk_at dksX3_greatest_0 15 rfl rfl)
theorem dX3_greatest_16 : decode cX3_greatest 16 = .ok (.istore 6, 2) := dk_54 6 (dk_at dksX3_greatest_0 16 rfl rfl)
theorem dX3_greatest_18 : decode cX3_greatest 18 = .ok (.iload 6, 2) := dk_21 6 (dk_at dksX3_greatest_0 18 rfl rfl)
theorem dX3_greatest_20 : decode cX3_greatest 20 = .ok (.iconst 4, 1) := dk_7 (dk_at dksX3_greatest_0 20 rfl rfl)
theorem dX3_greatest_21 : decode cX3_greatest 21 = .ok (.if_icmp .ge 48, 3) := dk_162 0 48 (dk_at dksX3_greatest_0 21 rfl rfl)
theorem dX3_greatest_24 : decode cX3_greatest 24 = .ok (.iload_n 1, 1) := dk_27 (dk_at dksX3_greatest_1 0 rfl rfl)
theorem dX3_greatest_25 : decode cX3_greatest 25 = .ok (.iload_n 2, 1) := dk_28 (dk_at dksX3_greatest_1 1 rfl rfl)
theorem dX3_greatest_26 : decode cX3_greatest 26 = .ok (.iload 4, 2) := dk_21 4 (dk_at dksX3_greatest_1 2 rfl rfl)
theorem dX3_greatest_28 : decode cX3_greatest 28 = .ok (.iload 6, 2) := dk_21 6 (dk_at dksX3_greatest_1 4 rfl rfl)
theorem dX3_greatest_30 : decode cX3_greatest 30 = .ok (.invokestatic 47, 3) := dk_184 0 47 (dk_at dksX3_greatest_1 6 rfl rfl)
theorem dX3_greatest_33 : decode cX3_greatest 33 = .ok (.istore 7, 2) := dk_54 7 (dk_at dksX3_greatest_1 9 rfl rfl)
theorem dX3_greatest_35 : decode cX3_greatest 35 = .ok (.iload 5, 2) := dk_21 5 (dk_at dksX3_greatest_1 11 rfl rfl)
theorem dX3_greatest_37 : decode cX3_greatest 37 = .ok (.ifCond .eq 23, 3) := dk_153 0 23 (dk_at dksX3_greatest_1 13 rfl rfl)
theorem dX3_greatest_40 : decode cX3_greatest 40 = .ok (.iload 7, 2) := dk_21 7 (dk_at dksX3_greatest_1 16 rfl rfl)
theorem dX3_greatest_42 : decode cX3_greatest 42 = .ok (.ifCond .eq 14, 3) := dk_153 0 14 (dk_at dksX3_greatest_1 18 rfl rfl)
theorem dX3_greatest_45 : decode cX3_greatest 45 = .ok (.aload_n 0, 1) := dk_42 (dk_at dksX3_greatest_1 21 rfl rfl)
theorem dX3_greatest_46 : decode cX3_greatest 46 = .ok (.iload 6, 2) := dk_21 6 (dk_at dksX3_greatest_1 22 rfl rfl)
theorem dX3_greatest_48 : decode cX3_greatest 48 = .ok (.iload 7, 2) := dk_21 7 (dk_at dksX3_greatest_2 0 rfl rfl)
theorem dX3_greatest_50 : decode cX3_greatest 50 = .ok (.invokevirtual 74, 3) := dk_182 0 74 (dk_at dksX3_greatest_2 2 rfl rfl)
theorem dX3_greatest_53 : decode cX3_greatest 53 = .ok (.ifCond .eq 7, 3) := dk_153 0 7 (dk_at dksX3_greatest_2 5 rfl rfl)
theorem dX3_greatest_56 : decode cX3_greatest 56 = .ok (.iconst 1, 1) := dk_4 (dk_at dksX3_greatest_2 8 rfl rfl)
theorem dX3_greatest_57 : decode cX3_greatest 57 = .ok (.goto 4, 3) := dk_167 0 4 (dk_at dksX3_greatest_2 9 rfl rfl)
theorem dX3_greatest_60 : decode cX3_greatest 60 = .ok (.iconst 0, 1) := dk_3 (dk_at dksX3_greatest_2 12 rfl rfl)
theorem dX3_greatest_61 : decode cX3_greatest 61 = .ok (.istore 5, 2) := dk_54 5 (dk_at dksX3_greatest_2 13 rfl rfl)
theorem dX3_greatest_63 : decode cX3_greatest 63 = .ok (.iinc 6 1, 3) := dk_132 6 1 (dk_at dksX3_greatest_2 15 rfl rfl)
theorem dX3_greatest_66 : decode cX3_greatest 66 = .ok (.goto (-48), 3) := dk_167 255 208 (dk_at dksX3_greatest_2 18 rfl rfl)
theorem dX3_greatest_69 : decode cX3_greatest 69 = .ok (.iload 5, 2) := dk_21 5 (dk_at dksX3_greatest_2 21 rfl rfl)
theorem dX3_greatest_71 : decode cX3_greatest 71 = .ok (.ifCond .eq 8, 3) := dk_153 0 8 (dk_at dksX3_greatest_3 0 rfl rfl)
theorem dX3_greatest_74 : decode cX3_greatest 74 = .ok (.iload 4, 2) := dk_21 4 (dk_at dksX3_greatest_3 3 rfl rfl)
theorem dX3_greatest_76 : decode cX3_greatest 76 = .ok (.goto 4, 3) := dk_167 0 4 (dk_at dksX3_greatest_3 5 rfl rfl)
theorem dX3_greatest_79 : decode cX3_greatest 79 = .ok (.iload_n 3, 1) := dk_29 (dk_at dksX3_greatest_3 8 rfl rfl)
theorem dX3_greatest_80 : decode cX3_greatest 80 = .ok (.istore_n 3, 1) := dk_62 (dk_at dksX3_greatest_3 9 rfl rfl)
theorem dX3_greatest_81 : decode cX3_greatest 81 = .ok (.iinc 4 1, 3) := dk_132 4 1 (dk_at dksX3_greatest_3 10 rfl rfl)
theorem dX3_greatest_84 : decode cX3_greatest 84 = .ok (.goto (-79), 3) := dk_167 255 177 (dk_at dksX3_greatest_3 13 rfl rfl)
theorem dX3_greatest_87 : decode cX3_greatest 87 = .ok (.iload_n 3, 1) := dk_29 (dk_at dksX3_greatest_3 16 rfl rfl)
theorem dX3_greatest_88 : decode cX3_greatest 88 = .ok (.ireturn, 1) := dk_172 (dk_at dksX3_greatest_3 17 rfl rfl)
abbrev cX3_lostShare : ByteArray := prog_19_method_109_code
def yX3_lostShare : MethodName := ⟨RX3, "lostShare", "()D"⟩
def dkwX3_lostShare_0 : List UInt8 := [42, 3, 181, 0, 28, 42, 182, 0, 241, 175]
abbrev dktX3_lostShare_0 : List UInt8 := dkwX3_lostShare_0 ++ []
theorem dksX3_lostShare_0 : cX3_lostShare.data.toList.drop 0 = dktX3_lostShare_0 := by decide +kernel
theorem dX3_lostShare_0 : decode cX3_lostShare 0 = .ok (.aload_n 0, 1) := dk_42 (dk_at dksX3_lostShare_0 0 rfl rfl)
theorem dX3_lostShare_1 : decode cX3_lostShare 1 = .ok (.iconst 0, 1) := dk_3 (dk_at dksX3_lostShare_0 1 rfl rfl)
theorem dX3_lostShare_2 : decode cX3_lostShare 2 = .ok (.putfield 28, 3) := dk_181 0 28 (dk_at dksX3_lostShare_0 2 rfl rfl)
theorem dX3_lostShare_5 : decode cX3_lostShare 5 = .ok (.aload_n 0, 1) := dk_42 (dk_at dksX3_lostShare_0 5 rfl rfl)
theorem dX3_lostShare_6 : decode cX3_lostShare 6 = .ok (.invokevirtual 241, 3) := dk_182 0 241 (dk_at dksX3_lostShare_0 6 rfl rfl)
theorem dX3_lostShare_9 : decode cX3_lostShare 9 = .ok (.dreturn, 1) := dk_175 (dk_at dksX3_lostShare_0 9 rfl rfl)
abbrev cX3_shareLost : ByteArray := prog_19_method_108_code
def yX3_shareLost : MethodName := ⟨RX3, "shareLost", "()D"⟩
def dkwX3_shareLost_1 : List UInt8 := [180, 0, 7, 16, 10, 46, 135, 111, 175]
abbrev dktX3_shareLost_1 : List UInt8 := dkwX3_shareLost_1 ++ []
def dkwX3_shareLost_0 : List UInt8 := [42, 180, 0, 7, 16, 10, 46, 154, 0, 7, 14, 167, 0, 20, 42, 180, 0, 7, 16, 12, 46, 135, 42]
abbrev dktX3_shareLost_0 : List UInt8 := dkwX3_shareLost_0 ++ dktX3_shareLost_1
theorem dksX3_shareLost_0 : cX3_shareLost.data.toList.drop 0 = dktX3_shareLost_0 := by decide +kernel
theorem dksX3_shareLost_1 : cX3_shareLost.data.toList.drop 23 = dktX3_shareLost_1 := dk_seg dksX3_shareLost_0 23 rfl rfl
theorem dX3_shareLost_0 : decode cX3_shareLost 0 = .ok (.aload_n 0, 1) := dk_42 (dk_at dksX3_shareLost_0 0 rfl rfl)
theorem dX3_shareLost_1 : decode cX3_shareLost 1 = .ok (.getfield 7, 3) := dk_180 0 7 (dk_at dksX3_shareLost_0 1 rfl rfl)
theorem dX3_shareLost_4 : decode cX3_shareLost 4 = .ok (.bipush 10, 2) := dk_16 10 (dk_at dksX3_shareLost_0 4 rfl rfl)
theorem dX3_shareLost_6 : decode cX3_shareLost 6 = .ok (.iaload, 1) := dk_46 (dk_at dksX3_shareLost_0 6 rfl rfl)
theorem dX3_shareLost_7 : decode cX3_shareLost 7 = .ok (.ifCond .ne 7, 3) := dk_154 0 7 (dk_at dksX3_shareLost_0 7 rfl rfl)
theorem dX3_shareLost_10 : decode cX3_shareLost 10 = .ok (.dconst 0, 1) := dk_14 (dk_at dksX3_shareLost_0 10 rfl rfl)
theorem dX3_shareLost_11 : decode cX3_shareLost 11 = .ok (.goto 20, 3) := dk_167 0 20 (dk_at dksX3_shareLost_0 11 rfl rfl)
theorem dX3_shareLost_14 : decode cX3_shareLost 14 = .ok (.aload_n 0, 1) := dk_42 (dk_at dksX3_shareLost_0 14 rfl rfl)
theorem dX3_shareLost_15 : decode cX3_shareLost 15 = .ok (.getfield 7, 3) := dk_180 0 7 (dk_at dksX3_shareLost_0 15 rfl rfl)
theorem dX3_shareLost_18 : decode cX3_shareLost 18 = .ok (.bipush 12, 2) := dk_16 12 (dk_at dksX3_shareLost_0 18 rfl rfl)
theorem dX3_shareLost_20 : decode cX3_shareLost 20 = .ok (.iaload, 1) := dk_46 (dk_at dksX3_shareLost_0 20 rfl rfl)
theorem dX3_shareLost_21 : decode cX3_shareLost 21 = .ok (.i2d, 1) := dk_135 (dk_at dksX3_shareLost_0 21 rfl rfl)
theorem dX3_shareLost_22 : decode cX3_shareLost 22 = .ok (.aload_n 0, 1) := dk_42 (dk_at dksX3_shareLost_0 22 rfl rfl)
theorem dX3_shareLost_23 : decode cX3_shareLost 23 = .ok (.getfield 7, 3) := dk_180 0 7 (dk_at dksX3_shareLost_1 0 rfl rfl)
theorem dX3_shareLost_26 : decode cX3_shareLost 26 = .ok (.bipush 10, 2) := dk_16 10 (dk_at dksX3_shareLost_1 3 rfl rfl)
theorem dX3_shareLost_28 : decode cX3_shareLost 28 = .ok (.iaload, 1) := dk_46 (dk_at dksX3_shareLost_1 5 rfl rfl)
theorem dX3_shareLost_29 : decode cX3_shareLost 29 = .ok (.i2d, 1) := dk_135 (dk_at dksX3_shareLost_1 6 rfl rfl)
theorem dX3_shareLost_30 : decode cX3_shareLost 30 = .ok (.ddiv, 1) := dk_111 (dk_at dksX3_shareLost_1 7 rfl rfl)
theorem dX3_shareLost_31 : decode cX3_shareLost 31 = .ok (.dreturn, 1) := dk_175 (dk_at dksX3_shareLost_1 8 rfl rfl)
abbrev cX3_meanSize : ByteArray := prog_19_method_111_code
def yX3_meanSize : MethodName := ⟨RX3, "meanSize", "()F"⟩
def dkwX3_meanSize_0 : List UInt8 := [42, 3, 181, 0, 28, 42, 182, 0, 245, 174]
abbrev dktX3_meanSize_0 : List UInt8 := dkwX3_meanSize_0 ++ []
theorem dksX3_meanSize_0 : cX3_meanSize.data.toList.drop 0 = dktX3_meanSize_0 := by decide +kernel
theorem dX3_meanSize_0 : decode cX3_meanSize 0 = .ok (.aload_n 0, 1) := dk_42 (dk_at dksX3_meanSize_0 0 rfl rfl)
theorem dX3_meanSize_1 : decode cX3_meanSize 1 = .ok (.iconst 0, 1) := dk_3 (dk_at dksX3_meanSize_0 1 rfl rfl)
theorem dX3_meanSize_2 : decode cX3_meanSize 2 = .ok (.putfield 28, 3) := dk_181 0 28 (dk_at dksX3_meanSize_0 2 rfl rfl)
theorem dX3_meanSize_5 : decode cX3_meanSize 5 = .ok (.aload_n 0, 1) := dk_42 (dk_at dksX3_meanSize_0 5 rfl rfl)
theorem dX3_meanSize_6 : decode cX3_meanSize 6 = .ok (.invokevirtual 245, 3) := dk_182 0 245 (dk_at dksX3_meanSize_0 6 rfl rfl)
theorem dX3_meanSize_9 : decode cX3_meanSize 9 = .ok (.freturn, 1) := dk_174 (dk_at dksX3_meanSize_0 9 rfl rfl)
abbrev cX3_mean : ByteArray := prog_19_method_110_code
def yX3_mean : MethodName := ⟨RX3, "mean", "()F"⟩
def dkwX3_mean_2 : List UInt8 := [180, 0, 7, 16, 9, 46, 134, 110, 174]
abbrev dktX3_mean_2 : List UInt8 := dkwX3_mean_2 ++ []
def dkwX3_mean_1 : List UInt8 := [132, 2, 1, 167, 255, 233, 42, 180, 0, 7, 16, 9, 46, 154, 0, 7, 11, 167, 0, 14, 27, 134, 42]
abbrev dktX3_mean_1 : List UInt8 := dkwX3_mean_1 ++ dktX3_mean_2
def dkwX3_mean_0 : List UInt8 := [3, 60, 3, 61, 28, 42, 180, 0, 7, 16, 9, 46, 162, 0, 18, 27, 42, 28, 5, 182, 0, 39, 96, 60]
abbrev dktX3_mean_0 : List UInt8 := dkwX3_mean_0 ++ dktX3_mean_1
theorem dksX3_mean_0 : cX3_mean.data.toList.drop 0 = dktX3_mean_0 := by decide +kernel
theorem dksX3_mean_1 : cX3_mean.data.toList.drop 24 = dktX3_mean_1 := dk_seg dksX3_mean_0 24 rfl rfl
theorem dksX3_mean_2 : cX3_mean.data.toList.drop 47 = dktX3_mean_2 := dk_seg dksX3_mean_1 23 rfl rfl
theorem dX3_mean_0 : decode cX3_mean 0 = .ok (.iconst 0, 1) := dk_3 (dk_at dksX3_mean_0 0 rfl rfl)
theorem dX3_mean_1 : decode cX3_mean 1 = .ok (.istore_n 1, 1) := dk_60 (dk_at dksX3_mean_0 1 rfl rfl)
theorem dX3_mean_2 : decode cX3_mean 2 = .ok (.iconst 0, 1) := dk_3 (dk_at dksX3_mean_0 2 rfl rfl)
theorem dX3_mean_3 : decode cX3_mean 3 = .ok (.istore_n 2, 1) := dk_61 (dk_at dksX3_mean_0 3 rfl rfl)
theorem dX3_mean_4 : decode cX3_mean 4 = .ok (.iload_n 2, 1) := dk_28 (dk_at dksX3_mean_0 4 rfl rfl)
theorem dX3_mean_5 : decode cX3_mean 5 = .ok (.aload_n 0, 1) := dk_42 (dk_at dksX3_mean_0 5 rfl rfl)
theorem dX3_mean_6 : decode cX3_mean 6 = .ok (.getfield 7, 3) := dk_180 0 7 (dk_at dksX3_mean_0 6 rfl rfl)
theorem dX3_mean_9 : decode cX3_mean 9 = .ok (.bipush 9, 2) := dk_16 9 (dk_at dksX3_mean_0 9 rfl rfl)
theorem dX3_mean_11 : decode cX3_mean 11 = .ok (.iaload, 1) := dk_46 (dk_at dksX3_mean_0 11 rfl rfl)
theorem dX3_mean_12 : decode cX3_mean 12 = .ok (.if_icmp .ge 18, 3) := dk_162 0 18 (dk_at dksX3_mean_0 12 rfl rfl)
theorem dX3_mean_15 : decode cX3_mean 15 = .ok (.iload_n 1, 1) := dk_27 (dk_at dksX3_mean_0 15 rfl rfl)
theorem dX3_mean_16 : decode cX3_mean 16 = .ok (.aload_n 0, 1) := dk_42 (dk_at dksX3_mean_0 16 rfl rfl)
theorem dX3_mean_17 : decode cX3_mean 17 = .ok (.iload_n 2, 1) := dk_28 (dk_at dksX3_mean_0 17 rfl rfl)
theorem dX3_mean_18 : decode cX3_mean 18 = .ok (.iconst 2, 1) := dk_5 (dk_at dksX3_mean_0 18 rfl rfl)
theorem dX3_mean_19 : decode cX3_mean 19 = .ok (.invokevirtual 39, 3) := dk_182 0 39 (dk_at dksX3_mean_0 19 rfl rfl)
theorem dX3_mean_22 : decode cX3_mean 22 = .ok (.iadd, 1) := dk_96 (dk_at dksX3_mean_0 22 rfl rfl)
theorem dX3_mean_23 : decode cX3_mean 23 = .ok (.istore_n 1, 1) := dk_60 (dk_at dksX3_mean_0 23 rfl rfl)
theorem dX3_mean_24 : decode cX3_mean 24 = .ok (.iinc 2 1, 3) := dk_132 2 1 (dk_at dksX3_mean_1 0 rfl rfl)
theorem dX3_mean_27 : decode cX3_mean 27 = .ok (.goto (-23), 3) := dk_167 255 233 (dk_at dksX3_mean_1 3 rfl rfl)
theorem dX3_mean_30 : decode cX3_mean 30 = .ok (.aload_n 0, 1) := dk_42 (dk_at dksX3_mean_1 6 rfl rfl)
theorem dX3_mean_31 : decode cX3_mean 31 = .ok (.getfield 7, 3) := dk_180 0 7 (dk_at dksX3_mean_1 7 rfl rfl)
theorem dX3_mean_34 : decode cX3_mean 34 = .ok (.bipush 9, 2) := dk_16 9 (dk_at dksX3_mean_1 10 rfl rfl)
theorem dX3_mean_36 : decode cX3_mean 36 = .ok (.iaload, 1) := dk_46 (dk_at dksX3_mean_1 12 rfl rfl)
theorem dX3_mean_37 : decode cX3_mean 37 = .ok (.ifCond .ne 7, 3) := dk_154 0 7 (dk_at dksX3_mean_1 13 rfl rfl)
theorem dX3_mean_40 : decode cX3_mean 40 = .ok (.fconst 0, 1) := dk_11 (dk_at dksX3_mean_1 16 rfl rfl)
theorem dX3_mean_41 : decode cX3_mean 41 = .ok (.goto 14, 3) := dk_167 0 14 (dk_at dksX3_mean_1 17 rfl rfl)
theorem dX3_mean_44 : decode cX3_mean 44 = .ok (.iload_n 1, 1) := dk_27 (dk_at dksX3_mean_1 20 rfl rfl)
theorem dX3_mean_45 : decode cX3_mean 45 = .ok (.i2f, 1) := dk_134 (dk_at dksX3_mean_1 21 rfl rfl)
theorem dX3_mean_46 : decode cX3_mean 46 = .ok (.aload_n 0, 1) := dk_42 (dk_at dksX3_mean_1 22 rfl rfl)
theorem dX3_mean_47 : decode cX3_mean 47 = .ok (.getfield 7, 3) := dk_180 0 7 (dk_at dksX3_mean_2 0 rfl rfl)
theorem dX3_mean_50 : decode cX3_mean 50 = .ok (.bipush 9, 2) := dk_16 9 (dk_at dksX3_mean_2 3 rfl rfl)
theorem dX3_mean_52 : decode cX3_mean 52 = .ok (.iaload, 1) := dk_46 (dk_at dksX3_mean_2 5 rfl rfl)
theorem dX3_mean_53 : decode cX3_mean 53 = .ok (.i2f, 1) := dk_134 (dk_at dksX3_mean_2 6 rfl rfl)
theorem dX3_mean_54 : decode cX3_mean 54 = .ok (.fdiv, 1) := dk_110 (dk_at dksX3_mean_2 7 rfl rfl)
theorem dX3_mean_55 : decode cX3_mean 55 = .ok (.freturn, 1) := dk_174 (dk_at dksX3_mean_2 8 rfl rfl)
abbrev cX3_digest : ByteArray := prog_19_method_114_code
def yX3_digest : MethodName := ⟨RX3, "digest", "()J"⟩
def dkwX3_digest_17 : List UInt8 := [133, 97, 64, 132, 3, 1, 167, 255, 231, 31, 173]
abbrev dktX3_digest_17 : List UInt8 := dkwX3_digest_17 ++ []
def dkwX3_digest_16 : List UInt8 := [133, 97, 64, 3, 62, 29, 42, 180, 0, 156, 162, 0, 23, 20, 0, 249, 31, 105, 42, 180, 0, 22, 29, 46]
abbrev dktX3_digest_16 : List UInt8 := dkwX3_digest_16 ++ dktX3_digest_17
def dkwX3_digest_15 : List UInt8 := [20, 0, 249, 31, 105, 42, 180, 0, 190, 153, 0, 7, 4, 167, 0, 4, 3, 133, 97, 105, 42, 180, 0, 156]
abbrev dktX3_digest_15 : List UInt8 := dkwX3_digest_15 ++ dktX3_digest_16
def dkwX3_digest_14 : List UInt8 := [184, 1, 4, 97, 64, 20, 0, 249, 31, 105, 42, 182, 0, 245, 184, 1, 10, 133, 97, 64, 20, 0, 249]
abbrev dktX3_digest_14 : List UInt8 := dkwX3_digest_14 ++ dktX3_digest_15
def dkwX3_digest_13 : List UInt8 := [16, 14, 182, 0, 238, 133, 97, 105, 42, 180, 0, 36, 133, 97, 64, 20, 0, 249, 31, 105, 42, 182, 0, 241]
abbrev dktX3_digest_13 : List UInt8 := dkwX3_digest_13 ++ dktX3_digest_14
def dkwX3_digest_12 : List UInt8 := [133, 97, 64, 20, 0, 249, 20, 0, 249, 20, 0, 249, 31, 105, 42, 182, 0, 229, 133, 97, 105, 42, 3]
abbrev dktX3_digest_12 : List UInt8 := dkwX3_digest_12 ++ dktX3_digest_13
def dkwX3_digest_11 : List UInt8 := [42, 180, 0, 7, 16, 10, 46, 133, 97, 105, 42, 182, 0, 214, 133, 97, 105, 42, 180, 0, 7, 16, 12, 46]
abbrev dktX3_digest_11 : List UInt8 := dkwX3_digest_11 ++ dktX3_digest_12
def dkwX3_digest_10 : List UInt8 := [29, 182, 0, 223, 133, 97, 64, 132, 3, 1, 167, 255, 183, 20, 0, 249, 20, 0, 249, 20, 0, 249, 31, 105]
abbrev dktX3_digest_10 : List UInt8 := dkwX3_digest_10 ++ dktX3_digest_11
def dkwX3_digest_9 : List UInt8 := [16, 32, 108, 133, 97, 105, 21, 4, 7, 108, 16, 8, 112, 133, 97, 105, 21, 4, 7, 112, 133, 97, 105, 42]
abbrev dktX3_digest_9 : List UInt8 := dkwX3_digest_9 ++ dktX3_digest_10
def dkwX3_digest_8 : List UInt8 := [17, 0, 195, 29, 96, 46, 54, 4, 20, 0, 249, 20, 0, 249, 20, 0, 249, 20, 0, 249, 31, 105, 21, 4]
abbrev dktX3_digest_8 : List UInt8 := dkwX3_digest_8 ++ dktX3_digest_9
def dkwX3_digest_7 : List UInt8 := [16, 13, 46, 133, 97, 64, 3, 62, 29, 42, 180, 0, 7, 16, 13, 46, 162, 0, 68, 42, 180, 0, 7]
abbrev dktX3_digest_7 : List UInt8 := dkwX3_digest_7 ++ dktX3_digest_8
def dkwX3_digest_6 : List UInt8 := [20, 0, 249, 31, 105, 42, 182, 0, 205, 133, 97, 105, 42, 182, 0, 208, 133, 97, 105, 42, 180, 0, 7]
abbrev dktX3_digest_6 : List UInt8 := dkwX3_digest_6 ++ dktX3_digest_7
def dkwX3_digest_5 : List UInt8 := [162, 0, 16, 42, 31, 29, 182, 1, 1, 64, 132, 3, 1, 167, 255, 241, 20, 0, 249, 20, 0, 249]
abbrev dktX3_digest_5 : List UInt8 := dkwX3_digest_5 ++ dktX3_digest_6
def dkwX3_digest_4 : List UInt8 := [182, 0, 199, 133, 97, 105, 42, 29, 182, 0, 235, 133, 97, 64, 132, 3, 1, 167, 255, 197, 3, 62, 29, 8]
abbrev dktX3_digest_4 : List UInt8 := dkwX3_digest_4 ++ dktX3_digest_5
def dkwX3_digest_3 : List UInt8 := [96, 46, 133, 97, 105, 42, 29, 182, 0, 193, 133, 97, 64, 20, 0, 249, 20, 0, 249, 31, 105, 42, 29]
abbrev dktX3_digest_3 : List UInt8 := dkwX3_digest_3 ++ dktX3_digest_4
def dkwX3_digest_2 : List UInt8 := [167, 255, 235, 3, 62, 29, 7, 162, 0, 60, 20, 0, 249, 20, 0, 249, 31, 105, 42, 180, 0, 7, 8, 29]
abbrev dktX3_digest_2 : List UInt8 := dkwX3_digest_2 ++ dktX3_digest_3
def dkwX3_digest_1 : List UInt8 := [3, 62, 29, 42, 180, 0, 7, 16, 9, 46, 162, 0, 16, 42, 31, 29, 182, 0, 253, 64, 132, 3, 1]
abbrev dktX3_digest_1 : List UInt8 := dkwX3_digest_1 ++ dktX3_digest_2
def dkwX3_digest_0 : List UInt8 := [42, 3, 181, 0, 28, 20, 0, 251, 64, 20, 0, 249, 31, 105, 42, 180, 0, 7, 16, 9, 46, 133, 97, 64]
abbrev dktX3_digest_0 : List UInt8 := dkwX3_digest_0 ++ dktX3_digest_1
theorem dksX3_digest_0 : cX3_digest.data.toList.drop 0 = dktX3_digest_0 := by decide +kernel
theorem dksX3_digest_1 : cX3_digest.data.toList.drop 24 = dktX3_digest_1 := dk_seg dksX3_digest_0 24 rfl rfl
theorem dksX3_digest_2 : cX3_digest.data.toList.drop 47 = dktX3_digest_2 := dk_seg dksX3_digest_1 23 rfl rfl
theorem dksX3_digest_3 : cX3_digest.data.toList.drop 71 = dktX3_digest_3 := dk_seg dksX3_digest_2 24 rfl rfl
theorem dksX3_digest_4 : cX3_digest.data.toList.drop 94 = dktX3_digest_4 := dk_seg dksX3_digest_3 23 rfl rfl
theorem dksX3_digest_5 : cX3_digest.data.toList.drop 118 = dktX3_digest_5 := dk_seg dksX3_digest_4 24 rfl rfl
theorem dksX3_digest_6 : cX3_digest.data.toList.drop 140 = dktX3_digest_6 := dk_seg dksX3_digest_5 22 rfl rfl
theorem dksX3_digest_7 : cX3_digest.data.toList.drop 163 = dktX3_digest_7 := dk_seg dksX3_digest_6 23 rfl rfl
theorem dksX3_digest_8 : cX3_digest.data.toList.drop 186 = dktX3_digest_8 := dk_seg dksX3_digest_7 23 rfl rfl
theorem dksX3_digest_9 : cX3_digest.data.toList.drop 210 = dktX3_digest_9 := dk_seg dksX3_digest_8 24 rfl rfl
theorem dksX3_digest_10 : cX3_digest.data.toList.drop 234 = dktX3_digest_10 := dk_seg dksX3_digest_9 24 rfl rfl
theorem dksX3_digest_11 : cX3_digest.data.toList.drop 258 = dktX3_digest_11 := dk_seg dksX3_digest_10 24 rfl rfl
theorem dksX3_digest_12 : cX3_digest.data.toList.drop 282 = dktX3_digest_12 := dk_seg dksX3_digest_11 24 rfl rfl
theorem dksX3_digest_13 : cX3_digest.data.toList.drop 305 = dktX3_digest_13 := dk_seg dksX3_digest_12 23 rfl rfl
theorem dksX3_digest_14 : cX3_digest.data.toList.drop 329 = dktX3_digest_14 := dk_seg dksX3_digest_13 24 rfl rfl
theorem dksX3_digest_15 : cX3_digest.data.toList.drop 352 = dktX3_digest_15 := dk_seg dksX3_digest_14 23 rfl rfl
theorem dksX3_digest_16 : cX3_digest.data.toList.drop 376 = dktX3_digest_16 := dk_seg dksX3_digest_15 24 rfl rfl
theorem dksX3_digest_17 : cX3_digest.data.toList.drop 400 = dktX3_digest_17 := dk_seg dksX3_digest_16 24 rfl rfl
theorem dX3_digest_0 : decode cX3_digest 0 = .ok (.aload_n 0, 1) := dk_42 (dk_at dksX3_digest_0 0 rfl rfl)
theorem dX3_digest_1 : decode cX3_digest 1 = .ok (.iconst 0, 1) := dk_3 (dk_at dksX3_digest_0 1 rfl rfl)
theorem dX3_digest_2 : decode cX3_digest 2 = .ok (.putfield 28, 3) := dk_181 0 28 (dk_at dksX3_digest_0 2 rfl rfl)
theorem dX3_digest_5 : decode cX3_digest 5 = .ok (.ldc2_w 251, 3) := dk_20 0 251 (dk_at dksX3_digest_0 5 rfl rfl)
theorem dX3_digest_8 : decode cX3_digest 8 = .ok (.lstore_n 1, 1) := dk_64 (dk_at dksX3_digest_0 8 rfl rfl)
theorem dX3_digest_9 : decode cX3_digest 9 = .ok (.ldc2_w 249, 3) := dk_20 0 249 (dk_at dksX3_digest_0 9 rfl rfl)
theorem dX3_digest_12 : decode cX3_digest 12 = .ok (.lload_n 1, 1) := dk_31 (dk_at dksX3_digest_0 12 rfl rfl)
theorem dX3_digest_13 : decode cX3_digest 13 = .ok (.lmul, 1) := dk_105 (dk_at dksX3_digest_0 13 rfl rfl)
theorem dX3_digest_14 : decode cX3_digest 14 = .ok (.aload_n 0, 1) := dk_42 (dk_at dksX3_digest_0 14 rfl rfl)
theorem dX3_digest_15 : decode cX3_digest 15 = .ok (.getfield 7, 3) := dk_180 0 7 (dk_at dksX3_digest_0 15 rfl rfl)
theorem dX3_digest_18 : decode cX3_digest 18 = .ok (.bipush 9, 2) := dk_16 9 (dk_at dksX3_digest_0 18 rfl rfl)
theorem dX3_digest_20 : decode cX3_digest 20 = .ok (.iaload, 1) := dk_46 (dk_at dksX3_digest_0 20 rfl rfl)
theorem dX3_digest_21 : decode cX3_digest 21 = .ok (.i2l, 1) := dk_133 (dk_at dksX3_digest_0 21 rfl rfl)
theorem dX3_digest_22 : decode cX3_digest 22 = .ok (.ladd, 1) := dk_97 (dk_at dksX3_digest_0 22 rfl rfl)
theorem dX3_digest_23 : decode cX3_digest 23 = .ok (.lstore_n 1, 1) := dk_64 (dk_at dksX3_digest_0 23 rfl rfl)
theorem dX3_digest_24 : decode cX3_digest 24 = .ok (.iconst 0, 1) := dk_3 (dk_at dksX3_digest_1 0 rfl rfl)
theorem dX3_digest_25 : decode cX3_digest 25 = .ok (.istore_n 3, 1) := dk_62 (dk_at dksX3_digest_1 1 rfl rfl)
theorem dX3_digest_26 : decode cX3_digest 26 = .ok (.iload_n 3, 1) := dk_29 (dk_at dksX3_digest_1 2 rfl rfl)
theorem dX3_digest_27 : decode cX3_digest 27 = .ok (.aload_n 0, 1) := dk_42 (dk_at dksX3_digest_1 3 rfl rfl)
theorem dX3_digest_28 : decode cX3_digest 28 = .ok (.getfield 7, 3) := dk_180 0 7 (dk_at dksX3_digest_1 4 rfl rfl)
theorem dX3_digest_31 : decode cX3_digest 31 = .ok (.bipush 9, 2) := dk_16 9 (dk_at dksX3_digest_1 7 rfl rfl)
theorem dX3_digest_33 : decode cX3_digest 33 = .ok (.iaload, 1) := dk_46 (dk_at dksX3_digest_1 9 rfl rfl)
theorem dX3_digest_34 : decode cX3_digest 34 = .ok (.if_icmp .ge 16, 3) := dk_162 0 16 (dk_at dksX3_digest_1 10 rfl rfl)
theorem dX3_digest_37 : decode cX3_digest 37 = .ok (.aload_n 0, 1) := dk_42 (dk_at dksX3_digest_1 13 rfl rfl)
theorem dX3_digest_38 : decode cX3_digest 38 = .ok (.lload_n 1, 1) := dk_31 (dk_at dksX3_digest_1 14 rfl rfl)
theorem dX3_digest_39 : decode cX3_digest 39 = .ok (.iload_n 3, 1) := dk_29 (dk_at dksX3_digest_1 15 rfl rfl)
theorem dX3_digest_40 : decode cX3_digest 40 = .ok (.invokevirtual 253, 3) := dk_182 0 253 (dk_at dksX3_digest_1 16 rfl rfl)
theorem dX3_digest_43 : decode cX3_digest 43 = .ok (.lstore_n 1, 1) := dk_64 (dk_at dksX3_digest_1 19 rfl rfl)
theorem dX3_digest_44 : decode cX3_digest 44 = .ok (.iinc 3 1, 3) := dk_132 3 1 (dk_at dksX3_digest_1 20 rfl rfl)
theorem dX3_digest_47 : decode cX3_digest 47 = .ok (.goto (-21), 3) := dk_167 255 235 (dk_at dksX3_digest_2 0 rfl rfl)
theorem dX3_digest_50 : decode cX3_digest 50 = .ok (.iconst 0, 1) := dk_3 (dk_at dksX3_digest_2 3 rfl rfl)
theorem dX3_digest_51 : decode cX3_digest 51 = .ok (.istore_n 3, 1) := dk_62 (dk_at dksX3_digest_2 4 rfl rfl)
theorem dX3_digest_52 : decode cX3_digest 52 = .ok (.iload_n 3, 1) := dk_29 (dk_at dksX3_digest_2 5 rfl rfl)
theorem dX3_digest_53 : decode cX3_digest 53 = .ok (.iconst 4, 1) := dk_7 (dk_at dksX3_digest_2 6 rfl rfl)
theorem dX3_digest_54 : decode cX3_digest 54 = .ok (.if_icmp .ge 60, 3) := dk_162 0 60 (dk_at dksX3_digest_2 7 rfl rfl)
theorem dX3_digest_57 : decode cX3_digest 57 = .ok (.ldc2_w 249, 3) := dk_20 0 249 (dk_at dksX3_digest_2 10 rfl rfl)
theorem dX3_digest_60 : decode cX3_digest 60 = .ok (.ldc2_w 249, 3) := dk_20 0 249 (dk_at dksX3_digest_2 13 rfl rfl)
theorem dX3_digest_63 : decode cX3_digest 63 = .ok (.lload_n 1, 1) := dk_31 (dk_at dksX3_digest_2 16 rfl rfl)
theorem dX3_digest_64 : decode cX3_digest 64 = .ok (.lmul, 1) := dk_105 (dk_at dksX3_digest_2 17 rfl rfl)
theorem dX3_digest_65 : decode cX3_digest 65 = .ok (.aload_n 0, 1) := dk_42 (dk_at dksX3_digest_2 18 rfl rfl)
theorem dX3_digest_66 : decode cX3_digest 66 = .ok (.getfield 7, 3) := dk_180 0 7 (dk_at dksX3_digest_2 19 rfl rfl)
theorem dX3_digest_69 : decode cX3_digest 69 = .ok (.iconst 5, 1) := dk_8 (dk_at dksX3_digest_2 22 rfl rfl)
theorem dX3_digest_70 : decode cX3_digest 70 = .ok (.iload_n 3, 1) := dk_29 (dk_at dksX3_digest_2 23 rfl rfl)
theorem dX3_digest_71 : decode cX3_digest 71 = .ok (.iadd, 1) := dk_96 (dk_at dksX3_digest_3 0 rfl rfl)
theorem dX3_digest_72 : decode cX3_digest 72 = .ok (.iaload, 1) := dk_46 (dk_at dksX3_digest_3 1 rfl rfl)
theorem dX3_digest_73 : decode cX3_digest 73 = .ok (.i2l, 1) := dk_133 (dk_at dksX3_digest_3 2 rfl rfl)
theorem dX3_digest_74 : decode cX3_digest 74 = .ok (.ladd, 1) := dk_97 (dk_at dksX3_digest_3 3 rfl rfl)
theorem dX3_digest_75 : decode cX3_digest 75 = .ok (.lmul, 1) := dk_105 (dk_at dksX3_digest_3 4 rfl rfl)
theorem dX3_digest_76 : decode cX3_digest 76 = .ok (.aload_n 0, 1) := dk_42 (dk_at dksX3_digest_3 5 rfl rfl)
theorem dX3_digest_77 : decode cX3_digest 77 = .ok (.iload_n 3, 1) := dk_29 (dk_at dksX3_digest_3 6 rfl rfl)
theorem dX3_digest_78 : decode cX3_digest 78 = .ok (.invokevirtual 193, 3) := dk_182 0 193 (dk_at dksX3_digest_3 7 rfl rfl)
theorem dX3_digest_81 : decode cX3_digest 81 = .ok (.i2l, 1) := dk_133 (dk_at dksX3_digest_3 10 rfl rfl)
theorem dX3_digest_82 : decode cX3_digest 82 = .ok (.ladd, 1) := dk_97 (dk_at dksX3_digest_3 11 rfl rfl)
theorem dX3_digest_83 : decode cX3_digest 83 = .ok (.lstore_n 1, 1) := dk_64 (dk_at dksX3_digest_3 12 rfl rfl)
theorem dX3_digest_84 : decode cX3_digest 84 = .ok (.ldc2_w 249, 3) := dk_20 0 249 (dk_at dksX3_digest_3 13 rfl rfl)
theorem dX3_digest_87 : decode cX3_digest 87 = .ok (.ldc2_w 249, 3) := dk_20 0 249 (dk_at dksX3_digest_3 16 rfl rfl)
theorem dX3_digest_90 : decode cX3_digest 90 = .ok (.lload_n 1, 1) := dk_31 (dk_at dksX3_digest_3 19 rfl rfl)
theorem dX3_digest_91 : decode cX3_digest 91 = .ok (.lmul, 1) := dk_105 (dk_at dksX3_digest_3 20 rfl rfl)
theorem dX3_digest_92 : decode cX3_digest 92 = .ok (.aload_n 0, 1) := dk_42 (dk_at dksX3_digest_3 21 rfl rfl)
theorem dX3_digest_93 : decode cX3_digest 93 = .ok (.iload_n 3, 1) := dk_29 (dk_at dksX3_digest_3 22 rfl rfl)
theorem dX3_digest_94 : decode cX3_digest 94 = .ok (.invokevirtual 199, 3) := dk_182 0 199 (dk_at dksX3_digest_4 0 rfl rfl)
theorem dX3_digest_97 : decode cX3_digest 97 = .ok (.i2l, 1) := dk_133 (dk_at dksX3_digest_4 3 rfl rfl)
theorem dX3_digest_98 : decode cX3_digest 98 = .ok (.ladd, 1) := dk_97 (dk_at dksX3_digest_4 4 rfl rfl)
theorem dX3_digest_99 : decode cX3_digest 99 = .ok (.lmul, 1) := dk_105 (dk_at dksX3_digest_4 5 rfl rfl)
theorem dX3_digest_100 : decode cX3_digest 100 = .ok (.aload_n 0, 1) := dk_42 (dk_at dksX3_digest_4 6 rfl rfl)
theorem dX3_digest_101 : decode cX3_digest 101 = .ok (.iload_n 3, 1) := dk_29 (dk_at dksX3_digest_4 7 rfl rfl)
theorem dX3_digest_102 : decode cX3_digest 102 = .ok (.invokevirtual 235, 3) := dk_182 0 235 (dk_at dksX3_digest_4 8 rfl rfl)
theorem dX3_digest_105 : decode cX3_digest 105 = .ok (.i2l, 1) := dk_133 (dk_at dksX3_digest_4 11 rfl rfl)
theorem dX3_digest_106 : decode cX3_digest 106 = .ok (.ladd, 1) := dk_97 (dk_at dksX3_digest_4 12 rfl rfl)
theorem dX3_digest_107 : decode cX3_digest 107 = .ok (.lstore_n 1, 1) := dk_64 (dk_at dksX3_digest_4 13 rfl rfl)
theorem dX3_digest_108 : decode cX3_digest 108 = .ok (.iinc 3 1, 3) := dk_132 3 1 (dk_at dksX3_digest_4 14 rfl rfl)
theorem dX3_digest_111 : decode cX3_digest 111 = .ok (.goto (-59), 3) := dk_167 255 197 (dk_at dksX3_digest_4 17 rfl rfl)
theorem dX3_digest_114 : decode cX3_digest 114 = .ok (.iconst 0, 1) := dk_3 (dk_at dksX3_digest_4 20 rfl rfl)
theorem dX3_digest_115 : decode cX3_digest 115 = .ok (.istore_n 3, 1) := dk_62 (dk_at dksX3_digest_4 21 rfl rfl)
theorem dX3_digest_116 : decode cX3_digest 116 = .ok (.iload_n 3, 1) := dk_29 (dk_at dksX3_digest_4 22 rfl rfl)
theorem dX3_digest_117 : decode cX3_digest 117 = .ok (.iconst 5, 1) := dk_8 (dk_at dksX3_digest_4 23 rfl rfl)
theorem dX3_digest_118 : decode cX3_digest 118 = .ok (.if_icmp .ge 16, 3) := dk_162 0 16 (dk_at dksX3_digest_5 0 rfl rfl)
theorem dX3_digest_121 : decode cX3_digest 121 = .ok (.aload_n 0, 1) := dk_42 (dk_at dksX3_digest_5 3 rfl rfl)
theorem dX3_digest_122 : decode cX3_digest 122 = .ok (.lload_n 1, 1) := dk_31 (dk_at dksX3_digest_5 4 rfl rfl)
theorem dX3_digest_123 : decode cX3_digest 123 = .ok (.iload_n 3, 1) := dk_29 (dk_at dksX3_digest_5 5 rfl rfl)
theorem dX3_digest_124 : decode cX3_digest 124 = .ok (.invokevirtual 257, 3) := dk_182 1 1 (dk_at dksX3_digest_5 6 rfl rfl)
theorem dX3_digest_127 : decode cX3_digest 127 = .ok (.lstore_n 1, 1) := dk_64 (dk_at dksX3_digest_5 9 rfl rfl)
theorem dX3_digest_128 : decode cX3_digest 128 = .ok (.iinc 3 1, 3) := dk_132 3 1 (dk_at dksX3_digest_5 10 rfl rfl)
theorem dX3_digest_131 : decode cX3_digest 131 = .ok (.goto (-15), 3) := dk_167 255 241 (dk_at dksX3_digest_5 13 rfl rfl)
theorem dX3_digest_134 : decode cX3_digest 134 = .ok (.ldc2_w 249, 3) := dk_20 0 249 (dk_at dksX3_digest_5 16 rfl rfl)
theorem dX3_digest_137 : decode cX3_digest 137 = .ok (.ldc2_w 249, 3) := dk_20 0 249 (dk_at dksX3_digest_5 19 rfl rfl)
theorem dX3_digest_140 : decode cX3_digest 140 = .ok (.ldc2_w 249, 3) := dk_20 0 249 (dk_at dksX3_digest_6 0 rfl rfl)
theorem dX3_digest_143 : decode cX3_digest 143 = .ok (.lload_n 1, 1) := dk_31 (dk_at dksX3_digest_6 3 rfl rfl)
theorem dX3_digest_144 : decode cX3_digest 144 = .ok (.lmul, 1) := dk_105 (dk_at dksX3_digest_6 4 rfl rfl)
theorem dX3_digest_145 : decode cX3_digest 145 = .ok (.aload_n 0, 1) := dk_42 (dk_at dksX3_digest_6 5 rfl rfl)
theorem dX3_digest_146 : decode cX3_digest 146 = .ok (.invokevirtual 205, 3) := dk_182 0 205 (dk_at dksX3_digest_6 6 rfl rfl)
theorem dX3_digest_149 : decode cX3_digest 149 = .ok (.i2l, 1) := dk_133 (dk_at dksX3_digest_6 9 rfl rfl)
theorem dX3_digest_150 : decode cX3_digest 150 = .ok (.ladd, 1) := dk_97 (dk_at dksX3_digest_6 10 rfl rfl)
theorem dX3_digest_151 : decode cX3_digest 151 = .ok (.lmul, 1) := dk_105 (dk_at dksX3_digest_6 11 rfl rfl)
theorem dX3_digest_152 : decode cX3_digest 152 = .ok (.aload_n 0, 1) := dk_42 (dk_at dksX3_digest_6 12 rfl rfl)
theorem dX3_digest_153 : decode cX3_digest 153 = .ok (.invokevirtual 208, 3) := dk_182 0 208 (dk_at dksX3_digest_6 13 rfl rfl)
theorem dX3_digest_156 : decode cX3_digest 156 = .ok (.i2l, 1) := dk_133 (dk_at dksX3_digest_6 16 rfl rfl)
theorem dX3_digest_157 : decode cX3_digest 157 = .ok (.ladd, 1) := dk_97 (dk_at dksX3_digest_6 17 rfl rfl)
theorem dX3_digest_158 : decode cX3_digest 158 = .ok (.lmul, 1) := dk_105 (dk_at dksX3_digest_6 18 rfl rfl)
theorem dX3_digest_159 : decode cX3_digest 159 = .ok (.aload_n 0, 1) := dk_42 (dk_at dksX3_digest_6 19 rfl rfl)
theorem dX3_digest_160 : decode cX3_digest 160 = .ok (.getfield 7, 3) := dk_180 0 7 (dk_at dksX3_digest_6 20 rfl rfl)
theorem dX3_digest_163 : decode cX3_digest 163 = .ok (.bipush 13, 2) := dk_16 13 (dk_at dksX3_digest_7 0 rfl rfl)
theorem dX3_digest_165 : decode cX3_digest 165 = .ok (.iaload, 1) := dk_46 (dk_at dksX3_digest_7 2 rfl rfl)
theorem dX3_digest_166 : decode cX3_digest 166 = .ok (.i2l, 1) := dk_133 (dk_at dksX3_digest_7 3 rfl rfl)
theorem dX3_digest_167 : decode cX3_digest 167 = .ok (.ladd, 1) := dk_97 (dk_at dksX3_digest_7 4 rfl rfl)
theorem dX3_digest_168 : decode cX3_digest 168 = .ok (.lstore_n 1, 1) := dk_64 (dk_at dksX3_digest_7 5 rfl rfl)
theorem dX3_digest_169 : decode cX3_digest 169 = .ok (.iconst 0, 1) := dk_3 (dk_at dksX3_digest_7 6 rfl rfl)
theorem dX3_digest_170 : decode cX3_digest 170 = .ok (.istore_n 3, 1) := dk_62 (dk_at dksX3_digest_7 7 rfl rfl)
theorem dX3_digest_171 : decode cX3_digest 171 = .ok (.iload_n 3, 1) := dk_29 (dk_at dksX3_digest_7 8 rfl rfl)
theorem dX3_digest_172 : decode cX3_digest 172 = .ok (.aload_n 0, 1) := dk_42 (dk_at dksX3_digest_7 9 rfl rfl)
theorem dX3_digest_173 : decode cX3_digest 173 = .ok (.getfield 7, 3) := dk_180 0 7 (dk_at dksX3_digest_7 10 rfl rfl)
theorem dX3_digest_176 : decode cX3_digest 176 = .ok (.bipush 13, 2) := dk_16 13 (dk_at dksX3_digest_7 13 rfl rfl)
theorem dX3_digest_178 : decode cX3_digest 178 = .ok (.iaload, 1) := dk_46 (dk_at dksX3_digest_7 15 rfl rfl)
theorem dX3_digest_179 : decode cX3_digest 179 = .ok (.if_icmp .ge 68, 3) := dk_162 0 68 (dk_at dksX3_digest_7 16 rfl rfl)
theorem dX3_digest_182 : decode cX3_digest 182 = .ok (.aload_n 0, 1) := dk_42 (dk_at dksX3_digest_7 19 rfl rfl)
theorem dX3_digest_183 : decode cX3_digest 183 = .ok (.getfield 7, 3) := dk_180 0 7 (dk_at dksX3_digest_7 20 rfl rfl)
theorem dX3_digest_186 : decode cX3_digest 186 = .ok (.sipush 195, 3) := dk_17 0 195 (dk_at dksX3_digest_8 0 rfl rfl)
theorem dX3_digest_189 : decode cX3_digest 189 = .ok (.iload_n 3, 1) := dk_29 (dk_at dksX3_digest_8 3 rfl rfl)
theorem dX3_digest_190 : decode cX3_digest 190 = .ok (.iadd, 1) := dk_96 (dk_at dksX3_digest_8 4 rfl rfl)
theorem dX3_digest_191 : decode cX3_digest 191 = .ok (.iaload, 1) := dk_46 (dk_at dksX3_digest_8 5 rfl rfl)
theorem dX3_digest_192 : decode cX3_digest 192 = .ok (.istore 4, 2) := dk_54 4 (dk_at dksX3_digest_8 6 rfl rfl)
theorem dX3_digest_194 : decode cX3_digest 194 = .ok (.ldc2_w 249, 3) := dk_20 0 249 (dk_at dksX3_digest_8 8 rfl rfl)
theorem dX3_digest_197 : decode cX3_digest 197 = .ok (.ldc2_w 249, 3) := dk_20 0 249 (dk_at dksX3_digest_8 11 rfl rfl)
theorem dX3_digest_200 : decode cX3_digest 200 = .ok (.ldc2_w 249, 3) := dk_20 0 249 (dk_at dksX3_digest_8 14 rfl rfl)
theorem dX3_digest_203 : decode cX3_digest 203 = .ok (.ldc2_w 249, 3) := dk_20 0 249 (dk_at dksX3_digest_8 17 rfl rfl)
theorem dX3_digest_206 : decode cX3_digest 206 = .ok (.lload_n 1, 1) := dk_31 (dk_at dksX3_digest_8 20 rfl rfl)
theorem dX3_digest_207 : decode cX3_digest 207 = .ok (.lmul, 1) := dk_105 (dk_at dksX3_digest_8 21 rfl rfl)
theorem dX3_digest_208 : decode cX3_digest 208 = .ok (.iload 4, 2) := dk_21 4 (dk_at dksX3_digest_8 22 rfl rfl)
theorem dX3_digest_210 : decode cX3_digest 210 = .ok (.bipush 32, 2) := dk_16 32 (dk_at dksX3_digest_9 0 rfl rfl)
theorem dX3_digest_212 : decode cX3_digest 212 = .ok (.idiv, 1) := dk_108 (dk_at dksX3_digest_9 2 rfl rfl)
theorem dX3_digest_213 : decode cX3_digest 213 = .ok (.i2l, 1) := dk_133 (dk_at dksX3_digest_9 3 rfl rfl)
theorem dX3_digest_214 : decode cX3_digest 214 = .ok (.ladd, 1) := dk_97 (dk_at dksX3_digest_9 4 rfl rfl)
theorem dX3_digest_215 : decode cX3_digest 215 = .ok (.lmul, 1) := dk_105 (dk_at dksX3_digest_9 5 rfl rfl)
theorem dX3_digest_216 : decode cX3_digest 216 = .ok (.iload 4, 2) := dk_21 4 (dk_at dksX3_digest_9 6 rfl rfl)
theorem dX3_digest_218 : decode cX3_digest 218 = .ok (.iconst 4, 1) := dk_7 (dk_at dksX3_digest_9 8 rfl rfl)
theorem dX3_digest_219 : decode cX3_digest 219 = .ok (.idiv, 1) := dk_108 (dk_at dksX3_digest_9 9 rfl rfl)
theorem dX3_digest_220 : decode cX3_digest 220 = .ok (.bipush 8, 2) := dk_16 8 (dk_at dksX3_digest_9 10 rfl rfl)
theorem dX3_digest_222 : decode cX3_digest 222 = .ok (.irem, 1) := dk_112 (dk_at dksX3_digest_9 12 rfl rfl)
theorem dX3_digest_223 : decode cX3_digest 223 = .ok (.i2l, 1) := dk_133 (dk_at dksX3_digest_9 13 rfl rfl)
theorem dX3_digest_224 : decode cX3_digest 224 = .ok (.ladd, 1) := dk_97 (dk_at dksX3_digest_9 14 rfl rfl)
theorem dX3_digest_225 : decode cX3_digest 225 = .ok (.lmul, 1) := dk_105 (dk_at dksX3_digest_9 15 rfl rfl)
theorem dX3_digest_226 : decode cX3_digest 226 = .ok (.iload 4, 2) := dk_21 4 (dk_at dksX3_digest_9 16 rfl rfl)
theorem dX3_digest_228 : decode cX3_digest 228 = .ok (.iconst 4, 1) := dk_7 (dk_at dksX3_digest_9 18 rfl rfl)
theorem dX3_digest_229 : decode cX3_digest 229 = .ok (.irem, 1) := dk_112 (dk_at dksX3_digest_9 19 rfl rfl)
theorem dX3_digest_230 : decode cX3_digest 230 = .ok (.i2l, 1) := dk_133 (dk_at dksX3_digest_9 20 rfl rfl)
theorem dX3_digest_231 : decode cX3_digest 231 = .ok (.ladd, 1) := dk_97 (dk_at dksX3_digest_9 21 rfl rfl)
theorem dX3_digest_232 : decode cX3_digest 232 = .ok (.lmul, 1) := dk_105 (dk_at dksX3_digest_9 22 rfl rfl)
theorem dX3_digest_233 : decode cX3_digest 233 = .ok (.aload_n 0, 1) := dk_42 (dk_at dksX3_digest_9 23 rfl rfl)
theorem dX3_digest_234 : decode cX3_digest 234 = .ok (.iload_n 3, 1) := dk_29 (dk_at dksX3_digest_10 0 rfl rfl)
theorem dX3_digest_235 : decode cX3_digest 235 = .ok (.invokevirtual 223, 3) := dk_182 0 223 (dk_at dksX3_digest_10 1 rfl rfl)
theorem dX3_digest_238 : decode cX3_digest 238 = .ok (.i2l, 1) := dk_133 (dk_at dksX3_digest_10 4 rfl rfl)
theorem dX3_digest_239 : decode cX3_digest 239 = .ok (.ladd, 1) := dk_97 (dk_at dksX3_digest_10 5 rfl rfl)
theorem dX3_digest_240 : decode cX3_digest 240 = .ok (.lstore_n 1, 1) := dk_64 (dk_at dksX3_digest_10 6 rfl rfl)
theorem dX3_digest_241 : decode cX3_digest 241 = .ok (.iinc 3 1, 3) := dk_132 3 1 (dk_at dksX3_digest_10 7 rfl rfl)
theorem dX3_digest_244 : decode cX3_digest 244 = .ok (.goto (-73), 3) := dk_167 255 183 (dk_at dksX3_digest_10 10 rfl rfl)
theorem dX3_digest_247 : decode cX3_digest 247 = .ok (.ldc2_w 249, 3) := dk_20 0 249 (dk_at dksX3_digest_10 13 rfl rfl)
theorem dX3_digest_250 : decode cX3_digest 250 = .ok (.ldc2_w 249, 3) := dk_20 0 249 (dk_at dksX3_digest_10 16 rfl rfl)
theorem dX3_digest_253 : decode cX3_digest 253 = .ok (.ldc2_w 249, 3) := dk_20 0 249 (dk_at dksX3_digest_10 19 rfl rfl)
theorem dX3_digest_256 : decode cX3_digest 256 = .ok (.lload_n 1, 1) := dk_31 (dk_at dksX3_digest_10 22 rfl rfl)
theorem dX3_digest_257 : decode cX3_digest 257 = .ok (.lmul, 1) := dk_105 (dk_at dksX3_digest_10 23 rfl rfl)
theorem dX3_digest_258 : decode cX3_digest 258 = .ok (.aload_n 0, 1) := dk_42 (dk_at dksX3_digest_11 0 rfl rfl)
theorem dX3_digest_259 : decode cX3_digest 259 = .ok (.getfield 7, 3) := dk_180 0 7 (dk_at dksX3_digest_11 1 rfl rfl)
theorem dX3_digest_262 : decode cX3_digest 262 = .ok (.bipush 10, 2) := dk_16 10 (dk_at dksX3_digest_11 4 rfl rfl)
theorem dX3_digest_264 : decode cX3_digest 264 = .ok (.iaload, 1) := dk_46 (dk_at dksX3_digest_11 6 rfl rfl)
theorem dX3_digest_265 : decode cX3_digest 265 = .ok (.i2l, 1) := dk_133 (dk_at dksX3_digest_11 7 rfl rfl)
theorem dX3_digest_266 : decode cX3_digest 266 = .ok (.ladd, 1) := dk_97 (dk_at dksX3_digest_11 8 rfl rfl)
theorem dX3_digest_267 : decode cX3_digest 267 = .ok (.lmul, 1) := dk_105 (dk_at dksX3_digest_11 9 rfl rfl)
theorem dX3_digest_268 : decode cX3_digest 268 = .ok (.aload_n 0, 1) := dk_42 (dk_at dksX3_digest_11 10 rfl rfl)
theorem dX3_digest_269 : decode cX3_digest 269 = .ok (.invokevirtual 214, 3) := dk_182 0 214 (dk_at dksX3_digest_11 11 rfl rfl)
theorem dX3_digest_272 : decode cX3_digest 272 = .ok (.i2l, 1) := dk_133 (dk_at dksX3_digest_11 14 rfl rfl)
theorem dX3_digest_273 : decode cX3_digest 273 = .ok (.ladd, 1) := dk_97 (dk_at dksX3_digest_11 15 rfl rfl)
theorem dX3_digest_274 : decode cX3_digest 274 = .ok (.lmul, 1) := dk_105 (dk_at dksX3_digest_11 16 rfl rfl)
theorem dX3_digest_275 : decode cX3_digest 275 = .ok (.aload_n 0, 1) := dk_42 (dk_at dksX3_digest_11 17 rfl rfl)
theorem dX3_digest_276 : decode cX3_digest 276 = .ok (.getfield 7, 3) := dk_180 0 7 (dk_at dksX3_digest_11 18 rfl rfl)
theorem dX3_digest_279 : decode cX3_digest 279 = .ok (.bipush 12, 2) := dk_16 12 (dk_at dksX3_digest_11 21 rfl rfl)
theorem dX3_digest_281 : decode cX3_digest 281 = .ok (.iaload, 1) := dk_46 (dk_at dksX3_digest_11 23 rfl rfl)
theorem dX3_digest_282 : decode cX3_digest 282 = .ok (.i2l, 1) := dk_133 (dk_at dksX3_digest_12 0 rfl rfl)
theorem dX3_digest_283 : decode cX3_digest 283 = .ok (.ladd, 1) := dk_97 (dk_at dksX3_digest_12 1 rfl rfl)
theorem dX3_digest_284 : decode cX3_digest 284 = .ok (.lstore_n 1, 1) := dk_64 (dk_at dksX3_digest_12 2 rfl rfl)
theorem dX3_digest_285 : decode cX3_digest 285 = .ok (.ldc2_w 249, 3) := dk_20 0 249 (dk_at dksX3_digest_12 3 rfl rfl)
theorem dX3_digest_288 : decode cX3_digest 288 = .ok (.ldc2_w 249, 3) := dk_20 0 249 (dk_at dksX3_digest_12 6 rfl rfl)
theorem dX3_digest_291 : decode cX3_digest 291 = .ok (.ldc2_w 249, 3) := dk_20 0 249 (dk_at dksX3_digest_12 9 rfl rfl)
theorem dX3_digest_294 : decode cX3_digest 294 = .ok (.lload_n 1, 1) := dk_31 (dk_at dksX3_digest_12 12 rfl rfl)
theorem dX3_digest_295 : decode cX3_digest 295 = .ok (.lmul, 1) := dk_105 (dk_at dksX3_digest_12 13 rfl rfl)
theorem dX3_digest_296 : decode cX3_digest 296 = .ok (.aload_n 0, 1) := dk_42 (dk_at dksX3_digest_12 14 rfl rfl)
theorem dX3_digest_297 : decode cX3_digest 297 = .ok (.invokevirtual 229, 3) := dk_182 0 229 (dk_at dksX3_digest_12 15 rfl rfl)
theorem dX3_digest_300 : decode cX3_digest 300 = .ok (.i2l, 1) := dk_133 (dk_at dksX3_digest_12 18 rfl rfl)
theorem dX3_digest_301 : decode cX3_digest 301 = .ok (.ladd, 1) := dk_97 (dk_at dksX3_digest_12 19 rfl rfl)
theorem dX3_digest_302 : decode cX3_digest 302 = .ok (.lmul, 1) := dk_105 (dk_at dksX3_digest_12 20 rfl rfl)
theorem dX3_digest_303 : decode cX3_digest 303 = .ok (.aload_n 0, 1) := dk_42 (dk_at dksX3_digest_12 21 rfl rfl)
theorem dX3_digest_304 : decode cX3_digest 304 = .ok (.iconst 0, 1) := dk_3 (dk_at dksX3_digest_12 22 rfl rfl)
theorem dX3_digest_305 : decode cX3_digest 305 = .ok (.bipush 14, 2) := dk_16 14 (dk_at dksX3_digest_13 0 rfl rfl)
theorem dX3_digest_307 : decode cX3_digest 307 = .ok (.invokevirtual 238, 3) := dk_182 0 238 (dk_at dksX3_digest_13 2 rfl rfl)
theorem dX3_digest_310 : decode cX3_digest 310 = .ok (.i2l, 1) := dk_133 (dk_at dksX3_digest_13 5 rfl rfl)
theorem dX3_digest_311 : decode cX3_digest 311 = .ok (.ladd, 1) := dk_97 (dk_at dksX3_digest_13 6 rfl rfl)
theorem dX3_digest_312 : decode cX3_digest 312 = .ok (.lmul, 1) := dk_105 (dk_at dksX3_digest_13 7 rfl rfl)
theorem dX3_digest_313 : decode cX3_digest 313 = .ok (.aload_n 0, 1) := dk_42 (dk_at dksX3_digest_13 8 rfl rfl)
theorem dX3_digest_314 : decode cX3_digest 314 = .ok (.getfield 36, 3) := dk_180 0 36 (dk_at dksX3_digest_13 9 rfl rfl)
theorem dX3_digest_317 : decode cX3_digest 317 = .ok (.i2l, 1) := dk_133 (dk_at dksX3_digest_13 12 rfl rfl)
theorem dX3_digest_318 : decode cX3_digest 318 = .ok (.ladd, 1) := dk_97 (dk_at dksX3_digest_13 13 rfl rfl)
theorem dX3_digest_319 : decode cX3_digest 319 = .ok (.lstore_n 1, 1) := dk_64 (dk_at dksX3_digest_13 14 rfl rfl)
theorem dX3_digest_320 : decode cX3_digest 320 = .ok (.ldc2_w 249, 3) := dk_20 0 249 (dk_at dksX3_digest_13 15 rfl rfl)
theorem dX3_digest_323 : decode cX3_digest 323 = .ok (.lload_n 1, 1) := dk_31 (dk_at dksX3_digest_13 18 rfl rfl)
theorem dX3_digest_324 : decode cX3_digest 324 = .ok (.lmul, 1) := dk_105 (dk_at dksX3_digest_13 19 rfl rfl)
theorem dX3_digest_325 : decode cX3_digest 325 = .ok (.aload_n 0, 1) := dk_42 (dk_at dksX3_digest_13 20 rfl rfl)
theorem dX3_digest_326 : decode cX3_digest 326 = .ok (.invokevirtual 241, 3) := dk_182 0 241 (dk_at dksX3_digest_13 21 rfl rfl)
theorem dX3_digest_329 : decode cX3_digest 329 = .ok (.invokestatic 260, 3) := dk_184 1 4 (dk_at dksX3_digest_14 0 rfl rfl)
theorem dX3_digest_332 : decode cX3_digest 332 = .ok (.ladd, 1) := dk_97 (dk_at dksX3_digest_14 3 rfl rfl)
theorem dX3_digest_333 : decode cX3_digest 333 = .ok (.lstore_n 1, 1) := dk_64 (dk_at dksX3_digest_14 4 rfl rfl)
theorem dX3_digest_334 : decode cX3_digest 334 = .ok (.ldc2_w 249, 3) := dk_20 0 249 (dk_at dksX3_digest_14 5 rfl rfl)
theorem dX3_digest_337 : decode cX3_digest 337 = .ok (.lload_n 1, 1) := dk_31 (dk_at dksX3_digest_14 8 rfl rfl)
theorem dX3_digest_338 : decode cX3_digest 338 = .ok (.lmul, 1) := dk_105 (dk_at dksX3_digest_14 9 rfl rfl)
theorem dX3_digest_339 : decode cX3_digest 339 = .ok (.aload_n 0, 1) := dk_42 (dk_at dksX3_digest_14 10 rfl rfl)
theorem dX3_digest_340 : decode cX3_digest 340 = .ok (.invokevirtual 245, 3) := dk_182 0 245 (dk_at dksX3_digest_14 11 rfl rfl)
theorem dX3_digest_343 : decode cX3_digest 343 = .ok (.invokestatic 266, 3) := dk_184 1 10 (dk_at dksX3_digest_14 14 rfl rfl)
theorem dX3_digest_346 : decode cX3_digest 346 = .ok (.i2l, 1) := dk_133 (dk_at dksX3_digest_14 17 rfl rfl)
theorem dX3_digest_347 : decode cX3_digest 347 = .ok (.ladd, 1) := dk_97 (dk_at dksX3_digest_14 18 rfl rfl)
theorem dX3_digest_348 : decode cX3_digest 348 = .ok (.lstore_n 1, 1) := dk_64 (dk_at dksX3_digest_14 19 rfl rfl)
theorem dX3_digest_349 : decode cX3_digest 349 = .ok (.ldc2_w 249, 3) := dk_20 0 249 (dk_at dksX3_digest_14 20 rfl rfl)
theorem dX3_digest_352 : decode cX3_digest 352 = .ok (.ldc2_w 249, 3) := dk_20 0 249 (dk_at dksX3_digest_15 0 rfl rfl)
theorem dX3_digest_355 : decode cX3_digest 355 = .ok (.lload_n 1, 1) := dk_31 (dk_at dksX3_digest_15 3 rfl rfl)
theorem dX3_digest_356 : decode cX3_digest 356 = .ok (.lmul, 1) := dk_105 (dk_at dksX3_digest_15 4 rfl rfl)
theorem dX3_digest_357 : decode cX3_digest 357 = .ok (.aload_n 0, 1) := dk_42 (dk_at dksX3_digest_15 5 rfl rfl)
theorem dX3_digest_358 : decode cX3_digest 358 = .ok (.getfield 190, 3) := dk_180 0 190 (dk_at dksX3_digest_15 6 rfl rfl)
theorem dX3_digest_361 : decode cX3_digest 361 = .ok (.ifCond .eq 7, 3) := dk_153 0 7 (dk_at dksX3_digest_15 9 rfl rfl)
theorem dX3_digest_364 : decode cX3_digest 364 = .ok (.iconst 1, 1) := dk_4 (dk_at dksX3_digest_15 12 rfl rfl)
theorem dX3_digest_365 : decode cX3_digest 365 = .ok (.goto 4, 3) := dk_167 0 4 (dk_at dksX3_digest_15 13 rfl rfl)
theorem dX3_digest_368 : decode cX3_digest 368 = .ok (.iconst 0, 1) := dk_3 (dk_at dksX3_digest_15 16 rfl rfl)
theorem dX3_digest_369 : decode cX3_digest 369 = .ok (.i2l, 1) := dk_133 (dk_at dksX3_digest_15 17 rfl rfl)
theorem dX3_digest_370 : decode cX3_digest 370 = .ok (.ladd, 1) := dk_97 (dk_at dksX3_digest_15 18 rfl rfl)
theorem dX3_digest_371 : decode cX3_digest 371 = .ok (.lmul, 1) := dk_105 (dk_at dksX3_digest_15 19 rfl rfl)
theorem dX3_digest_372 : decode cX3_digest 372 = .ok (.aload_n 0, 1) := dk_42 (dk_at dksX3_digest_15 20 rfl rfl)
theorem dX3_digest_373 : decode cX3_digest 373 = .ok (.getfield 156, 3) := dk_180 0 156 (dk_at dksX3_digest_15 21 rfl rfl)
theorem dX3_digest_376 : decode cX3_digest 376 = .ok (.i2l, 1) := dk_133 (dk_at dksX3_digest_16 0 rfl rfl)
theorem dX3_digest_377 : decode cX3_digest 377 = .ok (.ladd, 1) := dk_97 (dk_at dksX3_digest_16 1 rfl rfl)
theorem dX3_digest_378 : decode cX3_digest 378 = .ok (.lstore_n 1, 1) := dk_64 (dk_at dksX3_digest_16 2 rfl rfl)
theorem dX3_digest_379 : decode cX3_digest 379 = .ok (.iconst 0, 1) := dk_3 (dk_at dksX3_digest_16 3 rfl rfl)
theorem dX3_digest_380 : decode cX3_digest 380 = .ok (.istore_n 3, 1) := dk_62 (dk_at dksX3_digest_16 4 rfl rfl)
theorem dX3_digest_381 : decode cX3_digest 381 = .ok (.iload_n 3, 1) := dk_29 (dk_at dksX3_digest_16 5 rfl rfl)
theorem dX3_digest_382 : decode cX3_digest 382 = .ok (.aload_n 0, 1) := dk_42 (dk_at dksX3_digest_16 6 rfl rfl)
theorem dX3_digest_383 : decode cX3_digest 383 = .ok (.getfield 156, 3) := dk_180 0 156 (dk_at dksX3_digest_16 7 rfl rfl)
theorem dX3_digest_386 : decode cX3_digest 386 = .ok (.if_icmp .ge 23, 3) := dk_162 0 23 (dk_at dksX3_digest_16 10 rfl rfl)
theorem dX3_digest_389 : decode cX3_digest 389 = .ok (.ldc2_w 249, 3) := dk_20 0 249 (dk_at dksX3_digest_16 13 rfl rfl)
theorem dX3_digest_392 : decode cX3_digest 392 = .ok (.lload_n 1, 1) := dk_31 (dk_at dksX3_digest_16 16 rfl rfl)
theorem dX3_digest_393 : decode cX3_digest 393 = .ok (.lmul, 1) := dk_105 (dk_at dksX3_digest_16 17 rfl rfl)
theorem dX3_digest_394 : decode cX3_digest 394 = .ok (.aload_n 0, 1) := dk_42 (dk_at dksX3_digest_16 18 rfl rfl)
theorem dX3_digest_395 : decode cX3_digest 395 = .ok (.getfield 22, 3) := dk_180 0 22 (dk_at dksX3_digest_16 19 rfl rfl)
theorem dX3_digest_398 : decode cX3_digest 398 = .ok (.iload_n 3, 1) := dk_29 (dk_at dksX3_digest_16 22 rfl rfl)
theorem dX3_digest_399 : decode cX3_digest 399 = .ok (.iaload, 1) := dk_46 (dk_at dksX3_digest_16 23 rfl rfl)
theorem dX3_digest_400 : decode cX3_digest 400 = .ok (.i2l, 1) := dk_133 (dk_at dksX3_digest_17 0 rfl rfl)
theorem dX3_digest_401 : decode cX3_digest 401 = .ok (.ladd, 1) := dk_97 (dk_at dksX3_digest_17 1 rfl rfl)
theorem dX3_digest_402 : decode cX3_digest 402 = .ok (.lstore_n 1, 1) := dk_64 (dk_at dksX3_digest_17 2 rfl rfl)
theorem dX3_digest_403 : decode cX3_digest 403 = .ok (.iinc 3 1, 3) := dk_132 3 1 (dk_at dksX3_digest_17 3 rfl rfl)
theorem dX3_digest_406 : decode cX3_digest 406 = .ok (.goto (-25), 3) := dk_167 255 231 (dk_at dksX3_digest_17 6 rfl rfl)
theorem dX3_digest_409 : decode cX3_digest 409 = .ok (.lload_n 1, 1) := dk_31 (dk_at dksX3_digest_17 9 rfl rfl)
theorem dX3_digest_410 : decode cX3_digest 410 = .ok (.lreturn, 1) := dk_173 (dk_at dksX3_digest_17 10 rfl rfl)
abbrev cX3_digestTransfer : ByteArray := prog_19_method_112_code
def yX3_digestTransfer : MethodName := ⟨RX3, "digestTransfer", "(JI)J"⟩
def dkwX3_digestTransfer_6 : List UInt8 := [97, 55, 4, 132, 6, 1, 167, 255, 204, 22, 4, 173]
abbrev dktX3_digestTransfer_6 : List UInt8 := dkwX3_digestTransfer_6 ++ []
def dkwX3_digestTransfer_5 : List UInt8 := [182, 0, 54, 133, 97, 105, 42, 21, 6, 29, 182, 0, 51, 133, 97, 105, 42, 21, 6, 29, 182, 0, 196, 133]
abbrev dktX3_digestTransfer_5 : List UInt8 := dkwX3_digestTransfer_5 ++ dktX3_digestTransfer_6
def dkwX3_digestTransfer_4 : List UInt8 := [54, 6, 21, 6, 7, 162, 0, 52, 20, 0, 249, 20, 0, 249, 20, 0, 249, 22, 4, 105, 42, 29, 21, 6]
abbrev dktX3_digestTransfer_4 : List UInt8 := dkwX3_digestTransfer_4 ++ dktX3_digestTransfer_5
def dkwX3_digestTransfer_3 : List UInt8 := [7, 182, 0, 39, 133, 97, 55, 4, 20, 0, 249, 22, 4, 105, 42, 29, 182, 0, 232, 133, 97, 55, 4, 3]
abbrev dktX3_digestTransfer_3 : List UInt8 := dkwX3_digestTransfer_3 ++ dktX3_digestTransfer_4
def dkwX3_digestTransfer_2 : List UInt8 := [22, 4, 105, 42, 29, 16, 6, 182, 0, 39, 133, 97, 105, 42, 29, 6, 182, 0, 39, 133, 97, 105, 42, 29]
abbrev dktX3_digestTransfer_2 : List UInt8 := dkwX3_digestTransfer_2 ++ dktX3_digestTransfer_3
def dkwX3_digestTransfer_1 : List UInt8 := [182, 0, 39, 133, 97, 105, 42, 29, 182, 0, 202, 133, 97, 55, 4, 20, 0, 249, 20, 0, 249, 20, 0, 249]
abbrev dktX3_digestTransfer_1 : List UInt8 := dkwX3_digestTransfer_1 ++ dktX3_digestTransfer_2
def dkwX3_digestTransfer_0 : List UInt8 := [20, 0, 249, 20, 0, 249, 20, 0, 249, 31, 105, 42, 29, 182, 0, 57, 133, 97, 105, 42, 29, 8]
abbrev dktX3_digestTransfer_0 : List UInt8 := dkwX3_digestTransfer_0 ++ dktX3_digestTransfer_1
theorem dksX3_digestTransfer_0 : cX3_digestTransfer.data.toList.drop 0 = dktX3_digestTransfer_0 := by decide +kernel
theorem dksX3_digestTransfer_1 : cX3_digestTransfer.data.toList.drop 22 = dktX3_digestTransfer_1 := dk_seg dksX3_digestTransfer_0 22 rfl rfl
theorem dksX3_digestTransfer_2 : cX3_digestTransfer.data.toList.drop 46 = dktX3_digestTransfer_2 := dk_seg dksX3_digestTransfer_1 24 rfl rfl
theorem dksX3_digestTransfer_3 : cX3_digestTransfer.data.toList.drop 70 = dktX3_digestTransfer_3 := dk_seg dksX3_digestTransfer_2 24 rfl rfl
theorem dksX3_digestTransfer_4 : cX3_digestTransfer.data.toList.drop 94 = dktX3_digestTransfer_4 := dk_seg dksX3_digestTransfer_3 24 rfl rfl
theorem dksX3_digestTransfer_5 : cX3_digestTransfer.data.toList.drop 118 = dktX3_digestTransfer_5 := dk_seg dksX3_digestTransfer_4 24 rfl rfl
theorem dksX3_digestTransfer_6 : cX3_digestTransfer.data.toList.drop 142 = dktX3_digestTransfer_6 := dk_seg dksX3_digestTransfer_5 24 rfl rfl
theorem dX3_digestTransfer_0 : decode cX3_digestTransfer 0 = .ok (.ldc2_w 249, 3) := dk_20 0 249 (dk_at dksX3_digestTransfer_0 0 rfl rfl)
theorem dX3_digestTransfer_3 : decode cX3_digestTransfer 3 = .ok (.ldc2_w 249, 3) := dk_20 0 249 (dk_at dksX3_digestTransfer_0 3 rfl rfl)
theorem dX3_digestTransfer_6 : decode cX3_digestTransfer 6 = .ok (.ldc2_w 249, 3) := dk_20 0 249 (dk_at dksX3_digestTransfer_0 6 rfl rfl)
theorem dX3_digestTransfer_9 : decode cX3_digestTransfer 9 = .ok (.lload_n 1, 1) := dk_31 (dk_at dksX3_digestTransfer_0 9 rfl rfl)
theorem dX3_digestTransfer_10 : decode cX3_digestTransfer 10 = .ok (.lmul, 1) := dk_105 (dk_at dksX3_digestTransfer_0 10 rfl rfl)
theorem dX3_digestTransfer_11 : decode cX3_digestTransfer 11 = .ok (.aload_n 0, 1) := dk_42 (dk_at dksX3_digestTransfer_0 11 rfl rfl)
theorem dX3_digestTransfer_12 : decode cX3_digestTransfer 12 = .ok (.iload_n 3, 1) := dk_29 (dk_at dksX3_digestTransfer_0 12 rfl rfl)
theorem dX3_digestTransfer_13 : decode cX3_digestTransfer 13 = .ok (.invokevirtual 57, 3) := dk_182 0 57 (dk_at dksX3_digestTransfer_0 13 rfl rfl)
theorem dX3_digestTransfer_16 : decode cX3_digestTransfer 16 = .ok (.i2l, 1) := dk_133 (dk_at dksX3_digestTransfer_0 16 rfl rfl)
theorem dX3_digestTransfer_17 : decode cX3_digestTransfer 17 = .ok (.ladd, 1) := dk_97 (dk_at dksX3_digestTransfer_0 17 rfl rfl)
theorem dX3_digestTransfer_18 : decode cX3_digestTransfer 18 = .ok (.lmul, 1) := dk_105 (dk_at dksX3_digestTransfer_0 18 rfl rfl)
theorem dX3_digestTransfer_19 : decode cX3_digestTransfer 19 = .ok (.aload_n 0, 1) := dk_42 (dk_at dksX3_digestTransfer_0 19 rfl rfl)
theorem dX3_digestTransfer_20 : decode cX3_digestTransfer 20 = .ok (.iload_n 3, 1) := dk_29 (dk_at dksX3_digestTransfer_0 20 rfl rfl)
theorem dX3_digestTransfer_21 : decode cX3_digestTransfer 21 = .ok (.iconst 5, 1) := dk_8 (dk_at dksX3_digestTransfer_0 21 rfl rfl)
theorem dX3_digestTransfer_22 : decode cX3_digestTransfer 22 = .ok (.invokevirtual 39, 3) := dk_182 0 39 (dk_at dksX3_digestTransfer_1 0 rfl rfl)
theorem dX3_digestTransfer_25 : decode cX3_digestTransfer 25 = .ok (.i2l, 1) := dk_133 (dk_at dksX3_digestTransfer_1 3 rfl rfl)
theorem dX3_digestTransfer_26 : decode cX3_digestTransfer 26 = .ok (.ladd, 1) := dk_97 (dk_at dksX3_digestTransfer_1 4 rfl rfl)
theorem dX3_digestTransfer_27 : decode cX3_digestTransfer 27 = .ok (.lmul, 1) := dk_105 (dk_at dksX3_digestTransfer_1 5 rfl rfl)
theorem dX3_digestTransfer_28 : decode cX3_digestTransfer 28 = .ok (.aload_n 0, 1) := dk_42 (dk_at dksX3_digestTransfer_1 6 rfl rfl)
theorem dX3_digestTransfer_29 : decode cX3_digestTransfer 29 = .ok (.iload_n 3, 1) := dk_29 (dk_at dksX3_digestTransfer_1 7 rfl rfl)
theorem dX3_digestTransfer_30 : decode cX3_digestTransfer 30 = .ok (.invokevirtual 202, 3) := dk_182 0 202 (dk_at dksX3_digestTransfer_1 8 rfl rfl)
theorem dX3_digestTransfer_33 : decode cX3_digestTransfer 33 = .ok (.i2l, 1) := dk_133 (dk_at dksX3_digestTransfer_1 11 rfl rfl)
theorem dX3_digestTransfer_34 : decode cX3_digestTransfer 34 = .ok (.ladd, 1) := dk_97 (dk_at dksX3_digestTransfer_1 12 rfl rfl)
theorem dX3_digestTransfer_35 : decode cX3_digestTransfer 35 = .ok (.lstore 4, 2) := dk_55 4 (dk_at dksX3_digestTransfer_1 13 rfl rfl)
theorem dX3_digestTransfer_37 : decode cX3_digestTransfer 37 = .ok (.ldc2_w 249, 3) := dk_20 0 249 (dk_at dksX3_digestTransfer_1 15 rfl rfl)
theorem dX3_digestTransfer_40 : decode cX3_digestTransfer 40 = .ok (.ldc2_w 249, 3) := dk_20 0 249 (dk_at dksX3_digestTransfer_1 18 rfl rfl)
theorem dX3_digestTransfer_43 : decode cX3_digestTransfer 43 = .ok (.ldc2_w 249, 3) := dk_20 0 249 (dk_at dksX3_digestTransfer_1 21 rfl rfl)
theorem dX3_digestTransfer_46 : decode cX3_digestTransfer 46 = .ok (.lload 4, 2) := dk_22 4 (dk_at dksX3_digestTransfer_2 0 rfl rfl)
theorem dX3_digestTransfer_48 : decode cX3_digestTransfer 48 = .ok (.lmul, 1) := dk_105 (dk_at dksX3_digestTransfer_2 2 rfl rfl)
theorem dX3_digestTransfer_49 : decode cX3_digestTransfer 49 = .ok (.aload_n 0, 1) := dk_42 (dk_at dksX3_digestTransfer_2 3 rfl rfl)
theorem dX3_digestTransfer_50 : decode cX3_digestTransfer 50 = .ok (.iload_n 3, 1) := dk_29 (dk_at dksX3_digestTransfer_2 4 rfl rfl)
theorem dX3_digestTransfer_51 : decode cX3_digestTransfer 51 = .ok (.bipush 6, 2) := dk_16 6 (dk_at dksX3_digestTransfer_2 5 rfl rfl)
theorem dX3_digestTransfer_53 : decode cX3_digestTransfer 53 = .ok (.invokevirtual 39, 3) := dk_182 0 39 (dk_at dksX3_digestTransfer_2 7 rfl rfl)
theorem dX3_digestTransfer_56 : decode cX3_digestTransfer 56 = .ok (.i2l, 1) := dk_133 (dk_at dksX3_digestTransfer_2 10 rfl rfl)
theorem dX3_digestTransfer_57 : decode cX3_digestTransfer 57 = .ok (.ladd, 1) := dk_97 (dk_at dksX3_digestTransfer_2 11 rfl rfl)
theorem dX3_digestTransfer_58 : decode cX3_digestTransfer 58 = .ok (.lmul, 1) := dk_105 (dk_at dksX3_digestTransfer_2 12 rfl rfl)
theorem dX3_digestTransfer_59 : decode cX3_digestTransfer 59 = .ok (.aload_n 0, 1) := dk_42 (dk_at dksX3_digestTransfer_2 13 rfl rfl)
theorem dX3_digestTransfer_60 : decode cX3_digestTransfer 60 = .ok (.iload_n 3, 1) := dk_29 (dk_at dksX3_digestTransfer_2 14 rfl rfl)
theorem dX3_digestTransfer_61 : decode cX3_digestTransfer 61 = .ok (.iconst 3, 1) := dk_6 (dk_at dksX3_digestTransfer_2 15 rfl rfl)
theorem dX3_digestTransfer_62 : decode cX3_digestTransfer 62 = .ok (.invokevirtual 39, 3) := dk_182 0 39 (dk_at dksX3_digestTransfer_2 16 rfl rfl)
theorem dX3_digestTransfer_65 : decode cX3_digestTransfer 65 = .ok (.i2l, 1) := dk_133 (dk_at dksX3_digestTransfer_2 19 rfl rfl)
theorem dX3_digestTransfer_66 : decode cX3_digestTransfer 66 = .ok (.ladd, 1) := dk_97 (dk_at dksX3_digestTransfer_2 20 rfl rfl)
theorem dX3_digestTransfer_67 : decode cX3_digestTransfer 67 = .ok (.lmul, 1) := dk_105 (dk_at dksX3_digestTransfer_2 21 rfl rfl)
theorem dX3_digestTransfer_68 : decode cX3_digestTransfer 68 = .ok (.aload_n 0, 1) := dk_42 (dk_at dksX3_digestTransfer_2 22 rfl rfl)
theorem dX3_digestTransfer_69 : decode cX3_digestTransfer 69 = .ok (.iload_n 3, 1) := dk_29 (dk_at dksX3_digestTransfer_2 23 rfl rfl)
theorem dX3_digestTransfer_70 : decode cX3_digestTransfer 70 = .ok (.iconst 4, 1) := dk_7 (dk_at dksX3_digestTransfer_3 0 rfl rfl)
theorem dX3_digestTransfer_71 : decode cX3_digestTransfer 71 = .ok (.invokevirtual 39, 3) := dk_182 0 39 (dk_at dksX3_digestTransfer_3 1 rfl rfl)
theorem dX3_digestTransfer_74 : decode cX3_digestTransfer 74 = .ok (.i2l, 1) := dk_133 (dk_at dksX3_digestTransfer_3 4 rfl rfl)
theorem dX3_digestTransfer_75 : decode cX3_digestTransfer 75 = .ok (.ladd, 1) := dk_97 (dk_at dksX3_digestTransfer_3 5 rfl rfl)
theorem dX3_digestTransfer_76 : decode cX3_digestTransfer 76 = .ok (.lstore 4, 2) := dk_55 4 (dk_at dksX3_digestTransfer_3 6 rfl rfl)
theorem dX3_digestTransfer_78 : decode cX3_digestTransfer 78 = .ok (.ldc2_w 249, 3) := dk_20 0 249 (dk_at dksX3_digestTransfer_3 8 rfl rfl)
theorem dX3_digestTransfer_81 : decode cX3_digestTransfer 81 = .ok (.lload 4, 2) := dk_22 4 (dk_at dksX3_digestTransfer_3 11 rfl rfl)
theorem dX3_digestTransfer_83 : decode cX3_digestTransfer 83 = .ok (.lmul, 1) := dk_105 (dk_at dksX3_digestTransfer_3 13 rfl rfl)
theorem dX3_digestTransfer_84 : decode cX3_digestTransfer 84 = .ok (.aload_n 0, 1) := dk_42 (dk_at dksX3_digestTransfer_3 14 rfl rfl)
theorem dX3_digestTransfer_85 : decode cX3_digestTransfer 85 = .ok (.iload_n 3, 1) := dk_29 (dk_at dksX3_digestTransfer_3 15 rfl rfl)
theorem dX3_digestTransfer_86 : decode cX3_digestTransfer 86 = .ok (.invokevirtual 232, 3) := dk_182 0 232 (dk_at dksX3_digestTransfer_3 16 rfl rfl)
theorem dX3_digestTransfer_89 : decode cX3_digestTransfer 89 = .ok (.i2l, 1) := dk_133 (dk_at dksX3_digestTransfer_3 19 rfl rfl)
theorem dX3_digestTransfer_90 : decode cX3_digestTransfer 90 = .ok (.ladd, 1) := dk_97 (dk_at dksX3_digestTransfer_3 20 rfl rfl)
theorem dX3_digestTransfer_91 : decode cX3_digestTransfer 91 = .ok (.lstore 4, 2) := dk_55 4 (dk_at dksX3_digestTransfer_3 21 rfl rfl)
theorem dX3_digestTransfer_93 : decode cX3_digestTransfer 93 = .ok (.iconst 0, 1) := dk_3 (dk_at dksX3_digestTransfer_3 23 rfl rfl)
theorem dX3_digestTransfer_94 : decode cX3_digestTransfer 94 = .ok (.istore 6, 2) := dk_54 6 (dk_at dksX3_digestTransfer_4 0 rfl rfl)
theorem dX3_digestTransfer_96 : decode cX3_digestTransfer 96 = .ok (.iload 6, 2) := dk_21 6 (dk_at dksX3_digestTransfer_4 2 rfl rfl)
theorem dX3_digestTransfer_98 : decode cX3_digestTransfer 98 = .ok (.iconst 4, 1) := dk_7 (dk_at dksX3_digestTransfer_4 4 rfl rfl)
theorem dX3_digestTransfer_99 : decode cX3_digestTransfer 99 = .ok (.if_icmp .ge 52, 3) := dk_162 0 52 (dk_at dksX3_digestTransfer_4 5 rfl rfl)
theorem dX3_digestTransfer_102 : decode cX3_digestTransfer 102 = .ok (.ldc2_w 249, 3) := dk_20 0 249 (dk_at dksX3_digestTransfer_4 8 rfl rfl)
theorem dX3_digestTransfer_105 : decode cX3_digestTransfer 105 = .ok (.ldc2_w 249, 3) := dk_20 0 249 (dk_at dksX3_digestTransfer_4 11 rfl rfl)
theorem dX3_digestTransfer_108 : decode cX3_digestTransfer 108 = .ok (.ldc2_w 249, 3) := dk_20 0 249 (dk_at dksX3_digestTransfer_4 14 rfl rfl)
theorem dX3_digestTransfer_111 : decode cX3_digestTransfer 111 = .ok (.lload 4, 2) := dk_22 4 (dk_at dksX3_digestTransfer_4 17 rfl rfl)
theorem dX3_digestTransfer_113 : decode cX3_digestTransfer 113 = .ok (.lmul, 1) := dk_105 (dk_at dksX3_digestTransfer_4 19 rfl rfl)
theorem dX3_digestTransfer_114 : decode cX3_digestTransfer 114 = .ok (.aload_n 0, 1) := dk_42 (dk_at dksX3_digestTransfer_4 20 rfl rfl)
theorem dX3_digestTransfer_115 : decode cX3_digestTransfer 115 = .ok (.iload_n 3, 1) := dk_29 (dk_at dksX3_digestTransfer_4 21 rfl rfl)
theorem dX3_digestTransfer_116 : decode cX3_digestTransfer 116 = .ok (.iload 6, 2) := dk_21 6 (dk_at dksX3_digestTransfer_4 22 rfl rfl)
theorem dX3_digestTransfer_118 : decode cX3_digestTransfer 118 = .ok (.invokevirtual 54, 3) := dk_182 0 54 (dk_at dksX3_digestTransfer_5 0 rfl rfl)
theorem dX3_digestTransfer_121 : decode cX3_digestTransfer 121 = .ok (.i2l, 1) := dk_133 (dk_at dksX3_digestTransfer_5 3 rfl rfl)
theorem dX3_digestTransfer_122 : decode cX3_digestTransfer 122 = .ok (.ladd, 1) := dk_97 (dk_at dksX3_digestTransfer_5 4 rfl rfl)
theorem dX3_digestTransfer_123 : decode cX3_digestTransfer 123 = .ok (.lmul, 1) := dk_105 (dk_at dksX3_digestTransfer_5 5 rfl rfl)
theorem dX3_digestTransfer_124 : decode cX3_digestTransfer 124 = .ok (.aload_n 0, 1) := dk_42 (dk_at dksX3_digestTransfer_5 6 rfl rfl)
theorem dX3_digestTransfer_125 : decode cX3_digestTransfer 125 = .ok (.iload 6, 2) := dk_21 6 (dk_at dksX3_digestTransfer_5 7 rfl rfl)
theorem dX3_digestTransfer_127 : decode cX3_digestTransfer 127 = .ok (.iload_n 3, 1) := dk_29 (dk_at dksX3_digestTransfer_5 9 rfl rfl)
theorem dX3_digestTransfer_128 : decode cX3_digestTransfer 128 = .ok (.invokevirtual 51, 3) := dk_182 0 51 (dk_at dksX3_digestTransfer_5 10 rfl rfl)
theorem dX3_digestTransfer_131 : decode cX3_digestTransfer 131 = .ok (.i2l, 1) := dk_133 (dk_at dksX3_digestTransfer_5 13 rfl rfl)
theorem dX3_digestTransfer_132 : decode cX3_digestTransfer 132 = .ok (.ladd, 1) := dk_97 (dk_at dksX3_digestTransfer_5 14 rfl rfl)
theorem dX3_digestTransfer_133 : decode cX3_digestTransfer 133 = .ok (.lmul, 1) := dk_105 (dk_at dksX3_digestTransfer_5 15 rfl rfl)
theorem dX3_digestTransfer_134 : decode cX3_digestTransfer 134 = .ok (.aload_n 0, 1) := dk_42 (dk_at dksX3_digestTransfer_5 16 rfl rfl)
theorem dX3_digestTransfer_135 : decode cX3_digestTransfer 135 = .ok (.iload 6, 2) := dk_21 6 (dk_at dksX3_digestTransfer_5 17 rfl rfl)
theorem dX3_digestTransfer_137 : decode cX3_digestTransfer 137 = .ok (.iload_n 3, 1) := dk_29 (dk_at dksX3_digestTransfer_5 19 rfl rfl)
theorem dX3_digestTransfer_138 : decode cX3_digestTransfer 138 = .ok (.invokevirtual 196, 3) := dk_182 0 196 (dk_at dksX3_digestTransfer_5 20 rfl rfl)
theorem dX3_digestTransfer_141 : decode cX3_digestTransfer 141 = .ok (.i2l, 1) := dk_133 (dk_at dksX3_digestTransfer_5 23 rfl rfl)
theorem dX3_digestTransfer_142 : decode cX3_digestTransfer 142 = .ok (.ladd, 1) := dk_97 (dk_at dksX3_digestTransfer_6 0 rfl rfl)
theorem dX3_digestTransfer_143 : decode cX3_digestTransfer 143 = .ok (.lstore 4, 2) := dk_55 4 (dk_at dksX3_digestTransfer_6 1 rfl rfl)
theorem dX3_digestTransfer_145 : decode cX3_digestTransfer 145 = .ok (.iinc 6 1, 3) := dk_132 6 1 (dk_at dksX3_digestTransfer_6 3 rfl rfl)
theorem dX3_digestTransfer_148 : decode cX3_digestTransfer 148 = .ok (.goto (-52), 3) := dk_167 255 204 (dk_at dksX3_digestTransfer_6 6 rfl rfl)
theorem dX3_digestTransfer_151 : decode cX3_digestTransfer 151 = .ok (.lload 4, 2) := dk_22 4 (dk_at dksX3_digestTransfer_6 9 rfl rfl)
theorem dX3_digestTransfer_153 : decode cX3_digestTransfer 153 = .ok (.lreturn, 1) := dk_173 (dk_at dksX3_digestTransfer_6 11 rfl rfl)
abbrev cX3_digestSite : ByteArray := prog_19_method_113_code
def yX3_digestSite : MethodName := ⟨RX3, "digestSite", "(JI)J"⟩
def dkwX3_digestSite_3 : List UInt8 := [105, 42, 29, 21, 6, 182, 0, 211, 16, 8, 112, 133, 97, 55, 4, 132, 6, 1, 167, 255, 203, 22, 4, 173]
abbrev dktX3_digestSite_3 : List UInt8 := dkwX3_digestSite_3 ++ []
def dkwX3_digestSite_2 : List UInt8 := [162, 0, 45, 20, 0, 249, 20, 0, 249, 22, 4, 105, 42, 29, 21, 6, 182, 0, 211, 16, 8, 108, 133, 97]
abbrev dktX3_digestSite_2 : List UInt8 := dkwX3_digestSite_2 ++ dktX3_digestSite_3
def dkwX3_digestSite_1 : List UInt8 := [16, 102, 29, 96, 46, 133, 97, 55, 4, 3, 54, 6, 21, 6, 42, 180, 0, 7, 16, 102, 29, 96, 46]
abbrev dktX3_digestSite_1 : List UInt8 := dkwX3_digestSite_1 ++ dktX3_digestSite_2
def dkwX3_digestSite_0 : List UInt8 := [20, 0, 249, 20, 0, 249, 31, 105, 42, 180, 0, 7, 3, 29, 96, 46, 133, 97, 105, 42, 180, 0, 7]
abbrev dktX3_digestSite_0 : List UInt8 := dkwX3_digestSite_0 ++ dktX3_digestSite_1
theorem dksX3_digestSite_0 : cX3_digestSite.data.toList.drop 0 = dktX3_digestSite_0 := by decide +kernel
theorem dksX3_digestSite_1 : cX3_digestSite.data.toList.drop 23 = dktX3_digestSite_1 := dk_seg dksX3_digestSite_0 23 rfl rfl
theorem dksX3_digestSite_2 : cX3_digestSite.data.toList.drop 46 = dktX3_digestSite_2 := dk_seg dksX3_digestSite_1 23 rfl rfl
theorem dksX3_digestSite_3 : cX3_digestSite.data.toList.drop 70 = dktX3_digestSite_3 := dk_seg dksX3_digestSite_2 24 rfl rfl
theorem dX3_digestSite_0 : decode cX3_digestSite 0 = .ok (.ldc2_w 249, 3) := dk_20 0 249 (dk_at dksX3_digestSite_0 0 rfl rfl)
theorem dX3_digestSite_3 : decode cX3_digestSite 3 = .ok (.ldc2_w 249, 3) := dk_20 0 249 (dk_at dksX3_digestSite_0 3 rfl rfl)
theorem dX3_digestSite_6 : decode cX3_digestSite 6 = .ok (.lload_n 1, 1) := dk_31 (dk_at dksX3_digestSite_0 6 rfl rfl)
theorem dX3_digestSite_7 : decode cX3_digestSite 7 = .ok (.lmul, 1) := dk_105 (dk_at dksX3_digestSite_0 7 rfl rfl)
theorem dX3_digestSite_8 : decode cX3_digestSite 8 = .ok (.aload_n 0, 1) := dk_42 (dk_at dksX3_digestSite_0 8 rfl rfl)
theorem dX3_digestSite_9 : decode cX3_digestSite 9 = .ok (.getfield 7, 3) := dk_180 0 7 (dk_at dksX3_digestSite_0 9 rfl rfl)
theorem dX3_digestSite_12 : decode cX3_digestSite 12 = .ok (.iconst 0, 1) := dk_3 (dk_at dksX3_digestSite_0 12 rfl rfl)
theorem dX3_digestSite_13 : decode cX3_digestSite 13 = .ok (.iload_n 3, 1) := dk_29 (dk_at dksX3_digestSite_0 13 rfl rfl)
theorem dX3_digestSite_14 : decode cX3_digestSite 14 = .ok (.iadd, 1) := dk_96 (dk_at dksX3_digestSite_0 14 rfl rfl)
theorem dX3_digestSite_15 : decode cX3_digestSite 15 = .ok (.iaload, 1) := dk_46 (dk_at dksX3_digestSite_0 15 rfl rfl)
theorem dX3_digestSite_16 : decode cX3_digestSite 16 = .ok (.i2l, 1) := dk_133 (dk_at dksX3_digestSite_0 16 rfl rfl)
theorem dX3_digestSite_17 : decode cX3_digestSite 17 = .ok (.ladd, 1) := dk_97 (dk_at dksX3_digestSite_0 17 rfl rfl)
theorem dX3_digestSite_18 : decode cX3_digestSite 18 = .ok (.lmul, 1) := dk_105 (dk_at dksX3_digestSite_0 18 rfl rfl)
theorem dX3_digestSite_19 : decode cX3_digestSite 19 = .ok (.aload_n 0, 1) := dk_42 (dk_at dksX3_digestSite_0 19 rfl rfl)
theorem dX3_digestSite_20 : decode cX3_digestSite 20 = .ok (.getfield 7, 3) := dk_180 0 7 (dk_at dksX3_digestSite_0 20 rfl rfl)
theorem dX3_digestSite_23 : decode cX3_digestSite 23 = .ok (.bipush 102, 2) := dk_16 102 (dk_at dksX3_digestSite_1 0 rfl rfl)
theorem dX3_digestSite_25 : decode cX3_digestSite 25 = .ok (.iload_n 3, 1) := dk_29 (dk_at dksX3_digestSite_1 2 rfl rfl)
theorem dX3_digestSite_26 : decode cX3_digestSite 26 = .ok (.iadd, 1) := dk_96 (dk_at dksX3_digestSite_1 3 rfl rfl)
theorem dX3_digestSite_27 : decode cX3_digestSite 27 = .ok (.iaload, 1) := dk_46 (dk_at dksX3_digestSite_1 4 rfl rfl)
theorem dX3_digestSite_28 : decode cX3_digestSite 28 = .ok (.i2l, 1) := dk_133 (dk_at dksX3_digestSite_1 5 rfl rfl)
theorem dX3_digestSite_29 : decode cX3_digestSite 29 = .ok (.ladd, 1) := dk_97 (dk_at dksX3_digestSite_1 6 rfl rfl)
theorem dX3_digestSite_30 : decode cX3_digestSite 30 = .ok (.lstore 4, 2) := dk_55 4 (dk_at dksX3_digestSite_1 7 rfl rfl)
theorem dX3_digestSite_32 : decode cX3_digestSite 32 = .ok (.iconst 0, 1) := dk_3 (dk_at dksX3_digestSite_1 9 rfl rfl)
theorem dX3_digestSite_33 : decode cX3_digestSite 33 = .ok (.istore 6, 2) := dk_54 6 (dk_at dksX3_digestSite_1 10 rfl rfl)
theorem dX3_digestSite_35 : decode cX3_digestSite 35 = .ok (.iload 6, 2) := dk_21 6 (dk_at dksX3_digestSite_1 12 rfl rfl)
theorem dX3_digestSite_37 : decode cX3_digestSite 37 = .ok (.aload_n 0, 1) := dk_42 (dk_at dksX3_digestSite_1 14 rfl rfl)
theorem dX3_digestSite_38 : decode cX3_digestSite 38 = .ok (.getfield 7, 3) := dk_180 0 7 (dk_at dksX3_digestSite_1 15 rfl rfl)
theorem dX3_digestSite_41 : decode cX3_digestSite 41 = .ok (.bipush 102, 2) := dk_16 102 (dk_at dksX3_digestSite_1 18 rfl rfl)
theorem dX3_digestSite_43 : decode cX3_digestSite 43 = .ok (.iload_n 3, 1) := dk_29 (dk_at dksX3_digestSite_1 20 rfl rfl)
theorem dX3_digestSite_44 : decode cX3_digestSite 44 = .ok (.iadd, 1) := dk_96 (dk_at dksX3_digestSite_1 21 rfl rfl)
theorem dX3_digestSite_45 : decode cX3_digestSite 45 = .ok (.iaload, 1) := dk_46 (dk_at dksX3_digestSite_1 22 rfl rfl)
theorem dX3_digestSite_46 : decode cX3_digestSite 46 = .ok (.if_icmp .ge 45, 3) := dk_162 0 45 (dk_at dksX3_digestSite_2 0 rfl rfl)
theorem dX3_digestSite_49 : decode cX3_digestSite 49 = .ok (.ldc2_w 249, 3) := dk_20 0 249 (dk_at dksX3_digestSite_2 3 rfl rfl)
theorem dX3_digestSite_52 : decode cX3_digestSite 52 = .ok (.ldc2_w 249, 3) := dk_20 0 249 (dk_at dksX3_digestSite_2 6 rfl rfl)
theorem dX3_digestSite_55 : decode cX3_digestSite 55 = .ok (.lload 4, 2) := dk_22 4 (dk_at dksX3_digestSite_2 9 rfl rfl)
theorem dX3_digestSite_57 : decode cX3_digestSite 57 = .ok (.lmul, 1) := dk_105 (dk_at dksX3_digestSite_2 11 rfl rfl)
theorem dX3_digestSite_58 : decode cX3_digestSite 58 = .ok (.aload_n 0, 1) := dk_42 (dk_at dksX3_digestSite_2 12 rfl rfl)
theorem dX3_digestSite_59 : decode cX3_digestSite 59 = .ok (.iload_n 3, 1) := dk_29 (dk_at dksX3_digestSite_2 13 rfl rfl)
theorem dX3_digestSite_60 : decode cX3_digestSite 60 = .ok (.iload 6, 2) := dk_21 6 (dk_at dksX3_digestSite_2 14 rfl rfl)
theorem dX3_digestSite_62 : decode cX3_digestSite 62 = .ok (.invokevirtual 211, 3) := dk_182 0 211 (dk_at dksX3_digestSite_2 16 rfl rfl)
theorem dX3_digestSite_65 : decode cX3_digestSite 65 = .ok (.bipush 8, 2) := dk_16 8 (dk_at dksX3_digestSite_2 19 rfl rfl)
theorem dX3_digestSite_67 : decode cX3_digestSite 67 = .ok (.idiv, 1) := dk_108 (dk_at dksX3_digestSite_2 21 rfl rfl)
theorem dX3_digestSite_68 : decode cX3_digestSite 68 = .ok (.i2l, 1) := dk_133 (dk_at dksX3_digestSite_2 22 rfl rfl)
theorem dX3_digestSite_69 : decode cX3_digestSite 69 = .ok (.ladd, 1) := dk_97 (dk_at dksX3_digestSite_2 23 rfl rfl)
theorem dX3_digestSite_70 : decode cX3_digestSite 70 = .ok (.lmul, 1) := dk_105 (dk_at dksX3_digestSite_3 0 rfl rfl)
theorem dX3_digestSite_71 : decode cX3_digestSite 71 = .ok (.aload_n 0, 1) := dk_42 (dk_at dksX3_digestSite_3 1 rfl rfl)
theorem dX3_digestSite_72 : decode cX3_digestSite 72 = .ok (.iload_n 3, 1) := dk_29 (dk_at dksX3_digestSite_3 2 rfl rfl)
theorem dX3_digestSite_73 : decode cX3_digestSite 73 = .ok (.iload 6, 2) := dk_21 6 (dk_at dksX3_digestSite_3 3 rfl rfl)
theorem dX3_digestSite_75 : decode cX3_digestSite 75 = .ok (.invokevirtual 211, 3) := dk_182 0 211 (dk_at dksX3_digestSite_3 5 rfl rfl)
theorem dX3_digestSite_78 : decode cX3_digestSite 78 = .ok (.bipush 8, 2) := dk_16 8 (dk_at dksX3_digestSite_3 8 rfl rfl)
theorem dX3_digestSite_80 : decode cX3_digestSite 80 = .ok (.irem, 1) := dk_112 (dk_at dksX3_digestSite_3 10 rfl rfl)
theorem dX3_digestSite_81 : decode cX3_digestSite 81 = .ok (.i2l, 1) := dk_133 (dk_at dksX3_digestSite_3 11 rfl rfl)
theorem dX3_digestSite_82 : decode cX3_digestSite 82 = .ok (.ladd, 1) := dk_97 (dk_at dksX3_digestSite_3 12 rfl rfl)
theorem dX3_digestSite_83 : decode cX3_digestSite 83 = .ok (.lstore 4, 2) := dk_55 4 (dk_at dksX3_digestSite_3 13 rfl rfl)
theorem dX3_digestSite_85 : decode cX3_digestSite 85 = .ok (.iinc 6 1, 3) := dk_132 6 1 (dk_at dksX3_digestSite_3 15 rfl rfl)
theorem dX3_digestSite_88 : decode cX3_digestSite 88 = .ok (.goto (-53), 3) := dk_167 255 203 (dk_at dksX3_digestSite_3 18 rfl rfl)
theorem dX3_digestSite_91 : decode cX3_digestSite 91 = .ok (.lload 4, 2) := dk_22 4 (dk_at dksX3_digestSite_3 21 rfl rfl)
theorem dX3_digestSite_93 : decode cX3_digestSite 93 = .ok (.lreturn, 1) := dk_173 (dk_at dksX3_digestSite_3 23 rfl rfl)
theorem q104 : (Jvm.Cond.initialized "VoteLogsModel") ∈ lw_all := lw_g (lw_at lw_m1 15 rfl) rfl
theorem q276 : (Jvm.Cond.selects "VoteLogsModel" ({ cls := "java/lang/Object", name := "getClass", desc := "()Ljava/lang/Class;" } : Jvm.MethodName) ({ cls := "java/lang/Object", name := "getClass", desc := "()Ljava/lang/Class;" } : Jvm.MethodName)) ∈ lw_all := lw_g (lw_at lw_m1 187 rfl) rfl
theorem q1778 : (Jvm.Cond.instantiable "VoteLogsModel" (13 : Nat)) ∈ lw_all := lw_g (lw_at lw_m8 9 rfl) rfl
theorem q1780 : (Jvm.Cond.instanceMethod ({ cls := "VoteLogsModel", name := "<init>", desc := "()V" } : Jvm.MethodName)) ∈ lw_all := lw_g (lw_at lw_m8 11 rfl) rfl
theorem q1781 : (Jvm.Cond.code ({ cls := "VoteLogsModel", name := "<init>", desc := "()V" } : Jvm.MethodName) prog_19_method_1_code (2 : Nat) (Option.none : Option Jvm.ClassFile.FieldType)) ∈ lw_all := lw_g (lw_at lw_m8 12 rfl) rfl
theorem q1782 : (Jvm.Cond.methodLink "VoteLogsModel" (1 : Nat) ({ cls := "java/lang/Object", name := "<init>", desc := "()V" } : Jvm.MethodName)) ∈ lw_all := lw_g (lw_at lw_m8 13 rfl) rfl
theorem q1783 : (Jvm.Cond.fieldLink "VoteLogsModel" (28 : Nat) "VoteLogsModel" "thrown" "I") ∈ lw_all := lw_g (lw_at lw_m8 14 rfl) rfl
theorem q1784 : (Jvm.Cond.fieldLink "VoteLogsModel" (7 : Nat) "VoteLogsModel" "s" "[I") ∈ lw_all := lw_g (lw_at lw_m8 15 rfl) rfl
theorem q1785 : (Jvm.Cond.fieldLink "VoteLogsModel" (13 : Nat) "VoteLogsModel" "aside" "[I") ∈ lw_all := lw_g (lw_at lw_m8 16 rfl) rfl
theorem q1786 : (Jvm.Cond.fieldLink "VoteLogsModel" (16 : Nat) "VoteLogsModel" "states" "[I") ∈ lw_all := lw_g (lw_at lw_m8 17 rfl) rfl
theorem q1787 : (Jvm.Cond.fieldLink "VoteLogsModel" (36 : Nat) "VoteLogsModel" "stateMany" "I") ∈ lw_all := lw_g (lw_at lw_m8 18 rfl) rfl
theorem q1788 : (Jvm.Cond.fieldLink "VoteLogsModel" (19 : Nat) "VoteLogsModel" "snapshot" "[I") ∈ lw_all := lw_g (lw_at lw_m8 19 rfl) rfl
theorem q1789 : (Jvm.Cond.fieldLink "VoteLogsModel" (190 : Nat) "VoteLogsModel" "hasSnapshot" "Z") ∈ lw_all := lw_g (lw_at lw_m8 20 rfl) rfl
theorem q1790 : (Jvm.Cond.fieldLink "VoteLogsModel" (22 : Nat) "VoteLogsModel" "text" "[I") ∈ lw_all := lw_g (lw_at lw_m8 21 rfl) rfl
theorem q1791 : (Jvm.Cond.fieldLink "VoteLogsModel" (156 : Nat) "VoteLogsModel" "length" "I") ∈ lw_all := lw_g (lw_at lw_m8 22 rfl) rfl
theorem q1792 : (Jvm.Cond.fieldLink "VoteLogsModel" (159 : Nat) "VoteLogsModel" "at" "I") ∈ lw_all := lw_g (lw_at lw_m8 23 rfl) rfl
theorem q1793 : (Jvm.Cond.fieldLink "VoteLogsModel" (162 : Nat) "VoteLogsModel" "isWell" "Z") ∈ lw_all := lw_g (lw_at lw_m8 24 rfl) rfl
theorem q1794 : (Jvm.Cond.fieldLink "VoteLogsModel" (25 : Nat) "VoteLogsModel" "read" "[I") ∈ lw_all := lw_g (lw_at lw_m8 25 rfl) rfl
theorem q1795 : (Jvm.Cond.fieldLink "VoteLogsModel" (172 : Nat) "VoteLogsModel" "readMany" "I") ∈ lw_all := lw_g (lw_at lw_m8 26 rfl) rfl
theorem q1796 : (Jvm.Cond.lays "VoteLogsModel" "VoteLogsModel" "thrown" "I") ∈ lw_all := lw_g (lw_at lw_m8 27 rfl) rfl
theorem q1797 : (Jvm.Cond.soleField "VoteLogsModel" "thrown") ∈ lw_all := lw_g (lw_at lw_m8 28 rfl) rfl
theorem q1798 : (Jvm.Cond.laysFinal "VoteLogsModel" "VoteLogsModel" "s" "[I") ∈ lw_all := lw_g (lw_at lw_m8 29 rfl) rfl
theorem q1799 : (Jvm.Cond.soleField "VoteLogsModel" "s") ∈ lw_all := lw_g (lw_at lw_m8 30 rfl) rfl
theorem q1800 : (Jvm.Cond.laysFinal "VoteLogsModel" "VoteLogsModel" "aside" "[I") ∈ lw_all := lw_g (lw_at lw_m8 31 rfl) rfl
theorem q1801 : (Jvm.Cond.soleField "VoteLogsModel" "aside") ∈ lw_all := lw_g (lw_at lw_m8 32 rfl) rfl
theorem q1802 : (Jvm.Cond.laysFinal "VoteLogsModel" "VoteLogsModel" "states" "[I") ∈ lw_all := lw_g (lw_at lw_m8 33 rfl) rfl
theorem q1803 : (Jvm.Cond.soleField "VoteLogsModel" "states") ∈ lw_all := lw_g (lw_at lw_m8 34 rfl) rfl
theorem q1804 : (Jvm.Cond.lays "VoteLogsModel" "VoteLogsModel" "stateMany" "I") ∈ lw_all := lw_g (lw_at lw_m8 35 rfl) rfl
theorem q1805 : (Jvm.Cond.soleField "VoteLogsModel" "stateMany") ∈ lw_all := lw_g (lw_at lw_m8 36 rfl) rfl
theorem q1806 : (Jvm.Cond.laysFinal "VoteLogsModel" "VoteLogsModel" "snapshot" "[I") ∈ lw_all := lw_g (lw_at lw_m8 37 rfl) rfl
theorem q1807 : (Jvm.Cond.soleField "VoteLogsModel" "snapshot") ∈ lw_all := lw_g (lw_at lw_m8 38 rfl) rfl
theorem q1808 : (Jvm.Cond.lays "VoteLogsModel" "VoteLogsModel" "hasSnapshot" "Z") ∈ lw_all := lw_g (lw_at lw_m8 39 rfl) rfl
theorem q1809 : (Jvm.Cond.soleField "VoteLogsModel" "hasSnapshot") ∈ lw_all := lw_g (lw_at lw_m8 40 rfl) rfl
theorem q1810 : (Jvm.Cond.laysFinal "VoteLogsModel" "VoteLogsModel" "text" "[I") ∈ lw_all := lw_g (lw_at lw_m8 41 rfl) rfl
theorem q1811 : (Jvm.Cond.soleField "VoteLogsModel" "text") ∈ lw_all := lw_g (lw_at lw_m8 42 rfl) rfl
theorem q1812 : (Jvm.Cond.lays "VoteLogsModel" "VoteLogsModel" "length" "I") ∈ lw_all := lw_g (lw_at lw_m8 43 rfl) rfl
theorem q1813 : (Jvm.Cond.soleField "VoteLogsModel" "length") ∈ lw_all := lw_g (lw_at lw_m8 44 rfl) rfl
theorem q1814 : (Jvm.Cond.lays "VoteLogsModel" "VoteLogsModel" "at" "I") ∈ lw_all := lw_g (lw_at lw_m8 45 rfl) rfl
theorem q1815 : (Jvm.Cond.soleField "VoteLogsModel" "at") ∈ lw_all := lw_g (lw_at lw_m8 46 rfl) rfl
theorem q1816 : (Jvm.Cond.lays "VoteLogsModel" "VoteLogsModel" "isWell" "Z") ∈ lw_all := lw_g (lw_at lw_m8 47 rfl) rfl
theorem q1817 : (Jvm.Cond.soleField "VoteLogsModel" "isWell") ∈ lw_all := lw_g (lw_at lw_m8 48 rfl) rfl
theorem q1818 : (Jvm.Cond.laysFinal "VoteLogsModel" "VoteLogsModel" "read" "[I") ∈ lw_all := lw_g (lw_at lw_m8 49 rfl) rfl
theorem q1819 : (Jvm.Cond.soleField "VoteLogsModel" "read") ∈ lw_all := lw_g (lw_at lw_m8 50 rfl) rfl
theorem q1820 : (Jvm.Cond.lays "VoteLogsModel" "VoteLogsModel" "readMany" "I") ∈ lw_all := lw_g (lw_at lw_m8 51 rfl) rfl
theorem q1821 : (Jvm.Cond.soleField "VoteLogsModel" "readMany") ∈ lw_all := lw_g (lw_at lw_m8 52 rfl) rfl
theorem q1822 : (Jvm.Cond.superclass "VoteLogsModel" "java/lang/Object") ∈ lw_all := lw_g (lw_at lw_m8 53 rfl) rfl
theorem q1824 : (Jvm.Cond.instanceMethod ({ cls := "VoteLogsModel", name := "thrown", desc := "()I" } : Jvm.MethodName)) ∈ lw_all := lw_g (lw_at lw_m8 55 rfl) rfl
theorem q1825 : (Jvm.Cond.selects "VoteLogsModel" ({ cls := "VoteLogsModel", name := "thrown", desc := "()I" } : Jvm.MethodName) ({ cls := "VoteLogsModel", name := "thrown", desc := "()I" } : Jvm.MethodName)) ∈ lw_all := lw_g (lw_at lw_m8 56 rfl) rfl
theorem q1826 : (Jvm.Cond.code ({ cls := "VoteLogsModel", name := "thrown", desc := "()I" } : Jvm.MethodName) prog_19_method_2_code (1 : Nat) (Option.some Jvm.ClassFile.FieldType.int)) ∈ lw_all := lw_g (lw_at lw_m8 57 rfl) rfl
theorem q1828 : (Jvm.Cond.instanceMethod ({ cls := "VoteLogsModel", name := "begin", desc := "(III)I" } : Jvm.MethodName)) ∈ lw_all := lw_g (lw_at lw_m8 59 rfl) rfl
theorem q1829 : (Jvm.Cond.selects "VoteLogsModel" ({ cls := "VoteLogsModel", name := "begin", desc := "(III)I" } : Jvm.MethodName) ({ cls := "VoteLogsModel", name := "begin", desc := "(III)I" } : Jvm.MethodName)) ∈ lw_all := lw_g (lw_at lw_m8 60 rfl) rfl
theorem q1830 : (Jvm.Cond.code ({ cls := "VoteLogsModel", name := "begin", desc := "(III)I" } : Jvm.MethodName) prog_19_method_40_code (4 : Nat) (Option.some Jvm.ClassFile.FieldType.int)) ∈ lw_all := lw_g (lw_at lw_m8 61 rfl) rfl
theorem q1831 : (Jvm.Cond.methodLink "VoteLogsModel" (103 : Nat) ({ cls := "VoteLogsModel", name := "isStore", desc := "(I)Z" } : Jvm.MethodName)) ∈ lw_all := lw_g (lw_at lw_m8 62 rfl) rfl
theorem q1832 : (Jvm.Cond.static ({ cls := "VoteLogsModel", name := "isStore", desc := "(I)Z" } : Jvm.MethodName)) ∈ lw_all := lw_g (lw_at lw_m8 63 rfl) rfl
theorem q1833 : (Jvm.Cond.code ({ cls := "VoteLogsModel", name := "isStore", desc := "(I)Z" } : Jvm.MethodName) prog_19_method_5_code (1 : Nat) (Option.some Jvm.ClassFile.FieldType.boolean)) ∈ lw_all := lw_g (lw_at lw_m8 64 rfl) rfl
theorem q1834 : (Jvm.Cond.methodLink "VoteLogsModel" (32 : Nat) ({ cls := "VoteLogsModel", name := "in", desc := "(III)Z" } : Jvm.MethodName)) ∈ lw_all := lw_g (lw_at lw_m8 65 rfl) rfl
theorem q1835 : (Jvm.Cond.static ({ cls := "VoteLogsModel", name := "in", desc := "(III)Z" } : Jvm.MethodName)) ∈ lw_all := lw_g (lw_at lw_m8 66 rfl) rfl
theorem q1836 : (Jvm.Cond.code ({ cls := "VoteLogsModel", name := "in", desc := "(III)Z" } : Jvm.MethodName) prog_19_method_4_code (3 : Nat) (Option.some Jvm.ClassFile.FieldType.boolean)) ∈ lw_all := lw_g (lw_at lw_m8 67 rfl) rfl
theorem q1837 : (Jvm.Cond.methodLink "VoteLogsModel" (106 : Nat) ({ cls := "VoteLogsModel", name := "fails", desc := "(I)I" } : Jvm.MethodName)) ∈ lw_all := lw_g (lw_at lw_m8 68 rfl) rfl
theorem q1838 : (Jvm.Cond.privateMethod ({ cls := "VoteLogsModel", name := "fails", desc := "(I)I" } : Jvm.MethodName)) ∈ lw_tbl := lw_at lw_m8 69 rfl
theorem q1839 : (Jvm.Cond.instanceMethod ({ cls := "VoteLogsModel", name := "fails", desc := "(I)I" } : Jvm.MethodName)) ∈ lw_all := lw_g (lw_at lw_m8 70 rfl) rfl
theorem q1840 : (Jvm.Cond.code ({ cls := "VoteLogsModel", name := "fails", desc := "(I)I" } : Jvm.MethodName) prog_19_method_3_code (2 : Nat) (Option.some Jvm.ClassFile.FieldType.int)) ∈ lw_all := lw_g (lw_at lw_m8 71 rfl) rfl
theorem q1841 : (Jvm.Cond.methodLink "VoteLogsModel" (109 : Nat) ({ cls := "VoteLogsModel", name := "areStores", desc := "(II)Z" } : Jvm.MethodName)) ∈ lw_all := lw_g (lw_at lw_m8 72 rfl) rfl
theorem q1842 : (Jvm.Cond.static ({ cls := "VoteLogsModel", name := "areStores", desc := "(II)Z" } : Jvm.MethodName)) ∈ lw_all := lw_g (lw_at lw_m8 73 rfl) rfl
theorem q1843 : (Jvm.Cond.code ({ cls := "VoteLogsModel", name := "areStores", desc := "(II)Z" } : Jvm.MethodName) prog_19_method_38_code (2 : Nat) (Option.some Jvm.ClassFile.FieldType.boolean)) ∈ lw_all := lw_g (lw_at lw_m8 74 rfl) rfl
theorem q1844 : (Jvm.Cond.methodLink "VoteLogsModel" (112 : Nat) ({ cls := "VoteLogsModel", name := "canBegin", desc := "()Z" } : Jvm.MethodName)) ∈ lw_all := lw_g (lw_at lw_m8 75 rfl) rfl
theorem q1845 : (Jvm.Cond.privateMethod ({ cls := "VoteLogsModel", name := "canBegin", desc := "()Z" } : Jvm.MethodName)) ∈ lw_tbl := lw_at lw_m8 76 rfl
theorem q1846 : (Jvm.Cond.instanceMethod ({ cls := "VoteLogsModel", name := "canBegin", desc := "()Z" } : Jvm.MethodName)) ∈ lw_all := lw_g (lw_at lw_m8 77 rfl) rfl
theorem q1847 : (Jvm.Cond.code ({ cls := "VoteLogsModel", name := "canBegin", desc := "()Z" } : Jvm.MethodName) prog_19_method_39_code (1 : Nat) (Option.some Jvm.ClassFile.FieldType.boolean)) ∈ lw_all := lw_g (lw_at lw_m8 78 rfl) rfl
theorem q1848 : (Jvm.Cond.methodLink "VoteLogsModel" (116 : Nat) ({ cls := "VoteLogsModel", name := "recordsState", desc := "()V" } : Jvm.MethodName)) ∈ lw_all := lw_g (lw_at lw_m8 79 rfl) rfl
theorem q1849 : (Jvm.Cond.privateMethod ({ cls := "VoteLogsModel", name := "recordsState", desc := "()V" } : Jvm.MethodName)) ∈ lw_tbl := lw_at lw_m8 80 rfl
theorem q1850 : (Jvm.Cond.instanceMethod ({ cls := "VoteLogsModel", name := "recordsState", desc := "()V" } : Jvm.MethodName)) ∈ lw_all := lw_g (lw_at lw_m8 81 rfl) rfl
theorem q1851 : (Jvm.Cond.code ({ cls := "VoteLogsModel", name := "recordsState", desc := "()V" } : Jvm.MethodName) prog_19_method_12_code (2 : Nat) (Option.none : Option Jvm.ClassFile.FieldType)) ∈ lw_all := lw_g (lw_at lw_m8 82 rfl) rfl
theorem q1852 : (Jvm.Cond.methodLink "VoteLogsModel" (119 : Nat) ({ cls := "VoteLogsModel", name := "begins", desc := "(III)I" } : Jvm.MethodName)) ∈ lw_all := lw_g (lw_at lw_m8 83 rfl) rfl
theorem q1853 : (Jvm.Cond.privateMethod ({ cls := "VoteLogsModel", name := "begins", desc := "(III)I" } : Jvm.MethodName)) ∈ lw_tbl := lw_at lw_m8 84 rfl
theorem q1854 : (Jvm.Cond.instanceMethod ({ cls := "VoteLogsModel", name := "begins", desc := "(III)I" } : Jvm.MethodName)) ∈ lw_all := lw_g (lw_at lw_m8 85 rfl) rfl
theorem q1855 : (Jvm.Cond.code ({ cls := "VoteLogsModel", name := "begins", desc := "(III)I" } : Jvm.MethodName) prog_19_method_32_code (5 : Nat) (Option.some Jvm.ClassFile.FieldType.int)) ∈ lw_all := lw_g (lw_at lw_m8 86 rfl) rfl
theorem q1856 : (Jvm.Cond.methodLink "VoteLogsModel" (64 : Nat) ({ cls := "VoteLogsModel", name := "lay", desc := "(III)V" } : Jvm.MethodName)) ∈ lw_all := lw_g (lw_at lw_m8 87 rfl) rfl
theorem q1857 : (Jvm.Cond.privateMethod ({ cls := "VoteLogsModel", name := "lay", desc := "(III)V" } : Jvm.MethodName)) ∈ lw_tbl := lw_at lw_m8 88 rfl
theorem q1858 : (Jvm.Cond.instanceMethod ({ cls := "VoteLogsModel", name := "lay", desc := "(III)V" } : Jvm.MethodName)) ∈ lw_all := lw_g (lw_at lw_m8 89 rfl) rfl
theorem q1859 : (Jvm.Cond.code ({ cls := "VoteLogsModel", name := "lay", desc := "(III)V" } : Jvm.MethodName) prog_19_method_10_code (4 : Nat) (Option.none : Option Jvm.ClassFile.FieldType)) ∈ lw_all := lw_g (lw_at lw_m8 90 rfl) rfl
theorem q1860 : (Jvm.Cond.methodLink "VoteLogsModel" (67 : Nat) ({ cls := "VoteLogsModel", name := "writes", desc := "(III)V" } : Jvm.MethodName)) ∈ lw_all := lw_g (lw_at lw_m8 91 rfl) rfl
theorem q1861 : (Jvm.Cond.privateMethod ({ cls := "VoteLogsModel", name := "writes", desc := "(III)V" } : Jvm.MethodName)) ∈ lw_tbl := lw_at lw_m8 92 rfl
theorem q1862 : (Jvm.Cond.instanceMethod ({ cls := "VoteLogsModel", name := "writes", desc := "(III)V" } : Jvm.MethodName)) ∈ lw_all := lw_g (lw_at lw_m8 93 rfl) rfl
theorem q1863 : (Jvm.Cond.code ({ cls := "VoteLogsModel", name := "writes", desc := "(III)V" } : Jvm.MethodName) prog_19_method_20_code (4 : Nat) (Option.none : Option Jvm.ClassFile.FieldType)) ∈ lw_all := lw_g (lw_at lw_m8 94 rfl) rfl
theorem q1864 : (Jvm.Cond.methodLink "VoteLogsModel" (70 : Nat) ({ cls := "VoteLogsModel", name := "sendsAll", desc := "(II)V" } : Jvm.MethodName)) ∈ lw_all := lw_g (lw_at lw_m8 95 rfl) rfl
theorem q1865 : (Jvm.Cond.privateMethod ({ cls := "VoteLogsModel", name := "sendsAll", desc := "(II)V" } : Jvm.MethodName)) ∈ lw_tbl := lw_at lw_m8 96 rfl
theorem q1866 : (Jvm.Cond.instanceMethod ({ cls := "VoteLogsModel", name := "sendsAll", desc := "(II)V" } : Jvm.MethodName)) ∈ lw_all := lw_g (lw_at lw_m8 97 rfl) rfl
theorem q1867 : (Jvm.Cond.code ({ cls := "VoteLogsModel", name := "sendsAll", desc := "(II)V" } : Jvm.MethodName) prog_19_method_22_code (4 : Nat) (Option.none : Option Jvm.ClassFile.FieldType)) ∈ lw_all := lw_g (lw_at lw_m8 98 rfl) rfl
theorem q1868 : (Jvm.Cond.methodLink "VoteLogsModel" (57 : Nat) ({ cls := "VoteLogsModel", name := "all", desc := "(I)I" } : Jvm.MethodName)) ∈ lw_all := lw_g (lw_at lw_m8 99 rfl) rfl
theorem q1869 : (Jvm.Cond.privateMethod ({ cls := "VoteLogsModel", name := "all", desc := "(I)I" } : Jvm.MethodName)) ∈ lw_tbl := lw_at lw_m8 100 rfl
theorem q1870 : (Jvm.Cond.instanceMethod ({ cls := "VoteLogsModel", name := "all", desc := "(I)I" } : Jvm.MethodName)) ∈ lw_all := lw_g (lw_at lw_m8 101 rfl) rfl
theorem q1871 : (Jvm.Cond.code ({ cls := "VoteLogsModel", name := "all", desc := "(I)I" } : Jvm.MethodName) prog_19_method_16_code (2 : Nat) (Option.some Jvm.ClassFile.FieldType.int)) ∈ lw_all := lw_g (lw_at lw_m8 102 rfl) rfl
theorem q1872 : (Jvm.Cond.methodLink "VoteLogsModel" (39 : Nat) ({ cls := "VoteLogsModel", name := "of", desc := "(II)I" } : Jvm.MethodName)) ∈ lw_all := lw_g (lw_at lw_m8 103 rfl) rfl
theorem q1873 : (Jvm.Cond.privateMethod ({ cls := "VoteLogsModel", name := "of", desc := "(II)I" } : Jvm.MethodName)) ∈ lw_tbl := lw_at lw_m8 104 rfl
theorem q1874 : (Jvm.Cond.instanceMethod ({ cls := "VoteLogsModel", name := "of", desc := "(II)I" } : Jvm.MethodName)) ∈ lw_all := lw_g (lw_at lw_m8 105 rfl) rfl
theorem q1875 : (Jvm.Cond.code ({ cls := "VoteLogsModel", name := "of", desc := "(II)I" } : Jvm.MethodName) prog_19_method_9_code (3 : Nat) (Option.some Jvm.ClassFile.FieldType.int)) ∈ lw_all := lw_g (lw_at lw_m8 106 rfl) rfl
theorem q1876 : (Jvm.Cond.methodLink "VoteLogsModel" (60 : Nat) ({ cls := "VoteLogsModel", name := "sends", desc := "(III)V" } : Jvm.MethodName)) ∈ lw_all := lw_g (lw_at lw_m8 107 rfl) rfl
theorem q1877 : (Jvm.Cond.privateMethod ({ cls := "VoteLogsModel", name := "sends", desc := "(III)V" } : Jvm.MethodName)) ∈ lw_tbl := lw_at lw_m8 108 rfl
theorem q1878 : (Jvm.Cond.instanceMethod ({ cls := "VoteLogsModel", name := "sends", desc := "(III)V" } : Jvm.MethodName)) ∈ lw_all := lw_g (lw_at lw_m8 109 rfl) rfl
theorem q1879 : (Jvm.Cond.code ({ cls := "VoteLogsModel", name := "sends", desc := "(III)V" } : Jvm.MethodName) prog_19_method_21_code (4 : Nat) (Option.none : Option Jvm.ClassFile.FieldType)) ∈ lw_all := lw_g (lw_at lw_m8 110 rfl) rfl
theorem q1881 : (Jvm.Cond.instanceMethod ({ cls := "VoteLogsModel", name := "giveUp", desc := "(I)I" } : Jvm.MethodName)) ∈ lw_all := lw_g (lw_at lw_m8 112 rfl) rfl
theorem q1882 : (Jvm.Cond.selects "VoteLogsModel" ({ cls := "VoteLogsModel", name := "giveUp", desc := "(I)I" } : Jvm.MethodName) ({ cls := "VoteLogsModel", name := "giveUp", desc := "(I)I" } : Jvm.MethodName)) ∈ lw_all := lw_g (lw_at lw_m8 113 rfl) rfl
theorem q1883 : (Jvm.Cond.code ({ cls := "VoteLogsModel", name := "giveUp", desc := "(I)I" } : Jvm.MethodName) prog_19_method_41_code (2 : Nat) (Option.some Jvm.ClassFile.FieldType.int)) ∈ lw_all := lw_g (lw_at lw_m8 114 rfl) rfl
theorem q1884 : (Jvm.Cond.methodLink "VoteLogsModel" (123 : Nat) ({ cls := "VoteLogsModel", name := "isTransfer", desc := "(I)Z" } : Jvm.MethodName)) ∈ lw_all := lw_g (lw_at lw_m8 115 rfl) rfl
theorem q1885 : (Jvm.Cond.privateMethod ({ cls := "VoteLogsModel", name := "isTransfer", desc := "(I)Z" } : Jvm.MethodName)) ∈ lw_tbl := lw_at lw_m8 116 rfl
theorem q1886 : (Jvm.Cond.instanceMethod ({ cls := "VoteLogsModel", name := "isTransfer", desc := "(I)Z" } : Jvm.MethodName)) ∈ lw_all := lw_g (lw_at lw_m8 117 rfl) rfl
theorem q1887 : (Jvm.Cond.code ({ cls := "VoteLogsModel", name := "isTransfer", desc := "(I)Z" } : Jvm.MethodName) prog_19_method_7_code (2 : Nat) (Option.some Jvm.ClassFile.FieldType.boolean)) ∈ lw_all := lw_g (lw_at lw_m8 118 rfl) rfl
theorem q1888 : (Jvm.Cond.methodLink "VoteLogsModel" (126 : Nat) ({ cls := "VoteLogsModel", name := "canGiveUp", desc := "(I)Z" } : Jvm.MethodName)) ∈ lw_all := lw_g (lw_at lw_m8 119 rfl) rfl
theorem q1889 : (Jvm.Cond.privateMethod ({ cls := "VoteLogsModel", name := "canGiveUp", desc := "(I)Z" } : Jvm.MethodName)) ∈ lw_tbl := lw_at lw_m8 120 rfl
theorem q1890 : (Jvm.Cond.instanceMethod ({ cls := "VoteLogsModel", name := "canGiveUp", desc := "(I)Z" } : Jvm.MethodName)) ∈ lw_all := lw_g (lw_at lw_m8 121 rfl) rfl
theorem q1891 : (Jvm.Cond.code ({ cls := "VoteLogsModel", name := "canGiveUp", desc := "(I)Z" } : Jvm.MethodName) prog_19_method_33_code (2 : Nat) (Option.some Jvm.ClassFile.FieldType.boolean)) ∈ lw_all := lw_g (lw_at lw_m8 122 rfl) rfl
theorem q1892 : (Jvm.Cond.methodLink "VoteLogsModel" (81 : Nat) ({ cls := "VoteLogsModel", name := "decides", desc := "(II)V" } : Jvm.MethodName)) ∈ lw_all := lw_g (lw_at lw_m8 123 rfl) rfl
theorem q1893 : (Jvm.Cond.privateMethod ({ cls := "VoteLogsModel", name := "decides", desc := "(II)V" } : Jvm.MethodName)) ∈ lw_tbl := lw_at lw_m8 124 rfl
theorem q1894 : (Jvm.Cond.instanceMethod ({ cls := "VoteLogsModel", name := "decides", desc := "(II)V" } : Jvm.MethodName)) ∈ lw_all := lw_g (lw_at lw_m8 125 rfl) rfl
theorem q1895 : (Jvm.Cond.code ({ cls := "VoteLogsModel", name := "decides", desc := "(II)V" } : Jvm.MethodName) prog_19_method_23_code (3 : Nat) (Option.none : Option Jvm.ClassFile.FieldType)) ∈ lw_all := lw_g (lw_at lw_m8 126 rfl) rfl
theorem q1897 : (Jvm.Cond.instanceMethod ({ cls := "VoteLogsModel", name := "ask", desc := "(II)I" } : Jvm.MethodName)) ∈ lw_all := lw_g (lw_at lw_m8 128 rfl) rfl
theorem q1898 : (Jvm.Cond.selects "VoteLogsModel" ({ cls := "VoteLogsModel", name := "ask", desc := "(II)I" } : Jvm.MethodName) ({ cls := "VoteLogsModel", name := "ask", desc := "(II)I" } : Jvm.MethodName)) ∈ lw_all := lw_g (lw_at lw_m8 129 rfl) rfl
theorem q1899 : (Jvm.Cond.code ({ cls := "VoteLogsModel", name := "ask", desc := "(II)I" } : Jvm.MethodName) prog_19_method_42_code (3 : Nat) (Option.some Jvm.ClassFile.FieldType.int)) ∈ lw_all := lw_g (lw_at lw_m8 130 rfl) rfl
theorem q1900 : (Jvm.Cond.methodLink "VoteLogsModel" (129 : Nat) ({ cls := "VoteLogsModel", name := "canAsk", desc := "(II)Z" } : Jvm.MethodName)) ∈ lw_all := lw_g (lw_at lw_m8 131 rfl) rfl
theorem q1901 : (Jvm.Cond.privateMethod ({ cls := "VoteLogsModel", name := "canAsk", desc := "(II)Z" } : Jvm.MethodName)) ∈ lw_tbl := lw_at lw_m8 132 rfl
theorem q1902 : (Jvm.Cond.instanceMethod ({ cls := "VoteLogsModel", name := "canAsk", desc := "(II)Z" } : Jvm.MethodName)) ∈ lw_all := lw_g (lw_at lw_m8 133 rfl) rfl
theorem q1903 : (Jvm.Cond.code ({ cls := "VoteLogsModel", name := "canAsk", desc := "(II)Z" } : Jvm.MethodName) prog_19_method_34_code (3 : Nat) (Option.some Jvm.ClassFile.FieldType.boolean)) ∈ lw_all := lw_g (lw_at lw_m8 134 rfl) rfl
theorem q1904 : (Jvm.Cond.methodLink "VoteLogsModel" (51 : Nat) ({ cls := "VoteLogsModel", name := "stateIn", desc := "(II)I" } : Jvm.MethodName)) ∈ lw_all := lw_g (lw_at lw_m8 135 rfl) rfl
theorem q1905 : (Jvm.Cond.privateMethod ({ cls := "VoteLogsModel", name := "stateIn", desc := "(II)I" } : Jvm.MethodName)) ∈ lw_tbl := lw_at lw_m8 136 rfl
theorem q1906 : (Jvm.Cond.instanceMethod ({ cls := "VoteLogsModel", name := "stateIn", desc := "(II)I" } : Jvm.MethodName)) ∈ lw_all := lw_g (lw_at lw_m8 137 rfl) rfl
theorem q1907 : (Jvm.Cond.code ({ cls := "VoteLogsModel", name := "stateIn", desc := "(II)I" } : Jvm.MethodName) prog_19_method_11_code (3 : Nat) (Option.some Jvm.ClassFile.FieldType.int)) ∈ lw_all := lw_g (lw_at lw_m8 138 rfl) rfl
theorem q1909 : (Jvm.Cond.instanceMethod ({ cls := "VoteLogsModel", name := "deliver", desc := "(I)Z" } : Jvm.MethodName)) ∈ lw_all := lw_g (lw_at lw_m8 140 rfl) rfl
theorem q1910 : (Jvm.Cond.selects "VoteLogsModel" ({ cls := "VoteLogsModel", name := "deliver", desc := "(I)Z" } : Jvm.MethodName) ({ cls := "VoteLogsModel", name := "deliver", desc := "(I)Z" } : Jvm.MethodName)) ∈ lw_all := lw_g (lw_at lw_m8 141 rfl) rfl
theorem q1911 : (Jvm.Cond.code ({ cls := "VoteLogsModel", name := "deliver", desc := "(I)Z" } : Jvm.MethodName) prog_19_method_43_code (2 : Nat) (Option.some Jvm.ClassFile.FieldType.boolean)) ∈ lw_all := lw_g (lw_at lw_m8 142 rfl) rfl
theorem q1912 : (Jvm.Cond.methodLink "VoteLogsModel" (132 : Nat) ({ cls := "VoteLogsModel", name := "isMessage", desc := "(I)Z" } : Jvm.MethodName)) ∈ lw_all := lw_g (lw_at lw_m8 143 rfl) rfl
theorem q1913 : (Jvm.Cond.privateMethod ({ cls := "VoteLogsModel", name := "isMessage", desc := "(I)Z" } : Jvm.MethodName)) ∈ lw_tbl := lw_at lw_m8 144 rfl
theorem q1914 : (Jvm.Cond.instanceMethod ({ cls := "VoteLogsModel", name := "isMessage", desc := "(I)Z" } : Jvm.MethodName)) ∈ lw_all := lw_g (lw_at lw_m8 145 rfl) rfl
theorem q1915 : (Jvm.Cond.code ({ cls := "VoteLogsModel", name := "isMessage", desc := "(I)Z" } : Jvm.MethodName) prog_19_method_8_code (2 : Nat) (Option.some Jvm.ClassFile.FieldType.boolean)) ∈ lw_all := lw_g (lw_at lw_m8 146 rfl) rfl
theorem q1916 : (Jvm.Cond.methodLink "VoteLogsModel" (100 : Nat) ({ cls := "VoteLogsModel", name := "delivers", desc := "(I)Z" } : Jvm.MethodName)) ∈ lw_all := lw_g (lw_at lw_m8 147 rfl) rfl
theorem q1917 : (Jvm.Cond.privateMethod ({ cls := "VoteLogsModel", name := "delivers", desc := "(I)Z" } : Jvm.MethodName)) ∈ lw_tbl := lw_at lw_m8 148 rfl
theorem q1918 : (Jvm.Cond.instanceMethod ({ cls := "VoteLogsModel", name := "delivers", desc := "(I)Z" } : Jvm.MethodName)) ∈ lw_all := lw_g (lw_at lw_m8 149 rfl) rfl
theorem q1919 : (Jvm.Cond.code ({ cls := "VoteLogsModel", name := "delivers", desc := "(I)Z" } : Jvm.MethodName) prog_19_method_30_code (4 : Nat) (Option.some Jvm.ClassFile.FieldType.boolean)) ∈ lw_all := lw_g (lw_at lw_m8 150 rfl) rfl
theorem q1920 : (Jvm.Cond.methodLink "VoteLogsModel" (88 : Nat) ({ cls := "VoteLogsModel", name := "isUpFor", desc := "(I)Z" } : Jvm.MethodName)) ∈ lw_all := lw_g (lw_at lw_m8 151 rfl) rfl
theorem q1921 : (Jvm.Cond.privateMethod ({ cls := "VoteLogsModel", name := "isUpFor", desc := "(I)Z" } : Jvm.MethodName)) ∈ lw_tbl := lw_at lw_m8 152 rfl
theorem q1922 : (Jvm.Cond.instanceMethod ({ cls := "VoteLogsModel", name := "isUpFor", desc := "(I)Z" } : Jvm.MethodName)) ∈ lw_all := lw_g (lw_at lw_m8 153 rfl) rfl
theorem q1923 : (Jvm.Cond.code ({ cls := "VoteLogsModel", name := "isUpFor", desc := "(I)Z" } : Jvm.MethodName) prog_19_method_28_code (3 : Nat) (Option.some Jvm.ClassFile.FieldType.boolean)) ∈ lw_all := lw_g (lw_at lw_m8 154 rfl) rfl
theorem q1924 : (Jvm.Cond.methodLink "VoteLogsModel" (84 : Nat) ({ cls := "VoteLogsModel", name := "goesToStore", desc := "(I)Z" } : Jvm.MethodName)) ∈ lw_all := lw_g (lw_at lw_m8 155 rfl) rfl
theorem q1925 : (Jvm.Cond.static ({ cls := "VoteLogsModel", name := "goesToStore", desc := "(I)Z" } : Jvm.MethodName)) ∈ lw_all := lw_g (lw_at lw_m8 156 rfl) rfl
theorem q1926 : (Jvm.Cond.code ({ cls := "VoteLogsModel", name := "goesToStore", desc := "(I)Z" } : Jvm.MethodName) prog_19_method_27_code (1 : Nat) (Option.some Jvm.ClassFile.FieldType.boolean)) ∈ lw_all := lw_g (lw_at lw_m8 157 rfl) rfl
theorem q1927 : (Jvm.Cond.methodLink "VoteLogsModel" (91 : Nat) ({ cls := "VoteLogsModel", name := "takes", desc := "(I)I" } : Jvm.MethodName)) ∈ lw_all := lw_g (lw_at lw_m8 158 rfl) rfl
theorem q1928 : (Jvm.Cond.privateMethod ({ cls := "VoteLogsModel", name := "takes", desc := "(I)I" } : Jvm.MethodName)) ∈ lw_tbl := lw_at lw_m8 159 rfl
theorem q1929 : (Jvm.Cond.instanceMethod ({ cls := "VoteLogsModel", name := "takes", desc := "(I)I" } : Jvm.MethodName)) ∈ lw_all := lw_g (lw_at lw_m8 160 rfl) rfl
theorem q1930 : (Jvm.Cond.code ({ cls := "VoteLogsModel", name := "takes", desc := "(I)I" } : Jvm.MethodName) prog_19_method_29_code (4 : Nat) (Option.some Jvm.ClassFile.FieldType.int)) ∈ lw_all := lw_g (lw_at lw_m8 161 rfl) rfl
theorem q1931 : (Jvm.Cond.methodLink "VoteLogsModel" (94 : Nat) ({ cls := "VoteLogsModel", name := "atStore", desc := "(III)V" } : Jvm.MethodName)) ∈ lw_all := lw_g (lw_at lw_m8 162 rfl) rfl
theorem q1932 : (Jvm.Cond.privateMethod ({ cls := "VoteLogsModel", name := "atStore", desc := "(III)V" } : Jvm.MethodName)) ∈ lw_tbl := lw_at lw_m8 163 rfl
theorem q1933 : (Jvm.Cond.instanceMethod ({ cls := "VoteLogsModel", name := "atStore", desc := "(III)V" } : Jvm.MethodName)) ∈ lw_all := lw_g (lw_at lw_m8 164 rfl) rfl
theorem q1934 : (Jvm.Cond.code ({ cls := "VoteLogsModel", name := "atStore", desc := "(III)V" } : Jvm.MethodName) prog_19_method_25_code (5 : Nat) (Option.none : Option Jvm.ClassFile.FieldType)) ∈ lw_all := lw_g (lw_at lw_m8 165 rfl) rfl
theorem q1935 : (Jvm.Cond.methodLink "VoteLogsModel" (54 : Nat) ({ cls := "VoteLogsModel", name := "shareIn", desc := "(II)I" } : Jvm.MethodName)) ∈ lw_all := lw_g (lw_at lw_m8 166 rfl) rfl
theorem q1936 : (Jvm.Cond.privateMethod ({ cls := "VoteLogsModel", name := "shareIn", desc := "(II)I" } : Jvm.MethodName)) ∈ lw_tbl := lw_at lw_m8 167 rfl
theorem q1937 : (Jvm.Cond.instanceMethod ({ cls := "VoteLogsModel", name := "shareIn", desc := "(II)I" } : Jvm.MethodName)) ∈ lw_all := lw_g (lw_at lw_m8 168 rfl) rfl
theorem q1938 : (Jvm.Cond.code ({ cls := "VoteLogsModel", name := "shareIn", desc := "(II)I" } : Jvm.MethodName) prog_19_method_18_code (3 : Nat) (Option.some Jvm.ClassFile.FieldType.int)) ∈ lw_all := lw_g (lw_at lw_m8 169 rfl) rfl
theorem q1939 : (Jvm.Cond.methodLink "VoteLogsModel" (47 : Nat) ({ cls := "VoteLogsModel", name := "shareOf", desc := "(IIII)I" } : Jvm.MethodName)) ∈ lw_all := lw_g (lw_at lw_m8 170 rfl) rfl
theorem q1940 : (Jvm.Cond.static ({ cls := "VoteLogsModel", name := "shareOf", desc := "(IIII)I" } : Jvm.MethodName)) ∈ lw_all := lw_g (lw_at lw_m8 171 rfl) rfl
theorem q1941 : (Jvm.Cond.code ({ cls := "VoteLogsModel", name := "shareOf", desc := "(IIII)I" } : Jvm.MethodName) prog_19_method_17_code (5 : Nat) (Option.some Jvm.ClassFile.FieldType.int)) ∈ lw_all := lw_g (lw_at lw_m8 172 rfl) rfl
theorem q1942 : (Jvm.Cond.methodLink "VoteLogsModel" (43 : Nat) ({ cls := "VoteLogsModel", name := "bits", desc := "(I)I" } : Jvm.MethodName)) ∈ lw_all := lw_g (lw_at lw_m8 173 rfl) rfl
theorem q1943 : (Jvm.Cond.static ({ cls := "VoteLogsModel", name := "bits", desc := "(I)I" } : Jvm.MethodName)) ∈ lw_all := lw_g (lw_at lw_m8 174 rfl) rfl
theorem q1944 : (Jvm.Cond.code ({ cls := "VoteLogsModel", name := "bits", desc := "(I)I" } : Jvm.MethodName) prog_19_method_15_code (3 : Nat) (Option.some Jvm.ClassFile.FieldType.int)) ∈ lw_all := lw_g (lw_at lw_m8 175 rfl) rfl
theorem q1945 : (Jvm.Cond.methodLink "VoteLogsModel" (74 : Nat) ({ cls := "VoteLogsModel", name := "canTake", desc := "(II)Z" } : Jvm.MethodName)) ∈ lw_all := lw_g (lw_at lw_m8 176 rfl) rfl
theorem q1946 : (Jvm.Cond.privateMethod ({ cls := "VoteLogsModel", name := "canTake", desc := "(II)Z" } : Jvm.MethodName)) ∈ lw_tbl := lw_at lw_m8 177 rfl
theorem q1947 : (Jvm.Cond.instanceMethod ({ cls := "VoteLogsModel", name := "canTake", desc := "(II)Z" } : Jvm.MethodName)) ∈ lw_all := lw_g (lw_at lw_m8 178 rfl) rfl
theorem q1948 : (Jvm.Cond.code ({ cls := "VoteLogsModel", name := "canTake", desc := "(II)Z" } : Jvm.MethodName) prog_19_method_19_code (6 : Nat) (Option.some Jvm.ClassFile.FieldType.boolean)) ∈ lw_all := lw_g (lw_at lw_m8 179 rfl) rfl
theorem q1949 : (Jvm.Cond.methodLink "VoteLogsModel" (78 : Nat) ({ cls := "VoteLogsModel", name := "becomes", desc := "(III)V" } : Jvm.MethodName)) ∈ lw_all := lw_g (lw_at lw_m8 180 rfl) rfl
theorem q1950 : (Jvm.Cond.privateMethod ({ cls := "VoteLogsModel", name := "becomes", desc := "(III)V" } : Jvm.MethodName)) ∈ lw_tbl := lw_at lw_m8 181 rfl
theorem q1951 : (Jvm.Cond.instanceMethod ({ cls := "VoteLogsModel", name := "becomes", desc := "(III)V" } : Jvm.MethodName)) ∈ lw_all := lw_g (lw_at lw_m8 182 rfl) rfl
theorem q1952 : (Jvm.Cond.code ({ cls := "VoteLogsModel", name := "becomes", desc := "(III)V" } : Jvm.MethodName) prog_19_method_24_code (4 : Nat) (Option.none : Option Jvm.ClassFile.FieldType)) ∈ lw_all := lw_g (lw_at lw_m8 183 rfl) rfl
theorem q1953 : (Jvm.Cond.methodLink "VoteLogsModel" (97 : Nat) ({ cls := "VoteLogsModel", name := "atClerk", desc := "(III)V" } : Jvm.MethodName)) ∈ lw_all := lw_g (lw_at lw_m8 184 rfl) rfl
theorem q1954 : (Jvm.Cond.privateMethod ({ cls := "VoteLogsModel", name := "atClerk", desc := "(III)V" } : Jvm.MethodName)) ∈ lw_tbl := lw_at lw_m8 185 rfl
theorem q1955 : (Jvm.Cond.instanceMethod ({ cls := "VoteLogsModel", name := "atClerk", desc := "(III)V" } : Jvm.MethodName)) ∈ lw_all := lw_g (lw_at lw_m8 186 rfl) rfl
theorem q1956 : (Jvm.Cond.code ({ cls := "VoteLogsModel", name := "atClerk", desc := "(III)V" } : Jvm.MethodName) prog_19_method_26_code (5 : Nat) (Option.none : Option Jvm.ClassFile.FieldType)) ∈ lw_all := lw_g (lw_at lw_m8 187 rfl) rfl
theorem q1958 : (Jvm.Cond.instanceMethod ({ cls := "VoteLogsModel", name := "deliverAll", desc := "()I" } : Jvm.MethodName)) ∈ lw_all := lw_g (lw_at lw_m8 189 rfl) rfl
theorem q1959 : (Jvm.Cond.selects "VoteLogsModel" ({ cls := "VoteLogsModel", name := "deliverAll", desc := "()I" } : Jvm.MethodName) ({ cls := "VoteLogsModel", name := "deliverAll", desc := "()I" } : Jvm.MethodName)) ∈ lw_all := lw_g (lw_at lw_m8 190 rfl) rfl
theorem q1960 : (Jvm.Cond.code ({ cls := "VoteLogsModel", name := "deliverAll", desc := "()I" } : Jvm.MethodName) prog_19_method_45_code (1 : Nat) (Option.some Jvm.ClassFile.FieldType.int)) ∈ lw_all := lw_g (lw_at lw_m8 191 rfl) rfl
theorem q1961 : (Jvm.Cond.methodLink "VoteLogsModel" (139 : Nat) ({ cls := "VoteLogsModel", name := "deliversAll", desc := "()I" } : Jvm.MethodName)) ∈ lw_all := lw_g (lw_at lw_m8 192 rfl) rfl
theorem q1962 : (Jvm.Cond.privateMethod ({ cls := "VoteLogsModel", name := "deliversAll", desc := "()I" } : Jvm.MethodName)) ∈ lw_tbl := lw_at lw_m8 193 rfl
theorem q1963 : (Jvm.Cond.instanceMethod ({ cls := "VoteLogsModel", name := "deliversAll", desc := "()I" } : Jvm.MethodName)) ∈ lw_all := lw_g (lw_at lw_m8 194 rfl) rfl
theorem q1964 : (Jvm.Cond.code ({ cls := "VoteLogsModel", name := "deliversAll", desc := "()I" } : Jvm.MethodName) prog_19_method_44_code (1 : Nat) (Option.some Jvm.ClassFile.FieldType.int)) ∈ lw_all := lw_g (lw_at lw_m8 195 rfl) rfl
theorem q1965 : (Jvm.Cond.constant "VoteLogsModel" (135 : Nat) (99999 : Int32)) ∈ lw_all := lw_g (lw_at lw_m8 196 rfl) rfl
theorem q1966 : (Jvm.Cond.methodLink "VoteLogsModel" (136 : Nat) ({ cls := "VoteLogsModel", name := "deliversFirst", desc := "(I)I" } : Jvm.MethodName)) ∈ lw_all := lw_g (lw_at lw_m8 197 rfl) rfl
theorem q1967 : (Jvm.Cond.privateMethod ({ cls := "VoteLogsModel", name := "deliversFirst", desc := "(I)I" } : Jvm.MethodName)) ∈ lw_tbl := lw_at lw_m8 198 rfl
theorem q1968 : (Jvm.Cond.instanceMethod ({ cls := "VoteLogsModel", name := "deliversFirst", desc := "(I)I" } : Jvm.MethodName)) ∈ lw_all := lw_g (lw_at lw_m8 199 rfl) rfl
theorem q1969 : (Jvm.Cond.code ({ cls := "VoteLogsModel", name := "deliversFirst", desc := "(I)I" } : Jvm.MethodName) prog_19_method_31_code (3 : Nat) (Option.some Jvm.ClassFile.FieldType.int)) ∈ lw_all := lw_g (lw_at lw_m8 200 rfl) rfl
theorem q1971 : (Jvm.Cond.instanceMethod ({ cls := "VoteLogsModel", name := "lose", desc := "(I)I" } : Jvm.MethodName)) ∈ lw_all := lw_g (lw_at lw_m8 202 rfl) rfl
theorem q1972 : (Jvm.Cond.selects "VoteLogsModel" ({ cls := "VoteLogsModel", name := "lose", desc := "(I)I" } : Jvm.MethodName) ({ cls := "VoteLogsModel", name := "lose", desc := "(I)I" } : Jvm.MethodName)) ∈ lw_all := lw_g (lw_at lw_m8 203 rfl) rfl
theorem q1973 : (Jvm.Cond.code ({ cls := "VoteLogsModel", name := "lose", desc := "(I)I" } : Jvm.MethodName) prog_19_method_46_code (2 : Nat) (Option.some Jvm.ClassFile.FieldType.int)) ∈ lw_all := lw_g (lw_at lw_m8 204 rfl) rfl
theorem q1974 : (Jvm.Cond.methodLink "VoteLogsModel" (143 : Nat) ({ cls := "VoteLogsModel", name := "loses", desc := "(I)I" } : Jvm.MethodName)) ∈ lw_all := lw_g (lw_at lw_m8 205 rfl) rfl
theorem q1975 : (Jvm.Cond.privateMethod ({ cls := "VoteLogsModel", name := "loses", desc := "(I)I" } : Jvm.MethodName)) ∈ lw_tbl := lw_at lw_m8 206 rfl
theorem q1976 : (Jvm.Cond.instanceMethod ({ cls := "VoteLogsModel", name := "loses", desc := "(I)I" } : Jvm.MethodName)) ∈ lw_all := lw_g (lw_at lw_m8 207 rfl) rfl
theorem q1977 : (Jvm.Cond.code ({ cls := "VoteLogsModel", name := "loses", desc := "(I)I" } : Jvm.MethodName) prog_19_method_35_code (2 : Nat) (Option.some Jvm.ClassFile.FieldType.int)) ∈ lw_all := lw_g (lw_at lw_m8 208 rfl) rfl
theorem q1979 : (Jvm.Cond.instanceMethod ({ cls := "VoteLogsModel", name := "crash", desc := "(I)I" } : Jvm.MethodName)) ∈ lw_all := lw_g (lw_at lw_m8 210 rfl) rfl
theorem q1980 : (Jvm.Cond.selects "VoteLogsModel" ({ cls := "VoteLogsModel", name := "crash", desc := "(I)I" } : Jvm.MethodName) ({ cls := "VoteLogsModel", name := "crash", desc := "(I)I" } : Jvm.MethodName)) ∈ lw_all := lw_g (lw_at lw_m8 211 rfl) rfl
theorem q1981 : (Jvm.Cond.code ({ cls := "VoteLogsModel", name := "crash", desc := "(I)I" } : Jvm.MethodName) prog_19_method_47_code (2 : Nat) (Option.some Jvm.ClassFile.FieldType.int)) ∈ lw_all := lw_g (lw_at lw_m8 212 rfl) rfl
theorem q1982 : (Jvm.Cond.methodLink "VoteLogsModel" (146 : Nat) ({ cls := "VoteLogsModel", name := "isSite", desc := "(I)Z" } : Jvm.MethodName)) ∈ lw_all := lw_g (lw_at lw_m8 213 rfl) rfl
theorem q1983 : (Jvm.Cond.static ({ cls := "VoteLogsModel", name := "isSite", desc := "(I)Z" } : Jvm.MethodName)) ∈ lw_all := lw_g (lw_at lw_m8 214 rfl) rfl
theorem q1984 : (Jvm.Cond.code ({ cls := "VoteLogsModel", name := "isSite", desc := "(I)Z" } : Jvm.MethodName) prog_19_method_6_code (1 : Nat) (Option.some Jvm.ClassFile.FieldType.boolean)) ∈ lw_all := lw_g (lw_at lw_m8 215 rfl) rfl
theorem q1985 : (Jvm.Cond.methodLink "VoteLogsModel" (149 : Nat) ({ cls := "VoteLogsModel", name := "crashes", desc := "(I)I" } : Jvm.MethodName)) ∈ lw_all := lw_g (lw_at lw_m8 216 rfl) rfl
theorem q1986 : (Jvm.Cond.privateMethod ({ cls := "VoteLogsModel", name := "crashes", desc := "(I)I" } : Jvm.MethodName)) ∈ lw_tbl := lw_at lw_m8 217 rfl
theorem q1987 : (Jvm.Cond.instanceMethod ({ cls := "VoteLogsModel", name := "crashes", desc := "(I)I" } : Jvm.MethodName)) ∈ lw_all := lw_g (lw_at lw_m8 218 rfl) rfl
theorem q1988 : (Jvm.Cond.code ({ cls := "VoteLogsModel", name := "crashes", desc := "(I)I" } : Jvm.MethodName) prog_19_method_36_code (4 : Nat) (Option.some Jvm.ClassFile.FieldType.int)) ∈ lw_all := lw_g (lw_at lw_m8 219 rfl) rfl
theorem q1990 : (Jvm.Cond.instanceMethod ({ cls := "VoteLogsModel", name := "recover", desc := "(I)I" } : Jvm.MethodName)) ∈ lw_all := lw_g (lw_at lw_m8 221 rfl) rfl
theorem q1991 : (Jvm.Cond.selects "VoteLogsModel" ({ cls := "VoteLogsModel", name := "recover", desc := "(I)I" } : Jvm.MethodName) ({ cls := "VoteLogsModel", name := "recover", desc := "(I)I" } : Jvm.MethodName)) ∈ lw_all := lw_g (lw_at lw_m8 222 rfl) rfl
theorem q1992 : (Jvm.Cond.code ({ cls := "VoteLogsModel", name := "recover", desc := "(I)I" } : Jvm.MethodName) prog_19_method_48_code (2 : Nat) (Option.some Jvm.ClassFile.FieldType.int)) ∈ lw_all := lw_g (lw_at lw_m8 223 rfl) rfl
theorem q1993 : (Jvm.Cond.methodLink "VoteLogsModel" (152 : Nat) ({ cls := "VoteLogsModel", name := "recovers", desc := "(I)V" } : Jvm.MethodName)) ∈ lw_all := lw_g (lw_at lw_m8 224 rfl) rfl
theorem q1994 : (Jvm.Cond.privateMethod ({ cls := "VoteLogsModel", name := "recovers", desc := "(I)V" } : Jvm.MethodName)) ∈ lw_tbl := lw_at lw_m8 225 rfl
theorem q1995 : (Jvm.Cond.instanceMethod ({ cls := "VoteLogsModel", name := "recovers", desc := "(I)V" } : Jvm.MethodName)) ∈ lw_all := lw_g (lw_at lw_m8 226 rfl) rfl
theorem q1996 : (Jvm.Cond.code ({ cls := "VoteLogsModel", name := "recovers", desc := "(I)V" } : Jvm.MethodName) prog_19_method_37_code (3 : Nat) (Option.none : Option Jvm.ClassFile.FieldType)) ∈ lw_all := lw_g (lw_at lw_m8 227 rfl) rfl
theorem q1998 : (Jvm.Cond.instanceMethod ({ cls := "VoteLogsModel", name := "append", desc := "(I)I" } : Jvm.MethodName)) ∈ lw_all := lw_g (lw_at lw_m8 229 rfl) rfl
theorem q1999 : (Jvm.Cond.selects "VoteLogsModel" ({ cls := "VoteLogsModel", name := "append", desc := "(I)I" } : Jvm.MethodName) ({ cls := "VoteLogsModel", name := "append", desc := "(I)I" } : Jvm.MethodName)) ∈ lw_all := lw_g (lw_at lw_m8 230 rfl) rfl
theorem q2000 : (Jvm.Cond.code ({ cls := "VoteLogsModel", name := "append", desc := "(I)I" } : Jvm.MethodName) prog_19_method_49_code (2 : Nat) (Option.some Jvm.ClassFile.FieldType.int)) ∈ lw_all := lw_g (lw_at lw_m8 231 rfl) rfl
theorem q2002 : (Jvm.Cond.instanceMethod ({ cls := "VoteLogsModel", name := "clearBuffer", desc := "()I" } : Jvm.MethodName)) ∈ lw_all := lw_g (lw_at lw_m8 233 rfl) rfl
theorem q2003 : (Jvm.Cond.selects "VoteLogsModel" ({ cls := "VoteLogsModel", name := "clearBuffer", desc := "()I" } : Jvm.MethodName) ({ cls := "VoteLogsModel", name := "clearBuffer", desc := "()I" } : Jvm.MethodName)) ∈ lw_all := lw_g (lw_at lw_m8 234 rfl) rfl
theorem q2004 : (Jvm.Cond.code ({ cls := "VoteLogsModel", name := "clearBuffer", desc := "()I" } : Jvm.MethodName) prog_19_method_50_code (2 : Nat) (Option.some Jvm.ClassFile.FieldType.int)) ∈ lw_all := lw_g (lw_at lw_m8 235 rfl) rfl
theorem q2006 : (Jvm.Cond.instanceMethod ({ cls := "VoteLogsModel", name := "firstError", desc := "()I" } : Jvm.MethodName)) ∈ lw_all := lw_g (lw_at lw_m8 237 rfl) rfl
theorem q2007 : (Jvm.Cond.selects "VoteLogsModel" ({ cls := "VoteLogsModel", name := "firstError", desc := "()I" } : Jvm.MethodName) ({ cls := "VoteLogsModel", name := "firstError", desc := "()I" } : Jvm.MethodName)) ∈ lw_all := lw_g (lw_at lw_m8 238 rfl) rfl
theorem q2008 : (Jvm.Cond.code ({ cls := "VoteLogsModel", name := "firstError", desc := "()I" } : Jvm.MethodName) prog_19_method_57_code (1 : Nat) (Option.some Jvm.ClassFile.FieldType.int)) ∈ lw_all := lw_g (lw_at lw_m8 239 rfl) rfl
theorem q2009 : (Jvm.Cond.methodLink "VoteLogsModel" (184 : Nat) ({ cls := "VoteLogsModel", name := "readsCourse", desc := "()Z" } : Jvm.MethodName)) ∈ lw_all := lw_g (lw_at lw_m9 0 rfl) rfl
theorem q2010 : (Jvm.Cond.privateMethod ({ cls := "VoteLogsModel", name := "readsCourse", desc := "()Z" } : Jvm.MethodName)) ∈ lw_tbl := lw_at lw_m9 1 rfl
theorem q2011 : (Jvm.Cond.instanceMethod ({ cls := "VoteLogsModel", name := "readsCourse", desc := "()Z" } : Jvm.MethodName)) ∈ lw_all := lw_g (lw_at lw_m9 2 rfl) rfl
theorem q2012 : (Jvm.Cond.code ({ cls := "VoteLogsModel", name := "readsCourse", desc := "()Z" } : Jvm.MethodName) prog_19_method_56_code (1 : Nat) (Option.some Jvm.ClassFile.FieldType.boolean)) ∈ lw_all := lw_g (lw_at lw_m9 3 rfl) rfl
theorem q2013 : (Jvm.Cond.methodLink "VoteLogsModel" (181 : Nat) ({ cls := "VoteLogsModel", name := "readsPart", desc := "()V" } : Jvm.MethodName)) ∈ lw_all := lw_g (lw_at lw_m9 4 rfl) rfl
theorem q2014 : (Jvm.Cond.privateMethod ({ cls := "VoteLogsModel", name := "readsPart", desc := "()V" } : Jvm.MethodName)) ∈ lw_tbl := lw_at lw_m9 5 rfl
theorem q2015 : (Jvm.Cond.instanceMethod ({ cls := "VoteLogsModel", name := "readsPart", desc := "()V" } : Jvm.MethodName)) ∈ lw_all := lw_g (lw_at lw_m9 6 rfl) rfl
theorem q2016 : (Jvm.Cond.code ({ cls := "VoteLogsModel", name := "readsPart", desc := "()V" } : Jvm.MethodName) prog_19_method_55_code (3 : Nat) (Option.none : Option Jvm.ClassFile.FieldType)) ∈ lw_all := lw_g (lw_at lw_m9 7 rfl) rfl
theorem q2017 : (Jvm.Cond.methodLink "VoteLogsModel" (166 : Nat) ({ cls := "VoteLogsModel", name := "sign", desc := "()I" } : Jvm.MethodName)) ∈ lw_all := lw_g (lw_at lw_m9 8 rfl) rfl
theorem q2018 : (Jvm.Cond.privateMethod ({ cls := "VoteLogsModel", name := "sign", desc := "()I" } : Jvm.MethodName)) ∈ lw_tbl := lw_at lw_m9 9 rfl
theorem q2019 : (Jvm.Cond.instanceMethod ({ cls := "VoteLogsModel", name := "sign", desc := "()I" } : Jvm.MethodName)) ∈ lw_all := lw_g (lw_at lw_m9 10 rfl) rfl
theorem q2020 : (Jvm.Cond.code ({ cls := "VoteLogsModel", name := "sign", desc := "()I" } : Jvm.MethodName) prog_19_method_51_code (1 : Nat) (Option.some Jvm.ClassFile.FieldType.int)) ∈ lw_all := lw_g (lw_at lw_m9 11 rfl) rfl
theorem q2021 : (Jvm.Cond.methodLink "VoteLogsModel" (169 : Nat) ({ cls := "VoteLogsModel", name := "reads", desc := "(II)I" } : Jvm.MethodName)) ∈ lw_all := lw_g (lw_at lw_m9 12 rfl) rfl
theorem q2022 : (Jvm.Cond.privateMethod ({ cls := "VoteLogsModel", name := "reads", desc := "(II)I" } : Jvm.MethodName)) ∈ lw_tbl := lw_at lw_m9 13 rfl
theorem q2023 : (Jvm.Cond.instanceMethod ({ cls := "VoteLogsModel", name := "reads", desc := "(II)I" } : Jvm.MethodName)) ∈ lw_all := lw_g (lw_at lw_m9 14 rfl) rfl
theorem q2024 : (Jvm.Cond.code ({ cls := "VoteLogsModel", name := "reads", desc := "(II)I" } : Jvm.MethodName) prog_19_method_52_code (4 : Nat) (Option.some Jvm.ClassFile.FieldType.int)) ∈ lw_all := lw_g (lw_at lw_m9 15 rfl) rfl
theorem q2025 : (Jvm.Cond.methodLink "VoteLogsModel" (175 : Nat) ({ cls := "VoteLogsModel", name := "readsStores", desc := "(I)I" } : Jvm.MethodName)) ∈ lw_all := lw_g (lw_at lw_m9 16 rfl) rfl
theorem q2026 : (Jvm.Cond.privateMethod ({ cls := "VoteLogsModel", name := "readsStores", desc := "(I)I" } : Jvm.MethodName)) ∈ lw_tbl := lw_at lw_m9 17 rfl
theorem q2027 : (Jvm.Cond.instanceMethod ({ cls := "VoteLogsModel", name := "readsStores", desc := "(I)I" } : Jvm.MethodName)) ∈ lw_all := lw_g (lw_at lw_m9 18 rfl) rfl
theorem q2028 : (Jvm.Cond.code ({ cls := "VoteLogsModel", name := "readsStores", desc := "(I)I" } : Jvm.MethodName) prog_19_method_53_code (6 : Nat) (Option.some Jvm.ClassFile.FieldType.int)) ∈ lw_all := lw_g (lw_at lw_m9 19 rfl) rfl
theorem q2029 : (Jvm.Cond.methodLink "VoteLogsModel" (178 : Nat) ({ cls := "VoteLogsModel", name := "readsSize", desc := "()I" } : Jvm.MethodName)) ∈ lw_all := lw_g (lw_at lw_m9 20 rfl) rfl
theorem q2030 : (Jvm.Cond.privateMethod ({ cls := "VoteLogsModel", name := "readsSize", desc := "()I" } : Jvm.MethodName)) ∈ lw_tbl := lw_at lw_m9 21 rfl
theorem q2031 : (Jvm.Cond.instanceMethod ({ cls := "VoteLogsModel", name := "readsSize", desc := "()I" } : Jvm.MethodName)) ∈ lw_all := lw_g (lw_at lw_m9 22 rfl) rfl
theorem q2032 : (Jvm.Cond.code ({ cls := "VoteLogsModel", name := "readsSize", desc := "()I" } : Jvm.MethodName) prog_19_method_54_code (2 : Nat) (Option.some Jvm.ClassFile.FieldType.int)) ∈ lw_all := lw_g (lw_at lw_m9 23 rfl) rfl
theorem q2034 : (Jvm.Cond.instanceMethod ({ cls := "VoteLogsModel", name := "runCourse", desc := "()I" } : Jvm.MethodName)) ∈ lw_all := lw_g (lw_at lw_m9 25 rfl) rfl
theorem q2035 : (Jvm.Cond.selects "VoteLogsModel" ({ cls := "VoteLogsModel", name := "runCourse", desc := "()I" } : Jvm.MethodName) ({ cls := "VoteLogsModel", name := "runCourse", desc := "()I" } : Jvm.MethodName)) ∈ lw_all := lw_g (lw_at lw_m9 26 rfl) rfl
theorem q2036 : (Jvm.Cond.code ({ cls := "VoteLogsModel", name := "runCourse", desc := "()I" } : Jvm.MethodName) prog_19_method_59_code (2 : Nat) (Option.some Jvm.ClassFile.FieldType.int)) ∈ lw_all := lw_g (lw_at lw_m9 27 rfl) rfl
theorem q2037 : (Jvm.Cond.methodLink "VoteLogsModel" (187 : Nat) ({ cls := "VoteLogsModel", name := "does", desc := "(I)Z" } : Jvm.MethodName)) ∈ lw_all := lw_g (lw_at lw_m9 28 rfl) rfl
theorem q2038 : (Jvm.Cond.privateMethod ({ cls := "VoteLogsModel", name := "does", desc := "(I)Z" } : Jvm.MethodName)) ∈ lw_tbl := lw_at lw_m9 29 rfl
theorem q2039 : (Jvm.Cond.instanceMethod ({ cls := "VoteLogsModel", name := "does", desc := "(I)Z" } : Jvm.MethodName)) ∈ lw_all := lw_g (lw_at lw_m9 30 rfl) rfl
theorem q2040 : (Jvm.Cond.code ({ cls := "VoteLogsModel", name := "does", desc := "(I)Z" } : Jvm.MethodName) prog_19_method_58_code (5 : Nat) (Option.some Jvm.ClassFile.FieldType.boolean)) ∈ lw_all := lw_g (lw_at lw_m9 31 rfl) rfl
theorem q2042 : (Jvm.Cond.instanceMethod ({ cls := "VoteLogsModel", name := "keep", desc := "()I" } : Jvm.MethodName)) ∈ lw_all := lw_g (lw_at lw_m9 33 rfl) rfl
theorem q2043 : (Jvm.Cond.selects "VoteLogsModel" ({ cls := "VoteLogsModel", name := "keep", desc := "()I" } : Jvm.MethodName) ({ cls := "VoteLogsModel", name := "keep", desc := "()I" } : Jvm.MethodName)) ∈ lw_all := lw_g (lw_at lw_m9 34 rfl) rfl
theorem q2044 : (Jvm.Cond.code ({ cls := "VoteLogsModel", name := "keep", desc := "()I" } : Jvm.MethodName) prog_19_method_60_code (2 : Nat) (Option.some Jvm.ClassFile.FieldType.int)) ∈ lw_all := lw_g (lw_at lw_m9 35 rfl) rfl
theorem q2046 : (Jvm.Cond.instanceMethod ({ cls := "VoteLogsModel", name := "goBack", desc := "()I" } : Jvm.MethodName)) ∈ lw_all := lw_g (lw_at lw_m9 37 rfl) rfl
theorem q2047 : (Jvm.Cond.selects "VoteLogsModel" ({ cls := "VoteLogsModel", name := "goBack", desc := "()I" } : Jvm.MethodName) ({ cls := "VoteLogsModel", name := "goBack", desc := "()I" } : Jvm.MethodName)) ∈ lw_all := lw_g (lw_at lw_m9 38 rfl) rfl
theorem q2048 : (Jvm.Cond.code ({ cls := "VoteLogsModel", name := "goBack", desc := "()I" } : Jvm.MethodName) prog_19_method_61_code (2 : Nat) (Option.some Jvm.ClassFile.FieldType.int)) ∈ lw_all := lw_g (lw_at lw_m9 39 rfl) rfl
theorem q2050 : (Jvm.Cond.instanceMethod ({ cls := "VoteLogsModel", name := "undo", desc := "()I" } : Jvm.MethodName)) ∈ lw_all := lw_g (lw_at lw_m9 41 rfl) rfl
theorem q2051 : (Jvm.Cond.selects "VoteLogsModel" ({ cls := "VoteLogsModel", name := "undo", desc := "()I" } : Jvm.MethodName) ({ cls := "VoteLogsModel", name := "undo", desc := "()I" } : Jvm.MethodName)) ∈ lw_all := lw_g (lw_at lw_m9 42 rfl) rfl
theorem q2052 : (Jvm.Cond.code ({ cls := "VoteLogsModel", name := "undo", desc := "()I" } : Jvm.MethodName) prog_19_method_62_code (2 : Nat) (Option.some Jvm.ClassFile.FieldType.int)) ∈ lw_all := lw_g (lw_at lw_m9 43 rfl) rfl
theorem q2054 : (Jvm.Cond.instanceMethod ({ cls := "VoteLogsModel", name := "transfers", desc := "()I" } : Jvm.MethodName)) ∈ lw_all := lw_g (lw_at lw_m9 45 rfl) rfl
theorem q2055 : (Jvm.Cond.selects "VoteLogsModel" ({ cls := "VoteLogsModel", name := "transfers", desc := "()I" } : Jvm.MethodName) ({ cls := "VoteLogsModel", name := "transfers", desc := "()I" } : Jvm.MethodName)) ∈ lw_all := lw_g (lw_at lw_m9 46 rfl) rfl
theorem q2056 : (Jvm.Cond.code ({ cls := "VoteLogsModel", name := "transfers", desc := "()I" } : Jvm.MethodName) prog_19_method_63_code (1 : Nat) (Option.some Jvm.ClassFile.FieldType.int)) ∈ lw_all := lw_g (lw_at lw_m9 47 rfl) rfl
theorem q2058 : (Jvm.Cond.instanceMethod ({ cls := "VoteLogsModel", name := "partners", desc := "(I)I" } : Jvm.MethodName)) ∈ lw_all := lw_g (lw_at lw_m9 49 rfl) rfl
theorem q2059 : (Jvm.Cond.selects "VoteLogsModel" ({ cls := "VoteLogsModel", name := "partners", desc := "(I)I" } : Jvm.MethodName) ({ cls := "VoteLogsModel", name := "partners", desc := "(I)I" } : Jvm.MethodName)) ∈ lw_all := lw_g (lw_at lw_m9 50 rfl) rfl
theorem q2060 : (Jvm.Cond.code ({ cls := "VoteLogsModel", name := "partners", desc := "(I)I" } : Jvm.MethodName) prog_19_method_64_code (2 : Nat) (Option.some Jvm.ClassFile.FieldType.int)) ∈ lw_all := lw_g (lw_at lw_m9 51 rfl) rfl
theorem q2062 : (Jvm.Cond.instanceMethod ({ cls := "VoteLogsModel", name := "share", desc := "(II)I" } : Jvm.MethodName)) ∈ lw_all := lw_g (lw_at lw_m9 53 rfl) rfl
theorem q2063 : (Jvm.Cond.selects "VoteLogsModel" ({ cls := "VoteLogsModel", name := "share", desc := "(II)I" } : Jvm.MethodName) ({ cls := "VoteLogsModel", name := "share", desc := "(II)I" } : Jvm.MethodName)) ∈ lw_all := lw_g (lw_at lw_m9 54 rfl) rfl
theorem q2064 : (Jvm.Cond.code ({ cls := "VoteLogsModel", name := "share", desc := "(II)I" } : Jvm.MethodName) prog_19_method_65_code (3 : Nat) (Option.some Jvm.ClassFile.FieldType.int)) ∈ lw_all := lw_g (lw_at lw_m9 55 rfl) rfl
theorem q2066 : (Jvm.Cond.instanceMethod ({ cls := "VoteLogsModel", name := "isUp", desc := "(I)Z" } : Jvm.MethodName)) ∈ lw_all := lw_g (lw_at lw_m9 57 rfl) rfl
theorem q2067 : (Jvm.Cond.selects "VoteLogsModel" ({ cls := "VoteLogsModel", name := "isUp", desc := "(I)Z" } : Jvm.MethodName) ({ cls := "VoteLogsModel", name := "isUp", desc := "(I)Z" } : Jvm.MethodName)) ∈ lw_all := lw_g (lw_at lw_m9 58 rfl) rfl
theorem q2068 : (Jvm.Cond.code ({ cls := "VoteLogsModel", name := "isUp", desc := "(I)Z" } : Jvm.MethodName) prog_19_method_66_code (2 : Nat) (Option.some Jvm.ClassFile.FieldType.boolean)) ∈ lw_all := lw_g (lw_at lw_m9 59 rfl) rfl
theorem q2070 : (Jvm.Cond.instanceMethod ({ cls := "VoteLogsModel", name := "amount", desc := "(I)I" } : Jvm.MethodName)) ∈ lw_all := lw_g (lw_at lw_m9 61 rfl) rfl
theorem q2071 : (Jvm.Cond.selects "VoteLogsModel" ({ cls := "VoteLogsModel", name := "amount", desc := "(I)I" } : Jvm.MethodName) ({ cls := "VoteLogsModel", name := "amount", desc := "(I)I" } : Jvm.MethodName)) ∈ lw_all := lw_g (lw_at lw_m9 62 rfl) rfl
theorem q2072 : (Jvm.Cond.code ({ cls := "VoteLogsModel", name := "amount", desc := "(I)I" } : Jvm.MethodName) prog_19_method_67_code (2 : Nat) (Option.some Jvm.ClassFile.FieldType.int)) ∈ lw_all := lw_g (lw_at lw_m9 63 rfl) rfl
theorem q2074 : (Jvm.Cond.instanceMethod ({ cls := "VoteLogsModel", name := "amountByLog", desc := "(I)I" } : Jvm.MethodName)) ∈ lw_all := lw_g (lw_at lw_m9 65 rfl) rfl
theorem q2075 : (Jvm.Cond.selects "VoteLogsModel" ({ cls := "VoteLogsModel", name := "amountByLog", desc := "(I)I" } : Jvm.MethodName) ({ cls := "VoteLogsModel", name := "amountByLog", desc := "(I)I" } : Jvm.MethodName)) ∈ lw_all := lw_g (lw_at lw_m9 66 rfl) rfl
theorem q2076 : (Jvm.Cond.code ({ cls := "VoteLogsModel", name := "amountByLog", desc := "(I)I" } : Jvm.MethodName) prog_19_method_69_code (2 : Nat) (Option.some Jvm.ClassFile.FieldType.int)) ∈ lw_all := lw_g (lw_at lw_m9 67 rfl) rfl
theorem q2077 : (Jvm.Cond.methodLink "VoteLogsModel" (193 : Nat) ({ cls := "VoteLogsModel", name := "amountLogged", desc := "(I)I" } : Jvm.MethodName)) ∈ lw_all := lw_g (lw_at lw_m9 68 rfl) rfl
theorem q2078 : (Jvm.Cond.privateMethod ({ cls := "VoteLogsModel", name := "amountLogged", desc := "(I)I" } : Jvm.MethodName)) ∈ lw_tbl := lw_at lw_m9 69 rfl
theorem q2079 : (Jvm.Cond.instanceMethod ({ cls := "VoteLogsModel", name := "amountLogged", desc := "(I)I" } : Jvm.MethodName)) ∈ lw_all := lw_g (lw_at lw_m9 70 rfl) rfl
theorem q2080 : (Jvm.Cond.code ({ cls := "VoteLogsModel", name := "amountLogged", desc := "(I)I" } : Jvm.MethodName) prog_19_method_68_code (5 : Nat) (Option.some Jvm.ClassFile.FieldType.int)) ∈ lw_all := lw_g (lw_at lw_m9 71 rfl) rfl
theorem q2082 : (Jvm.Cond.instanceMethod ({ cls := "VoteLogsModel", name := "state", desc := "(II)I" } : Jvm.MethodName)) ∈ lw_all := lw_g (lw_at lw_m9 73 rfl) rfl
theorem q2083 : (Jvm.Cond.selects "VoteLogsModel" ({ cls := "VoteLogsModel", name := "state", desc := "(II)I" } : Jvm.MethodName) ({ cls := "VoteLogsModel", name := "state", desc := "(II)I" } : Jvm.MethodName)) ∈ lw_all := lw_g (lw_at lw_m9 74 rfl) rfl
theorem q2084 : (Jvm.Cond.code ({ cls := "VoteLogsModel", name := "state", desc := "(II)I" } : Jvm.MethodName) prog_19_method_70_code (3 : Nat) (Option.some Jvm.ClassFile.FieldType.int)) ∈ lw_all := lw_g (lw_at lw_m9 75 rfl) rfl
theorem q2086 : (Jvm.Cond.instanceMethod ({ cls := "VoteLogsModel", name := "stateByLog", desc := "(II)I" } : Jvm.MethodName)) ∈ lw_all := lw_g (lw_at lw_m9 77 rfl) rfl
theorem q2087 : (Jvm.Cond.selects "VoteLogsModel" ({ cls := "VoteLogsModel", name := "stateByLog", desc := "(II)I" } : Jvm.MethodName) ({ cls := "VoteLogsModel", name := "stateByLog", desc := "(II)I" } : Jvm.MethodName)) ∈ lw_all := lw_g (lw_at lw_m9 78 rfl) rfl
theorem q2088 : (Jvm.Cond.code ({ cls := "VoteLogsModel", name := "stateByLog", desc := "(II)I" } : Jvm.MethodName) prog_19_method_72_code (3 : Nat) (Option.some Jvm.ClassFile.FieldType.int)) ∈ lw_all := lw_g (lw_at lw_m9 79 rfl) rfl
theorem q2089 : (Jvm.Cond.methodLink "VoteLogsModel" (196 : Nat) ({ cls := "VoteLogsModel", name := "stateLogged", desc := "(II)I" } : Jvm.MethodName)) ∈ lw_all := lw_g (lw_at lw_m9 80 rfl) rfl
theorem q2090 : (Jvm.Cond.privateMethod ({ cls := "VoteLogsModel", name := "stateLogged", desc := "(II)I" } : Jvm.MethodName)) ∈ lw_tbl := lw_at lw_m9 81 rfl
theorem q2091 : (Jvm.Cond.instanceMethod ({ cls := "VoteLogsModel", name := "stateLogged", desc := "(II)I" } : Jvm.MethodName)) ∈ lw_all := lw_g (lw_at lw_m9 82 rfl) rfl
theorem q2092 : (Jvm.Cond.code ({ cls := "VoteLogsModel", name := "stateLogged", desc := "(II)I" } : Jvm.MethodName) prog_19_method_71_code (6 : Nat) (Option.some Jvm.ClassFile.FieldType.int)) ∈ lw_all := lw_g (lw_at lw_m9 83 rfl) rfl
theorem q2094 : (Jvm.Cond.instanceMethod ({ cls := "VoteLogsModel", name := "inDoubt", desc := "(I)I" } : Jvm.MethodName)) ∈ lw_all := lw_g (lw_at lw_m9 85 rfl) rfl
theorem q2095 : (Jvm.Cond.selects "VoteLogsModel" ({ cls := "VoteLogsModel", name := "inDoubt", desc := "(I)I" } : Jvm.MethodName) ({ cls := "VoteLogsModel", name := "inDoubt", desc := "(I)I" } : Jvm.MethodName)) ∈ lw_all := lw_g (lw_at lw_m9 86 rfl) rfl
theorem q2096 : (Jvm.Cond.code ({ cls := "VoteLogsModel", name := "inDoubt", desc := "(I)I" } : Jvm.MethodName) prog_19_method_74_code (2 : Nat) (Option.some Jvm.ClassFile.FieldType.int)) ∈ lw_all := lw_g (lw_at lw_m9 87 rfl) rfl
theorem q2097 : (Jvm.Cond.methodLink "VoteLogsModel" (199 : Nat) ({ cls := "VoteLogsModel", name := "doubts", desc := "(I)I" } : Jvm.MethodName)) ∈ lw_all := lw_g (lw_at lw_m9 88 rfl) rfl
theorem q2098 : (Jvm.Cond.privateMethod ({ cls := "VoteLogsModel", name := "doubts", desc := "(I)I" } : Jvm.MethodName)) ∈ lw_tbl := lw_at lw_m9 89 rfl
theorem q2099 : (Jvm.Cond.instanceMethod ({ cls := "VoteLogsModel", name := "doubts", desc := "(I)I" } : Jvm.MethodName)) ∈ lw_all := lw_g (lw_at lw_m9 90 rfl) rfl
theorem q2100 : (Jvm.Cond.code ({ cls := "VoteLogsModel", name := "doubts", desc := "(I)I" } : Jvm.MethodName) prog_19_method_73_code (4 : Nat) (Option.some Jvm.ClassFile.FieldType.int)) ∈ lw_all := lw_g (lw_at lw_m9 91 rfl) rfl
theorem q2102 : (Jvm.Cond.instanceMethod ({ cls := "VoteLogsModel", name := "outcome", desc := "(I)I" } : Jvm.MethodName)) ∈ lw_all := lw_g (lw_at lw_m9 93 rfl) rfl
theorem q2103 : (Jvm.Cond.selects "VoteLogsModel" ({ cls := "VoteLogsModel", name := "outcome", desc := "(I)I" } : Jvm.MethodName) ({ cls := "VoteLogsModel", name := "outcome", desc := "(I)I" } : Jvm.MethodName)) ∈ lw_all := lw_g (lw_at lw_m9 94 rfl) rfl
theorem q2104 : (Jvm.Cond.code ({ cls := "VoteLogsModel", name := "outcome", desc := "(I)I" } : Jvm.MethodName) prog_19_method_75_code (2 : Nat) (Option.some Jvm.ClassFile.FieldType.int)) ∈ lw_all := lw_g (lw_at lw_m9 95 rfl) rfl
theorem q2106 : (Jvm.Cond.instanceMethod ({ cls := "VoteLogsModel", name := "outcomeByStores", desc := "(I)I" } : Jvm.MethodName)) ∈ lw_all := lw_g (lw_at lw_m9 97 rfl) rfl
theorem q2107 : (Jvm.Cond.selects "VoteLogsModel" ({ cls := "VoteLogsModel", name := "outcomeByStores", desc := "(I)I" } : Jvm.MethodName) ({ cls := "VoteLogsModel", name := "outcomeByStores", desc := "(I)I" } : Jvm.MethodName)) ∈ lw_all := lw_g (lw_at lw_m9 98 rfl) rfl
theorem q2108 : (Jvm.Cond.code ({ cls := "VoteLogsModel", name := "outcomeByStores", desc := "(I)I" } : Jvm.MethodName) prog_19_method_77_code (2 : Nat) (Option.some Jvm.ClassFile.FieldType.int)) ∈ lw_all := lw_g (lw_at lw_m9 99 rfl) rfl
theorem q2109 : (Jvm.Cond.methodLink "VoteLogsModel" (202 : Nat) ({ cls := "VoteLogsModel", name := "outcomeOf", desc := "(I)I" } : Jvm.MethodName)) ∈ lw_all := lw_g (lw_at lw_m9 100 rfl) rfl
theorem q2110 : (Jvm.Cond.privateMethod ({ cls := "VoteLogsModel", name := "outcomeOf", desc := "(I)I" } : Jvm.MethodName)) ∈ lw_tbl := lw_at lw_m9 101 rfl
theorem q2111 : (Jvm.Cond.instanceMethod ({ cls := "VoteLogsModel", name := "outcomeOf", desc := "(I)I" } : Jvm.MethodName)) ∈ lw_all := lw_g (lw_at lw_m9 102 rfl) rfl
theorem q2112 : (Jvm.Cond.code ({ cls := "VoteLogsModel", name := "outcomeOf", desc := "(I)I" } : Jvm.MethodName) prog_19_method_76_code (4 : Nat) (Option.some Jvm.ClassFile.FieldType.int)) ∈ lw_all := lw_g (lw_at lw_m9 103 rfl) rfl
theorem q2114 : (Jvm.Cond.instanceMethod ({ cls := "VoteLogsModel", name := "hasEnded", desc := "(I)Z" } : Jvm.MethodName)) ∈ lw_all := lw_g (lw_at lw_m9 105 rfl) rfl
theorem q2115 : (Jvm.Cond.selects "VoteLogsModel" ({ cls := "VoteLogsModel", name := "hasEnded", desc := "(I)Z" } : Jvm.MethodName) ({ cls := "VoteLogsModel", name := "hasEnded", desc := "(I)Z" } : Jvm.MethodName)) ∈ lw_all := lw_g (lw_at lw_m9 106 rfl) rfl
theorem q2116 : (Jvm.Cond.code ({ cls := "VoteLogsModel", name := "hasEnded", desc := "(I)Z" } : Jvm.MethodName) prog_19_method_78_code (2 : Nat) (Option.some Jvm.ClassFile.FieldType.boolean)) ∈ lw_all := lw_g (lw_at lw_m9 107 rfl) rfl
theorem q2118 : (Jvm.Cond.instanceMethod ({ cls := "VoteLogsModel", name := "saidYes", desc := "(I)I" } : Jvm.MethodName)) ∈ lw_all := lw_g (lw_at lw_m9 109 rfl) rfl
theorem q2119 : (Jvm.Cond.selects "VoteLogsModel" ({ cls := "VoteLogsModel", name := "saidYes", desc := "(I)I" } : Jvm.MethodName) ({ cls := "VoteLogsModel", name := "saidYes", desc := "(I)I" } : Jvm.MethodName)) ∈ lw_all := lw_g (lw_at lw_m9 110 rfl) rfl
theorem q2120 : (Jvm.Cond.code ({ cls := "VoteLogsModel", name := "saidYes", desc := "(I)I" } : Jvm.MethodName) prog_19_method_79_code (2 : Nat) (Option.some Jvm.ClassFile.FieldType.int)) ∈ lw_all := lw_g (lw_at lw_m9 111 rfl) rfl
theorem q2122 : (Jvm.Cond.instanceMethod ({ cls := "VoteLogsModel", name := "saidDone", desc := "(I)I" } : Jvm.MethodName)) ∈ lw_all := lw_g (lw_at lw_m9 113 rfl) rfl
theorem q2123 : (Jvm.Cond.selects "VoteLogsModel" ({ cls := "VoteLogsModel", name := "saidDone", desc := "(I)I" } : Jvm.MethodName) ({ cls := "VoteLogsModel", name := "saidDone", desc := "(I)I" } : Jvm.MethodName)) ∈ lw_all := lw_g (lw_at lw_m9 114 rfl) rfl
theorem q2124 : (Jvm.Cond.code ({ cls := "VoteLogsModel", name := "saidDone", desc := "(I)I" } : Jvm.MethodName) prog_19_method_80_code (2 : Nat) (Option.some Jvm.ClassFile.FieldType.int)) ∈ lw_all := lw_g (lw_at lw_m9 115 rfl) rfl
theorem q2126 : (Jvm.Cond.instanceMethod ({ cls := "VoteLogsModel", name := "total", desc := "()I" } : Jvm.MethodName)) ∈ lw_all := lw_g (lw_at lw_m9 117 rfl) rfl
theorem q2127 : (Jvm.Cond.selects "VoteLogsModel" ({ cls := "VoteLogsModel", name := "total", desc := "()I" } : Jvm.MethodName) ({ cls := "VoteLogsModel", name := "total", desc := "()I" } : Jvm.MethodName)) ∈ lw_all := lw_g (lw_at lw_m9 118 rfl) rfl
theorem q2128 : (Jvm.Cond.code ({ cls := "VoteLogsModel", name := "total", desc := "()I" } : Jvm.MethodName) prog_19_method_82_code (1 : Nat) (Option.some Jvm.ClassFile.FieldType.int)) ∈ lw_all := lw_g (lw_at lw_m9 119 rfl) rfl
theorem q2129 : (Jvm.Cond.methodLink "VoteLogsModel" (205 : Nat) ({ cls := "VoteLogsModel", name := "totalOf", desc := "()I" } : Jvm.MethodName)) ∈ lw_all := lw_g (lw_at lw_m9 120 rfl) rfl
theorem q2130 : (Jvm.Cond.privateMethod ({ cls := "VoteLogsModel", name := "totalOf", desc := "()I" } : Jvm.MethodName)) ∈ lw_tbl := lw_at lw_m9 121 rfl
theorem q2131 : (Jvm.Cond.instanceMethod ({ cls := "VoteLogsModel", name := "totalOf", desc := "()I" } : Jvm.MethodName)) ∈ lw_all := lw_g (lw_at lw_m9 122 rfl) rfl
theorem q2132 : (Jvm.Cond.code ({ cls := "VoteLogsModel", name := "totalOf", desc := "()I" } : Jvm.MethodName) prog_19_method_81_code (1 : Nat) (Option.some Jvm.ClassFile.FieldType.int)) ∈ lw_all := lw_g (lw_at lw_m9 123 rfl) rfl
theorem q2134 : (Jvm.Cond.instanceMethod ({ cls := "VoteLogsModel", name := "onTheWay", desc := "()I" } : Jvm.MethodName)) ∈ lw_all := lw_g (lw_at lw_m9 125 rfl) rfl
theorem q2135 : (Jvm.Cond.selects "VoteLogsModel" ({ cls := "VoteLogsModel", name := "onTheWay", desc := "()I" } : Jvm.MethodName) ({ cls := "VoteLogsModel", name := "onTheWay", desc := "()I" } : Jvm.MethodName)) ∈ lw_all := lw_g (lw_at lw_m9 126 rfl) rfl
theorem q2136 : (Jvm.Cond.code ({ cls := "VoteLogsModel", name := "onTheWay", desc := "()I" } : Jvm.MethodName) prog_19_method_84_code (1 : Nat) (Option.some Jvm.ClassFile.FieldType.int)) ∈ lw_all := lw_g (lw_at lw_m9 127 rfl) rfl
theorem q2137 : (Jvm.Cond.methodLink "VoteLogsModel" (208 : Nat) ({ cls := "VoteLogsModel", name := "away", desc := "()I" } : Jvm.MethodName)) ∈ lw_all := lw_g (lw_at lw_m9 128 rfl) rfl
theorem q2138 : (Jvm.Cond.privateMethod ({ cls := "VoteLogsModel", name := "away", desc := "()I" } : Jvm.MethodName)) ∈ lw_tbl := lw_at lw_m9 129 rfl
theorem q2139 : (Jvm.Cond.instanceMethod ({ cls := "VoteLogsModel", name := "away", desc := "()I" } : Jvm.MethodName)) ∈ lw_all := lw_g (lw_at lw_m9 130 rfl) rfl
theorem q2140 : (Jvm.Cond.code ({ cls := "VoteLogsModel", name := "away", desc := "()I" } : Jvm.MethodName) prog_19_method_83_code (4 : Nat) (Option.some Jvm.ClassFile.FieldType.int)) ∈ lw_all := lw_g (lw_at lw_m9 131 rfl) rfl
theorem q2142 : (Jvm.Cond.instanceMethod ({ cls := "VoteLogsModel", name := "records", desc := "(I)I" } : Jvm.MethodName)) ∈ lw_all := lw_g (lw_at lw_m9 133 rfl) rfl
theorem q2143 : (Jvm.Cond.selects "VoteLogsModel" ({ cls := "VoteLogsModel", name := "records", desc := "(I)I" } : Jvm.MethodName) ({ cls := "VoteLogsModel", name := "records", desc := "(I)I" } : Jvm.MethodName)) ∈ lw_all := lw_g (lw_at lw_m9 134 rfl) rfl
theorem q2144 : (Jvm.Cond.code ({ cls := "VoteLogsModel", name := "records", desc := "(I)I" } : Jvm.MethodName) prog_19_method_85_code (2 : Nat) (Option.some Jvm.ClassFile.FieldType.int)) ∈ lw_all := lw_g (lw_at lw_m9 135 rfl) rfl
theorem q2146 : (Jvm.Cond.instanceMethod ({ cls := "VoteLogsModel", name := "recordKind", desc := "(II)I" } : Jvm.MethodName)) ∈ lw_all := lw_g (lw_at lw_m9 137 rfl) rfl
theorem q2147 : (Jvm.Cond.selects "VoteLogsModel" ({ cls := "VoteLogsModel", name := "recordKind", desc := "(II)I" } : Jvm.MethodName) ({ cls := "VoteLogsModel", name := "recordKind", desc := "(II)I" } : Jvm.MethodName)) ∈ lw_all := lw_g (lw_at lw_m9 138 rfl) rfl
theorem q2148 : (Jvm.Cond.code ({ cls := "VoteLogsModel", name := "recordKind", desc := "(II)I" } : Jvm.MethodName) prog_19_method_87_code (3 : Nat) (Option.some Jvm.ClassFile.FieldType.int)) ∈ lw_all := lw_g (lw_at lw_m9 139 rfl) rfl
theorem q2149 : (Jvm.Cond.methodLink "VoteLogsModel" (211 : Nat) ({ cls := "VoteLogsModel", name := "record", desc := "(II)I" } : Jvm.MethodName)) ∈ lw_all := lw_g (lw_at lw_m9 140 rfl) rfl
theorem q2150 : (Jvm.Cond.privateMethod ({ cls := "VoteLogsModel", name := "record", desc := "(II)I" } : Jvm.MethodName)) ∈ lw_tbl := lw_at lw_m9 141 rfl
theorem q2151 : (Jvm.Cond.instanceMethod ({ cls := "VoteLogsModel", name := "record", desc := "(II)I" } : Jvm.MethodName)) ∈ lw_all := lw_g (lw_at lw_m9 142 rfl) rfl
theorem q2152 : (Jvm.Cond.code ({ cls := "VoteLogsModel", name := "record", desc := "(II)I" } : Jvm.MethodName) prog_19_method_86_code (3 : Nat) (Option.some Jvm.ClassFile.FieldType.int)) ∈ lw_all := lw_g (lw_at lw_m9 143 rfl) rfl
theorem q2154 : (Jvm.Cond.instanceMethod ({ cls := "VoteLogsModel", name := "recordTransfer", desc := "(II)I" } : Jvm.MethodName)) ∈ lw_all := lw_g (lw_at lw_m9 145 rfl) rfl
theorem q2155 : (Jvm.Cond.selects "VoteLogsModel" ({ cls := "VoteLogsModel", name := "recordTransfer", desc := "(II)I" } : Jvm.MethodName) ({ cls := "VoteLogsModel", name := "recordTransfer", desc := "(II)I" } : Jvm.MethodName)) ∈ lw_all := lw_g (lw_at lw_m9 146 rfl) rfl
theorem q2156 : (Jvm.Cond.code ({ cls := "VoteLogsModel", name := "recordTransfer", desc := "(II)I" } : Jvm.MethodName) prog_19_method_88_code (3 : Nat) (Option.some Jvm.ClassFile.FieldType.int)) ∈ lw_all := lw_g (lw_at lw_m9 147 rfl) rfl
theorem q2158 : (Jvm.Cond.instanceMethod ({ cls := "VoteLogsModel", name := "waiting", desc := "()I" } : Jvm.MethodName)) ∈ lw_all := lw_g (lw_at lw_m9 149 rfl) rfl
theorem q2159 : (Jvm.Cond.selects "VoteLogsModel" ({ cls := "VoteLogsModel", name := "waiting", desc := "()I" } : Jvm.MethodName) ({ cls := "VoteLogsModel", name := "waiting", desc := "()I" } : Jvm.MethodName)) ∈ lw_all := lw_g (lw_at lw_m9 150 rfl) rfl
theorem q2160 : (Jvm.Cond.code ({ cls := "VoteLogsModel", name := "waiting", desc := "()I" } : Jvm.MethodName) prog_19_method_89_code (1 : Nat) (Option.some Jvm.ClassFile.FieldType.int)) ∈ lw_all := lw_g (lw_at lw_m9 151 rfl) rfl
theorem q2162 : (Jvm.Cond.instanceMethod ({ cls := "VoteLogsModel", name := "kindOf", desc := "(I)I" } : Jvm.MethodName)) ∈ lw_all := lw_g (lw_at lw_m9 153 rfl) rfl
theorem q2163 : (Jvm.Cond.selects "VoteLogsModel" ({ cls := "VoteLogsModel", name := "kindOf", desc := "(I)I" } : Jvm.MethodName) ({ cls := "VoteLogsModel", name := "kindOf", desc := "(I)I" } : Jvm.MethodName)) ∈ lw_all := lw_g (lw_at lw_m9 154 rfl) rfl
theorem q2164 : (Jvm.Cond.code ({ cls := "VoteLogsModel", name := "kindOf", desc := "(I)I" } : Jvm.MethodName) prog_19_method_90_code (2 : Nat) (Option.some Jvm.ClassFile.FieldType.int)) ∈ lw_all := lw_g (lw_at lw_m9 155 rfl) rfl
theorem q2166 : (Jvm.Cond.instanceMethod ({ cls := "VoteLogsModel", name := "transferOf", desc := "(I)I" } : Jvm.MethodName)) ∈ lw_all := lw_g (lw_at lw_m9 157 rfl) rfl
theorem q2167 : (Jvm.Cond.selects "VoteLogsModel" ({ cls := "VoteLogsModel", name := "transferOf", desc := "(I)I" } : Jvm.MethodName) ({ cls := "VoteLogsModel", name := "transferOf", desc := "(I)I" } : Jvm.MethodName)) ∈ lw_all := lw_g (lw_at lw_m9 158 rfl) rfl
theorem q2168 : (Jvm.Cond.code ({ cls := "VoteLogsModel", name := "transferOf", desc := "(I)I" } : Jvm.MethodName) prog_19_method_91_code (2 : Nat) (Option.some Jvm.ClassFile.FieldType.int)) ∈ lw_all := lw_g (lw_at lw_m9 159 rfl) rfl
theorem q2170 : (Jvm.Cond.instanceMethod ({ cls := "VoteLogsModel", name := "storeOf", desc := "(I)I" } : Jvm.MethodName)) ∈ lw_all := lw_g (lw_at lw_m9 161 rfl) rfl
theorem q2171 : (Jvm.Cond.selects "VoteLogsModel" ({ cls := "VoteLogsModel", name := "storeOf", desc := "(I)I" } : Jvm.MethodName) ({ cls := "VoteLogsModel", name := "storeOf", desc := "(I)I" } : Jvm.MethodName)) ∈ lw_all := lw_g (lw_at lw_m9 162 rfl) rfl
theorem q2172 : (Jvm.Cond.code ({ cls := "VoteLogsModel", name := "storeOf", desc := "(I)I" } : Jvm.MethodName) prog_19_method_92_code (2 : Nat) (Option.some Jvm.ClassFile.FieldType.int)) ∈ lw_all := lw_g (lw_at lw_m9 163 rfl) rfl
theorem q2174 : (Jvm.Cond.instanceMethod ({ cls := "VoteLogsModel", name := "sent", desc := "()I" } : Jvm.MethodName)) ∈ lw_all := lw_g (lw_at lw_m9 165 rfl) rfl
theorem q2175 : (Jvm.Cond.selects "VoteLogsModel" ({ cls := "VoteLogsModel", name := "sent", desc := "()I" } : Jvm.MethodName) ({ cls := "VoteLogsModel", name := "sent", desc := "()I" } : Jvm.MethodName)) ∈ lw_all := lw_g (lw_at lw_m9 166 rfl) rfl
theorem q2176 : (Jvm.Cond.code ({ cls := "VoteLogsModel", name := "sent", desc := "()I" } : Jvm.MethodName) prog_19_method_93_code (1 : Nat) (Option.some Jvm.ClassFile.FieldType.int)) ∈ lw_all := lw_g (lw_at lw_m9 167 rfl) rfl
theorem q2178 : (Jvm.Cond.instanceMethod ({ cls := "VoteLogsModel", name := "sentByAccount", desc := "()I" } : Jvm.MethodName)) ∈ lw_all := lw_g (lw_at lw_m9 169 rfl) rfl
theorem q2179 : (Jvm.Cond.selects "VoteLogsModel" ({ cls := "VoteLogsModel", name := "sentByAccount", desc := "()I" } : Jvm.MethodName) ({ cls := "VoteLogsModel", name := "sentByAccount", desc := "()I" } : Jvm.MethodName)) ∈ lw_all := lw_g (lw_at lw_m9 170 rfl) rfl
theorem q2180 : (Jvm.Cond.code ({ cls := "VoteLogsModel", name := "sentByAccount", desc := "()I" } : Jvm.MethodName) prog_19_method_95_code (1 : Nat) (Option.some Jvm.ClassFile.FieldType.int)) ∈ lw_all := lw_g (lw_at lw_m9 171 rfl) rfl
theorem q2181 : (Jvm.Cond.methodLink "VoteLogsModel" (214 : Nat) ({ cls := "VoteLogsModel", name := "sentOf", desc := "()I" } : Jvm.MethodName)) ∈ lw_all := lw_g (lw_at lw_m9 172 rfl) rfl
theorem q2182 : (Jvm.Cond.privateMethod ({ cls := "VoteLogsModel", name := "sentOf", desc := "()I" } : Jvm.MethodName)) ∈ lw_tbl := lw_at lw_m9 173 rfl
theorem q2183 : (Jvm.Cond.instanceMethod ({ cls := "VoteLogsModel", name := "sentOf", desc := "()I" } : Jvm.MethodName)) ∈ lw_all := lw_g (lw_at lw_m9 174 rfl) rfl
theorem q2184 : (Jvm.Cond.code ({ cls := "VoteLogsModel", name := "sentOf", desc := "()I" } : Jvm.MethodName) prog_19_method_94_code (1 : Nat) (Option.some Jvm.ClassFile.FieldType.int)) ∈ lw_all := lw_g (lw_at lw_m9 175 rfl) rfl
theorem q2186 : (Jvm.Cond.instanceMethod ({ cls := "VoteLogsModel", name := "lost", desc := "()I" } : Jvm.MethodName)) ∈ lw_all := lw_g (lw_at lw_m9 177 rfl) rfl
theorem q2187 : (Jvm.Cond.selects "VoteLogsModel" ({ cls := "VoteLogsModel", name := "lost", desc := "()I" } : Jvm.MethodName) ({ cls := "VoteLogsModel", name := "lost", desc := "()I" } : Jvm.MethodName)) ∈ lw_all := lw_g (lw_at lw_m9 178 rfl) rfl
theorem q2188 : (Jvm.Cond.code ({ cls := "VoteLogsModel", name := "lost", desc := "()I" } : Jvm.MethodName) prog_19_method_96_code (1 : Nat) (Option.some Jvm.ClassFile.FieldType.int)) ∈ lw_all := lw_g (lw_at lw_m9 179 rfl) rfl
theorem q2190 : (Jvm.Cond.instanceMethod ({ cls := "VoteLogsModel", name := "wouldSend", desc := "(I)I" } : Jvm.MethodName)) ∈ lw_all := lw_g (lw_at lw_m9 181 rfl) rfl
theorem q2191 : (Jvm.Cond.selects "VoteLogsModel" ({ cls := "VoteLogsModel", name := "wouldSend", desc := "(I)I" } : Jvm.MethodName) ({ cls := "VoteLogsModel", name := "wouldSend", desc := "(I)I" } : Jvm.MethodName)) ∈ lw_all := lw_g (lw_at lw_m9 182 rfl) rfl
theorem q2192 : (Jvm.Cond.code ({ cls := "VoteLogsModel", name := "wouldSend", desc := "(I)I" } : Jvm.MethodName) prog_19_method_98_code (2 : Nat) (Option.some Jvm.ClassFile.FieldType.int)) ∈ lw_all := lw_g (lw_at lw_m9 183 rfl) rfl
theorem q2193 : (Jvm.Cond.methodLink "VoteLogsModel" (223 : Nat) ({ cls := "VoteLogsModel", name := "sendsBy", desc := "(I)I" } : Jvm.MethodName)) ∈ lw_all := lw_g (lw_at lw_m9 184 rfl) rfl
theorem q2194 : (Jvm.Cond.privateMethod ({ cls := "VoteLogsModel", name := "sendsBy", desc := "(I)I" } : Jvm.MethodName)) ∈ lw_tbl := lw_at lw_m9 185 rfl
theorem q2195 : (Jvm.Cond.instanceMethod ({ cls := "VoteLogsModel", name := "sendsBy", desc := "(I)I" } : Jvm.MethodName)) ∈ lw_all := lw_g (lw_at lw_m9 186 rfl) rfl
theorem q2196 : (Jvm.Cond.code ({ cls := "VoteLogsModel", name := "sendsBy", desc := "(I)I" } : Jvm.MethodName) prog_19_method_97_code (4 : Nat) (Option.some Jvm.ClassFile.FieldType.int)) ∈ lw_all := lw_g (lw_at lw_m9 187 rfl) rfl
theorem q2197 : (Jvm.Cond.methodLink "VoteLogsModel" (217 : Nat) ({ cls := "VoteLogsModel", name := "putAside", desc := "()V" } : Jvm.MethodName)) ∈ lw_all := lw_g (lw_at lw_m9 188 rfl) rfl
theorem q2198 : (Jvm.Cond.privateMethod ({ cls := "VoteLogsModel", name := "putAside", desc := "()V" } : Jvm.MethodName)) ∈ lw_tbl := lw_at lw_m9 189 rfl
theorem q2199 : (Jvm.Cond.instanceMethod ({ cls := "VoteLogsModel", name := "putAside", desc := "()V" } : Jvm.MethodName)) ∈ lw_all := lw_g (lw_at lw_m9 190 rfl) rfl
theorem q2200 : (Jvm.Cond.code ({ cls := "VoteLogsModel", name := "putAside", desc := "()V" } : Jvm.MethodName) prog_19_method_13_code (2 : Nat) (Option.none : Option Jvm.ClassFile.FieldType)) ∈ lw_all := lw_g (lw_at lw_m9 191 rfl) rfl
theorem q2201 : (Jvm.Cond.methodLink "VoteLogsModel" (220 : Nat) ({ cls := "VoteLogsModel", name := "takeBack", desc := "()V" } : Jvm.MethodName)) ∈ lw_all := lw_g (lw_at lw_m9 192 rfl) rfl
theorem q2202 : (Jvm.Cond.privateMethod ({ cls := "VoteLogsModel", name := "takeBack", desc := "()V" } : Jvm.MethodName)) ∈ lw_tbl := lw_at lw_m9 193 rfl
theorem q2203 : (Jvm.Cond.instanceMethod ({ cls := "VoteLogsModel", name := "takeBack", desc := "()V" } : Jvm.MethodName)) ∈ lw_all := lw_g (lw_at lw_m9 194 rfl) rfl
theorem q2204 : (Jvm.Cond.code ({ cls := "VoteLogsModel", name := "takeBack", desc := "()V" } : Jvm.MethodName) prog_19_method_14_code (2 : Nat) (Option.none : Option Jvm.ClassFile.FieldType)) ∈ lw_all := lw_g (lw_at lw_m9 195 rfl) rfl
theorem q2206 : (Jvm.Cond.instanceMethod ({ cls := "VoteLogsModel", name := "messagesToSettle", desc := "()I" } : Jvm.MethodName)) ∈ lw_all := lw_g (lw_at lw_m9 197 rfl) rfl
theorem q2207 : (Jvm.Cond.selects "VoteLogsModel" ({ cls := "VoteLogsModel", name := "messagesToSettle", desc := "()I" } : Jvm.MethodName) ({ cls := "VoteLogsModel", name := "messagesToSettle", desc := "()I" } : Jvm.MethodName)) ∈ lw_all := lw_g (lw_at lw_m9 198 rfl) rfl
theorem q2208 : (Jvm.Cond.code ({ cls := "VoteLogsModel", name := "messagesToSettle", desc := "()I" } : Jvm.MethodName) prog_19_method_101_code (1 : Nat) (Option.some Jvm.ClassFile.FieldType.int)) ∈ lw_all := lw_g (lw_at lw_m9 199 rfl) rfl
theorem q2209 : (Jvm.Cond.methodLink "VoteLogsModel" (229 : Nat) ({ cls := "VoteLogsModel", name := "settledMany", desc := "()I" } : Jvm.MethodName)) ∈ lw_all := lw_g (lw_at lw_m9 200 rfl) rfl
theorem q2210 : (Jvm.Cond.privateMethod ({ cls := "VoteLogsModel", name := "settledMany", desc := "()I" } : Jvm.MethodName)) ∈ lw_tbl := lw_at lw_m9 201 rfl
theorem q2211 : (Jvm.Cond.instanceMethod ({ cls := "VoteLogsModel", name := "settledMany", desc := "()I" } : Jvm.MethodName)) ∈ lw_all := lw_g (lw_at lw_m9 202 rfl) rfl
theorem q2212 : (Jvm.Cond.code ({ cls := "VoteLogsModel", name := "settledMany", desc := "()I" } : Jvm.MethodName) prog_19_method_100_code (2 : Nat) (Option.some Jvm.ClassFile.FieldType.int)) ∈ lw_all := lw_g (lw_at lw_m9 203 rfl) rfl
theorem q2213 : (Jvm.Cond.methodLink "VoteLogsModel" (226 : Nat) ({ cls := "VoteLogsModel", name := "settles", desc := "()I" } : Jvm.MethodName)) ∈ lw_all := lw_g (lw_at lw_m9 204 rfl) rfl
theorem q2214 : (Jvm.Cond.privateMethod ({ cls := "VoteLogsModel", name := "settles", desc := "()I" } : Jvm.MethodName)) ∈ lw_tbl := lw_at lw_m9 205 rfl
theorem q2215 : (Jvm.Cond.instanceMethod ({ cls := "VoteLogsModel", name := "settles", desc := "()I" } : Jvm.MethodName)) ∈ lw_all := lw_g (lw_at lw_m9 206 rfl) rfl
theorem q2216 : (Jvm.Cond.code ({ cls := "VoteLogsModel", name := "settles", desc := "()I" } : Jvm.MethodName) prog_19_method_99_code (2 : Nat) (Option.some Jvm.ClassFile.FieldType.int)) ∈ lw_all := lw_g (lw_at lw_m9 207 rfl) rfl
theorem q2218 : (Jvm.Cond.instanceMethod ({ cls := "VoteLogsModel", name := "outcomeIfSettled", desc := "(I)I" } : Jvm.MethodName)) ∈ lw_all := lw_g (lw_at lw_m9 209 rfl) rfl
theorem q2219 : (Jvm.Cond.selects "VoteLogsModel" ({ cls := "VoteLogsModel", name := "outcomeIfSettled", desc := "(I)I" } : Jvm.MethodName) ({ cls := "VoteLogsModel", name := "outcomeIfSettled", desc := "(I)I" } : Jvm.MethodName)) ∈ lw_all := lw_g (lw_at lw_m9 210 rfl) rfl
theorem q2220 : (Jvm.Cond.code ({ cls := "VoteLogsModel", name := "outcomeIfSettled", desc := "(I)I" } : Jvm.MethodName) prog_19_method_103_code (2 : Nat) (Option.some Jvm.ClassFile.FieldType.int)) ∈ lw_all := lw_g (lw_at lw_m9 211 rfl) rfl
theorem q2221 : (Jvm.Cond.methodLink "VoteLogsModel" (232 : Nat) ({ cls := "VoteLogsModel", name := "settledOutcome", desc := "(I)I" } : Jvm.MethodName)) ∈ lw_all := lw_g (lw_at lw_m9 212 rfl) rfl
theorem q2222 : (Jvm.Cond.privateMethod ({ cls := "VoteLogsModel", name := "settledOutcome", desc := "(I)I" } : Jvm.MethodName)) ∈ lw_tbl := lw_at lw_m9 213 rfl
theorem q2223 : (Jvm.Cond.instanceMethod ({ cls := "VoteLogsModel", name := "settledOutcome", desc := "(I)I" } : Jvm.MethodName)) ∈ lw_all := lw_g (lw_at lw_m9 214 rfl) rfl
theorem q2224 : (Jvm.Cond.code ({ cls := "VoteLogsModel", name := "settledOutcome", desc := "(I)I" } : Jvm.MethodName) prog_19_method_102_code (3 : Nat) (Option.some Jvm.ClassFile.FieldType.int)) ∈ lw_all := lw_g (lw_at lw_m9 215 rfl) rfl
theorem q2226 : (Jvm.Cond.instanceMethod ({ cls := "VoteLogsModel", name := "amountIfSettled", desc := "(I)I" } : Jvm.MethodName)) ∈ lw_all := lw_g (lw_at lw_m9 217 rfl) rfl
theorem q2227 : (Jvm.Cond.selects "VoteLogsModel" ({ cls := "VoteLogsModel", name := "amountIfSettled", desc := "(I)I" } : Jvm.MethodName) ({ cls := "VoteLogsModel", name := "amountIfSettled", desc := "(I)I" } : Jvm.MethodName)) ∈ lw_all := lw_g (lw_at lw_m9 218 rfl) rfl
theorem q2228 : (Jvm.Cond.code ({ cls := "VoteLogsModel", name := "amountIfSettled", desc := "(I)I" } : Jvm.MethodName) prog_19_method_105_code (2 : Nat) (Option.some Jvm.ClassFile.FieldType.int)) ∈ lw_all := lw_g (lw_at lw_m9 219 rfl) rfl
theorem q2229 : (Jvm.Cond.methodLink "VoteLogsModel" (235 : Nat) ({ cls := "VoteLogsModel", name := "settledAmount", desc := "(I)I" } : Jvm.MethodName)) ∈ lw_all := lw_g (lw_at lw_m9 220 rfl) rfl
theorem q2230 : (Jvm.Cond.privateMethod ({ cls := "VoteLogsModel", name := "settledAmount", desc := "(I)I" } : Jvm.MethodName)) ∈ lw_tbl := lw_at lw_m9 221 rfl
theorem q2231 : (Jvm.Cond.instanceMethod ({ cls := "VoteLogsModel", name := "settledAmount", desc := "(I)I" } : Jvm.MethodName)) ∈ lw_all := lw_g (lw_at lw_m9 222 rfl) rfl
theorem q2232 : (Jvm.Cond.code ({ cls := "VoteLogsModel", name := "settledAmount", desc := "(I)I" } : Jvm.MethodName) prog_19_method_104_code (3 : Nat) (Option.some Jvm.ClassFile.FieldType.int)) ∈ lw_all := lw_g (lw_at lw_m9 223 rfl) rfl
theorem q2234 : (Jvm.Cond.instanceMethod ({ cls := "VoteLogsModel", name := "greatestSize", desc := "(II)I" } : Jvm.MethodName)) ∈ lw_all := lw_g (lw_at lw_m9 225 rfl) rfl
theorem q2235 : (Jvm.Cond.selects "VoteLogsModel" ({ cls := "VoteLogsModel", name := "greatestSize", desc := "(II)I" } : Jvm.MethodName) ({ cls := "VoteLogsModel", name := "greatestSize", desc := "(II)I" } : Jvm.MethodName)) ∈ lw_all := lw_g (lw_at lw_m9 226 rfl) rfl
theorem q2236 : (Jvm.Cond.code ({ cls := "VoteLogsModel", name := "greatestSize", desc := "(II)I" } : Jvm.MethodName) prog_19_method_107_code (3 : Nat) (Option.some Jvm.ClassFile.FieldType.int)) ∈ lw_all := lw_g (lw_at lw_m9 227 rfl) rfl
theorem q2237 : (Jvm.Cond.methodLink "VoteLogsModel" (238 : Nat) ({ cls := "VoteLogsModel", name := "greatest", desc := "(II)I" } : Jvm.MethodName)) ∈ lw_all := lw_g (lw_at lw_m9 228 rfl) rfl
theorem q2238 : (Jvm.Cond.privateMethod ({ cls := "VoteLogsModel", name := "greatest", desc := "(II)I" } : Jvm.MethodName)) ∈ lw_tbl := lw_at lw_m9 229 rfl
theorem q2239 : (Jvm.Cond.instanceMethod ({ cls := "VoteLogsModel", name := "greatest", desc := "(II)I" } : Jvm.MethodName)) ∈ lw_all := lw_g (lw_at lw_m9 230 rfl) rfl
theorem q2240 : (Jvm.Cond.code ({ cls := "VoteLogsModel", name := "greatest", desc := "(II)I" } : Jvm.MethodName) prog_19_method_106_code (8 : Nat) (Option.some Jvm.ClassFile.FieldType.int)) ∈ lw_all := lw_g (lw_at lw_m9 231 rfl) rfl
theorem q2242 : (Jvm.Cond.instanceMethod ({ cls := "VoteLogsModel", name := "lostShare", desc := "()D" } : Jvm.MethodName)) ∈ lw_all := lw_g (lw_at lw_m9 233 rfl) rfl
theorem q2243 : (Jvm.Cond.selects "VoteLogsModel" ({ cls := "VoteLogsModel", name := "lostShare", desc := "()D" } : Jvm.MethodName) ({ cls := "VoteLogsModel", name := "lostShare", desc := "()D" } : Jvm.MethodName)) ∈ lw_all := lw_g (lw_at lw_m9 234 rfl) rfl
theorem q2244 : (Jvm.Cond.code ({ cls := "VoteLogsModel", name := "lostShare", desc := "()D" } : Jvm.MethodName) prog_19_method_109_code (1 : Nat) (Option.some Jvm.ClassFile.FieldType.double)) ∈ lw_all := lw_g (lw_at lw_m9 235 rfl) rfl
theorem q2245 : (Jvm.Cond.methodLink "VoteLogsModel" (241 : Nat) ({ cls := "VoteLogsModel", name := "shareLost", desc := "()D" } : Jvm.MethodName)) ∈ lw_all := lw_g (lw_at lw_m9 236 rfl) rfl
theorem q2246 : (Jvm.Cond.privateMethod ({ cls := "VoteLogsModel", name := "shareLost", desc := "()D" } : Jvm.MethodName)) ∈ lw_tbl := lw_at lw_m9 237 rfl
theorem q2247 : (Jvm.Cond.instanceMethod ({ cls := "VoteLogsModel", name := "shareLost", desc := "()D" } : Jvm.MethodName)) ∈ lw_all := lw_g (lw_at lw_m9 238 rfl) rfl
theorem q2248 : (Jvm.Cond.code ({ cls := "VoteLogsModel", name := "shareLost", desc := "()D" } : Jvm.MethodName) prog_19_method_108_code (1 : Nat) (Option.some Jvm.ClassFile.FieldType.double)) ∈ lw_all := lw_g (lw_at lw_m9 239 rfl) rfl
theorem q2250 : (Jvm.Cond.instanceMethod ({ cls := "VoteLogsModel", name := "meanSize", desc := "()F" } : Jvm.MethodName)) ∈ lw_all := lw_g (lw_at lw_m10 1 rfl) rfl
theorem q2251 : (Jvm.Cond.selects "VoteLogsModel" ({ cls := "VoteLogsModel", name := "meanSize", desc := "()F" } : Jvm.MethodName) ({ cls := "VoteLogsModel", name := "meanSize", desc := "()F" } : Jvm.MethodName)) ∈ lw_all := lw_g (lw_at lw_m10 2 rfl) rfl
theorem q2252 : (Jvm.Cond.code ({ cls := "VoteLogsModel", name := "meanSize", desc := "()F" } : Jvm.MethodName) prog_19_method_111_code (1 : Nat) (Option.some Jvm.ClassFile.FieldType.float)) ∈ lw_all := lw_g (lw_at lw_m10 3 rfl) rfl
theorem q2253 : (Jvm.Cond.methodLink "VoteLogsModel" (245 : Nat) ({ cls := "VoteLogsModel", name := "mean", desc := "()F" } : Jvm.MethodName)) ∈ lw_all := lw_g (lw_at lw_m10 4 rfl) rfl
theorem q2254 : (Jvm.Cond.privateMethod ({ cls := "VoteLogsModel", name := "mean", desc := "()F" } : Jvm.MethodName)) ∈ lw_tbl := lw_at lw_m10 5 rfl
theorem q2255 : (Jvm.Cond.instanceMethod ({ cls := "VoteLogsModel", name := "mean", desc := "()F" } : Jvm.MethodName)) ∈ lw_all := lw_g (lw_at lw_m10 6 rfl) rfl
theorem q2256 : (Jvm.Cond.code ({ cls := "VoteLogsModel", name := "mean", desc := "()F" } : Jvm.MethodName) prog_19_method_110_code (3 : Nat) (Option.some Jvm.ClassFile.FieldType.float)) ∈ lw_all := lw_g (lw_at lw_m10 7 rfl) rfl
theorem q2258 : (Jvm.Cond.instanceMethod ({ cls := "VoteLogsModel", name := "digest", desc := "()J" } : Jvm.MethodName)) ∈ lw_all := lw_g (lw_at lw_m10 9 rfl) rfl
theorem q2259 : (Jvm.Cond.selects "VoteLogsModel" ({ cls := "VoteLogsModel", name := "digest", desc := "()J" } : Jvm.MethodName) ({ cls := "VoteLogsModel", name := "digest", desc := "()J" } : Jvm.MethodName)) ∈ lw_all := lw_g (lw_at lw_m10 10 rfl) rfl
theorem q2260 : (Jvm.Cond.code ({ cls := "VoteLogsModel", name := "digest", desc := "()J" } : Jvm.MethodName) prog_19_method_114_code (5 : Nat) (Option.some Jvm.ClassFile.FieldType.long)) ∈ lw_all := lw_g (lw_at lw_m10 11 rfl) rfl
theorem q2261 : (Jvm.Cond.constantLong "VoteLogsModel" (251 : Nat) (4219 : Int64)) ∈ lw_all := lw_g (lw_at lw_m10 12 rfl) rfl
theorem q2262 : (Jvm.Cond.constantLong "VoteLogsModel" (249 : Nat) (31 : Int64)) ∈ lw_all := lw_g (lw_at lw_m10 13 rfl) rfl
theorem q2263 : (Jvm.Cond.methodLink "VoteLogsModel" (253 : Nat) ({ cls := "VoteLogsModel", name := "digestTransfer", desc := "(JI)J" } : Jvm.MethodName)) ∈ lw_all := lw_g (lw_at lw_m10 14 rfl) rfl
theorem q2264 : (Jvm.Cond.privateMethod ({ cls := "VoteLogsModel", name := "digestTransfer", desc := "(JI)J" } : Jvm.MethodName)) ∈ lw_tbl := lw_at lw_m10 15 rfl
theorem q2265 : (Jvm.Cond.instanceMethod ({ cls := "VoteLogsModel", name := "digestTransfer", desc := "(JI)J" } : Jvm.MethodName)) ∈ lw_all := lw_g (lw_at lw_m10 16 rfl) rfl
theorem q2266 : (Jvm.Cond.code ({ cls := "VoteLogsModel", name := "digestTransfer", desc := "(JI)J" } : Jvm.MethodName) prog_19_method_112_code (7 : Nat) (Option.some Jvm.ClassFile.FieldType.long)) ∈ lw_all := lw_g (lw_at lw_m10 17 rfl) rfl
theorem q2267 : (Jvm.Cond.methodLink "VoteLogsModel" (257 : Nat) ({ cls := "VoteLogsModel", name := "digestSite", desc := "(JI)J" } : Jvm.MethodName)) ∈ lw_all := lw_g (lw_at lw_m10 18 rfl) rfl
theorem q2268 : (Jvm.Cond.privateMethod ({ cls := "VoteLogsModel", name := "digestSite", desc := "(JI)J" } : Jvm.MethodName)) ∈ lw_tbl := lw_at lw_m10 19 rfl
theorem q2269 : (Jvm.Cond.instanceMethod ({ cls := "VoteLogsModel", name := "digestSite", desc := "(JI)J" } : Jvm.MethodName)) ∈ lw_all := lw_g (lw_at lw_m10 20 rfl) rfl
theorem q2270 : (Jvm.Cond.code ({ cls := "VoteLogsModel", name := "digestSite", desc := "(JI)J" } : Jvm.MethodName) prog_19_method_113_code (7 : Nat) (Option.some Jvm.ClassFile.FieldType.long)) ∈ lw_all := lw_g (lw_at lw_m10 21 rfl) rfl
theorem q2271 : (Jvm.Cond.methodLink "VoteLogsModel" (260 : Nat) ({ cls := "java/lang/Double", name := "doubleToLongBits", desc := "(D)J" } : Jvm.MethodName)) ∈ lw_all := lw_g (lw_at lw_m10 22 rfl) rfl
theorem q2272 : (Jvm.Cond.methodLink "VoteLogsModel" (266 : Nat) ({ cls := "java/lang/Float", name := "floatToIntBits", desc := "(F)I" } : Jvm.MethodName)) ∈ lw_all := lw_g (lw_at lw_m10 23 rfl) rfl
theorem q2297 : (Jvm.Cond.castable "VoteLogsModel" "java/lang/Object") ∈ lw_tbl := lw_at lw_m10 48 rfl
theorem in_X3 : ∀ w ∈ wsX30, w ∈ lw_all := lw_in wsX30 [1796, 1798, 1800, 1802, 1804, 1806, 1808, 1810, 1812, 1814, 1816, 1818, 1820] (by decide +kernel) (by decide +kernel)
