/-! SleepWork$Parser -/
set_option maxRecDepth 100000
def RX3 : String := "SleepWork$Parser"
def TX3 : u_T := fun k => match k with
  | 0 => ("SleepWork$Parser", "t", "LSleepWork$Tokens;", true)
  | 1 => ("SleepWork$Parser", "fault", "LSleepWork$Fault;", true)
  | 2 => ("SleepWork$Parser", "text", "LSleepWork$Text;", false)
  | 3 => ("SleepWork$Parser", "at", "I", false)
  | 4 => ("SleepWork$Parser", "open", "I", false)
  | 5 => ("SleepWork$Parser", "worst", "I", false)
  | _ => ("SleepWork$Parser", "worstToken", "I", false)
def tyX3 : Nat → FieldType := fun k => match k with
  | 0 => .object "SleepWork$Tokens"
  | 1 => .object "SleepWork$Fault"
  | 2 => .object "SleepWork$Text"
  | 3 => .int
  | 4 => .int
  | 5 => .int
  | _ => .int
abbrev wsX30 : List Cond := u_ws RX3 TX3 7
theorem nmX3 : ∀ a, a < 7 → ∀ b, b < 7 → a ≠ b → (TX3 a).2.1 ≠ (TX3 b).2.1 := by decide +kernel
theorem tyX3_ok : ∀ k, k < 7 → parseFieldDescriptor (TX3 k).2.2.1 = some (tyX3 k) := by decide +kernel
abbrev cX3_init : ByteArray := prog_10_method_1_code
def yX3_init : MethodName := ⟨RX3, "<init>", "(LSleepWork$Tokens;LSleepWork$Fault;)V"⟩
def dkwX3_init_0 : List UInt8 := [42, 183, 0, 3, 42, 43, 181, 0, 9, 42, 44, 181, 0, 15, 177]
abbrev dktX3_init_0 : List UInt8 := dkwX3_init_0 ++ []
theorem dksX3_init_0 : cX3_init.data.toList.drop 0 = dktX3_init_0 := by decide +kernel
theorem dX3_init_0 : decode cX3_init 0 = .ok (.aload_n 0, 1) := dk_42 (dk_at dksX3_init_0 0 rfl rfl)
theorem dX3_init_1 : decode cX3_init 1 = .ok (.invokespecial 3, 3) := dk_183 0 3 (dk_at dksX3_init_0 1 rfl rfl)
theorem dX3_init_4 : decode cX3_init 4 = .ok (.aload_n 0, 1) := dk_42 (dk_at dksX3_init_0 4 rfl rfl)
theorem dX3_init_5 : decode cX3_init 5 = .ok (.aload_n 1, 1) := dk_43 (dk_at dksX3_init_0 5 rfl rfl)
theorem dX3_init_6 : decode cX3_init 6 = .ok (.putfield 9, 3) := dk_181 0 9 (dk_at dksX3_init_0 6 rfl rfl)
theorem dX3_init_9 : decode cX3_init 9 = .ok (.aload_n 0, 1) := dk_42 (dk_at dksX3_init_0 9 rfl rfl)
theorem dX3_init_10 : decode cX3_init 10 = .ok (.aload_n 2, 1) := dk_44 (dk_at dksX3_init_0 10 rfl rfl)
theorem dX3_init_11 : decode cX3_init 11 = .ok (.putfield 15, 3) := dk_181 0 15 (dk_at dksX3_init_0 11 rfl rfl)
theorem dX3_init_14 : decode cX3_init 14 = .ok (.return_, 1) := dk_177 (dk_at dksX3_init_0 14 rfl rfl)
abbrev cX3_read : ByteArray := prog_10_method_16_code
def yX3_read : MethodName := ⟨RX3, "read", "()LSleepWork$Text;"⟩
def dkwX3_read_3 : List UInt8 := [182, 0, 35, 191, 42, 180, 0, 83, 176]
abbrev dktX3_read_3 : List UInt8 := dkwX3_read_3 ++ []
def dkwX3_read_2 : List UInt8 := [182, 0, 105, 167, 255, 238, 42, 180, 0, 38, 153, 0, 16, 42, 42, 180, 0, 38, 42, 180, 0, 41]
abbrev dktX3_read_2 : List UInt8 := dkwX3_read_2 ++ dktX3_read_3
def dkwX3_read_1 : List UInt8 := [3, 181, 0, 99, 42, 3, 181, 0, 38, 42, 182, 0, 65, 7, 159, 0, 16, 42, 182, 0, 102, 42, 16, 59]
abbrev dktX3_read_1 : List UInt8 := dkwX3_read_1 ++ dktX3_read_2
def dkwX3_read_0 : List UInt8 := [42, 180, 0, 9, 182, 0, 95, 42, 187, 0, 87, 89, 183, 0, 98, 181, 0, 83, 42, 3, 181, 0, 31, 42]
abbrev dktX3_read_0 : List UInt8 := dkwX3_read_0 ++ dktX3_read_1
theorem dksX3_read_0 : cX3_read.data.toList.drop 0 = dktX3_read_0 := by decide +kernel
theorem dksX3_read_1 : cX3_read.data.toList.drop 24 = dktX3_read_1 := dk_seg dksX3_read_0 24 rfl rfl
theorem dksX3_read_2 : cX3_read.data.toList.drop 48 = dktX3_read_2 := dk_seg dksX3_read_1 24 rfl rfl
theorem dksX3_read_3 : cX3_read.data.toList.drop 70 = dktX3_read_3 := dk_seg dksX3_read_2 22 rfl rfl
theorem dX3_read_0 : decode cX3_read 0 = .ok (.aload_n 0, 1) := dk_42 (dk_at dksX3_read_0 0 rfl rfl)
theorem dX3_read_1 : decode cX3_read 1 = .ok (.getfield 9, 3) := dk_180 0 9 (dk_at dksX3_read_0 1 rfl rfl)
theorem dX3_read_4 : decode cX3_read 4 = .ok (.invokevirtual 95, 3) := dk_182 0 95 (dk_at dksX3_read_0 4 rfl rfl)
theorem dX3_read_7 : decode cX3_read 7 = .ok (.aload_n 0, 1) := dk_42 (dk_at dksX3_read_0 7 rfl rfl)
theorem dX3_read_8 : decode cX3_read 8 = .ok (.new 87, 3) := dk_187 0 87 (dk_at dksX3_read_0 8 rfl rfl)
theorem dX3_read_11 : decode cX3_read 11 = .ok (.dup, 1) := dk_89 (dk_at dksX3_read_0 11 rfl rfl)
theorem dX3_read_12 : decode cX3_read 12 = .ok (.invokespecial 98, 3) := dk_183 0 98 (dk_at dksX3_read_0 12 rfl rfl)
theorem dX3_read_15 : decode cX3_read 15 = .ok (.putfield 83, 3) := dk_181 0 83 (dk_at dksX3_read_0 15 rfl rfl)
theorem dX3_read_18 : decode cX3_read 18 = .ok (.aload_n 0, 1) := dk_42 (dk_at dksX3_read_0 18 rfl rfl)
theorem dX3_read_19 : decode cX3_read 19 = .ok (.iconst 0, 1) := dk_3 (dk_at dksX3_read_0 19 rfl rfl)
theorem dX3_read_20 : decode cX3_read 20 = .ok (.putfield 31, 3) := dk_181 0 31 (dk_at dksX3_read_0 20 rfl rfl)
theorem dX3_read_23 : decode cX3_read 23 = .ok (.aload_n 0, 1) := dk_42 (dk_at dksX3_read_0 23 rfl rfl)
theorem dX3_read_24 : decode cX3_read 24 = .ok (.iconst 0, 1) := dk_3 (dk_at dksX3_read_1 0 rfl rfl)
theorem dX3_read_25 : decode cX3_read 25 = .ok (.putfield 99, 3) := dk_181 0 99 (dk_at dksX3_read_1 1 rfl rfl)
theorem dX3_read_28 : decode cX3_read 28 = .ok (.aload_n 0, 1) := dk_42 (dk_at dksX3_read_1 4 rfl rfl)
theorem dX3_read_29 : decode cX3_read 29 = .ok (.iconst 0, 1) := dk_3 (dk_at dksX3_read_1 5 rfl rfl)
theorem dX3_read_30 : decode cX3_read 30 = .ok (.putfield 38, 3) := dk_181 0 38 (dk_at dksX3_read_1 6 rfl rfl)
theorem dX3_read_33 : decode cX3_read 33 = .ok (.aload_n 0, 1) := dk_42 (dk_at dksX3_read_1 9 rfl rfl)
theorem dX3_read_34 : decode cX3_read 34 = .ok (.invokevirtual 65, 3) := dk_182 0 65 (dk_at dksX3_read_1 10 rfl rfl)
theorem dX3_read_37 : decode cX3_read 37 = .ok (.iconst 4, 1) := dk_7 (dk_at dksX3_read_1 13 rfl rfl)
theorem dX3_read_38 : decode cX3_read 38 = .ok (.if_icmp .eq 16, 3) := dk_159 0 16 (dk_at dksX3_read_1 14 rfl rfl)
theorem dX3_read_41 : decode cX3_read 41 = .ok (.aload_n 0, 1) := dk_42 (dk_at dksX3_read_1 17 rfl rfl)
theorem dX3_read_42 : decode cX3_read 42 = .ok (.invokevirtual 102, 3) := dk_182 0 102 (dk_at dksX3_read_1 18 rfl rfl)
theorem dX3_read_45 : decode cX3_read 45 = .ok (.aload_n 0, 1) := dk_42 (dk_at dksX3_read_1 21 rfl rfl)
theorem dX3_read_46 : decode cX3_read 46 = .ok (.bipush 59, 2) := dk_16 59 (dk_at dksX3_read_1 22 rfl rfl)
theorem dX3_read_48 : decode cX3_read 48 = .ok (.invokevirtual 105, 3) := dk_182 0 105 (dk_at dksX3_read_2 0 rfl rfl)
theorem dX3_read_51 : decode cX3_read 51 = .ok (.goto (-18), 3) := dk_167 255 238 (dk_at dksX3_read_2 3 rfl rfl)
theorem dX3_read_54 : decode cX3_read 54 = .ok (.aload_n 0, 1) := dk_42 (dk_at dksX3_read_2 6 rfl rfl)
theorem dX3_read_55 : decode cX3_read 55 = .ok (.getfield 38, 3) := dk_180 0 38 (dk_at dksX3_read_2 7 rfl rfl)
theorem dX3_read_58 : decode cX3_read 58 = .ok (.ifCond .eq 16, 3) := dk_153 0 16 (dk_at dksX3_read_2 10 rfl rfl)
theorem dX3_read_61 : decode cX3_read 61 = .ok (.aload_n 0, 1) := dk_42 (dk_at dksX3_read_2 13 rfl rfl)
theorem dX3_read_62 : decode cX3_read 62 = .ok (.aload_n 0, 1) := dk_42 (dk_at dksX3_read_2 14 rfl rfl)
theorem dX3_read_63 : decode cX3_read 63 = .ok (.getfield 38, 3) := dk_180 0 38 (dk_at dksX3_read_2 15 rfl rfl)
theorem dX3_read_66 : decode cX3_read 66 = .ok (.aload_n 0, 1) := dk_42 (dk_at dksX3_read_2 18 rfl rfl)
theorem dX3_read_67 : decode cX3_read 67 = .ok (.getfield 41, 3) := dk_180 0 41 (dk_at dksX3_read_2 19 rfl rfl)
theorem dX3_read_70 : decode cX3_read 70 = .ok (.invokevirtual 35, 3) := dk_182 0 35 (dk_at dksX3_read_3 0 rfl rfl)
theorem dX3_read_73 : decode cX3_read 73 = .ok (.athrow, 1) := dk_191 (dk_at dksX3_read_3 3 rfl rfl)
theorem dX3_read_74 : decode cX3_read 74 = .ok (.aload_n 0, 1) := dk_42 (dk_at dksX3_read_3 4 rfl rfl)
theorem dX3_read_75 : decode cX3_read 75 = .ok (.getfield 83, 3) := dk_180 0 83 (dk_at dksX3_read_3 5 rfl rfl)
theorem dX3_read_78 : decode cX3_read 78 = .ok (.areturn, 1) := dk_176 (dk_at dksX3_read_3 8 rfl rfl)
abbrev cX3_sort : ByteArray := prog_10_method_5_code
def yX3_sort : MethodName := ⟨RX3, "sort", "()I"⟩
def dkwX3_sort_1 : List UInt8 := [180, 0, 9, 180, 0, 44, 42, 180, 0, 31, 51, 172]
abbrev dktX3_sort_1 : List UInt8 := dkwX3_sort_1 ++ []
def dkwX3_sort_0 : List UInt8 := [42, 180, 0, 9, 180, 0, 44, 42, 180, 0, 31, 51, 8, 160, 0, 9, 42, 4, 182, 0, 48, 191, 42]
abbrev dktX3_sort_0 : List UInt8 := dkwX3_sort_0 ++ dktX3_sort_1
theorem dksX3_sort_0 : cX3_sort.data.toList.drop 0 = dktX3_sort_0 := by decide +kernel
theorem dksX3_sort_1 : cX3_sort.data.toList.drop 23 = dktX3_sort_1 := dk_seg dksX3_sort_0 23 rfl rfl
theorem dX3_sort_0 : decode cX3_sort 0 = .ok (.aload_n 0, 1) := dk_42 (dk_at dksX3_sort_0 0 rfl rfl)
theorem dX3_sort_1 : decode cX3_sort 1 = .ok (.getfield 9, 3) := dk_180 0 9 (dk_at dksX3_sort_0 1 rfl rfl)
theorem dX3_sort_4 : decode cX3_sort 4 = .ok (.getfield 44, 3) := dk_180 0 44 (dk_at dksX3_sort_0 4 rfl rfl)
theorem dX3_sort_7 : decode cX3_sort 7 = .ok (.aload_n 0, 1) := dk_42 (dk_at dksX3_sort_0 7 rfl rfl)
theorem dX3_sort_8 : decode cX3_sort 8 = .ok (.getfield 31, 3) := dk_180 0 31 (dk_at dksX3_sort_0 8 rfl rfl)
theorem dX3_sort_11 : decode cX3_sort 11 = .ok (.baload, 1) := dk_51 (dk_at dksX3_sort_0 11 rfl rfl)
theorem dX3_sort_12 : decode cX3_sort 12 = .ok (.iconst 5, 1) := dk_8 (dk_at dksX3_sort_0 12 rfl rfl)
theorem dX3_sort_13 : decode cX3_sort 13 = .ok (.if_icmp .ne 9, 3) := dk_160 0 9 (dk_at dksX3_sort_0 13 rfl rfl)
theorem dX3_sort_16 : decode cX3_sort 16 = .ok (.aload_n 0, 1) := dk_42 (dk_at dksX3_sort_0 16 rfl rfl)
theorem dX3_sort_17 : decode cX3_sort 17 = .ok (.iconst 1, 1) := dk_4 (dk_at dksX3_sort_0 17 rfl rfl)
theorem dX3_sort_18 : decode cX3_sort 18 = .ok (.invokevirtual 48, 3) := dk_182 0 48 (dk_at dksX3_sort_0 18 rfl rfl)
theorem dX3_sort_21 : decode cX3_sort 21 = .ok (.athrow, 1) := dk_191 (dk_at dksX3_sort_0 21 rfl rfl)
theorem dX3_sort_22 : decode cX3_sort 22 = .ok (.aload_n 0, 1) := dk_42 (dk_at dksX3_sort_0 22 rfl rfl)
theorem dX3_sort_23 : decode cX3_sort 23 = .ok (.getfield 9, 3) := dk_180 0 9 (dk_at dksX3_sort_1 0 rfl rfl)
theorem dX3_sort_26 : decode cX3_sort 26 = .ok (.getfield 44, 3) := dk_180 0 44 (dk_at dksX3_sort_1 3 rfl rfl)
theorem dX3_sort_29 : decode cX3_sort 29 = .ok (.aload_n 0, 1) := dk_42 (dk_at dksX3_sort_1 6 rfl rfl)
theorem dX3_sort_30 : decode cX3_sort 30 = .ok (.getfield 31, 3) := dk_180 0 31 (dk_at dksX3_sort_1 7 rfl rfl)
theorem dX3_sort_33 : decode cX3_sort 33 = .ok (.baload, 1) := dk_51 (dk_at dksX3_sort_1 10 rfl rfl)
theorem dX3_sort_34 : decode cX3_sort 34 = .ok (.ireturn, 1) := dk_172 (dk_at dksX3_sort_1 11 rfl rfl)
abbrev cX3_wrong : ByteArray := prog_10_method_3_code
def yX3_wrong : MethodName := ⟨RX3, "wrong", "(I)LSleepWork$Fault;"⟩
def dkwX3_wrong_0 : List UInt8 := [42, 27, 42, 180, 0, 31, 182, 0, 35, 176]
abbrev dktX3_wrong_0 : List UInt8 := dkwX3_wrong_0 ++ []
theorem dksX3_wrong_0 : cX3_wrong.data.toList.drop 0 = dktX3_wrong_0 := by decide +kernel
theorem dX3_wrong_0 : decode cX3_wrong 0 = .ok (.aload_n 0, 1) := dk_42 (dk_at dksX3_wrong_0 0 rfl rfl)
theorem dX3_wrong_1 : decode cX3_wrong 1 = .ok (.iload_n 1, 1) := dk_27 (dk_at dksX3_wrong_0 1 rfl rfl)
theorem dX3_wrong_2 : decode cX3_wrong 2 = .ok (.aload_n 0, 1) := dk_42 (dk_at dksX3_wrong_0 2 rfl rfl)
theorem dX3_wrong_3 : decode cX3_wrong 3 = .ok (.getfield 31, 3) := dk_180 0 31 (dk_at dksX3_wrong_0 3 rfl rfl)
theorem dX3_wrong_6 : decode cX3_wrong 6 = .ok (.invokevirtual 35, 3) := dk_182 0 35 (dk_at dksX3_wrong_0 6 rfl rfl)
theorem dX3_wrong_9 : decode cX3_wrong 9 = .ok (.areturn, 1) := dk_176 (dk_at dksX3_wrong_0 9 rfl rfl)
abbrev cX3_wrongAt : ByteArray := prog_10_method_2_code
def yX3_wrongAt : MethodName := ⟨RX3, "wrongAt", "(II)LSleepWork$Fault;"⟩
def dkwX3_wrongAt_0 : List UInt8 := [42, 180, 0, 15, 27, 42, 180, 0, 9, 180, 0, 19, 28, 53, 182, 0, 25, 176]
abbrev dktX3_wrongAt_0 : List UInt8 := dkwX3_wrongAt_0 ++ []
theorem dksX3_wrongAt_0 : cX3_wrongAt.data.toList.drop 0 = dktX3_wrongAt_0 := by decide +kernel
theorem dX3_wrongAt_0 : decode cX3_wrongAt 0 = .ok (.aload_n 0, 1) := dk_42 (dk_at dksX3_wrongAt_0 0 rfl rfl)
theorem dX3_wrongAt_1 : decode cX3_wrongAt 1 = .ok (.getfield 15, 3) := dk_180 0 15 (dk_at dksX3_wrongAt_0 1 rfl rfl)
theorem dX3_wrongAt_4 : decode cX3_wrongAt 4 = .ok (.iload_n 1, 1) := dk_27 (dk_at dksX3_wrongAt_0 4 rfl rfl)
theorem dX3_wrongAt_5 : decode cX3_wrongAt 5 = .ok (.aload_n 0, 1) := dk_42 (dk_at dksX3_wrongAt_0 5 rfl rfl)
theorem dX3_wrongAt_6 : decode cX3_wrongAt 6 = .ok (.getfield 9, 3) := dk_180 0 9 (dk_at dksX3_wrongAt_0 6 rfl rfl)
theorem dX3_wrongAt_9 : decode cX3_wrongAt 9 = .ok (.getfield 19, 3) := dk_180 0 19 (dk_at dksX3_wrongAt_0 9 rfl rfl)
theorem dX3_wrongAt_12 : decode cX3_wrongAt 12 = .ok (.iload_n 2, 1) := dk_28 (dk_at dksX3_wrongAt_0 12 rfl rfl)
theorem dX3_wrongAt_13 : decode cX3_wrongAt 13 = .ok (.saload, 1) := dk_53 (dk_at dksX3_wrongAt_0 13 rfl rfl)
theorem dX3_wrongAt_14 : decode cX3_wrongAt 14 = .ok (.invokevirtual 25, 3) := dk_182 0 25 (dk_at dksX3_wrongAt_0 14 rfl rfl)
theorem dX3_wrongAt_17 : decode cX3_wrongAt 17 = .ok (.areturn, 1) := dk_176 (dk_at dksX3_wrongAt_0 17 rfl rfl)
abbrev cX3_told : ByteArray := prog_10_method_17_code
def yX3_told : MethodName := ⟨RX3, "told", "()V"⟩
def dkwX3_told_12 : List UInt8 := [17, 2, 88, 182, 0, 157, 181, 0, 172, 167, 0, 9, 42, 4, 182, 0, 48, 191, 177]
abbrev dktX3_told_12 : List UInt8 := dkwX3_told_12 ++ []
def dkwX3_told_11 : List UInt8 := [182, 0, 166, 167, 0, 38, 42, 182, 0, 169, 167, 0, 31, 42, 182, 0, 59, 42, 180, 0, 83, 42, 4]
abbrev dktX3_told_11 : List UInt8 := dkwX3_told_11 ++ dktX3_told_12
def dkwX3_told_10 : List UInt8 := [42, 180, 0, 83, 180, 0, 150, 44, 182, 0, 130, 87, 167, 0, 52, 42, 182, 0, 163, 167, 0, 45, 42]
abbrev dktX3_told_10 : List UInt8 := dkwX3_told_10 ++ dktX3_told_11
def dkwX3_told_9 : List UInt8 := [180, 0, 83, 180, 0, 109, 182, 0, 143, 181, 0, 156, 44, 42, 3, 17, 3, 231, 182, 0, 157, 181, 0, 160]
abbrev dktX3_told_9 : List UInt8 := dkwX3_told_9 ++ dktX3_told_10
def dkwX3_told_8 : List UInt8 := [182, 0, 113, 16, 6, 182, 0, 118, 187, 0, 153, 89, 42, 182, 0, 123, 183, 0, 155, 77, 44, 42, 42]
abbrev dktX3_told_8 : List UInt8 := dkwX3_told_8 ++ dktX3_told_9
def dkwX3_told_7 : List UInt8 := [180, 0, 83, 180, 0, 137, 44, 182, 0, 130, 87, 167, 0, 122, 42, 42, 180, 0, 83, 180, 0, 150]
abbrev dktX3_told_7 : List UInt8 := dkwX3_told_7 ++ dktX3_told_8
def dkwX3_told_6 : List UInt8 := [182, 0, 123, 183, 0, 142, 77, 44, 42, 42, 180, 0, 83, 180, 0, 109, 182, 0, 143, 181, 0, 147, 42]
abbrev dktX3_told_6 : List UInt8 := dkwX3_told_6 ++ dktX3_told_7
def dkwX3_told_5 : List UInt8 := [167, 0, 180, 42, 42, 180, 0, 83, 180, 0, 137, 182, 0, 113, 16, 6, 182, 0, 118, 187, 0, 140, 89, 42]
abbrev dktX3_told_5 : List UInt8 := dkwX3_told_5 ++ dktX3_told_6
def dkwX3_told_4 : List UInt8 := [187, 0, 121, 89, 42, 182, 0, 123, 183, 0, 127, 182, 0, 130, 87, 167, 0, 187, 42, 182, 0, 134]
abbrev dktX3_told_4 : List UInt8 := dkwX3_told_4 ++ dktX3_told_5
def dkwX3_told_3 : List UInt8 := [42, 42, 180, 0, 83, 180, 0, 109, 182, 0, 113, 16, 8, 182, 0, 118, 42, 180, 0, 83, 180, 0, 109]
abbrev dktX3_told_3 : List UInt8 := dkwX3_told_3 ++ dktX3_told_4
def dkwX3_told_2 : List UInt8 := [170, 0, 0, 0, 1, 37, 0, 0, 0, 0, 0, 0, 0, 14, 0, 0, 0, 74, 0, 0, 0, 115, 0, 0, 1, 37, 0, 0, 0, 122, 0, 0, 0, 180, 0, 0, 0, 250, 0, 0, 1, 37, 0, 0, 1, 37, 0, 0, 1, 1, 0, 0, 1, 37, 0, 0, 1, 8, 0, 0, 1, 37, 0, 0, 1, 37, 0, 0, 1, 37, 0, 0, 1, 15]
abbrev dktX3_told_2 : List UInt8 := dkwX3_told_2 ++ dktX3_told_3
def dkwX3_told_1 : List UInt8 := [60, 27]
abbrev dktX3_told_1 : List UInt8 := dkwX3_told_1 ++ dktX3_told_2
def dkwX3_told_0 : List UInt8 := [42, 182, 0, 65, 6, 160, 0, 18, 42, 180, 0, 9, 180, 0, 52, 42, 180, 0, 31, 53, 167, 0, 4, 2]
abbrev dktX3_told_0 : List UInt8 := dkwX3_told_0 ++ dktX3_told_1
theorem dksX3_told_0 : cX3_told.data.toList.drop 0 = dktX3_told_0 := by decide +kernel
theorem dksX3_told_1 : cX3_told.data.toList.drop 24 = dktX3_told_1 := dk_seg dksX3_told_0 24 rfl rfl
theorem dksX3_told_2 : cX3_told.data.toList.drop 26 = dktX3_told_2 := dk_seg dksX3_told_1 2 rfl rfl
theorem dksX3_told_3 : cX3_told.data.toList.drop 100 = dktX3_told_3 := dk_seg dksX3_told_2 74 rfl rfl
theorem dksX3_told_4 : cX3_told.data.toList.drop 123 = dktX3_told_4 := dk_seg dksX3_told_3 23 rfl rfl
theorem dksX3_told_5 : cX3_told.data.toList.drop 145 = dktX3_told_5 := dk_seg dksX3_told_4 22 rfl rfl
theorem dksX3_told_6 : cX3_told.data.toList.drop 169 = dktX3_told_6 := dk_seg dksX3_told_5 24 rfl rfl
theorem dksX3_told_7 : cX3_told.data.toList.drop 192 = dktX3_told_7 := dk_seg dksX3_told_6 23 rfl rfl
theorem dksX3_told_8 : cX3_told.data.toList.drop 214 = dktX3_told_8 := dk_seg dksX3_told_7 22 rfl rfl
theorem dksX3_told_9 : cX3_told.data.toList.drop 237 = dktX3_told_9 := dk_seg dksX3_told_8 23 rfl rfl
theorem dksX3_told_10 : cX3_told.data.toList.drop 261 = dktX3_told_10 := dk_seg dksX3_told_9 24 rfl rfl
theorem dksX3_told_11 : cX3_told.data.toList.drop 284 = dktX3_told_11 := dk_seg dksX3_told_10 23 rfl rfl
theorem dksX3_told_12 : cX3_told.data.toList.drop 307 = dktX3_told_12 := dk_seg dksX3_told_11 23 rfl rfl
theorem dX3_told_0 : decode cX3_told 0 = .ok (.aload_n 0, 1) := dk_42 (dk_at dksX3_told_0 0 rfl rfl)
theorem dX3_told_1 : decode cX3_told 1 = .ok (.invokevirtual 65, 3) := dk_182 0 65 (dk_at dksX3_told_0 1 rfl rfl)
theorem dX3_told_4 : decode cX3_told 4 = .ok (.iconst 3, 1) := dk_6 (dk_at dksX3_told_0 4 rfl rfl)
theorem dX3_told_5 : decode cX3_told 5 = .ok (.if_icmp .ne 18, 3) := dk_160 0 18 (dk_at dksX3_told_0 5 rfl rfl)
theorem dX3_told_8 : decode cX3_told 8 = .ok (.aload_n 0, 1) := dk_42 (dk_at dksX3_told_0 8 rfl rfl)
theorem dX3_told_9 : decode cX3_told 9 = .ok (.getfield 9, 3) := dk_180 0 9 (dk_at dksX3_told_0 9 rfl rfl)
theorem dX3_told_12 : decode cX3_told 12 = .ok (.getfield 52, 3) := dk_180 0 52 (dk_at dksX3_told_0 12 rfl rfl)
theorem dX3_told_15 : decode cX3_told 15 = .ok (.aload_n 0, 1) := dk_42 (dk_at dksX3_told_0 15 rfl rfl)
theorem dX3_told_16 : decode cX3_told 16 = .ok (.getfield 31, 3) := dk_180 0 31 (dk_at dksX3_told_0 16 rfl rfl)
theorem dX3_told_19 : decode cX3_told 19 = .ok (.saload, 1) := dk_53 (dk_at dksX3_told_0 19 rfl rfl)
theorem dX3_told_20 : decode cX3_told 20 = .ok (.goto 4, 3) := dk_167 0 4 (dk_at dksX3_told_0 20 rfl rfl)
theorem dX3_told_23 : decode cX3_told 23 = .ok (.iconst (-1), 1) := dk_2 (dk_at dksX3_told_0 23 rfl rfl)
theorem dX3_told_24 : decode cX3_told 24 = .ok (.istore_n 1, 1) := dk_60 (dk_at dksX3_told_1 0 rfl rfl)
theorem dX3_told_25 : decode cX3_told 25 = .ok (.iload_n 1, 1) := dk_27 (dk_at dksX3_told_1 1 rfl rfl)
theorem dX3_told_26 : decode cX3_told 26 = .ok (.tableswitch 293 0 14 #[74, 115, 293, 122, 180, 250, 293, 293, 257, 293, 264, 293, 293, 293, 271], 74) := by decide +kernel
theorem dX3_told_100 : decode cX3_told 100 = .ok (.aload_n 0, 1) := dk_42 (dk_at dksX3_told_3 0 rfl rfl)
theorem dX3_told_101 : decode cX3_told 101 = .ok (.aload_n 0, 1) := dk_42 (dk_at dksX3_told_3 1 rfl rfl)
theorem dX3_told_102 : decode cX3_told 102 = .ok (.getfield 83, 3) := dk_180 0 83 (dk_at dksX3_told_3 2 rfl rfl)
theorem dX3_told_105 : decode cX3_told 105 = .ok (.getfield 109, 3) := dk_180 0 109 (dk_at dksX3_told_3 5 rfl rfl)
theorem dX3_told_108 : decode cX3_told 108 = .ok (.invokevirtual 113, 3) := dk_182 0 113 (dk_at dksX3_told_3 8 rfl rfl)
theorem dX3_told_111 : decode cX3_told 111 = .ok (.bipush 8, 2) := dk_16 8 (dk_at dksX3_told_3 11 rfl rfl)
theorem dX3_told_113 : decode cX3_told 113 = .ok (.invokevirtual 118, 3) := dk_182 0 118 (dk_at dksX3_told_3 13 rfl rfl)
theorem dX3_told_116 : decode cX3_told 116 = .ok (.aload_n 0, 1) := dk_42 (dk_at dksX3_told_3 16 rfl rfl)
theorem dX3_told_117 : decode cX3_told 117 = .ok (.getfield 83, 3) := dk_180 0 83 (dk_at dksX3_told_3 17 rfl rfl)
theorem dX3_told_120 : decode cX3_told 120 = .ok (.getfield 109, 3) := dk_180 0 109 (dk_at dksX3_told_3 20 rfl rfl)
theorem dX3_told_123 : decode cX3_told 123 = .ok (.new 121, 3) := dk_187 0 121 (dk_at dksX3_told_4 0 rfl rfl)
theorem dX3_told_126 : decode cX3_told 126 = .ok (.dup, 1) := dk_89 (dk_at dksX3_told_4 3 rfl rfl)
theorem dX3_told_127 : decode cX3_told 127 = .ok (.aload_n 0, 1) := dk_42 (dk_at dksX3_told_4 4 rfl rfl)
theorem dX3_told_128 : decode cX3_told 128 = .ok (.invokevirtual 123, 3) := dk_182 0 123 (dk_at dksX3_told_4 5 rfl rfl)
theorem dX3_told_131 : decode cX3_told 131 = .ok (.invokespecial 127, 3) := dk_183 0 127 (dk_at dksX3_told_4 8 rfl rfl)
theorem dX3_told_134 : decode cX3_told 134 = .ok (.invokevirtual 130, 3) := dk_182 0 130 (dk_at dksX3_told_4 11 rfl rfl)
theorem dX3_told_137 : decode cX3_told 137 = .ok (.pop, 1) := dk_87 (dk_at dksX3_told_4 14 rfl rfl)
theorem dX3_told_138 : decode cX3_told 138 = .ok (.goto 187, 3) := dk_167 0 187 (dk_at dksX3_told_4 15 rfl rfl)
theorem dX3_told_141 : decode cX3_told 141 = .ok (.aload_n 0, 1) := dk_42 (dk_at dksX3_told_4 18 rfl rfl)
theorem dX3_told_142 : decode cX3_told 142 = .ok (.invokevirtual 134, 3) := dk_182 0 134 (dk_at dksX3_told_4 19 rfl rfl)
theorem dX3_told_145 : decode cX3_told 145 = .ok (.goto 180, 3) := dk_167 0 180 (dk_at dksX3_told_5 0 rfl rfl)
theorem dX3_told_148 : decode cX3_told 148 = .ok (.aload_n 0, 1) := dk_42 (dk_at dksX3_told_5 3 rfl rfl)
theorem dX3_told_149 : decode cX3_told 149 = .ok (.aload_n 0, 1) := dk_42 (dk_at dksX3_told_5 4 rfl rfl)
theorem dX3_told_150 : decode cX3_told 150 = .ok (.getfield 83, 3) := dk_180 0 83 (dk_at dksX3_told_5 5 rfl rfl)
theorem dX3_told_153 : decode cX3_told 153 = .ok (.getfield 137, 3) := dk_180 0 137 (dk_at dksX3_told_5 8 rfl rfl)
theorem dX3_told_156 : decode cX3_told 156 = .ok (.invokevirtual 113, 3) := dk_182 0 113 (dk_at dksX3_told_5 11 rfl rfl)
theorem dX3_told_159 : decode cX3_told 159 = .ok (.bipush 6, 2) := dk_16 6 (dk_at dksX3_told_5 14 rfl rfl)
theorem dX3_told_161 : decode cX3_told 161 = .ok (.invokevirtual 118, 3) := dk_182 0 118 (dk_at dksX3_told_5 16 rfl rfl)
theorem dX3_told_164 : decode cX3_told 164 = .ok (.new 140, 3) := dk_187 0 140 (dk_at dksX3_told_5 19 rfl rfl)
theorem dX3_told_167 : decode cX3_told 167 = .ok (.dup, 1) := dk_89 (dk_at dksX3_told_5 22 rfl rfl)
theorem dX3_told_168 : decode cX3_told 168 = .ok (.aload_n 0, 1) := dk_42 (dk_at dksX3_told_5 23 rfl rfl)
theorem dX3_told_169 : decode cX3_told 169 = .ok (.invokevirtual 123, 3) := dk_182 0 123 (dk_at dksX3_told_6 0 rfl rfl)
theorem dX3_told_172 : decode cX3_told 172 = .ok (.invokespecial 142, 3) := dk_183 0 142 (dk_at dksX3_told_6 3 rfl rfl)
theorem dX3_told_175 : decode cX3_told 175 = .ok (.astore_n 2, 1) := dk_77 (dk_at dksX3_told_6 6 rfl rfl)
theorem dX3_told_176 : decode cX3_told 176 = .ok (.aload_n 2, 1) := dk_44 (dk_at dksX3_told_6 7 rfl rfl)
theorem dX3_told_177 : decode cX3_told 177 = .ok (.aload_n 0, 1) := dk_42 (dk_at dksX3_told_6 8 rfl rfl)
theorem dX3_told_178 : decode cX3_told 178 = .ok (.aload_n 0, 1) := dk_42 (dk_at dksX3_told_6 9 rfl rfl)
theorem dX3_told_179 : decode cX3_told 179 = .ok (.getfield 83, 3) := dk_180 0 83 (dk_at dksX3_told_6 10 rfl rfl)
theorem dX3_told_182 : decode cX3_told 182 = .ok (.getfield 109, 3) := dk_180 0 109 (dk_at dksX3_told_6 13 rfl rfl)
theorem dX3_told_185 : decode cX3_told 185 = .ok (.invokevirtual 143, 3) := dk_182 0 143 (dk_at dksX3_told_6 16 rfl rfl)
theorem dX3_told_188 : decode cX3_told 188 = .ok (.putfield 147, 3) := dk_181 0 147 (dk_at dksX3_told_6 19 rfl rfl)
theorem dX3_told_191 : decode cX3_told 191 = .ok (.aload_n 0, 1) := dk_42 (dk_at dksX3_told_6 22 rfl rfl)
theorem dX3_told_192 : decode cX3_told 192 = .ok (.getfield 83, 3) := dk_180 0 83 (dk_at dksX3_told_7 0 rfl rfl)
theorem dX3_told_195 : decode cX3_told 195 = .ok (.getfield 137, 3) := dk_180 0 137 (dk_at dksX3_told_7 3 rfl rfl)
theorem dX3_told_198 : decode cX3_told 198 = .ok (.aload_n 2, 1) := dk_44 (dk_at dksX3_told_7 6 rfl rfl)
theorem dX3_told_199 : decode cX3_told 199 = .ok (.invokevirtual 130, 3) := dk_182 0 130 (dk_at dksX3_told_7 7 rfl rfl)
theorem dX3_told_202 : decode cX3_told 202 = .ok (.pop, 1) := dk_87 (dk_at dksX3_told_7 10 rfl rfl)
theorem dX3_told_203 : decode cX3_told 203 = .ok (.goto 122, 3) := dk_167 0 122 (dk_at dksX3_told_7 11 rfl rfl)
theorem dX3_told_206 : decode cX3_told 206 = .ok (.aload_n 0, 1) := dk_42 (dk_at dksX3_told_7 14 rfl rfl)
theorem dX3_told_207 : decode cX3_told 207 = .ok (.aload_n 0, 1) := dk_42 (dk_at dksX3_told_7 15 rfl rfl)
theorem dX3_told_208 : decode cX3_told 208 = .ok (.getfield 83, 3) := dk_180 0 83 (dk_at dksX3_told_7 16 rfl rfl)
theorem dX3_told_211 : decode cX3_told 211 = .ok (.getfield 150, 3) := dk_180 0 150 (dk_at dksX3_told_7 19 rfl rfl)
theorem dX3_told_214 : decode cX3_told 214 = .ok (.invokevirtual 113, 3) := dk_182 0 113 (dk_at dksX3_told_8 0 rfl rfl)
theorem dX3_told_217 : decode cX3_told 217 = .ok (.bipush 6, 2) := dk_16 6 (dk_at dksX3_told_8 3 rfl rfl)
theorem dX3_told_219 : decode cX3_told 219 = .ok (.invokevirtual 118, 3) := dk_182 0 118 (dk_at dksX3_told_8 5 rfl rfl)
theorem dX3_told_222 : decode cX3_told 222 = .ok (.new 153, 3) := dk_187 0 153 (dk_at dksX3_told_8 8 rfl rfl)
theorem dX3_told_225 : decode cX3_told 225 = .ok (.dup, 1) := dk_89 (dk_at dksX3_told_8 11 rfl rfl)
theorem dX3_told_226 : decode cX3_told 226 = .ok (.aload_n 0, 1) := dk_42 (dk_at dksX3_told_8 12 rfl rfl)
theorem dX3_told_227 : decode cX3_told 227 = .ok (.invokevirtual 123, 3) := dk_182 0 123 (dk_at dksX3_told_8 13 rfl rfl)
theorem dX3_told_230 : decode cX3_told 230 = .ok (.invokespecial 155, 3) := dk_183 0 155 (dk_at dksX3_told_8 16 rfl rfl)
theorem dX3_told_233 : decode cX3_told 233 = .ok (.astore_n 2, 1) := dk_77 (dk_at dksX3_told_8 19 rfl rfl)
theorem dX3_told_234 : decode cX3_told 234 = .ok (.aload_n 2, 1) := dk_44 (dk_at dksX3_told_8 20 rfl rfl)
theorem dX3_told_235 : decode cX3_told 235 = .ok (.aload_n 0, 1) := dk_42 (dk_at dksX3_told_8 21 rfl rfl)
theorem dX3_told_236 : decode cX3_told 236 = .ok (.aload_n 0, 1) := dk_42 (dk_at dksX3_told_8 22 rfl rfl)
theorem dX3_told_237 : decode cX3_told 237 = .ok (.getfield 83, 3) := dk_180 0 83 (dk_at dksX3_told_9 0 rfl rfl)
theorem dX3_told_240 : decode cX3_told 240 = .ok (.getfield 109, 3) := dk_180 0 109 (dk_at dksX3_told_9 3 rfl rfl)
theorem dX3_told_243 : decode cX3_told 243 = .ok (.invokevirtual 143, 3) := dk_182 0 143 (dk_at dksX3_told_9 6 rfl rfl)
theorem dX3_told_246 : decode cX3_told 246 = .ok (.putfield 156, 3) := dk_181 0 156 (dk_at dksX3_told_9 9 rfl rfl)
theorem dX3_told_249 : decode cX3_told 249 = .ok (.aload_n 2, 1) := dk_44 (dk_at dksX3_told_9 12 rfl rfl)
theorem dX3_told_250 : decode cX3_told 250 = .ok (.aload_n 0, 1) := dk_42 (dk_at dksX3_told_9 13 rfl rfl)
theorem dX3_told_251 : decode cX3_told 251 = .ok (.iconst 0, 1) := dk_3 (dk_at dksX3_told_9 14 rfl rfl)
theorem dX3_told_252 : decode cX3_told 252 = .ok (.sipush 999, 3) := dk_17 3 231 (dk_at dksX3_told_9 15 rfl rfl)
theorem dX3_told_255 : decode cX3_told 255 = .ok (.invokevirtual 157, 3) := dk_182 0 157 (dk_at dksX3_told_9 18 rfl rfl)
theorem dX3_told_258 : decode cX3_told 258 = .ok (.putfield 160, 3) := dk_181 0 160 (dk_at dksX3_told_9 21 rfl rfl)
theorem dX3_told_261 : decode cX3_told 261 = .ok (.aload_n 0, 1) := dk_42 (dk_at dksX3_told_10 0 rfl rfl)
theorem dX3_told_262 : decode cX3_told 262 = .ok (.getfield 83, 3) := dk_180 0 83 (dk_at dksX3_told_10 1 rfl rfl)
theorem dX3_told_265 : decode cX3_told 265 = .ok (.getfield 150, 3) := dk_180 0 150 (dk_at dksX3_told_10 4 rfl rfl)
theorem dX3_told_268 : decode cX3_told 268 = .ok (.aload_n 2, 1) := dk_44 (dk_at dksX3_told_10 7 rfl rfl)
theorem dX3_told_269 : decode cX3_told 269 = .ok (.invokevirtual 130, 3) := dk_182 0 130 (dk_at dksX3_told_10 8 rfl rfl)
theorem dX3_told_272 : decode cX3_told 272 = .ok (.pop, 1) := dk_87 (dk_at dksX3_told_10 11 rfl rfl)
theorem dX3_told_273 : decode cX3_told 273 = .ok (.goto 52, 3) := dk_167 0 52 (dk_at dksX3_told_10 12 rfl rfl)
theorem dX3_told_276 : decode cX3_told 276 = .ok (.aload_n 0, 1) := dk_42 (dk_at dksX3_told_10 15 rfl rfl)
theorem dX3_told_277 : decode cX3_told 277 = .ok (.invokevirtual 163, 3) := dk_182 0 163 (dk_at dksX3_told_10 16 rfl rfl)
theorem dX3_told_280 : decode cX3_told 280 = .ok (.goto 45, 3) := dk_167 0 45 (dk_at dksX3_told_10 19 rfl rfl)
theorem dX3_told_283 : decode cX3_told 283 = .ok (.aload_n 0, 1) := dk_42 (dk_at dksX3_told_10 22 rfl rfl)
theorem dX3_told_284 : decode cX3_told 284 = .ok (.invokevirtual 166, 3) := dk_182 0 166 (dk_at dksX3_told_11 0 rfl rfl)
theorem dX3_told_287 : decode cX3_told 287 = .ok (.goto 38, 3) := dk_167 0 38 (dk_at dksX3_told_11 3 rfl rfl)
theorem dX3_told_290 : decode cX3_told 290 = .ok (.aload_n 0, 1) := dk_42 (dk_at dksX3_told_11 6 rfl rfl)
theorem dX3_told_291 : decode cX3_told 291 = .ok (.invokevirtual 169, 3) := dk_182 0 169 (dk_at dksX3_told_11 7 rfl rfl)
theorem dX3_told_294 : decode cX3_told 294 = .ok (.goto 31, 3) := dk_167 0 31 (dk_at dksX3_told_11 10 rfl rfl)
theorem dX3_told_297 : decode cX3_told 297 = .ok (.aload_n 0, 1) := dk_42 (dk_at dksX3_told_11 13 rfl rfl)
theorem dX3_told_298 : decode cX3_told 298 = .ok (.invokevirtual 59, 3) := dk_182 0 59 (dk_at dksX3_told_11 14 rfl rfl)
theorem dX3_told_301 : decode cX3_told 301 = .ok (.aload_n 0, 1) := dk_42 (dk_at dksX3_told_11 17 rfl rfl)
theorem dX3_told_302 : decode cX3_told 302 = .ok (.getfield 83, 3) := dk_180 0 83 (dk_at dksX3_told_11 18 rfl rfl)
theorem dX3_told_305 : decode cX3_told 305 = .ok (.aload_n 0, 1) := dk_42 (dk_at dksX3_told_11 21 rfl rfl)
theorem dX3_told_306 : decode cX3_told 306 = .ok (.iconst 1, 1) := dk_4 (dk_at dksX3_told_11 22 rfl rfl)
theorem dX3_told_307 : decode cX3_told 307 = .ok (.sipush 600, 3) := dk_17 2 88 (dk_at dksX3_told_12 0 rfl rfl)
theorem dX3_told_310 : decode cX3_told 310 = .ok (.invokevirtual 157, 3) := dk_182 0 157 (dk_at dksX3_told_12 3 rfl rfl)
theorem dX3_told_313 : decode cX3_told 313 = .ok (.putfield 172, 3) := dk_181 0 172 (dk_at dksX3_told_12 6 rfl rfl)
theorem dX3_told_316 : decode cX3_told 316 = .ok (.goto 9, 3) := dk_167 0 9 (dk_at dksX3_told_12 9 rfl rfl)
theorem dX3_told_319 : decode cX3_told 319 = .ok (.aload_n 0, 1) := dk_42 (dk_at dksX3_told_12 12 rfl rfl)
theorem dX3_told_320 : decode cX3_told 320 = .ok (.iconst 1, 1) := dk_4 (dk_at dksX3_told_12 13 rfl rfl)
theorem dX3_told_321 : decode cX3_told 321 = .ok (.invokevirtual 48, 3) := dk_182 0 48 (dk_at dksX3_told_12 14 rfl rfl)
theorem dX3_told_324 : decode cX3_told 324 = .ok (.athrow, 1) := dk_191 (dk_at dksX3_told_12 17 rfl rfl)
theorem dX3_told_325 : decode cX3_told 325 = .ok (.return_, 1) := dk_177 (dk_at dksX3_told_12 18 rfl rfl)
abbrev cX3_begins : ByteArray := prog_10_method_15_code
def yX3_begins : MethodName := ⟨RX3, "begins", "(II)V"⟩
def dkwX3_begins_0 : List UInt8 := [27, 28, 160, 0, 9, 42, 5, 182, 0, 48, 191, 42, 182, 0, 59, 177]
abbrev dktX3_begins_0 : List UInt8 := dkwX3_begins_0 ++ []
theorem dksX3_begins_0 : cX3_begins.data.toList.drop 0 = dktX3_begins_0 := by decide +kernel
theorem dX3_begins_0 : decode cX3_begins 0 = .ok (.iload_n 1, 1) := dk_27 (dk_at dksX3_begins_0 0 rfl rfl)
theorem dX3_begins_1 : decode cX3_begins 1 = .ok (.iload_n 2, 1) := dk_28 (dk_at dksX3_begins_0 1 rfl rfl)
theorem dX3_begins_2 : decode cX3_begins 2 = .ok (.if_icmp .ne 9, 3) := dk_160 0 9 (dk_at dksX3_begins_0 2 rfl rfl)
theorem dX3_begins_5 : decode cX3_begins 5 = .ok (.aload_n 0, 1) := dk_42 (dk_at dksX3_begins_0 5 rfl rfl)
theorem dX3_begins_6 : decode cX3_begins 6 = .ok (.iconst 2, 1) := dk_5 (dk_at dksX3_begins_0 6 rfl rfl)
theorem dX3_begins_7 : decode cX3_begins 7 = .ok (.invokevirtual 48, 3) := dk_182 0 48 (dk_at dksX3_begins_0 7 rfl rfl)
theorem dX3_begins_10 : decode cX3_begins 10 = .ok (.athrow, 1) := dk_191 (dk_at dksX3_begins_0 10 rfl rfl)
theorem dX3_begins_11 : decode cX3_begins 11 = .ok (.aload_n 0, 1) := dk_42 (dk_at dksX3_begins_0 11 rfl rfl)
theorem dX3_begins_12 : decode cX3_begins 12 = .ok (.invokevirtual 59, 3) := dk_182 0 59 (dk_at dksX3_begins_0 12 rfl rfl)
theorem dX3_begins_15 : decode cX3_begins 15 = .ok (.return_, 1) := dk_177 (dk_at dksX3_begins_0 15 rfl rfl)
abbrev cX3_pass : ByteArray := prog_10_method_6_code
def yX3_pass : MethodName := ⟨RX3, "pass", "()V"⟩
def dkwX3_pass_1 : List UInt8 := [181, 0, 31, 177]
abbrev dktX3_pass_1 : List UInt8 := dkwX3_pass_1 ++ []
def dkwX3_pass_0 : List UInt8 := [42, 180, 0, 31, 17, 1, 144, 161, 0, 9, 42, 5, 182, 0, 48, 191, 42, 89, 180, 0, 31, 4, 96]
abbrev dktX3_pass_0 : List UInt8 := dkwX3_pass_0 ++ dktX3_pass_1
theorem dksX3_pass_0 : cX3_pass.data.toList.drop 0 = dktX3_pass_0 := by decide +kernel
theorem dksX3_pass_1 : cX3_pass.data.toList.drop 23 = dktX3_pass_1 := dk_seg dksX3_pass_0 23 rfl rfl
theorem dX3_pass_0 : decode cX3_pass 0 = .ok (.aload_n 0, 1) := dk_42 (dk_at dksX3_pass_0 0 rfl rfl)
theorem dX3_pass_1 : decode cX3_pass 1 = .ok (.getfield 31, 3) := dk_180 0 31 (dk_at dksX3_pass_0 1 rfl rfl)
theorem dX3_pass_4 : decode cX3_pass 4 = .ok (.sipush 400, 3) := dk_17 1 144 (dk_at dksX3_pass_0 4 rfl rfl)
theorem dX3_pass_7 : decode cX3_pass 7 = .ok (.if_icmp .lt 9, 3) := dk_161 0 9 (dk_at dksX3_pass_0 7 rfl rfl)
theorem dX3_pass_10 : decode cX3_pass 10 = .ok (.aload_n 0, 1) := dk_42 (dk_at dksX3_pass_0 10 rfl rfl)
theorem dX3_pass_11 : decode cX3_pass 11 = .ok (.iconst 2, 1) := dk_5 (dk_at dksX3_pass_0 11 rfl rfl)
theorem dX3_pass_12 : decode cX3_pass 12 = .ok (.invokevirtual 48, 3) := dk_182 0 48 (dk_at dksX3_pass_0 12 rfl rfl)
theorem dX3_pass_15 : decode cX3_pass 15 = .ok (.athrow, 1) := dk_191 (dk_at dksX3_pass_0 15 rfl rfl)
theorem dX3_pass_16 : decode cX3_pass 16 = .ok (.aload_n 0, 1) := dk_42 (dk_at dksX3_pass_0 16 rfl rfl)
theorem dX3_pass_17 : decode cX3_pass 17 = .ok (.dup, 1) := dk_89 (dk_at dksX3_pass_0 17 rfl rfl)
theorem dX3_pass_18 : decode cX3_pass 18 = .ok (.getfield 31, 3) := dk_180 0 31 (dk_at dksX3_pass_0 18 rfl rfl)
theorem dX3_pass_21 : decode cX3_pass 21 = .ok (.iconst 1, 1) := dk_4 (dk_at dksX3_pass_0 21 rfl rfl)
theorem dX3_pass_22 : decode cX3_pass 22 = .ok (.iadd, 1) := dk_96 (dk_at dksX3_pass_0 22 rfl rfl)
theorem dX3_pass_23 : decode cX3_pass 23 = .ok (.putfield 31, 3) := dk_181 0 31 (dk_at dksX3_pass_1 0 rfl rfl)
theorem dX3_pass_26 : decode cX3_pass 26 = .ok (.return_, 1) := dk_177 (dk_at dksX3_pass_1 3 rfl rfl)
abbrev cX3_name : ByteArray := prog_10_method_13_code
def yX3_name : MethodName := ⟨RX3, "name", "()Ljava/lang/String;"⟩
def dkwX3_name_1 : List UInt8 := [153, 0, 9, 42, 6, 27, 182, 0, 75, 44, 176]
abbrev dktX3_name_1 : List UInt8 := dkwX3_name_1 ++ []
def dkwX3_name_0 : List UInt8 := [42, 3, 182, 0, 68, 60, 42, 180, 0, 9, 27, 182, 0, 79, 77, 42, 180, 0, 83, 44, 182, 0, 86]
abbrev dktX3_name_0 : List UInt8 := dkwX3_name_0 ++ dktX3_name_1
theorem dksX3_name_0 : cX3_name.data.toList.drop 0 = dktX3_name_0 := by decide +kernel
theorem dksX3_name_1 : cX3_name.data.toList.drop 23 = dktX3_name_1 := dk_seg dksX3_name_0 23 rfl rfl
theorem dX3_name_0 : decode cX3_name 0 = .ok (.aload_n 0, 1) := dk_42 (dk_at dksX3_name_0 0 rfl rfl)
theorem dX3_name_1 : decode cX3_name 1 = .ok (.iconst 0, 1) := dk_3 (dk_at dksX3_name_0 1 rfl rfl)
theorem dX3_name_2 : decode cX3_name 2 = .ok (.invokevirtual 68, 3) := dk_182 0 68 (dk_at dksX3_name_0 2 rfl rfl)
theorem dX3_name_5 : decode cX3_name 5 = .ok (.istore_n 1, 1) := dk_60 (dk_at dksX3_name_0 5 rfl rfl)
theorem dX3_name_6 : decode cX3_name 6 = .ok (.aload_n 0, 1) := dk_42 (dk_at dksX3_name_0 6 rfl rfl)
theorem dX3_name_7 : decode cX3_name 7 = .ok (.getfield 9, 3) := dk_180 0 9 (dk_at dksX3_name_0 7 rfl rfl)
theorem dX3_name_10 : decode cX3_name 10 = .ok (.iload_n 1, 1) := dk_27 (dk_at dksX3_name_0 10 rfl rfl)
theorem dX3_name_11 : decode cX3_name 11 = .ok (.invokevirtual 79, 3) := dk_182 0 79 (dk_at dksX3_name_0 11 rfl rfl)
theorem dX3_name_14 : decode cX3_name 14 = .ok (.astore_n 2, 1) := dk_77 (dk_at dksX3_name_0 14 rfl rfl)
theorem dX3_name_15 : decode cX3_name 15 = .ok (.aload_n 0, 1) := dk_42 (dk_at dksX3_name_0 15 rfl rfl)
theorem dX3_name_16 : decode cX3_name 16 = .ok (.getfield 83, 3) := dk_180 0 83 (dk_at dksX3_name_0 16 rfl rfl)
theorem dX3_name_19 : decode cX3_name 19 = .ok (.aload_n 2, 1) := dk_44 (dk_at dksX3_name_0 19 rfl rfl)
theorem dX3_name_20 : decode cX3_name 20 = .ok (.invokevirtual 86, 3) := dk_182 0 86 (dk_at dksX3_name_0 20 rfl rfl)
theorem dX3_name_23 : decode cX3_name 23 = .ok (.ifCond .eq 9, 3) := dk_153 0 9 (dk_at dksX3_name_1 0 rfl rfl)
theorem dX3_name_26 : decode cX3_name 26 = .ok (.aload_n 0, 1) := dk_42 (dk_at dksX3_name_1 3 rfl rfl)
theorem dX3_name_27 : decode cX3_name 27 = .ok (.iconst 3, 1) := dk_6 (dk_at dksX3_name_1 4 rfl rfl)
theorem dX3_name_28 : decode cX3_name 28 = .ok (.iload_n 1, 1) := dk_27 (dk_at dksX3_name_1 5 rfl rfl)
theorem dX3_name_29 : decode cX3_name 29 = .ok (.invokevirtual 75, 3) := dk_182 0 75 (dk_at dksX3_name_1 6 rfl rfl)
theorem dX3_name_32 : decode cX3_name 32 = .ok (.aload_n 2, 1) := dk_44 (dk_at dksX3_name_1 9 rfl rfl)
theorem dX3_name_33 : decode cX3_name 33 = .ok (.areturn, 1) := dk_176 (dk_at dksX3_name_1 10 rfl rfl)
abbrev cX3_take : ByteArray := prog_10_method_11_code
def yX3_take : MethodName := ⟨RX3, "take", "(I)I"⟩
def dkwX3_take_1 : List UInt8 := [172]
abbrev dktX3_take_1 : List UInt8 := dkwX3_take_1 ++ []
def dkwX3_take_0 : List UInt8 := [42, 182, 0, 65, 27, 159, 0, 9, 42, 4, 182, 0, 48, 191, 42, 182, 0, 59, 42, 180, 0, 31, 4, 100]
abbrev dktX3_take_0 : List UInt8 := dkwX3_take_0 ++ dktX3_take_1
theorem dksX3_take_0 : cX3_take.data.toList.drop 0 = dktX3_take_0 := by decide +kernel
theorem dksX3_take_1 : cX3_take.data.toList.drop 24 = dktX3_take_1 := dk_seg dksX3_take_0 24 rfl rfl
theorem dX3_take_0 : decode cX3_take 0 = .ok (.aload_n 0, 1) := dk_42 (dk_at dksX3_take_0 0 rfl rfl)
theorem dX3_take_1 : decode cX3_take 1 = .ok (.invokevirtual 65, 3) := dk_182 0 65 (dk_at dksX3_take_0 1 rfl rfl)
theorem dX3_take_4 : decode cX3_take 4 = .ok (.iload_n 1, 1) := dk_27 (dk_at dksX3_take_0 4 rfl rfl)
theorem dX3_take_5 : decode cX3_take 5 = .ok (.if_icmp .eq 9, 3) := dk_159 0 9 (dk_at dksX3_take_0 5 rfl rfl)
theorem dX3_take_8 : decode cX3_take 8 = .ok (.aload_n 0, 1) := dk_42 (dk_at dksX3_take_0 8 rfl rfl)
theorem dX3_take_9 : decode cX3_take 9 = .ok (.iconst 1, 1) := dk_4 (dk_at dksX3_take_0 9 rfl rfl)
theorem dX3_take_10 : decode cX3_take 10 = .ok (.invokevirtual 48, 3) := dk_182 0 48 (dk_at dksX3_take_0 10 rfl rfl)
theorem dX3_take_13 : decode cX3_take 13 = .ok (.athrow, 1) := dk_191 (dk_at dksX3_take_0 13 rfl rfl)
theorem dX3_take_14 : decode cX3_take 14 = .ok (.aload_n 0, 1) := dk_42 (dk_at dksX3_take_0 14 rfl rfl)
theorem dX3_take_15 : decode cX3_take 15 = .ok (.invokevirtual 59, 3) := dk_182 0 59 (dk_at dksX3_take_0 15 rfl rfl)
theorem dX3_take_18 : decode cX3_take 18 = .ok (.aload_n 0, 1) := dk_42 (dk_at dksX3_take_0 18 rfl rfl)
theorem dX3_take_19 : decode cX3_take 19 = .ok (.getfield 31, 3) := dk_180 0 31 (dk_at dksX3_take_0 19 rfl rfl)
theorem dX3_take_22 : decode cX3_take 22 = .ok (.iconst 1, 1) := dk_4 (dk_at dksX3_take_0 22 rfl rfl)
theorem dX3_take_23 : decode cX3_take 23 = .ok (.isub, 1) := dk_100 (dk_at dksX3_take_0 23 rfl rfl)
theorem dX3_take_24 : decode cX3_take 24 = .ok (.ireturn, 1) := dk_172 (dk_at dksX3_take_1 0 rfl rfl)
abbrev cX3_tell : ByteArray := prog_10_method_4_code
def yX3_tell : MethodName := ⟨RX3, "tell", "(II)V"⟩
def dkwX3_tell_1 : List UInt8 := [42, 180, 0, 38, 161, 0, 4, 177, 42, 27, 181, 0, 38, 42, 28, 181, 0, 41, 177]
abbrev dktX3_tell_1 : List UInt8 := dkwX3_tell_1 ++ []
def dkwX3_tell_0 : List UInt8 := [42, 180, 0, 38, 153, 0, 28, 28, 42, 180, 0, 41, 163, 0, 19, 28, 42, 180, 0, 41, 160, 0, 12, 27]
abbrev dktX3_tell_0 : List UInt8 := dkwX3_tell_0 ++ dktX3_tell_1
theorem dksX3_tell_0 : cX3_tell.data.toList.drop 0 = dktX3_tell_0 := by decide +kernel
theorem dksX3_tell_1 : cX3_tell.data.toList.drop 24 = dktX3_tell_1 := dk_seg dksX3_tell_0 24 rfl rfl
theorem dX3_tell_0 : decode cX3_tell 0 = .ok (.aload_n 0, 1) := dk_42 (dk_at dksX3_tell_0 0 rfl rfl)
theorem dX3_tell_1 : decode cX3_tell 1 = .ok (.getfield 38, 3) := dk_180 0 38 (dk_at dksX3_tell_0 1 rfl rfl)
theorem dX3_tell_4 : decode cX3_tell 4 = .ok (.ifCond .eq 28, 3) := dk_153 0 28 (dk_at dksX3_tell_0 4 rfl rfl)
theorem dX3_tell_7 : decode cX3_tell 7 = .ok (.iload_n 2, 1) := dk_28 (dk_at dksX3_tell_0 7 rfl rfl)
theorem dX3_tell_8 : decode cX3_tell 8 = .ok (.aload_n 0, 1) := dk_42 (dk_at dksX3_tell_0 8 rfl rfl)
theorem dX3_tell_9 : decode cX3_tell 9 = .ok (.getfield 41, 3) := dk_180 0 41 (dk_at dksX3_tell_0 9 rfl rfl)
theorem dX3_tell_12 : decode cX3_tell 12 = .ok (.if_icmp .gt 19, 3) := dk_163 0 19 (dk_at dksX3_tell_0 12 rfl rfl)
theorem dX3_tell_15 : decode cX3_tell 15 = .ok (.iload_n 2, 1) := dk_28 (dk_at dksX3_tell_0 15 rfl rfl)
theorem dX3_tell_16 : decode cX3_tell 16 = .ok (.aload_n 0, 1) := dk_42 (dk_at dksX3_tell_0 16 rfl rfl)
theorem dX3_tell_17 : decode cX3_tell 17 = .ok (.getfield 41, 3) := dk_180 0 41 (dk_at dksX3_tell_0 17 rfl rfl)
theorem dX3_tell_20 : decode cX3_tell 20 = .ok (.if_icmp .ne 12, 3) := dk_160 0 12 (dk_at dksX3_tell_0 20 rfl rfl)
theorem dX3_tell_23 : decode cX3_tell 23 = .ok (.iload_n 1, 1) := dk_27 (dk_at dksX3_tell_0 23 rfl rfl)
theorem dX3_tell_24 : decode cX3_tell 24 = .ok (.aload_n 0, 1) := dk_42 (dk_at dksX3_tell_1 0 rfl rfl)
theorem dX3_tell_25 : decode cX3_tell 25 = .ok (.getfield 38, 3) := dk_180 0 38 (dk_at dksX3_tell_1 1 rfl rfl)
theorem dX3_tell_28 : decode cX3_tell 28 = .ok (.if_icmp .lt 4, 3) := dk_161 0 4 (dk_at dksX3_tell_1 4 rfl rfl)
theorem dX3_tell_31 : decode cX3_tell 31 = .ok (.return_, 1) := dk_177 (dk_at dksX3_tell_1 7 rfl rfl)
theorem dX3_tell_32 : decode cX3_tell 32 = .ok (.aload_n 0, 1) := dk_42 (dk_at dksX3_tell_1 8 rfl rfl)
theorem dX3_tell_33 : decode cX3_tell 33 = .ok (.iload_n 1, 1) := dk_27 (dk_at dksX3_tell_1 9 rfl rfl)
theorem dX3_tell_34 : decode cX3_tell 34 = .ok (.putfield 38, 3) := dk_181 0 38 (dk_at dksX3_tell_1 10 rfl rfl)
theorem dX3_tell_37 : decode cX3_tell 37 = .ok (.aload_n 0, 1) := dk_42 (dk_at dksX3_tell_1 13 rfl rfl)
theorem dX3_tell_38 : decode cX3_tell 38 = .ok (.iload_n 2, 1) := dk_28 (dk_at dksX3_tell_1 14 rfl rfl)
theorem dX3_tell_39 : decode cX3_tell 39 = .ok (.putfield 41, 3) := dk_181 0 41 (dk_at dksX3_tell_1 15 rfl rfl)
theorem dX3_tell_42 : decode cX3_tell 42 = .ok (.return_, 1) := dk_177 (dk_at dksX3_tell_1 18 rfl rfl)
abbrev cX3_door : ByteArray := prog_10_method_18_code
def yX3_door : MethodName := ⟨RX3, "door", "()V"⟩
def dkwX3_door_5 : List UInt8 := [180, 0, 175, 43, 182, 0, 130, 87, 177]
abbrev dktX3_door_5 : List UInt8 := dkwX3_door_5 ++ []
def dkwX3_door_4 : List UInt8 := [42, 5, 182, 0, 62, 181, 0, 189, 43, 180, 0, 189, 153, 0, 7, 42, 182, 0, 59, 42, 180, 0, 83]
abbrev dktX3_door_4 : List UInt8 := dkwX3_door_4 ++ dktX3_door_5
def dkwX3_door_3 : List UInt8 := [180, 0, 183, 160, 0, 9, 42, 8, 28, 182, 0, 75, 43, 42, 4, 16, 60, 182, 0, 157, 181, 0, 186, 43]
abbrev dktX3_door_3 : List UInt8 := dkwX3_door_3 ++ dktX3_door_4
def dkwX3_door_2 : List UInt8 := [180, 0, 83, 180, 0, 109, 182, 0, 143, 181, 0, 183, 43, 180, 0, 181, 155, 0, 20, 43, 180, 0, 181, 43]
abbrev dktX3_door_2 : List UInt8 := dkwX3_door_2 ++ dktX3_door_3
def dkwX3_door_1 : List UInt8 := [43, 42, 42, 180, 0, 83, 180, 0, 109, 182, 0, 143, 181, 0, 181, 42, 180, 0, 31, 61, 43, 42, 42]
abbrev dktX3_door_1 : List UInt8 := dkwX3_door_1 ++ dktX3_door_2
def dkwX3_door_0 : List UInt8 := [42, 42, 180, 0, 83, 180, 0, 175, 182, 0, 113, 16, 12, 182, 0, 118, 187, 0, 178, 89, 183, 0, 180, 76]
abbrev dktX3_door_0 : List UInt8 := dkwX3_door_0 ++ dktX3_door_1
theorem dksX3_door_0 : cX3_door.data.toList.drop 0 = dktX3_door_0 := by decide +kernel
theorem dksX3_door_1 : cX3_door.data.toList.drop 24 = dktX3_door_1 := dk_seg dksX3_door_0 24 rfl rfl
theorem dksX3_door_2 : cX3_door.data.toList.drop 47 = dktX3_door_2 := dk_seg dksX3_door_1 23 rfl rfl
theorem dksX3_door_3 : cX3_door.data.toList.drop 71 = dktX3_door_3 := dk_seg dksX3_door_2 24 rfl rfl
theorem dksX3_door_4 : cX3_door.data.toList.drop 95 = dktX3_door_4 := dk_seg dksX3_door_3 24 rfl rfl
theorem dksX3_door_5 : cX3_door.data.toList.drop 118 = dktX3_door_5 := dk_seg dksX3_door_4 23 rfl rfl
theorem dX3_door_0 : decode cX3_door 0 = .ok (.aload_n 0, 1) := dk_42 (dk_at dksX3_door_0 0 rfl rfl)
theorem dX3_door_1 : decode cX3_door 1 = .ok (.aload_n 0, 1) := dk_42 (dk_at dksX3_door_0 1 rfl rfl)
theorem dX3_door_2 : decode cX3_door 2 = .ok (.getfield 83, 3) := dk_180 0 83 (dk_at dksX3_door_0 2 rfl rfl)
theorem dX3_door_5 : decode cX3_door 5 = .ok (.getfield 175, 3) := dk_180 0 175 (dk_at dksX3_door_0 5 rfl rfl)
theorem dX3_door_8 : decode cX3_door 8 = .ok (.invokevirtual 113, 3) := dk_182 0 113 (dk_at dksX3_door_0 8 rfl rfl)
theorem dX3_door_11 : decode cX3_door 11 = .ok (.bipush 12, 2) := dk_16 12 (dk_at dksX3_door_0 11 rfl rfl)
theorem dX3_door_13 : decode cX3_door 13 = .ok (.invokevirtual 118, 3) := dk_182 0 118 (dk_at dksX3_door_0 13 rfl rfl)
theorem dX3_door_16 : decode cX3_door 16 = .ok (.new 178, 3) := dk_187 0 178 (dk_at dksX3_door_0 16 rfl rfl)
theorem dX3_door_19 : decode cX3_door 19 = .ok (.dup, 1) := dk_89 (dk_at dksX3_door_0 19 rfl rfl)
theorem dX3_door_20 : decode cX3_door 20 = .ok (.invokespecial 180, 3) := dk_183 0 180 (dk_at dksX3_door_0 20 rfl rfl)
theorem dX3_door_23 : decode cX3_door 23 = .ok (.astore_n 1, 1) := dk_76 (dk_at dksX3_door_0 23 rfl rfl)
theorem dX3_door_24 : decode cX3_door 24 = .ok (.aload_n 1, 1) := dk_43 (dk_at dksX3_door_1 0 rfl rfl)
theorem dX3_door_25 : decode cX3_door 25 = .ok (.aload_n 0, 1) := dk_42 (dk_at dksX3_door_1 1 rfl rfl)
theorem dX3_door_26 : decode cX3_door 26 = .ok (.aload_n 0, 1) := dk_42 (dk_at dksX3_door_1 2 rfl rfl)
theorem dX3_door_27 : decode cX3_door 27 = .ok (.getfield 83, 3) := dk_180 0 83 (dk_at dksX3_door_1 3 rfl rfl)
theorem dX3_door_30 : decode cX3_door 30 = .ok (.getfield 109, 3) := dk_180 0 109 (dk_at dksX3_door_1 6 rfl rfl)
theorem dX3_door_33 : decode cX3_door 33 = .ok (.invokevirtual 143, 3) := dk_182 0 143 (dk_at dksX3_door_1 9 rfl rfl)
theorem dX3_door_36 : decode cX3_door 36 = .ok (.putfield 181, 3) := dk_181 0 181 (dk_at dksX3_door_1 12 rfl rfl)
theorem dX3_door_39 : decode cX3_door 39 = .ok (.aload_n 0, 1) := dk_42 (dk_at dksX3_door_1 15 rfl rfl)
theorem dX3_door_40 : decode cX3_door 40 = .ok (.getfield 31, 3) := dk_180 0 31 (dk_at dksX3_door_1 16 rfl rfl)
theorem dX3_door_43 : decode cX3_door 43 = .ok (.istore_n 2, 1) := dk_61 (dk_at dksX3_door_1 19 rfl rfl)
theorem dX3_door_44 : decode cX3_door 44 = .ok (.aload_n 1, 1) := dk_43 (dk_at dksX3_door_1 20 rfl rfl)
theorem dX3_door_45 : decode cX3_door 45 = .ok (.aload_n 0, 1) := dk_42 (dk_at dksX3_door_1 21 rfl rfl)
theorem dX3_door_46 : decode cX3_door 46 = .ok (.aload_n 0, 1) := dk_42 (dk_at dksX3_door_1 22 rfl rfl)
theorem dX3_door_47 : decode cX3_door 47 = .ok (.getfield 83, 3) := dk_180 0 83 (dk_at dksX3_door_2 0 rfl rfl)
theorem dX3_door_50 : decode cX3_door 50 = .ok (.getfield 109, 3) := dk_180 0 109 (dk_at dksX3_door_2 3 rfl rfl)
theorem dX3_door_53 : decode cX3_door 53 = .ok (.invokevirtual 143, 3) := dk_182 0 143 (dk_at dksX3_door_2 6 rfl rfl)
theorem dX3_door_56 : decode cX3_door 56 = .ok (.putfield 183, 3) := dk_181 0 183 (dk_at dksX3_door_2 9 rfl rfl)
theorem dX3_door_59 : decode cX3_door 59 = .ok (.aload_n 1, 1) := dk_43 (dk_at dksX3_door_2 12 rfl rfl)
theorem dX3_door_60 : decode cX3_door 60 = .ok (.getfield 181, 3) := dk_180 0 181 (dk_at dksX3_door_2 13 rfl rfl)
theorem dX3_door_63 : decode cX3_door 63 = .ok (.ifCond .lt 20, 3) := dk_155 0 20 (dk_at dksX3_door_2 16 rfl rfl)
theorem dX3_door_66 : decode cX3_door 66 = .ok (.aload_n 1, 1) := dk_43 (dk_at dksX3_door_2 19 rfl rfl)
theorem dX3_door_67 : decode cX3_door 67 = .ok (.getfield 181, 3) := dk_180 0 181 (dk_at dksX3_door_2 20 rfl rfl)
theorem dX3_door_70 : decode cX3_door 70 = .ok (.aload_n 1, 1) := dk_43 (dk_at dksX3_door_2 23 rfl rfl)
theorem dX3_door_71 : decode cX3_door 71 = .ok (.getfield 183, 3) := dk_180 0 183 (dk_at dksX3_door_3 0 rfl rfl)
theorem dX3_door_74 : decode cX3_door 74 = .ok (.if_icmp .ne 9, 3) := dk_160 0 9 (dk_at dksX3_door_3 3 rfl rfl)
theorem dX3_door_77 : decode cX3_door 77 = .ok (.aload_n 0, 1) := dk_42 (dk_at dksX3_door_3 6 rfl rfl)
theorem dX3_door_78 : decode cX3_door 78 = .ok (.iconst 5, 1) := dk_8 (dk_at dksX3_door_3 7 rfl rfl)
theorem dX3_door_79 : decode cX3_door 79 = .ok (.iload_n 2, 1) := dk_28 (dk_at dksX3_door_3 8 rfl rfl)
theorem dX3_door_80 : decode cX3_door 80 = .ok (.invokevirtual 75, 3) := dk_182 0 75 (dk_at dksX3_door_3 9 rfl rfl)
theorem dX3_door_83 : decode cX3_door 83 = .ok (.aload_n 1, 1) := dk_43 (dk_at dksX3_door_3 12 rfl rfl)
theorem dX3_door_84 : decode cX3_door 84 = .ok (.aload_n 0, 1) := dk_42 (dk_at dksX3_door_3 13 rfl rfl)
theorem dX3_door_85 : decode cX3_door 85 = .ok (.iconst 1, 1) := dk_4 (dk_at dksX3_door_3 14 rfl rfl)
theorem dX3_door_86 : decode cX3_door 86 = .ok (.bipush 60, 2) := dk_16 60 (dk_at dksX3_door_3 15 rfl rfl)
theorem dX3_door_88 : decode cX3_door 88 = .ok (.invokevirtual 157, 3) := dk_182 0 157 (dk_at dksX3_door_3 17 rfl rfl)
theorem dX3_door_91 : decode cX3_door 91 = .ok (.putfield 186, 3) := dk_181 0 186 (dk_at dksX3_door_3 20 rfl rfl)
theorem dX3_door_94 : decode cX3_door 94 = .ok (.aload_n 1, 1) := dk_43 (dk_at dksX3_door_3 23 rfl rfl)
theorem dX3_door_95 : decode cX3_door 95 = .ok (.aload_n 0, 1) := dk_42 (dk_at dksX3_door_4 0 rfl rfl)
theorem dX3_door_96 : decode cX3_door 96 = .ok (.iconst 2, 1) := dk_5 (dk_at dksX3_door_4 1 rfl rfl)
theorem dX3_door_97 : decode cX3_door 97 = .ok (.invokevirtual 62, 3) := dk_182 0 62 (dk_at dksX3_door_4 2 rfl rfl)
theorem dX3_door_100 : decode cX3_door 100 = .ok (.putfield 189, 3) := dk_181 0 189 (dk_at dksX3_door_4 5 rfl rfl)
theorem dX3_door_103 : decode cX3_door 103 = .ok (.aload_n 1, 1) := dk_43 (dk_at dksX3_door_4 8 rfl rfl)
theorem dX3_door_104 : decode cX3_door 104 = .ok (.getfield 189, 3) := dk_180 0 189 (dk_at dksX3_door_4 9 rfl rfl)
theorem dX3_door_107 : decode cX3_door 107 = .ok (.ifCond .eq 7, 3) := dk_153 0 7 (dk_at dksX3_door_4 12 rfl rfl)
theorem dX3_door_110 : decode cX3_door 110 = .ok (.aload_n 0, 1) := dk_42 (dk_at dksX3_door_4 15 rfl rfl)
theorem dX3_door_111 : decode cX3_door 111 = .ok (.invokevirtual 59, 3) := dk_182 0 59 (dk_at dksX3_door_4 16 rfl rfl)
theorem dX3_door_114 : decode cX3_door 114 = .ok (.aload_n 0, 1) := dk_42 (dk_at dksX3_door_4 19 rfl rfl)
theorem dX3_door_115 : decode cX3_door 115 = .ok (.getfield 83, 3) := dk_180 0 83 (dk_at dksX3_door_4 20 rfl rfl)
theorem dX3_door_118 : decode cX3_door 118 = .ok (.getfield 175, 3) := dk_180 0 175 (dk_at dksX3_door_5 0 rfl rfl)
theorem dX3_door_121 : decode cX3_door 121 = .ok (.aload_n 1, 1) := dk_43 (dk_at dksX3_door_5 3 rfl rfl)
theorem dX3_door_122 : decode cX3_door 122 = .ok (.invokevirtual 130, 3) := dk_182 0 130 (dk_at dksX3_door_5 4 rfl rfl)
theorem dX3_door_125 : decode cX3_door 125 = .ok (.pop, 1) := dk_87 (dk_at dksX3_door_5 7 rfl rfl)
theorem dX3_door_126 : decode cX3_door 126 = .ok (.return_, 1) := dk_177 (dk_at dksX3_door_5 8 rfl rfl)
abbrev cX3_known : ByteArray := prog_10_method_14_code
def yX3_known : MethodName := ⟨RX3, "known", "(Ljava/util/ArrayList;)I"⟩
def dkwX3_known_1 : List UInt8 := [7, 28, 182, 0, 75, 29, 172]
abbrev dktX3_known_1 : List UInt8 := dkwX3_known_1 ++ []
def dkwX3_known_0 : List UInt8 := [42, 3, 182, 0, 68, 61, 43, 42, 180, 0, 9, 28, 182, 0, 79, 184, 0, 92, 62, 29, 156, 0, 9, 42]
abbrev dktX3_known_0 : List UInt8 := dkwX3_known_0 ++ dktX3_known_1
theorem dksX3_known_0 : cX3_known.data.toList.drop 0 = dktX3_known_0 := by decide +kernel
theorem dksX3_known_1 : cX3_known.data.toList.drop 24 = dktX3_known_1 := dk_seg dksX3_known_0 24 rfl rfl
theorem dX3_known_0 : decode cX3_known 0 = .ok (.aload_n 0, 1) := dk_42 (dk_at dksX3_known_0 0 rfl rfl)
theorem dX3_known_1 : decode cX3_known 1 = .ok (.iconst 0, 1) := dk_3 (dk_at dksX3_known_0 1 rfl rfl)
theorem dX3_known_2 : decode cX3_known 2 = .ok (.invokevirtual 68, 3) := dk_182 0 68 (dk_at dksX3_known_0 2 rfl rfl)
theorem dX3_known_5 : decode cX3_known 5 = .ok (.istore_n 2, 1) := dk_61 (dk_at dksX3_known_0 5 rfl rfl)
theorem dX3_known_6 : decode cX3_known 6 = .ok (.aload_n 1, 1) := dk_43 (dk_at dksX3_known_0 6 rfl rfl)
theorem dX3_known_7 : decode cX3_known 7 = .ok (.aload_n 0, 1) := dk_42 (dk_at dksX3_known_0 7 rfl rfl)
theorem dX3_known_8 : decode cX3_known 8 = .ok (.getfield 9, 3) := dk_180 0 9 (dk_at dksX3_known_0 8 rfl rfl)
theorem dX3_known_11 : decode cX3_known 11 = .ok (.iload_n 2, 1) := dk_28 (dk_at dksX3_known_0 11 rfl rfl)
theorem dX3_known_12 : decode cX3_known 12 = .ok (.invokevirtual 79, 3) := dk_182 0 79 (dk_at dksX3_known_0 12 rfl rfl)
theorem dX3_known_15 : decode cX3_known 15 = .ok (.invokestatic 92, 3) := dk_184 0 92 (dk_at dksX3_known_0 15 rfl rfl)
theorem dX3_known_18 : decode cX3_known 18 = .ok (.istore_n 3, 1) := dk_62 (dk_at dksX3_known_0 18 rfl rfl)
theorem dX3_known_19 : decode cX3_known 19 = .ok (.iload_n 3, 1) := dk_29 (dk_at dksX3_known_0 19 rfl rfl)
theorem dX3_known_20 : decode cX3_known 20 = .ok (.ifCond .ge 9, 3) := dk_156 0 9 (dk_at dksX3_known_0 20 rfl rfl)
theorem dX3_known_23 : decode cX3_known 23 = .ok (.aload_n 0, 1) := dk_42 (dk_at dksX3_known_0 23 rfl rfl)
theorem dX3_known_24 : decode cX3_known 24 = .ok (.iconst 4, 1) := dk_7 (dk_at dksX3_known_1 0 rfl rfl)
theorem dX3_known_25 : decode cX3_known 25 = .ok (.iload_n 2, 1) := dk_28 (dk_at dksX3_known_1 1 rfl rfl)
theorem dX3_known_26 : decode cX3_known 26 = .ok (.invokevirtual 75, 3) := dk_182 0 75 (dk_at dksX3_known_1 2 rfl rfl)
theorem dX3_known_29 : decode cX3_known 29 = .ok (.iload_n 3, 1) := dk_29 (dk_at dksX3_known_1 5 rfl rfl)
theorem dX3_known_30 : decode cX3_known 30 = .ok (.ireturn, 1) := dk_172 (dk_at dksX3_known_1 6 rfl rfl)
abbrev cX3_number : ByteArray := prog_10_method_12_code
def yX3_number : MethodName := ⟨RX3, "number", "(II)I"⟩
def dkwX3_number_1 : List UInt8 := [28, 164, 0, 9, 42, 8, 29, 182, 0, 75, 21, 4, 172]
abbrev dktX3_number_1 : List UInt8 := dkwX3_number_1 ++ []
def dkwX3_number_0 : List UInt8 := [42, 4, 182, 0, 68, 62, 42, 180, 0, 9, 29, 182, 0, 72, 54, 4, 21, 4, 27, 161, 0, 9, 21, 4]
abbrev dktX3_number_0 : List UInt8 := dkwX3_number_0 ++ dktX3_number_1
theorem dksX3_number_0 : cX3_number.data.toList.drop 0 = dktX3_number_0 := by decide +kernel
theorem dksX3_number_1 : cX3_number.data.toList.drop 24 = dktX3_number_1 := dk_seg dksX3_number_0 24 rfl rfl
theorem dX3_number_0 : decode cX3_number 0 = .ok (.aload_n 0, 1) := dk_42 (dk_at dksX3_number_0 0 rfl rfl)
theorem dX3_number_1 : decode cX3_number 1 = .ok (.iconst 1, 1) := dk_4 (dk_at dksX3_number_0 1 rfl rfl)
theorem dX3_number_2 : decode cX3_number 2 = .ok (.invokevirtual 68, 3) := dk_182 0 68 (dk_at dksX3_number_0 2 rfl rfl)
theorem dX3_number_5 : decode cX3_number 5 = .ok (.istore_n 3, 1) := dk_62 (dk_at dksX3_number_0 5 rfl rfl)
theorem dX3_number_6 : decode cX3_number 6 = .ok (.aload_n 0, 1) := dk_42 (dk_at dksX3_number_0 6 rfl rfl)
theorem dX3_number_7 : decode cX3_number 7 = .ok (.getfield 9, 3) := dk_180 0 9 (dk_at dksX3_number_0 7 rfl rfl)
theorem dX3_number_10 : decode cX3_number 10 = .ok (.iload_n 3, 1) := dk_29 (dk_at dksX3_number_0 10 rfl rfl)
theorem dX3_number_11 : decode cX3_number 11 = .ok (.invokevirtual 72, 3) := dk_182 0 72 (dk_at dksX3_number_0 11 rfl rfl)
theorem dX3_number_14 : decode cX3_number 14 = .ok (.istore 4, 2) := dk_54 4 (dk_at dksX3_number_0 14 rfl rfl)
theorem dX3_number_16 : decode cX3_number 16 = .ok (.iload 4, 2) := dk_21 4 (dk_at dksX3_number_0 16 rfl rfl)
theorem dX3_number_18 : decode cX3_number 18 = .ok (.iload_n 1, 1) := dk_27 (dk_at dksX3_number_0 18 rfl rfl)
theorem dX3_number_19 : decode cX3_number 19 = .ok (.if_icmp .lt 9, 3) := dk_161 0 9 (dk_at dksX3_number_0 19 rfl rfl)
theorem dX3_number_22 : decode cX3_number 22 = .ok (.iload 4, 2) := dk_21 4 (dk_at dksX3_number_0 22 rfl rfl)
theorem dX3_number_24 : decode cX3_number 24 = .ok (.iload_n 2, 1) := dk_28 (dk_at dksX3_number_1 0 rfl rfl)
theorem dX3_number_25 : decode cX3_number 25 = .ok (.if_icmp .le 9, 3) := dk_164 0 9 (dk_at dksX3_number_1 1 rfl rfl)
theorem dX3_number_28 : decode cX3_number 28 = .ok (.aload_n 0, 1) := dk_42 (dk_at dksX3_number_1 4 rfl rfl)
theorem dX3_number_29 : decode cX3_number 29 = .ok (.iconst 5, 1) := dk_8 (dk_at dksX3_number_1 5 rfl rfl)
theorem dX3_number_30 : decode cX3_number 30 = .ok (.iload_n 3, 1) := dk_29 (dk_at dksX3_number_1 6 rfl rfl)
theorem dX3_number_31 : decode cX3_number 31 = .ok (.invokevirtual 75, 3) := dk_182 0 75 (dk_at dksX3_number_1 7 rfl rfl)
theorem dX3_number_34 : decode cX3_number 34 = .ok (.iload 4, 2) := dk_21 4 (dk_at dksX3_number_1 10 rfl rfl)
theorem dX3_number_36 : decode cX3_number 36 = .ok (.ireturn, 1) := dk_172 (dk_at dksX3_number_1 12 rfl rfl)
abbrev cX3_isWord : ByteArray := prog_10_method_8_code
def yX3_isWord : MethodName := ⟨RX3, "isWord", "(I)Z"⟩
def dkwX3_isWord_1 : List UInt8 := [180, 0, 31, 53, 27, 160, 0, 7, 4, 167, 0, 4, 3, 172]
abbrev dktX3_isWord_1 : List UInt8 := dkwX3_isWord_1 ++ []
def dkwX3_isWord_0 : List UInt8 := [42, 180, 0, 9, 180, 0, 44, 42, 180, 0, 31, 51, 6, 160, 0, 23, 42, 180, 0, 9, 180, 0, 52, 42]
abbrev dktX3_isWord_0 : List UInt8 := dkwX3_isWord_0 ++ dktX3_isWord_1
theorem dksX3_isWord_0 : cX3_isWord.data.toList.drop 0 = dktX3_isWord_0 := by decide +kernel
theorem dksX3_isWord_1 : cX3_isWord.data.toList.drop 24 = dktX3_isWord_1 := dk_seg dksX3_isWord_0 24 rfl rfl
theorem dX3_isWord_0 : decode cX3_isWord 0 = .ok (.aload_n 0, 1) := dk_42 (dk_at dksX3_isWord_0 0 rfl rfl)
theorem dX3_isWord_1 : decode cX3_isWord 1 = .ok (.getfield 9, 3) := dk_180 0 9 (dk_at dksX3_isWord_0 1 rfl rfl)
theorem dX3_isWord_4 : decode cX3_isWord 4 = .ok (.getfield 44, 3) := dk_180 0 44 (dk_at dksX3_isWord_0 4 rfl rfl)
theorem dX3_isWord_7 : decode cX3_isWord 7 = .ok (.aload_n 0, 1) := dk_42 (dk_at dksX3_isWord_0 7 rfl rfl)
theorem dX3_isWord_8 : decode cX3_isWord 8 = .ok (.getfield 31, 3) := dk_180 0 31 (dk_at dksX3_isWord_0 8 rfl rfl)
theorem dX3_isWord_11 : decode cX3_isWord 11 = .ok (.baload, 1) := dk_51 (dk_at dksX3_isWord_0 11 rfl rfl)
theorem dX3_isWord_12 : decode cX3_isWord 12 = .ok (.iconst 3, 1) := dk_6 (dk_at dksX3_isWord_0 12 rfl rfl)
theorem dX3_isWord_13 : decode cX3_isWord 13 = .ok (.if_icmp .ne 23, 3) := dk_160 0 23 (dk_at dksX3_isWord_0 13 rfl rfl)
theorem dX3_isWord_16 : decode cX3_isWord 16 = .ok (.aload_n 0, 1) := dk_42 (dk_at dksX3_isWord_0 16 rfl rfl)
theorem dX3_isWord_17 : decode cX3_isWord 17 = .ok (.getfield 9, 3) := dk_180 0 9 (dk_at dksX3_isWord_0 17 rfl rfl)
theorem dX3_isWord_20 : decode cX3_isWord 20 = .ok (.getfield 52, 3) := dk_180 0 52 (dk_at dksX3_isWord_0 20 rfl rfl)
theorem dX3_isWord_23 : decode cX3_isWord 23 = .ok (.aload_n 0, 1) := dk_42 (dk_at dksX3_isWord_0 23 rfl rfl)
theorem dX3_isWord_24 : decode cX3_isWord 24 = .ok (.getfield 31, 3) := dk_180 0 31 (dk_at dksX3_isWord_1 0 rfl rfl)
theorem dX3_isWord_27 : decode cX3_isWord 27 = .ok (.saload, 1) := dk_53 (dk_at dksX3_isWord_1 3 rfl rfl)
theorem dX3_isWord_28 : decode cX3_isWord 28 = .ok (.iload_n 1, 1) := dk_27 (dk_at dksX3_isWord_1 4 rfl rfl)
theorem dX3_isWord_29 : decode cX3_isWord 29 = .ok (.if_icmp .ne 7, 3) := dk_160 0 7 (dk_at dksX3_isWord_1 5 rfl rfl)
theorem dX3_isWord_32 : decode cX3_isWord 32 = .ok (.iconst 1, 1) := dk_4 (dk_at dksX3_isWord_1 8 rfl rfl)
theorem dX3_isWord_33 : decode cX3_isWord 33 = .ok (.goto 4, 3) := dk_167 0 4 (dk_at dksX3_isWord_1 9 rfl rfl)
theorem dX3_isWord_36 : decode cX3_isWord 36 = .ok (.iconst 0, 1) := dk_3 (dk_at dksX3_isWord_1 12 rfl rfl)
theorem dX3_isWord_37 : decode cX3_isWord 37 = .ok (.ireturn, 1) := dk_172 (dk_at dksX3_isWord_1 13 rfl rfl)
abbrev cX3_step : ByteArray := prog_10_method_20_code
def yX3_step : MethodName := ⟨RX3, "step", "()V"⟩
def dkwX3_step_8 : List UInt8 := [182, 0, 130, 87, 177]
abbrev dktX3_step_8 : List UInt8 := dkwX3_step_8 ++ []
def dkwX3_step_7 : List UInt8 := [182, 0, 59, 25, 4, 42, 45, 182, 0, 219, 181, 0, 223, 45, 198, 0, 13, 45, 180, 0, 200, 25, 4]
abbrev dktX3_step_7 : List UInt8 := dkwX3_step_7 ++ dktX3_step_8
def dkwX3_step_6 : List UInt8 := [42, 42, 180, 0, 83, 180, 0, 137, 182, 0, 143, 181, 0, 216, 42, 16, 7, 182, 0, 62, 153, 0, 17, 42]
abbrev dktX3_step_6 : List UInt8 := dkwX3_step_6 ++ dktX3_step_7
def dkwX3_step_5 : List UInt8 := [3, 16, 99, 182, 0, 157, 181, 0, 213, 42, 16, 6, 182, 0, 62, 153, 0, 23, 42, 182, 0, 59, 25, 4]
abbrev dktX3_step_5 : List UInt8 := dkwX3_step_5 ++ dktX3_step_6
def dkwX3_step_4 : List UInt8 := [3, 16, 99, 182, 0, 157, 181, 0, 207, 25, 4, 42, 3, 16, 99, 182, 0, 157, 181, 0, 210, 25, 4, 42]
abbrev dktX3_step_4 : List UInt8 := dkwX3_step_4 ++ dktX3_step_5
def dkwX3_step_3 : List UInt8 := [187, 0, 203, 89, 183, 0, 205, 58, 4, 25, 4, 42, 4, 16, 120, 182, 0, 157, 181, 0, 206, 25, 4, 42]
abbrev dktX3_step_3 : List UInt8 := dkwX3_step_3 ++ dktX3_step_4
def dkwX3_step_2 : List UInt8 := [198, 0, 22, 45, 180, 0, 200, 182, 0, 113, 16, 6, 160, 0, 10, 42, 5, 27, 182, 0, 35, 191]
abbrev dktX3_step_2 : List UInt8 := dkwX3_step_2 ++ dktX3_step_3
def dkwX3_step_1 : List UInt8 := [156, 0, 7, 1, 167, 0, 17, 42, 180, 0, 83, 180, 0, 150, 28, 182, 0, 196, 192, 0, 153, 78, 45]
abbrev dktX3_step_1 : List UInt8 := dkwX3_step_1 ++ dktX3_step_2
def dkwX3_step_0 : List UInt8 := [42, 180, 0, 31, 60, 42, 182, 0, 59, 42, 42, 180, 0, 83, 180, 0, 150, 182, 0, 143, 61, 28]
abbrev dktX3_step_0 : List UInt8 := dkwX3_step_0 ++ dktX3_step_1
theorem dksX3_step_0 : cX3_step.data.toList.drop 0 = dktX3_step_0 := by decide +kernel
theorem dksX3_step_1 : cX3_step.data.toList.drop 22 = dktX3_step_1 := dk_seg dksX3_step_0 22 rfl rfl
theorem dksX3_step_2 : cX3_step.data.toList.drop 45 = dktX3_step_2 := dk_seg dksX3_step_1 23 rfl rfl
theorem dksX3_step_3 : cX3_step.data.toList.drop 67 = dktX3_step_3 := dk_seg dksX3_step_2 22 rfl rfl
theorem dksX3_step_4 : cX3_step.data.toList.drop 91 = dktX3_step_4 := dk_seg dksX3_step_3 24 rfl rfl
theorem dksX3_step_5 : cX3_step.data.toList.drop 115 = dktX3_step_5 := dk_seg dksX3_step_4 24 rfl rfl
theorem dksX3_step_6 : cX3_step.data.toList.drop 139 = dktX3_step_6 := dk_seg dksX3_step_5 24 rfl rfl
theorem dksX3_step_7 : cX3_step.data.toList.drop 163 = dktX3_step_7 := dk_seg dksX3_step_6 24 rfl rfl
theorem dksX3_step_8 : cX3_step.data.toList.drop 186 = dktX3_step_8 := dk_seg dksX3_step_7 23 rfl rfl
theorem dX3_step_0 : decode cX3_step 0 = .ok (.aload_n 0, 1) := dk_42 (dk_at dksX3_step_0 0 rfl rfl)
theorem dX3_step_1 : decode cX3_step 1 = .ok (.getfield 31, 3) := dk_180 0 31 (dk_at dksX3_step_0 1 rfl rfl)
theorem dX3_step_4 : decode cX3_step 4 = .ok (.istore_n 1, 1) := dk_60 (dk_at dksX3_step_0 4 rfl rfl)
theorem dX3_step_5 : decode cX3_step 5 = .ok (.aload_n 0, 1) := dk_42 (dk_at dksX3_step_0 5 rfl rfl)
theorem dX3_step_6 : decode cX3_step 6 = .ok (.invokevirtual 59, 3) := dk_182 0 59 (dk_at dksX3_step_0 6 rfl rfl)
theorem dX3_step_9 : decode cX3_step 9 = .ok (.aload_n 0, 1) := dk_42 (dk_at dksX3_step_0 9 rfl rfl)
theorem dX3_step_10 : decode cX3_step 10 = .ok (.aload_n 0, 1) := dk_42 (dk_at dksX3_step_0 10 rfl rfl)
theorem dX3_step_11 : decode cX3_step 11 = .ok (.getfield 83, 3) := dk_180 0 83 (dk_at dksX3_step_0 11 rfl rfl)
theorem dX3_step_14 : decode cX3_step 14 = .ok (.getfield 150, 3) := dk_180 0 150 (dk_at dksX3_step_0 14 rfl rfl)
theorem dX3_step_17 : decode cX3_step 17 = .ok (.invokevirtual 143, 3) := dk_182 0 143 (dk_at dksX3_step_0 17 rfl rfl)
theorem dX3_step_20 : decode cX3_step 20 = .ok (.istore_n 2, 1) := dk_61 (dk_at dksX3_step_0 20 rfl rfl)
theorem dX3_step_21 : decode cX3_step 21 = .ok (.iload_n 2, 1) := dk_28 (dk_at dksX3_step_0 21 rfl rfl)
theorem dX3_step_22 : decode cX3_step 22 = .ok (.ifCond .ge 7, 3) := dk_156 0 7 (dk_at dksX3_step_1 0 rfl rfl)
theorem dX3_step_25 : decode cX3_step 25 = .ok (.aconst_null, 1) := dk_1 (dk_at dksX3_step_1 3 rfl rfl)
theorem dX3_step_26 : decode cX3_step 26 = .ok (.goto 17, 3) := dk_167 0 17 (dk_at dksX3_step_1 4 rfl rfl)
theorem dX3_step_29 : decode cX3_step 29 = .ok (.aload_n 0, 1) := dk_42 (dk_at dksX3_step_1 7 rfl rfl)
theorem dX3_step_30 : decode cX3_step 30 = .ok (.getfield 83, 3) := dk_180 0 83 (dk_at dksX3_step_1 8 rfl rfl)
theorem dX3_step_33 : decode cX3_step 33 = .ok (.getfield 150, 3) := dk_180 0 150 (dk_at dksX3_step_1 11 rfl rfl)
theorem dX3_step_36 : decode cX3_step 36 = .ok (.iload_n 2, 1) := dk_28 (dk_at dksX3_step_1 14 rfl rfl)
theorem dX3_step_37 : decode cX3_step 37 = .ok (.invokevirtual 196, 3) := dk_182 0 196 (dk_at dksX3_step_1 15 rfl rfl)
theorem dX3_step_40 : decode cX3_step 40 = .ok (.checkcast 153, 3) := dk_192 0 153 (dk_at dksX3_step_1 18 rfl rfl)
theorem dX3_step_43 : decode cX3_step 43 = .ok (.astore_n 3, 1) := dk_78 (dk_at dksX3_step_1 21 rfl rfl)
theorem dX3_step_44 : decode cX3_step 44 = .ok (.aload_n 3, 1) := dk_45 (dk_at dksX3_step_1 22 rfl rfl)
theorem dX3_step_45 : decode cX3_step 45 = .ok (.ifnull 22, 3) := dk_198 0 22 (dk_at dksX3_step_2 0 rfl rfl)
theorem dX3_step_48 : decode cX3_step 48 = .ok (.aload_n 3, 1) := dk_45 (dk_at dksX3_step_2 3 rfl rfl)
theorem dX3_step_49 : decode cX3_step 49 = .ok (.getfield 200, 3) := dk_180 0 200 (dk_at dksX3_step_2 4 rfl rfl)
theorem dX3_step_52 : decode cX3_step 52 = .ok (.invokevirtual 113, 3) := dk_182 0 113 (dk_at dksX3_step_2 7 rfl rfl)
theorem dX3_step_55 : decode cX3_step 55 = .ok (.bipush 6, 2) := dk_16 6 (dk_at dksX3_step_2 10 rfl rfl)
theorem dX3_step_57 : decode cX3_step 57 = .ok (.if_icmp .ne 10, 3) := dk_160 0 10 (dk_at dksX3_step_2 12 rfl rfl)
theorem dX3_step_60 : decode cX3_step 60 = .ok (.aload_n 0, 1) := dk_42 (dk_at dksX3_step_2 15 rfl rfl)
theorem dX3_step_61 : decode cX3_step 61 = .ok (.iconst 2, 1) := dk_5 (dk_at dksX3_step_2 16 rfl rfl)
theorem dX3_step_62 : decode cX3_step 62 = .ok (.iload_n 1, 1) := dk_27 (dk_at dksX3_step_2 17 rfl rfl)
theorem dX3_step_63 : decode cX3_step 63 = .ok (.invokevirtual 35, 3) := dk_182 0 35 (dk_at dksX3_step_2 18 rfl rfl)
theorem dX3_step_66 : decode cX3_step 66 = .ok (.athrow, 1) := dk_191 (dk_at dksX3_step_2 21 rfl rfl)
theorem dX3_step_67 : decode cX3_step 67 = .ok (.new 203, 3) := dk_187 0 203 (dk_at dksX3_step_3 0 rfl rfl)
theorem dX3_step_70 : decode cX3_step 70 = .ok (.dup, 1) := dk_89 (dk_at dksX3_step_3 3 rfl rfl)
theorem dX3_step_71 : decode cX3_step 71 = .ok (.invokespecial 205, 3) := dk_183 0 205 (dk_at dksX3_step_3 4 rfl rfl)
theorem dX3_step_74 : decode cX3_step 74 = .ok (.astore 4, 2) := dk_58 4 (dk_at dksX3_step_3 7 rfl rfl)
theorem dX3_step_76 : decode cX3_step 76 = .ok (.aload 4, 2) := dk_25 4 (dk_at dksX3_step_3 9 rfl rfl)
theorem dX3_step_78 : decode cX3_step 78 = .ok (.aload_n 0, 1) := dk_42 (dk_at dksX3_step_3 11 rfl rfl)
theorem dX3_step_79 : decode cX3_step 79 = .ok (.iconst 1, 1) := dk_4 (dk_at dksX3_step_3 12 rfl rfl)
theorem dX3_step_80 : decode cX3_step 80 = .ok (.bipush 120, 2) := dk_16 120 (dk_at dksX3_step_3 13 rfl rfl)
theorem dX3_step_82 : decode cX3_step 82 = .ok (.invokevirtual 157, 3) := dk_182 0 157 (dk_at dksX3_step_3 15 rfl rfl)
theorem dX3_step_85 : decode cX3_step 85 = .ok (.putfield 206, 3) := dk_181 0 206 (dk_at dksX3_step_3 18 rfl rfl)
theorem dX3_step_88 : decode cX3_step 88 = .ok (.aload 4, 2) := dk_25 4 (dk_at dksX3_step_3 21 rfl rfl)
theorem dX3_step_90 : decode cX3_step 90 = .ok (.aload_n 0, 1) := dk_42 (dk_at dksX3_step_3 23 rfl rfl)
theorem dX3_step_91 : decode cX3_step 91 = .ok (.iconst 0, 1) := dk_3 (dk_at dksX3_step_4 0 rfl rfl)
theorem dX3_step_92 : decode cX3_step 92 = .ok (.bipush 99, 2) := dk_16 99 (dk_at dksX3_step_4 1 rfl rfl)
theorem dX3_step_94 : decode cX3_step 94 = .ok (.invokevirtual 157, 3) := dk_182 0 157 (dk_at dksX3_step_4 3 rfl rfl)
theorem dX3_step_97 : decode cX3_step 97 = .ok (.putfield 207, 3) := dk_181 0 207 (dk_at dksX3_step_4 6 rfl rfl)
theorem dX3_step_100 : decode cX3_step 100 = .ok (.aload 4, 2) := dk_25 4 (dk_at dksX3_step_4 9 rfl rfl)
theorem dX3_step_102 : decode cX3_step 102 = .ok (.aload_n 0, 1) := dk_42 (dk_at dksX3_step_4 11 rfl rfl)
theorem dX3_step_103 : decode cX3_step 103 = .ok (.iconst 0, 1) := dk_3 (dk_at dksX3_step_4 12 rfl rfl)
theorem dX3_step_104 : decode cX3_step 104 = .ok (.bipush 99, 2) := dk_16 99 (dk_at dksX3_step_4 13 rfl rfl)
theorem dX3_step_106 : decode cX3_step 106 = .ok (.invokevirtual 157, 3) := dk_182 0 157 (dk_at dksX3_step_4 15 rfl rfl)
theorem dX3_step_109 : decode cX3_step 109 = .ok (.putfield 210, 3) := dk_181 0 210 (dk_at dksX3_step_4 18 rfl rfl)
theorem dX3_step_112 : decode cX3_step 112 = .ok (.aload 4, 2) := dk_25 4 (dk_at dksX3_step_4 21 rfl rfl)
theorem dX3_step_114 : decode cX3_step 114 = .ok (.aload_n 0, 1) := dk_42 (dk_at dksX3_step_4 23 rfl rfl)
theorem dX3_step_115 : decode cX3_step 115 = .ok (.iconst 0, 1) := dk_3 (dk_at dksX3_step_5 0 rfl rfl)
theorem dX3_step_116 : decode cX3_step 116 = .ok (.bipush 99, 2) := dk_16 99 (dk_at dksX3_step_5 1 rfl rfl)
theorem dX3_step_118 : decode cX3_step 118 = .ok (.invokevirtual 157, 3) := dk_182 0 157 (dk_at dksX3_step_5 3 rfl rfl)
theorem dX3_step_121 : decode cX3_step 121 = .ok (.putfield 213, 3) := dk_181 0 213 (dk_at dksX3_step_5 6 rfl rfl)
theorem dX3_step_124 : decode cX3_step 124 = .ok (.aload_n 0, 1) := dk_42 (dk_at dksX3_step_5 9 rfl rfl)
theorem dX3_step_125 : decode cX3_step 125 = .ok (.bipush 6, 2) := dk_16 6 (dk_at dksX3_step_5 10 rfl rfl)
theorem dX3_step_127 : decode cX3_step 127 = .ok (.invokevirtual 62, 3) := dk_182 0 62 (dk_at dksX3_step_5 12 rfl rfl)
theorem dX3_step_130 : decode cX3_step 130 = .ok (.ifCond .eq 23, 3) := dk_153 0 23 (dk_at dksX3_step_5 15 rfl rfl)
theorem dX3_step_133 : decode cX3_step 133 = .ok (.aload_n 0, 1) := dk_42 (dk_at dksX3_step_5 18 rfl rfl)
theorem dX3_step_134 : decode cX3_step 134 = .ok (.invokevirtual 59, 3) := dk_182 0 59 (dk_at dksX3_step_5 19 rfl rfl)
theorem dX3_step_137 : decode cX3_step 137 = .ok (.aload 4, 2) := dk_25 4 (dk_at dksX3_step_5 22 rfl rfl)
theorem dX3_step_139 : decode cX3_step 139 = .ok (.aload_n 0, 1) := dk_42 (dk_at dksX3_step_6 0 rfl rfl)
theorem dX3_step_140 : decode cX3_step 140 = .ok (.aload_n 0, 1) := dk_42 (dk_at dksX3_step_6 1 rfl rfl)
theorem dX3_step_141 : decode cX3_step 141 = .ok (.getfield 83, 3) := dk_180 0 83 (dk_at dksX3_step_6 2 rfl rfl)
theorem dX3_step_144 : decode cX3_step 144 = .ok (.getfield 137, 3) := dk_180 0 137 (dk_at dksX3_step_6 5 rfl rfl)
theorem dX3_step_147 : decode cX3_step 147 = .ok (.invokevirtual 143, 3) := dk_182 0 143 (dk_at dksX3_step_6 8 rfl rfl)
theorem dX3_step_150 : decode cX3_step 150 = .ok (.putfield 216, 3) := dk_181 0 216 (dk_at dksX3_step_6 11 rfl rfl)
theorem dX3_step_153 : decode cX3_step 153 = .ok (.aload_n 0, 1) := dk_42 (dk_at dksX3_step_6 14 rfl rfl)
theorem dX3_step_154 : decode cX3_step 154 = .ok (.bipush 7, 2) := dk_16 7 (dk_at dksX3_step_6 15 rfl rfl)
theorem dX3_step_156 : decode cX3_step 156 = .ok (.invokevirtual 62, 3) := dk_182 0 62 (dk_at dksX3_step_6 17 rfl rfl)
theorem dX3_step_159 : decode cX3_step 159 = .ok (.ifCond .eq 17, 3) := dk_153 0 17 (dk_at dksX3_step_6 20 rfl rfl)
theorem dX3_step_162 : decode cX3_step 162 = .ok (.aload_n 0, 1) := dk_42 (dk_at dksX3_step_6 23 rfl rfl)
theorem dX3_step_163 : decode cX3_step 163 = .ok (.invokevirtual 59, 3) := dk_182 0 59 (dk_at dksX3_step_7 0 rfl rfl)
theorem dX3_step_166 : decode cX3_step 166 = .ok (.aload 4, 2) := dk_25 4 (dk_at dksX3_step_7 3 rfl rfl)
theorem dX3_step_168 : decode cX3_step 168 = .ok (.aload_n 0, 1) := dk_42 (dk_at dksX3_step_7 5 rfl rfl)
theorem dX3_step_169 : decode cX3_step 169 = .ok (.aload_n 3, 1) := dk_45 (dk_at dksX3_step_7 6 rfl rfl)
theorem dX3_step_170 : decode cX3_step 170 = .ok (.invokevirtual 219, 3) := dk_182 0 219 (dk_at dksX3_step_7 7 rfl rfl)
theorem dX3_step_173 : decode cX3_step 173 = .ok (.putfield 223, 3) := dk_181 0 223 (dk_at dksX3_step_7 10 rfl rfl)
theorem dX3_step_176 : decode cX3_step 176 = .ok (.aload_n 3, 1) := dk_45 (dk_at dksX3_step_7 13 rfl rfl)
theorem dX3_step_177 : decode cX3_step 177 = .ok (.ifnull 13, 3) := dk_198 0 13 (dk_at dksX3_step_7 14 rfl rfl)
theorem dX3_step_180 : decode cX3_step 180 = .ok (.aload_n 3, 1) := dk_45 (dk_at dksX3_step_7 17 rfl rfl)
theorem dX3_step_181 : decode cX3_step 181 = .ok (.getfield 200, 3) := dk_180 0 200 (dk_at dksX3_step_7 18 rfl rfl)
theorem dX3_step_184 : decode cX3_step 184 = .ok (.aload 4, 2) := dk_25 4 (dk_at dksX3_step_7 21 rfl rfl)
theorem dX3_step_186 : decode cX3_step 186 = .ok (.invokevirtual 130, 3) := dk_182 0 130 (dk_at dksX3_step_8 0 rfl rfl)
theorem dX3_step_189 : decode cX3_step 189 = .ok (.pop, 1) := dk_87 (dk_at dksX3_step_8 3 rfl rfl)
theorem dX3_step_190 : decode cX3_step 190 = .ok (.return_, 1) := dk_177 (dk_at dksX3_step_8 4 rfl rfl)
abbrev cX3_stepOf : ByteArray := prog_10_method_19_code
def yX3_stepOf : MethodName := ⟨RX3, "stepOf", "(LSleepWork$Task;)I"⟩
def dkwX3_stepOf_1 : List UInt8 := [154, 0, 9, 42, 8, 28, 182, 0, 75, 29, 172]
abbrev dktX3_stepOf_1 : List UInt8 := dkwX3_stepOf_1 ++ []
def dkwX3_stepOf_0 : List UInt8 := [42, 4, 182, 0, 68, 61, 42, 180, 0, 9, 28, 182, 0, 72, 62, 43, 198, 0, 17, 43, 29, 182, 0, 193]
abbrev dktX3_stepOf_0 : List UInt8 := dkwX3_stepOf_0 ++ dktX3_stepOf_1
theorem dksX3_stepOf_0 : cX3_stepOf.data.toList.drop 0 = dktX3_stepOf_0 := by decide +kernel
theorem dksX3_stepOf_1 : cX3_stepOf.data.toList.drop 24 = dktX3_stepOf_1 := dk_seg dksX3_stepOf_0 24 rfl rfl
theorem dX3_stepOf_0 : decode cX3_stepOf 0 = .ok (.aload_n 0, 1) := dk_42 (dk_at dksX3_stepOf_0 0 rfl rfl)
theorem dX3_stepOf_1 : decode cX3_stepOf 1 = .ok (.iconst 1, 1) := dk_4 (dk_at dksX3_stepOf_0 1 rfl rfl)
theorem dX3_stepOf_2 : decode cX3_stepOf 2 = .ok (.invokevirtual 68, 3) := dk_182 0 68 (dk_at dksX3_stepOf_0 2 rfl rfl)
theorem dX3_stepOf_5 : decode cX3_stepOf 5 = .ok (.istore_n 2, 1) := dk_61 (dk_at dksX3_stepOf_0 5 rfl rfl)
theorem dX3_stepOf_6 : decode cX3_stepOf 6 = .ok (.aload_n 0, 1) := dk_42 (dk_at dksX3_stepOf_0 6 rfl rfl)
theorem dX3_stepOf_7 : decode cX3_stepOf 7 = .ok (.getfield 9, 3) := dk_180 0 9 (dk_at dksX3_stepOf_0 7 rfl rfl)
theorem dX3_stepOf_10 : decode cX3_stepOf 10 = .ok (.iload_n 2, 1) := dk_28 (dk_at dksX3_stepOf_0 10 rfl rfl)
theorem dX3_stepOf_11 : decode cX3_stepOf 11 = .ok (.invokevirtual 72, 3) := dk_182 0 72 (dk_at dksX3_stepOf_0 11 rfl rfl)
theorem dX3_stepOf_14 : decode cX3_stepOf 14 = .ok (.istore_n 3, 1) := dk_62 (dk_at dksX3_stepOf_0 14 rfl rfl)
theorem dX3_stepOf_15 : decode cX3_stepOf 15 = .ok (.aload_n 1, 1) := dk_43 (dk_at dksX3_stepOf_0 15 rfl rfl)
theorem dX3_stepOf_16 : decode cX3_stepOf 16 = .ok (.ifnull 17, 3) := dk_198 0 17 (dk_at dksX3_stepOf_0 16 rfl rfl)
theorem dX3_stepOf_19 : decode cX3_stepOf 19 = .ok (.aload_n 1, 1) := dk_43 (dk_at dksX3_stepOf_0 19 rfl rfl)
theorem dX3_stepOf_20 : decode cX3_stepOf 20 = .ok (.iload_n 3, 1) := dk_29 (dk_at dksX3_stepOf_0 20 rfl rfl)
theorem dX3_stepOf_21 : decode cX3_stepOf 21 = .ok (.invokevirtual 193, 3) := dk_182 0 193 (dk_at dksX3_stepOf_0 21 rfl rfl)
theorem dX3_stepOf_24 : decode cX3_stepOf 24 = .ok (.ifCond .ne 9, 3) := dk_154 0 9 (dk_at dksX3_stepOf_1 0 rfl rfl)
theorem dX3_stepOf_27 : decode cX3_stepOf 27 = .ok (.aload_n 0, 1) := dk_42 (dk_at dksX3_stepOf_1 3 rfl rfl)
theorem dX3_stepOf_28 : decode cX3_stepOf 28 = .ok (.iconst 5, 1) := dk_8 (dk_at dksX3_stepOf_1 4 rfl rfl)
theorem dX3_stepOf_29 : decode cX3_stepOf 29 = .ok (.iload_n 2, 1) := dk_28 (dk_at dksX3_stepOf_1 5 rfl rfl)
theorem dX3_stepOf_30 : decode cX3_stepOf 30 = .ok (.invokevirtual 75, 3) := dk_182 0 75 (dk_at dksX3_stepOf_1 6 rfl rfl)
theorem dX3_stepOf_33 : decode cX3_stepOf 33 = .ok (.iload_n 3, 1) := dk_29 (dk_at dksX3_stepOf_1 9 rfl rfl)
theorem dX3_stepOf_34 : decode cX3_stepOf 34 = .ok (.ireturn, 1) := dk_172 (dk_at dksX3_stepOf_1 10 rfl rfl)
abbrev cX3_man : ByteArray := prog_10_method_21_code
def yX3_man : MethodName := ⟨RX3, "man", "()V"⟩
def dkwX3_man_4 : List UInt8 := [192, 0, 153, 182, 0, 219, 181, 0, 238, 42, 180, 0, 83, 180, 0, 226, 43, 182, 0, 130, 87, 177]
abbrev dktX3_man_4 : List UInt8 := dkwX3_man_4 ++ []
def dkwX3_man_3 : List UInt8 := [181, 0, 235, 43, 42, 28, 156, 0, 7, 1, 167, 0, 17, 42, 180, 0, 83, 180, 0, 150, 28, 182, 0, 196]
abbrev dktX3_man_3 : List UInt8 := dkwX3_man_3 ++ dktX3_man_4
def dkwX3_man_2 : List UInt8 := [182, 0, 62, 153, 0, 54, 42, 182, 0, 59, 42, 42, 180, 0, 83, 180, 0, 150, 182, 0, 143, 61, 43, 28]
abbrev dktX3_man_2 : List UInt8 := dkwX3_man_2 ++ dktX3_man_3
def dkwX3_man_1 : List UInt8 := [183, 0, 231, 76, 43, 42, 42, 180, 0, 83, 180, 0, 109, 182, 0, 143, 181, 0, 232, 42, 16, 9]
abbrev dktX3_man_1 : List UInt8 := dkwX3_man_1 ++ dktX3_man_2
def dkwX3_man_0 : List UInt8 := [42, 42, 180, 0, 83, 180, 0, 226, 182, 0, 113, 16, 6, 182, 0, 118, 187, 0, 229, 89, 42, 182, 0, 123]
abbrev dktX3_man_0 : List UInt8 := dkwX3_man_0 ++ dktX3_man_1
theorem dksX3_man_0 : cX3_man.data.toList.drop 0 = dktX3_man_0 := by decide +kernel
theorem dksX3_man_1 : cX3_man.data.toList.drop 24 = dktX3_man_1 := dk_seg dksX3_man_0 24 rfl rfl
theorem dksX3_man_2 : cX3_man.data.toList.drop 46 = dktX3_man_2 := dk_seg dksX3_man_1 22 rfl rfl
theorem dksX3_man_3 : cX3_man.data.toList.drop 70 = dktX3_man_3 := dk_seg dksX3_man_2 24 rfl rfl
theorem dksX3_man_4 : cX3_man.data.toList.drop 94 = dktX3_man_4 := dk_seg dksX3_man_3 24 rfl rfl
theorem dX3_man_0 : decode cX3_man 0 = .ok (.aload_n 0, 1) := dk_42 (dk_at dksX3_man_0 0 rfl rfl)
theorem dX3_man_1 : decode cX3_man 1 = .ok (.aload_n 0, 1) := dk_42 (dk_at dksX3_man_0 1 rfl rfl)
theorem dX3_man_2 : decode cX3_man 2 = .ok (.getfield 83, 3) := dk_180 0 83 (dk_at dksX3_man_0 2 rfl rfl)
theorem dX3_man_5 : decode cX3_man 5 = .ok (.getfield 226, 3) := dk_180 0 226 (dk_at dksX3_man_0 5 rfl rfl)
theorem dX3_man_8 : decode cX3_man 8 = .ok (.invokevirtual 113, 3) := dk_182 0 113 (dk_at dksX3_man_0 8 rfl rfl)
theorem dX3_man_11 : decode cX3_man 11 = .ok (.bipush 6, 2) := dk_16 6 (dk_at dksX3_man_0 11 rfl rfl)
theorem dX3_man_13 : decode cX3_man 13 = .ok (.invokevirtual 118, 3) := dk_182 0 118 (dk_at dksX3_man_0 13 rfl rfl)
theorem dX3_man_16 : decode cX3_man 16 = .ok (.new 229, 3) := dk_187 0 229 (dk_at dksX3_man_0 16 rfl rfl)
theorem dX3_man_19 : decode cX3_man 19 = .ok (.dup, 1) := dk_89 (dk_at dksX3_man_0 19 rfl rfl)
theorem dX3_man_20 : decode cX3_man 20 = .ok (.aload_n 0, 1) := dk_42 (dk_at dksX3_man_0 20 rfl rfl)
theorem dX3_man_21 : decode cX3_man 21 = .ok (.invokevirtual 123, 3) := dk_182 0 123 (dk_at dksX3_man_0 21 rfl rfl)
theorem dX3_man_24 : decode cX3_man 24 = .ok (.invokespecial 231, 3) := dk_183 0 231 (dk_at dksX3_man_1 0 rfl rfl)
theorem dX3_man_27 : decode cX3_man 27 = .ok (.astore_n 1, 1) := dk_76 (dk_at dksX3_man_1 3 rfl rfl)
theorem dX3_man_28 : decode cX3_man 28 = .ok (.aload_n 1, 1) := dk_43 (dk_at dksX3_man_1 4 rfl rfl)
theorem dX3_man_29 : decode cX3_man 29 = .ok (.aload_n 0, 1) := dk_42 (dk_at dksX3_man_1 5 rfl rfl)
theorem dX3_man_30 : decode cX3_man 30 = .ok (.aload_n 0, 1) := dk_42 (dk_at dksX3_man_1 6 rfl rfl)
theorem dX3_man_31 : decode cX3_man 31 = .ok (.getfield 83, 3) := dk_180 0 83 (dk_at dksX3_man_1 7 rfl rfl)
theorem dX3_man_34 : decode cX3_man 34 = .ok (.getfield 109, 3) := dk_180 0 109 (dk_at dksX3_man_1 10 rfl rfl)
theorem dX3_man_37 : decode cX3_man 37 = .ok (.invokevirtual 143, 3) := dk_182 0 143 (dk_at dksX3_man_1 13 rfl rfl)
theorem dX3_man_40 : decode cX3_man 40 = .ok (.putfield 232, 3) := dk_181 0 232 (dk_at dksX3_man_1 16 rfl rfl)
theorem dX3_man_43 : decode cX3_man 43 = .ok (.aload_n 0, 1) := dk_42 (dk_at dksX3_man_1 19 rfl rfl)
theorem dX3_man_44 : decode cX3_man 44 = .ok (.bipush 9, 2) := dk_16 9 (dk_at dksX3_man_1 20 rfl rfl)
theorem dX3_man_46 : decode cX3_man 46 = .ok (.invokevirtual 62, 3) := dk_182 0 62 (dk_at dksX3_man_2 0 rfl rfl)
theorem dX3_man_49 : decode cX3_man 49 = .ok (.ifCond .eq 54, 3) := dk_153 0 54 (dk_at dksX3_man_2 3 rfl rfl)
theorem dX3_man_52 : decode cX3_man 52 = .ok (.aload_n 0, 1) := dk_42 (dk_at dksX3_man_2 6 rfl rfl)
theorem dX3_man_53 : decode cX3_man 53 = .ok (.invokevirtual 59, 3) := dk_182 0 59 (dk_at dksX3_man_2 7 rfl rfl)
theorem dX3_man_56 : decode cX3_man 56 = .ok (.aload_n 0, 1) := dk_42 (dk_at dksX3_man_2 10 rfl rfl)
theorem dX3_man_57 : decode cX3_man 57 = .ok (.aload_n 0, 1) := dk_42 (dk_at dksX3_man_2 11 rfl rfl)
theorem dX3_man_58 : decode cX3_man 58 = .ok (.getfield 83, 3) := dk_180 0 83 (dk_at dksX3_man_2 12 rfl rfl)
theorem dX3_man_61 : decode cX3_man 61 = .ok (.getfield 150, 3) := dk_180 0 150 (dk_at dksX3_man_2 15 rfl rfl)
theorem dX3_man_64 : decode cX3_man 64 = .ok (.invokevirtual 143, 3) := dk_182 0 143 (dk_at dksX3_man_2 18 rfl rfl)
theorem dX3_man_67 : decode cX3_man 67 = .ok (.istore_n 2, 1) := dk_61 (dk_at dksX3_man_2 21 rfl rfl)
theorem dX3_man_68 : decode cX3_man 68 = .ok (.aload_n 1, 1) := dk_43 (dk_at dksX3_man_2 22 rfl rfl)
theorem dX3_man_69 : decode cX3_man 69 = .ok (.iload_n 2, 1) := dk_28 (dk_at dksX3_man_2 23 rfl rfl)
theorem dX3_man_70 : decode cX3_man 70 = .ok (.putfield 235, 3) := dk_181 0 235 (dk_at dksX3_man_3 0 rfl rfl)
theorem dX3_man_73 : decode cX3_man 73 = .ok (.aload_n 1, 1) := dk_43 (dk_at dksX3_man_3 3 rfl rfl)
theorem dX3_man_74 : decode cX3_man 74 = .ok (.aload_n 0, 1) := dk_42 (dk_at dksX3_man_3 4 rfl rfl)
theorem dX3_man_75 : decode cX3_man 75 = .ok (.iload_n 2, 1) := dk_28 (dk_at dksX3_man_3 5 rfl rfl)
theorem dX3_man_76 : decode cX3_man 76 = .ok (.ifCond .ge 7, 3) := dk_156 0 7 (dk_at dksX3_man_3 6 rfl rfl)
theorem dX3_man_79 : decode cX3_man 79 = .ok (.aconst_null, 1) := dk_1 (dk_at dksX3_man_3 9 rfl rfl)
theorem dX3_man_80 : decode cX3_man 80 = .ok (.goto 17, 3) := dk_167 0 17 (dk_at dksX3_man_3 10 rfl rfl)
theorem dX3_man_83 : decode cX3_man 83 = .ok (.aload_n 0, 1) := dk_42 (dk_at dksX3_man_3 13 rfl rfl)
theorem dX3_man_84 : decode cX3_man 84 = .ok (.getfield 83, 3) := dk_180 0 83 (dk_at dksX3_man_3 14 rfl rfl)
theorem dX3_man_87 : decode cX3_man 87 = .ok (.getfield 150, 3) := dk_180 0 150 (dk_at dksX3_man_3 17 rfl rfl)
theorem dX3_man_90 : decode cX3_man 90 = .ok (.iload_n 2, 1) := dk_28 (dk_at dksX3_man_3 20 rfl rfl)
theorem dX3_man_91 : decode cX3_man 91 = .ok (.invokevirtual 196, 3) := dk_182 0 196 (dk_at dksX3_man_3 21 rfl rfl)
theorem dX3_man_94 : decode cX3_man 94 = .ok (.checkcast 153, 3) := dk_192 0 153 (dk_at dksX3_man_4 0 rfl rfl)
theorem dX3_man_97 : decode cX3_man 97 = .ok (.invokevirtual 219, 3) := dk_182 0 219 (dk_at dksX3_man_4 3 rfl rfl)
theorem dX3_man_100 : decode cX3_man 100 = .ok (.putfield 238, 3) := dk_181 0 238 (dk_at dksX3_man_4 6 rfl rfl)
theorem dX3_man_103 : decode cX3_man 103 = .ok (.aload_n 0, 1) := dk_42 (dk_at dksX3_man_4 9 rfl rfl)
theorem dX3_man_104 : decode cX3_man 104 = .ok (.getfield 83, 3) := dk_180 0 83 (dk_at dksX3_man_4 10 rfl rfl)
theorem dX3_man_107 : decode cX3_man 107 = .ok (.getfield 226, 3) := dk_180 0 226 (dk_at dksX3_man_4 13 rfl rfl)
theorem dX3_man_110 : decode cX3_man 110 = .ok (.aload_n 1, 1) := dk_43 (dk_at dksX3_man_4 16 rfl rfl)
theorem dX3_man_111 : decode cX3_man 111 = .ok (.invokevirtual 130, 3) := dk_182 0 130 (dk_at dksX3_man_4 17 rfl rfl)
theorem dX3_man_114 : decode cX3_man 114 = .ok (.pop, 1) := dk_87 (dk_at dksX3_man_4 20 rfl rfl)
theorem dX3_man_115 : decode cX3_man 115 = .ok (.return_, 1) := dk_177 (dk_at dksX3_man_4 21 rfl rfl)
abbrev cX3_law : ByteArray := prog_10_method_22_code
def yX3_law : MethodName := ⟨RX3, "law", "()V"⟩
def dkwX3_law_7 : List UInt8 := [182, 0, 196, 192, 0, 229, 44, 181, 1, 10, 177]
abbrev dktX3_law_7 : List UInt8 := dkwX3_law_7 ++ []
def dkwX3_law_6 : List UInt8 := [180, 1, 7, 44, 180, 0, 246, 42, 182, 0, 253, 83, 27, 155, 0, 21, 42, 180, 0, 83, 180, 0, 226, 27]
abbrev dktX3_law_6 : List UInt8 := dkwX3_law_6 ++ dktX3_law_7
def dkwX3_law_5 : List UInt8 := [182, 0, 253, 83, 42, 16, 13, 182, 1, 4, 44, 89, 180, 0, 246, 4, 96, 181, 0, 246, 167, 255, 171, 44]
abbrev dktX3_law_5 : List UInt8 := dkwX3_law_5 ++ dktX3_law_6
def dkwX3_law_4 : List UInt8 := [180, 0, 246, 42, 182, 0, 253, 83, 42, 16, 12, 182, 1, 4, 44, 180, 1, 7, 44, 180, 0, 246, 42]
abbrev dktX3_law_4 : List UInt8 := dkwX3_law_4 ++ dktX3_law_5
def dkwX3_law_3 : List UInt8 := [180, 0, 249, 44, 180, 0, 246, 42, 182, 0, 253, 83, 42, 16, 60, 182, 0, 105, 44, 180, 1, 1, 44]
abbrev dktX3_law_3 : List UInt8 := dkwX3_law_3 ++ dktX3_law_4
def dkwX3_law_2 : List UInt8 := [16, 61, 182, 0, 105, 42, 16, 11, 182, 0, 62, 153, 0, 82, 42, 44, 180, 0, 246, 7, 182, 0, 118, 44]
abbrev dktX3_law_2 : List UInt8 := dkwX3_law_2 ++ dktX3_law_3
def dkwX3_law_1 : List UInt8 := [181, 0, 241, 42, 42, 180, 0, 83, 180, 0, 226, 182, 0, 143, 60, 187, 0, 243, 89, 183, 0, 245, 77, 42]
abbrev dktX3_law_1 : List UInt8 := dkwX3_law_1 ++ dktX3_law_2
def dkwX3_law_0 : List UInt8 := [42, 42, 180, 0, 83, 180, 0, 241, 16, 8, 182, 0, 118, 42, 180, 0, 83, 89, 180, 0, 241, 4, 96]
abbrev dktX3_law_0 : List UInt8 := dkwX3_law_0 ++ dktX3_law_1
theorem dksX3_law_0 : cX3_law.data.toList.drop 0 = dktX3_law_0 := by decide +kernel
theorem dksX3_law_1 : cX3_law.data.toList.drop 23 = dktX3_law_1 := dk_seg dksX3_law_0 23 rfl rfl
theorem dksX3_law_2 : cX3_law.data.toList.drop 47 = dktX3_law_2 := dk_seg dksX3_law_1 24 rfl rfl
theorem dksX3_law_3 : cX3_law.data.toList.drop 71 = dktX3_law_3 := dk_seg dksX3_law_2 24 rfl rfl
theorem dksX3_law_4 : cX3_law.data.toList.drop 94 = dktX3_law_4 := dk_seg dksX3_law_3 23 rfl rfl
theorem dksX3_law_5 : cX3_law.data.toList.drop 117 = dktX3_law_5 := dk_seg dksX3_law_4 23 rfl rfl
theorem dksX3_law_6 : cX3_law.data.toList.drop 141 = dktX3_law_6 := dk_seg dksX3_law_5 24 rfl rfl
theorem dksX3_law_7 : cX3_law.data.toList.drop 165 = dktX3_law_7 := dk_seg dksX3_law_6 24 rfl rfl
theorem dX3_law_0 : decode cX3_law 0 = .ok (.aload_n 0, 1) := dk_42 (dk_at dksX3_law_0 0 rfl rfl)
theorem dX3_law_1 : decode cX3_law 1 = .ok (.aload_n 0, 1) := dk_42 (dk_at dksX3_law_0 1 rfl rfl)
theorem dX3_law_2 : decode cX3_law 2 = .ok (.getfield 83, 3) := dk_180 0 83 (dk_at dksX3_law_0 2 rfl rfl)
theorem dX3_law_5 : decode cX3_law 5 = .ok (.getfield 241, 3) := dk_180 0 241 (dk_at dksX3_law_0 5 rfl rfl)
theorem dX3_law_8 : decode cX3_law 8 = .ok (.bipush 8, 2) := dk_16 8 (dk_at dksX3_law_0 8 rfl rfl)
theorem dX3_law_10 : decode cX3_law 10 = .ok (.invokevirtual 118, 3) := dk_182 0 118 (dk_at dksX3_law_0 10 rfl rfl)
theorem dX3_law_13 : decode cX3_law 13 = .ok (.aload_n 0, 1) := dk_42 (dk_at dksX3_law_0 13 rfl rfl)
theorem dX3_law_14 : decode cX3_law 14 = .ok (.getfield 83, 3) := dk_180 0 83 (dk_at dksX3_law_0 14 rfl rfl)
theorem dX3_law_17 : decode cX3_law 17 = .ok (.dup, 1) := dk_89 (dk_at dksX3_law_0 17 rfl rfl)
theorem dX3_law_18 : decode cX3_law 18 = .ok (.getfield 241, 3) := dk_180 0 241 (dk_at dksX3_law_0 18 rfl rfl)
theorem dX3_law_21 : decode cX3_law 21 = .ok (.iconst 1, 1) := dk_4 (dk_at dksX3_law_0 21 rfl rfl)
theorem dX3_law_22 : decode cX3_law 22 = .ok (.iadd, 1) := dk_96 (dk_at dksX3_law_0 22 rfl rfl)
theorem dX3_law_23 : decode cX3_law 23 = .ok (.putfield 241, 3) := dk_181 0 241 (dk_at dksX3_law_1 0 rfl rfl)
theorem dX3_law_26 : decode cX3_law 26 = .ok (.aload_n 0, 1) := dk_42 (dk_at dksX3_law_1 3 rfl rfl)
theorem dX3_law_27 : decode cX3_law 27 = .ok (.aload_n 0, 1) := dk_42 (dk_at dksX3_law_1 4 rfl rfl)
theorem dX3_law_28 : decode cX3_law 28 = .ok (.getfield 83, 3) := dk_180 0 83 (dk_at dksX3_law_1 5 rfl rfl)
theorem dX3_law_31 : decode cX3_law 31 = .ok (.getfield 226, 3) := dk_180 0 226 (dk_at dksX3_law_1 8 rfl rfl)
theorem dX3_law_34 : decode cX3_law 34 = .ok (.invokevirtual 143, 3) := dk_182 0 143 (dk_at dksX3_law_1 11 rfl rfl)
theorem dX3_law_37 : decode cX3_law 37 = .ok (.istore_n 1, 1) := dk_60 (dk_at dksX3_law_1 14 rfl rfl)
theorem dX3_law_38 : decode cX3_law 38 = .ok (.new 243, 3) := dk_187 0 243 (dk_at dksX3_law_1 15 rfl rfl)
theorem dX3_law_41 : decode cX3_law 41 = .ok (.dup, 1) := dk_89 (dk_at dksX3_law_1 18 rfl rfl)
theorem dX3_law_42 : decode cX3_law 42 = .ok (.invokespecial 245, 3) := dk_183 0 245 (dk_at dksX3_law_1 19 rfl rfl)
theorem dX3_law_45 : decode cX3_law 45 = .ok (.astore_n 2, 1) := dk_77 (dk_at dksX3_law_1 22 rfl rfl)
theorem dX3_law_46 : decode cX3_law 46 = .ok (.aload_n 0, 1) := dk_42 (dk_at dksX3_law_1 23 rfl rfl)
theorem dX3_law_47 : decode cX3_law 47 = .ok (.bipush 61, 2) := dk_16 61 (dk_at dksX3_law_2 0 rfl rfl)
theorem dX3_law_49 : decode cX3_law 49 = .ok (.invokevirtual 105, 3) := dk_182 0 105 (dk_at dksX3_law_2 2 rfl rfl)
theorem dX3_law_52 : decode cX3_law 52 = .ok (.aload_n 0, 1) := dk_42 (dk_at dksX3_law_2 5 rfl rfl)
theorem dX3_law_53 : decode cX3_law 53 = .ok (.bipush 11, 2) := dk_16 11 (dk_at dksX3_law_2 6 rfl rfl)
theorem dX3_law_55 : decode cX3_law 55 = .ok (.invokevirtual 62, 3) := dk_182 0 62 (dk_at dksX3_law_2 8 rfl rfl)
theorem dX3_law_58 : decode cX3_law 58 = .ok (.ifCond .eq 82, 3) := dk_153 0 82 (dk_at dksX3_law_2 11 rfl rfl)
theorem dX3_law_61 : decode cX3_law 61 = .ok (.aload_n 0, 1) := dk_42 (dk_at dksX3_law_2 14 rfl rfl)
theorem dX3_law_62 : decode cX3_law 62 = .ok (.aload_n 2, 1) := dk_44 (dk_at dksX3_law_2 15 rfl rfl)
theorem dX3_law_63 : decode cX3_law 63 = .ok (.getfield 246, 3) := dk_180 0 246 (dk_at dksX3_law_2 16 rfl rfl)
theorem dX3_law_66 : decode cX3_law 66 = .ok (.iconst 4, 1) := dk_7 (dk_at dksX3_law_2 19 rfl rfl)
theorem dX3_law_67 : decode cX3_law 67 = .ok (.invokevirtual 118, 3) := dk_182 0 118 (dk_at dksX3_law_2 20 rfl rfl)
theorem dX3_law_70 : decode cX3_law 70 = .ok (.aload_n 2, 1) := dk_44 (dk_at dksX3_law_2 23 rfl rfl)
theorem dX3_law_71 : decode cX3_law 71 = .ok (.getfield 249, 3) := dk_180 0 249 (dk_at dksX3_law_3 0 rfl rfl)
theorem dX3_law_74 : decode cX3_law 74 = .ok (.aload_n 2, 1) := dk_44 (dk_at dksX3_law_3 3 rfl rfl)
theorem dX3_law_75 : decode cX3_law 75 = .ok (.getfield 246, 3) := dk_180 0 246 (dk_at dksX3_law_3 4 rfl rfl)
theorem dX3_law_78 : decode cX3_law 78 = .ok (.aload_n 0, 1) := dk_42 (dk_at dksX3_law_3 7 rfl rfl)
theorem dX3_law_79 : decode cX3_law 79 = .ok (.invokevirtual 253, 3) := dk_182 0 253 (dk_at dksX3_law_3 8 rfl rfl)
theorem dX3_law_82 : decode cX3_law 82 = .ok (.aastore, 1) := dk_83 (dk_at dksX3_law_3 11 rfl rfl)
theorem dX3_law_83 : decode cX3_law 83 = .ok (.aload_n 0, 1) := dk_42 (dk_at dksX3_law_3 12 rfl rfl)
theorem dX3_law_84 : decode cX3_law 84 = .ok (.bipush 60, 2) := dk_16 60 (dk_at dksX3_law_3 13 rfl rfl)
theorem dX3_law_86 : decode cX3_law 86 = .ok (.invokevirtual 105, 3) := dk_182 0 105 (dk_at dksX3_law_3 15 rfl rfl)
theorem dX3_law_89 : decode cX3_law 89 = .ok (.aload_n 2, 1) := dk_44 (dk_at dksX3_law_3 18 rfl rfl)
theorem dX3_law_90 : decode cX3_law 90 = .ok (.getfield 257, 3) := dk_180 1 1 (dk_at dksX3_law_3 19 rfl rfl)
theorem dX3_law_93 : decode cX3_law 93 = .ok (.aload_n 2, 1) := dk_44 (dk_at dksX3_law_3 22 rfl rfl)
theorem dX3_law_94 : decode cX3_law 94 = .ok (.getfield 246, 3) := dk_180 0 246 (dk_at dksX3_law_4 0 rfl rfl)
theorem dX3_law_97 : decode cX3_law 97 = .ok (.aload_n 0, 1) := dk_42 (dk_at dksX3_law_4 3 rfl rfl)
theorem dX3_law_98 : decode cX3_law 98 = .ok (.invokevirtual 253, 3) := dk_182 0 253 (dk_at dksX3_law_4 4 rfl rfl)
theorem dX3_law_101 : decode cX3_law 101 = .ok (.aastore, 1) := dk_83 (dk_at dksX3_law_4 7 rfl rfl)
theorem dX3_law_102 : decode cX3_law 102 = .ok (.aload_n 0, 1) := dk_42 (dk_at dksX3_law_4 8 rfl rfl)
theorem dX3_law_103 : decode cX3_law 103 = .ok (.bipush 12, 2) := dk_16 12 (dk_at dksX3_law_4 9 rfl rfl)
theorem dX3_law_105 : decode cX3_law 105 = .ok (.invokevirtual 260, 3) := dk_182 1 4 (dk_at dksX3_law_4 11 rfl rfl)
theorem dX3_law_108 : decode cX3_law 108 = .ok (.aload_n 2, 1) := dk_44 (dk_at dksX3_law_4 14 rfl rfl)
theorem dX3_law_109 : decode cX3_law 109 = .ok (.getfield 263, 3) := dk_180 1 7 (dk_at dksX3_law_4 15 rfl rfl)
theorem dX3_law_112 : decode cX3_law 112 = .ok (.aload_n 2, 1) := dk_44 (dk_at dksX3_law_4 18 rfl rfl)
theorem dX3_law_113 : decode cX3_law 113 = .ok (.getfield 246, 3) := dk_180 0 246 (dk_at dksX3_law_4 19 rfl rfl)
theorem dX3_law_116 : decode cX3_law 116 = .ok (.aload_n 0, 1) := dk_42 (dk_at dksX3_law_4 22 rfl rfl)
theorem dX3_law_117 : decode cX3_law 117 = .ok (.invokevirtual 253, 3) := dk_182 0 253 (dk_at dksX3_law_5 0 rfl rfl)
theorem dX3_law_120 : decode cX3_law 120 = .ok (.aastore, 1) := dk_83 (dk_at dksX3_law_5 3 rfl rfl)
theorem dX3_law_121 : decode cX3_law 121 = .ok (.aload_n 0, 1) := dk_42 (dk_at dksX3_law_5 4 rfl rfl)
theorem dX3_law_122 : decode cX3_law 122 = .ok (.bipush 13, 2) := dk_16 13 (dk_at dksX3_law_5 5 rfl rfl)
theorem dX3_law_124 : decode cX3_law 124 = .ok (.invokevirtual 260, 3) := dk_182 1 4 (dk_at dksX3_law_5 7 rfl rfl)
theorem dX3_law_127 : decode cX3_law 127 = .ok (.aload_n 2, 1) := dk_44 (dk_at dksX3_law_5 10 rfl rfl)
theorem dX3_law_128 : decode cX3_law 128 = .ok (.dup, 1) := dk_89 (dk_at dksX3_law_5 11 rfl rfl)
theorem dX3_law_129 : decode cX3_law 129 = .ok (.getfield 246, 3) := dk_180 0 246 (dk_at dksX3_law_5 12 rfl rfl)
theorem dX3_law_132 : decode cX3_law 132 = .ok (.iconst 1, 1) := dk_4 (dk_at dksX3_law_5 15 rfl rfl)
theorem dX3_law_133 : decode cX3_law 133 = .ok (.iadd, 1) := dk_96 (dk_at dksX3_law_5 16 rfl rfl)
theorem dX3_law_134 : decode cX3_law 134 = .ok (.putfield 246, 3) := dk_181 0 246 (dk_at dksX3_law_5 17 rfl rfl)
theorem dX3_law_137 : decode cX3_law 137 = .ok (.goto (-85), 3) := dk_167 255 171 (dk_at dksX3_law_5 20 rfl rfl)
theorem dX3_law_140 : decode cX3_law 140 = .ok (.aload_n 2, 1) := dk_44 (dk_at dksX3_law_5 23 rfl rfl)
theorem dX3_law_141 : decode cX3_law 141 = .ok (.getfield 263, 3) := dk_180 1 7 (dk_at dksX3_law_6 0 rfl rfl)
theorem dX3_law_144 : decode cX3_law 144 = .ok (.aload_n 2, 1) := dk_44 (dk_at dksX3_law_6 3 rfl rfl)
theorem dX3_law_145 : decode cX3_law 145 = .ok (.getfield 246, 3) := dk_180 0 246 (dk_at dksX3_law_6 4 rfl rfl)
theorem dX3_law_148 : decode cX3_law 148 = .ok (.aload_n 0, 1) := dk_42 (dk_at dksX3_law_6 7 rfl rfl)
theorem dX3_law_149 : decode cX3_law 149 = .ok (.invokevirtual 253, 3) := dk_182 0 253 (dk_at dksX3_law_6 8 rfl rfl)
theorem dX3_law_152 : decode cX3_law 152 = .ok (.aastore, 1) := dk_83 (dk_at dksX3_law_6 11 rfl rfl)
theorem dX3_law_153 : decode cX3_law 153 = .ok (.iload_n 1, 1) := dk_27 (dk_at dksX3_law_6 12 rfl rfl)
theorem dX3_law_154 : decode cX3_law 154 = .ok (.ifCond .lt 21, 3) := dk_155 0 21 (dk_at dksX3_law_6 13 rfl rfl)
theorem dX3_law_157 : decode cX3_law 157 = .ok (.aload_n 0, 1) := dk_42 (dk_at dksX3_law_6 16 rfl rfl)
theorem dX3_law_158 : decode cX3_law 158 = .ok (.getfield 83, 3) := dk_180 0 83 (dk_at dksX3_law_6 17 rfl rfl)
theorem dX3_law_161 : decode cX3_law 161 = .ok (.getfield 226, 3) := dk_180 0 226 (dk_at dksX3_law_6 20 rfl rfl)
theorem dX3_law_164 : decode cX3_law 164 = .ok (.iload_n 1, 1) := dk_27 (dk_at dksX3_law_6 23 rfl rfl)
theorem dX3_law_165 : decode cX3_law 165 = .ok (.invokevirtual 196, 3) := dk_182 0 196 (dk_at dksX3_law_7 0 rfl rfl)
theorem dX3_law_168 : decode cX3_law 168 = .ok (.checkcast 229, 3) := dk_192 0 229 (dk_at dksX3_law_7 3 rfl rfl)
theorem dX3_law_171 : decode cX3_law 171 = .ok (.aload_n 2, 1) := dk_44 (dk_at dksX3_law_7 6 rfl rfl)
theorem dX3_law_172 : decode cX3_law 172 = .ok (.putfield 266, 3) := dk_181 1 10 (dk_at dksX3_law_7 7 rfl rfl)
theorem dX3_law_175 : decode cX3_law 175 = .ok (.return_, 1) := dk_177 (dk_at dksX3_law_7 10 rfl rfl)
abbrev cX3_sign : ByteArray := prog_10_method_9_code
def yX3_sign : MethodName := ⟨RX3, "sign", "(I)V"⟩
def dkwX3_sign_0 : List UInt8 := [42, 27, 182, 0, 55, 154, 0, 9, 42, 4, 182, 0, 48, 191, 42, 182, 0, 59, 177]
abbrev dktX3_sign_0 : List UInt8 := dkwX3_sign_0 ++ []
theorem dksX3_sign_0 : cX3_sign.data.toList.drop 0 = dktX3_sign_0 := by decide +kernel
theorem dX3_sign_0 : decode cX3_sign 0 = .ok (.aload_n 0, 1) := dk_42 (dk_at dksX3_sign_0 0 rfl rfl)
theorem dX3_sign_1 : decode cX3_sign 1 = .ok (.iload_n 1, 1) := dk_27 (dk_at dksX3_sign_0 1 rfl rfl)
theorem dX3_sign_2 : decode cX3_sign 2 = .ok (.invokevirtual 55, 3) := dk_182 0 55 (dk_at dksX3_sign_0 2 rfl rfl)
theorem dX3_sign_5 : decode cX3_sign 5 = .ok (.ifCond .ne 9, 3) := dk_154 0 9 (dk_at dksX3_sign_0 5 rfl rfl)
theorem dX3_sign_8 : decode cX3_sign 8 = .ok (.aload_n 0, 1) := dk_42 (dk_at dksX3_sign_0 8 rfl rfl)
theorem dX3_sign_9 : decode cX3_sign 9 = .ok (.iconst 1, 1) := dk_4 (dk_at dksX3_sign_0 9 rfl rfl)
theorem dX3_sign_10 : decode cX3_sign 10 = .ok (.invokevirtual 48, 3) := dk_182 0 48 (dk_at dksX3_sign_0 10 rfl rfl)
theorem dX3_sign_13 : decode cX3_sign 13 = .ok (.athrow, 1) := dk_191 (dk_at dksX3_sign_0 13 rfl rfl)
theorem dX3_sign_14 : decode cX3_sign 14 = .ok (.aload_n 0, 1) := dk_42 (dk_at dksX3_sign_0 14 rfl rfl)
theorem dX3_sign_15 : decode cX3_sign 15 = .ok (.invokevirtual 59, 3) := dk_182 0 59 (dk_at dksX3_sign_0 15 rfl rfl)
theorem dX3_sign_18 : decode cX3_sign 18 = .ok (.return_, 1) := dk_177 (dk_at dksX3_sign_0 18 rfl rfl)
abbrev cX3_isSign : ByteArray := prog_10_method_7_code
def yX3_isSign : MethodName := ⟨RX3, "isSign", "(I)Z"⟩
def dkwX3_isSign_1 : List UInt8 := [180, 0, 31, 53, 27, 160, 0, 7, 4, 167, 0, 4, 3, 172]
abbrev dktX3_isSign_1 : List UInt8 := dkwX3_isSign_1 ++ []
def dkwX3_isSign_0 : List UInt8 := [42, 180, 0, 9, 180, 0, 44, 42, 180, 0, 31, 51, 5, 160, 0, 23, 42, 180, 0, 9, 180, 0, 52, 42]
abbrev dktX3_isSign_0 : List UInt8 := dkwX3_isSign_0 ++ dktX3_isSign_1
theorem dksX3_isSign_0 : cX3_isSign.data.toList.drop 0 = dktX3_isSign_0 := by decide +kernel
theorem dksX3_isSign_1 : cX3_isSign.data.toList.drop 24 = dktX3_isSign_1 := dk_seg dksX3_isSign_0 24 rfl rfl
theorem dX3_isSign_0 : decode cX3_isSign 0 = .ok (.aload_n 0, 1) := dk_42 (dk_at dksX3_isSign_0 0 rfl rfl)
theorem dX3_isSign_1 : decode cX3_isSign 1 = .ok (.getfield 9, 3) := dk_180 0 9 (dk_at dksX3_isSign_0 1 rfl rfl)
theorem dX3_isSign_4 : decode cX3_isSign 4 = .ok (.getfield 44, 3) := dk_180 0 44 (dk_at dksX3_isSign_0 4 rfl rfl)
theorem dX3_isSign_7 : decode cX3_isSign 7 = .ok (.aload_n 0, 1) := dk_42 (dk_at dksX3_isSign_0 7 rfl rfl)
theorem dX3_isSign_8 : decode cX3_isSign 8 = .ok (.getfield 31, 3) := dk_180 0 31 (dk_at dksX3_isSign_0 8 rfl rfl)
theorem dX3_isSign_11 : decode cX3_isSign 11 = .ok (.baload, 1) := dk_51 (dk_at dksX3_isSign_0 11 rfl rfl)
theorem dX3_isSign_12 : decode cX3_isSign 12 = .ok (.iconst 2, 1) := dk_5 (dk_at dksX3_isSign_0 12 rfl rfl)
theorem dX3_isSign_13 : decode cX3_isSign 13 = .ok (.if_icmp .ne 23, 3) := dk_160 0 23 (dk_at dksX3_isSign_0 13 rfl rfl)
theorem dX3_isSign_16 : decode cX3_isSign 16 = .ok (.aload_n 0, 1) := dk_42 (dk_at dksX3_isSign_0 16 rfl rfl)
theorem dX3_isSign_17 : decode cX3_isSign 17 = .ok (.getfield 9, 3) := dk_180 0 9 (dk_at dksX3_isSign_0 17 rfl rfl)
theorem dX3_isSign_20 : decode cX3_isSign 20 = .ok (.getfield 52, 3) := dk_180 0 52 (dk_at dksX3_isSign_0 20 rfl rfl)
theorem dX3_isSign_23 : decode cX3_isSign 23 = .ok (.aload_n 0, 1) := dk_42 (dk_at dksX3_isSign_0 23 rfl rfl)
theorem dX3_isSign_24 : decode cX3_isSign 24 = .ok (.getfield 31, 3) := dk_180 0 31 (dk_at dksX3_isSign_1 0 rfl rfl)
theorem dX3_isSign_27 : decode cX3_isSign 27 = .ok (.saload, 1) := dk_53 (dk_at dksX3_isSign_1 3 rfl rfl)
theorem dX3_isSign_28 : decode cX3_isSign 28 = .ok (.iload_n 1, 1) := dk_27 (dk_at dksX3_isSign_1 4 rfl rfl)
theorem dX3_isSign_29 : decode cX3_isSign 29 = .ok (.if_icmp .ne 7, 3) := dk_160 0 7 (dk_at dksX3_isSign_1 5 rfl rfl)
theorem dX3_isSign_32 : decode cX3_isSign 32 = .ok (.iconst 1, 1) := dk_4 (dk_at dksX3_isSign_1 8 rfl rfl)
theorem dX3_isSign_33 : decode cX3_isSign 33 = .ok (.goto 4, 3) := dk_167 0 4 (dk_at dksX3_isSign_1 9 rfl rfl)
theorem dX3_isSign_36 : decode cX3_isSign 36 = .ok (.iconst 0, 1) := dk_3 (dk_at dksX3_isSign_1 12 rfl rfl)
theorem dX3_isSign_37 : decode cX3_isSign 37 = .ok (.ireturn, 1) := dk_172 (dk_at dksX3_isSign_1 13 rfl rfl)
abbrev cX3_sum : ByteArray := prog_10_method_23_code
def yX3_sum : MethodName := ⟨RX3, "sum", "()LSleepWork$Sum;"⟩
def dkwX3_sum_2 : List UInt8 := [182, 1, 13, 183, 1, 18, 76, 167, 255, 207, 43, 176]
abbrev dktX3_sum_2 : List UInt8 := dkwX3_sum_2 ++ []
def dkwX3_sum_1 : List UInt8 := [180, 0, 9, 180, 0, 52, 42, 180, 0, 31, 53, 61, 42, 182, 0, 59, 187, 1, 16, 89, 28, 43, 42]
abbrev dktX3_sum_1 : List UInt8 := dkwX3_sum_1 ++ dktX3_sum_2
def dkwX3_sum_0 : List UInt8 := [42, 182, 1, 13, 76, 42, 16, 43, 182, 0, 55, 154, 0, 12, 42, 16, 45, 182, 0, 55, 153, 0, 37, 42]
abbrev dktX3_sum_0 : List UInt8 := dkwX3_sum_0 ++ dktX3_sum_1
theorem dksX3_sum_0 : cX3_sum.data.toList.drop 0 = dktX3_sum_0 := by decide +kernel
theorem dksX3_sum_1 : cX3_sum.data.toList.drop 24 = dktX3_sum_1 := dk_seg dksX3_sum_0 24 rfl rfl
theorem dksX3_sum_2 : cX3_sum.data.toList.drop 47 = dktX3_sum_2 := dk_seg dksX3_sum_1 23 rfl rfl
theorem dX3_sum_0 : decode cX3_sum 0 = .ok (.aload_n 0, 1) := dk_42 (dk_at dksX3_sum_0 0 rfl rfl)
theorem dX3_sum_1 : decode cX3_sum 1 = .ok (.invokevirtual 269, 3) := dk_182 1 13 (dk_at dksX3_sum_0 1 rfl rfl)
theorem dX3_sum_4 : decode cX3_sum 4 = .ok (.astore_n 1, 1) := dk_76 (dk_at dksX3_sum_0 4 rfl rfl)
theorem dX3_sum_5 : decode cX3_sum 5 = .ok (.aload_n 0, 1) := dk_42 (dk_at dksX3_sum_0 5 rfl rfl)
theorem dX3_sum_6 : decode cX3_sum 6 = .ok (.bipush 43, 2) := dk_16 43 (dk_at dksX3_sum_0 6 rfl rfl)
theorem dX3_sum_8 : decode cX3_sum 8 = .ok (.invokevirtual 55, 3) := dk_182 0 55 (dk_at dksX3_sum_0 8 rfl rfl)
theorem dX3_sum_11 : decode cX3_sum 11 = .ok (.ifCond .ne 12, 3) := dk_154 0 12 (dk_at dksX3_sum_0 11 rfl rfl)
theorem dX3_sum_14 : decode cX3_sum 14 = .ok (.aload_n 0, 1) := dk_42 (dk_at dksX3_sum_0 14 rfl rfl)
theorem dX3_sum_15 : decode cX3_sum 15 = .ok (.bipush 45, 2) := dk_16 45 (dk_at dksX3_sum_0 15 rfl rfl)
theorem dX3_sum_17 : decode cX3_sum 17 = .ok (.invokevirtual 55, 3) := dk_182 0 55 (dk_at dksX3_sum_0 17 rfl rfl)
theorem dX3_sum_20 : decode cX3_sum 20 = .ok (.ifCond .eq 37, 3) := dk_153 0 37 (dk_at dksX3_sum_0 20 rfl rfl)
theorem dX3_sum_23 : decode cX3_sum 23 = .ok (.aload_n 0, 1) := dk_42 (dk_at dksX3_sum_0 23 rfl rfl)
theorem dX3_sum_24 : decode cX3_sum 24 = .ok (.getfield 9, 3) := dk_180 0 9 (dk_at dksX3_sum_1 0 rfl rfl)
theorem dX3_sum_27 : decode cX3_sum 27 = .ok (.getfield 52, 3) := dk_180 0 52 (dk_at dksX3_sum_1 3 rfl rfl)
theorem dX3_sum_30 : decode cX3_sum 30 = .ok (.aload_n 0, 1) := dk_42 (dk_at dksX3_sum_1 6 rfl rfl)
theorem dX3_sum_31 : decode cX3_sum 31 = .ok (.getfield 31, 3) := dk_180 0 31 (dk_at dksX3_sum_1 7 rfl rfl)
theorem dX3_sum_34 : decode cX3_sum 34 = .ok (.saload, 1) := dk_53 (dk_at dksX3_sum_1 10 rfl rfl)
theorem dX3_sum_35 : decode cX3_sum 35 = .ok (.istore_n 2, 1) := dk_61 (dk_at dksX3_sum_1 11 rfl rfl)
theorem dX3_sum_36 : decode cX3_sum 36 = .ok (.aload_n 0, 1) := dk_42 (dk_at dksX3_sum_1 12 rfl rfl)
theorem dX3_sum_37 : decode cX3_sum 37 = .ok (.invokevirtual 59, 3) := dk_182 0 59 (dk_at dksX3_sum_1 13 rfl rfl)
theorem dX3_sum_40 : decode cX3_sum 40 = .ok (.new 272, 3) := dk_187 1 16 (dk_at dksX3_sum_1 16 rfl rfl)
theorem dX3_sum_43 : decode cX3_sum 43 = .ok (.dup, 1) := dk_89 (dk_at dksX3_sum_1 19 rfl rfl)
theorem dX3_sum_44 : decode cX3_sum 44 = .ok (.iload_n 2, 1) := dk_28 (dk_at dksX3_sum_1 20 rfl rfl)
theorem dX3_sum_45 : decode cX3_sum 45 = .ok (.aload_n 1, 1) := dk_43 (dk_at dksX3_sum_1 21 rfl rfl)
theorem dX3_sum_46 : decode cX3_sum 46 = .ok (.aload_n 0, 1) := dk_42 (dk_at dksX3_sum_1 22 rfl rfl)
theorem dX3_sum_47 : decode cX3_sum 47 = .ok (.invokevirtual 269, 3) := dk_182 1 13 (dk_at dksX3_sum_2 0 rfl rfl)
theorem dX3_sum_50 : decode cX3_sum 50 = .ok (.invokespecial 274, 3) := dk_183 1 18 (dk_at dksX3_sum_2 3 rfl rfl)
theorem dX3_sum_53 : decode cX3_sum 53 = .ok (.astore_n 1, 1) := dk_76 (dk_at dksX3_sum_2 6 rfl rfl)
theorem dX3_sum_54 : decode cX3_sum 54 = .ok (.goto (-49), 3) := dk_167 255 207 (dk_at dksX3_sum_2 7 rfl rfl)
theorem dX3_sum_57 : decode cX3_sum 57 = .ok (.aload_n 1, 1) := dk_43 (dk_at dksX3_sum_2 10 rfl rfl)
theorem dX3_sum_58 : decode cX3_sum 58 = .ok (.areturn, 1) := dk_176 (dk_at dksX3_sum_2 11 rfl rfl)
abbrev cX3_part : ByteArray := prog_10_method_24_code
def yX3_part : MethodName := ⟨RX3, "part", "()LSleepWork$Sum;"⟩
def dkwX3_part_2 : List UInt8 := [182, 1, 21, 183, 1, 18, 76, 167, 255, 207, 43, 176]
abbrev dktX3_part_2 : List UInt8 := dkwX3_part_2 ++ []
def dkwX3_part_1 : List UInt8 := [180, 0, 9, 180, 0, 52, 42, 180, 0, 31, 53, 61, 42, 182, 0, 59, 187, 1, 16, 89, 28, 43, 42]
abbrev dktX3_part_1 : List UInt8 := dkwX3_part_1 ++ dktX3_part_2
def dkwX3_part_0 : List UInt8 := [42, 182, 1, 21, 76, 42, 16, 42, 182, 0, 55, 154, 0, 12, 42, 16, 47, 182, 0, 55, 153, 0, 37, 42]
abbrev dktX3_part_0 : List UInt8 := dkwX3_part_0 ++ dktX3_part_1
theorem dksX3_part_0 : cX3_part.data.toList.drop 0 = dktX3_part_0 := by decide +kernel
theorem dksX3_part_1 : cX3_part.data.toList.drop 24 = dktX3_part_1 := dk_seg dksX3_part_0 24 rfl rfl
theorem dksX3_part_2 : cX3_part.data.toList.drop 47 = dktX3_part_2 := dk_seg dksX3_part_1 23 rfl rfl
theorem dX3_part_0 : decode cX3_part 0 = .ok (.aload_n 0, 1) := dk_42 (dk_at dksX3_part_0 0 rfl rfl)
theorem dX3_part_1 : decode cX3_part 1 = .ok (.invokevirtual 277, 3) := dk_182 1 21 (dk_at dksX3_part_0 1 rfl rfl)
theorem dX3_part_4 : decode cX3_part 4 = .ok (.astore_n 1, 1) := dk_76 (dk_at dksX3_part_0 4 rfl rfl)
theorem dX3_part_5 : decode cX3_part 5 = .ok (.aload_n 0, 1) := dk_42 (dk_at dksX3_part_0 5 rfl rfl)
theorem dX3_part_6 : decode cX3_part 6 = .ok (.bipush 42, 2) := dk_16 42 (dk_at dksX3_part_0 6 rfl rfl)
theorem dX3_part_8 : decode cX3_part 8 = .ok (.invokevirtual 55, 3) := dk_182 0 55 (dk_at dksX3_part_0 8 rfl rfl)
theorem dX3_part_11 : decode cX3_part 11 = .ok (.ifCond .ne 12, 3) := dk_154 0 12 (dk_at dksX3_part_0 11 rfl rfl)
theorem dX3_part_14 : decode cX3_part 14 = .ok (.aload_n 0, 1) := dk_42 (dk_at dksX3_part_0 14 rfl rfl)
theorem dX3_part_15 : decode cX3_part 15 = .ok (.bipush 47, 2) := dk_16 47 (dk_at dksX3_part_0 15 rfl rfl)
theorem dX3_part_17 : decode cX3_part 17 = .ok (.invokevirtual 55, 3) := dk_182 0 55 (dk_at dksX3_part_0 17 rfl rfl)
theorem dX3_part_20 : decode cX3_part 20 = .ok (.ifCond .eq 37, 3) := dk_153 0 37 (dk_at dksX3_part_0 20 rfl rfl)
theorem dX3_part_23 : decode cX3_part 23 = .ok (.aload_n 0, 1) := dk_42 (dk_at dksX3_part_0 23 rfl rfl)
theorem dX3_part_24 : decode cX3_part 24 = .ok (.getfield 9, 3) := dk_180 0 9 (dk_at dksX3_part_1 0 rfl rfl)
theorem dX3_part_27 : decode cX3_part 27 = .ok (.getfield 52, 3) := dk_180 0 52 (dk_at dksX3_part_1 3 rfl rfl)
theorem dX3_part_30 : decode cX3_part 30 = .ok (.aload_n 0, 1) := dk_42 (dk_at dksX3_part_1 6 rfl rfl)
theorem dX3_part_31 : decode cX3_part 31 = .ok (.getfield 31, 3) := dk_180 0 31 (dk_at dksX3_part_1 7 rfl rfl)
theorem dX3_part_34 : decode cX3_part 34 = .ok (.saload, 1) := dk_53 (dk_at dksX3_part_1 10 rfl rfl)
theorem dX3_part_35 : decode cX3_part 35 = .ok (.istore_n 2, 1) := dk_61 (dk_at dksX3_part_1 11 rfl rfl)
theorem dX3_part_36 : decode cX3_part 36 = .ok (.aload_n 0, 1) := dk_42 (dk_at dksX3_part_1 12 rfl rfl)
theorem dX3_part_37 : decode cX3_part 37 = .ok (.invokevirtual 59, 3) := dk_182 0 59 (dk_at dksX3_part_1 13 rfl rfl)
theorem dX3_part_40 : decode cX3_part 40 = .ok (.new 272, 3) := dk_187 1 16 (dk_at dksX3_part_1 16 rfl rfl)
theorem dX3_part_43 : decode cX3_part 43 = .ok (.dup, 1) := dk_89 (dk_at dksX3_part_1 19 rfl rfl)
theorem dX3_part_44 : decode cX3_part 44 = .ok (.iload_n 2, 1) := dk_28 (dk_at dksX3_part_1 20 rfl rfl)
theorem dX3_part_45 : decode cX3_part 45 = .ok (.aload_n 1, 1) := dk_43 (dk_at dksX3_part_1 21 rfl rfl)
theorem dX3_part_46 : decode cX3_part 46 = .ok (.aload_n 0, 1) := dk_42 (dk_at dksX3_part_1 22 rfl rfl)
theorem dX3_part_47 : decode cX3_part 47 = .ok (.invokevirtual 277, 3) := dk_182 1 21 (dk_at dksX3_part_2 0 rfl rfl)
theorem dX3_part_50 : decode cX3_part 50 = .ok (.invokespecial 274, 3) := dk_183 1 18 (dk_at dksX3_part_2 3 rfl rfl)
theorem dX3_part_53 : decode cX3_part 53 = .ok (.astore_n 1, 1) := dk_76 (dk_at dksX3_part_2 6 rfl rfl)
theorem dX3_part_54 : decode cX3_part 54 = .ok (.goto (-49), 3) := dk_167 255 207 (dk_at dksX3_part_2 7 rfl rfl)
theorem dX3_part_57 : decode cX3_part 57 = .ok (.aload_n 1, 1) := dk_43 (dk_at dksX3_part_2 10 rfl rfl)
theorem dX3_part_58 : decode cX3_part 58 = .ok (.areturn, 1) := dk_176 (dk_at dksX3_part_2 11 rfl rfl)
abbrev cX3_unit : ByteArray := prog_10_method_25_code
def yX3_unit : MethodName := ⟨RX3, "unit", "()LSleepWork$Sum;"⟩
def dkwX3_unit_6 : List UInt8 := [182, 0, 105, 42, 89, 180, 0, 99, 4, 100, 181, 0, 99, 43, 176]
abbrev dktX3_unit_6 : List UInt8 := dkwX3_unit_6 ++ []
def dkwX3_unit_5 : List UInt8 := [42, 89, 180, 0, 99, 4, 96, 181, 0, 99, 42, 182, 0, 59, 42, 182, 0, 253, 76, 42, 16, 41]
abbrev dktX3_unit_5 : List UInt8 := dkwX3_unit_5 ++ dktX3_unit_6
def dkwX3_unit_4 : List UInt8 := [154, 0, 9, 42, 4, 182, 0, 48, 191, 42, 180, 0, 99, 16, 6, 160, 0, 9, 42, 5, 182, 0, 48, 191]
abbrev dktX3_unit_4 : List UInt8 := dkwX3_unit_4 ++ dktX3_unit_5
def dkwX3_unit_3 : List UInt8 := [180, 0, 52, 42, 180, 0, 31, 4, 100, 53, 16, 15, 100, 183, 1, 30, 176, 42, 16, 40, 182, 0, 55]
abbrev dktX3_unit_3 : List UInt8 := dkwX3_unit_3 ++ dktX3_unit_4
def dkwX3_unit_2 : List UInt8 := [42, 180, 0, 31, 53, 16, 15, 161, 0, 32, 42, 182, 0, 59, 187, 1, 28, 89, 42, 180, 0, 9]
abbrev dktX3_unit_2 : List UInt8 := dkwX3_unit_2 ++ dktX3_unit_3
def dkwX3_unit_1 : List UInt8 := [4, 100, 182, 0, 72, 183, 1, 26, 176, 42, 182, 0, 65, 6, 160, 0, 49, 42, 180, 0, 9, 180, 0, 52]
abbrev dktX3_unit_1 : List UInt8 := dkwX3_unit_1 ++ dktX3_unit_2
def dkwX3_unit_0 : List UInt8 := [42, 182, 0, 65, 4, 160, 0, 28, 42, 182, 0, 59, 187, 1, 24, 89, 42, 180, 0, 9, 42, 180, 0, 31]
abbrev dktX3_unit_0 : List UInt8 := dkwX3_unit_0 ++ dktX3_unit_1
theorem dksX3_unit_0 : cX3_unit.data.toList.drop 0 = dktX3_unit_0 := by decide +kernel
theorem dksX3_unit_1 : cX3_unit.data.toList.drop 24 = dktX3_unit_1 := dk_seg dksX3_unit_0 24 rfl rfl
theorem dksX3_unit_2 : cX3_unit.data.toList.drop 48 = dktX3_unit_2 := dk_seg dksX3_unit_1 24 rfl rfl
theorem dksX3_unit_3 : cX3_unit.data.toList.drop 70 = dktX3_unit_3 := dk_seg dksX3_unit_2 22 rfl rfl
theorem dksX3_unit_4 : cX3_unit.data.toList.drop 93 = dktX3_unit_4 := dk_seg dksX3_unit_3 23 rfl rfl
theorem dksX3_unit_5 : cX3_unit.data.toList.drop 117 = dktX3_unit_5 := dk_seg dksX3_unit_4 24 rfl rfl
theorem dksX3_unit_6 : cX3_unit.data.toList.drop 139 = dktX3_unit_6 := dk_seg dksX3_unit_5 22 rfl rfl
theorem dX3_unit_0 : decode cX3_unit 0 = .ok (.aload_n 0, 1) := dk_42 (dk_at dksX3_unit_0 0 rfl rfl)
theorem dX3_unit_1 : decode cX3_unit 1 = .ok (.invokevirtual 65, 3) := dk_182 0 65 (dk_at dksX3_unit_0 1 rfl rfl)
theorem dX3_unit_4 : decode cX3_unit 4 = .ok (.iconst 1, 1) := dk_4 (dk_at dksX3_unit_0 4 rfl rfl)
theorem dX3_unit_5 : decode cX3_unit 5 = .ok (.if_icmp .ne 28, 3) := dk_160 0 28 (dk_at dksX3_unit_0 5 rfl rfl)
theorem dX3_unit_8 : decode cX3_unit 8 = .ok (.aload_n 0, 1) := dk_42 (dk_at dksX3_unit_0 8 rfl rfl)
theorem dX3_unit_9 : decode cX3_unit 9 = .ok (.invokevirtual 59, 3) := dk_182 0 59 (dk_at dksX3_unit_0 9 rfl rfl)
theorem dX3_unit_12 : decode cX3_unit 12 = .ok (.new 280, 3) := dk_187 1 24 (dk_at dksX3_unit_0 12 rfl rfl)
theorem dX3_unit_15 : decode cX3_unit 15 = .ok (.dup, 1) := dk_89 (dk_at dksX3_unit_0 15 rfl rfl)
theorem dX3_unit_16 : decode cX3_unit 16 = .ok (.aload_n 0, 1) := dk_42 (dk_at dksX3_unit_0 16 rfl rfl)
theorem dX3_unit_17 : decode cX3_unit 17 = .ok (.getfield 9, 3) := dk_180 0 9 (dk_at dksX3_unit_0 17 rfl rfl)
theorem dX3_unit_20 : decode cX3_unit 20 = .ok (.aload_n 0, 1) := dk_42 (dk_at dksX3_unit_0 20 rfl rfl)
theorem dX3_unit_21 : decode cX3_unit 21 = .ok (.getfield 31, 3) := dk_180 0 31 (dk_at dksX3_unit_0 21 rfl rfl)
theorem dX3_unit_24 : decode cX3_unit 24 = .ok (.iconst 1, 1) := dk_4 (dk_at dksX3_unit_1 0 rfl rfl)
theorem dX3_unit_25 : decode cX3_unit 25 = .ok (.isub, 1) := dk_100 (dk_at dksX3_unit_1 1 rfl rfl)
theorem dX3_unit_26 : decode cX3_unit 26 = .ok (.invokevirtual 72, 3) := dk_182 0 72 (dk_at dksX3_unit_1 2 rfl rfl)
theorem dX3_unit_29 : decode cX3_unit 29 = .ok (.invokespecial 282, 3) := dk_183 1 26 (dk_at dksX3_unit_1 5 rfl rfl)
theorem dX3_unit_32 : decode cX3_unit 32 = .ok (.areturn, 1) := dk_176 (dk_at dksX3_unit_1 8 rfl rfl)
theorem dX3_unit_33 : decode cX3_unit 33 = .ok (.aload_n 0, 1) := dk_42 (dk_at dksX3_unit_1 9 rfl rfl)
theorem dX3_unit_34 : decode cX3_unit 34 = .ok (.invokevirtual 65, 3) := dk_182 0 65 (dk_at dksX3_unit_1 10 rfl rfl)
theorem dX3_unit_37 : decode cX3_unit 37 = .ok (.iconst 3, 1) := dk_6 (dk_at dksX3_unit_1 13 rfl rfl)
theorem dX3_unit_38 : decode cX3_unit 38 = .ok (.if_icmp .ne 49, 3) := dk_160 0 49 (dk_at dksX3_unit_1 14 rfl rfl)
theorem dX3_unit_41 : decode cX3_unit 41 = .ok (.aload_n 0, 1) := dk_42 (dk_at dksX3_unit_1 17 rfl rfl)
theorem dX3_unit_42 : decode cX3_unit 42 = .ok (.getfield 9, 3) := dk_180 0 9 (dk_at dksX3_unit_1 18 rfl rfl)
theorem dX3_unit_45 : decode cX3_unit 45 = .ok (.getfield 52, 3) := dk_180 0 52 (dk_at dksX3_unit_1 21 rfl rfl)
theorem dX3_unit_48 : decode cX3_unit 48 = .ok (.aload_n 0, 1) := dk_42 (dk_at dksX3_unit_2 0 rfl rfl)
theorem dX3_unit_49 : decode cX3_unit 49 = .ok (.getfield 31, 3) := dk_180 0 31 (dk_at dksX3_unit_2 1 rfl rfl)
theorem dX3_unit_52 : decode cX3_unit 52 = .ok (.saload, 1) := dk_53 (dk_at dksX3_unit_2 4 rfl rfl)
theorem dX3_unit_53 : decode cX3_unit 53 = .ok (.bipush 15, 2) := dk_16 15 (dk_at dksX3_unit_2 5 rfl rfl)
theorem dX3_unit_55 : decode cX3_unit 55 = .ok (.if_icmp .lt 32, 3) := dk_161 0 32 (dk_at dksX3_unit_2 7 rfl rfl)
theorem dX3_unit_58 : decode cX3_unit 58 = .ok (.aload_n 0, 1) := dk_42 (dk_at dksX3_unit_2 10 rfl rfl)
theorem dX3_unit_59 : decode cX3_unit 59 = .ok (.invokevirtual 59, 3) := dk_182 0 59 (dk_at dksX3_unit_2 11 rfl rfl)
theorem dX3_unit_62 : decode cX3_unit 62 = .ok (.new 284, 3) := dk_187 1 28 (dk_at dksX3_unit_2 14 rfl rfl)
theorem dX3_unit_65 : decode cX3_unit 65 = .ok (.dup, 1) := dk_89 (dk_at dksX3_unit_2 17 rfl rfl)
theorem dX3_unit_66 : decode cX3_unit 66 = .ok (.aload_n 0, 1) := dk_42 (dk_at dksX3_unit_2 18 rfl rfl)
theorem dX3_unit_67 : decode cX3_unit 67 = .ok (.getfield 9, 3) := dk_180 0 9 (dk_at dksX3_unit_2 19 rfl rfl)
theorem dX3_unit_70 : decode cX3_unit 70 = .ok (.getfield 52, 3) := dk_180 0 52 (dk_at dksX3_unit_3 0 rfl rfl)
theorem dX3_unit_73 : decode cX3_unit 73 = .ok (.aload_n 0, 1) := dk_42 (dk_at dksX3_unit_3 3 rfl rfl)
theorem dX3_unit_74 : decode cX3_unit 74 = .ok (.getfield 31, 3) := dk_180 0 31 (dk_at dksX3_unit_3 4 rfl rfl)
theorem dX3_unit_77 : decode cX3_unit 77 = .ok (.iconst 1, 1) := dk_4 (dk_at dksX3_unit_3 7 rfl rfl)
theorem dX3_unit_78 : decode cX3_unit 78 = .ok (.isub, 1) := dk_100 (dk_at dksX3_unit_3 8 rfl rfl)
theorem dX3_unit_79 : decode cX3_unit 79 = .ok (.saload, 1) := dk_53 (dk_at dksX3_unit_3 9 rfl rfl)
theorem dX3_unit_80 : decode cX3_unit 80 = .ok (.bipush 15, 2) := dk_16 15 (dk_at dksX3_unit_3 10 rfl rfl)
theorem dX3_unit_82 : decode cX3_unit 82 = .ok (.isub, 1) := dk_100 (dk_at dksX3_unit_3 12 rfl rfl)
theorem dX3_unit_83 : decode cX3_unit 83 = .ok (.invokespecial 286, 3) := dk_183 1 30 (dk_at dksX3_unit_3 13 rfl rfl)
theorem dX3_unit_86 : decode cX3_unit 86 = .ok (.areturn, 1) := dk_176 (dk_at dksX3_unit_3 16 rfl rfl)
theorem dX3_unit_87 : decode cX3_unit 87 = .ok (.aload_n 0, 1) := dk_42 (dk_at dksX3_unit_3 17 rfl rfl)
theorem dX3_unit_88 : decode cX3_unit 88 = .ok (.bipush 40, 2) := dk_16 40 (dk_at dksX3_unit_3 18 rfl rfl)
theorem dX3_unit_90 : decode cX3_unit 90 = .ok (.invokevirtual 55, 3) := dk_182 0 55 (dk_at dksX3_unit_3 20 rfl rfl)
theorem dX3_unit_93 : decode cX3_unit 93 = .ok (.ifCond .ne 9, 3) := dk_154 0 9 (dk_at dksX3_unit_4 0 rfl rfl)
theorem dX3_unit_96 : decode cX3_unit 96 = .ok (.aload_n 0, 1) := dk_42 (dk_at dksX3_unit_4 3 rfl rfl)
theorem dX3_unit_97 : decode cX3_unit 97 = .ok (.iconst 1, 1) := dk_4 (dk_at dksX3_unit_4 4 rfl rfl)
theorem dX3_unit_98 : decode cX3_unit 98 = .ok (.invokevirtual 48, 3) := dk_182 0 48 (dk_at dksX3_unit_4 5 rfl rfl)
theorem dX3_unit_101 : decode cX3_unit 101 = .ok (.athrow, 1) := dk_191 (dk_at dksX3_unit_4 8 rfl rfl)
theorem dX3_unit_102 : decode cX3_unit 102 = .ok (.aload_n 0, 1) := dk_42 (dk_at dksX3_unit_4 9 rfl rfl)
theorem dX3_unit_103 : decode cX3_unit 103 = .ok (.getfield 99, 3) := dk_180 0 99 (dk_at dksX3_unit_4 10 rfl rfl)
theorem dX3_unit_106 : decode cX3_unit 106 = .ok (.bipush 6, 2) := dk_16 6 (dk_at dksX3_unit_4 13 rfl rfl)
theorem dX3_unit_108 : decode cX3_unit 108 = .ok (.if_icmp .ne 9, 3) := dk_160 0 9 (dk_at dksX3_unit_4 15 rfl rfl)
theorem dX3_unit_111 : decode cX3_unit 111 = .ok (.aload_n 0, 1) := dk_42 (dk_at dksX3_unit_4 18 rfl rfl)
theorem dX3_unit_112 : decode cX3_unit 112 = .ok (.iconst 2, 1) := dk_5 (dk_at dksX3_unit_4 19 rfl rfl)
theorem dX3_unit_113 : decode cX3_unit 113 = .ok (.invokevirtual 48, 3) := dk_182 0 48 (dk_at dksX3_unit_4 20 rfl rfl)
theorem dX3_unit_116 : decode cX3_unit 116 = .ok (.athrow, 1) := dk_191 (dk_at dksX3_unit_4 23 rfl rfl)
theorem dX3_unit_117 : decode cX3_unit 117 = .ok (.aload_n 0, 1) := dk_42 (dk_at dksX3_unit_5 0 rfl rfl)
theorem dX3_unit_118 : decode cX3_unit 118 = .ok (.dup, 1) := dk_89 (dk_at dksX3_unit_5 1 rfl rfl)
theorem dX3_unit_119 : decode cX3_unit 119 = .ok (.getfield 99, 3) := dk_180 0 99 (dk_at dksX3_unit_5 2 rfl rfl)
theorem dX3_unit_122 : decode cX3_unit 122 = .ok (.iconst 1, 1) := dk_4 (dk_at dksX3_unit_5 5 rfl rfl)
theorem dX3_unit_123 : decode cX3_unit 123 = .ok (.iadd, 1) := dk_96 (dk_at dksX3_unit_5 6 rfl rfl)
theorem dX3_unit_124 : decode cX3_unit 124 = .ok (.putfield 99, 3) := dk_181 0 99 (dk_at dksX3_unit_5 7 rfl rfl)
theorem dX3_unit_127 : decode cX3_unit 127 = .ok (.aload_n 0, 1) := dk_42 (dk_at dksX3_unit_5 10 rfl rfl)
theorem dX3_unit_128 : decode cX3_unit 128 = .ok (.invokevirtual 59, 3) := dk_182 0 59 (dk_at dksX3_unit_5 11 rfl rfl)
theorem dX3_unit_131 : decode cX3_unit 131 = .ok (.aload_n 0, 1) := dk_42 (dk_at dksX3_unit_5 14 rfl rfl)
theorem dX3_unit_132 : decode cX3_unit 132 = .ok (.invokevirtual 253, 3) := dk_182 0 253 (dk_at dksX3_unit_5 15 rfl rfl)
theorem dX3_unit_135 : decode cX3_unit 135 = .ok (.astore_n 1, 1) := dk_76 (dk_at dksX3_unit_5 18 rfl rfl)
theorem dX3_unit_136 : decode cX3_unit 136 = .ok (.aload_n 0, 1) := dk_42 (dk_at dksX3_unit_5 19 rfl rfl)
theorem dX3_unit_137 : decode cX3_unit 137 = .ok (.bipush 41, 2) := dk_16 41 (dk_at dksX3_unit_5 20 rfl rfl)
theorem dX3_unit_139 : decode cX3_unit 139 = .ok (.invokevirtual 105, 3) := dk_182 0 105 (dk_at dksX3_unit_6 0 rfl rfl)
theorem dX3_unit_142 : decode cX3_unit 142 = .ok (.aload_n 0, 1) := dk_42 (dk_at dksX3_unit_6 3 rfl rfl)
theorem dX3_unit_143 : decode cX3_unit 143 = .ok (.dup, 1) := dk_89 (dk_at dksX3_unit_6 4 rfl rfl)
theorem dX3_unit_144 : decode cX3_unit 144 = .ok (.getfield 99, 3) := dk_180 0 99 (dk_at dksX3_unit_6 5 rfl rfl)
theorem dX3_unit_147 : decode cX3_unit 147 = .ok (.iconst 1, 1) := dk_4 (dk_at dksX3_unit_6 8 rfl rfl)
theorem dX3_unit_148 : decode cX3_unit 148 = .ok (.isub, 1) := dk_100 (dk_at dksX3_unit_6 9 rfl rfl)
theorem dX3_unit_149 : decode cX3_unit 149 = .ok (.putfield 99, 3) := dk_181 0 99 (dk_at dksX3_unit_6 10 rfl rfl)
theorem dX3_unit_152 : decode cX3_unit 152 = .ok (.aload_n 1, 1) := dk_43 (dk_at dksX3_unit_6 13 rfl rfl)
theorem dX3_unit_153 : decode cX3_unit 153 = .ok (.areturn, 1) := dk_176 (dk_at dksX3_unit_6 14 rfl rfl)
abbrev cX3_word : ByteArray := prog_10_method_10_code
def yX3_word : MethodName := ⟨RX3, "word", "(I)V"⟩
def dkwX3_word_0 : List UInt8 := [42, 27, 182, 0, 62, 154, 0, 9, 42, 4, 182, 0, 48, 191, 42, 182, 0, 59, 177]
abbrev dktX3_word_0 : List UInt8 := dkwX3_word_0 ++ []
theorem dksX3_word_0 : cX3_word.data.toList.drop 0 = dktX3_word_0 := by decide +kernel
theorem dX3_word_0 : decode cX3_word 0 = .ok (.aload_n 0, 1) := dk_42 (dk_at dksX3_word_0 0 rfl rfl)
theorem dX3_word_1 : decode cX3_word 1 = .ok (.iload_n 1, 1) := dk_27 (dk_at dksX3_word_0 1 rfl rfl)
theorem dX3_word_2 : decode cX3_word 2 = .ok (.invokevirtual 62, 3) := dk_182 0 62 (dk_at dksX3_word_0 2 rfl rfl)
theorem dX3_word_5 : decode cX3_word 5 = .ok (.ifCond .ne 9, 3) := dk_154 0 9 (dk_at dksX3_word_0 5 rfl rfl)
theorem dX3_word_8 : decode cX3_word 8 = .ok (.aload_n 0, 1) := dk_42 (dk_at dksX3_word_0 8 rfl rfl)
theorem dX3_word_9 : decode cX3_word 9 = .ok (.iconst 1, 1) := dk_4 (dk_at dksX3_word_0 9 rfl rfl)
theorem dX3_word_10 : decode cX3_word 10 = .ok (.invokevirtual 48, 3) := dk_182 0 48 (dk_at dksX3_word_0 10 rfl rfl)
theorem dX3_word_13 : decode cX3_word 13 = .ok (.athrow, 1) := dk_191 (dk_at dksX3_word_0 13 rfl rfl)
theorem dX3_word_14 : decode cX3_word 14 = .ok (.aload_n 0, 1) := dk_42 (dk_at dksX3_word_0 14 rfl rfl)
theorem dX3_word_15 : decode cX3_word 15 = .ok (.invokevirtual 59, 3) := dk_182 0 59 (dk_at dksX3_word_0 15 rfl rfl)
theorem dX3_word_18 : decode cX3_word 18 = .ok (.return_, 1) := dk_177 (dk_at dksX3_word_0 18 rfl rfl)
theorem q120 : (Jvm.Cond.initialized "SleepWork$Parser") ∈ lw_all := lw_g (lw_at lw_m1 7 rfl) rfl
theorem q270 : (Jvm.Cond.fieldLink "SleepWork$Parser" (44 : Nat) "SleepWork$Tokens" "sort" "[B") ∈ lw_all := lw_g (lw_at lw_m1 157 rfl) rfl
theorem q272 : (Jvm.Cond.fieldLink "SleepWork$Parser" (19 : Nat) "SleepWork$Tokens" "from" "[S") ∈ lw_all := lw_g (lw_at lw_m1 159 rfl) rfl
theorem q275 : (Jvm.Cond.fieldLink "SleepWork$Parser" (52 : Nat) "SleepWork$Tokens" "what" "[S") ∈ lw_all := lw_g (lw_at lw_m1 162 rfl) rfl
theorem q296 : (Jvm.Cond.instantiable "SleepWork$Parser" (7 : Nat)) ∈ lw_all := lw_g (lw_at lw_m1 183 rfl) rfl
theorem q298 : (Jvm.Cond.instanceMethod ({ cls := "SleepWork$Parser", name := "<init>", desc := "(LSleepWork$Tokens;LSleepWork$Fault;)V" } : Jvm.MethodName)) ∈ lw_all := lw_g (lw_at lw_m1 185 rfl) rfl
theorem q299 : (Jvm.Cond.code ({ cls := "SleepWork$Parser", name := "<init>", desc := "(LSleepWork$Tokens;LSleepWork$Fault;)V" } : Jvm.MethodName) prog_10_method_1_code (3 : Nat) (Option.none : Option Jvm.ClassFile.FieldType)) ∈ lw_all := lw_g (lw_at lw_m1 186 rfl) rfl
theorem q300 : (Jvm.Cond.methodLink "SleepWork$Parser" (3 : Nat) ({ cls := "java/lang/Object", name := "<init>", desc := "()V" } : Jvm.MethodName)) ∈ lw_all := lw_g (lw_at lw_m1 187 rfl) rfl
theorem q301 : (Jvm.Cond.fieldLink "SleepWork$Parser" (9 : Nat) "SleepWork$Parser" "t" "LSleepWork$Tokens;") ∈ lw_all := lw_g (lw_at lw_m1 188 rfl) rfl
theorem q302 : (Jvm.Cond.fieldLink "SleepWork$Parser" (15 : Nat) "SleepWork$Parser" "fault" "LSleepWork$Fault;") ∈ lw_all := lw_g (lw_at lw_m1 189 rfl) rfl
theorem q303 : (Jvm.Cond.fieldLink "SleepWork$Parser" (83 : Nat) "SleepWork$Parser" "text" "LSleepWork$Text;") ∈ lw_all := lw_g (lw_at lw_m1 190 rfl) rfl
theorem q304 : (Jvm.Cond.fieldLink "SleepWork$Parser" (31 : Nat) "SleepWork$Parser" "at" "I") ∈ lw_all := lw_g (lw_at lw_m1 191 rfl) rfl
theorem q305 : (Jvm.Cond.fieldLink "SleepWork$Parser" (99 : Nat) "SleepWork$Parser" "open" "I") ∈ lw_all := lw_g (lw_at lw_m1 192 rfl) rfl
theorem q306 : (Jvm.Cond.fieldLink "SleepWork$Parser" (38 : Nat) "SleepWork$Parser" "worst" "I") ∈ lw_all := lw_g (lw_at lw_m1 193 rfl) rfl
theorem q307 : (Jvm.Cond.fieldLink "SleepWork$Parser" (41 : Nat) "SleepWork$Parser" "worstToken" "I") ∈ lw_all := lw_g (lw_at lw_m1 194 rfl) rfl
theorem q308 : (Jvm.Cond.laysFinal "SleepWork$Parser" "SleepWork$Parser" "t" "LSleepWork$Tokens;") ∈ lw_all := lw_g (lw_at lw_m1 195 rfl) rfl
theorem q309 : (Jvm.Cond.soleField "SleepWork$Parser" "t") ∈ lw_all := lw_g (lw_at lw_m1 196 rfl) rfl
theorem q310 : (Jvm.Cond.laysFinal "SleepWork$Parser" "SleepWork$Parser" "fault" "LSleepWork$Fault;") ∈ lw_all := lw_g (lw_at lw_m1 197 rfl) rfl
theorem q311 : (Jvm.Cond.soleField "SleepWork$Parser" "fault") ∈ lw_all := lw_g (lw_at lw_m1 198 rfl) rfl
theorem q312 : (Jvm.Cond.lays "SleepWork$Parser" "SleepWork$Parser" "text" "LSleepWork$Text;") ∈ lw_all := lw_g (lw_at lw_m1 199 rfl) rfl
theorem q313 : (Jvm.Cond.soleField "SleepWork$Parser" "text") ∈ lw_all := lw_g (lw_at lw_m1 200 rfl) rfl
theorem q314 : (Jvm.Cond.lays "SleepWork$Parser" "SleepWork$Parser" "at" "I") ∈ lw_all := lw_g (lw_at lw_m1 201 rfl) rfl
theorem q315 : (Jvm.Cond.soleField "SleepWork$Parser" "at") ∈ lw_all := lw_g (lw_at lw_m1 202 rfl) rfl
theorem q316 : (Jvm.Cond.lays "SleepWork$Parser" "SleepWork$Parser" "open" "I") ∈ lw_all := lw_g (lw_at lw_m1 203 rfl) rfl
theorem q317 : (Jvm.Cond.soleField "SleepWork$Parser" "open") ∈ lw_all := lw_g (lw_at lw_m1 204 rfl) rfl
theorem q318 : (Jvm.Cond.lays "SleepWork$Parser" "SleepWork$Parser" "worst" "I") ∈ lw_all := lw_g (lw_at lw_m1 205 rfl) rfl
theorem q319 : (Jvm.Cond.soleField "SleepWork$Parser" "worst") ∈ lw_all := lw_g (lw_at lw_m1 206 rfl) rfl
theorem q320 : (Jvm.Cond.lays "SleepWork$Parser" "SleepWork$Parser" "worstToken" "I") ∈ lw_all := lw_g (lw_at lw_m1 207 rfl) rfl
theorem q321 : (Jvm.Cond.soleField "SleepWork$Parser" "worstToken") ∈ lw_all := lw_g (lw_at lw_m1 208 rfl) rfl
theorem q322 : (Jvm.Cond.superclass "SleepWork$Parser" "java/lang/Object") ∈ lw_all := lw_g (lw_at lw_m1 209 rfl) rfl
theorem q358 : (Jvm.Cond.fieldLink "SleepWork$Parser" (109 : Nat) "SleepWork$Text" "rooms" "Ljava/util/ArrayList;") ∈ lw_all := lw_g (lw_at lw_m2 5 rfl) rfl
theorem q361 : (Jvm.Cond.fieldLink "SleepWork$Parser" (175 : Nat) "SleepWork$Text" "doors" "Ljava/util/ArrayList;") ∈ lw_all := lw_g (lw_at lw_m2 8 rfl) rfl
theorem q366 : (Jvm.Cond.fieldLink "SleepWork$Parser" (137 : Nat) "SleepWork$Text" "tools" "Ljava/util/ArrayList;") ∈ lw_all := lw_g (lw_at lw_m2 13 rfl) rfl
theorem q371 : (Jvm.Cond.fieldLink "SleepWork$Parser" (150 : Nat) "SleepWork$Text" "tasks" "Ljava/util/ArrayList;") ∈ lw_all := lw_g (lw_at lw_m2 18 rfl) rfl
theorem q376 : (Jvm.Cond.fieldLink "SleepWork$Parser" (226 : Nat) "SleepWork$Text" "men" "Ljava/util/ArrayList;") ∈ lw_all := lw_g (lw_at lw_m2 23 rfl) rfl
theorem q379 : (Jvm.Cond.fieldLink "SleepWork$Parser" (172 : Nat) "SleepWork$Text" "night" "I") ∈ lw_all := lw_g (lw_at lw_m2 26 rfl) rfl
theorem q381 : (Jvm.Cond.fieldLink "SleepWork$Parser" (241 : Nat) "SleepWork$Text" "told" "I") ∈ lw_all := lw_g (lw_at lw_m2 28 rfl) rfl
theorem q593 : (Jvm.Cond.instanceMethod ({ cls := "SleepWork$Parser", name := "read", desc := "()LSleepWork$Text;" } : Jvm.MethodName)) ∈ lw_all := lw_g (lw_at lw_m3 0 rfl) rfl
theorem q594 : (Jvm.Cond.selects "SleepWork$Parser" ({ cls := "SleepWork$Parser", name := "read", desc := "()LSleepWork$Text;" } : Jvm.MethodName) ({ cls := "SleepWork$Parser", name := "read", desc := "()LSleepWork$Text;" } : Jvm.MethodName)) ∈ lw_all := lw_g (lw_at lw_m3 1 rfl) rfl
theorem q595 : (Jvm.Cond.code ({ cls := "SleepWork$Parser", name := "read", desc := "()LSleepWork$Text;" } : Jvm.MethodName) prog_10_method_16_code (1 : Nat) (Option.some (Jvm.ClassFile.FieldType.object "SleepWork$Text"))) ∈ lw_all := lw_g (lw_at lw_m3 2 rfl) rfl
theorem q596 : (Jvm.Cond.methodLink "SleepWork$Parser" (95 : Nat) ({ cls := "SleepWork$Tokens", name := "read", desc := "()V" } : Jvm.MethodName)) ∈ lw_all := lw_g (lw_at lw_m3 3 rfl) rfl
theorem q672 : (Jvm.Cond.classLink "SleepWork$Parser" (87 : Nat) "SleepWork$Text") ∈ lw_all := lw_g (lw_at lw_m3 79 rfl) rfl
theorem q673 : (Jvm.Cond.methodLinkNest "SleepWork$Parser" (98 : Nat) ({ cls := "SleepWork$Text", name := "<init>", desc := "()V" } : Jvm.MethodName) "SleepWork") ∈ lw_tbl := lw_at lw_m3 80 rfl
theorem q674 : (Jvm.Cond.methodLink "SleepWork$Parser" (65 : Nat) ({ cls := "SleepWork$Parser", name := "sort", desc := "()I" } : Jvm.MethodName)) ∈ lw_all := lw_g (lw_at lw_m3 81 rfl) rfl
theorem q675 : (Jvm.Cond.privateMethod ({ cls := "SleepWork$Parser", name := "sort", desc := "()I" } : Jvm.MethodName)) ∈ lw_tbl := lw_at lw_m3 82 rfl
theorem q676 : (Jvm.Cond.instanceMethod ({ cls := "SleepWork$Parser", name := "sort", desc := "()I" } : Jvm.MethodName)) ∈ lw_all := lw_g (lw_at lw_m3 83 rfl) rfl
theorem q677 : (Jvm.Cond.code ({ cls := "SleepWork$Parser", name := "sort", desc := "()I" } : Jvm.MethodName) prog_10_method_5_code (1 : Nat) (Option.some Jvm.ClassFile.FieldType.int)) ∈ lw_all := lw_g (lw_at lw_m3 84 rfl) rfl
theorem q678 : (Jvm.Cond.methodLink "SleepWork$Parser" (48 : Nat) ({ cls := "SleepWork$Parser", name := "wrong", desc := "(I)LSleepWork$Fault;" } : Jvm.MethodName)) ∈ lw_all := lw_g (lw_at lw_m3 85 rfl) rfl
theorem q679 : (Jvm.Cond.privateMethod ({ cls := "SleepWork$Parser", name := "wrong", desc := "(I)LSleepWork$Fault;" } : Jvm.MethodName)) ∈ lw_tbl := lw_at lw_m3 86 rfl
theorem q680 : (Jvm.Cond.instanceMethod ({ cls := "SleepWork$Parser", name := "wrong", desc := "(I)LSleepWork$Fault;" } : Jvm.MethodName)) ∈ lw_all := lw_g (lw_at lw_m3 87 rfl) rfl
theorem q681 : (Jvm.Cond.code ({ cls := "SleepWork$Parser", name := "wrong", desc := "(I)LSleepWork$Fault;" } : Jvm.MethodName) prog_10_method_3_code (2 : Nat) (Option.some (Jvm.ClassFile.FieldType.object "SleepWork$Fault"))) ∈ lw_all := lw_g (lw_at lw_m3 88 rfl) rfl
theorem q682 : (Jvm.Cond.methodLink "SleepWork$Parser" (35 : Nat) ({ cls := "SleepWork$Parser", name := "wrongAt", desc := "(II)LSleepWork$Fault;" } : Jvm.MethodName)) ∈ lw_all := lw_g (lw_at lw_m3 89 rfl) rfl
theorem q683 : (Jvm.Cond.privateMethod ({ cls := "SleepWork$Parser", name := "wrongAt", desc := "(II)LSleepWork$Fault;" } : Jvm.MethodName)) ∈ lw_tbl := lw_at lw_m3 90 rfl
theorem q684 : (Jvm.Cond.instanceMethod ({ cls := "SleepWork$Parser", name := "wrongAt", desc := "(II)LSleepWork$Fault;" } : Jvm.MethodName)) ∈ lw_all := lw_g (lw_at lw_m3 91 rfl) rfl
theorem q685 : (Jvm.Cond.code ({ cls := "SleepWork$Parser", name := "wrongAt", desc := "(II)LSleepWork$Fault;" } : Jvm.MethodName) prog_10_method_2_code (3 : Nat) (Option.some (Jvm.ClassFile.FieldType.object "SleepWork$Fault"))) ∈ lw_all := lw_g (lw_at lw_m3 92 rfl) rfl
theorem q686 : (Jvm.Cond.methodLink "SleepWork$Parser" (25 : Nat) ({ cls := "SleepWork$Fault", name := "of", desc := "(II)LSleepWork$Fault;" } : Jvm.MethodName)) ∈ lw_all := lw_g (lw_at lw_m3 93 rfl) rfl
theorem q690 : (Jvm.Cond.methodLink "SleepWork$Parser" (102 : Nat) ({ cls := "SleepWork$Parser", name := "told", desc := "()V" } : Jvm.MethodName)) ∈ lw_all := lw_g (lw_at lw_m3 97 rfl) rfl
theorem q691 : (Jvm.Cond.privateMethod ({ cls := "SleepWork$Parser", name := "told", desc := "()V" } : Jvm.MethodName)) ∈ lw_tbl := lw_at lw_m3 98 rfl
theorem q692 : (Jvm.Cond.instanceMethod ({ cls := "SleepWork$Parser", name := "told", desc := "()V" } : Jvm.MethodName)) ∈ lw_all := lw_g (lw_at lw_m3 99 rfl) rfl
theorem q693 : (Jvm.Cond.code ({ cls := "SleepWork$Parser", name := "told", desc := "()V" } : Jvm.MethodName) prog_10_method_17_code (3 : Nat) (Option.none : Option Jvm.ClassFile.FieldType)) ∈ lw_all := lw_g (lw_at lw_m3 100 rfl) rfl
theorem q694 : (Jvm.Cond.methodLink "SleepWork$Parser" (113 : Nat) ({ cls := "java/util/ArrayList", name := "size", desc := "()I" } : Jvm.MethodName)) ∈ lw_all := lw_g (lw_at lw_m3 101 rfl) rfl
theorem q698 : (Jvm.Cond.methodLink "SleepWork$Parser" (118 : Nat) ({ cls := "SleepWork$Parser", name := "begins", desc := "(II)V" } : Jvm.MethodName)) ∈ lw_all := lw_g (lw_at lw_m3 105 rfl) rfl
theorem q699 : (Jvm.Cond.privateMethod ({ cls := "SleepWork$Parser", name := "begins", desc := "(II)V" } : Jvm.MethodName)) ∈ lw_tbl := lw_at lw_m3 106 rfl
theorem q700 : (Jvm.Cond.instanceMethod ({ cls := "SleepWork$Parser", name := "begins", desc := "(II)V" } : Jvm.MethodName)) ∈ lw_all := lw_g (lw_at lw_m3 107 rfl) rfl
theorem q701 : (Jvm.Cond.code ({ cls := "SleepWork$Parser", name := "begins", desc := "(II)V" } : Jvm.MethodName) prog_10_method_15_code (3 : Nat) (Option.none : Option Jvm.ClassFile.FieldType)) ∈ lw_all := lw_g (lw_at lw_m3 108 rfl) rfl
theorem q702 : (Jvm.Cond.methodLink "SleepWork$Parser" (59 : Nat) ({ cls := "SleepWork$Parser", name := "pass", desc := "()V" } : Jvm.MethodName)) ∈ lw_all := lw_g (lw_at lw_m3 109 rfl) rfl
theorem q703 : (Jvm.Cond.privateMethod ({ cls := "SleepWork$Parser", name := "pass", desc := "()V" } : Jvm.MethodName)) ∈ lw_tbl := lw_at lw_m3 110 rfl
theorem q704 : (Jvm.Cond.instanceMethod ({ cls := "SleepWork$Parser", name := "pass", desc := "()V" } : Jvm.MethodName)) ∈ lw_all := lw_g (lw_at lw_m3 111 rfl) rfl
theorem q705 : (Jvm.Cond.code ({ cls := "SleepWork$Parser", name := "pass", desc := "()V" } : Jvm.MethodName) prog_10_method_6_code (1 : Nat) (Option.none : Option Jvm.ClassFile.FieldType)) ∈ lw_all := lw_g (lw_at lw_m3 112 rfl) rfl
theorem q706 : (Jvm.Cond.classLink "SleepWork$Parser" (121 : Nat) "SleepWork$Room") ∈ lw_all := lw_g (lw_at lw_m3 113 rfl) rfl
theorem q708 : (Jvm.Cond.methodLink "SleepWork$Parser" (123 : Nat) ({ cls := "SleepWork$Parser", name := "name", desc := "()Ljava/lang/String;" } : Jvm.MethodName)) ∈ lw_all := lw_g (lw_at lw_m3 115 rfl) rfl
theorem q709 : (Jvm.Cond.privateMethod ({ cls := "SleepWork$Parser", name := "name", desc := "()Ljava/lang/String;" } : Jvm.MethodName)) ∈ lw_tbl := lw_at lw_m3 116 rfl
theorem q710 : (Jvm.Cond.instanceMethod ({ cls := "SleepWork$Parser", name := "name", desc := "()Ljava/lang/String;" } : Jvm.MethodName)) ∈ lw_all := lw_g (lw_at lw_m3 117 rfl) rfl
theorem q711 : (Jvm.Cond.code ({ cls := "SleepWork$Parser", name := "name", desc := "()Ljava/lang/String;" } : Jvm.MethodName) prog_10_method_13_code (3 : Nat) (Option.some (Jvm.ClassFile.FieldType.object "java/lang/String"))) ∈ lw_all := lw_g (lw_at lw_m3 118 rfl) rfl
theorem q712 : (Jvm.Cond.methodLink "SleepWork$Parser" (68 : Nat) ({ cls := "SleepWork$Parser", name := "take", desc := "(I)I" } : Jvm.MethodName)) ∈ lw_all := lw_g (lw_at lw_m3 119 rfl) rfl
theorem q713 : (Jvm.Cond.privateMethod ({ cls := "SleepWork$Parser", name := "take", desc := "(I)I" } : Jvm.MethodName)) ∈ lw_tbl := lw_at lw_m3 120 rfl
theorem q714 : (Jvm.Cond.instanceMethod ({ cls := "SleepWork$Parser", name := "take", desc := "(I)I" } : Jvm.MethodName)) ∈ lw_all := lw_g (lw_at lw_m3 121 rfl) rfl
theorem q715 : (Jvm.Cond.code ({ cls := "SleepWork$Parser", name := "take", desc := "(I)I" } : Jvm.MethodName) prog_10_method_11_code (2 : Nat) (Option.some Jvm.ClassFile.FieldType.int)) ∈ lw_all := lw_g (lw_at lw_m3 122 rfl) rfl
theorem q716 : (Jvm.Cond.methodLink "SleepWork$Parser" (79 : Nat) ({ cls := "SleepWork$Tokens", name := "text", desc := "(I)Ljava/lang/String;" } : Jvm.MethodName)) ∈ lw_all := lw_g (lw_at lw_m3 123 rfl) rfl
theorem q882 : (Jvm.Cond.methodLink "SleepWork$Parser" (86 : Nat) ({ cls := "SleepWork$Text", name := "has", desc := "(Ljava/lang/String;)Z" } : Jvm.MethodName)) ∈ lw_all := lw_g (lw_at lw_m4 49 rfl) rfl
theorem q911 : (Jvm.Cond.methodLink "SleepWork$Parser" (75 : Nat) ({ cls := "SleepWork$Parser", name := "tell", desc := "(II)V" } : Jvm.MethodName)) ∈ lw_all := lw_g (lw_at lw_m4 78 rfl) rfl
theorem q912 : (Jvm.Cond.privateMethod ({ cls := "SleepWork$Parser", name := "tell", desc := "(II)V" } : Jvm.MethodName)) ∈ lw_tbl := lw_at lw_m4 79 rfl
theorem q913 : (Jvm.Cond.instanceMethod ({ cls := "SleepWork$Parser", name := "tell", desc := "(II)V" } : Jvm.MethodName)) ∈ lw_all := lw_g (lw_at lw_m4 80 rfl) rfl
theorem q914 : (Jvm.Cond.code ({ cls := "SleepWork$Parser", name := "tell", desc := "(II)V" } : Jvm.MethodName) prog_10_method_4_code (3 : Nat) (Option.none : Option Jvm.ClassFile.FieldType)) ∈ lw_all := lw_g (lw_at lw_m4 81 rfl) rfl
theorem q915 : (Jvm.Cond.methodLink "SleepWork$Parser" (127 : Nat) ({ cls := "SleepWork$Room", name := "<init>", desc := "(Ljava/lang/String;)V" } : Jvm.MethodName)) ∈ lw_all := lw_g (lw_at lw_m4 82 rfl) rfl
theorem q927 : (Jvm.Cond.methodLink "SleepWork$Parser" (130 : Nat) ({ cls := "java/util/ArrayList", name := "add", desc := "(Ljava/lang/Object;)Z" } : Jvm.MethodName)) ∈ lw_all := lw_g (lw_at lw_m4 94 rfl) rfl
theorem q958 : (Jvm.Cond.selects "SleepWork$Parser" ({ cls := "java/lang/Object", name := "getClass", desc := "()Ljava/lang/Class;" } : Jvm.MethodName) ({ cls := "java/lang/Object", name := "getClass", desc := "()Ljava/lang/Class;" } : Jvm.MethodName)) ∈ lw_all := lw_g (lw_at lw_m4 125 rfl) rfl
theorem q981 : (Jvm.Cond.methodLink "SleepWork$Parser" (134 : Nat) ({ cls := "SleepWork$Parser", name := "door", desc := "()V" } : Jvm.MethodName)) ∈ lw_all := lw_g (lw_at lw_m4 148 rfl) rfl
theorem q982 : (Jvm.Cond.privateMethod ({ cls := "SleepWork$Parser", name := "door", desc := "()V" } : Jvm.MethodName)) ∈ lw_tbl := lw_at lw_m4 149 rfl
theorem q983 : (Jvm.Cond.instanceMethod ({ cls := "SleepWork$Parser", name := "door", desc := "()V" } : Jvm.MethodName)) ∈ lw_all := lw_g (lw_at lw_m4 150 rfl) rfl
theorem q984 : (Jvm.Cond.code ({ cls := "SleepWork$Parser", name := "door", desc := "()V" } : Jvm.MethodName) prog_10_method_18_code (3 : Nat) (Option.none : Option Jvm.ClassFile.FieldType)) ∈ lw_all := lw_g (lw_at lw_m4 151 rfl) rfl
theorem q985 : (Jvm.Cond.classLink "SleepWork$Parser" (178 : Nat) "SleepWork$Door") ∈ lw_all := lw_g (lw_at lw_m4 152 rfl) rfl
theorem q987 : (Jvm.Cond.methodLinkNest "SleepWork$Parser" (180 : Nat) ({ cls := "SleepWork$Door", name := "<init>", desc := "()V" } : Jvm.MethodName) "SleepWork") ∈ lw_tbl := lw_at lw_m4 154 rfl
theorem q992 : (Jvm.Cond.fieldLink "SleepWork$Parser" (181 : Nat) "SleepWork$Door" "from" "I") ∈ lw_all := lw_g (lw_at lw_m4 159 rfl) rfl
theorem q994 : (Jvm.Cond.fieldLink "SleepWork$Parser" (183 : Nat) "SleepWork$Door" "to" "I") ∈ lw_all := lw_g (lw_at lw_m4 161 rfl) rfl
theorem q996 : (Jvm.Cond.fieldLink "SleepWork$Parser" (186 : Nat) "SleepWork$Door" "minutes" "I") ∈ lw_all := lw_g (lw_at lw_m4 163 rfl) rfl
theorem q998 : (Jvm.Cond.fieldLink "SleepWork$Parser" (189 : Nat) "SleepWork$Door" "shut" "Z") ∈ lw_all := lw_g (lw_at lw_m4 165 rfl) rfl
theorem q1008 : (Jvm.Cond.methodLink "SleepWork$Parser" (143 : Nat) ({ cls := "SleepWork$Parser", name := "known", desc := "(Ljava/util/ArrayList;)I" } : Jvm.MethodName)) ∈ lw_all := lw_g (lw_at lw_m4 175 rfl) rfl
theorem q1009 : (Jvm.Cond.privateMethod ({ cls := "SleepWork$Parser", name := "known", desc := "(Ljava/util/ArrayList;)I" } : Jvm.MethodName)) ∈ lw_tbl := lw_at lw_m4 176 rfl
theorem q1010 : (Jvm.Cond.instanceMethod ({ cls := "SleepWork$Parser", name := "known", desc := "(Ljava/util/ArrayList;)I" } : Jvm.MethodName)) ∈ lw_all := lw_g (lw_at lw_m4 177 rfl) rfl
theorem q1011 : (Jvm.Cond.code ({ cls := "SleepWork$Parser", name := "known", desc := "(Ljava/util/ArrayList;)I" } : Jvm.MethodName) prog_10_method_14_code (4 : Nat) (Option.some Jvm.ClassFile.FieldType.int)) ∈ lw_all := lw_g (lw_at lw_m4 178 rfl) rfl
theorem q1012 : (Jvm.Cond.methodLink "SleepWork$Parser" (92 : Nat) ({ cls := "SleepWork$Text", name := "at", desc := "(Ljava/util/ArrayList;Ljava/lang/String;)I" } : Jvm.MethodName)) ∈ lw_all := lw_g (lw_at lw_m4 179 rfl) rfl
theorem q1013 : (Jvm.Cond.methodLink "SleepWork$Parser" (157 : Nat) ({ cls := "SleepWork$Parser", name := "number", desc := "(II)I" } : Jvm.MethodName)) ∈ lw_all := lw_g (lw_at lw_m4 180 rfl) rfl
theorem q1014 : (Jvm.Cond.privateMethod ({ cls := "SleepWork$Parser", name := "number", desc := "(II)I" } : Jvm.MethodName)) ∈ lw_tbl := lw_at lw_m4 181 rfl
theorem q1015 : (Jvm.Cond.instanceMethod ({ cls := "SleepWork$Parser", name := "number", desc := "(II)I" } : Jvm.MethodName)) ∈ lw_all := lw_g (lw_at lw_m4 182 rfl) rfl
theorem q1016 : (Jvm.Cond.code ({ cls := "SleepWork$Parser", name := "number", desc := "(II)I" } : Jvm.MethodName) prog_10_method_12_code (5 : Nat) (Option.some Jvm.ClassFile.FieldType.int)) ∈ lw_all := lw_g (lw_at lw_m4 183 rfl) rfl
theorem q1017 : (Jvm.Cond.methodLink "SleepWork$Parser" (72 : Nat) ({ cls := "SleepWork$Tokens", name := "number", desc := "(I)I" } : Jvm.MethodName)) ∈ lw_all := lw_g (lw_at lw_m4 184 rfl) rfl
theorem q1021 : (Jvm.Cond.methodLink "SleepWork$Parser" (62 : Nat) ({ cls := "SleepWork$Parser", name := "isWord", desc := "(I)Z" } : Jvm.MethodName)) ∈ lw_all := lw_g (lw_at lw_m4 188 rfl) rfl
theorem q1022 : (Jvm.Cond.privateMethod ({ cls := "SleepWork$Parser", name := "isWord", desc := "(I)Z" } : Jvm.MethodName)) ∈ lw_tbl := lw_at lw_m4 189 rfl
theorem q1023 : (Jvm.Cond.instanceMethod ({ cls := "SleepWork$Parser", name := "isWord", desc := "(I)Z" } : Jvm.MethodName)) ∈ lw_all := lw_g (lw_at lw_m4 190 rfl) rfl
theorem q1024 : (Jvm.Cond.code ({ cls := "SleepWork$Parser", name := "isWord", desc := "(I)Z" } : Jvm.MethodName) prog_10_method_8_code (2 : Nat) (Option.some Jvm.ClassFile.FieldType.boolean)) ∈ lw_all := lw_g (lw_at lw_m4 191 rfl) rfl
theorem q1025 : (Jvm.Cond.classLink "SleepWork$Parser" (140 : Nat) "SleepWork$Tool") ∈ lw_all := lw_g (lw_at lw_m4 192 rfl) rfl
theorem q1027 : (Jvm.Cond.methodLink "SleepWork$Parser" (142 : Nat) ({ cls := "SleepWork$Tool", name := "<init>", desc := "(Ljava/lang/String;)V" } : Jvm.MethodName)) ∈ lw_all := lw_g (lw_at lw_m4 194 rfl) rfl
theorem q1032 : (Jvm.Cond.fieldLink "SleepWork$Parser" (147 : Nat) "SleepWork$Tool" "room" "I") ∈ lw_all := lw_g (lw_at lw_m4 199 rfl) rfl
theorem q1037 : (Jvm.Cond.classLink "SleepWork$Parser" (153 : Nat) "SleepWork$Task") ∈ lw_all := lw_g (lw_at lw_m4 204 rfl) rfl
theorem q1039 : (Jvm.Cond.methodLink "SleepWork$Parser" (155 : Nat) ({ cls := "SleepWork$Task", name := "<init>", desc := "(Ljava/lang/String;)V" } : Jvm.MethodName)) ∈ lw_all := lw_g (lw_at lw_m4 206 rfl) rfl
theorem q1047 : (Jvm.Cond.fieldLink "SleepWork$Parser" (156 : Nat) "SleepWork$Task" "room" "I") ∈ lw_all := lw_g (lw_at lw_m4 214 rfl) rfl
theorem q1049 : (Jvm.Cond.fieldLink "SleepWork$Parser" (160 : Nat) "SleepWork$Task" "stuff" "I") ∈ lw_all := lw_g (lw_at lw_m4 216 rfl) rfl
theorem q1054 : (Jvm.Cond.fieldLink "SleepWork$Parser" (200 : Nat) "SleepWork$Task" "steps" "Ljava/util/ArrayList;") ∈ lw_all := lw_g (lw_at lw_m4 221 rfl) rfl
theorem q1063 : (Jvm.Cond.methodLink "SleepWork$Parser" (163 : Nat) ({ cls := "SleepWork$Parser", name := "step", desc := "()V" } : Jvm.MethodName)) ∈ lw_all := lw_g (lw_at lw_m4 230 rfl) rfl
theorem q1064 : (Jvm.Cond.privateMethod ({ cls := "SleepWork$Parser", name := "step", desc := "()V" } : Jvm.MethodName)) ∈ lw_tbl := lw_at lw_m4 231 rfl
theorem q1065 : (Jvm.Cond.instanceMethod ({ cls := "SleepWork$Parser", name := "step", desc := "()V" } : Jvm.MethodName)) ∈ lw_all := lw_g (lw_at lw_m4 232 rfl) rfl
theorem q1066 : (Jvm.Cond.code ({ cls := "SleepWork$Parser", name := "step", desc := "()V" } : Jvm.MethodName) prog_10_method_20_code (5 : Nat) (Option.none : Option Jvm.ClassFile.FieldType)) ∈ lw_all := lw_g (lw_at lw_m4 233 rfl) rfl
theorem q1067 : (Jvm.Cond.methodLink "SleepWork$Parser" (196 : Nat) ({ cls := "java/util/ArrayList", name := "get", desc := "(I)Ljava/lang/Object;" } : Jvm.MethodName)) ∈ lw_all := lw_g (lw_at lw_m4 234 rfl) rfl
theorem q1068 : (Jvm.Cond.classLink "SleepWork$Parser" (203 : Nat) "SleepWork$Step") ∈ lw_all := lw_g (lw_at lw_m4 235 rfl) rfl
theorem q1070 : (Jvm.Cond.methodLinkNest "SleepWork$Parser" (205 : Nat) ({ cls := "SleepWork$Step", name := "<init>", desc := "()V" } : Jvm.MethodName) "SleepWork") ∈ lw_tbl := lw_at lw_m4 237 rfl
theorem q1076 : (Jvm.Cond.fieldLink "SleepWork$Parser" (206 : Nat) "SleepWork$Step" "minutes" "I") ∈ lw_all := lw_g (lw_at lw_m5 3 rfl) rfl
theorem q1079 : (Jvm.Cond.fieldLink "SleepWork$Parser" (207 : Nat) "SleepWork$Step" "need" "I") ∈ lw_all := lw_g (lw_at lw_m5 6 rfl) rfl
theorem q1082 : (Jvm.Cond.fieldLink "SleepWork$Parser" (210 : Nat) "SleepWork$Step" "gain" "I") ∈ lw_all := lw_g (lw_at lw_m5 9 rfl) rfl
theorem q1085 : (Jvm.Cond.fieldLink "SleepWork$Parser" (213 : Nat) "SleepWork$Step" "spoil" "I") ∈ lw_all := lw_g (lw_at lw_m5 12 rfl) rfl
theorem q1089 : (Jvm.Cond.fieldLink "SleepWork$Parser" (216 : Nat) "SleepWork$Step" "tool" "I") ∈ lw_all := lw_g (lw_at lw_m5 16 rfl) rfl
theorem q1093 : (Jvm.Cond.fieldLink "SleepWork$Parser" (223 : Nat) "SleepWork$Step" "undoes" "I") ∈ lw_all := lw_g (lw_at lw_m5 20 rfl) rfl
theorem q1107 : (Jvm.Cond.methodLink "SleepWork$Parser" (219 : Nat) ({ cls := "SleepWork$Parser", name := "stepOf", desc := "(LSleepWork$Task;)I" } : Jvm.MethodName)) ∈ lw_all := lw_g (lw_at lw_m5 34 rfl) rfl
theorem q1108 : (Jvm.Cond.privateMethod ({ cls := "SleepWork$Parser", name := "stepOf", desc := "(LSleepWork$Task;)I" } : Jvm.MethodName)) ∈ lw_tbl := lw_at lw_m5 35 rfl
theorem q1109 : (Jvm.Cond.instanceMethod ({ cls := "SleepWork$Parser", name := "stepOf", desc := "(LSleepWork$Task;)I" } : Jvm.MethodName)) ∈ lw_all := lw_g (lw_at lw_m5 36 rfl) rfl
theorem q1110 : (Jvm.Cond.code ({ cls := "SleepWork$Parser", name := "stepOf", desc := "(LSleepWork$Task;)I" } : Jvm.MethodName) prog_10_method_19_code (4 : Nat) (Option.some Jvm.ClassFile.FieldType.int)) ∈ lw_all := lw_g (lw_at lw_m5 37 rfl) rfl
theorem q1111 : (Jvm.Cond.methodLink "SleepWork$Parser" (193 : Nat) ({ cls := "SleepWork$Task", name := "isStep", desc := "(I)Z" } : Jvm.MethodName)) ∈ lw_all := lw_g (lw_at lw_m5 38 rfl) rfl
theorem q1116 : (Jvm.Cond.methodLink "SleepWork$Parser" (166 : Nat) ({ cls := "SleepWork$Parser", name := "man", desc := "()V" } : Jvm.MethodName)) ∈ lw_all := lw_g (lw_at lw_m5 43 rfl) rfl
theorem q1117 : (Jvm.Cond.privateMethod ({ cls := "SleepWork$Parser", name := "man", desc := "()V" } : Jvm.MethodName)) ∈ lw_tbl := lw_at lw_m5 44 rfl
theorem q1118 : (Jvm.Cond.instanceMethod ({ cls := "SleepWork$Parser", name := "man", desc := "()V" } : Jvm.MethodName)) ∈ lw_all := lw_g (lw_at lw_m5 45 rfl) rfl
theorem q1119 : (Jvm.Cond.code ({ cls := "SleepWork$Parser", name := "man", desc := "()V" } : Jvm.MethodName) prog_10_method_21_code (3 : Nat) (Option.none : Option Jvm.ClassFile.FieldType)) ∈ lw_all := lw_g (lw_at lw_m5 46 rfl) rfl
theorem q1120 : (Jvm.Cond.classLink "SleepWork$Parser" (229 : Nat) "SleepWork$Man") ∈ lw_all := lw_g (lw_at lw_m5 47 rfl) rfl
theorem q1122 : (Jvm.Cond.methodLink "SleepWork$Parser" (231 : Nat) ({ cls := "SleepWork$Man", name := "<init>", desc := "(Ljava/lang/String;)V" } : Jvm.MethodName)) ∈ lw_all := lw_g (lw_at lw_m5 49 rfl) rfl
theorem q1128 : (Jvm.Cond.fieldLink "SleepWork$Parser" (232 : Nat) "SleepWork$Man" "home" "I") ∈ lw_all := lw_g (lw_at lw_m5 55 rfl) rfl
theorem q1131 : (Jvm.Cond.fieldLink "SleepWork$Parser" (235 : Nat) "SleepWork$Man" "leftTask" "I") ∈ lw_all := lw_g (lw_at lw_m5 58 rfl) rfl
theorem q1134 : (Jvm.Cond.fieldLink "SleepWork$Parser" (238 : Nat) "SleepWork$Man" "leftStep" "I") ∈ lw_all := lw_g (lw_at lw_m5 61 rfl) rfl
theorem q1136 : (Jvm.Cond.fieldLink "SleepWork$Parser" (266 : Nat) "SleepWork$Man" "law" "LSleepWork$Law;") ∈ lw_all := lw_g (lw_at lw_m5 63 rfl) rfl
theorem q1147 : (Jvm.Cond.methodLink "SleepWork$Parser" (169 : Nat) ({ cls := "SleepWork$Parser", name := "law", desc := "()V" } : Jvm.MethodName)) ∈ lw_all := lw_g (lw_at lw_m5 74 rfl) rfl
theorem q1148 : (Jvm.Cond.privateMethod ({ cls := "SleepWork$Parser", name := "law", desc := "()V" } : Jvm.MethodName)) ∈ lw_tbl := lw_at lw_m5 75 rfl
theorem q1149 : (Jvm.Cond.instanceMethod ({ cls := "SleepWork$Parser", name := "law", desc := "()V" } : Jvm.MethodName)) ∈ lw_all := lw_g (lw_at lw_m5 76 rfl) rfl
theorem q1150 : (Jvm.Cond.code ({ cls := "SleepWork$Parser", name := "law", desc := "()V" } : Jvm.MethodName) prog_10_method_22_code (3 : Nat) (Option.none : Option Jvm.ClassFile.FieldType)) ∈ lw_all := lw_g (lw_at lw_m5 77 rfl) rfl
theorem q1151 : (Jvm.Cond.classLink "SleepWork$Parser" (243 : Nat) "SleepWork$Law") ∈ lw_all := lw_g (lw_at lw_m5 78 rfl) rfl
theorem q1153 : (Jvm.Cond.methodLinkNest "SleepWork$Parser" (245 : Nat) ({ cls := "SleepWork$Law", name := "<init>", desc := "()V" } : Jvm.MethodName) "SleepWork") ∈ lw_tbl := lw_at lw_m5 80 rfl
theorem q1160 : (Jvm.Cond.fieldLink "SleepWork$Parser" (249 : Nat) "SleepWork$Law" "less" "[LSleepWork$Sum;") ∈ lw_all := lw_g (lw_at lw_m5 87 rfl) rfl
theorem q1162 : (Jvm.Cond.fieldLink "SleepWork$Parser" (257 : Nat) "SleepWork$Law" "than" "[LSleepWork$Sum;") ∈ lw_all := lw_g (lw_at lw_m5 89 rfl) rfl
theorem q1164 : (Jvm.Cond.fieldLink "SleepWork$Parser" (263 : Nat) "SleepWork$Law" "then" "[LSleepWork$Sum;") ∈ lw_all := lw_g (lw_at lw_m5 91 rfl) rfl
theorem q1166 : (Jvm.Cond.fieldLink "SleepWork$Parser" (246 : Nat) "SleepWork$Law" "ifs" "I") ∈ lw_all := lw_g (lw_at lw_m5 93 rfl) rfl
theorem q1176 : (Jvm.Cond.methodLink "SleepWork$Parser" (105 : Nat) ({ cls := "SleepWork$Parser", name := "sign", desc := "(I)V" } : Jvm.MethodName)) ∈ lw_all := lw_g (lw_at lw_m5 103 rfl) rfl
theorem q1177 : (Jvm.Cond.privateMethod ({ cls := "SleepWork$Parser", name := "sign", desc := "(I)V" } : Jvm.MethodName)) ∈ lw_tbl := lw_at lw_m5 104 rfl
theorem q1178 : (Jvm.Cond.instanceMethod ({ cls := "SleepWork$Parser", name := "sign", desc := "(I)V" } : Jvm.MethodName)) ∈ lw_all := lw_g (lw_at lw_m5 105 rfl) rfl
theorem q1179 : (Jvm.Cond.code ({ cls := "SleepWork$Parser", name := "sign", desc := "(I)V" } : Jvm.MethodName) prog_10_method_9_code (2 : Nat) (Option.none : Option Jvm.ClassFile.FieldType)) ∈ lw_all := lw_g (lw_at lw_m5 106 rfl) rfl
theorem q1180 : (Jvm.Cond.methodLink "SleepWork$Parser" (55 : Nat) ({ cls := "SleepWork$Parser", name := "isSign", desc := "(I)Z" } : Jvm.MethodName)) ∈ lw_all := lw_g (lw_at lw_m5 107 rfl) rfl
theorem q1181 : (Jvm.Cond.privateMethod ({ cls := "SleepWork$Parser", name := "isSign", desc := "(I)Z" } : Jvm.MethodName)) ∈ lw_tbl := lw_at lw_m5 108 rfl
theorem q1182 : (Jvm.Cond.instanceMethod ({ cls := "SleepWork$Parser", name := "isSign", desc := "(I)Z" } : Jvm.MethodName)) ∈ lw_all := lw_g (lw_at lw_m5 109 rfl) rfl
theorem q1183 : (Jvm.Cond.code ({ cls := "SleepWork$Parser", name := "isSign", desc := "(I)Z" } : Jvm.MethodName) prog_10_method_7_code (2 : Nat) (Option.some Jvm.ClassFile.FieldType.boolean)) ∈ lw_all := lw_g (lw_at lw_m5 110 rfl) rfl
theorem q1184 : (Jvm.Cond.methodLink "SleepWork$Parser" (253 : Nat) ({ cls := "SleepWork$Parser", name := "sum", desc := "()LSleepWork$Sum;" } : Jvm.MethodName)) ∈ lw_all := lw_g (lw_at lw_m5 111 rfl) rfl
theorem q1185 : (Jvm.Cond.privateMethod ({ cls := "SleepWork$Parser", name := "sum", desc := "()LSleepWork$Sum;" } : Jvm.MethodName)) ∈ lw_tbl := lw_at lw_m5 112 rfl
theorem q1186 : (Jvm.Cond.instanceMethod ({ cls := "SleepWork$Parser", name := "sum", desc := "()LSleepWork$Sum;" } : Jvm.MethodName)) ∈ lw_all := lw_g (lw_at lw_m5 113 rfl) rfl
theorem q1187 : (Jvm.Cond.code ({ cls := "SleepWork$Parser", name := "sum", desc := "()LSleepWork$Sum;" } : Jvm.MethodName) prog_10_method_23_code (3 : Nat) (Option.some (Jvm.ClassFile.FieldType.object "SleepWork$Sum"))) ∈ lw_all := lw_g (lw_at lw_m5 114 rfl) rfl
theorem q1188 : (Jvm.Cond.methodLink "SleepWork$Parser" (269 : Nat) ({ cls := "SleepWork$Parser", name := "part", desc := "()LSleepWork$Sum;" } : Jvm.MethodName)) ∈ lw_all := lw_g (lw_at lw_m5 115 rfl) rfl
theorem q1189 : (Jvm.Cond.privateMethod ({ cls := "SleepWork$Parser", name := "part", desc := "()LSleepWork$Sum;" } : Jvm.MethodName)) ∈ lw_tbl := lw_at lw_m5 116 rfl
theorem q1190 : (Jvm.Cond.instanceMethod ({ cls := "SleepWork$Parser", name := "part", desc := "()LSleepWork$Sum;" } : Jvm.MethodName)) ∈ lw_all := lw_g (lw_at lw_m5 117 rfl) rfl
theorem q1191 : (Jvm.Cond.code ({ cls := "SleepWork$Parser", name := "part", desc := "()LSleepWork$Sum;" } : Jvm.MethodName) prog_10_method_24_code (3 : Nat) (Option.some (Jvm.ClassFile.FieldType.object "SleepWork$Sum"))) ∈ lw_all := lw_g (lw_at lw_m5 118 rfl) rfl
theorem q1192 : (Jvm.Cond.methodLink "SleepWork$Parser" (277 : Nat) ({ cls := "SleepWork$Parser", name := "unit", desc := "()LSleepWork$Sum;" } : Jvm.MethodName)) ∈ lw_all := lw_g (lw_at lw_m5 119 rfl) rfl
theorem q1193 : (Jvm.Cond.privateMethod ({ cls := "SleepWork$Parser", name := "unit", desc := "()LSleepWork$Sum;" } : Jvm.MethodName)) ∈ lw_tbl := lw_at lw_m5 120 rfl
theorem q1194 : (Jvm.Cond.instanceMethod ({ cls := "SleepWork$Parser", name := "unit", desc := "()LSleepWork$Sum;" } : Jvm.MethodName)) ∈ lw_all := lw_g (lw_at lw_m5 121 rfl) rfl
theorem q1195 : (Jvm.Cond.code ({ cls := "SleepWork$Parser", name := "unit", desc := "()LSleepWork$Sum;" } : Jvm.MethodName) prog_10_method_25_code (2 : Nat) (Option.some (Jvm.ClassFile.FieldType.object "SleepWork$Sum"))) ∈ lw_all := lw_g (lw_at lw_m5 122 rfl) rfl
theorem q1196 : (Jvm.Cond.classLink "SleepWork$Parser" (280 : Nat) "SleepWork$Number") ∈ lw_all := lw_g (lw_at lw_m5 123 rfl) rfl
theorem q1198 : (Jvm.Cond.methodLink "SleepWork$Parser" (282 : Nat) ({ cls := "SleepWork$Number", name := "<init>", desc := "(I)V" } : Jvm.MethodName)) ∈ lw_all := lw_g (lw_at lw_m5 125 rfl) rfl
theorem q1209 : (Jvm.Cond.classLink "SleepWork$Parser" (284 : Nat) "SleepWork$Var") ∈ lw_all := lw_g (lw_at lw_m5 136 rfl) rfl
theorem q1211 : (Jvm.Cond.methodLink "SleepWork$Parser" (286 : Nat) ({ cls := "SleepWork$Var", name := "<init>", desc := "(I)V" } : Jvm.MethodName)) ∈ lw_all := lw_g (lw_at lw_m5 138 rfl) rfl
theorem q1219 : (Jvm.Cond.classLink "SleepWork$Parser" (272 : Nat) "SleepWork$Joined") ∈ lw_all := lw_g (lw_at lw_m5 146 rfl) rfl
theorem q1221 : (Jvm.Cond.methodLink "SleepWork$Parser" (274 : Nat) ({ cls := "SleepWork$Joined", name := "<init>", desc := "(ILSleepWork$Sum;LSleepWork$Sum;)V" } : Jvm.MethodName)) ∈ lw_all := lw_g (lw_at lw_m5 148 rfl) rfl
theorem q1235 : (Jvm.Cond.methodLink "SleepWork$Parser" (260 : Nat) ({ cls := "SleepWork$Parser", name := "word", desc := "(I)V" } : Jvm.MethodName)) ∈ lw_all := lw_g (lw_at lw_m5 162 rfl) rfl
theorem q1236 : (Jvm.Cond.privateMethod ({ cls := "SleepWork$Parser", name := "word", desc := "(I)V" } : Jvm.MethodName)) ∈ lw_tbl := lw_at lw_m5 163 rfl
theorem q1237 : (Jvm.Cond.instanceMethod ({ cls := "SleepWork$Parser", name := "word", desc := "(I)V" } : Jvm.MethodName)) ∈ lw_all := lw_g (lw_at lw_m5 164 rfl) rfl
theorem q1238 : (Jvm.Cond.code ({ cls := "SleepWork$Parser", name := "word", desc := "(I)V" } : Jvm.MethodName) prog_10_method_10_code (2 : Nat) (Option.none : Option Jvm.ClassFile.FieldType)) ∈ lw_all := lw_g (lw_at lw_m5 165 rfl) rfl
theorem q2213 : (Jvm.Cond.castable "SleepWork$Parser" "java/lang/Object") ∈ lw_tbl := lw_at lw_m9 180 rfl
theorem in_X3 : ∀ w ∈ wsX30, w ∈ lw_all := lw_in wsX30 [308, 310, 312, 314, 316, 318, 320] (by decide +kernel) (by decide +kernel)
