/-! SleepWork$Village -/
set_option maxRecDepth 100000
def RX5 : String := "SleepWork$Village"
def TX5 : u_T := fun k => match k with
  | 0 => ("SleepWork$Village", "done", "[[I", true)
  | 1 => ("SleepWork$Village", "stuff", "[I", true)
  | 2 => ("SleepWork$Village", "leftTask", "[I", true)
  | 3 => ("SleepWork$Village", "leftStep", "[I", true)
  | 4 => ("SleepWork$Village", "toolAt", "[I", true)
  | 5 => ("SleepWork$Village", "did", "[I", true)
  | 6 => ("SleepWork$Village", "didAll", "[I", true)
  | 7 => ("SleepWork$Village", "lay", "[I", true)
  | 8 => ("SleepWork$Village", "shut", "I", false)
  | 9 => ("SleepWork$Village", "nights", "I", false)
  | 10 => ("SleepWork$Village", "apart", "[[I", true)
  | 11 => ("SleepWork$Village", "sleepers", "[LSleepWork$Sleeper;", true)
  | 12 => ("SleepWork$Village", "asked", "LSleepWork$Asked;", true)
  | _ => ("SleepWork$Village", "used", "I", false)
def tyX5 : Nat → FieldType := fun k => match k with
  | 0 => .array (.array .int)
  | 1 => .array .int
  | 2 => .array .int
  | 3 => .array .int
  | 4 => .array .int
  | 5 => .array .int
  | 6 => .array .int
  | 7 => .array .int
  | 8 => .int
  | 9 => .int
  | 10 => .array (.array .int)
  | 11 => .array (.object "SleepWork$Sleeper")
  | 12 => .object "SleepWork$Asked"
  | _ => .int
abbrev wsX50 : List Cond := u_ws RX5 TX5 14
set_option maxRecDepth 100000 in
theorem nmX5 : ∀ a, a < 14 → ∀ b, b < 14 → a ≠ b → (TX5 a).2.1 ≠ (TX5 b).2.1 := by decide +kernel
set_option maxRecDepth 100000 in
theorem tyX5_ok : ∀ k, k < 14 → parseFieldDescriptor (TX5 k).2.2.1 = some (tyX5 k) := by decide +kernel
abbrev cX5_init : ByteArray := prog_20_method_1_code
def yX5_init : MethodName := ⟨RX5, "<init>", "()V"⟩
def dkwX5_init_6 : List UInt8 := [187, 0, 41, 89, 183, 0, 43, 83, 181, 0, 44, 42, 187, 0, 48, 89, 183, 0, 50, 181, 0, 51, 177]
abbrev dktX5_init_6 : List UInt8 := dkwX5_init_6 ++ []
def dkwX5_init_5 : List UInt8 := [89, 6, 187, 0, 41, 89, 183, 0, 43, 83, 89, 7, 187, 0, 41, 89, 183, 0, 43, 83, 89, 8]
abbrev dktX5_init_5 : List UInt8 := dkwX5_init_5 ++ dktX5_init_6
def dkwX5_init_4 : List UInt8 := [183, 0, 43, 83, 89, 4, 187, 0, 41, 89, 183, 0, 43, 83, 89, 5, 187, 0, 41, 89, 183, 0, 43, 83]
abbrev dktX5_init_4 : List UInt8 := dkwX5_init_4 ++ dktX5_init_5
def dkwX5_init_3 : List UInt8 := [42, 16, 8, 16, 8, 197, 0, 9, 2, 181, 0, 38, 42, 16, 6, 189, 0, 41, 89, 3, 187, 0, 41, 89]
abbrev dktX5_init_3 : List UInt8 := dkwX5_init_3 ++ dktX5_init_4
def dkwX5_init_2 : List UInt8 := [42, 16, 6, 188, 10, 181, 0, 29, 42, 16, 6, 188, 10, 181, 0, 32, 42, 16, 6, 188, 10, 181, 0, 35]
abbrev dktX5_init_2 : List UInt8 := dkwX5_init_2 ++ dktX5_init_3
def dkwX5_init_1 : List UInt8 := [42, 16, 6, 188, 10, 181, 0, 20, 42, 16, 6, 188, 10, 181, 0, 23, 42, 16, 6, 188, 10, 181, 0, 26]
abbrev dktX5_init_1 : List UInt8 := dkwX5_init_1 ++ dktX5_init_2
def dkwX5_init_0 : List UInt8 := [42, 183, 0, 3, 42, 16, 6, 16, 6, 197, 0, 9, 2, 181, 0, 11, 42, 16, 6, 188, 10, 181, 0, 16]
abbrev dktX5_init_0 : List UInt8 := dkwX5_init_0 ++ dktX5_init_1
theorem dksX5_init_0 : cX5_init.data.toList.drop 0 = dktX5_init_0 := by decide +kernel
theorem dksX5_init_1 : cX5_init.data.toList.drop 24 = dktX5_init_1 := dk_seg dksX5_init_0 24 rfl rfl
theorem dksX5_init_2 : cX5_init.data.toList.drop 48 = dktX5_init_2 := dk_seg dksX5_init_1 24 rfl rfl
theorem dksX5_init_3 : cX5_init.data.toList.drop 72 = dktX5_init_3 := dk_seg dksX5_init_2 24 rfl rfl
theorem dksX5_init_4 : cX5_init.data.toList.drop 96 = dktX5_init_4 := dk_seg dksX5_init_3 24 rfl rfl
theorem dksX5_init_5 : cX5_init.data.toList.drop 120 = dktX5_init_5 := dk_seg dksX5_init_4 24 rfl rfl
theorem dksX5_init_6 : cX5_init.data.toList.drop 142 = dktX5_init_6 := dk_seg dksX5_init_5 22 rfl rfl
theorem dX5_init_0 : decode cX5_init 0 = .ok (.aload_n 0, 1) := dk_42 (dk_at dksX5_init_0 0 rfl rfl)
theorem dX5_init_1 : decode cX5_init 1 = .ok (.invokespecial 3, 3) := dk_183 0 3 (dk_at dksX5_init_0 1 rfl rfl)
theorem dX5_init_4 : decode cX5_init 4 = .ok (.aload_n 0, 1) := dk_42 (dk_at dksX5_init_0 4 rfl rfl)
theorem dX5_init_5 : decode cX5_init 5 = .ok (.bipush 6, 2) := dk_16 6 (dk_at dksX5_init_0 5 rfl rfl)
theorem dX5_init_7 : decode cX5_init 7 = .ok (.bipush 6, 2) := dk_16 6 (dk_at dksX5_init_0 7 rfl rfl)
theorem dX5_init_9 : decode cX5_init 9 = .ok (.multianewarray 9 2, 4) := by decide +kernel
theorem dX5_init_13 : decode cX5_init 13 = .ok (.putfield 11, 3) := dk_181 0 11 (dk_at dksX5_init_0 13 rfl rfl)
theorem dX5_init_16 : decode cX5_init 16 = .ok (.aload_n 0, 1) := dk_42 (dk_at dksX5_init_0 16 rfl rfl)
theorem dX5_init_17 : decode cX5_init 17 = .ok (.bipush 6, 2) := dk_16 6 (dk_at dksX5_init_0 17 rfl rfl)
theorem dX5_init_19 : decode cX5_init 19 = .ok (.newarray .int, 2) := dk_188_10 (dk_at dksX5_init_0 19 rfl rfl)
theorem dX5_init_21 : decode cX5_init 21 = .ok (.putfield 16, 3) := dk_181 0 16 (dk_at dksX5_init_0 21 rfl rfl)
theorem dX5_init_24 : decode cX5_init 24 = .ok (.aload_n 0, 1) := dk_42 (dk_at dksX5_init_1 0 rfl rfl)
theorem dX5_init_25 : decode cX5_init 25 = .ok (.bipush 6, 2) := dk_16 6 (dk_at dksX5_init_1 1 rfl rfl)
theorem dX5_init_27 : decode cX5_init 27 = .ok (.newarray .int, 2) := dk_188_10 (dk_at dksX5_init_1 3 rfl rfl)
theorem dX5_init_29 : decode cX5_init 29 = .ok (.putfield 20, 3) := dk_181 0 20 (dk_at dksX5_init_1 5 rfl rfl)
theorem dX5_init_32 : decode cX5_init 32 = .ok (.aload_n 0, 1) := dk_42 (dk_at dksX5_init_1 8 rfl rfl)
theorem dX5_init_33 : decode cX5_init 33 = .ok (.bipush 6, 2) := dk_16 6 (dk_at dksX5_init_1 9 rfl rfl)
theorem dX5_init_35 : decode cX5_init 35 = .ok (.newarray .int, 2) := dk_188_10 (dk_at dksX5_init_1 11 rfl rfl)
theorem dX5_init_37 : decode cX5_init 37 = .ok (.putfield 23, 3) := dk_181 0 23 (dk_at dksX5_init_1 13 rfl rfl)
theorem dX5_init_40 : decode cX5_init 40 = .ok (.aload_n 0, 1) := dk_42 (dk_at dksX5_init_1 16 rfl rfl)
theorem dX5_init_41 : decode cX5_init 41 = .ok (.bipush 6, 2) := dk_16 6 (dk_at dksX5_init_1 17 rfl rfl)
theorem dX5_init_43 : decode cX5_init 43 = .ok (.newarray .int, 2) := dk_188_10 (dk_at dksX5_init_1 19 rfl rfl)
theorem dX5_init_45 : decode cX5_init 45 = .ok (.putfield 26, 3) := dk_181 0 26 (dk_at dksX5_init_1 21 rfl rfl)
theorem dX5_init_48 : decode cX5_init 48 = .ok (.aload_n 0, 1) := dk_42 (dk_at dksX5_init_2 0 rfl rfl)
theorem dX5_init_49 : decode cX5_init 49 = .ok (.bipush 6, 2) := dk_16 6 (dk_at dksX5_init_2 1 rfl rfl)
theorem dX5_init_51 : decode cX5_init 51 = .ok (.newarray .int, 2) := dk_188_10 (dk_at dksX5_init_2 3 rfl rfl)
theorem dX5_init_53 : decode cX5_init 53 = .ok (.putfield 29, 3) := dk_181 0 29 (dk_at dksX5_init_2 5 rfl rfl)
theorem dX5_init_56 : decode cX5_init 56 = .ok (.aload_n 0, 1) := dk_42 (dk_at dksX5_init_2 8 rfl rfl)
theorem dX5_init_57 : decode cX5_init 57 = .ok (.bipush 6, 2) := dk_16 6 (dk_at dksX5_init_2 9 rfl rfl)
theorem dX5_init_59 : decode cX5_init 59 = .ok (.newarray .int, 2) := dk_188_10 (dk_at dksX5_init_2 11 rfl rfl)
theorem dX5_init_61 : decode cX5_init 61 = .ok (.putfield 32, 3) := dk_181 0 32 (dk_at dksX5_init_2 13 rfl rfl)
theorem dX5_init_64 : decode cX5_init 64 = .ok (.aload_n 0, 1) := dk_42 (dk_at dksX5_init_2 16 rfl rfl)
theorem dX5_init_65 : decode cX5_init 65 = .ok (.bipush 6, 2) := dk_16 6 (dk_at dksX5_init_2 17 rfl rfl)
theorem dX5_init_67 : decode cX5_init 67 = .ok (.newarray .int, 2) := dk_188_10 (dk_at dksX5_init_2 19 rfl rfl)
theorem dX5_init_69 : decode cX5_init 69 = .ok (.putfield 35, 3) := dk_181 0 35 (dk_at dksX5_init_2 21 rfl rfl)
theorem dX5_init_72 : decode cX5_init 72 = .ok (.aload_n 0, 1) := dk_42 (dk_at dksX5_init_3 0 rfl rfl)
theorem dX5_init_73 : decode cX5_init 73 = .ok (.bipush 8, 2) := dk_16 8 (dk_at dksX5_init_3 1 rfl rfl)
theorem dX5_init_75 : decode cX5_init 75 = .ok (.bipush 8, 2) := dk_16 8 (dk_at dksX5_init_3 3 rfl rfl)
theorem dX5_init_77 : decode cX5_init 77 = .ok (.multianewarray 9 2, 4) := by decide +kernel
theorem dX5_init_81 : decode cX5_init 81 = .ok (.putfield 38, 3) := dk_181 0 38 (dk_at dksX5_init_3 9 rfl rfl)
theorem dX5_init_84 : decode cX5_init 84 = .ok (.aload_n 0, 1) := dk_42 (dk_at dksX5_init_3 12 rfl rfl)
theorem dX5_init_85 : decode cX5_init 85 = .ok (.bipush 6, 2) := dk_16 6 (dk_at dksX5_init_3 13 rfl rfl)
theorem dX5_init_87 : decode cX5_init 87 = .ok (.anewarray 41, 3) := dk_189 0 41 (dk_at dksX5_init_3 15 rfl rfl)
theorem dX5_init_90 : decode cX5_init 90 = .ok (.dup, 1) := dk_89 (dk_at dksX5_init_3 18 rfl rfl)
theorem dX5_init_91 : decode cX5_init 91 = .ok (.iconst 0, 1) := dk_3 (dk_at dksX5_init_3 19 rfl rfl)
theorem dX5_init_92 : decode cX5_init 92 = .ok (.new 41, 3) := dk_187 0 41 (dk_at dksX5_init_3 20 rfl rfl)
theorem dX5_init_95 : decode cX5_init 95 = .ok (.dup, 1) := dk_89 (dk_at dksX5_init_3 23 rfl rfl)
theorem dX5_init_96 : decode cX5_init 96 = .ok (.invokespecial 43, 3) := dk_183 0 43 (dk_at dksX5_init_4 0 rfl rfl)
theorem dX5_init_99 : decode cX5_init 99 = .ok (.aastore, 1) := dk_83 (dk_at dksX5_init_4 3 rfl rfl)
theorem dX5_init_100 : decode cX5_init 100 = .ok (.dup, 1) := dk_89 (dk_at dksX5_init_4 4 rfl rfl)
theorem dX5_init_101 : decode cX5_init 101 = .ok (.iconst 1, 1) := dk_4 (dk_at dksX5_init_4 5 rfl rfl)
theorem dX5_init_102 : decode cX5_init 102 = .ok (.new 41, 3) := dk_187 0 41 (dk_at dksX5_init_4 6 rfl rfl)
theorem dX5_init_105 : decode cX5_init 105 = .ok (.dup, 1) := dk_89 (dk_at dksX5_init_4 9 rfl rfl)
theorem dX5_init_106 : decode cX5_init 106 = .ok (.invokespecial 43, 3) := dk_183 0 43 (dk_at dksX5_init_4 10 rfl rfl)
theorem dX5_init_109 : decode cX5_init 109 = .ok (.aastore, 1) := dk_83 (dk_at dksX5_init_4 13 rfl rfl)
theorem dX5_init_110 : decode cX5_init 110 = .ok (.dup, 1) := dk_89 (dk_at dksX5_init_4 14 rfl rfl)
theorem dX5_init_111 : decode cX5_init 111 = .ok (.iconst 2, 1) := dk_5 (dk_at dksX5_init_4 15 rfl rfl)
theorem dX5_init_112 : decode cX5_init 112 = .ok (.new 41, 3) := dk_187 0 41 (dk_at dksX5_init_4 16 rfl rfl)
theorem dX5_init_115 : decode cX5_init 115 = .ok (.dup, 1) := dk_89 (dk_at dksX5_init_4 19 rfl rfl)
theorem dX5_init_116 : decode cX5_init 116 = .ok (.invokespecial 43, 3) := dk_183 0 43 (dk_at dksX5_init_4 20 rfl rfl)
theorem dX5_init_119 : decode cX5_init 119 = .ok (.aastore, 1) := dk_83 (dk_at dksX5_init_4 23 rfl rfl)
theorem dX5_init_120 : decode cX5_init 120 = .ok (.dup, 1) := dk_89 (dk_at dksX5_init_5 0 rfl rfl)
theorem dX5_init_121 : decode cX5_init 121 = .ok (.iconst 3, 1) := dk_6 (dk_at dksX5_init_5 1 rfl rfl)
theorem dX5_init_122 : decode cX5_init 122 = .ok (.new 41, 3) := dk_187 0 41 (dk_at dksX5_init_5 2 rfl rfl)
theorem dX5_init_125 : decode cX5_init 125 = .ok (.dup, 1) := dk_89 (dk_at dksX5_init_5 5 rfl rfl)
theorem dX5_init_126 : decode cX5_init 126 = .ok (.invokespecial 43, 3) := dk_183 0 43 (dk_at dksX5_init_5 6 rfl rfl)
theorem dX5_init_129 : decode cX5_init 129 = .ok (.aastore, 1) := dk_83 (dk_at dksX5_init_5 9 rfl rfl)
theorem dX5_init_130 : decode cX5_init 130 = .ok (.dup, 1) := dk_89 (dk_at dksX5_init_5 10 rfl rfl)
theorem dX5_init_131 : decode cX5_init 131 = .ok (.iconst 4, 1) := dk_7 (dk_at dksX5_init_5 11 rfl rfl)
theorem dX5_init_132 : decode cX5_init 132 = .ok (.new 41, 3) := dk_187 0 41 (dk_at dksX5_init_5 12 rfl rfl)
theorem dX5_init_135 : decode cX5_init 135 = .ok (.dup, 1) := dk_89 (dk_at dksX5_init_5 15 rfl rfl)
theorem dX5_init_136 : decode cX5_init 136 = .ok (.invokespecial 43, 3) := dk_183 0 43 (dk_at dksX5_init_5 16 rfl rfl)
theorem dX5_init_139 : decode cX5_init 139 = .ok (.aastore, 1) := dk_83 (dk_at dksX5_init_5 19 rfl rfl)
theorem dX5_init_140 : decode cX5_init 140 = .ok (.dup, 1) := dk_89 (dk_at dksX5_init_5 20 rfl rfl)
theorem dX5_init_141 : decode cX5_init 141 = .ok (.iconst 5, 1) := dk_8 (dk_at dksX5_init_5 21 rfl rfl)
theorem dX5_init_142 : decode cX5_init 142 = .ok (.new 41, 3) := dk_187 0 41 (dk_at dksX5_init_6 0 rfl rfl)
theorem dX5_init_145 : decode cX5_init 145 = .ok (.dup, 1) := dk_89 (dk_at dksX5_init_6 3 rfl rfl)
theorem dX5_init_146 : decode cX5_init 146 = .ok (.invokespecial 43, 3) := dk_183 0 43 (dk_at dksX5_init_6 4 rfl rfl)
theorem dX5_init_149 : decode cX5_init 149 = .ok (.aastore, 1) := dk_83 (dk_at dksX5_init_6 7 rfl rfl)
theorem dX5_init_150 : decode cX5_init 150 = .ok (.putfield 44, 3) := dk_181 0 44 (dk_at dksX5_init_6 8 rfl rfl)
theorem dX5_init_153 : decode cX5_init 153 = .ok (.aload_n 0, 1) := dk_42 (dk_at dksX5_init_6 11 rfl rfl)
theorem dX5_init_154 : decode cX5_init 154 = .ok (.new 48, 3) := dk_187 0 48 (dk_at dksX5_init_6 12 rfl rfl)
theorem dX5_init_157 : decode cX5_init 157 = .ok (.dup, 1) := dk_89 (dk_at dksX5_init_6 15 rfl rfl)
theorem dX5_init_158 : decode cX5_init 158 = .ok (.invokespecial 50, 3) := dk_183 0 50 (dk_at dksX5_init_6 16 rfl rfl)
theorem dX5_init_161 : decode cX5_init 161 = .ok (.putfield 51, 3) := dk_181 0 51 (dk_at dksX5_init_6 19 rfl rfl)
theorem dX5_init_164 : decode cX5_init 164 = .ok (.return_, 1) := dk_177 (dk_at dksX5_init_6 22 rfl rfl)
abbrev cX5_begins : ByteArray := prog_20_method_2_code
def yX5_begins : MethodName := ⟨RX5, "begins", "(LSleepWork$Text;)V"⟩
def dkwX5_begins_10 : List UInt8 := [79, 42, 180, 0, 35, 28, 16, 254, 79, 132, 2, 1, 167, 255, 180, 177]
abbrev dktX5_begins_10 : List UInt8 := dkwX5_begins_10 ++ []
def dkwX5_begins_9 : List UInt8 := [28, 182, 0, 74, 192, 0, 101, 180, 0, 105, 79, 42, 180, 0, 29, 28, 3, 79, 42, 180, 0, 32, 28, 3]
abbrev dktX5_begins_9 : List UInt8 := dkwX5_begins_9 ++ dktX5_begins_10
def dkwX5_begins_8 : List UInt8 := [43, 180, 0, 98, 28, 182, 0, 74, 192, 0, 101, 180, 0, 103, 79, 42, 180, 0, 23, 28, 43, 180, 0, 98]
abbrev dktX5_begins_8 : List UInt8 := dkwX5_begins_8 ++ dktX5_begins_9
def dkwX5_begins_7 : List UInt8 := [132, 2, 1, 167, 255, 189, 3, 61, 28, 43, 180, 0, 98, 182, 0, 68, 162, 0, 71, 42, 180, 0, 20, 28]
abbrev dktX5_begins_7 : List UInt8 := dkwX5_begins_7 ++ dktX5_begins_8
def dkwX5_begins_6 : List UInt8 := [79, 3, 62, 29, 16, 6, 162, 0, 18, 42, 180, 0, 11, 28, 50, 29, 3, 79, 132, 3, 1, 167, 255, 238]
abbrev dktX5_begins_6 : List UInt8 := dkwX5_begins_6 ++ dktX5_begins_7
def dkwX5_begins_5 : List UInt8 := [182, 0, 68, 162, 0, 20, 43, 180, 0, 91, 28, 182, 0, 74, 192, 0, 94, 180, 0, 96, 167, 0, 4, 3]
abbrev dktX5_begins_5 : List UInt8 := dkwX5_begins_5 ++ dktX5_begins_6
def dkwX5_begins_4 : List UInt8 := [132, 2, 1, 167, 255, 222, 3, 61, 28, 16, 6, 162, 0, 67, 42, 180, 0, 16, 28, 28, 43, 180, 0, 91]
abbrev dktX5_begins_4 : List UInt8 := dkwX5_begins_4 ++ dktX5_begins_5
def dkwX5_begins_3 : List UInt8 := [162, 0, 29, 42, 180, 0, 26, 28, 43, 180, 0, 83, 28, 182, 0, 74, 192, 0, 86, 180, 0, 88, 79]
abbrev dktX5_begins_3 : List UInt8 := dkwX5_begins_3 ++ dktX5_begins_4
def dkwX5_begins_2 : List UInt8 := [167, 0, 4, 3, 128, 181, 0, 55, 132, 2, 1, 167, 255, 209, 3, 61, 28, 43, 180, 0, 83, 182, 0, 68]
abbrev dktX5_begins_2 : List UInt8 := dkwX5_begins_2 ++ dktX5_begins_3
def dkwX5_begins_1 : List UInt8 := [89, 180, 0, 55, 43, 180, 0, 62, 28, 182, 0, 74, 192, 0, 78, 180, 0, 80, 153, 0, 9, 4, 28, 120]
abbrev dktX5_begins_1 : List UInt8 := dkwX5_begins_1 ++ dktX5_begins_2
def dkwX5_begins_0 : List UInt8 := [42, 3, 181, 0, 55, 42, 3, 181, 0, 59, 3, 61, 28, 43, 180, 0, 62, 182, 0, 68, 162, 0, 42, 42]
abbrev dktX5_begins_0 : List UInt8 := dkwX5_begins_0 ++ dktX5_begins_1
theorem dksX5_begins_0 : cX5_begins.data.toList.drop 0 = dktX5_begins_0 := by decide +kernel
theorem dksX5_begins_1 : cX5_begins.data.toList.drop 24 = dktX5_begins_1 := dk_seg dksX5_begins_0 24 rfl rfl
theorem dksX5_begins_2 : cX5_begins.data.toList.drop 48 = dktX5_begins_2 := dk_seg dksX5_begins_1 24 rfl rfl
theorem dksX5_begins_3 : cX5_begins.data.toList.drop 72 = dktX5_begins_3 := dk_seg dksX5_begins_2 24 rfl rfl
theorem dksX5_begins_4 : cX5_begins.data.toList.drop 95 = dktX5_begins_4 := dk_seg dksX5_begins_3 23 rfl rfl
theorem dksX5_begins_5 : cX5_begins.data.toList.drop 119 = dktX5_begins_5 := dk_seg dksX5_begins_4 24 rfl rfl
theorem dksX5_begins_6 : cX5_begins.data.toList.drop 143 = dktX5_begins_6 := dk_seg dksX5_begins_5 24 rfl rfl
theorem dksX5_begins_7 : cX5_begins.data.toList.drop 167 = dktX5_begins_7 := dk_seg dksX5_begins_6 24 rfl rfl
theorem dksX5_begins_8 : cX5_begins.data.toList.drop 191 = dktX5_begins_8 := dk_seg dksX5_begins_7 24 rfl rfl
theorem dksX5_begins_9 : cX5_begins.data.toList.drop 215 = dktX5_begins_9 := dk_seg dksX5_begins_8 24 rfl rfl
theorem dksX5_begins_10 : cX5_begins.data.toList.drop 239 = dktX5_begins_10 := dk_seg dksX5_begins_9 24 rfl rfl
theorem dX5_begins_0 : decode cX5_begins 0 = .ok (.aload_n 0, 1) := dk_42 (dk_at dksX5_begins_0 0 rfl rfl)
theorem dX5_begins_1 : decode cX5_begins 1 = .ok (.iconst 0, 1) := dk_3 (dk_at dksX5_begins_0 1 rfl rfl)
theorem dX5_begins_2 : decode cX5_begins 2 = .ok (.putfield 55, 3) := dk_181 0 55 (dk_at dksX5_begins_0 2 rfl rfl)
theorem dX5_begins_5 : decode cX5_begins 5 = .ok (.aload_n 0, 1) := dk_42 (dk_at dksX5_begins_0 5 rfl rfl)
theorem dX5_begins_6 : decode cX5_begins 6 = .ok (.iconst 0, 1) := dk_3 (dk_at dksX5_begins_0 6 rfl rfl)
theorem dX5_begins_7 : decode cX5_begins 7 = .ok (.putfield 59, 3) := dk_181 0 59 (dk_at dksX5_begins_0 7 rfl rfl)
theorem dX5_begins_10 : decode cX5_begins 10 = .ok (.iconst 0, 1) := dk_3 (dk_at dksX5_begins_0 10 rfl rfl)
theorem dX5_begins_11 : decode cX5_begins 11 = .ok (.istore_n 2, 1) := dk_61 (dk_at dksX5_begins_0 11 rfl rfl)
theorem dX5_begins_12 : decode cX5_begins 12 = .ok (.iload_n 2, 1) := dk_28 (dk_at dksX5_begins_0 12 rfl rfl)
theorem dX5_begins_13 : decode cX5_begins 13 = .ok (.aload_n 1, 1) := dk_43 (dk_at dksX5_begins_0 13 rfl rfl)
theorem dX5_begins_14 : decode cX5_begins 14 = .ok (.getfield 62, 3) := dk_180 0 62 (dk_at dksX5_begins_0 14 rfl rfl)
theorem dX5_begins_17 : decode cX5_begins 17 = .ok (.invokevirtual 68, 3) := dk_182 0 68 (dk_at dksX5_begins_0 17 rfl rfl)
theorem dX5_begins_20 : decode cX5_begins 20 = .ok (.if_icmp .ge 42, 3) := dk_162 0 42 (dk_at dksX5_begins_0 20 rfl rfl)
theorem dX5_begins_23 : decode cX5_begins 23 = .ok (.aload_n 0, 1) := dk_42 (dk_at dksX5_begins_0 23 rfl rfl)
theorem dX5_begins_24 : decode cX5_begins 24 = .ok (.dup, 1) := dk_89 (dk_at dksX5_begins_1 0 rfl rfl)
theorem dX5_begins_25 : decode cX5_begins 25 = .ok (.getfield 55, 3) := dk_180 0 55 (dk_at dksX5_begins_1 1 rfl rfl)
theorem dX5_begins_28 : decode cX5_begins 28 = .ok (.aload_n 1, 1) := dk_43 (dk_at dksX5_begins_1 4 rfl rfl)
theorem dX5_begins_29 : decode cX5_begins 29 = .ok (.getfield 62, 3) := dk_180 0 62 (dk_at dksX5_begins_1 5 rfl rfl)
theorem dX5_begins_32 : decode cX5_begins 32 = .ok (.iload_n 2, 1) := dk_28 (dk_at dksX5_begins_1 8 rfl rfl)
theorem dX5_begins_33 : decode cX5_begins 33 = .ok (.invokevirtual 74, 3) := dk_182 0 74 (dk_at dksX5_begins_1 9 rfl rfl)
theorem dX5_begins_36 : decode cX5_begins 36 = .ok (.checkcast 78, 3) := dk_192 0 78 (dk_at dksX5_begins_1 12 rfl rfl)
theorem dX5_begins_39 : decode cX5_begins 39 = .ok (.getfield 80, 3) := dk_180 0 80 (dk_at dksX5_begins_1 15 rfl rfl)
theorem dX5_begins_42 : decode cX5_begins 42 = .ok (.ifCond .eq 9, 3) := dk_153 0 9 (dk_at dksX5_begins_1 18 rfl rfl)
theorem dX5_begins_45 : decode cX5_begins 45 = .ok (.iconst 1, 1) := dk_4 (dk_at dksX5_begins_1 21 rfl rfl)
theorem dX5_begins_46 : decode cX5_begins 46 = .ok (.iload_n 2, 1) := dk_28 (dk_at dksX5_begins_1 22 rfl rfl)
theorem dX5_begins_47 : decode cX5_begins 47 = .ok (.ishl, 1) := dk_120 (dk_at dksX5_begins_1 23 rfl rfl)
theorem dX5_begins_48 : decode cX5_begins 48 = .ok (.goto 4, 3) := dk_167 0 4 (dk_at dksX5_begins_2 0 rfl rfl)
theorem dX5_begins_51 : decode cX5_begins 51 = .ok (.iconst 0, 1) := dk_3 (dk_at dksX5_begins_2 3 rfl rfl)
theorem dX5_begins_52 : decode cX5_begins 52 = .ok (.ior, 1) := dk_128 (dk_at dksX5_begins_2 4 rfl rfl)
theorem dX5_begins_53 : decode cX5_begins 53 = .ok (.putfield 55, 3) := dk_181 0 55 (dk_at dksX5_begins_2 5 rfl rfl)
theorem dX5_begins_56 : decode cX5_begins 56 = .ok (.iinc 2 1, 3) := dk_132 2 1 (dk_at dksX5_begins_2 8 rfl rfl)
theorem dX5_begins_59 : decode cX5_begins 59 = .ok (.goto (-47), 3) := dk_167 255 209 (dk_at dksX5_begins_2 11 rfl rfl)
theorem dX5_begins_62 : decode cX5_begins 62 = .ok (.iconst 0, 1) := dk_3 (dk_at dksX5_begins_2 14 rfl rfl)
theorem dX5_begins_63 : decode cX5_begins 63 = .ok (.istore_n 2, 1) := dk_61 (dk_at dksX5_begins_2 15 rfl rfl)
theorem dX5_begins_64 : decode cX5_begins 64 = .ok (.iload_n 2, 1) := dk_28 (dk_at dksX5_begins_2 16 rfl rfl)
theorem dX5_begins_65 : decode cX5_begins 65 = .ok (.aload_n 1, 1) := dk_43 (dk_at dksX5_begins_2 17 rfl rfl)
theorem dX5_begins_66 : decode cX5_begins 66 = .ok (.getfield 83, 3) := dk_180 0 83 (dk_at dksX5_begins_2 18 rfl rfl)
theorem dX5_begins_69 : decode cX5_begins 69 = .ok (.invokevirtual 68, 3) := dk_182 0 68 (dk_at dksX5_begins_2 21 rfl rfl)
theorem dX5_begins_72 : decode cX5_begins 72 = .ok (.if_icmp .ge 29, 3) := dk_162 0 29 (dk_at dksX5_begins_3 0 rfl rfl)
theorem dX5_begins_75 : decode cX5_begins 75 = .ok (.aload_n 0, 1) := dk_42 (dk_at dksX5_begins_3 3 rfl rfl)
theorem dX5_begins_76 : decode cX5_begins 76 = .ok (.getfield 26, 3) := dk_180 0 26 (dk_at dksX5_begins_3 4 rfl rfl)
theorem dX5_begins_79 : decode cX5_begins 79 = .ok (.iload_n 2, 1) := dk_28 (dk_at dksX5_begins_3 7 rfl rfl)
theorem dX5_begins_80 : decode cX5_begins 80 = .ok (.aload_n 1, 1) := dk_43 (dk_at dksX5_begins_3 8 rfl rfl)
theorem dX5_begins_81 : decode cX5_begins 81 = .ok (.getfield 83, 3) := dk_180 0 83 (dk_at dksX5_begins_3 9 rfl rfl)
theorem dX5_begins_84 : decode cX5_begins 84 = .ok (.iload_n 2, 1) := dk_28 (dk_at dksX5_begins_3 12 rfl rfl)
theorem dX5_begins_85 : decode cX5_begins 85 = .ok (.invokevirtual 74, 3) := dk_182 0 74 (dk_at dksX5_begins_3 13 rfl rfl)
theorem dX5_begins_88 : decode cX5_begins 88 = .ok (.checkcast 86, 3) := dk_192 0 86 (dk_at dksX5_begins_3 16 rfl rfl)
theorem dX5_begins_91 : decode cX5_begins 91 = .ok (.getfield 88, 3) := dk_180 0 88 (dk_at dksX5_begins_3 19 rfl rfl)
theorem dX5_begins_94 : decode cX5_begins 94 = .ok (.iastore, 1) := dk_79 (dk_at dksX5_begins_3 22 rfl rfl)
theorem dX5_begins_95 : decode cX5_begins 95 = .ok (.iinc 2 1, 3) := dk_132 2 1 (dk_at dksX5_begins_4 0 rfl rfl)
theorem dX5_begins_98 : decode cX5_begins 98 = .ok (.goto (-34), 3) := dk_167 255 222 (dk_at dksX5_begins_4 3 rfl rfl)
theorem dX5_begins_101 : decode cX5_begins 101 = .ok (.iconst 0, 1) := dk_3 (dk_at dksX5_begins_4 6 rfl rfl)
theorem dX5_begins_102 : decode cX5_begins 102 = .ok (.istore_n 2, 1) := dk_61 (dk_at dksX5_begins_4 7 rfl rfl)
theorem dX5_begins_103 : decode cX5_begins 103 = .ok (.iload_n 2, 1) := dk_28 (dk_at dksX5_begins_4 8 rfl rfl)
theorem dX5_begins_104 : decode cX5_begins 104 = .ok (.bipush 6, 2) := dk_16 6 (dk_at dksX5_begins_4 9 rfl rfl)
theorem dX5_begins_106 : decode cX5_begins 106 = .ok (.if_icmp .ge 67, 3) := dk_162 0 67 (dk_at dksX5_begins_4 11 rfl rfl)
theorem dX5_begins_109 : decode cX5_begins 109 = .ok (.aload_n 0, 1) := dk_42 (dk_at dksX5_begins_4 14 rfl rfl)
theorem dX5_begins_110 : decode cX5_begins 110 = .ok (.getfield 16, 3) := dk_180 0 16 (dk_at dksX5_begins_4 15 rfl rfl)
theorem dX5_begins_113 : decode cX5_begins 113 = .ok (.iload_n 2, 1) := dk_28 (dk_at dksX5_begins_4 18 rfl rfl)
theorem dX5_begins_114 : decode cX5_begins 114 = .ok (.iload_n 2, 1) := dk_28 (dk_at dksX5_begins_4 19 rfl rfl)
theorem dX5_begins_115 : decode cX5_begins 115 = .ok (.aload_n 1, 1) := dk_43 (dk_at dksX5_begins_4 20 rfl rfl)
theorem dX5_begins_116 : decode cX5_begins 116 = .ok (.getfield 91, 3) := dk_180 0 91 (dk_at dksX5_begins_4 21 rfl rfl)
theorem dX5_begins_119 : decode cX5_begins 119 = .ok (.invokevirtual 68, 3) := dk_182 0 68 (dk_at dksX5_begins_5 0 rfl rfl)
theorem dX5_begins_122 : decode cX5_begins 122 = .ok (.if_icmp .ge 20, 3) := dk_162 0 20 (dk_at dksX5_begins_5 3 rfl rfl)
theorem dX5_begins_125 : decode cX5_begins 125 = .ok (.aload_n 1, 1) := dk_43 (dk_at dksX5_begins_5 6 rfl rfl)
theorem dX5_begins_126 : decode cX5_begins 126 = .ok (.getfield 91, 3) := dk_180 0 91 (dk_at dksX5_begins_5 7 rfl rfl)
theorem dX5_begins_129 : decode cX5_begins 129 = .ok (.iload_n 2, 1) := dk_28 (dk_at dksX5_begins_5 10 rfl rfl)
theorem dX5_begins_130 : decode cX5_begins 130 = .ok (.invokevirtual 74, 3) := dk_182 0 74 (dk_at dksX5_begins_5 11 rfl rfl)
theorem dX5_begins_133 : decode cX5_begins 133 = .ok (.checkcast 94, 3) := dk_192 0 94 (dk_at dksX5_begins_5 14 rfl rfl)
theorem dX5_begins_136 : decode cX5_begins 136 = .ok (.getfield 96, 3) := dk_180 0 96 (dk_at dksX5_begins_5 17 rfl rfl)
theorem dX5_begins_139 : decode cX5_begins 139 = .ok (.goto 4, 3) := dk_167 0 4 (dk_at dksX5_begins_5 20 rfl rfl)
theorem dX5_begins_142 : decode cX5_begins 142 = .ok (.iconst 0, 1) := dk_3 (dk_at dksX5_begins_5 23 rfl rfl)
theorem dX5_begins_143 : decode cX5_begins 143 = .ok (.iastore, 1) := dk_79 (dk_at dksX5_begins_6 0 rfl rfl)
theorem dX5_begins_144 : decode cX5_begins 144 = .ok (.iconst 0, 1) := dk_3 (dk_at dksX5_begins_6 1 rfl rfl)
theorem dX5_begins_145 : decode cX5_begins 145 = .ok (.istore_n 3, 1) := dk_62 (dk_at dksX5_begins_6 2 rfl rfl)
theorem dX5_begins_146 : decode cX5_begins 146 = .ok (.iload_n 3, 1) := dk_29 (dk_at dksX5_begins_6 3 rfl rfl)
theorem dX5_begins_147 : decode cX5_begins 147 = .ok (.bipush 6, 2) := dk_16 6 (dk_at dksX5_begins_6 4 rfl rfl)
theorem dX5_begins_149 : decode cX5_begins 149 = .ok (.if_icmp .ge 18, 3) := dk_162 0 18 (dk_at dksX5_begins_6 6 rfl rfl)
theorem dX5_begins_152 : decode cX5_begins 152 = .ok (.aload_n 0, 1) := dk_42 (dk_at dksX5_begins_6 9 rfl rfl)
theorem dX5_begins_153 : decode cX5_begins 153 = .ok (.getfield 11, 3) := dk_180 0 11 (dk_at dksX5_begins_6 10 rfl rfl)
theorem dX5_begins_156 : decode cX5_begins 156 = .ok (.iload_n 2, 1) := dk_28 (dk_at dksX5_begins_6 13 rfl rfl)
theorem dX5_begins_157 : decode cX5_begins 157 = .ok (.aaload, 1) := dk_50 (dk_at dksX5_begins_6 14 rfl rfl)
theorem dX5_begins_158 : decode cX5_begins 158 = .ok (.iload_n 3, 1) := dk_29 (dk_at dksX5_begins_6 15 rfl rfl)
theorem dX5_begins_159 : decode cX5_begins 159 = .ok (.iconst 0, 1) := dk_3 (dk_at dksX5_begins_6 16 rfl rfl)
theorem dX5_begins_160 : decode cX5_begins 160 = .ok (.iastore, 1) := dk_79 (dk_at dksX5_begins_6 17 rfl rfl)
theorem dX5_begins_161 : decode cX5_begins 161 = .ok (.iinc 3 1, 3) := dk_132 3 1 (dk_at dksX5_begins_6 18 rfl rfl)
theorem dX5_begins_164 : decode cX5_begins 164 = .ok (.goto (-18), 3) := dk_167 255 238 (dk_at dksX5_begins_6 21 rfl rfl)
theorem dX5_begins_167 : decode cX5_begins 167 = .ok (.iinc 2 1, 3) := dk_132 2 1 (dk_at dksX5_begins_7 0 rfl rfl)
theorem dX5_begins_170 : decode cX5_begins 170 = .ok (.goto (-67), 3) := dk_167 255 189 (dk_at dksX5_begins_7 3 rfl rfl)
theorem dX5_begins_173 : decode cX5_begins 173 = .ok (.iconst 0, 1) := dk_3 (dk_at dksX5_begins_7 6 rfl rfl)
theorem dX5_begins_174 : decode cX5_begins 174 = .ok (.istore_n 2, 1) := dk_61 (dk_at dksX5_begins_7 7 rfl rfl)
theorem dX5_begins_175 : decode cX5_begins 175 = .ok (.iload_n 2, 1) := dk_28 (dk_at dksX5_begins_7 8 rfl rfl)
theorem dX5_begins_176 : decode cX5_begins 176 = .ok (.aload_n 1, 1) := dk_43 (dk_at dksX5_begins_7 9 rfl rfl)
theorem dX5_begins_177 : decode cX5_begins 177 = .ok (.getfield 98, 3) := dk_180 0 98 (dk_at dksX5_begins_7 10 rfl rfl)
theorem dX5_begins_180 : decode cX5_begins 180 = .ok (.invokevirtual 68, 3) := dk_182 0 68 (dk_at dksX5_begins_7 13 rfl rfl)
theorem dX5_begins_183 : decode cX5_begins 183 = .ok (.if_icmp .ge 71, 3) := dk_162 0 71 (dk_at dksX5_begins_7 16 rfl rfl)
theorem dX5_begins_186 : decode cX5_begins 186 = .ok (.aload_n 0, 1) := dk_42 (dk_at dksX5_begins_7 19 rfl rfl)
theorem dX5_begins_187 : decode cX5_begins 187 = .ok (.getfield 20, 3) := dk_180 0 20 (dk_at dksX5_begins_7 20 rfl rfl)
theorem dX5_begins_190 : decode cX5_begins 190 = .ok (.iload_n 2, 1) := dk_28 (dk_at dksX5_begins_7 23 rfl rfl)
theorem dX5_begins_191 : decode cX5_begins 191 = .ok (.aload_n 1, 1) := dk_43 (dk_at dksX5_begins_8 0 rfl rfl)
theorem dX5_begins_192 : decode cX5_begins 192 = .ok (.getfield 98, 3) := dk_180 0 98 (dk_at dksX5_begins_8 1 rfl rfl)
theorem dX5_begins_195 : decode cX5_begins 195 = .ok (.iload_n 2, 1) := dk_28 (dk_at dksX5_begins_8 4 rfl rfl)
theorem dX5_begins_196 : decode cX5_begins 196 = .ok (.invokevirtual 74, 3) := dk_182 0 74 (dk_at dksX5_begins_8 5 rfl rfl)
theorem dX5_begins_199 : decode cX5_begins 199 = .ok (.checkcast 101, 3) := dk_192 0 101 (dk_at dksX5_begins_8 8 rfl rfl)
theorem dX5_begins_202 : decode cX5_begins 202 = .ok (.getfield 103, 3) := dk_180 0 103 (dk_at dksX5_begins_8 11 rfl rfl)
theorem dX5_begins_205 : decode cX5_begins 205 = .ok (.iastore, 1) := dk_79 (dk_at dksX5_begins_8 14 rfl rfl)
theorem dX5_begins_206 : decode cX5_begins 206 = .ok (.aload_n 0, 1) := dk_42 (dk_at dksX5_begins_8 15 rfl rfl)
theorem dX5_begins_207 : decode cX5_begins 207 = .ok (.getfield 23, 3) := dk_180 0 23 (dk_at dksX5_begins_8 16 rfl rfl)
theorem dX5_begins_210 : decode cX5_begins 210 = .ok (.iload_n 2, 1) := dk_28 (dk_at dksX5_begins_8 19 rfl rfl)
theorem dX5_begins_211 : decode cX5_begins 211 = .ok (.aload_n 1, 1) := dk_43 (dk_at dksX5_begins_8 20 rfl rfl)
theorem dX5_begins_212 : decode cX5_begins 212 = .ok (.getfield 98, 3) := dk_180 0 98 (dk_at dksX5_begins_8 21 rfl rfl)
theorem dX5_begins_215 : decode cX5_begins 215 = .ok (.iload_n 2, 1) := dk_28 (dk_at dksX5_begins_9 0 rfl rfl)
theorem dX5_begins_216 : decode cX5_begins 216 = .ok (.invokevirtual 74, 3) := dk_182 0 74 (dk_at dksX5_begins_9 1 rfl rfl)
theorem dX5_begins_219 : decode cX5_begins 219 = .ok (.checkcast 101, 3) := dk_192 0 101 (dk_at dksX5_begins_9 4 rfl rfl)
theorem dX5_begins_222 : decode cX5_begins 222 = .ok (.getfield 105, 3) := dk_180 0 105 (dk_at dksX5_begins_9 7 rfl rfl)
theorem dX5_begins_225 : decode cX5_begins 225 = .ok (.iastore, 1) := dk_79 (dk_at dksX5_begins_9 10 rfl rfl)
theorem dX5_begins_226 : decode cX5_begins 226 = .ok (.aload_n 0, 1) := dk_42 (dk_at dksX5_begins_9 11 rfl rfl)
theorem dX5_begins_227 : decode cX5_begins 227 = .ok (.getfield 29, 3) := dk_180 0 29 (dk_at dksX5_begins_9 12 rfl rfl)
theorem dX5_begins_230 : decode cX5_begins 230 = .ok (.iload_n 2, 1) := dk_28 (dk_at dksX5_begins_9 15 rfl rfl)
theorem dX5_begins_231 : decode cX5_begins 231 = .ok (.iconst 0, 1) := dk_3 (dk_at dksX5_begins_9 16 rfl rfl)
theorem dX5_begins_232 : decode cX5_begins 232 = .ok (.iastore, 1) := dk_79 (dk_at dksX5_begins_9 17 rfl rfl)
theorem dX5_begins_233 : decode cX5_begins 233 = .ok (.aload_n 0, 1) := dk_42 (dk_at dksX5_begins_9 18 rfl rfl)
theorem dX5_begins_234 : decode cX5_begins 234 = .ok (.getfield 32, 3) := dk_180 0 32 (dk_at dksX5_begins_9 19 rfl rfl)
theorem dX5_begins_237 : decode cX5_begins 237 = .ok (.iload_n 2, 1) := dk_28 (dk_at dksX5_begins_9 22 rfl rfl)
theorem dX5_begins_238 : decode cX5_begins 238 = .ok (.iconst 0, 1) := dk_3 (dk_at dksX5_begins_9 23 rfl rfl)
theorem dX5_begins_239 : decode cX5_begins 239 = .ok (.iastore, 1) := dk_79 (dk_at dksX5_begins_10 0 rfl rfl)
theorem dX5_begins_240 : decode cX5_begins 240 = .ok (.aload_n 0, 1) := dk_42 (dk_at dksX5_begins_10 1 rfl rfl)
theorem dX5_begins_241 : decode cX5_begins 241 = .ok (.getfield 35, 3) := dk_180 0 35 (dk_at dksX5_begins_10 2 rfl rfl)
theorem dX5_begins_244 : decode cX5_begins 244 = .ok (.iload_n 2, 1) := dk_28 (dk_at dksX5_begins_10 5 rfl rfl)
theorem dX5_begins_245 : decode cX5_begins 245 = .ok (.bipush (-2), 2) := dk_16 254 (dk_at dksX5_begins_10 6 rfl rfl)
theorem dX5_begins_247 : decode cX5_begins 247 = .ok (.iastore, 1) := dk_79 (dk_at dksX5_begins_10 8 rfl rfl)
theorem dX5_begins_248 : decode cX5_begins 248 = .ok (.iinc 2 1, 3) := dk_132 2 1 (dk_at dksX5_begins_10 9 rfl rfl)
theorem dX5_begins_251 : decode cX5_begins 251 = .ok (.goto (-76), 3) := dk_167 255 180 (dk_at dksX5_begins_10 12 rfl rfl)
theorem dX5_begins_254 : decode cX5_begins 254 = .ok (.return_, 1) := dk_177 (dk_at dksX5_begins_10 15 rfl rfl)
abbrev cX5_worth : ByteArray := prog_20_method_6_code
def yX5_worth : MethodName := ⟨RX5, "worth", "(LSleepWork$Text;I)I"⟩
def dkwX5_worth_4 : List UInt8 := [132, 5, 1, 167, 255, 176, 21, 4, 172]
abbrev dktX5_worth_4 : List UInt8 := dkwX5_worth_4 ++ []
def dkwX5_worth_3 : List UInt8 := [104, 25, 6, 180, 0, 143, 3, 21, 7, 25, 6, 180, 0, 137, 100, 184, 0, 146, 104, 100, 96, 54, 4]
abbrev dktX5_worth_3 : List UInt8 := dkwX5_worth_3 ++ dktX5_worth_4
def dkwX5_worth_2 : List UInt8 := [28, 50, 21, 5, 46, 54, 7, 21, 4, 25, 6, 180, 0, 140, 21, 7, 25, 6, 180, 0, 137, 184, 0, 126]
abbrev dktX5_worth_2 : List UInt8 := dkwX5_worth_2 ++ dktX5_worth_3
def dkwX5_worth_1 : List UInt8 := [182, 0, 68, 162, 0, 74, 45, 180, 0, 132, 21, 5, 182, 0, 74, 192, 0, 135, 58, 6, 42, 180, 0, 11]
abbrev dktX5_worth_1 : List UInt8 := dkwX5_worth_1 ++ dktX5_worth_2
def dkwX5_worth_0 : List UInt8 := [43, 180, 0, 91, 28, 182, 0, 74, 192, 0, 94, 78, 3, 54, 4, 3, 54, 5, 21, 5, 45, 180, 0, 132]
abbrev dktX5_worth_0 : List UInt8 := dkwX5_worth_0 ++ dktX5_worth_1
theorem dksX5_worth_0 : cX5_worth.data.toList.drop 0 = dktX5_worth_0 := by decide +kernel
theorem dksX5_worth_1 : cX5_worth.data.toList.drop 24 = dktX5_worth_1 := dk_seg dksX5_worth_0 24 rfl rfl
theorem dksX5_worth_2 : cX5_worth.data.toList.drop 48 = dktX5_worth_2 := dk_seg dksX5_worth_1 24 rfl rfl
theorem dksX5_worth_3 : cX5_worth.data.toList.drop 72 = dktX5_worth_3 := dk_seg dksX5_worth_2 24 rfl rfl
theorem dksX5_worth_4 : cX5_worth.data.toList.drop 95 = dktX5_worth_4 := dk_seg dksX5_worth_3 23 rfl rfl
theorem dX5_worth_0 : decode cX5_worth 0 = .ok (.aload_n 1, 1) := dk_43 (dk_at dksX5_worth_0 0 rfl rfl)
theorem dX5_worth_1 : decode cX5_worth 1 = .ok (.getfield 91, 3) := dk_180 0 91 (dk_at dksX5_worth_0 1 rfl rfl)
theorem dX5_worth_4 : decode cX5_worth 4 = .ok (.iload_n 2, 1) := dk_28 (dk_at dksX5_worth_0 4 rfl rfl)
theorem dX5_worth_5 : decode cX5_worth 5 = .ok (.invokevirtual 74, 3) := dk_182 0 74 (dk_at dksX5_worth_0 5 rfl rfl)
theorem dX5_worth_8 : decode cX5_worth 8 = .ok (.checkcast 94, 3) := dk_192 0 94 (dk_at dksX5_worth_0 8 rfl rfl)
theorem dX5_worth_11 : decode cX5_worth 11 = .ok (.astore_n 3, 1) := dk_78 (dk_at dksX5_worth_0 11 rfl rfl)
theorem dX5_worth_12 : decode cX5_worth 12 = .ok (.iconst 0, 1) := dk_3 (dk_at dksX5_worth_0 12 rfl rfl)
theorem dX5_worth_13 : decode cX5_worth 13 = .ok (.istore 4, 2) := dk_54 4 (dk_at dksX5_worth_0 13 rfl rfl)
theorem dX5_worth_15 : decode cX5_worth 15 = .ok (.iconst 0, 1) := dk_3 (dk_at dksX5_worth_0 15 rfl rfl)
theorem dX5_worth_16 : decode cX5_worth 16 = .ok (.istore 5, 2) := dk_54 5 (dk_at dksX5_worth_0 16 rfl rfl)
theorem dX5_worth_18 : decode cX5_worth 18 = .ok (.iload 5, 2) := dk_21 5 (dk_at dksX5_worth_0 18 rfl rfl)
theorem dX5_worth_20 : decode cX5_worth 20 = .ok (.aload_n 3, 1) := dk_45 (dk_at dksX5_worth_0 20 rfl rfl)
theorem dX5_worth_21 : decode cX5_worth 21 = .ok (.getfield 132, 3) := dk_180 0 132 (dk_at dksX5_worth_0 21 rfl rfl)
theorem dX5_worth_24 : decode cX5_worth 24 = .ok (.invokevirtual 68, 3) := dk_182 0 68 (dk_at dksX5_worth_1 0 rfl rfl)
theorem dX5_worth_27 : decode cX5_worth 27 = .ok (.if_icmp .ge 74, 3) := dk_162 0 74 (dk_at dksX5_worth_1 3 rfl rfl)
theorem dX5_worth_30 : decode cX5_worth 30 = .ok (.aload_n 3, 1) := dk_45 (dk_at dksX5_worth_1 6 rfl rfl)
theorem dX5_worth_31 : decode cX5_worth 31 = .ok (.getfield 132, 3) := dk_180 0 132 (dk_at dksX5_worth_1 7 rfl rfl)
theorem dX5_worth_34 : decode cX5_worth 34 = .ok (.iload 5, 2) := dk_21 5 (dk_at dksX5_worth_1 10 rfl rfl)
theorem dX5_worth_36 : decode cX5_worth 36 = .ok (.invokevirtual 74, 3) := dk_182 0 74 (dk_at dksX5_worth_1 12 rfl rfl)
theorem dX5_worth_39 : decode cX5_worth 39 = .ok (.checkcast 135, 3) := dk_192 0 135 (dk_at dksX5_worth_1 15 rfl rfl)
theorem dX5_worth_42 : decode cX5_worth 42 = .ok (.astore 6, 2) := dk_58 6 (dk_at dksX5_worth_1 18 rfl rfl)
theorem dX5_worth_44 : decode cX5_worth 44 = .ok (.aload_n 0, 1) := dk_42 (dk_at dksX5_worth_1 20 rfl rfl)
theorem dX5_worth_45 : decode cX5_worth 45 = .ok (.getfield 11, 3) := dk_180 0 11 (dk_at dksX5_worth_1 21 rfl rfl)
theorem dX5_worth_48 : decode cX5_worth 48 = .ok (.iload_n 2, 1) := dk_28 (dk_at dksX5_worth_2 0 rfl rfl)
theorem dX5_worth_49 : decode cX5_worth 49 = .ok (.aaload, 1) := dk_50 (dk_at dksX5_worth_2 1 rfl rfl)
theorem dX5_worth_50 : decode cX5_worth 50 = .ok (.iload 5, 2) := dk_21 5 (dk_at dksX5_worth_2 2 rfl rfl)
theorem dX5_worth_52 : decode cX5_worth 52 = .ok (.iaload, 1) := dk_46 (dk_at dksX5_worth_2 4 rfl rfl)
theorem dX5_worth_53 : decode cX5_worth 53 = .ok (.istore 7, 2) := dk_54 7 (dk_at dksX5_worth_2 5 rfl rfl)
theorem dX5_worth_55 : decode cX5_worth 55 = .ok (.iload 4, 2) := dk_21 4 (dk_at dksX5_worth_2 7 rfl rfl)
theorem dX5_worth_57 : decode cX5_worth 57 = .ok (.aload 6, 2) := dk_25 6 (dk_at dksX5_worth_2 9 rfl rfl)
theorem dX5_worth_59 : decode cX5_worth 59 = .ok (.getfield 140, 3) := dk_180 0 140 (dk_at dksX5_worth_2 11 rfl rfl)
theorem dX5_worth_62 : decode cX5_worth 62 = .ok (.iload 7, 2) := dk_21 7 (dk_at dksX5_worth_2 14 rfl rfl)
theorem dX5_worth_64 : decode cX5_worth 64 = .ok (.aload 6, 2) := dk_25 6 (dk_at dksX5_worth_2 16 rfl rfl)
theorem dX5_worth_66 : decode cX5_worth 66 = .ok (.getfield 137, 3) := dk_180 0 137 (dk_at dksX5_worth_2 18 rfl rfl)
theorem dX5_worth_69 : decode cX5_worth 69 = .ok (.invokestatic 126, 3) := dk_184 0 126 (dk_at dksX5_worth_2 21 rfl rfl)
theorem dX5_worth_72 : decode cX5_worth 72 = .ok (.imul, 1) := dk_104 (dk_at dksX5_worth_3 0 rfl rfl)
theorem dX5_worth_73 : decode cX5_worth 73 = .ok (.aload 6, 2) := dk_25 6 (dk_at dksX5_worth_3 1 rfl rfl)
theorem dX5_worth_75 : decode cX5_worth 75 = .ok (.getfield 143, 3) := dk_180 0 143 (dk_at dksX5_worth_3 3 rfl rfl)
theorem dX5_worth_78 : decode cX5_worth 78 = .ok (.iconst 0, 1) := dk_3 (dk_at dksX5_worth_3 6 rfl rfl)
theorem dX5_worth_79 : decode cX5_worth 79 = .ok (.iload 7, 2) := dk_21 7 (dk_at dksX5_worth_3 7 rfl rfl)
theorem dX5_worth_81 : decode cX5_worth 81 = .ok (.aload 6, 2) := dk_25 6 (dk_at dksX5_worth_3 9 rfl rfl)
theorem dX5_worth_83 : decode cX5_worth 83 = .ok (.getfield 137, 3) := dk_180 0 137 (dk_at dksX5_worth_3 11 rfl rfl)
theorem dX5_worth_86 : decode cX5_worth 86 = .ok (.isub, 1) := dk_100 (dk_at dksX5_worth_3 14 rfl rfl)
theorem dX5_worth_87 : decode cX5_worth 87 = .ok (.invokestatic 146, 3) := dk_184 0 146 (dk_at dksX5_worth_3 15 rfl rfl)
theorem dX5_worth_90 : decode cX5_worth 90 = .ok (.imul, 1) := dk_104 (dk_at dksX5_worth_3 18 rfl rfl)
theorem dX5_worth_91 : decode cX5_worth 91 = .ok (.isub, 1) := dk_100 (dk_at dksX5_worth_3 19 rfl rfl)
theorem dX5_worth_92 : decode cX5_worth 92 = .ok (.iadd, 1) := dk_96 (dk_at dksX5_worth_3 20 rfl rfl)
theorem dX5_worth_93 : decode cX5_worth 93 = .ok (.istore 4, 2) := dk_54 4 (dk_at dksX5_worth_3 21 rfl rfl)
theorem dX5_worth_95 : decode cX5_worth 95 = .ok (.iinc 5 1, 3) := dk_132 5 1 (dk_at dksX5_worth_4 0 rfl rfl)
theorem dX5_worth_98 : decode cX5_worth 98 = .ok (.goto (-80), 3) := dk_167 255 176 (dk_at dksX5_worth_4 3 rfl rfl)
theorem dX5_worth_101 : decode cX5_worth 101 = .ok (.iload 4, 2) := dk_21 4 (dk_at dksX5_worth_4 6 rfl rfl)
theorem dX5_worth_103 : decode cX5_worth 103 = .ok (.ireturn, 1) := dk_172 (dk_at dksX5_worth_4 8 rfl rfl)
abbrev cX5_isEnded : ByteArray := prog_20_method_5_code
def yX5_isEnded : MethodName := ⟨RX5, "isEnded", "(LSleepWork$Text;I)Z"⟩
def dkwX5_isEnded_2 : List UInt8 := [180, 0, 137, 162, 0, 5, 3, 172, 132, 4, 1, 167, 255, 212, 4, 172]
abbrev dktX5_isEnded_2 : List UInt8 := dkwX5_isEnded_2 ++ []
def dkwX5_isEnded_1 : List UInt8 := [162, 0, 38, 42, 180, 0, 11, 28, 50, 21, 4, 46, 45, 180, 0, 132, 21, 4, 182, 0, 74, 192, 0, 135]
abbrev dktX5_isEnded_1 : List UInt8 := dkwX5_isEnded_1 ++ dktX5_isEnded_2
def dkwX5_isEnded_0 : List UInt8 := [43, 180, 0, 91, 28, 182, 0, 74, 192, 0, 94, 78, 3, 54, 4, 21, 4, 45, 180, 0, 132, 182, 0, 68]
abbrev dktX5_isEnded_0 : List UInt8 := dkwX5_isEnded_0 ++ dktX5_isEnded_1
theorem dksX5_isEnded_0 : cX5_isEnded.data.toList.drop 0 = dktX5_isEnded_0 := by decide +kernel
theorem dksX5_isEnded_1 : cX5_isEnded.data.toList.drop 24 = dktX5_isEnded_1 := dk_seg dksX5_isEnded_0 24 rfl rfl
theorem dksX5_isEnded_2 : cX5_isEnded.data.toList.drop 48 = dktX5_isEnded_2 := dk_seg dksX5_isEnded_1 24 rfl rfl
theorem dX5_isEnded_0 : decode cX5_isEnded 0 = .ok (.aload_n 1, 1) := dk_43 (dk_at dksX5_isEnded_0 0 rfl rfl)
theorem dX5_isEnded_1 : decode cX5_isEnded 1 = .ok (.getfield 91, 3) := dk_180 0 91 (dk_at dksX5_isEnded_0 1 rfl rfl)
theorem dX5_isEnded_4 : decode cX5_isEnded 4 = .ok (.iload_n 2, 1) := dk_28 (dk_at dksX5_isEnded_0 4 rfl rfl)
theorem dX5_isEnded_5 : decode cX5_isEnded 5 = .ok (.invokevirtual 74, 3) := dk_182 0 74 (dk_at dksX5_isEnded_0 5 rfl rfl)
theorem dX5_isEnded_8 : decode cX5_isEnded 8 = .ok (.checkcast 94, 3) := dk_192 0 94 (dk_at dksX5_isEnded_0 8 rfl rfl)
theorem dX5_isEnded_11 : decode cX5_isEnded 11 = .ok (.astore_n 3, 1) := dk_78 (dk_at dksX5_isEnded_0 11 rfl rfl)
theorem dX5_isEnded_12 : decode cX5_isEnded 12 = .ok (.iconst 0, 1) := dk_3 (dk_at dksX5_isEnded_0 12 rfl rfl)
theorem dX5_isEnded_13 : decode cX5_isEnded 13 = .ok (.istore 4, 2) := dk_54 4 (dk_at dksX5_isEnded_0 13 rfl rfl)
theorem dX5_isEnded_15 : decode cX5_isEnded 15 = .ok (.iload 4, 2) := dk_21 4 (dk_at dksX5_isEnded_0 15 rfl rfl)
theorem dX5_isEnded_17 : decode cX5_isEnded 17 = .ok (.aload_n 3, 1) := dk_45 (dk_at dksX5_isEnded_0 17 rfl rfl)
theorem dX5_isEnded_18 : decode cX5_isEnded 18 = .ok (.getfield 132, 3) := dk_180 0 132 (dk_at dksX5_isEnded_0 18 rfl rfl)
theorem dX5_isEnded_21 : decode cX5_isEnded 21 = .ok (.invokevirtual 68, 3) := dk_182 0 68 (dk_at dksX5_isEnded_0 21 rfl rfl)
theorem dX5_isEnded_24 : decode cX5_isEnded 24 = .ok (.if_icmp .ge 38, 3) := dk_162 0 38 (dk_at dksX5_isEnded_1 0 rfl rfl)
theorem dX5_isEnded_27 : decode cX5_isEnded 27 = .ok (.aload_n 0, 1) := dk_42 (dk_at dksX5_isEnded_1 3 rfl rfl)
theorem dX5_isEnded_28 : decode cX5_isEnded 28 = .ok (.getfield 11, 3) := dk_180 0 11 (dk_at dksX5_isEnded_1 4 rfl rfl)
theorem dX5_isEnded_31 : decode cX5_isEnded 31 = .ok (.iload_n 2, 1) := dk_28 (dk_at dksX5_isEnded_1 7 rfl rfl)
theorem dX5_isEnded_32 : decode cX5_isEnded 32 = .ok (.aaload, 1) := dk_50 (dk_at dksX5_isEnded_1 8 rfl rfl)
theorem dX5_isEnded_33 : decode cX5_isEnded 33 = .ok (.iload 4, 2) := dk_21 4 (dk_at dksX5_isEnded_1 9 rfl rfl)
theorem dX5_isEnded_35 : decode cX5_isEnded 35 = .ok (.iaload, 1) := dk_46 (dk_at dksX5_isEnded_1 11 rfl rfl)
theorem dX5_isEnded_36 : decode cX5_isEnded 36 = .ok (.aload_n 3, 1) := dk_45 (dk_at dksX5_isEnded_1 12 rfl rfl)
theorem dX5_isEnded_37 : decode cX5_isEnded 37 = .ok (.getfield 132, 3) := dk_180 0 132 (dk_at dksX5_isEnded_1 13 rfl rfl)
theorem dX5_isEnded_40 : decode cX5_isEnded 40 = .ok (.iload 4, 2) := dk_21 4 (dk_at dksX5_isEnded_1 16 rfl rfl)
theorem dX5_isEnded_42 : decode cX5_isEnded 42 = .ok (.invokevirtual 74, 3) := dk_182 0 74 (dk_at dksX5_isEnded_1 18 rfl rfl)
theorem dX5_isEnded_45 : decode cX5_isEnded 45 = .ok (.checkcast 135, 3) := dk_192 0 135 (dk_at dksX5_isEnded_1 21 rfl rfl)
theorem dX5_isEnded_48 : decode cX5_isEnded 48 = .ok (.getfield 137, 3) := dk_180 0 137 (dk_at dksX5_isEnded_2 0 rfl rfl)
theorem dX5_isEnded_51 : decode cX5_isEnded 51 = .ok (.if_icmp .ge 5, 3) := dk_162 0 5 (dk_at dksX5_isEnded_2 3 rfl rfl)
theorem dX5_isEnded_54 : decode cX5_isEnded 54 = .ok (.iconst 0, 1) := dk_3 (dk_at dksX5_isEnded_2 6 rfl rfl)
theorem dX5_isEnded_55 : decode cX5_isEnded 55 = .ok (.ireturn, 1) := dk_172 (dk_at dksX5_isEnded_2 7 rfl rfl)
theorem dX5_isEnded_56 : decode cX5_isEnded 56 = .ok (.iinc 4 1, 3) := dk_132 4 1 (dk_at dksX5_isEnded_2 8 rfl rfl)
theorem dX5_isEnded_59 : decode cX5_isEnded 59 = .ok (.goto (-44), 3) := dk_167 255 212 (dk_at dksX5_isEnded_2 11 rfl rfl)
theorem dX5_isEnded_62 : decode cX5_isEnded 62 = .ok (.iconst 1, 1) := dk_4 (dk_at dksX5_isEnded_2 14 rfl rfl)
theorem dX5_isEnded_63 : decode cX5_isEnded 63 = .ok (.ireturn, 1) := dk_172 (dk_at dksX5_isEnded_2 15 rfl rfl)
abbrev cX5_laysWays : ByteArray := prog_20_method_4_code
def yX5_laysWays : MethodName := ⟨RX5, "laysWays", "(LSleepWork$Text;)V"⟩
def dkwX5_laysWays_11 : List UInt8 := [167, 255, 176, 177]
abbrev dktX5_laysWays_11 : List UInt8 := dkwX5_laysWays_11 ++ []
def dkwX5_laysWays_10 : List UInt8 := [21, 5, 46, 96, 184, 0, 126, 79, 132, 5, 1, 167, 255, 205, 132, 4, 1, 167, 255, 190, 132, 3, 1]
abbrev dktX5_laysWays_10 : List UInt8 := dkwX5_laysWays_10 ++ dktX5_laysWays_11
def dkwX5_laysWays_9 : List UInt8 := [180, 0, 38, 21, 4, 50, 21, 5, 46, 42, 180, 0, 38, 21, 4, 50, 29, 46, 42, 180, 0, 38, 29, 50]
abbrev dktX5_laysWays_9 : List UInt8 := dkwX5_laysWays_9 ++ dktX5_laysWays_10
def dkwX5_laysWays_8 : List UInt8 := [162, 0, 66, 3, 54, 5, 21, 5, 28, 162, 0, 51, 42, 180, 0, 38, 21, 4, 50, 21, 5, 42]
abbrev dktX5_laysWays_8 : List UInt8 := dkwX5_laysWays_8 ++ dktX5_laysWays_9
def dkwX5_laysWays_7 : List UInt8 := [180, 0, 120, 46, 79, 132, 3, 1, 167, 255, 142, 3, 62, 29, 28, 162, 0, 81, 3, 54, 4, 21, 4, 28]
abbrev dktX5_laysWays_7 : List UInt8 := dkwX5_laysWays_7 ++ dktX5_laysWays_8
def dkwX5_laysWays_6 : List UInt8 := [25, 4, 180, 0, 120, 50, 25, 4, 180, 0, 117, 42, 180, 0, 38, 25, 4, 180, 0, 117, 50, 25, 4]
abbrev dktX5_laysWays_6 : List UInt8 := dkwX5_laysWays_6 ++ dktX5_laysWays_7
def dkwX5_laysWays_5 : List UInt8 := [180, 0, 117, 50, 25, 4, 180, 0, 120, 46, 25, 4, 180, 0, 123, 184, 0, 126, 79, 42, 180, 0, 38]
abbrev dktX5_laysWays_5 : List UInt8 := dkwX5_laysWays_5 ++ dktX5_laysWays_6
def dkwX5_laysWays_4 : List UInt8 := [167, 0, 75, 42, 180, 0, 38, 25, 4, 180, 0, 117, 50, 25, 4, 180, 0, 120, 42, 180, 0, 38, 25, 4]
abbrev dktX5_laysWays_4 : List UInt8 := dkwX5_laysWays_4 ++ dktX5_laysWays_5
def dkwX5_laysWays_3 : List UInt8 := [180, 0, 62, 29, 182, 0, 74, 192, 0, 78, 58, 4, 42, 180, 0, 55, 29, 122, 4, 126, 4, 160, 0, 6]
abbrev dktX5_laysWays_3 : List UInt8 := dkwX5_laysWays_3 ++ dktX5_laysWays_4
def dkwX5_laysWays_2 : List UInt8 := [167, 255, 226, 132, 3, 1, 167, 255, 212, 3, 62, 29, 43, 180, 0, 62, 182, 0, 68, 162, 0, 109, 43]
abbrev dktX5_laysWays_2 : List UInt8 := dkwX5_laysWays_2 ++ dktX5_laysWays_3
def dkwX5_laysWays_1 : List UInt8 := [42, 180, 0, 38, 29, 50, 21, 4, 29, 21, 4, 160, 0, 7, 3, 167, 0, 5, 18, 116, 79, 132, 4, 1]
abbrev dktX5_laysWays_1 : List UInt8 := dkwX5_laysWays_1 ++ dktX5_laysWays_2
def dkwX5_laysWays_0 : List UInt8 := [43, 180, 0, 113, 182, 0, 68, 61, 3, 62, 29, 28, 162, 0, 45, 3, 54, 4, 21, 4, 28, 162, 0, 30]
abbrev dktX5_laysWays_0 : List UInt8 := dkwX5_laysWays_0 ++ dktX5_laysWays_1
theorem dksX5_laysWays_0 : cX5_laysWays.data.toList.drop 0 = dktX5_laysWays_0 := by decide +kernel
theorem dksX5_laysWays_1 : cX5_laysWays.data.toList.drop 24 = dktX5_laysWays_1 := dk_seg dksX5_laysWays_0 24 rfl rfl
theorem dksX5_laysWays_2 : cX5_laysWays.data.toList.drop 48 = dktX5_laysWays_2 := dk_seg dksX5_laysWays_1 24 rfl rfl
theorem dksX5_laysWays_3 : cX5_laysWays.data.toList.drop 71 = dktX5_laysWays_3 := dk_seg dksX5_laysWays_2 23 rfl rfl
theorem dksX5_laysWays_4 : cX5_laysWays.data.toList.drop 95 = dktX5_laysWays_4 := dk_seg dksX5_laysWays_3 24 rfl rfl
theorem dksX5_laysWays_5 : cX5_laysWays.data.toList.drop 119 = dktX5_laysWays_5 := dk_seg dksX5_laysWays_4 24 rfl rfl
theorem dksX5_laysWays_6 : cX5_laysWays.data.toList.drop 142 = dktX5_laysWays_6 := dk_seg dksX5_laysWays_5 23 rfl rfl
theorem dksX5_laysWays_7 : cX5_laysWays.data.toList.drop 165 = dktX5_laysWays_7 := dk_seg dksX5_laysWays_6 23 rfl rfl
theorem dksX5_laysWays_8 : cX5_laysWays.data.toList.drop 189 = dktX5_laysWays_8 := dk_seg dksX5_laysWays_7 24 rfl rfl
theorem dksX5_laysWays_9 : cX5_laysWays.data.toList.drop 211 = dktX5_laysWays_9 := dk_seg dksX5_laysWays_8 22 rfl rfl
theorem dksX5_laysWays_10 : cX5_laysWays.data.toList.drop 235 = dktX5_laysWays_10 := dk_seg dksX5_laysWays_9 24 rfl rfl
theorem dksX5_laysWays_11 : cX5_laysWays.data.toList.drop 258 = dktX5_laysWays_11 := dk_seg dksX5_laysWays_10 23 rfl rfl
theorem dX5_laysWays_0 : decode cX5_laysWays 0 = .ok (.aload_n 1, 1) := dk_43 (dk_at dksX5_laysWays_0 0 rfl rfl)
theorem dX5_laysWays_1 : decode cX5_laysWays 1 = .ok (.getfield 113, 3) := dk_180 0 113 (dk_at dksX5_laysWays_0 1 rfl rfl)
theorem dX5_laysWays_4 : decode cX5_laysWays 4 = .ok (.invokevirtual 68, 3) := dk_182 0 68 (dk_at dksX5_laysWays_0 4 rfl rfl)
theorem dX5_laysWays_7 : decode cX5_laysWays 7 = .ok (.istore_n 2, 1) := dk_61 (dk_at dksX5_laysWays_0 7 rfl rfl)
theorem dX5_laysWays_8 : decode cX5_laysWays 8 = .ok (.iconst 0, 1) := dk_3 (dk_at dksX5_laysWays_0 8 rfl rfl)
theorem dX5_laysWays_9 : decode cX5_laysWays 9 = .ok (.istore_n 3, 1) := dk_62 (dk_at dksX5_laysWays_0 9 rfl rfl)
theorem dX5_laysWays_10 : decode cX5_laysWays 10 = .ok (.iload_n 3, 1) := dk_29 (dk_at dksX5_laysWays_0 10 rfl rfl)
theorem dX5_laysWays_11 : decode cX5_laysWays 11 = .ok (.iload_n 2, 1) := dk_28 (dk_at dksX5_laysWays_0 11 rfl rfl)
theorem dX5_laysWays_12 : decode cX5_laysWays 12 = .ok (.if_icmp .ge 45, 3) := dk_162 0 45 (dk_at dksX5_laysWays_0 12 rfl rfl)
theorem dX5_laysWays_15 : decode cX5_laysWays 15 = .ok (.iconst 0, 1) := dk_3 (dk_at dksX5_laysWays_0 15 rfl rfl)
theorem dX5_laysWays_16 : decode cX5_laysWays 16 = .ok (.istore 4, 2) := dk_54 4 (dk_at dksX5_laysWays_0 16 rfl rfl)
theorem dX5_laysWays_18 : decode cX5_laysWays 18 = .ok (.iload 4, 2) := dk_21 4 (dk_at dksX5_laysWays_0 18 rfl rfl)
theorem dX5_laysWays_20 : decode cX5_laysWays 20 = .ok (.iload_n 2, 1) := dk_28 (dk_at dksX5_laysWays_0 20 rfl rfl)
theorem dX5_laysWays_21 : decode cX5_laysWays 21 = .ok (.if_icmp .ge 30, 3) := dk_162 0 30 (dk_at dksX5_laysWays_0 21 rfl rfl)
theorem dX5_laysWays_24 : decode cX5_laysWays 24 = .ok (.aload_n 0, 1) := dk_42 (dk_at dksX5_laysWays_1 0 rfl rfl)
theorem dX5_laysWays_25 : decode cX5_laysWays 25 = .ok (.getfield 38, 3) := dk_180 0 38 (dk_at dksX5_laysWays_1 1 rfl rfl)
theorem dX5_laysWays_28 : decode cX5_laysWays 28 = .ok (.iload_n 3, 1) := dk_29 (dk_at dksX5_laysWays_1 4 rfl rfl)
theorem dX5_laysWays_29 : decode cX5_laysWays 29 = .ok (.aaload, 1) := dk_50 (dk_at dksX5_laysWays_1 5 rfl rfl)
theorem dX5_laysWays_30 : decode cX5_laysWays 30 = .ok (.iload 4, 2) := dk_21 4 (dk_at dksX5_laysWays_1 6 rfl rfl)
theorem dX5_laysWays_32 : decode cX5_laysWays 32 = .ok (.iload_n 3, 1) := dk_29 (dk_at dksX5_laysWays_1 8 rfl rfl)
theorem dX5_laysWays_33 : decode cX5_laysWays 33 = .ok (.iload 4, 2) := dk_21 4 (dk_at dksX5_laysWays_1 9 rfl rfl)
theorem dX5_laysWays_35 : decode cX5_laysWays 35 = .ok (.if_icmp .ne 7, 3) := dk_160 0 7 (dk_at dksX5_laysWays_1 11 rfl rfl)
theorem dX5_laysWays_38 : decode cX5_laysWays 38 = .ok (.iconst 0, 1) := dk_3 (dk_at dksX5_laysWays_1 14 rfl rfl)
theorem dX5_laysWays_39 : decode cX5_laysWays 39 = .ok (.goto 5, 3) := dk_167 0 5 (dk_at dksX5_laysWays_1 15 rfl rfl)
theorem dX5_laysWays_42 : decode cX5_laysWays 42 = .ok (.ldc 116, 2) := dk_18 116 (dk_at dksX5_laysWays_1 18 rfl rfl)
theorem dX5_laysWays_44 : decode cX5_laysWays 44 = .ok (.iastore, 1) := dk_79 (dk_at dksX5_laysWays_1 20 rfl rfl)
theorem dX5_laysWays_45 : decode cX5_laysWays 45 = .ok (.iinc 4 1, 3) := dk_132 4 1 (dk_at dksX5_laysWays_1 21 rfl rfl)
theorem dX5_laysWays_48 : decode cX5_laysWays 48 = .ok (.goto (-30), 3) := dk_167 255 226 (dk_at dksX5_laysWays_2 0 rfl rfl)
theorem dX5_laysWays_51 : decode cX5_laysWays 51 = .ok (.iinc 3 1, 3) := dk_132 3 1 (dk_at dksX5_laysWays_2 3 rfl rfl)
theorem dX5_laysWays_54 : decode cX5_laysWays 54 = .ok (.goto (-44), 3) := dk_167 255 212 (dk_at dksX5_laysWays_2 6 rfl rfl)
theorem dX5_laysWays_57 : decode cX5_laysWays 57 = .ok (.iconst 0, 1) := dk_3 (dk_at dksX5_laysWays_2 9 rfl rfl)
theorem dX5_laysWays_58 : decode cX5_laysWays 58 = .ok (.istore_n 3, 1) := dk_62 (dk_at dksX5_laysWays_2 10 rfl rfl)
theorem dX5_laysWays_59 : decode cX5_laysWays 59 = .ok (.iload_n 3, 1) := dk_29 (dk_at dksX5_laysWays_2 11 rfl rfl)
theorem dX5_laysWays_60 : decode cX5_laysWays 60 = .ok (.aload_n 1, 1) := dk_43 (dk_at dksX5_laysWays_2 12 rfl rfl)
theorem dX5_laysWays_61 : decode cX5_laysWays 61 = .ok (.getfield 62, 3) := dk_180 0 62 (dk_at dksX5_laysWays_2 13 rfl rfl)
theorem dX5_laysWays_64 : decode cX5_laysWays 64 = .ok (.invokevirtual 68, 3) := dk_182 0 68 (dk_at dksX5_laysWays_2 16 rfl rfl)
theorem dX5_laysWays_67 : decode cX5_laysWays 67 = .ok (.if_icmp .ge 109, 3) := dk_162 0 109 (dk_at dksX5_laysWays_2 19 rfl rfl)
theorem dX5_laysWays_70 : decode cX5_laysWays 70 = .ok (.aload_n 1, 1) := dk_43 (dk_at dksX5_laysWays_2 22 rfl rfl)
theorem dX5_laysWays_71 : decode cX5_laysWays 71 = .ok (.getfield 62, 3) := dk_180 0 62 (dk_at dksX5_laysWays_3 0 rfl rfl)
theorem dX5_laysWays_74 : decode cX5_laysWays 74 = .ok (.iload_n 3, 1) := dk_29 (dk_at dksX5_laysWays_3 3 rfl rfl)
theorem dX5_laysWays_75 : decode cX5_laysWays 75 = .ok (.invokevirtual 74, 3) := dk_182 0 74 (dk_at dksX5_laysWays_3 4 rfl rfl)
theorem dX5_laysWays_78 : decode cX5_laysWays 78 = .ok (.checkcast 78, 3) := dk_192 0 78 (dk_at dksX5_laysWays_3 7 rfl rfl)
theorem dX5_laysWays_81 : decode cX5_laysWays 81 = .ok (.astore 4, 2) := dk_58 4 (dk_at dksX5_laysWays_3 10 rfl rfl)
theorem dX5_laysWays_83 : decode cX5_laysWays 83 = .ok (.aload_n 0, 1) := dk_42 (dk_at dksX5_laysWays_3 12 rfl rfl)
theorem dX5_laysWays_84 : decode cX5_laysWays 84 = .ok (.getfield 55, 3) := dk_180 0 55 (dk_at dksX5_laysWays_3 13 rfl rfl)
theorem dX5_laysWays_87 : decode cX5_laysWays 87 = .ok (.iload_n 3, 1) := dk_29 (dk_at dksX5_laysWays_3 16 rfl rfl)
theorem dX5_laysWays_88 : decode cX5_laysWays 88 = .ok (.ishr, 1) := dk_122 (dk_at dksX5_laysWays_3 17 rfl rfl)
theorem dX5_laysWays_89 : decode cX5_laysWays 89 = .ok (.iconst 1, 1) := dk_4 (dk_at dksX5_laysWays_3 18 rfl rfl)
theorem dX5_laysWays_90 : decode cX5_laysWays 90 = .ok (.iand, 1) := dk_126 (dk_at dksX5_laysWays_3 19 rfl rfl)
theorem dX5_laysWays_91 : decode cX5_laysWays 91 = .ok (.iconst 1, 1) := dk_4 (dk_at dksX5_laysWays_3 20 rfl rfl)
theorem dX5_laysWays_92 : decode cX5_laysWays 92 = .ok (.if_icmp .ne 6, 3) := dk_160 0 6 (dk_at dksX5_laysWays_3 21 rfl rfl)
theorem dX5_laysWays_95 : decode cX5_laysWays 95 = .ok (.goto 75, 3) := dk_167 0 75 (dk_at dksX5_laysWays_4 0 rfl rfl)
theorem dX5_laysWays_98 : decode cX5_laysWays 98 = .ok (.aload_n 0, 1) := dk_42 (dk_at dksX5_laysWays_4 3 rfl rfl)
theorem dX5_laysWays_99 : decode cX5_laysWays 99 = .ok (.getfield 38, 3) := dk_180 0 38 (dk_at dksX5_laysWays_4 4 rfl rfl)
theorem dX5_laysWays_102 : decode cX5_laysWays 102 = .ok (.aload 4, 2) := dk_25 4 (dk_at dksX5_laysWays_4 7 rfl rfl)
theorem dX5_laysWays_104 : decode cX5_laysWays 104 = .ok (.getfield 117, 3) := dk_180 0 117 (dk_at dksX5_laysWays_4 9 rfl rfl)
theorem dX5_laysWays_107 : decode cX5_laysWays 107 = .ok (.aaload, 1) := dk_50 (dk_at dksX5_laysWays_4 12 rfl rfl)
theorem dX5_laysWays_108 : decode cX5_laysWays 108 = .ok (.aload 4, 2) := dk_25 4 (dk_at dksX5_laysWays_4 13 rfl rfl)
theorem dX5_laysWays_110 : decode cX5_laysWays 110 = .ok (.getfield 120, 3) := dk_180 0 120 (dk_at dksX5_laysWays_4 15 rfl rfl)
theorem dX5_laysWays_113 : decode cX5_laysWays 113 = .ok (.aload_n 0, 1) := dk_42 (dk_at dksX5_laysWays_4 18 rfl rfl)
theorem dX5_laysWays_114 : decode cX5_laysWays 114 = .ok (.getfield 38, 3) := dk_180 0 38 (dk_at dksX5_laysWays_4 19 rfl rfl)
theorem dX5_laysWays_117 : decode cX5_laysWays 117 = .ok (.aload 4, 2) := dk_25 4 (dk_at dksX5_laysWays_4 22 rfl rfl)
theorem dX5_laysWays_119 : decode cX5_laysWays 119 = .ok (.getfield 117, 3) := dk_180 0 117 (dk_at dksX5_laysWays_5 0 rfl rfl)
theorem dX5_laysWays_122 : decode cX5_laysWays 122 = .ok (.aaload, 1) := dk_50 (dk_at dksX5_laysWays_5 3 rfl rfl)
theorem dX5_laysWays_123 : decode cX5_laysWays 123 = .ok (.aload 4, 2) := dk_25 4 (dk_at dksX5_laysWays_5 4 rfl rfl)
theorem dX5_laysWays_125 : decode cX5_laysWays 125 = .ok (.getfield 120, 3) := dk_180 0 120 (dk_at dksX5_laysWays_5 6 rfl rfl)
theorem dX5_laysWays_128 : decode cX5_laysWays 128 = .ok (.iaload, 1) := dk_46 (dk_at dksX5_laysWays_5 9 rfl rfl)
theorem dX5_laysWays_129 : decode cX5_laysWays 129 = .ok (.aload 4, 2) := dk_25 4 (dk_at dksX5_laysWays_5 10 rfl rfl)
theorem dX5_laysWays_131 : decode cX5_laysWays 131 = .ok (.getfield 123, 3) := dk_180 0 123 (dk_at dksX5_laysWays_5 12 rfl rfl)
theorem dX5_laysWays_134 : decode cX5_laysWays 134 = .ok (.invokestatic 126, 3) := dk_184 0 126 (dk_at dksX5_laysWays_5 15 rfl rfl)
theorem dX5_laysWays_137 : decode cX5_laysWays 137 = .ok (.iastore, 1) := dk_79 (dk_at dksX5_laysWays_5 18 rfl rfl)
theorem dX5_laysWays_138 : decode cX5_laysWays 138 = .ok (.aload_n 0, 1) := dk_42 (dk_at dksX5_laysWays_5 19 rfl rfl)
theorem dX5_laysWays_139 : decode cX5_laysWays 139 = .ok (.getfield 38, 3) := dk_180 0 38 (dk_at dksX5_laysWays_5 20 rfl rfl)
theorem dX5_laysWays_142 : decode cX5_laysWays 142 = .ok (.aload 4, 2) := dk_25 4 (dk_at dksX5_laysWays_6 0 rfl rfl)
theorem dX5_laysWays_144 : decode cX5_laysWays 144 = .ok (.getfield 120, 3) := dk_180 0 120 (dk_at dksX5_laysWays_6 2 rfl rfl)
theorem dX5_laysWays_147 : decode cX5_laysWays 147 = .ok (.aaload, 1) := dk_50 (dk_at dksX5_laysWays_6 5 rfl rfl)
theorem dX5_laysWays_148 : decode cX5_laysWays 148 = .ok (.aload 4, 2) := dk_25 4 (dk_at dksX5_laysWays_6 6 rfl rfl)
theorem dX5_laysWays_150 : decode cX5_laysWays 150 = .ok (.getfield 117, 3) := dk_180 0 117 (dk_at dksX5_laysWays_6 8 rfl rfl)
theorem dX5_laysWays_153 : decode cX5_laysWays 153 = .ok (.aload_n 0, 1) := dk_42 (dk_at dksX5_laysWays_6 11 rfl rfl)
theorem dX5_laysWays_154 : decode cX5_laysWays 154 = .ok (.getfield 38, 3) := dk_180 0 38 (dk_at dksX5_laysWays_6 12 rfl rfl)
theorem dX5_laysWays_157 : decode cX5_laysWays 157 = .ok (.aload 4, 2) := dk_25 4 (dk_at dksX5_laysWays_6 15 rfl rfl)
theorem dX5_laysWays_159 : decode cX5_laysWays 159 = .ok (.getfield 117, 3) := dk_180 0 117 (dk_at dksX5_laysWays_6 17 rfl rfl)
theorem dX5_laysWays_162 : decode cX5_laysWays 162 = .ok (.aaload, 1) := dk_50 (dk_at dksX5_laysWays_6 20 rfl rfl)
theorem dX5_laysWays_163 : decode cX5_laysWays 163 = .ok (.aload 4, 2) := dk_25 4 (dk_at dksX5_laysWays_6 21 rfl rfl)
theorem dX5_laysWays_165 : decode cX5_laysWays 165 = .ok (.getfield 120, 3) := dk_180 0 120 (dk_at dksX5_laysWays_7 0 rfl rfl)
theorem dX5_laysWays_168 : decode cX5_laysWays 168 = .ok (.iaload, 1) := dk_46 (dk_at dksX5_laysWays_7 3 rfl rfl)
theorem dX5_laysWays_169 : decode cX5_laysWays 169 = .ok (.iastore, 1) := dk_79 (dk_at dksX5_laysWays_7 4 rfl rfl)
theorem dX5_laysWays_170 : decode cX5_laysWays 170 = .ok (.iinc 3 1, 3) := dk_132 3 1 (dk_at dksX5_laysWays_7 5 rfl rfl)
theorem dX5_laysWays_173 : decode cX5_laysWays 173 = .ok (.goto (-114), 3) := dk_167 255 142 (dk_at dksX5_laysWays_7 8 rfl rfl)
theorem dX5_laysWays_176 : decode cX5_laysWays 176 = .ok (.iconst 0, 1) := dk_3 (dk_at dksX5_laysWays_7 11 rfl rfl)
theorem dX5_laysWays_177 : decode cX5_laysWays 177 = .ok (.istore_n 3, 1) := dk_62 (dk_at dksX5_laysWays_7 12 rfl rfl)
theorem dX5_laysWays_178 : decode cX5_laysWays 178 = .ok (.iload_n 3, 1) := dk_29 (dk_at dksX5_laysWays_7 13 rfl rfl)
theorem dX5_laysWays_179 : decode cX5_laysWays 179 = .ok (.iload_n 2, 1) := dk_28 (dk_at dksX5_laysWays_7 14 rfl rfl)
theorem dX5_laysWays_180 : decode cX5_laysWays 180 = .ok (.if_icmp .ge 81, 3) := dk_162 0 81 (dk_at dksX5_laysWays_7 15 rfl rfl)
theorem dX5_laysWays_183 : decode cX5_laysWays 183 = .ok (.iconst 0, 1) := dk_3 (dk_at dksX5_laysWays_7 18 rfl rfl)
theorem dX5_laysWays_184 : decode cX5_laysWays 184 = .ok (.istore 4, 2) := dk_54 4 (dk_at dksX5_laysWays_7 19 rfl rfl)
theorem dX5_laysWays_186 : decode cX5_laysWays 186 = .ok (.iload 4, 2) := dk_21 4 (dk_at dksX5_laysWays_7 21 rfl rfl)
theorem dX5_laysWays_188 : decode cX5_laysWays 188 = .ok (.iload_n 2, 1) := dk_28 (dk_at dksX5_laysWays_7 23 rfl rfl)
theorem dX5_laysWays_189 : decode cX5_laysWays 189 = .ok (.if_icmp .ge 66, 3) := dk_162 0 66 (dk_at dksX5_laysWays_8 0 rfl rfl)
theorem dX5_laysWays_192 : decode cX5_laysWays 192 = .ok (.iconst 0, 1) := dk_3 (dk_at dksX5_laysWays_8 3 rfl rfl)
theorem dX5_laysWays_193 : decode cX5_laysWays 193 = .ok (.istore 5, 2) := dk_54 5 (dk_at dksX5_laysWays_8 4 rfl rfl)
theorem dX5_laysWays_195 : decode cX5_laysWays 195 = .ok (.iload 5, 2) := dk_21 5 (dk_at dksX5_laysWays_8 6 rfl rfl)
theorem dX5_laysWays_197 : decode cX5_laysWays 197 = .ok (.iload_n 2, 1) := dk_28 (dk_at dksX5_laysWays_8 8 rfl rfl)
theorem dX5_laysWays_198 : decode cX5_laysWays 198 = .ok (.if_icmp .ge 51, 3) := dk_162 0 51 (dk_at dksX5_laysWays_8 9 rfl rfl)
theorem dX5_laysWays_201 : decode cX5_laysWays 201 = .ok (.aload_n 0, 1) := dk_42 (dk_at dksX5_laysWays_8 12 rfl rfl)
theorem dX5_laysWays_202 : decode cX5_laysWays 202 = .ok (.getfield 38, 3) := dk_180 0 38 (dk_at dksX5_laysWays_8 13 rfl rfl)
theorem dX5_laysWays_205 : decode cX5_laysWays 205 = .ok (.iload 4, 2) := dk_21 4 (dk_at dksX5_laysWays_8 16 rfl rfl)
theorem dX5_laysWays_207 : decode cX5_laysWays 207 = .ok (.aaload, 1) := dk_50 (dk_at dksX5_laysWays_8 18 rfl rfl)
theorem dX5_laysWays_208 : decode cX5_laysWays 208 = .ok (.iload 5, 2) := dk_21 5 (dk_at dksX5_laysWays_8 19 rfl rfl)
theorem dX5_laysWays_210 : decode cX5_laysWays 210 = .ok (.aload_n 0, 1) := dk_42 (dk_at dksX5_laysWays_8 21 rfl rfl)
theorem dX5_laysWays_211 : decode cX5_laysWays 211 = .ok (.getfield 38, 3) := dk_180 0 38 (dk_at dksX5_laysWays_9 0 rfl rfl)
theorem dX5_laysWays_214 : decode cX5_laysWays 214 = .ok (.iload 4, 2) := dk_21 4 (dk_at dksX5_laysWays_9 3 rfl rfl)
theorem dX5_laysWays_216 : decode cX5_laysWays 216 = .ok (.aaload, 1) := dk_50 (dk_at dksX5_laysWays_9 5 rfl rfl)
theorem dX5_laysWays_217 : decode cX5_laysWays 217 = .ok (.iload 5, 2) := dk_21 5 (dk_at dksX5_laysWays_9 6 rfl rfl)
theorem dX5_laysWays_219 : decode cX5_laysWays 219 = .ok (.iaload, 1) := dk_46 (dk_at dksX5_laysWays_9 8 rfl rfl)
theorem dX5_laysWays_220 : decode cX5_laysWays 220 = .ok (.aload_n 0, 1) := dk_42 (dk_at dksX5_laysWays_9 9 rfl rfl)
theorem dX5_laysWays_221 : decode cX5_laysWays 221 = .ok (.getfield 38, 3) := dk_180 0 38 (dk_at dksX5_laysWays_9 10 rfl rfl)
theorem dX5_laysWays_224 : decode cX5_laysWays 224 = .ok (.iload 4, 2) := dk_21 4 (dk_at dksX5_laysWays_9 13 rfl rfl)
theorem dX5_laysWays_226 : decode cX5_laysWays 226 = .ok (.aaload, 1) := dk_50 (dk_at dksX5_laysWays_9 15 rfl rfl)
theorem dX5_laysWays_227 : decode cX5_laysWays 227 = .ok (.iload_n 3, 1) := dk_29 (dk_at dksX5_laysWays_9 16 rfl rfl)
theorem dX5_laysWays_228 : decode cX5_laysWays 228 = .ok (.iaload, 1) := dk_46 (dk_at dksX5_laysWays_9 17 rfl rfl)
theorem dX5_laysWays_229 : decode cX5_laysWays 229 = .ok (.aload_n 0, 1) := dk_42 (dk_at dksX5_laysWays_9 18 rfl rfl)
theorem dX5_laysWays_230 : decode cX5_laysWays 230 = .ok (.getfield 38, 3) := dk_180 0 38 (dk_at dksX5_laysWays_9 19 rfl rfl)
theorem dX5_laysWays_233 : decode cX5_laysWays 233 = .ok (.iload_n 3, 1) := dk_29 (dk_at dksX5_laysWays_9 22 rfl rfl)
theorem dX5_laysWays_234 : decode cX5_laysWays 234 = .ok (.aaload, 1) := dk_50 (dk_at dksX5_laysWays_9 23 rfl rfl)
theorem dX5_laysWays_235 : decode cX5_laysWays 235 = .ok (.iload 5, 2) := dk_21 5 (dk_at dksX5_laysWays_10 0 rfl rfl)
theorem dX5_laysWays_237 : decode cX5_laysWays 237 = .ok (.iaload, 1) := dk_46 (dk_at dksX5_laysWays_10 2 rfl rfl)
theorem dX5_laysWays_238 : decode cX5_laysWays 238 = .ok (.iadd, 1) := dk_96 (dk_at dksX5_laysWays_10 3 rfl rfl)
theorem dX5_laysWays_239 : decode cX5_laysWays 239 = .ok (.invokestatic 126, 3) := dk_184 0 126 (dk_at dksX5_laysWays_10 4 rfl rfl)
theorem dX5_laysWays_242 : decode cX5_laysWays 242 = .ok (.iastore, 1) := dk_79 (dk_at dksX5_laysWays_10 7 rfl rfl)
theorem dX5_laysWays_243 : decode cX5_laysWays 243 = .ok (.iinc 5 1, 3) := dk_132 5 1 (dk_at dksX5_laysWays_10 8 rfl rfl)
theorem dX5_laysWays_246 : decode cX5_laysWays 246 = .ok (.goto (-51), 3) := dk_167 255 205 (dk_at dksX5_laysWays_10 11 rfl rfl)
theorem dX5_laysWays_249 : decode cX5_laysWays 249 = .ok (.iinc 4 1, 3) := dk_132 4 1 (dk_at dksX5_laysWays_10 14 rfl rfl)
theorem dX5_laysWays_252 : decode cX5_laysWays 252 = .ok (.goto (-66), 3) := dk_167 255 190 (dk_at dksX5_laysWays_10 17 rfl rfl)
theorem dX5_laysWays_255 : decode cX5_laysWays 255 = .ok (.iinc 3 1, 3) := dk_132 3 1 (dk_at dksX5_laysWays_10 20 rfl rfl)
theorem dX5_laysWays_258 : decode cX5_laysWays 258 = .ok (.goto (-80), 3) := dk_167 255 176 (dk_at dksX5_laysWays_11 0 rfl rfl)
theorem dX5_laysWays_261 : decode cX5_laysWays 261 = .ok (.return_, 1) := dk_177 (dk_at dksX5_laysWays_11 3 rfl rfl)
abbrev cX5_does : ByteArray := prog_20_method_8_code
def yX5_does : MethodName := ⟨RX5, "does", "(LSleepWork$Text;II)V"⟩
def dkwX5_does_2 : List UInt8 := [28, 50, 21, 4, 46, 158, 0, 16, 42, 180, 0, 11, 28, 50, 21, 4, 92, 46, 4, 100, 79, 177]
abbrev dktX5_does_2 : List UInt8 := dkwX5_does_2 ++ []
def dkwX5_does_1 : List UInt8 := [180, 0, 132, 29, 182, 0, 74, 192, 0, 135, 180, 0, 153, 54, 4, 21, 4, 155, 0, 28, 42, 180, 0, 11]
abbrev dktX5_does_1 : List UInt8 := dkwX5_does_1 ++ dktX5_does_2
def dkwX5_does_0 : List UInt8 := [42, 180, 0, 11, 28, 50, 29, 92, 46, 4, 96, 79, 43, 180, 0, 91, 28, 182, 0, 74, 192, 0, 94]
abbrev dktX5_does_0 : List UInt8 := dkwX5_does_0 ++ dktX5_does_1
theorem dksX5_does_0 : cX5_does.data.toList.drop 0 = dktX5_does_0 := by decide +kernel
theorem dksX5_does_1 : cX5_does.data.toList.drop 23 = dktX5_does_1 := dk_seg dksX5_does_0 23 rfl rfl
theorem dksX5_does_2 : cX5_does.data.toList.drop 47 = dktX5_does_2 := dk_seg dksX5_does_1 24 rfl rfl
theorem dX5_does_0 : decode cX5_does 0 = .ok (.aload_n 0, 1) := dk_42 (dk_at dksX5_does_0 0 rfl rfl)
theorem dX5_does_1 : decode cX5_does 1 = .ok (.getfield 11, 3) := dk_180 0 11 (dk_at dksX5_does_0 1 rfl rfl)
theorem dX5_does_4 : decode cX5_does 4 = .ok (.iload_n 2, 1) := dk_28 (dk_at dksX5_does_0 4 rfl rfl)
theorem dX5_does_5 : decode cX5_does 5 = .ok (.aaload, 1) := dk_50 (dk_at dksX5_does_0 5 rfl rfl)
theorem dX5_does_6 : decode cX5_does 6 = .ok (.iload_n 3, 1) := dk_29 (dk_at dksX5_does_0 6 rfl rfl)
theorem dX5_does_7 : decode cX5_does 7 = .ok (.dup2, 1) := dk_92 (dk_at dksX5_does_0 7 rfl rfl)
theorem dX5_does_8 : decode cX5_does 8 = .ok (.iaload, 1) := dk_46 (dk_at dksX5_does_0 8 rfl rfl)
theorem dX5_does_9 : decode cX5_does 9 = .ok (.iconst 1, 1) := dk_4 (dk_at dksX5_does_0 9 rfl rfl)
theorem dX5_does_10 : decode cX5_does 10 = .ok (.iadd, 1) := dk_96 (dk_at dksX5_does_0 10 rfl rfl)
theorem dX5_does_11 : decode cX5_does 11 = .ok (.iastore, 1) := dk_79 (dk_at dksX5_does_0 11 rfl rfl)
theorem dX5_does_12 : decode cX5_does 12 = .ok (.aload_n 1, 1) := dk_43 (dk_at dksX5_does_0 12 rfl rfl)
theorem dX5_does_13 : decode cX5_does 13 = .ok (.getfield 91, 3) := dk_180 0 91 (dk_at dksX5_does_0 13 rfl rfl)
theorem dX5_does_16 : decode cX5_does 16 = .ok (.iload_n 2, 1) := dk_28 (dk_at dksX5_does_0 16 rfl rfl)
theorem dX5_does_17 : decode cX5_does 17 = .ok (.invokevirtual 74, 3) := dk_182 0 74 (dk_at dksX5_does_0 17 rfl rfl)
theorem dX5_does_20 : decode cX5_does 20 = .ok (.checkcast 94, 3) := dk_192 0 94 (dk_at dksX5_does_0 20 rfl rfl)
theorem dX5_does_23 : decode cX5_does 23 = .ok (.getfield 132, 3) := dk_180 0 132 (dk_at dksX5_does_1 0 rfl rfl)
theorem dX5_does_26 : decode cX5_does 26 = .ok (.iload_n 3, 1) := dk_29 (dk_at dksX5_does_1 3 rfl rfl)
theorem dX5_does_27 : decode cX5_does 27 = .ok (.invokevirtual 74, 3) := dk_182 0 74 (dk_at dksX5_does_1 4 rfl rfl)
theorem dX5_does_30 : decode cX5_does 30 = .ok (.checkcast 135, 3) := dk_192 0 135 (dk_at dksX5_does_1 7 rfl rfl)
theorem dX5_does_33 : decode cX5_does 33 = .ok (.getfield 153, 3) := dk_180 0 153 (dk_at dksX5_does_1 10 rfl rfl)
theorem dX5_does_36 : decode cX5_does 36 = .ok (.istore 4, 2) := dk_54 4 (dk_at dksX5_does_1 13 rfl rfl)
theorem dX5_does_38 : decode cX5_does 38 = .ok (.iload 4, 2) := dk_21 4 (dk_at dksX5_does_1 15 rfl rfl)
theorem dX5_does_40 : decode cX5_does 40 = .ok (.ifCond .lt 28, 3) := dk_155 0 28 (dk_at dksX5_does_1 17 rfl rfl)
theorem dX5_does_43 : decode cX5_does 43 = .ok (.aload_n 0, 1) := dk_42 (dk_at dksX5_does_1 20 rfl rfl)
theorem dX5_does_44 : decode cX5_does 44 = .ok (.getfield 11, 3) := dk_180 0 11 (dk_at dksX5_does_1 21 rfl rfl)
theorem dX5_does_47 : decode cX5_does 47 = .ok (.iload_n 2, 1) := dk_28 (dk_at dksX5_does_2 0 rfl rfl)
theorem dX5_does_48 : decode cX5_does 48 = .ok (.aaload, 1) := dk_50 (dk_at dksX5_does_2 1 rfl rfl)
theorem dX5_does_49 : decode cX5_does 49 = .ok (.iload 4, 2) := dk_21 4 (dk_at dksX5_does_2 2 rfl rfl)
theorem dX5_does_51 : decode cX5_does 51 = .ok (.iaload, 1) := dk_46 (dk_at dksX5_does_2 4 rfl rfl)
theorem dX5_does_52 : decode cX5_does 52 = .ok (.ifCond .le 16, 3) := dk_158 0 16 (dk_at dksX5_does_2 5 rfl rfl)
theorem dX5_does_55 : decode cX5_does 55 = .ok (.aload_n 0, 1) := dk_42 (dk_at dksX5_does_2 8 rfl rfl)
theorem dX5_does_56 : decode cX5_does 56 = .ok (.getfield 11, 3) := dk_180 0 11 (dk_at dksX5_does_2 9 rfl rfl)
theorem dX5_does_59 : decode cX5_does 59 = .ok (.iload_n 2, 1) := dk_28 (dk_at dksX5_does_2 12 rfl rfl)
theorem dX5_does_60 : decode cX5_does 60 = .ok (.aaload, 1) := dk_50 (dk_at dksX5_does_2 13 rfl rfl)
theorem dX5_does_61 : decode cX5_does 61 = .ok (.iload 4, 2) := dk_21 4 (dk_at dksX5_does_2 14 rfl rfl)
theorem dX5_does_63 : decode cX5_does 63 = .ok (.dup2, 1) := dk_92 (dk_at dksX5_does_2 16 rfl rfl)
theorem dX5_does_64 : decode cX5_does 64 = .ok (.iaload, 1) := dk_46 (dk_at dksX5_does_2 17 rfl rfl)
theorem dX5_does_65 : decode cX5_does 65 = .ok (.iconst 1, 1) := dk_4 (dk_at dksX5_does_2 18 rfl rfl)
theorem dX5_does_66 : decode cX5_does 66 = .ok (.isub, 1) := dk_100 (dk_at dksX5_does_2 19 rfl rfl)
theorem dX5_does_67 : decode cX5_does 67 = .ok (.iastore, 1) := dk_79 (dk_at dksX5_does_2 20 rfl rfl)
theorem dX5_does_68 : decode cX5_does 68 = .ok (.return_, 1) := dk_177 (dk_at dksX5_does_2 21 rfl rfl)
abbrev cX5_takes : ByteArray := prog_20_method_3_code
def yX5_takes : MethodName := ⟨RX5, "takes", "(LSleepWork$Village;)V"⟩
def dkwX5_takes_6 : List UInt8 := [180, 0, 55, 181, 0, 55, 42, 43, 180, 0, 59, 181, 0, 59, 177]
abbrev dktX5_takes_6 : List UInt8 := dkwX5_takes_6 ++ []
def dkwX5_takes_5 : List UInt8 := [16, 6, 184, 0, 107, 43, 180, 0, 35, 3, 42, 180, 0, 35, 3, 16, 6, 184, 0, 107, 42, 43]
abbrev dktX5_takes_5 : List UInt8 := dkwX5_takes_5 ++ dktX5_takes_6
def dkwX5_takes_4 : List UInt8 := [180, 0, 29, 3, 42, 180, 0, 29, 3, 16, 6, 184, 0, 107, 43, 180, 0, 32, 3, 42, 180, 0, 32, 3]
abbrev dktX5_takes_4 : List UInt8 := dkwX5_takes_4 ++ dktX5_takes_5
def dkwX5_takes_3 : List UInt8 := [3, 16, 6, 184, 0, 107, 43, 180, 0, 26, 3, 42, 180, 0, 26, 3, 16, 6, 184, 0, 107, 43]
abbrev dktX5_takes_3 : List UInt8 := dkwX5_takes_3 ++ dktX5_takes_4
def dkwX5_takes_2 : List UInt8 := [43, 180, 0, 20, 3, 42, 180, 0, 20, 3, 16, 6, 184, 0, 107, 43, 180, 0, 23, 3, 42, 180, 0, 23]
abbrev dktX5_takes_2 : List UInt8 := dkwX5_takes_2 ++ dktX5_takes_3
def dkwX5_takes_1 : List UInt8 := [184, 0, 107, 132, 2, 1, 167, 255, 228, 43, 180, 0, 16, 3, 42, 180, 0, 16, 3, 16, 6, 184, 0, 107]
abbrev dktX5_takes_1 : List UInt8 := dkwX5_takes_1 ++ dktX5_takes_2
def dkwX5_takes_0 : List UInt8 := [3, 61, 28, 16, 6, 162, 0, 28, 43, 180, 0, 11, 28, 50, 3, 42, 180, 0, 11, 28, 50, 3, 16, 6]
abbrev dktX5_takes_0 : List UInt8 := dkwX5_takes_0 ++ dktX5_takes_1
theorem dksX5_takes_0 : cX5_takes.data.toList.drop 0 = dktX5_takes_0 := by decide +kernel
theorem dksX5_takes_1 : cX5_takes.data.toList.drop 24 = dktX5_takes_1 := dk_seg dksX5_takes_0 24 rfl rfl
theorem dksX5_takes_2 : cX5_takes.data.toList.drop 48 = dktX5_takes_2 := dk_seg dksX5_takes_1 24 rfl rfl
theorem dksX5_takes_3 : cX5_takes.data.toList.drop 72 = dktX5_takes_3 := dk_seg dksX5_takes_2 24 rfl rfl
theorem dksX5_takes_4 : cX5_takes.data.toList.drop 94 = dktX5_takes_4 := dk_seg dksX5_takes_3 22 rfl rfl
theorem dksX5_takes_5 : cX5_takes.data.toList.drop 118 = dktX5_takes_5 := dk_seg dksX5_takes_4 24 rfl rfl
theorem dksX5_takes_6 : cX5_takes.data.toList.drop 140 = dktX5_takes_6 := dk_seg dksX5_takes_5 22 rfl rfl
theorem dX5_takes_0 : decode cX5_takes 0 = .ok (.iconst 0, 1) := dk_3 (dk_at dksX5_takes_0 0 rfl rfl)
theorem dX5_takes_1 : decode cX5_takes 1 = .ok (.istore_n 2, 1) := dk_61 (dk_at dksX5_takes_0 1 rfl rfl)
theorem dX5_takes_2 : decode cX5_takes 2 = .ok (.iload_n 2, 1) := dk_28 (dk_at dksX5_takes_0 2 rfl rfl)
theorem dX5_takes_3 : decode cX5_takes 3 = .ok (.bipush 6, 2) := dk_16 6 (dk_at dksX5_takes_0 3 rfl rfl)
theorem dX5_takes_5 : decode cX5_takes 5 = .ok (.if_icmp .ge 28, 3) := dk_162 0 28 (dk_at dksX5_takes_0 5 rfl rfl)
theorem dX5_takes_8 : decode cX5_takes 8 = .ok (.aload_n 1, 1) := dk_43 (dk_at dksX5_takes_0 8 rfl rfl)
theorem dX5_takes_9 : decode cX5_takes 9 = .ok (.getfield 11, 3) := dk_180 0 11 (dk_at dksX5_takes_0 9 rfl rfl)
theorem dX5_takes_12 : decode cX5_takes 12 = .ok (.iload_n 2, 1) := dk_28 (dk_at dksX5_takes_0 12 rfl rfl)
theorem dX5_takes_13 : decode cX5_takes 13 = .ok (.aaload, 1) := dk_50 (dk_at dksX5_takes_0 13 rfl rfl)
theorem dX5_takes_14 : decode cX5_takes 14 = .ok (.iconst 0, 1) := dk_3 (dk_at dksX5_takes_0 14 rfl rfl)
theorem dX5_takes_15 : decode cX5_takes 15 = .ok (.aload_n 0, 1) := dk_42 (dk_at dksX5_takes_0 15 rfl rfl)
theorem dX5_takes_16 : decode cX5_takes 16 = .ok (.getfield 11, 3) := dk_180 0 11 (dk_at dksX5_takes_0 16 rfl rfl)
theorem dX5_takes_19 : decode cX5_takes 19 = .ok (.iload_n 2, 1) := dk_28 (dk_at dksX5_takes_0 19 rfl rfl)
theorem dX5_takes_20 : decode cX5_takes 20 = .ok (.aaload, 1) := dk_50 (dk_at dksX5_takes_0 20 rfl rfl)
theorem dX5_takes_21 : decode cX5_takes 21 = .ok (.iconst 0, 1) := dk_3 (dk_at dksX5_takes_0 21 rfl rfl)
theorem dX5_takes_22 : decode cX5_takes 22 = .ok (.bipush 6, 2) := dk_16 6 (dk_at dksX5_takes_0 22 rfl rfl)
theorem dX5_takes_24 : decode cX5_takes 24 = .ok (.invokestatic 107, 3) := dk_184 0 107 (dk_at dksX5_takes_1 0 rfl rfl)
theorem dX5_takes_27 : decode cX5_takes 27 = .ok (.iinc 2 1, 3) := dk_132 2 1 (dk_at dksX5_takes_1 3 rfl rfl)
theorem dX5_takes_30 : decode cX5_takes 30 = .ok (.goto (-28), 3) := dk_167 255 228 (dk_at dksX5_takes_1 6 rfl rfl)
theorem dX5_takes_33 : decode cX5_takes 33 = .ok (.aload_n 1, 1) := dk_43 (dk_at dksX5_takes_1 9 rfl rfl)
theorem dX5_takes_34 : decode cX5_takes 34 = .ok (.getfield 16, 3) := dk_180 0 16 (dk_at dksX5_takes_1 10 rfl rfl)
theorem dX5_takes_37 : decode cX5_takes 37 = .ok (.iconst 0, 1) := dk_3 (dk_at dksX5_takes_1 13 rfl rfl)
theorem dX5_takes_38 : decode cX5_takes 38 = .ok (.aload_n 0, 1) := dk_42 (dk_at dksX5_takes_1 14 rfl rfl)
theorem dX5_takes_39 : decode cX5_takes 39 = .ok (.getfield 16, 3) := dk_180 0 16 (dk_at dksX5_takes_1 15 rfl rfl)
theorem dX5_takes_42 : decode cX5_takes 42 = .ok (.iconst 0, 1) := dk_3 (dk_at dksX5_takes_1 18 rfl rfl)
theorem dX5_takes_43 : decode cX5_takes 43 = .ok (.bipush 6, 2) := dk_16 6 (dk_at dksX5_takes_1 19 rfl rfl)
theorem dX5_takes_45 : decode cX5_takes 45 = .ok (.invokestatic 107, 3) := dk_184 0 107 (dk_at dksX5_takes_1 21 rfl rfl)
theorem dX5_takes_48 : decode cX5_takes 48 = .ok (.aload_n 1, 1) := dk_43 (dk_at dksX5_takes_2 0 rfl rfl)
theorem dX5_takes_49 : decode cX5_takes 49 = .ok (.getfield 20, 3) := dk_180 0 20 (dk_at dksX5_takes_2 1 rfl rfl)
theorem dX5_takes_52 : decode cX5_takes 52 = .ok (.iconst 0, 1) := dk_3 (dk_at dksX5_takes_2 4 rfl rfl)
theorem dX5_takes_53 : decode cX5_takes 53 = .ok (.aload_n 0, 1) := dk_42 (dk_at dksX5_takes_2 5 rfl rfl)
theorem dX5_takes_54 : decode cX5_takes 54 = .ok (.getfield 20, 3) := dk_180 0 20 (dk_at dksX5_takes_2 6 rfl rfl)
theorem dX5_takes_57 : decode cX5_takes 57 = .ok (.iconst 0, 1) := dk_3 (dk_at dksX5_takes_2 9 rfl rfl)
theorem dX5_takes_58 : decode cX5_takes 58 = .ok (.bipush 6, 2) := dk_16 6 (dk_at dksX5_takes_2 10 rfl rfl)
theorem dX5_takes_60 : decode cX5_takes 60 = .ok (.invokestatic 107, 3) := dk_184 0 107 (dk_at dksX5_takes_2 12 rfl rfl)
theorem dX5_takes_63 : decode cX5_takes 63 = .ok (.aload_n 1, 1) := dk_43 (dk_at dksX5_takes_2 15 rfl rfl)
theorem dX5_takes_64 : decode cX5_takes 64 = .ok (.getfield 23, 3) := dk_180 0 23 (dk_at dksX5_takes_2 16 rfl rfl)
theorem dX5_takes_67 : decode cX5_takes 67 = .ok (.iconst 0, 1) := dk_3 (dk_at dksX5_takes_2 19 rfl rfl)
theorem dX5_takes_68 : decode cX5_takes 68 = .ok (.aload_n 0, 1) := dk_42 (dk_at dksX5_takes_2 20 rfl rfl)
theorem dX5_takes_69 : decode cX5_takes 69 = .ok (.getfield 23, 3) := dk_180 0 23 (dk_at dksX5_takes_2 21 rfl rfl)
theorem dX5_takes_72 : decode cX5_takes 72 = .ok (.iconst 0, 1) := dk_3 (dk_at dksX5_takes_3 0 rfl rfl)
theorem dX5_takes_73 : decode cX5_takes 73 = .ok (.bipush 6, 2) := dk_16 6 (dk_at dksX5_takes_3 1 rfl rfl)
theorem dX5_takes_75 : decode cX5_takes 75 = .ok (.invokestatic 107, 3) := dk_184 0 107 (dk_at dksX5_takes_3 3 rfl rfl)
theorem dX5_takes_78 : decode cX5_takes 78 = .ok (.aload_n 1, 1) := dk_43 (dk_at dksX5_takes_3 6 rfl rfl)
theorem dX5_takes_79 : decode cX5_takes 79 = .ok (.getfield 26, 3) := dk_180 0 26 (dk_at dksX5_takes_3 7 rfl rfl)
theorem dX5_takes_82 : decode cX5_takes 82 = .ok (.iconst 0, 1) := dk_3 (dk_at dksX5_takes_3 10 rfl rfl)
theorem dX5_takes_83 : decode cX5_takes 83 = .ok (.aload_n 0, 1) := dk_42 (dk_at dksX5_takes_3 11 rfl rfl)
theorem dX5_takes_84 : decode cX5_takes 84 = .ok (.getfield 26, 3) := dk_180 0 26 (dk_at dksX5_takes_3 12 rfl rfl)
theorem dX5_takes_87 : decode cX5_takes 87 = .ok (.iconst 0, 1) := dk_3 (dk_at dksX5_takes_3 15 rfl rfl)
theorem dX5_takes_88 : decode cX5_takes 88 = .ok (.bipush 6, 2) := dk_16 6 (dk_at dksX5_takes_3 16 rfl rfl)
theorem dX5_takes_90 : decode cX5_takes 90 = .ok (.invokestatic 107, 3) := dk_184 0 107 (dk_at dksX5_takes_3 18 rfl rfl)
theorem dX5_takes_93 : decode cX5_takes 93 = .ok (.aload_n 1, 1) := dk_43 (dk_at dksX5_takes_3 21 rfl rfl)
theorem dX5_takes_94 : decode cX5_takes 94 = .ok (.getfield 29, 3) := dk_180 0 29 (dk_at dksX5_takes_4 0 rfl rfl)
theorem dX5_takes_97 : decode cX5_takes 97 = .ok (.iconst 0, 1) := dk_3 (dk_at dksX5_takes_4 3 rfl rfl)
theorem dX5_takes_98 : decode cX5_takes 98 = .ok (.aload_n 0, 1) := dk_42 (dk_at dksX5_takes_4 4 rfl rfl)
theorem dX5_takes_99 : decode cX5_takes 99 = .ok (.getfield 29, 3) := dk_180 0 29 (dk_at dksX5_takes_4 5 rfl rfl)
theorem dX5_takes_102 : decode cX5_takes 102 = .ok (.iconst 0, 1) := dk_3 (dk_at dksX5_takes_4 8 rfl rfl)
theorem dX5_takes_103 : decode cX5_takes 103 = .ok (.bipush 6, 2) := dk_16 6 (dk_at dksX5_takes_4 9 rfl rfl)
theorem dX5_takes_105 : decode cX5_takes 105 = .ok (.invokestatic 107, 3) := dk_184 0 107 (dk_at dksX5_takes_4 11 rfl rfl)
theorem dX5_takes_108 : decode cX5_takes 108 = .ok (.aload_n 1, 1) := dk_43 (dk_at dksX5_takes_4 14 rfl rfl)
theorem dX5_takes_109 : decode cX5_takes 109 = .ok (.getfield 32, 3) := dk_180 0 32 (dk_at dksX5_takes_4 15 rfl rfl)
theorem dX5_takes_112 : decode cX5_takes 112 = .ok (.iconst 0, 1) := dk_3 (dk_at dksX5_takes_4 18 rfl rfl)
theorem dX5_takes_113 : decode cX5_takes 113 = .ok (.aload_n 0, 1) := dk_42 (dk_at dksX5_takes_4 19 rfl rfl)
theorem dX5_takes_114 : decode cX5_takes 114 = .ok (.getfield 32, 3) := dk_180 0 32 (dk_at dksX5_takes_4 20 rfl rfl)
theorem dX5_takes_117 : decode cX5_takes 117 = .ok (.iconst 0, 1) := dk_3 (dk_at dksX5_takes_4 23 rfl rfl)
theorem dX5_takes_118 : decode cX5_takes 118 = .ok (.bipush 6, 2) := dk_16 6 (dk_at dksX5_takes_5 0 rfl rfl)
theorem dX5_takes_120 : decode cX5_takes 120 = .ok (.invokestatic 107, 3) := dk_184 0 107 (dk_at dksX5_takes_5 2 rfl rfl)
theorem dX5_takes_123 : decode cX5_takes 123 = .ok (.aload_n 1, 1) := dk_43 (dk_at dksX5_takes_5 5 rfl rfl)
theorem dX5_takes_124 : decode cX5_takes 124 = .ok (.getfield 35, 3) := dk_180 0 35 (dk_at dksX5_takes_5 6 rfl rfl)
theorem dX5_takes_127 : decode cX5_takes 127 = .ok (.iconst 0, 1) := dk_3 (dk_at dksX5_takes_5 9 rfl rfl)
theorem dX5_takes_128 : decode cX5_takes 128 = .ok (.aload_n 0, 1) := dk_42 (dk_at dksX5_takes_5 10 rfl rfl)
theorem dX5_takes_129 : decode cX5_takes 129 = .ok (.getfield 35, 3) := dk_180 0 35 (dk_at dksX5_takes_5 11 rfl rfl)
theorem dX5_takes_132 : decode cX5_takes 132 = .ok (.iconst 0, 1) := dk_3 (dk_at dksX5_takes_5 14 rfl rfl)
theorem dX5_takes_133 : decode cX5_takes 133 = .ok (.bipush 6, 2) := dk_16 6 (dk_at dksX5_takes_5 15 rfl rfl)
theorem dX5_takes_135 : decode cX5_takes 135 = .ok (.invokestatic 107, 3) := dk_184 0 107 (dk_at dksX5_takes_5 17 rfl rfl)
theorem dX5_takes_138 : decode cX5_takes 138 = .ok (.aload_n 0, 1) := dk_42 (dk_at dksX5_takes_5 20 rfl rfl)
theorem dX5_takes_139 : decode cX5_takes 139 = .ok (.aload_n 1, 1) := dk_43 (dk_at dksX5_takes_5 21 rfl rfl)
theorem dX5_takes_140 : decode cX5_takes 140 = .ok (.getfield 55, 3) := dk_180 0 55 (dk_at dksX5_takes_6 0 rfl rfl)
theorem dX5_takes_143 : decode cX5_takes 143 = .ok (.putfield 55, 3) := dk_181 0 55 (dk_at dksX5_takes_6 3 rfl rfl)
theorem dX5_takes_146 : decode cX5_takes 146 = .ok (.aload_n 0, 1) := dk_42 (dk_at dksX5_takes_6 6 rfl rfl)
theorem dX5_takes_147 : decode cX5_takes 147 = .ok (.aload_n 1, 1) := dk_43 (dk_at dksX5_takes_6 7 rfl rfl)
theorem dX5_takes_148 : decode cX5_takes 148 = .ok (.getfield 59, 3) := dk_180 0 59 (dk_at dksX5_takes_6 8 rfl rfl)
theorem dX5_takes_151 : decode cX5_takes 151 = .ok (.putfield 59, 3) := dk_181 0 59 (dk_at dksX5_takes_6 11 rfl rfl)
theorem dX5_takes_154 : decode cX5_takes 154 = .ok (.return_, 1) := dk_177 (dk_at dksX5_takes_6 14 rfl rfl)
abbrev cX5_worthOfAll : ByteArray := prog_20_method_7_code
def yX5_worthOfAll : MethodName := ⟨RX5, "worthOfAll", "(LSleepWork$Text;)I"⟩
def dkwX5_worthOfAll_1 : List UInt8 := [132, 3, 1, 167, 255, 233, 28, 172]
abbrev dktX5_worthOfAll_1 : List UInt8 := dkwX5_worthOfAll_1 ++ []
def dkwX5_worthOfAll_0 : List UInt8 := [3, 61, 3, 62, 29, 43, 180, 0, 91, 182, 0, 68, 162, 0, 18, 28, 42, 43, 29, 182, 0, 149, 96, 61]
abbrev dktX5_worthOfAll_0 : List UInt8 := dkwX5_worthOfAll_0 ++ dktX5_worthOfAll_1
theorem dksX5_worthOfAll_0 : cX5_worthOfAll.data.toList.drop 0 = dktX5_worthOfAll_0 := by decide +kernel
theorem dksX5_worthOfAll_1 : cX5_worthOfAll.data.toList.drop 24 = dktX5_worthOfAll_1 := dk_seg dksX5_worthOfAll_0 24 rfl rfl
theorem dX5_worthOfAll_0 : decode cX5_worthOfAll 0 = .ok (.iconst 0, 1) := dk_3 (dk_at dksX5_worthOfAll_0 0 rfl rfl)
theorem dX5_worthOfAll_1 : decode cX5_worthOfAll 1 = .ok (.istore_n 2, 1) := dk_61 (dk_at dksX5_worthOfAll_0 1 rfl rfl)
theorem dX5_worthOfAll_2 : decode cX5_worthOfAll 2 = .ok (.iconst 0, 1) := dk_3 (dk_at dksX5_worthOfAll_0 2 rfl rfl)
theorem dX5_worthOfAll_3 : decode cX5_worthOfAll 3 = .ok (.istore_n 3, 1) := dk_62 (dk_at dksX5_worthOfAll_0 3 rfl rfl)
theorem dX5_worthOfAll_4 : decode cX5_worthOfAll 4 = .ok (.iload_n 3, 1) := dk_29 (dk_at dksX5_worthOfAll_0 4 rfl rfl)
theorem dX5_worthOfAll_5 : decode cX5_worthOfAll 5 = .ok (.aload_n 1, 1) := dk_43 (dk_at dksX5_worthOfAll_0 5 rfl rfl)
theorem dX5_worthOfAll_6 : decode cX5_worthOfAll 6 = .ok (.getfield 91, 3) := dk_180 0 91 (dk_at dksX5_worthOfAll_0 6 rfl rfl)
theorem dX5_worthOfAll_9 : decode cX5_worthOfAll 9 = .ok (.invokevirtual 68, 3) := dk_182 0 68 (dk_at dksX5_worthOfAll_0 9 rfl rfl)
theorem dX5_worthOfAll_12 : decode cX5_worthOfAll 12 = .ok (.if_icmp .ge 18, 3) := dk_162 0 18 (dk_at dksX5_worthOfAll_0 12 rfl rfl)
theorem dX5_worthOfAll_15 : decode cX5_worthOfAll 15 = .ok (.iload_n 2, 1) := dk_28 (dk_at dksX5_worthOfAll_0 15 rfl rfl)
theorem dX5_worthOfAll_16 : decode cX5_worthOfAll 16 = .ok (.aload_n 0, 1) := dk_42 (dk_at dksX5_worthOfAll_0 16 rfl rfl)
theorem dX5_worthOfAll_17 : decode cX5_worthOfAll 17 = .ok (.aload_n 1, 1) := dk_43 (dk_at dksX5_worthOfAll_0 17 rfl rfl)
theorem dX5_worthOfAll_18 : decode cX5_worthOfAll 18 = .ok (.iload_n 3, 1) := dk_29 (dk_at dksX5_worthOfAll_0 18 rfl rfl)
theorem dX5_worthOfAll_19 : decode cX5_worthOfAll 19 = .ok (.invokevirtual 149, 3) := dk_182 0 149 (dk_at dksX5_worthOfAll_0 19 rfl rfl)
theorem dX5_worthOfAll_22 : decode cX5_worthOfAll 22 = .ok (.iadd, 1) := dk_96 (dk_at dksX5_worthOfAll_0 22 rfl rfl)
theorem dX5_worthOfAll_23 : decode cX5_worthOfAll 23 = .ok (.istore_n 2, 1) := dk_61 (dk_at dksX5_worthOfAll_0 23 rfl rfl)
theorem dX5_worthOfAll_24 : decode cX5_worthOfAll 24 = .ok (.iinc 3 1, 3) := dk_132 3 1 (dk_at dksX5_worthOfAll_1 0 rfl rfl)
theorem dX5_worthOfAll_27 : decode cX5_worthOfAll 27 = .ok (.goto (-23), 3) := dk_167 255 233 (dk_at dksX5_worthOfAll_1 3 rfl rfl)
theorem dX5_worthOfAll_30 : decode cX5_worthOfAll 30 = .ok (.iload_n 2, 1) := dk_28 (dk_at dksX5_worthOfAll_1 6 rfl rfl)
theorem dX5_worthOfAll_31 : decode cX5_worthOfAll 31 = .ok (.ireturn, 1) := dk_172 (dk_at dksX5_worthOfAll_1 7 rfl rfl)
abbrev cX5_night : ByteArray := prog_20_method_10_code
def yX5_night : MethodName := ⟨RX5, "night", "(LSleepWork$Text;)V"⟩
def dkwX5_night_0 : List UInt8 := [42, 43, 43, 180, 0, 156, 182, 0, 159, 177]
abbrev dktX5_night_0 : List UInt8 := dkwX5_night_0 ++ []
theorem dksX5_night_0 : cX5_night.data.toList.drop 0 = dktX5_night_0 := by decide +kernel
theorem dX5_night_0 : decode cX5_night 0 = .ok (.aload_n 0, 1) := dk_42 (dk_at dksX5_night_0 0 rfl rfl)
theorem dX5_night_1 : decode cX5_night 1 = .ok (.aload_n 1, 1) := dk_43 (dk_at dksX5_night_0 1 rfl rfl)
theorem dX5_night_2 : decode cX5_night 2 = .ok (.aload_n 1, 1) := dk_43 (dk_at dksX5_night_0 2 rfl rfl)
theorem dX5_night_3 : decode cX5_night 3 = .ok (.getfield 156, 3) := dk_180 0 156 (dk_at dksX5_night_0 3 rfl rfl)
theorem dX5_night_6 : decode cX5_night 6 = .ok (.invokevirtual 159, 3) := dk_182 0 159 (dk_at dksX5_night_0 6 rfl rfl)
theorem dX5_night_9 : decode cX5_night 9 = .ok (.return_, 1) := dk_177 (dk_at dksX5_night_0 9 rfl rfl)
abbrev cX5_nightTill : ByteArray := prog_20_method_11_code
def yX5_nightTill : MethodName := ⟨RX5, "nightTill", "(LSleepWork$Text;I)V"⟩
def dkwX5_nightTill_7 : List UInt8 := [167, 255, 231, 42, 89, 180, 0, 59, 4, 96, 181, 0, 59, 177]
abbrev dktX5_nightTill_7 : List UInt8 := dkwX5_nightTill_7 ++ []
def dkwX5_nightTill_6 : List UInt8 := [180, 0, 98, 182, 0, 68, 162, 0, 20, 42, 180, 0, 44, 29, 50, 42, 29, 182, 0, 181, 132, 3, 1]
abbrev dktX5_nightTill_6 : List UInt8 := dkwX5_nightTill_6 ++ dktX5_nightTill_7
def dkwX5_nightTill_5 : List UInt8 := [21, 4, 29, 182, 0, 178, 132, 4, 1, 167, 255, 226, 132, 3, 1, 167, 255, 165, 3, 62, 29, 43]
abbrev dktX5_nightTill_5 : List UInt8 := dkwX5_nightTill_5 ++ dktX5_nightTill_6
def dkwX5_nightTill_4 : List UInt8 := [54, 4, 21, 4, 43, 180, 0, 98, 182, 0, 68, 162, 0, 24, 42, 180, 0, 44, 21, 4, 50, 43, 42]
abbrev dktX5_nightTill_4 : List UInt8 := dkwX5_nightTill_4 ++ dktX5_nightTill_5
def dkwX5_nightTill_3 : List UInt8 := [21, 4, 29, 182, 0, 174, 132, 4, 1, 167, 255, 226, 29, 43, 180, 0, 156, 160, 0, 6, 167, 0, 39, 3]
abbrev dktX5_nightTill_3 : List UInt8 := dkwX5_nightTill_3 ++ dktX5_nightTill_4
def dkwX5_nightTill_2 : List UInt8 := [3, 54, 4, 21, 4, 43, 180, 0, 98, 182, 0, 68, 162, 0, 24, 42, 180, 0, 44, 21, 4, 50, 43, 42]
abbrev dktX5_nightTill_2 : List UInt8 := dkwX5_nightTill_2 ++ dktX5_nightTill_3
def dkwX5_nightTill_1 : List UInt8 := [180, 0, 44, 29, 50, 43, 42, 29, 182, 0, 170, 132, 3, 1, 167, 255, 230, 3, 62, 29, 28, 163, 0, 92]
abbrev dktX5_nightTill_1 : List UInt8 := dkwX5_nightTill_1 ++ dktX5_nightTill_2
def dkwX5_nightTill_0 : List UInt8 := [42, 43, 182, 0, 163, 42, 3, 181, 0, 167, 3, 62, 29, 43, 180, 0, 98, 182, 0, 68, 162, 0, 21, 42]
abbrev dktX5_nightTill_0 : List UInt8 := dkwX5_nightTill_0 ++ dktX5_nightTill_1
theorem dksX5_nightTill_0 : cX5_nightTill.data.toList.drop 0 = dktX5_nightTill_0 := by decide +kernel
theorem dksX5_nightTill_1 : cX5_nightTill.data.toList.drop 24 = dktX5_nightTill_1 := dk_seg dksX5_nightTill_0 24 rfl rfl
theorem dksX5_nightTill_2 : cX5_nightTill.data.toList.drop 48 = dktX5_nightTill_2 := dk_seg dksX5_nightTill_1 24 rfl rfl
theorem dksX5_nightTill_3 : cX5_nightTill.data.toList.drop 72 = dktX5_nightTill_3 := dk_seg dksX5_nightTill_2 24 rfl rfl
theorem dksX5_nightTill_4 : cX5_nightTill.data.toList.drop 96 = dktX5_nightTill_4 := dk_seg dksX5_nightTill_3 24 rfl rfl
theorem dksX5_nightTill_5 : cX5_nightTill.data.toList.drop 119 = dktX5_nightTill_5 := dk_seg dksX5_nightTill_4 23 rfl rfl
theorem dksX5_nightTill_6 : cX5_nightTill.data.toList.drop 141 = dktX5_nightTill_6 := dk_seg dksX5_nightTill_5 22 rfl rfl
theorem dksX5_nightTill_7 : cX5_nightTill.data.toList.drop 164 = dktX5_nightTill_7 := dk_seg dksX5_nightTill_6 23 rfl rfl
theorem dX5_nightTill_0 : decode cX5_nightTill 0 = .ok (.aload_n 0, 1) := dk_42 (dk_at dksX5_nightTill_0 0 rfl rfl)
theorem dX5_nightTill_1 : decode cX5_nightTill 1 = .ok (.aload_n 1, 1) := dk_43 (dk_at dksX5_nightTill_0 1 rfl rfl)
theorem dX5_nightTill_2 : decode cX5_nightTill 2 = .ok (.invokevirtual 163, 3) := dk_182 0 163 (dk_at dksX5_nightTill_0 2 rfl rfl)
theorem dX5_nightTill_5 : decode cX5_nightTill 5 = .ok (.aload_n 0, 1) := dk_42 (dk_at dksX5_nightTill_0 5 rfl rfl)
theorem dX5_nightTill_6 : decode cX5_nightTill 6 = .ok (.iconst 0, 1) := dk_3 (dk_at dksX5_nightTill_0 6 rfl rfl)
theorem dX5_nightTill_7 : decode cX5_nightTill 7 = .ok (.putfield 167, 3) := dk_181 0 167 (dk_at dksX5_nightTill_0 7 rfl rfl)
theorem dX5_nightTill_10 : decode cX5_nightTill 10 = .ok (.iconst 0, 1) := dk_3 (dk_at dksX5_nightTill_0 10 rfl rfl)
theorem dX5_nightTill_11 : decode cX5_nightTill 11 = .ok (.istore_n 3, 1) := dk_62 (dk_at dksX5_nightTill_0 11 rfl rfl)
theorem dX5_nightTill_12 : decode cX5_nightTill 12 = .ok (.iload_n 3, 1) := dk_29 (dk_at dksX5_nightTill_0 12 rfl rfl)
theorem dX5_nightTill_13 : decode cX5_nightTill 13 = .ok (.aload_n 1, 1) := dk_43 (dk_at dksX5_nightTill_0 13 rfl rfl)
theorem dX5_nightTill_14 : decode cX5_nightTill 14 = .ok (.getfield 98, 3) := dk_180 0 98 (dk_at dksX5_nightTill_0 14 rfl rfl)
theorem dX5_nightTill_17 : decode cX5_nightTill 17 = .ok (.invokevirtual 68, 3) := dk_182 0 68 (dk_at dksX5_nightTill_0 17 rfl rfl)
theorem dX5_nightTill_20 : decode cX5_nightTill 20 = .ok (.if_icmp .ge 21, 3) := dk_162 0 21 (dk_at dksX5_nightTill_0 20 rfl rfl)
theorem dX5_nightTill_23 : decode cX5_nightTill 23 = .ok (.aload_n 0, 1) := dk_42 (dk_at dksX5_nightTill_0 23 rfl rfl)
theorem dX5_nightTill_24 : decode cX5_nightTill 24 = .ok (.getfield 44, 3) := dk_180 0 44 (dk_at dksX5_nightTill_1 0 rfl rfl)
theorem dX5_nightTill_27 : decode cX5_nightTill 27 = .ok (.iload_n 3, 1) := dk_29 (dk_at dksX5_nightTill_1 3 rfl rfl)
theorem dX5_nightTill_28 : decode cX5_nightTill 28 = .ok (.aaload, 1) := dk_50 (dk_at dksX5_nightTill_1 4 rfl rfl)
theorem dX5_nightTill_29 : decode cX5_nightTill 29 = .ok (.aload_n 1, 1) := dk_43 (dk_at dksX5_nightTill_1 5 rfl rfl)
theorem dX5_nightTill_30 : decode cX5_nightTill 30 = .ok (.aload_n 0, 1) := dk_42 (dk_at dksX5_nightTill_1 6 rfl rfl)
theorem dX5_nightTill_31 : decode cX5_nightTill 31 = .ok (.iload_n 3, 1) := dk_29 (dk_at dksX5_nightTill_1 7 rfl rfl)
theorem dX5_nightTill_32 : decode cX5_nightTill 32 = .ok (.invokevirtual 170, 3) := dk_182 0 170 (dk_at dksX5_nightTill_1 8 rfl rfl)
theorem dX5_nightTill_35 : decode cX5_nightTill 35 = .ok (.iinc 3 1, 3) := dk_132 3 1 (dk_at dksX5_nightTill_1 11 rfl rfl)
theorem dX5_nightTill_38 : decode cX5_nightTill 38 = .ok (.goto (-26), 3) := dk_167 255 230 (dk_at dksX5_nightTill_1 14 rfl rfl)
theorem dX5_nightTill_41 : decode cX5_nightTill 41 = .ok (.iconst 0, 1) := dk_3 (dk_at dksX5_nightTill_1 17 rfl rfl)
theorem dX5_nightTill_42 : decode cX5_nightTill 42 = .ok (.istore_n 3, 1) := dk_62 (dk_at dksX5_nightTill_1 18 rfl rfl)
theorem dX5_nightTill_43 : decode cX5_nightTill 43 = .ok (.iload_n 3, 1) := dk_29 (dk_at dksX5_nightTill_1 19 rfl rfl)
theorem dX5_nightTill_44 : decode cX5_nightTill 44 = .ok (.iload_n 2, 1) := dk_28 (dk_at dksX5_nightTill_1 20 rfl rfl)
theorem dX5_nightTill_45 : decode cX5_nightTill 45 = .ok (.if_icmp .gt 92, 3) := dk_163 0 92 (dk_at dksX5_nightTill_1 21 rfl rfl)
theorem dX5_nightTill_48 : decode cX5_nightTill 48 = .ok (.iconst 0, 1) := dk_3 (dk_at dksX5_nightTill_2 0 rfl rfl)
theorem dX5_nightTill_49 : decode cX5_nightTill 49 = .ok (.istore 4, 2) := dk_54 4 (dk_at dksX5_nightTill_2 1 rfl rfl)
theorem dX5_nightTill_51 : decode cX5_nightTill 51 = .ok (.iload 4, 2) := dk_21 4 (dk_at dksX5_nightTill_2 3 rfl rfl)
theorem dX5_nightTill_53 : decode cX5_nightTill 53 = .ok (.aload_n 1, 1) := dk_43 (dk_at dksX5_nightTill_2 5 rfl rfl)
theorem dX5_nightTill_54 : decode cX5_nightTill 54 = .ok (.getfield 98, 3) := dk_180 0 98 (dk_at dksX5_nightTill_2 6 rfl rfl)
theorem dX5_nightTill_57 : decode cX5_nightTill 57 = .ok (.invokevirtual 68, 3) := dk_182 0 68 (dk_at dksX5_nightTill_2 9 rfl rfl)
theorem dX5_nightTill_60 : decode cX5_nightTill 60 = .ok (.if_icmp .ge 24, 3) := dk_162 0 24 (dk_at dksX5_nightTill_2 12 rfl rfl)
theorem dX5_nightTill_63 : decode cX5_nightTill 63 = .ok (.aload_n 0, 1) := dk_42 (dk_at dksX5_nightTill_2 15 rfl rfl)
theorem dX5_nightTill_64 : decode cX5_nightTill 64 = .ok (.getfield 44, 3) := dk_180 0 44 (dk_at dksX5_nightTill_2 16 rfl rfl)
theorem dX5_nightTill_67 : decode cX5_nightTill 67 = .ok (.iload 4, 2) := dk_21 4 (dk_at dksX5_nightTill_2 19 rfl rfl)
theorem dX5_nightTill_69 : decode cX5_nightTill 69 = .ok (.aaload, 1) := dk_50 (dk_at dksX5_nightTill_2 21 rfl rfl)
theorem dX5_nightTill_70 : decode cX5_nightTill 70 = .ok (.aload_n 1, 1) := dk_43 (dk_at dksX5_nightTill_2 22 rfl rfl)
theorem dX5_nightTill_71 : decode cX5_nightTill 71 = .ok (.aload_n 0, 1) := dk_42 (dk_at dksX5_nightTill_2 23 rfl rfl)
theorem dX5_nightTill_72 : decode cX5_nightTill 72 = .ok (.iload 4, 2) := dk_21 4 (dk_at dksX5_nightTill_3 0 rfl rfl)
theorem dX5_nightTill_74 : decode cX5_nightTill 74 = .ok (.iload_n 3, 1) := dk_29 (dk_at dksX5_nightTill_3 2 rfl rfl)
theorem dX5_nightTill_75 : decode cX5_nightTill 75 = .ok (.invokevirtual 174, 3) := dk_182 0 174 (dk_at dksX5_nightTill_3 3 rfl rfl)
theorem dX5_nightTill_78 : decode cX5_nightTill 78 = .ok (.iinc 4 1, 3) := dk_132 4 1 (dk_at dksX5_nightTill_3 6 rfl rfl)
theorem dX5_nightTill_81 : decode cX5_nightTill 81 = .ok (.goto (-30), 3) := dk_167 255 226 (dk_at dksX5_nightTill_3 9 rfl rfl)
theorem dX5_nightTill_84 : decode cX5_nightTill 84 = .ok (.iload_n 3, 1) := dk_29 (dk_at dksX5_nightTill_3 12 rfl rfl)
theorem dX5_nightTill_85 : decode cX5_nightTill 85 = .ok (.aload_n 1, 1) := dk_43 (dk_at dksX5_nightTill_3 13 rfl rfl)
theorem dX5_nightTill_86 : decode cX5_nightTill 86 = .ok (.getfield 156, 3) := dk_180 0 156 (dk_at dksX5_nightTill_3 14 rfl rfl)
theorem dX5_nightTill_89 : decode cX5_nightTill 89 = .ok (.if_icmp .ne 6, 3) := dk_160 0 6 (dk_at dksX5_nightTill_3 17 rfl rfl)
theorem dX5_nightTill_92 : decode cX5_nightTill 92 = .ok (.goto 39, 3) := dk_167 0 39 (dk_at dksX5_nightTill_3 20 rfl rfl)
theorem dX5_nightTill_95 : decode cX5_nightTill 95 = .ok (.iconst 0, 1) := dk_3 (dk_at dksX5_nightTill_3 23 rfl rfl)
theorem dX5_nightTill_96 : decode cX5_nightTill 96 = .ok (.istore 4, 2) := dk_54 4 (dk_at dksX5_nightTill_4 0 rfl rfl)
theorem dX5_nightTill_98 : decode cX5_nightTill 98 = .ok (.iload 4, 2) := dk_21 4 (dk_at dksX5_nightTill_4 2 rfl rfl)
theorem dX5_nightTill_100 : decode cX5_nightTill 100 = .ok (.aload_n 1, 1) := dk_43 (dk_at dksX5_nightTill_4 4 rfl rfl)
theorem dX5_nightTill_101 : decode cX5_nightTill 101 = .ok (.getfield 98, 3) := dk_180 0 98 (dk_at dksX5_nightTill_4 5 rfl rfl)
theorem dX5_nightTill_104 : decode cX5_nightTill 104 = .ok (.invokevirtual 68, 3) := dk_182 0 68 (dk_at dksX5_nightTill_4 8 rfl rfl)
theorem dX5_nightTill_107 : decode cX5_nightTill 107 = .ok (.if_icmp .ge 24, 3) := dk_162 0 24 (dk_at dksX5_nightTill_4 11 rfl rfl)
theorem dX5_nightTill_110 : decode cX5_nightTill 110 = .ok (.aload_n 0, 1) := dk_42 (dk_at dksX5_nightTill_4 14 rfl rfl)
theorem dX5_nightTill_111 : decode cX5_nightTill 111 = .ok (.getfield 44, 3) := dk_180 0 44 (dk_at dksX5_nightTill_4 15 rfl rfl)
theorem dX5_nightTill_114 : decode cX5_nightTill 114 = .ok (.iload 4, 2) := dk_21 4 (dk_at dksX5_nightTill_4 18 rfl rfl)
theorem dX5_nightTill_116 : decode cX5_nightTill 116 = .ok (.aaload, 1) := dk_50 (dk_at dksX5_nightTill_4 20 rfl rfl)
theorem dX5_nightTill_117 : decode cX5_nightTill 117 = .ok (.aload_n 1, 1) := dk_43 (dk_at dksX5_nightTill_4 21 rfl rfl)
theorem dX5_nightTill_118 : decode cX5_nightTill 118 = .ok (.aload_n 0, 1) := dk_42 (dk_at dksX5_nightTill_4 22 rfl rfl)
theorem dX5_nightTill_119 : decode cX5_nightTill 119 = .ok (.iload 4, 2) := dk_21 4 (dk_at dksX5_nightTill_5 0 rfl rfl)
theorem dX5_nightTill_121 : decode cX5_nightTill 121 = .ok (.iload_n 3, 1) := dk_29 (dk_at dksX5_nightTill_5 2 rfl rfl)
theorem dX5_nightTill_122 : decode cX5_nightTill 122 = .ok (.invokevirtual 178, 3) := dk_182 0 178 (dk_at dksX5_nightTill_5 3 rfl rfl)
theorem dX5_nightTill_125 : decode cX5_nightTill 125 = .ok (.iinc 4 1, 3) := dk_132 4 1 (dk_at dksX5_nightTill_5 6 rfl rfl)
theorem dX5_nightTill_128 : decode cX5_nightTill 128 = .ok (.goto (-30), 3) := dk_167 255 226 (dk_at dksX5_nightTill_5 9 rfl rfl)
theorem dX5_nightTill_131 : decode cX5_nightTill 131 = .ok (.iinc 3 1, 3) := dk_132 3 1 (dk_at dksX5_nightTill_5 12 rfl rfl)
theorem dX5_nightTill_134 : decode cX5_nightTill 134 = .ok (.goto (-91), 3) := dk_167 255 165 (dk_at dksX5_nightTill_5 15 rfl rfl)
theorem dX5_nightTill_137 : decode cX5_nightTill 137 = .ok (.iconst 0, 1) := dk_3 (dk_at dksX5_nightTill_5 18 rfl rfl)
theorem dX5_nightTill_138 : decode cX5_nightTill 138 = .ok (.istore_n 3, 1) := dk_62 (dk_at dksX5_nightTill_5 19 rfl rfl)
theorem dX5_nightTill_139 : decode cX5_nightTill 139 = .ok (.iload_n 3, 1) := dk_29 (dk_at dksX5_nightTill_5 20 rfl rfl)
theorem dX5_nightTill_140 : decode cX5_nightTill 140 = .ok (.aload_n 1, 1) := dk_43 (dk_at dksX5_nightTill_5 21 rfl rfl)
theorem dX5_nightTill_141 : decode cX5_nightTill 141 = .ok (.getfield 98, 3) := dk_180 0 98 (dk_at dksX5_nightTill_6 0 rfl rfl)
theorem dX5_nightTill_144 : decode cX5_nightTill 144 = .ok (.invokevirtual 68, 3) := dk_182 0 68 (dk_at dksX5_nightTill_6 3 rfl rfl)
theorem dX5_nightTill_147 : decode cX5_nightTill 147 = .ok (.if_icmp .ge 20, 3) := dk_162 0 20 (dk_at dksX5_nightTill_6 6 rfl rfl)
theorem dX5_nightTill_150 : decode cX5_nightTill 150 = .ok (.aload_n 0, 1) := dk_42 (dk_at dksX5_nightTill_6 9 rfl rfl)
theorem dX5_nightTill_151 : decode cX5_nightTill 151 = .ok (.getfield 44, 3) := dk_180 0 44 (dk_at dksX5_nightTill_6 10 rfl rfl)
theorem dX5_nightTill_154 : decode cX5_nightTill 154 = .ok (.iload_n 3, 1) := dk_29 (dk_at dksX5_nightTill_6 13 rfl rfl)
theorem dX5_nightTill_155 : decode cX5_nightTill 155 = .ok (.aaload, 1) := dk_50 (dk_at dksX5_nightTill_6 14 rfl rfl)
theorem dX5_nightTill_156 : decode cX5_nightTill 156 = .ok (.aload_n 0, 1) := dk_42 (dk_at dksX5_nightTill_6 15 rfl rfl)
theorem dX5_nightTill_157 : decode cX5_nightTill 157 = .ok (.iload_n 3, 1) := dk_29 (dk_at dksX5_nightTill_6 16 rfl rfl)
theorem dX5_nightTill_158 : decode cX5_nightTill 158 = .ok (.invokevirtual 181, 3) := dk_182 0 181 (dk_at dksX5_nightTill_6 17 rfl rfl)
theorem dX5_nightTill_161 : decode cX5_nightTill 161 = .ok (.iinc 3 1, 3) := dk_132 3 1 (dk_at dksX5_nightTill_6 20 rfl rfl)
theorem dX5_nightTill_164 : decode cX5_nightTill 164 = .ok (.goto (-25), 3) := dk_167 255 231 (dk_at dksX5_nightTill_7 0 rfl rfl)
theorem dX5_nightTill_167 : decode cX5_nightTill 167 = .ok (.aload_n 0, 1) := dk_42 (dk_at dksX5_nightTill_7 3 rfl rfl)
theorem dX5_nightTill_168 : decode cX5_nightTill 168 = .ok (.dup, 1) := dk_89 (dk_at dksX5_nightTill_7 4 rfl rfl)
theorem dX5_nightTill_169 : decode cX5_nightTill 169 = .ok (.getfield 59, 3) := dk_180 0 59 (dk_at dksX5_nightTill_7 5 rfl rfl)
theorem dX5_nightTill_172 : decode cX5_nightTill 172 = .ok (.iconst 1, 1) := dk_4 (dk_at dksX5_nightTill_7 8 rfl rfl)
theorem dX5_nightTill_173 : decode cX5_nightTill 173 = .ok (.iadd, 1) := dk_96 (dk_at dksX5_nightTill_7 9 rfl rfl)
theorem dX5_nightTill_174 : decode cX5_nightTill 174 = .ok (.putfield 59, 3) := dk_181 0 59 (dk_at dksX5_nightTill_7 10 rfl rfl)
theorem dX5_nightTill_177 : decode cX5_nightTill 177 = .ok (.return_, 1) := dk_177 (dk_at dksX5_nightTill_7 13 rfl rfl)
abbrev cX5_isToolThere : ByteArray := prog_20_method_9_code
def yX5_isToolThere : MethodName := ⟨RX5, "isToolThere", "(III)Z"⟩
def dkwX5_isToolThere_1 : List UInt8 := [167, 0, 4, 3, 172]
abbrev dktX5_isToolThere_1 : List UInt8 := dkwX5_isToolThere_1 ++ []
def dkwX5_isToolThere_0 : List UInt8 := [42, 180, 0, 26, 27, 46, 28, 159, 0, 16, 42, 180, 0, 26, 27, 46, 16, 100, 29, 96, 160, 0, 7, 4]
abbrev dktX5_isToolThere_0 : List UInt8 := dkwX5_isToolThere_0 ++ dktX5_isToolThere_1
theorem dksX5_isToolThere_0 : cX5_isToolThere.data.toList.drop 0 = dktX5_isToolThere_0 := by decide +kernel
theorem dksX5_isToolThere_1 : cX5_isToolThere.data.toList.drop 24 = dktX5_isToolThere_1 := dk_seg dksX5_isToolThere_0 24 rfl rfl
theorem dX5_isToolThere_0 : decode cX5_isToolThere 0 = .ok (.aload_n 0, 1) := dk_42 (dk_at dksX5_isToolThere_0 0 rfl rfl)
theorem dX5_isToolThere_1 : decode cX5_isToolThere 1 = .ok (.getfield 26, 3) := dk_180 0 26 (dk_at dksX5_isToolThere_0 1 rfl rfl)
theorem dX5_isToolThere_4 : decode cX5_isToolThere 4 = .ok (.iload_n 1, 1) := dk_27 (dk_at dksX5_isToolThere_0 4 rfl rfl)
theorem dX5_isToolThere_5 : decode cX5_isToolThere 5 = .ok (.iaload, 1) := dk_46 (dk_at dksX5_isToolThere_0 5 rfl rfl)
theorem dX5_isToolThere_6 : decode cX5_isToolThere 6 = .ok (.iload_n 2, 1) := dk_28 (dk_at dksX5_isToolThere_0 6 rfl rfl)
theorem dX5_isToolThere_7 : decode cX5_isToolThere 7 = .ok (.if_icmp .eq 16, 3) := dk_159 0 16 (dk_at dksX5_isToolThere_0 7 rfl rfl)
theorem dX5_isToolThere_10 : decode cX5_isToolThere 10 = .ok (.aload_n 0, 1) := dk_42 (dk_at dksX5_isToolThere_0 10 rfl rfl)
theorem dX5_isToolThere_11 : decode cX5_isToolThere 11 = .ok (.getfield 26, 3) := dk_180 0 26 (dk_at dksX5_isToolThere_0 11 rfl rfl)
theorem dX5_isToolThere_14 : decode cX5_isToolThere 14 = .ok (.iload_n 1, 1) := dk_27 (dk_at dksX5_isToolThere_0 14 rfl rfl)
theorem dX5_isToolThere_15 : decode cX5_isToolThere 15 = .ok (.iaload, 1) := dk_46 (dk_at dksX5_isToolThere_0 15 rfl rfl)
theorem dX5_isToolThere_16 : decode cX5_isToolThere 16 = .ok (.bipush 100, 2) := dk_16 100 (dk_at dksX5_isToolThere_0 16 rfl rfl)
theorem dX5_isToolThere_18 : decode cX5_isToolThere 18 = .ok (.iload_n 3, 1) := dk_29 (dk_at dksX5_isToolThere_0 18 rfl rfl)
theorem dX5_isToolThere_19 : decode cX5_isToolThere 19 = .ok (.iadd, 1) := dk_96 (dk_at dksX5_isToolThere_0 19 rfl rfl)
theorem dX5_isToolThere_20 : decode cX5_isToolThere 20 = .ok (.if_icmp .ne 7, 3) := dk_160 0 7 (dk_at dksX5_isToolThere_0 20 rfl rfl)
theorem dX5_isToolThere_23 : decode cX5_isToolThere 23 = .ok (.iconst 1, 1) := dk_4 (dk_at dksX5_isToolThere_0 23 rfl rfl)
theorem dX5_isToolThere_24 : decode cX5_isToolThere 24 = .ok (.goto 4, 3) := dk_167 0 4 (dk_at dksX5_isToolThere_1 0 rfl rfl)
theorem dX5_isToolThere_27 : decode cX5_isToolThere 27 = .ok (.iconst 0, 1) := dk_3 (dk_at dksX5_isToolThere_1 3 rfl rfl)
theorem dX5_isToolThere_28 : decode cX5_isToolThere 28 = .ok (.ireturn, 1) := dk_172 (dk_at dksX5_isToolThere_1 4 rfl rfl)
theorem q125 : (Jvm.Cond.initialized "SleepWork$Village") ∈ lw_all := lw_g (lw_at lw_m1 12 rfl) rfl
theorem q356 : (Jvm.Cond.fieldLink "SleepWork$Village" (113 : Nat) "SleepWork$Text" "rooms" "Ljava/util/ArrayList;") ∈ lw_all := lw_g (lw_at lw_m2 3 rfl) rfl
theorem q360 : (Jvm.Cond.fieldLink "SleepWork$Village" (62 : Nat) "SleepWork$Text" "doors" "Ljava/util/ArrayList;") ∈ lw_all := lw_g (lw_at lw_m2 7 rfl) rfl
theorem q364 : (Jvm.Cond.fieldLink "SleepWork$Village" (83 : Nat) "SleepWork$Text" "tools" "Ljava/util/ArrayList;") ∈ lw_all := lw_g (lw_at lw_m2 11 rfl) rfl
theorem q369 : (Jvm.Cond.fieldLink "SleepWork$Village" (91 : Nat) "SleepWork$Text" "tasks" "Ljava/util/ArrayList;") ∈ lw_all := lw_g (lw_at lw_m2 16 rfl) rfl
theorem q374 : (Jvm.Cond.fieldLink "SleepWork$Village" (98 : Nat) "SleepWork$Text" "men" "Ljava/util/ArrayList;") ∈ lw_all := lw_g (lw_at lw_m2 21 rfl) rfl
theorem q378 : (Jvm.Cond.fieldLink "SleepWork$Village" (156 : Nat) "SleepWork$Text" "night" "I") ∈ lw_all := lw_g (lw_at lw_m2 25 rfl) rfl
theorem q398 : (Jvm.Cond.instantiable "SleepWork$Village" (14 : Nat)) ∈ lw_all := lw_g (lw_at lw_m2 45 rfl) rfl
theorem q400 : (Jvm.Cond.instanceMethod ({ cls := "SleepWork$Village", name := "<init>", desc := "()V" } : Jvm.MethodName)) ∈ lw_all := lw_g (lw_at lw_m2 47 rfl) rfl
theorem q401 : (Jvm.Cond.code ({ cls := "SleepWork$Village", name := "<init>", desc := "()V" } : Jvm.MethodName) prog_20_method_1_code (1 : Nat) (Option.none : Option Jvm.ClassFile.FieldType)) ∈ lw_all := lw_g (lw_at lw_m2 48 rfl) rfl
theorem q402 : (Jvm.Cond.methodLink "SleepWork$Village" (3 : Nat) ({ cls := "java/lang/Object", name := "<init>", desc := "()V" } : Jvm.MethodName)) ∈ lw_all := lw_g (lw_at lw_m2 49 rfl) rfl
theorem q403 : (Jvm.Cond.classLink "SleepWork$Village" (9 : Nat) "[[I") ∈ lw_all := lw_g (lw_at lw_m2 50 rfl) rfl
theorem q405 : (Jvm.Cond.classLink "SleepWork$Village" (41 : Nat) "SleepWork$Sleeper") ∈ lw_all := lw_g (lw_at lw_m2 52 rfl) rfl
theorem q408 : (Jvm.Cond.methodLinkNest "SleepWork$Village" (43 : Nat) ({ cls := "SleepWork$Sleeper", name := "<init>", desc := "()V" } : Jvm.MethodName) "SleepWork") ∈ lw_tbl := lw_at lw_m2 55 rfl
theorem q435 : (Jvm.Cond.classLink "SleepWork$Village" (48 : Nat) "SleepWork$Asked") ∈ lw_all := lw_g (lw_at lw_m2 82 rfl) rfl
theorem q437 : (Jvm.Cond.methodLinkNest "SleepWork$Village" (50 : Nat) ({ cls := "SleepWork$Asked", name := "<init>", desc := "()V" } : Jvm.MethodName) "SleepWork") ∈ lw_tbl := lw_at lw_m2 84 rfl
theorem q452 : (Jvm.Cond.fieldLink "SleepWork$Village" (11 : Nat) "SleepWork$Village" "done" "[[I") ∈ lw_all := lw_g (lw_at lw_m2 99 rfl) rfl
theorem q455 : (Jvm.Cond.fieldLink "SleepWork$Village" (16 : Nat) "SleepWork$Village" "stuff" "[I") ∈ lw_all := lw_g (lw_at lw_m2 102 rfl) rfl
theorem q458 : (Jvm.Cond.fieldLink "SleepWork$Village" (20 : Nat) "SleepWork$Village" "leftTask" "[I") ∈ lw_all := lw_g (lw_at lw_m2 105 rfl) rfl
theorem q461 : (Jvm.Cond.fieldLink "SleepWork$Village" (23 : Nat) "SleepWork$Village" "leftStep" "[I") ∈ lw_all := lw_g (lw_at lw_m2 108 rfl) rfl
theorem q464 : (Jvm.Cond.fieldLink "SleepWork$Village" (26 : Nat) "SleepWork$Village" "toolAt" "[I") ∈ lw_all := lw_g (lw_at lw_m2 111 rfl) rfl
theorem q466 : (Jvm.Cond.fieldLink "SleepWork$Village" (29 : Nat) "SleepWork$Village" "did" "[I") ∈ lw_all := lw_g (lw_at lw_m2 113 rfl) rfl
theorem q469 : (Jvm.Cond.fieldLink "SleepWork$Village" (32 : Nat) "SleepWork$Village" "didAll" "[I") ∈ lw_all := lw_g (lw_at lw_m2 116 rfl) rfl
theorem q472 : (Jvm.Cond.fieldLink "SleepWork$Village" (35 : Nat) "SleepWork$Village" "lay" "[I") ∈ lw_all := lw_g (lw_at lw_m2 119 rfl) rfl
theorem q475 : (Jvm.Cond.fieldLink "SleepWork$Village" (55 : Nat) "SleepWork$Village" "shut" "I") ∈ lw_all := lw_g (lw_at lw_m2 122 rfl) rfl
theorem q477 : (Jvm.Cond.fieldLink "SleepWork$Village" (59 : Nat) "SleepWork$Village" "nights" "I") ∈ lw_all := lw_g (lw_at lw_m2 124 rfl) rfl
theorem q479 : (Jvm.Cond.fieldLink "SleepWork$Village" (38 : Nat) "SleepWork$Village" "apart" "[[I") ∈ lw_all := lw_g (lw_at lw_m2 126 rfl) rfl
theorem q482 : (Jvm.Cond.fieldLink "SleepWork$Village" (44 : Nat) "SleepWork$Village" "sleepers" "[LSleepWork$Sleeper;") ∈ lw_all := lw_g (lw_at lw_m2 129 rfl) rfl
theorem q483 : (Jvm.Cond.fieldLink "SleepWork$Village" (51 : Nat) "SleepWork$Village" "asked" "LSleepWork$Asked;") ∈ lw_all := lw_g (lw_at lw_m2 130 rfl) rfl
theorem q486 : (Jvm.Cond.fieldLink "SleepWork$Village" (167 : Nat) "SleepWork$Village" "used" "I") ∈ lw_all := lw_g (lw_at lw_m2 133 rfl) rfl
theorem q487 : (Jvm.Cond.laysFinal "SleepWork$Village" "SleepWork$Village" "done" "[[I") ∈ lw_all := lw_g (lw_at lw_m2 134 rfl) rfl
theorem q488 : (Jvm.Cond.soleField "SleepWork$Village" "done") ∈ lw_all := lw_g (lw_at lw_m2 135 rfl) rfl
theorem q489 : (Jvm.Cond.laysFinal "SleepWork$Village" "SleepWork$Village" "stuff" "[I") ∈ lw_all := lw_g (lw_at lw_m2 136 rfl) rfl
theorem q490 : (Jvm.Cond.soleField "SleepWork$Village" "stuff") ∈ lw_all := lw_g (lw_at lw_m2 137 rfl) rfl
theorem q491 : (Jvm.Cond.laysFinal "SleepWork$Village" "SleepWork$Village" "leftTask" "[I") ∈ lw_all := lw_g (lw_at lw_m2 138 rfl) rfl
theorem q492 : (Jvm.Cond.soleField "SleepWork$Village" "leftTask") ∈ lw_all := lw_g (lw_at lw_m2 139 rfl) rfl
theorem q493 : (Jvm.Cond.laysFinal "SleepWork$Village" "SleepWork$Village" "leftStep" "[I") ∈ lw_all := lw_g (lw_at lw_m2 140 rfl) rfl
theorem q494 : (Jvm.Cond.soleField "SleepWork$Village" "leftStep") ∈ lw_all := lw_g (lw_at lw_m2 141 rfl) rfl
theorem q495 : (Jvm.Cond.laysFinal "SleepWork$Village" "SleepWork$Village" "toolAt" "[I") ∈ lw_all := lw_g (lw_at lw_m2 142 rfl) rfl
theorem q496 : (Jvm.Cond.soleField "SleepWork$Village" "toolAt") ∈ lw_all := lw_g (lw_at lw_m2 143 rfl) rfl
theorem q497 : (Jvm.Cond.laysFinal "SleepWork$Village" "SleepWork$Village" "did" "[I") ∈ lw_all := lw_g (lw_at lw_m2 144 rfl) rfl
theorem q498 : (Jvm.Cond.soleField "SleepWork$Village" "did") ∈ lw_all := lw_g (lw_at lw_m2 145 rfl) rfl
theorem q499 : (Jvm.Cond.laysFinal "SleepWork$Village" "SleepWork$Village" "didAll" "[I") ∈ lw_all := lw_g (lw_at lw_m2 146 rfl) rfl
theorem q500 : (Jvm.Cond.soleField "SleepWork$Village" "didAll") ∈ lw_all := lw_g (lw_at lw_m2 147 rfl) rfl
theorem q501 : (Jvm.Cond.laysFinal "SleepWork$Village" "SleepWork$Village" "lay" "[I") ∈ lw_all := lw_g (lw_at lw_m2 148 rfl) rfl
theorem q502 : (Jvm.Cond.soleField "SleepWork$Village" "lay") ∈ lw_all := lw_g (lw_at lw_m2 149 rfl) rfl
theorem q503 : (Jvm.Cond.lays "SleepWork$Village" "SleepWork$Village" "shut" "I") ∈ lw_all := lw_g (lw_at lw_m2 150 rfl) rfl
theorem q504 : (Jvm.Cond.soleField "SleepWork$Village" "shut") ∈ lw_all := lw_g (lw_at lw_m2 151 rfl) rfl
theorem q505 : (Jvm.Cond.lays "SleepWork$Village" "SleepWork$Village" "nights" "I") ∈ lw_all := lw_g (lw_at lw_m2 152 rfl) rfl
theorem q506 : (Jvm.Cond.soleField "SleepWork$Village" "nights") ∈ lw_all := lw_g (lw_at lw_m2 153 rfl) rfl
theorem q507 : (Jvm.Cond.laysFinal "SleepWork$Village" "SleepWork$Village" "apart" "[[I") ∈ lw_all := lw_g (lw_at lw_m2 154 rfl) rfl
theorem q508 : (Jvm.Cond.soleField "SleepWork$Village" "apart") ∈ lw_all := lw_g (lw_at lw_m2 155 rfl) rfl
theorem q509 : (Jvm.Cond.laysFinal "SleepWork$Village" "SleepWork$Village" "sleepers" "[LSleepWork$Sleeper;") ∈ lw_all := lw_g (lw_at lw_m2 156 rfl) rfl
theorem q510 : (Jvm.Cond.soleField "SleepWork$Village" "sleepers") ∈ lw_all := lw_g (lw_at lw_m2 157 rfl) rfl
theorem q511 : (Jvm.Cond.laysFinal "SleepWork$Village" "SleepWork$Village" "asked" "LSleepWork$Asked;") ∈ lw_all := lw_g (lw_at lw_m2 158 rfl) rfl
theorem q512 : (Jvm.Cond.soleField "SleepWork$Village" "asked") ∈ lw_all := lw_g (lw_at lw_m2 159 rfl) rfl
theorem q513 : (Jvm.Cond.lays "SleepWork$Village" "SleepWork$Village" "used" "I") ∈ lw_all := lw_g (lw_at lw_m2 160 rfl) rfl
theorem q514 : (Jvm.Cond.soleField "SleepWork$Village" "used") ∈ lw_all := lw_g (lw_at lw_m2 161 rfl) rfl
theorem q515 : (Jvm.Cond.superclass "SleepWork$Village" "java/lang/Object") ∈ lw_all := lw_g (lw_at lw_m2 162 rfl) rfl
theorem q967 : (Jvm.Cond.selects "SleepWork$Village" ({ cls := "java/lang/Object", name := "getClass", desc := "()Ljava/lang/Class;" } : Jvm.MethodName) ({ cls := "java/lang/Object", name := "getClass", desc := "()Ljava/lang/Class;" } : Jvm.MethodName)) ∈ lw_all := lw_g (lw_at lw_m4 134 rfl) rfl
theorem q991 : (Jvm.Cond.fieldLink "SleepWork$Village" (117 : Nat) "SleepWork$Door" "from" "I") ∈ lw_all := lw_g (lw_at lw_m4 158 rfl) rfl
theorem q993 : (Jvm.Cond.fieldLink "SleepWork$Village" (120 : Nat) "SleepWork$Door" "to" "I") ∈ lw_all := lw_g (lw_at lw_m4 160 rfl) rfl
theorem q995 : (Jvm.Cond.fieldLink "SleepWork$Village" (123 : Nat) "SleepWork$Door" "minutes" "I") ∈ lw_all := lw_g (lw_at lw_m4 162 rfl) rfl
theorem q997 : (Jvm.Cond.fieldLink "SleepWork$Village" (80 : Nat) "SleepWork$Door" "shut" "Z") ∈ lw_all := lw_g (lw_at lw_m4 164 rfl) rfl
theorem q1031 : (Jvm.Cond.fieldLink "SleepWork$Village" (88 : Nat) "SleepWork$Tool" "room" "I") ∈ lw_all := lw_g (lw_at lw_m4 198 rfl) rfl
theorem q1048 : (Jvm.Cond.fieldLink "SleepWork$Village" (96 : Nat) "SleepWork$Task" "stuff" "I") ∈ lw_all := lw_g (lw_at lw_m4 215 rfl) rfl
theorem q1052 : (Jvm.Cond.fieldLink "SleepWork$Village" (132 : Nat) "SleepWork$Task" "steps" "Ljava/util/ArrayList;") ∈ lw_all := lw_g (lw_at lw_m4 219 rfl) rfl
theorem q1077 : (Jvm.Cond.fieldLink "SleepWork$Village" (137 : Nat) "SleepWork$Step" "need" "I") ∈ lw_all := lw_g (lw_at lw_m5 4 rfl) rfl
theorem q1080 : (Jvm.Cond.fieldLink "SleepWork$Village" (140 : Nat) "SleepWork$Step" "gain" "I") ∈ lw_all := lw_g (lw_at lw_m5 7 rfl) rfl
theorem q1083 : (Jvm.Cond.fieldLink "SleepWork$Village" (143 : Nat) "SleepWork$Step" "spoil" "I") ∈ lw_all := lw_g (lw_at lw_m5 10 rfl) rfl
theorem q1091 : (Jvm.Cond.fieldLink "SleepWork$Village" (153 : Nat) "SleepWork$Step" "undoes" "I") ∈ lw_all := lw_g (lw_at lw_m5 18 rfl) rfl
theorem q1130 : (Jvm.Cond.fieldLink "SleepWork$Village" (103 : Nat) "SleepWork$Man" "leftTask" "I") ∈ lw_all := lw_g (lw_at lw_m5 57 rfl) rfl
theorem q1133 : (Jvm.Cond.fieldLink "SleepWork$Village" (105 : Nat) "SleepWork$Man" "leftStep" "I") ∈ lw_all := lw_g (lw_at lw_m5 60 rfl) rfl
theorem q1240 : (Jvm.Cond.instanceMethod ({ cls := "SleepWork$Village", name := "begins", desc := "(LSleepWork$Text;)V" } : Jvm.MethodName)) ∈ lw_all := lw_g (lw_at lw_m5 167 rfl) rfl
theorem q1241 : (Jvm.Cond.selects "SleepWork$Village" ({ cls := "SleepWork$Village", name := "begins", desc := "(LSleepWork$Text;)V" } : Jvm.MethodName) ({ cls := "SleepWork$Village", name := "begins", desc := "(LSleepWork$Text;)V" } : Jvm.MethodName)) ∈ lw_all := lw_g (lw_at lw_m5 168 rfl) rfl
theorem q1242 : (Jvm.Cond.code ({ cls := "SleepWork$Village", name := "begins", desc := "(LSleepWork$Text;)V" } : Jvm.MethodName) prog_20_method_2_code (4 : Nat) (Option.none : Option Jvm.ClassFile.FieldType)) ∈ lw_all := lw_g (lw_at lw_m5 169 rfl) rfl
theorem q1243 : (Jvm.Cond.methodLink "SleepWork$Village" (68 : Nat) ({ cls := "java/util/ArrayList", name := "size", desc := "()I" } : Jvm.MethodName)) ∈ lw_all := lw_g (lw_at lw_m5 170 rfl) rfl
theorem q1244 : (Jvm.Cond.methodLink "SleepWork$Village" (74 : Nat) ({ cls := "java/util/ArrayList", name := "get", desc := "(I)Ljava/lang/Object;" } : Jvm.MethodName)) ∈ lw_all := lw_g (lw_at lw_m5 171 rfl) rfl
theorem q1245 : (Jvm.Cond.classLink "SleepWork$Village" (78 : Nat) "SleepWork$Door") ∈ lw_all := lw_g (lw_at lw_m5 172 rfl) rfl
theorem q1246 : (Jvm.Cond.classLink "SleepWork$Village" (86 : Nat) "SleepWork$Tool") ∈ lw_all := lw_g (lw_at lw_m5 173 rfl) rfl
theorem q1247 : (Jvm.Cond.classLink "SleepWork$Village" (94 : Nat) "SleepWork$Task") ∈ lw_all := lw_g (lw_at lw_m5 174 rfl) rfl
theorem q1248 : (Jvm.Cond.classLink "SleepWork$Village" (101 : Nat) "SleepWork$Man") ∈ lw_all := lw_g (lw_at lw_m5 175 rfl) rfl
theorem q1271 : (Jvm.Cond.instanceMethod ({ cls := "SleepWork$Village", name := "worth", desc := "(LSleepWork$Text;I)I" } : Jvm.MethodName)) ∈ lw_all := lw_g (lw_at lw_m5 198 rfl) rfl
theorem q1272 : (Jvm.Cond.selects "SleepWork$Village" ({ cls := "SleepWork$Village", name := "worth", desc := "(LSleepWork$Text;I)I" } : Jvm.MethodName) ({ cls := "SleepWork$Village", name := "worth", desc := "(LSleepWork$Text;I)I" } : Jvm.MethodName)) ∈ lw_all := lw_g (lw_at lw_m5 199 rfl) rfl
theorem q1273 : (Jvm.Cond.code ({ cls := "SleepWork$Village", name := "worth", desc := "(LSleepWork$Text;I)I" } : Jvm.MethodName) prog_20_method_6_code (8 : Nat) (Option.some Jvm.ClassFile.FieldType.int)) ∈ lw_all := lw_g (lw_at lw_m5 200 rfl) rfl
theorem q1274 : (Jvm.Cond.classLink "SleepWork$Village" (135 : Nat) "SleepWork$Step") ∈ lw_all := lw_g (lw_at lw_m5 201 rfl) rfl
theorem q1275 : (Jvm.Cond.methodLink "SleepWork$Village" (126 : Nat) ({ cls := "java/lang/Math", name := "min", desc := "(II)I" } : Jvm.MethodName)) ∈ lw_all := lw_g (lw_at lw_m5 202 rfl) rfl
theorem q1276 : (Jvm.Cond.methodLink "SleepWork$Village" (146 : Nat) ({ cls := "java/lang/Math", name := "max", desc := "(II)I" } : Jvm.MethodName)) ∈ lw_all := lw_g (lw_at lw_m5 203 rfl) rfl
theorem q1278 : (Jvm.Cond.instanceMethod ({ cls := "SleepWork$Village", name := "isEnded", desc := "(LSleepWork$Text;I)Z" } : Jvm.MethodName)) ∈ lw_all := lw_g (lw_at lw_m5 205 rfl) rfl
theorem q1279 : (Jvm.Cond.selects "SleepWork$Village" ({ cls := "SleepWork$Village", name := "isEnded", desc := "(LSleepWork$Text;I)Z" } : Jvm.MethodName) ({ cls := "SleepWork$Village", name := "isEnded", desc := "(LSleepWork$Text;I)Z" } : Jvm.MethodName)) ∈ lw_all := lw_g (lw_at lw_m5 206 rfl) rfl
theorem q1280 : (Jvm.Cond.code ({ cls := "SleepWork$Village", name := "isEnded", desc := "(LSleepWork$Text;I)Z" } : Jvm.MethodName) prog_20_method_5_code (5 : Nat) (Option.some Jvm.ClassFile.FieldType.boolean)) ∈ lw_all := lw_g (lw_at lw_m5 207 rfl) rfl
theorem q1313 : (Jvm.Cond.instanceMethod ({ cls := "SleepWork$Village", name := "laysWays", desc := "(LSleepWork$Text;)V" } : Jvm.MethodName)) ∈ lw_all := lw_g (lw_at lw_m6 0 rfl) rfl
theorem q1314 : (Jvm.Cond.selects "SleepWork$Village" ({ cls := "SleepWork$Village", name := "laysWays", desc := "(LSleepWork$Text;)V" } : Jvm.MethodName) ({ cls := "SleepWork$Village", name := "laysWays", desc := "(LSleepWork$Text;)V" } : Jvm.MethodName)) ∈ lw_all := lw_g (lw_at lw_m6 1 rfl) rfl
theorem q1315 : (Jvm.Cond.code ({ cls := "SleepWork$Village", name := "laysWays", desc := "(LSleepWork$Text;)V" } : Jvm.MethodName) prog_20_method_4_code (6 : Nat) (Option.none : Option Jvm.ClassFile.FieldType)) ∈ lw_all := lw_g (lw_at lw_m6 2 rfl) rfl
theorem q1316 : (Jvm.Cond.constant "SleepWork$Village" (116 : Nat) (1000000 : Int32)) ∈ lw_all := lw_g (lw_at lw_m6 3 rfl) rfl
theorem q1327 : (Jvm.Cond.instanceMethod ({ cls := "SleepWork$Village", name := "does", desc := "(LSleepWork$Text;II)V" } : Jvm.MethodName)) ∈ lw_all := lw_g (lw_at lw_m6 14 rfl) rfl
theorem q1328 : (Jvm.Cond.selects "SleepWork$Village" ({ cls := "SleepWork$Village", name := "does", desc := "(LSleepWork$Text;II)V" } : Jvm.MethodName) ({ cls := "SleepWork$Village", name := "does", desc := "(LSleepWork$Text;II)V" } : Jvm.MethodName)) ∈ lw_all := lw_g (lw_at lw_m6 15 rfl) rfl
theorem q1329 : (Jvm.Cond.code ({ cls := "SleepWork$Village", name := "does", desc := "(LSleepWork$Text;II)V" } : Jvm.MethodName) prog_20_method_8_code (5 : Nat) (Option.none : Option Jvm.ClassFile.FieldType)) ∈ lw_all := lw_g (lw_at lw_m6 16 rfl) rfl
theorem q1347 : (Jvm.Cond.instanceMethod ({ cls := "SleepWork$Village", name := "takes", desc := "(LSleepWork$Village;)V" } : Jvm.MethodName)) ∈ lw_all := lw_g (lw_at lw_m6 34 rfl) rfl
theorem q1348 : (Jvm.Cond.selects "SleepWork$Village" ({ cls := "SleepWork$Village", name := "takes", desc := "(LSleepWork$Village;)V" } : Jvm.MethodName) ({ cls := "SleepWork$Village", name := "takes", desc := "(LSleepWork$Village;)V" } : Jvm.MethodName)) ∈ lw_all := lw_g (lw_at lw_m6 35 rfl) rfl
theorem q1349 : (Jvm.Cond.code ({ cls := "SleepWork$Village", name := "takes", desc := "(LSleepWork$Village;)V" } : Jvm.MethodName) prog_20_method_3_code (3 : Nat) (Option.none : Option Jvm.ClassFile.FieldType)) ∈ lw_all := lw_g (lw_at lw_m6 36 rfl) rfl
theorem q1350 : (Jvm.Cond.methodLink "SleepWork$Village" (107 : Nat) ({ cls := "java/lang/System", name := "arraycopy", desc := "(Ljava/lang/Object;ILjava/lang/Object;II)V" } : Jvm.MethodName)) ∈ lw_all := lw_g (lw_at lw_m6 37 rfl) rfl
theorem q1353 : (Jvm.Cond.instanceMethod ({ cls := "SleepWork$Village", name := "worthOfAll", desc := "(LSleepWork$Text;)I" } : Jvm.MethodName)) ∈ lw_all := lw_g (lw_at lw_m6 40 rfl) rfl
theorem q1354 : (Jvm.Cond.selects "SleepWork$Village" ({ cls := "SleepWork$Village", name := "worthOfAll", desc := "(LSleepWork$Text;)I" } : Jvm.MethodName) ({ cls := "SleepWork$Village", name := "worthOfAll", desc := "(LSleepWork$Text;)I" } : Jvm.MethodName)) ∈ lw_all := lw_g (lw_at lw_m6 41 rfl) rfl
theorem q1355 : (Jvm.Cond.code ({ cls := "SleepWork$Village", name := "worthOfAll", desc := "(LSleepWork$Text;)I" } : Jvm.MethodName) prog_20_method_7_code (4 : Nat) (Option.some Jvm.ClassFile.FieldType.int)) ∈ lw_all := lw_g (lw_at lw_m6 42 rfl) rfl
theorem q1356 : (Jvm.Cond.methodLink "SleepWork$Village" (149 : Nat) ({ cls := "SleepWork$Village", name := "worth", desc := "(LSleepWork$Text;I)I" } : Jvm.MethodName)) ∈ lw_all := lw_g (lw_at lw_m6 43 rfl) rfl
theorem q1358 : (Jvm.Cond.instanceMethod ({ cls := "SleepWork$Village", name := "night", desc := "(LSleepWork$Text;)V" } : Jvm.MethodName)) ∈ lw_all := lw_g (lw_at lw_m6 45 rfl) rfl
theorem q1359 : (Jvm.Cond.selects "SleepWork$Village" ({ cls := "SleepWork$Village", name := "night", desc := "(LSleepWork$Text;)V" } : Jvm.MethodName) ({ cls := "SleepWork$Village", name := "night", desc := "(LSleepWork$Text;)V" } : Jvm.MethodName)) ∈ lw_all := lw_g (lw_at lw_m6 46 rfl) rfl
theorem q1360 : (Jvm.Cond.code ({ cls := "SleepWork$Village", name := "night", desc := "(LSleepWork$Text;)V" } : Jvm.MethodName) prog_20_method_10_code (2 : Nat) (Option.none : Option Jvm.ClassFile.FieldType)) ∈ lw_all := lw_g (lw_at lw_m6 47 rfl) rfl
theorem q1361 : (Jvm.Cond.methodLink "SleepWork$Village" (159 : Nat) ({ cls := "SleepWork$Village", name := "nightTill", desc := "(LSleepWork$Text;I)V" } : Jvm.MethodName)) ∈ lw_all := lw_g (lw_at lw_m6 48 rfl) rfl
theorem q1362 : (Jvm.Cond.instanceMethod ({ cls := "SleepWork$Village", name := "nightTill", desc := "(LSleepWork$Text;I)V" } : Jvm.MethodName)) ∈ lw_all := lw_g (lw_at lw_m6 49 rfl) rfl
theorem q1363 : (Jvm.Cond.selects "SleepWork$Village" ({ cls := "SleepWork$Village", name := "nightTill", desc := "(LSleepWork$Text;I)V" } : Jvm.MethodName) ({ cls := "SleepWork$Village", name := "nightTill", desc := "(LSleepWork$Text;I)V" } : Jvm.MethodName)) ∈ lw_all := lw_g (lw_at lw_m6 50 rfl) rfl
theorem q1364 : (Jvm.Cond.code ({ cls := "SleepWork$Village", name := "nightTill", desc := "(LSleepWork$Text;I)V" } : Jvm.MethodName) prog_20_method_11_code (5 : Nat) (Option.none : Option Jvm.ClassFile.FieldType)) ∈ lw_all := lw_g (lw_at lw_m6 51 rfl) rfl
theorem q1365 : (Jvm.Cond.methodLink "SleepWork$Village" (163 : Nat) ({ cls := "SleepWork$Village", name := "laysWays", desc := "(LSleepWork$Text;)V" } : Jvm.MethodName)) ∈ lw_all := lw_g (lw_at lw_m6 52 rfl) rfl
theorem q1366 : (Jvm.Cond.methodLink "SleepWork$Village" (170 : Nat) ({ cls := "SleepWork$Sleeper", name := "getsUp", desc := "(LSleepWork$Text;LSleepWork$Village;I)V" } : Jvm.MethodName)) ∈ lw_all := lw_g (lw_at lw_m6 53 rfl) rfl
theorem q1378 : (Jvm.Cond.methodLink "SleepWork$Village" (174 : Nat) ({ cls := "SleepWork$Sleeper", name := "ends", desc := "(LSleepWork$Text;LSleepWork$Village;II)V" } : Jvm.MethodName)) ∈ lw_all := lw_g (lw_at lw_m6 65 rfl) rfl
theorem q1384 : (Jvm.Cond.methodLink "SleepWork$Village" (178 : Nat) ({ cls := "SleepWork$Sleeper", name := "begins", desc := "(LSleepWork$Text;LSleepWork$Village;II)V" } : Jvm.MethodName)) ∈ lw_all := lw_g (lw_at lw_m6 71 rfl) rfl
theorem q1414 : (Jvm.Cond.instanceMethod ({ cls := "SleepWork$Village", name := "isToolThere", desc := "(III)Z" } : Jvm.MethodName)) ∈ lw_all := lw_g (lw_at lw_m6 101 rfl) rfl
theorem q1415 : (Jvm.Cond.selects "SleepWork$Village" ({ cls := "SleepWork$Village", name := "isToolThere", desc := "(III)Z" } : Jvm.MethodName) ({ cls := "SleepWork$Village", name := "isToolThere", desc := "(III)Z" } : Jvm.MethodName)) ∈ lw_all := lw_g (lw_at lw_m6 102 rfl) rfl
theorem q1416 : (Jvm.Cond.code ({ cls := "SleepWork$Village", name := "isToolThere", desc := "(III)Z" } : Jvm.MethodName) prog_20_method_9_code (4 : Nat) (Option.some Jvm.ClassFile.FieldType.boolean)) ∈ lw_all := lw_g (lw_at lw_m6 103 rfl) rfl
theorem q1417 : (Jvm.Cond.methodLink "SleepWork$Village" (181 : Nat) ({ cls := "SleepWork$Sleeper", name := "leaves", desc := "(LSleepWork$Village;I)V" } : Jvm.MethodName)) ∈ lw_all := lw_g (lw_at lw_m6 104 rfl) rfl
theorem q2208 : (Jvm.Cond.castable "SleepWork$Village" "java/lang/Object") ∈ lw_tbl := lw_at lw_m9 175 rfl
theorem in_X5 : ∀ w ∈ wsX50, w ∈ lw_all := lw_in wsX50 [487, 489, 491, 493, 495, 497, 499, 501, 503, 505, 507, 509, 511, 513] (by decide +kernel) (by decide +kernel)
