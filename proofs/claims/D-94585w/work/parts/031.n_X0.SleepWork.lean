/-! SleepWork -/
set_option maxRecDepth 100000
def RX0 : String := "SleepWork"
def TX0 : u_T := fun k => match k with
  | 0 => ("SleepWork", "fault", "LSleepWork$Fault;", true)
  | 1 => ("SleepWork", "tokens", "LSleepWork$Tokens;", true)
  | 2 => ("SleepWork", "parser", "LSleepWork$Parser;", true)
  | 3 => ("SleepWork", "text", "LSleepWork$Text;", false)
  | 4 => ("SleepWork", "place", "I", false)
  | 5 => ("SleepWork", "undos", "I", false)
  | 6 => ("SleepWork", "undoAt", "I", false)
  | 7 => ("SleepWork", "village", "LSleepWork$Village;", true)
  | 8 => ("SleepWork", "trial", "LSleepWork$Village;", true)
  | 9 => ("SleepWork", "past", "[LSleepWork$Village;", true)
  | 10 => ("SleepWork", "slots", "[LSleepWork$Village;", true)
  | 11 => ("SleepWork", "held", "[Z", true)
  | 12 => ("SleepWork", "bestGain", "I", false)
  | 13 => ("SleepWork", "bestChoice", "I", false)
  | 14 => ("SleepWork", "bestOther", "I", false)
  | 15 => ("SleepWork", "tolds", "I", false)
  | 16 => ("SleepWork", "toldTask", "[I", true)
  | 17 => ("SleepWork", "toldStep", "[I", true)
  | _ => ("SleepWork", "toldTimes", "[I", true)
def tyX0 : Nat → FieldType := fun k => match k with
  | 0 => .object "SleepWork$Fault"
  | 1 => .object "SleepWork$Tokens"
  | 2 => .object "SleepWork$Parser"
  | 3 => .object "SleepWork$Text"
  | 4 => .int
  | 5 => .int
  | 6 => .int
  | 7 => .object "SleepWork$Village"
  | 8 => .object "SleepWork$Village"
  | 9 => .array (.object "SleepWork$Village")
  | 10 => .array (.object "SleepWork$Village")
  | 11 => .array .boolean
  | 12 => .int
  | 13 => .int
  | 14 => .int
  | 15 => .int
  | 16 => .array .int
  | 17 => .array .int
  | _ => .array .int
abbrev wsX00 : List Cond := u_ws RX0 TX0 19
set_option maxRecDepth 100000 in
theorem nmX0 : ∀ a, a < 19 → ∀ b, b < 19 → a ≠ b → (TX0 a).2.1 ≠ (TX0 b).2.1 := by decide +kernel
set_option maxRecDepth 100000 in
theorem tyX0_ok : ∀ k, k < 19 → parseFieldDescriptor (TX0 k).2.2.1 = some (tyX0 k) := by decide +kernel
abbrev cX0_init : ByteArray := prog_1_method_1_code
def yX0_init : MethodName := ⟨RX0, "<init>", "()V"⟩
def dkwX0_init_8 : List UInt8 := [177]
abbrev dktX0_init_8 : List UInt8 := dkwX0_init_8 ++ []
def dkwX0_init_7 : List UInt8 := [16, 20, 162, 0, 22, 42, 180, 0, 53, 27, 187, 0, 43, 89, 183, 0, 45, 83, 132, 1, 1, 167, 255, 234]
abbrev dktX0_init_7 : List UInt8 := dkwX0_init_7 ++ dktX0_init_8
def dkwX0_init_6 : List UInt8 := [188, 10, 181, 0, 64, 42, 16, 30, 188, 10, 181, 0, 68, 42, 16, 30, 188, 10, 181, 0, 71, 3, 60, 27]
abbrev dktX0_init_6 : List UInt8 := dkwX0_init_6 ++ dktX0_init_7
def dkwX0_init_5 : List UInt8 := [89, 5, 187, 0, 43, 89, 183, 0, 45, 83, 181, 0, 57, 42, 6, 188, 4, 181, 0, 60, 42, 16, 30]
abbrev dktX0_init_5 : List UInt8 := dkwX0_init_5 ++ dktX0_init_6
def dkwX0_init_4 : List UInt8 := [6, 189, 0, 43, 89, 3, 187, 0, 43, 89, 183, 0, 45, 83, 89, 4, 187, 0, 43, 89, 183, 0, 45, 83]
abbrev dktX0_init_4 : List UInt8 := dkwX0_init_4 ++ dktX0_init_5
def dkwX0_init_3 : List UInt8 := [181, 0, 46, 42, 187, 0, 43, 89, 183, 0, 45, 181, 0, 50, 42, 16, 20, 189, 0, 43, 181, 0, 53, 42]
abbrev dktX0_init_3 : List UInt8 := dkwX0_init_3 ++ dktX0_init_4
def dkwX0_init_2 : List UInt8 := [187, 0, 32, 89, 183, 0, 34, 181, 0, 35, 42, 2, 181, 0, 39, 42, 187, 0, 43, 89, 183, 0, 45]
abbrev dktX0_init_2 : List UInt8 := dkwX0_init_2 ++ dktX0_init_3
def dkwX0_init_1 : List UInt8 := [181, 0, 19, 42, 187, 0, 23, 89, 42, 180, 0, 19, 42, 180, 0, 10, 183, 0, 25, 181, 0, 28, 42]
abbrev dktX0_init_1 : List UInt8 := dkwX0_init_1 ++ dktX0_init_2
def dkwX0_init_0 : List UInt8 := [42, 183, 0, 1, 42, 187, 0, 7, 89, 183, 0, 9, 181, 0, 10, 42, 187, 0, 16, 89, 183, 0, 18]
abbrev dktX0_init_0 : List UInt8 := dkwX0_init_0 ++ dktX0_init_1
theorem dksX0_init_0 : cX0_init.data.toList.drop 0 = dktX0_init_0 := by decide +kernel
theorem dksX0_init_1 : cX0_init.data.toList.drop 23 = dktX0_init_1 := dk_seg dksX0_init_0 23 rfl rfl
theorem dksX0_init_2 : cX0_init.data.toList.drop 46 = dktX0_init_2 := dk_seg dksX0_init_1 23 rfl rfl
theorem dksX0_init_3 : cX0_init.data.toList.drop 69 = dktX0_init_3 := dk_seg dksX0_init_2 23 rfl rfl
theorem dksX0_init_4 : cX0_init.data.toList.drop 93 = dktX0_init_4 := dk_seg dksX0_init_3 24 rfl rfl
theorem dksX0_init_5 : cX0_init.data.toList.drop 117 = dktX0_init_5 := dk_seg dksX0_init_4 24 rfl rfl
theorem dksX0_init_6 : cX0_init.data.toList.drop 140 = dktX0_init_6 := dk_seg dksX0_init_5 23 rfl rfl
theorem dksX0_init_7 : cX0_init.data.toList.drop 164 = dktX0_init_7 := dk_seg dksX0_init_6 24 rfl rfl
theorem dksX0_init_8 : cX0_init.data.toList.drop 188 = dktX0_init_8 := dk_seg dksX0_init_7 24 rfl rfl
theorem dX0_init_0 : decode cX0_init 0 = .ok (.aload_n 0, 1) := dk_42 (dk_at dksX0_init_0 0 rfl rfl)
theorem dX0_init_1 : decode cX0_init 1 = .ok (.invokespecial 1, 3) := dk_183 0 1 (dk_at dksX0_init_0 1 rfl rfl)
theorem dX0_init_4 : decode cX0_init 4 = .ok (.aload_n 0, 1) := dk_42 (dk_at dksX0_init_0 4 rfl rfl)
theorem dX0_init_5 : decode cX0_init 5 = .ok (.new 7, 3) := dk_187 0 7 (dk_at dksX0_init_0 5 rfl rfl)
theorem dX0_init_8 : decode cX0_init 8 = .ok (.dup, 1) := dk_89 (dk_at dksX0_init_0 8 rfl rfl)
theorem dX0_init_9 : decode cX0_init 9 = .ok (.invokespecial 9, 3) := dk_183 0 9 (dk_at dksX0_init_0 9 rfl rfl)
theorem dX0_init_12 : decode cX0_init 12 = .ok (.putfield 10, 3) := dk_181 0 10 (dk_at dksX0_init_0 12 rfl rfl)
theorem dX0_init_15 : decode cX0_init 15 = .ok (.aload_n 0, 1) := dk_42 (dk_at dksX0_init_0 15 rfl rfl)
theorem dX0_init_16 : decode cX0_init 16 = .ok (.new 16, 3) := dk_187 0 16 (dk_at dksX0_init_0 16 rfl rfl)
theorem dX0_init_19 : decode cX0_init 19 = .ok (.dup, 1) := dk_89 (dk_at dksX0_init_0 19 rfl rfl)
theorem dX0_init_20 : decode cX0_init 20 = .ok (.invokespecial 18, 3) := dk_183 0 18 (dk_at dksX0_init_0 20 rfl rfl)
theorem dX0_init_23 : decode cX0_init 23 = .ok (.putfield 19, 3) := dk_181 0 19 (dk_at dksX0_init_1 0 rfl rfl)
theorem dX0_init_26 : decode cX0_init 26 = .ok (.aload_n 0, 1) := dk_42 (dk_at dksX0_init_1 3 rfl rfl)
theorem dX0_init_27 : decode cX0_init 27 = .ok (.new 23, 3) := dk_187 0 23 (dk_at dksX0_init_1 4 rfl rfl)
theorem dX0_init_30 : decode cX0_init 30 = .ok (.dup, 1) := dk_89 (dk_at dksX0_init_1 7 rfl rfl)
theorem dX0_init_31 : decode cX0_init 31 = .ok (.aload_n 0, 1) := dk_42 (dk_at dksX0_init_1 8 rfl rfl)
theorem dX0_init_32 : decode cX0_init 32 = .ok (.getfield 19, 3) := dk_180 0 19 (dk_at dksX0_init_1 9 rfl rfl)
theorem dX0_init_35 : decode cX0_init 35 = .ok (.aload_n 0, 1) := dk_42 (dk_at dksX0_init_1 12 rfl rfl)
theorem dX0_init_36 : decode cX0_init 36 = .ok (.getfield 10, 3) := dk_180 0 10 (dk_at dksX0_init_1 13 rfl rfl)
theorem dX0_init_39 : decode cX0_init 39 = .ok (.invokespecial 25, 3) := dk_183 0 25 (dk_at dksX0_init_1 16 rfl rfl)
theorem dX0_init_42 : decode cX0_init 42 = .ok (.putfield 28, 3) := dk_181 0 28 (dk_at dksX0_init_1 19 rfl rfl)
theorem dX0_init_45 : decode cX0_init 45 = .ok (.aload_n 0, 1) := dk_42 (dk_at dksX0_init_1 22 rfl rfl)
theorem dX0_init_46 : decode cX0_init 46 = .ok (.new 32, 3) := dk_187 0 32 (dk_at dksX0_init_2 0 rfl rfl)
theorem dX0_init_49 : decode cX0_init 49 = .ok (.dup, 1) := dk_89 (dk_at dksX0_init_2 3 rfl rfl)
theorem dX0_init_50 : decode cX0_init 50 = .ok (.invokespecial 34, 3) := dk_183 0 34 (dk_at dksX0_init_2 4 rfl rfl)
theorem dX0_init_53 : decode cX0_init 53 = .ok (.putfield 35, 3) := dk_181 0 35 (dk_at dksX0_init_2 7 rfl rfl)
theorem dX0_init_56 : decode cX0_init 56 = .ok (.aload_n 0, 1) := dk_42 (dk_at dksX0_init_2 10 rfl rfl)
theorem dX0_init_57 : decode cX0_init 57 = .ok (.iconst (-1), 1) := dk_2 (dk_at dksX0_init_2 11 rfl rfl)
theorem dX0_init_58 : decode cX0_init 58 = .ok (.putfield 39, 3) := dk_181 0 39 (dk_at dksX0_init_2 12 rfl rfl)
theorem dX0_init_61 : decode cX0_init 61 = .ok (.aload_n 0, 1) := dk_42 (dk_at dksX0_init_2 15 rfl rfl)
theorem dX0_init_62 : decode cX0_init 62 = .ok (.new 43, 3) := dk_187 0 43 (dk_at dksX0_init_2 16 rfl rfl)
theorem dX0_init_65 : decode cX0_init 65 = .ok (.dup, 1) := dk_89 (dk_at dksX0_init_2 19 rfl rfl)
theorem dX0_init_66 : decode cX0_init 66 = .ok (.invokespecial 45, 3) := dk_183 0 45 (dk_at dksX0_init_2 20 rfl rfl)
theorem dX0_init_69 : decode cX0_init 69 = .ok (.putfield 46, 3) := dk_181 0 46 (dk_at dksX0_init_3 0 rfl rfl)
theorem dX0_init_72 : decode cX0_init 72 = .ok (.aload_n 0, 1) := dk_42 (dk_at dksX0_init_3 3 rfl rfl)
theorem dX0_init_73 : decode cX0_init 73 = .ok (.new 43, 3) := dk_187 0 43 (dk_at dksX0_init_3 4 rfl rfl)
theorem dX0_init_76 : decode cX0_init 76 = .ok (.dup, 1) := dk_89 (dk_at dksX0_init_3 7 rfl rfl)
theorem dX0_init_77 : decode cX0_init 77 = .ok (.invokespecial 45, 3) := dk_183 0 45 (dk_at dksX0_init_3 8 rfl rfl)
theorem dX0_init_80 : decode cX0_init 80 = .ok (.putfield 50, 3) := dk_181 0 50 (dk_at dksX0_init_3 11 rfl rfl)
theorem dX0_init_83 : decode cX0_init 83 = .ok (.aload_n 0, 1) := dk_42 (dk_at dksX0_init_3 14 rfl rfl)
theorem dX0_init_84 : decode cX0_init 84 = .ok (.bipush 20, 2) := dk_16 20 (dk_at dksX0_init_3 15 rfl rfl)
theorem dX0_init_86 : decode cX0_init 86 = .ok (.anewarray 43, 3) := dk_189 0 43 (dk_at dksX0_init_3 17 rfl rfl)
theorem dX0_init_89 : decode cX0_init 89 = .ok (.putfield 53, 3) := dk_181 0 53 (dk_at dksX0_init_3 20 rfl rfl)
theorem dX0_init_92 : decode cX0_init 92 = .ok (.aload_n 0, 1) := dk_42 (dk_at dksX0_init_3 23 rfl rfl)
theorem dX0_init_93 : decode cX0_init 93 = .ok (.iconst 3, 1) := dk_6 (dk_at dksX0_init_4 0 rfl rfl)
theorem dX0_init_94 : decode cX0_init 94 = .ok (.anewarray 43, 3) := dk_189 0 43 (dk_at dksX0_init_4 1 rfl rfl)
theorem dX0_init_97 : decode cX0_init 97 = .ok (.dup, 1) := dk_89 (dk_at dksX0_init_4 4 rfl rfl)
theorem dX0_init_98 : decode cX0_init 98 = .ok (.iconst 0, 1) := dk_3 (dk_at dksX0_init_4 5 rfl rfl)
theorem dX0_init_99 : decode cX0_init 99 = .ok (.new 43, 3) := dk_187 0 43 (dk_at dksX0_init_4 6 rfl rfl)
theorem dX0_init_102 : decode cX0_init 102 = .ok (.dup, 1) := dk_89 (dk_at dksX0_init_4 9 rfl rfl)
theorem dX0_init_103 : decode cX0_init 103 = .ok (.invokespecial 45, 3) := dk_183 0 45 (dk_at dksX0_init_4 10 rfl rfl)
theorem dX0_init_106 : decode cX0_init 106 = .ok (.aastore, 1) := dk_83 (dk_at dksX0_init_4 13 rfl rfl)
theorem dX0_init_107 : decode cX0_init 107 = .ok (.dup, 1) := dk_89 (dk_at dksX0_init_4 14 rfl rfl)
theorem dX0_init_108 : decode cX0_init 108 = .ok (.iconst 1, 1) := dk_4 (dk_at dksX0_init_4 15 rfl rfl)
theorem dX0_init_109 : decode cX0_init 109 = .ok (.new 43, 3) := dk_187 0 43 (dk_at dksX0_init_4 16 rfl rfl)
theorem dX0_init_112 : decode cX0_init 112 = .ok (.dup, 1) := dk_89 (dk_at dksX0_init_4 19 rfl rfl)
theorem dX0_init_113 : decode cX0_init 113 = .ok (.invokespecial 45, 3) := dk_183 0 45 (dk_at dksX0_init_4 20 rfl rfl)
theorem dX0_init_116 : decode cX0_init 116 = .ok (.aastore, 1) := dk_83 (dk_at dksX0_init_4 23 rfl rfl)
theorem dX0_init_117 : decode cX0_init 117 = .ok (.dup, 1) := dk_89 (dk_at dksX0_init_5 0 rfl rfl)
theorem dX0_init_118 : decode cX0_init 118 = .ok (.iconst 2, 1) := dk_5 (dk_at dksX0_init_5 1 rfl rfl)
theorem dX0_init_119 : decode cX0_init 119 = .ok (.new 43, 3) := dk_187 0 43 (dk_at dksX0_init_5 2 rfl rfl)
theorem dX0_init_122 : decode cX0_init 122 = .ok (.dup, 1) := dk_89 (dk_at dksX0_init_5 5 rfl rfl)
theorem dX0_init_123 : decode cX0_init 123 = .ok (.invokespecial 45, 3) := dk_183 0 45 (dk_at dksX0_init_5 6 rfl rfl)
theorem dX0_init_126 : decode cX0_init 126 = .ok (.aastore, 1) := dk_83 (dk_at dksX0_init_5 9 rfl rfl)
theorem dX0_init_127 : decode cX0_init 127 = .ok (.putfield 57, 3) := dk_181 0 57 (dk_at dksX0_init_5 10 rfl rfl)
theorem dX0_init_130 : decode cX0_init 130 = .ok (.aload_n 0, 1) := dk_42 (dk_at dksX0_init_5 13 rfl rfl)
theorem dX0_init_131 : decode cX0_init 131 = .ok (.iconst 3, 1) := dk_6 (dk_at dksX0_init_5 14 rfl rfl)
theorem dX0_init_132 : decode cX0_init 132 = .ok (.newarray .boolean, 2) := dk_188_4 (dk_at dksX0_init_5 15 rfl rfl)
theorem dX0_init_134 : decode cX0_init 134 = .ok (.putfield 60, 3) := dk_181 0 60 (dk_at dksX0_init_5 17 rfl rfl)
theorem dX0_init_137 : decode cX0_init 137 = .ok (.aload_n 0, 1) := dk_42 (dk_at dksX0_init_5 20 rfl rfl)
theorem dX0_init_138 : decode cX0_init 138 = .ok (.bipush 30, 2) := dk_16 30 (dk_at dksX0_init_5 21 rfl rfl)
theorem dX0_init_140 : decode cX0_init 140 = .ok (.newarray .int, 2) := dk_188_10 (dk_at dksX0_init_6 0 rfl rfl)
theorem dX0_init_142 : decode cX0_init 142 = .ok (.putfield 64, 3) := dk_181 0 64 (dk_at dksX0_init_6 2 rfl rfl)
theorem dX0_init_145 : decode cX0_init 145 = .ok (.aload_n 0, 1) := dk_42 (dk_at dksX0_init_6 5 rfl rfl)
theorem dX0_init_146 : decode cX0_init 146 = .ok (.bipush 30, 2) := dk_16 30 (dk_at dksX0_init_6 6 rfl rfl)
theorem dX0_init_148 : decode cX0_init 148 = .ok (.newarray .int, 2) := dk_188_10 (dk_at dksX0_init_6 8 rfl rfl)
theorem dX0_init_150 : decode cX0_init 150 = .ok (.putfield 68, 3) := dk_181 0 68 (dk_at dksX0_init_6 10 rfl rfl)
theorem dX0_init_153 : decode cX0_init 153 = .ok (.aload_n 0, 1) := dk_42 (dk_at dksX0_init_6 13 rfl rfl)
theorem dX0_init_154 : decode cX0_init 154 = .ok (.bipush 30, 2) := dk_16 30 (dk_at dksX0_init_6 14 rfl rfl)
theorem dX0_init_156 : decode cX0_init 156 = .ok (.newarray .int, 2) := dk_188_10 (dk_at dksX0_init_6 16 rfl rfl)
theorem dX0_init_158 : decode cX0_init 158 = .ok (.putfield 71, 3) := dk_181 0 71 (dk_at dksX0_init_6 18 rfl rfl)
theorem dX0_init_161 : decode cX0_init 161 = .ok (.iconst 0, 1) := dk_3 (dk_at dksX0_init_6 21 rfl rfl)
theorem dX0_init_162 : decode cX0_init 162 = .ok (.istore_n 1, 1) := dk_60 (dk_at dksX0_init_6 22 rfl rfl)
theorem dX0_init_163 : decode cX0_init 163 = .ok (.iload_n 1, 1) := dk_27 (dk_at dksX0_init_6 23 rfl rfl)
theorem dX0_init_164 : decode cX0_init 164 = .ok (.bipush 20, 2) := dk_16 20 (dk_at dksX0_init_7 0 rfl rfl)
theorem dX0_init_166 : decode cX0_init 166 = .ok (.if_icmp .ge 22, 3) := dk_162 0 22 (dk_at dksX0_init_7 2 rfl rfl)
theorem dX0_init_169 : decode cX0_init 169 = .ok (.aload_n 0, 1) := dk_42 (dk_at dksX0_init_7 5 rfl rfl)
theorem dX0_init_170 : decode cX0_init 170 = .ok (.getfield 53, 3) := dk_180 0 53 (dk_at dksX0_init_7 6 rfl rfl)
theorem dX0_init_173 : decode cX0_init 173 = .ok (.iload_n 1, 1) := dk_27 (dk_at dksX0_init_7 9 rfl rfl)
theorem dX0_init_174 : decode cX0_init 174 = .ok (.new 43, 3) := dk_187 0 43 (dk_at dksX0_init_7 10 rfl rfl)
theorem dX0_init_177 : decode cX0_init 177 = .ok (.dup, 1) := dk_89 (dk_at dksX0_init_7 13 rfl rfl)
theorem dX0_init_178 : decode cX0_init 178 = .ok (.invokespecial 45, 3) := dk_183 0 45 (dk_at dksX0_init_7 14 rfl rfl)
theorem dX0_init_181 : decode cX0_init 181 = .ok (.aastore, 1) := dk_83 (dk_at dksX0_init_7 17 rfl rfl)
theorem dX0_init_182 : decode cX0_init 182 = .ok (.iinc 1 1, 3) := dk_132 1 1 (dk_at dksX0_init_7 18 rfl rfl)
theorem dX0_init_185 : decode cX0_init 185 = .ok (.goto (-22), 3) := dk_167 255 234 (dk_at dksX0_init_7 21 rfl rfl)
theorem dX0_init_188 : decode cX0_init 188 = .ok (.return_, 1) := dk_177 (dk_at dksX0_init_8 0 rfl rfl)
abbrev cX0_feed : ByteArray := prog_1_method_2_code
def yX0_feed : MethodName := ⟨RX0, "feed", "(IIIII)I"⟩
def dkwX0_feed_2 : List UInt8 := [180, 0, 19, 180, 0, 74, 172]
abbrev dktX0_feed_2 : List UInt8 := dkwX0_feed_2 ++ []
def dkwX0_feed_1 : List UInt8 := [28, 182, 0, 77, 42, 29, 182, 0, 77, 42, 21, 4, 182, 0, 77, 42, 21, 5, 182, 0, 77, 42]
abbrev dktX0_feed_1 : List UInt8 := dkwX0_feed_1 ++ dktX0_feed_2
def dkwX0_feed_0 : List UInt8 := [42, 180, 0, 19, 180, 0, 74, 16, 20, 96, 17, 7, 208, 164, 0, 5, 2, 172, 42, 27, 182, 0, 77, 42]
abbrev dktX0_feed_0 : List UInt8 := dkwX0_feed_0 ++ dktX0_feed_1
theorem dksX0_feed_0 : cX0_feed.data.toList.drop 0 = dktX0_feed_0 := by decide +kernel
theorem dksX0_feed_1 : cX0_feed.data.toList.drop 24 = dktX0_feed_1 := dk_seg dksX0_feed_0 24 rfl rfl
theorem dksX0_feed_2 : cX0_feed.data.toList.drop 46 = dktX0_feed_2 := dk_seg dksX0_feed_1 22 rfl rfl
theorem dX0_feed_0 : decode cX0_feed 0 = .ok (.aload_n 0, 1) := dk_42 (dk_at dksX0_feed_0 0 rfl rfl)
theorem dX0_feed_1 : decode cX0_feed 1 = .ok (.getfield 19, 3) := dk_180 0 19 (dk_at dksX0_feed_0 1 rfl rfl)
theorem dX0_feed_4 : decode cX0_feed 4 = .ok (.getfield 74, 3) := dk_180 0 74 (dk_at dksX0_feed_0 4 rfl rfl)
theorem dX0_feed_7 : decode cX0_feed 7 = .ok (.bipush 20, 2) := dk_16 20 (dk_at dksX0_feed_0 7 rfl rfl)
theorem dX0_feed_9 : decode cX0_feed 9 = .ok (.iadd, 1) := dk_96 (dk_at dksX0_feed_0 9 rfl rfl)
theorem dX0_feed_10 : decode cX0_feed 10 = .ok (.sipush 2000, 3) := dk_17 7 208 (dk_at dksX0_feed_0 10 rfl rfl)
theorem dX0_feed_13 : decode cX0_feed 13 = .ok (.if_icmp .le 5, 3) := dk_164 0 5 (dk_at dksX0_feed_0 13 rfl rfl)
theorem dX0_feed_16 : decode cX0_feed 16 = .ok (.iconst (-1), 1) := dk_2 (dk_at dksX0_feed_0 16 rfl rfl)
theorem dX0_feed_17 : decode cX0_feed 17 = .ok (.ireturn, 1) := dk_172 (dk_at dksX0_feed_0 17 rfl rfl)
theorem dX0_feed_18 : decode cX0_feed 18 = .ok (.aload_n 0, 1) := dk_42 (dk_at dksX0_feed_0 18 rfl rfl)
theorem dX0_feed_19 : decode cX0_feed 19 = .ok (.iload_n 1, 1) := dk_27 (dk_at dksX0_feed_0 19 rfl rfl)
theorem dX0_feed_20 : decode cX0_feed 20 = .ok (.invokevirtual 77, 3) := dk_182 0 77 (dk_at dksX0_feed_0 20 rfl rfl)
theorem dX0_feed_23 : decode cX0_feed 23 = .ok (.aload_n 0, 1) := dk_42 (dk_at dksX0_feed_0 23 rfl rfl)
theorem dX0_feed_24 : decode cX0_feed 24 = .ok (.iload_n 2, 1) := dk_28 (dk_at dksX0_feed_1 0 rfl rfl)
theorem dX0_feed_25 : decode cX0_feed 25 = .ok (.invokevirtual 77, 3) := dk_182 0 77 (dk_at dksX0_feed_1 1 rfl rfl)
theorem dX0_feed_28 : decode cX0_feed 28 = .ok (.aload_n 0, 1) := dk_42 (dk_at dksX0_feed_1 4 rfl rfl)
theorem dX0_feed_29 : decode cX0_feed 29 = .ok (.iload_n 3, 1) := dk_29 (dk_at dksX0_feed_1 5 rfl rfl)
theorem dX0_feed_30 : decode cX0_feed 30 = .ok (.invokevirtual 77, 3) := dk_182 0 77 (dk_at dksX0_feed_1 6 rfl rfl)
theorem dX0_feed_33 : decode cX0_feed 33 = .ok (.aload_n 0, 1) := dk_42 (dk_at dksX0_feed_1 9 rfl rfl)
theorem dX0_feed_34 : decode cX0_feed 34 = .ok (.iload 4, 2) := dk_21 4 (dk_at dksX0_feed_1 10 rfl rfl)
theorem dX0_feed_36 : decode cX0_feed 36 = .ok (.invokevirtual 77, 3) := dk_182 0 77 (dk_at dksX0_feed_1 12 rfl rfl)
theorem dX0_feed_39 : decode cX0_feed 39 = .ok (.aload_n 0, 1) := dk_42 (dk_at dksX0_feed_1 15 rfl rfl)
theorem dX0_feed_40 : decode cX0_feed 40 = .ok (.iload 5, 2) := dk_21 5 (dk_at dksX0_feed_1 16 rfl rfl)
theorem dX0_feed_42 : decode cX0_feed 42 = .ok (.invokevirtual 77, 3) := dk_182 0 77 (dk_at dksX0_feed_1 18 rfl rfl)
theorem dX0_feed_45 : decode cX0_feed 45 = .ok (.aload_n 0, 1) := dk_42 (dk_at dksX0_feed_1 21 rfl rfl)
theorem dX0_feed_46 : decode cX0_feed 46 = .ok (.getfield 19, 3) := dk_180 0 19 (dk_at dksX0_feed_2 0 rfl rfl)
theorem dX0_feed_49 : decode cX0_feed 49 = .ok (.getfield 74, 3) := dk_180 0 74 (dk_at dksX0_feed_2 3 rfl rfl)
theorem dX0_feed_52 : decode cX0_feed 52 = .ok (.ireturn, 1) := dk_172 (dk_at dksX0_feed_2 6 rfl rfl)
abbrev cX0_typed : ByteArray := prog_1_method_3_code
def yX0_typed : MethodName := ⟨RX0, "typed", "(I)V"⟩
def dkwX0_typed_1 : List UInt8 := [145, 84, 42, 180, 0, 19, 89, 180, 0, 74, 4, 96, 181, 0, 74, 132, 2, 248, 167, 255, 217, 177]
abbrev dktX0_typed_1 : List UInt8 := dkwX0_typed_1 ++ []
def dkwX0_typed_0 : List UInt8 := [16, 24, 61, 28, 155, 0, 41, 42, 180, 0, 19, 180, 0, 81, 42, 180, 0, 19, 180, 0, 74, 27, 28, 122]
abbrev dktX0_typed_0 : List UInt8 := dkwX0_typed_0 ++ dktX0_typed_1
theorem dksX0_typed_0 : cX0_typed.data.toList.drop 0 = dktX0_typed_0 := by decide +kernel
theorem dksX0_typed_1 : cX0_typed.data.toList.drop 24 = dktX0_typed_1 := dk_seg dksX0_typed_0 24 rfl rfl
theorem dX0_typed_0 : decode cX0_typed 0 = .ok (.bipush 24, 2) := dk_16 24 (dk_at dksX0_typed_0 0 rfl rfl)
theorem dX0_typed_2 : decode cX0_typed 2 = .ok (.istore_n 2, 1) := dk_61 (dk_at dksX0_typed_0 2 rfl rfl)
theorem dX0_typed_3 : decode cX0_typed 3 = .ok (.iload_n 2, 1) := dk_28 (dk_at dksX0_typed_0 3 rfl rfl)
theorem dX0_typed_4 : decode cX0_typed 4 = .ok (.ifCond .lt 41, 3) := dk_155 0 41 (dk_at dksX0_typed_0 4 rfl rfl)
theorem dX0_typed_7 : decode cX0_typed 7 = .ok (.aload_n 0, 1) := dk_42 (dk_at dksX0_typed_0 7 rfl rfl)
theorem dX0_typed_8 : decode cX0_typed 8 = .ok (.getfield 19, 3) := dk_180 0 19 (dk_at dksX0_typed_0 8 rfl rfl)
theorem dX0_typed_11 : decode cX0_typed 11 = .ok (.getfield 81, 3) := dk_180 0 81 (dk_at dksX0_typed_0 11 rfl rfl)
theorem dX0_typed_14 : decode cX0_typed 14 = .ok (.aload_n 0, 1) := dk_42 (dk_at dksX0_typed_0 14 rfl rfl)
theorem dX0_typed_15 : decode cX0_typed 15 = .ok (.getfield 19, 3) := dk_180 0 19 (dk_at dksX0_typed_0 15 rfl rfl)
theorem dX0_typed_18 : decode cX0_typed 18 = .ok (.getfield 74, 3) := dk_180 0 74 (dk_at dksX0_typed_0 18 rfl rfl)
theorem dX0_typed_21 : decode cX0_typed 21 = .ok (.iload_n 1, 1) := dk_27 (dk_at dksX0_typed_0 21 rfl rfl)
theorem dX0_typed_22 : decode cX0_typed 22 = .ok (.iload_n 2, 1) := dk_28 (dk_at dksX0_typed_0 22 rfl rfl)
theorem dX0_typed_23 : decode cX0_typed 23 = .ok (.ishr, 1) := dk_122 (dk_at dksX0_typed_0 23 rfl rfl)
theorem dX0_typed_24 : decode cX0_typed 24 = .ok (.i2b, 1) := dk_145 (dk_at dksX0_typed_1 0 rfl rfl)
theorem dX0_typed_25 : decode cX0_typed 25 = .ok (.bastore, 1) := dk_84 (dk_at dksX0_typed_1 1 rfl rfl)
theorem dX0_typed_26 : decode cX0_typed 26 = .ok (.aload_n 0, 1) := dk_42 (dk_at dksX0_typed_1 2 rfl rfl)
theorem dX0_typed_27 : decode cX0_typed 27 = .ok (.getfield 19, 3) := dk_180 0 19 (dk_at dksX0_typed_1 3 rfl rfl)
theorem dX0_typed_30 : decode cX0_typed 30 = .ok (.dup, 1) := dk_89 (dk_at dksX0_typed_1 6 rfl rfl)
theorem dX0_typed_31 : decode cX0_typed 31 = .ok (.getfield 74, 3) := dk_180 0 74 (dk_at dksX0_typed_1 7 rfl rfl)
theorem dX0_typed_34 : decode cX0_typed 34 = .ok (.iconst 1, 1) := dk_4 (dk_at dksX0_typed_1 10 rfl rfl)
theorem dX0_typed_35 : decode cX0_typed 35 = .ok (.iadd, 1) := dk_96 (dk_at dksX0_typed_1 11 rfl rfl)
theorem dX0_typed_36 : decode cX0_typed 36 = .ok (.putfield 74, 3) := dk_181 0 74 (dk_at dksX0_typed_1 12 rfl rfl)
theorem dX0_typed_39 : decode cX0_typed 39 = .ok (.iinc 2 (-8), 3) := dk_132 2 248 (dk_at dksX0_typed_1 15 rfl rfl)
theorem dX0_typed_42 : decode cX0_typed 42 = .ok (.goto (-39), 3) := dk_167 255 217 (dk_at dksX0_typed_1 18 rfl rfl)
theorem dX0_typed_45 : decode cX0_typed 45 = .ok (.return_, 1) := dk_177 (dk_at dksX0_typed_1 21 rfl rfl)
abbrev cX0_back : ByteArray := prog_1_method_4_code
def yX0_back : MethodName := ⟨RX0, "back", "(I)I"⟩
def dkwX0_back_1 : List UInt8 := [180, 0, 74, 27, 100, 181, 0, 74, 42, 180, 0, 19, 180, 0, 74, 172]
abbrev dktX0_back_1 : List UInt8 := dkwX0_back_1 ++ []
def dkwX0_back_0 : List UInt8 := [27, 155, 0, 14, 27, 42, 180, 0, 19, 180, 0, 74, 164, 0, 5, 2, 172, 42, 180, 0, 19, 89]
abbrev dktX0_back_0 : List UInt8 := dkwX0_back_0 ++ dktX0_back_1
theorem dksX0_back_0 : cX0_back.data.toList.drop 0 = dktX0_back_0 := by decide +kernel
theorem dksX0_back_1 : cX0_back.data.toList.drop 22 = dktX0_back_1 := dk_seg dksX0_back_0 22 rfl rfl
theorem dX0_back_0 : decode cX0_back 0 = .ok (.iload_n 1, 1) := dk_27 (dk_at dksX0_back_0 0 rfl rfl)
theorem dX0_back_1 : decode cX0_back 1 = .ok (.ifCond .lt 14, 3) := dk_155 0 14 (dk_at dksX0_back_0 1 rfl rfl)
theorem dX0_back_4 : decode cX0_back 4 = .ok (.iload_n 1, 1) := dk_27 (dk_at dksX0_back_0 4 rfl rfl)
theorem dX0_back_5 : decode cX0_back 5 = .ok (.aload_n 0, 1) := dk_42 (dk_at dksX0_back_0 5 rfl rfl)
theorem dX0_back_6 : decode cX0_back 6 = .ok (.getfield 19, 3) := dk_180 0 19 (dk_at dksX0_back_0 6 rfl rfl)
theorem dX0_back_9 : decode cX0_back 9 = .ok (.getfield 74, 3) := dk_180 0 74 (dk_at dksX0_back_0 9 rfl rfl)
theorem dX0_back_12 : decode cX0_back 12 = .ok (.if_icmp .le 5, 3) := dk_164 0 5 (dk_at dksX0_back_0 12 rfl rfl)
theorem dX0_back_15 : decode cX0_back 15 = .ok (.iconst (-1), 1) := dk_2 (dk_at dksX0_back_0 15 rfl rfl)
theorem dX0_back_16 : decode cX0_back 16 = .ok (.ireturn, 1) := dk_172 (dk_at dksX0_back_0 16 rfl rfl)
theorem dX0_back_17 : decode cX0_back 17 = .ok (.aload_n 0, 1) := dk_42 (dk_at dksX0_back_0 17 rfl rfl)
theorem dX0_back_18 : decode cX0_back 18 = .ok (.getfield 19, 3) := dk_180 0 19 (dk_at dksX0_back_0 18 rfl rfl)
theorem dX0_back_21 : decode cX0_back 21 = .ok (.dup, 1) := dk_89 (dk_at dksX0_back_0 21 rfl rfl)
theorem dX0_back_22 : decode cX0_back 22 = .ok (.getfield 74, 3) := dk_180 0 74 (dk_at dksX0_back_1 0 rfl rfl)
theorem dX0_back_25 : decode cX0_back 25 = .ok (.iload_n 1, 1) := dk_27 (dk_at dksX0_back_1 3 rfl rfl)
theorem dX0_back_26 : decode cX0_back 26 = .ok (.isub, 1) := dk_100 (dk_at dksX0_back_1 4 rfl rfl)
theorem dX0_back_27 : decode cX0_back 27 = .ok (.putfield 74, 3) := dk_181 0 74 (dk_at dksX0_back_1 5 rfl rfl)
theorem dX0_back_30 : decode cX0_back 30 = .ok (.aload_n 0, 1) := dk_42 (dk_at dksX0_back_1 8 rfl rfl)
theorem dX0_back_31 : decode cX0_back 31 = .ok (.getfield 19, 3) := dk_180 0 19 (dk_at dksX0_back_1 9 rfl rfl)
theorem dX0_back_34 : decode cX0_back 34 = .ok (.getfield 74, 3) := dk_180 0 74 (dk_at dksX0_back_1 12 rfl rfl)
theorem dX0_back_37 : decode cX0_back 37 = .ok (.ireturn, 1) := dk_172 (dk_at dksX0_back_1 15 rfl rfl)
abbrev cX0_read : ByteArray := prog_1_method_5_code
def yX0_read : MethodName := ⟨RX0, "read", "()I"⟩
def dkwX0_read_3 : List UInt8 := [180, 0, 102, 181, 0, 39, 42, 180, 0, 19, 3, 181, 0, 74, 27, 172]
abbrev dktX0_read_3 : List UInt8 := dkwX0_read_3 ++ []
def dkwX0_read_2 : List UInt8 := [180, 0, 60, 28, 3, 84, 132, 2, 1, 167, 255, 241, 167, 0, 17, 77, 44, 180, 0, 99, 60, 42, 44]
abbrev dktX0_read_2 : List UInt8 := dkwX0_read_2 ++ dktX0_read_3
def dkwX0_read_1 : List UInt8 := [180, 0, 35, 182, 0, 89, 42, 3, 181, 0, 93, 42, 3, 181, 0, 96, 3, 61, 28, 6, 162, 0, 16, 42]
abbrev dktX0_read_1 : List UInt8 := dkwX0_read_1 ++ dktX0_read_2
def dkwX0_read_0 : List UInt8 := [3, 60, 42, 2, 181, 0, 39, 42, 42, 180, 0, 28, 182, 0, 85, 181, 0, 35, 42, 180, 0, 46, 42]
abbrev dktX0_read_0 : List UInt8 := dkwX0_read_0 ++ dktX0_read_1
theorem dksX0_read_0 : cX0_read.data.toList.drop 0 = dktX0_read_0 := by decide +kernel
theorem dksX0_read_1 : cX0_read.data.toList.drop 23 = dktX0_read_1 := dk_seg dksX0_read_0 23 rfl rfl
theorem dksX0_read_2 : cX0_read.data.toList.drop 47 = dktX0_read_2 := dk_seg dksX0_read_1 24 rfl rfl
theorem dksX0_read_3 : cX0_read.data.toList.drop 70 = dktX0_read_3 := dk_seg dksX0_read_2 23 rfl rfl
theorem dX0_read_0 : decode cX0_read 0 = .ok (.iconst 0, 1) := dk_3 (dk_at dksX0_read_0 0 rfl rfl)
theorem dX0_read_1 : decode cX0_read 1 = .ok (.istore_n 1, 1) := dk_60 (dk_at dksX0_read_0 1 rfl rfl)
theorem dX0_read_2 : decode cX0_read 2 = .ok (.aload_n 0, 1) := dk_42 (dk_at dksX0_read_0 2 rfl rfl)
theorem dX0_read_3 : decode cX0_read 3 = .ok (.iconst (-1), 1) := dk_2 (dk_at dksX0_read_0 3 rfl rfl)
theorem dX0_read_4 : decode cX0_read 4 = .ok (.putfield 39, 3) := dk_181 0 39 (dk_at dksX0_read_0 4 rfl rfl)
theorem dX0_read_7 : decode cX0_read 7 = .ok (.aload_n 0, 1) := dk_42 (dk_at dksX0_read_0 7 rfl rfl)
theorem dX0_read_8 : decode cX0_read 8 = .ok (.aload_n 0, 1) := dk_42 (dk_at dksX0_read_0 8 rfl rfl)
theorem dX0_read_9 : decode cX0_read 9 = .ok (.getfield 28, 3) := dk_180 0 28 (dk_at dksX0_read_0 9 rfl rfl)
theorem dX0_read_12 : decode cX0_read 12 = .ok (.invokevirtual 85, 3) := dk_182 0 85 (dk_at dksX0_read_0 12 rfl rfl)
theorem dX0_read_15 : decode cX0_read 15 = .ok (.putfield 35, 3) := dk_181 0 35 (dk_at dksX0_read_0 15 rfl rfl)
theorem dX0_read_18 : decode cX0_read 18 = .ok (.aload_n 0, 1) := dk_42 (dk_at dksX0_read_0 18 rfl rfl)
theorem dX0_read_19 : decode cX0_read 19 = .ok (.getfield 46, 3) := dk_180 0 46 (dk_at dksX0_read_0 19 rfl rfl)
theorem dX0_read_22 : decode cX0_read 22 = .ok (.aload_n 0, 1) := dk_42 (dk_at dksX0_read_0 22 rfl rfl)
theorem dX0_read_23 : decode cX0_read 23 = .ok (.getfield 35, 3) := dk_180 0 35 (dk_at dksX0_read_1 0 rfl rfl)
theorem dX0_read_26 : decode cX0_read 26 = .ok (.invokevirtual 89, 3) := dk_182 0 89 (dk_at dksX0_read_1 3 rfl rfl)
theorem dX0_read_29 : decode cX0_read 29 = .ok (.aload_n 0, 1) := dk_42 (dk_at dksX0_read_1 6 rfl rfl)
theorem dX0_read_30 : decode cX0_read 30 = .ok (.iconst 0, 1) := dk_3 (dk_at dksX0_read_1 7 rfl rfl)
theorem dX0_read_31 : decode cX0_read 31 = .ok (.putfield 93, 3) := dk_181 0 93 (dk_at dksX0_read_1 8 rfl rfl)
theorem dX0_read_34 : decode cX0_read 34 = .ok (.aload_n 0, 1) := dk_42 (dk_at dksX0_read_1 11 rfl rfl)
theorem dX0_read_35 : decode cX0_read 35 = .ok (.iconst 0, 1) := dk_3 (dk_at dksX0_read_1 12 rfl rfl)
theorem dX0_read_36 : decode cX0_read 36 = .ok (.putfield 96, 3) := dk_181 0 96 (dk_at dksX0_read_1 13 rfl rfl)
theorem dX0_read_39 : decode cX0_read 39 = .ok (.iconst 0, 1) := dk_3 (dk_at dksX0_read_1 16 rfl rfl)
theorem dX0_read_40 : decode cX0_read 40 = .ok (.istore_n 2, 1) := dk_61 (dk_at dksX0_read_1 17 rfl rfl)
theorem dX0_read_41 : decode cX0_read 41 = .ok (.iload_n 2, 1) := dk_28 (dk_at dksX0_read_1 18 rfl rfl)
theorem dX0_read_42 : decode cX0_read 42 = .ok (.iconst 3, 1) := dk_6 (dk_at dksX0_read_1 19 rfl rfl)
theorem dX0_read_43 : decode cX0_read 43 = .ok (.if_icmp .ge 16, 3) := dk_162 0 16 (dk_at dksX0_read_1 20 rfl rfl)
theorem dX0_read_46 : decode cX0_read 46 = .ok (.aload_n 0, 1) := dk_42 (dk_at dksX0_read_1 23 rfl rfl)
theorem dX0_read_47 : decode cX0_read 47 = .ok (.getfield 60, 3) := dk_180 0 60 (dk_at dksX0_read_2 0 rfl rfl)
theorem dX0_read_50 : decode cX0_read 50 = .ok (.iload_n 2, 1) := dk_28 (dk_at dksX0_read_2 3 rfl rfl)
theorem dX0_read_51 : decode cX0_read 51 = .ok (.iconst 0, 1) := dk_3 (dk_at dksX0_read_2 4 rfl rfl)
theorem dX0_read_52 : decode cX0_read 52 = .ok (.bastore, 1) := dk_84 (dk_at dksX0_read_2 5 rfl rfl)
theorem dX0_read_53 : decode cX0_read 53 = .ok (.iinc 2 1, 3) := dk_132 2 1 (dk_at dksX0_read_2 6 rfl rfl)
theorem dX0_read_56 : decode cX0_read 56 = .ok (.goto (-15), 3) := dk_167 255 241 (dk_at dksX0_read_2 9 rfl rfl)
theorem dX0_read_59 : decode cX0_read 59 = .ok (.goto 17, 3) := dk_167 0 17 (dk_at dksX0_read_2 12 rfl rfl)
theorem dX0_read_62 : decode cX0_read 62 = .ok (.astore_n 2, 1) := dk_77 (dk_at dksX0_read_2 15 rfl rfl)
theorem dX0_read_63 : decode cX0_read 63 = .ok (.aload_n 2, 1) := dk_44 (dk_at dksX0_read_2 16 rfl rfl)
theorem dX0_read_64 : decode cX0_read 64 = .ok (.getfield 99, 3) := dk_180 0 99 (dk_at dksX0_read_2 17 rfl rfl)
theorem dX0_read_67 : decode cX0_read 67 = .ok (.istore_n 1, 1) := dk_60 (dk_at dksX0_read_2 20 rfl rfl)
theorem dX0_read_68 : decode cX0_read 68 = .ok (.aload_n 0, 1) := dk_42 (dk_at dksX0_read_2 21 rfl rfl)
theorem dX0_read_69 : decode cX0_read 69 = .ok (.aload_n 2, 1) := dk_44 (dk_at dksX0_read_2 22 rfl rfl)
theorem dX0_read_70 : decode cX0_read 70 = .ok (.getfield 102, 3) := dk_180 0 102 (dk_at dksX0_read_3 0 rfl rfl)
theorem dX0_read_73 : decode cX0_read 73 = .ok (.putfield 39, 3) := dk_181 0 39 (dk_at dksX0_read_3 3 rfl rfl)
theorem dX0_read_76 : decode cX0_read 76 = .ok (.aload_n 0, 1) := dk_42 (dk_at dksX0_read_3 6 rfl rfl)
theorem dX0_read_77 : decode cX0_read 77 = .ok (.getfield 19, 3) := dk_180 0 19 (dk_at dksX0_read_3 7 rfl rfl)
theorem dX0_read_80 : decode cX0_read 80 = .ok (.iconst 0, 1) := dk_3 (dk_at dksX0_read_3 10 rfl rfl)
theorem dX0_read_81 : decode cX0_read 81 = .ok (.putfield 74, 3) := dk_181 0 74 (dk_at dksX0_read_3 11 rfl rfl)
theorem dX0_read_84 : decode cX0_read 84 = .ok (.iload_n 1, 1) := dk_27 (dk_at dksX0_read_3 14 rfl rfl)
theorem dX0_read_85 : decode cX0_read 85 = .ok (.ireturn, 1) := dk_172 (dk_at dksX0_read_3 15 rfl rfl)
abbrev cX0_place : ByteArray := prog_1_method_6_code
def yX0_place : MethodName := ⟨RX0, "place", "()I"⟩
theorem dX0_place_0 : decode cX0_place 0 = .ok (.aload_n 0, 1) := by decide +kernel
theorem dX0_place_1 : decode cX0_place 1 = .ok (.getfield 39, 3) := by decide +kernel
theorem dX0_place_4 : decode cX0_place 4 = .ok (.ireturn, 1) := by decide +kernel
abbrev cX0_task : ByteArray := prog_1_method_13_code
def yX0_task : MethodName := ⟨RX0, "task", "(II)I"⟩
def dkwX0_task_5 : List UInt8 := [27, 182, 0, 153, 153, 0, 7, 4, 167, 0, 4, 3, 172, 2, 172]
abbrev dktX0_task_5 : List UInt8 := dkwX0_task_5 ++ []
def dkwX0_task_4 : List UInt8 := [27, 46, 172, 42, 180, 0, 46, 42, 180, 0, 35, 27, 182, 0, 149, 172, 42, 180, 0, 46, 42, 180, 0, 35]
abbrev dktX0_task_4 : List UInt8 := dkwX0_task_4 ++ dktX0_task_5
def dkwX0_task_3 : List UInt8 := [180, 0, 107, 27, 182, 0, 131, 192, 0, 135, 180, 0, 143, 182, 0, 111, 172, 42, 180, 0, 46, 180, 0, 146]
abbrev dktX0_task_3 : List UInt8 := dkwX0_task_3 ++ dktX0_task_4
def dkwX0_task_2 : List UInt8 := [42, 180, 0, 35, 180, 0, 107, 27, 182, 0, 131, 192, 0, 135, 180, 0, 140, 172, 42, 180, 0, 35]
abbrev dktX0_task_2 : List UInt8 := dkwX0_task_2 ++ dktX0_task_3
def dkwX0_task_1 : List UInt8 := [170, 0, 0, 0, 116, 0, 0, 0, 0, 0, 0, 0, 4, 0, 0, 0, 33, 0, 0, 0, 51, 0, 0, 0, 72, 0, 0, 0, 82, 0, 0, 0, 95]
abbrev dktX0_task_1 : List UInt8 := dkwX0_task_1 ++ dktX0_task_2
def dkwX0_task_0 : List UInt8 := [42, 27, 182, 0, 127, 154, 0, 5, 2, 172, 28]
abbrev dktX0_task_0 : List UInt8 := dkwX0_task_0 ++ dktX0_task_1
theorem dksX0_task_0 : cX0_task.data.toList.drop 0 = dktX0_task_0 := by decide +kernel
theorem dksX0_task_1 : cX0_task.data.toList.drop 11 = dktX0_task_1 := dk_seg dksX0_task_0 11 rfl rfl
theorem dksX0_task_2 : cX0_task.data.toList.drop 44 = dktX0_task_2 := dk_seg dksX0_task_1 33 rfl rfl
theorem dksX0_task_3 : cX0_task.data.toList.drop 66 = dktX0_task_3 := dk_seg dksX0_task_2 22 rfl rfl
theorem dksX0_task_4 : cX0_task.data.toList.drop 90 = dktX0_task_4 := dk_seg dksX0_task_3 24 rfl rfl
theorem dksX0_task_5 : cX0_task.data.toList.drop 114 = dktX0_task_5 := dk_seg dksX0_task_4 24 rfl rfl
theorem dX0_task_0 : decode cX0_task 0 = .ok (.aload_n 0, 1) := dk_42 (dk_at dksX0_task_0 0 rfl rfl)
theorem dX0_task_1 : decode cX0_task 1 = .ok (.iload_n 1, 1) := dk_27 (dk_at dksX0_task_0 1 rfl rfl)
theorem dX0_task_2 : decode cX0_task 2 = .ok (.invokevirtual 127, 3) := dk_182 0 127 (dk_at dksX0_task_0 2 rfl rfl)
theorem dX0_task_5 : decode cX0_task 5 = .ok (.ifCond .ne 5, 3) := dk_154 0 5 (dk_at dksX0_task_0 5 rfl rfl)
theorem dX0_task_8 : decode cX0_task 8 = .ok (.iconst (-1), 1) := dk_2 (dk_at dksX0_task_0 8 rfl rfl)
theorem dX0_task_9 : decode cX0_task 9 = .ok (.ireturn, 1) := dk_172 (dk_at dksX0_task_0 9 rfl rfl)
theorem dX0_task_10 : decode cX0_task 10 = .ok (.iload_n 2, 1) := dk_28 (dk_at dksX0_task_0 10 rfl rfl)
theorem dX0_task_11 : decode cX0_task 11 = .ok (.tableswitch 116 0 4 #[33, 51, 72, 82, 95], 33) := by decide +kernel
theorem dX0_task_44 : decode cX0_task 44 = .ok (.aload_n 0, 1) := dk_42 (dk_at dksX0_task_2 0 rfl rfl)
theorem dX0_task_45 : decode cX0_task 45 = .ok (.getfield 35, 3) := dk_180 0 35 (dk_at dksX0_task_2 1 rfl rfl)
theorem dX0_task_48 : decode cX0_task 48 = .ok (.getfield 107, 3) := dk_180 0 107 (dk_at dksX0_task_2 4 rfl rfl)
theorem dX0_task_51 : decode cX0_task 51 = .ok (.iload_n 1, 1) := dk_27 (dk_at dksX0_task_2 7 rfl rfl)
theorem dX0_task_52 : decode cX0_task 52 = .ok (.invokevirtual 131, 3) := dk_182 0 131 (dk_at dksX0_task_2 8 rfl rfl)
theorem dX0_task_55 : decode cX0_task 55 = .ok (.checkcast 135, 3) := dk_192 0 135 (dk_at dksX0_task_2 11 rfl rfl)
theorem dX0_task_58 : decode cX0_task 58 = .ok (.getfield 140, 3) := dk_180 0 140 (dk_at dksX0_task_2 14 rfl rfl)
theorem dX0_task_61 : decode cX0_task 61 = .ok (.ireturn, 1) := dk_172 (dk_at dksX0_task_2 17 rfl rfl)
theorem dX0_task_62 : decode cX0_task 62 = .ok (.aload_n 0, 1) := dk_42 (dk_at dksX0_task_2 18 rfl rfl)
theorem dX0_task_63 : decode cX0_task 63 = .ok (.getfield 35, 3) := dk_180 0 35 (dk_at dksX0_task_2 19 rfl rfl)
theorem dX0_task_66 : decode cX0_task 66 = .ok (.getfield 107, 3) := dk_180 0 107 (dk_at dksX0_task_3 0 rfl rfl)
theorem dX0_task_69 : decode cX0_task 69 = .ok (.iload_n 1, 1) := dk_27 (dk_at dksX0_task_3 3 rfl rfl)
theorem dX0_task_70 : decode cX0_task 70 = .ok (.invokevirtual 131, 3) := dk_182 0 131 (dk_at dksX0_task_3 4 rfl rfl)
theorem dX0_task_73 : decode cX0_task 73 = .ok (.checkcast 135, 3) := dk_192 0 135 (dk_at dksX0_task_3 7 rfl rfl)
theorem dX0_task_76 : decode cX0_task 76 = .ok (.getfield 143, 3) := dk_180 0 143 (dk_at dksX0_task_3 10 rfl rfl)
theorem dX0_task_79 : decode cX0_task 79 = .ok (.invokevirtual 111, 3) := dk_182 0 111 (dk_at dksX0_task_3 13 rfl rfl)
theorem dX0_task_82 : decode cX0_task 82 = .ok (.ireturn, 1) := dk_172 (dk_at dksX0_task_3 16 rfl rfl)
theorem dX0_task_83 : decode cX0_task 83 = .ok (.aload_n 0, 1) := dk_42 (dk_at dksX0_task_3 17 rfl rfl)
theorem dX0_task_84 : decode cX0_task 84 = .ok (.getfield 46, 3) := dk_180 0 46 (dk_at dksX0_task_3 18 rfl rfl)
theorem dX0_task_87 : decode cX0_task 87 = .ok (.getfield 146, 3) := dk_180 0 146 (dk_at dksX0_task_3 21 rfl rfl)
theorem dX0_task_90 : decode cX0_task 90 = .ok (.iload_n 1, 1) := dk_27 (dk_at dksX0_task_4 0 rfl rfl)
theorem dX0_task_91 : decode cX0_task 91 = .ok (.iaload, 1) := dk_46 (dk_at dksX0_task_4 1 rfl rfl)
theorem dX0_task_92 : decode cX0_task 92 = .ok (.ireturn, 1) := dk_172 (dk_at dksX0_task_4 2 rfl rfl)
theorem dX0_task_93 : decode cX0_task 93 = .ok (.aload_n 0, 1) := dk_42 (dk_at dksX0_task_4 3 rfl rfl)
theorem dX0_task_94 : decode cX0_task 94 = .ok (.getfield 46, 3) := dk_180 0 46 (dk_at dksX0_task_4 4 rfl rfl)
theorem dX0_task_97 : decode cX0_task 97 = .ok (.aload_n 0, 1) := dk_42 (dk_at dksX0_task_4 7 rfl rfl)
theorem dX0_task_98 : decode cX0_task 98 = .ok (.getfield 35, 3) := dk_180 0 35 (dk_at dksX0_task_4 8 rfl rfl)
theorem dX0_task_101 : decode cX0_task 101 = .ok (.iload_n 1, 1) := dk_27 (dk_at dksX0_task_4 11 rfl rfl)
theorem dX0_task_102 : decode cX0_task 102 = .ok (.invokevirtual 149, 3) := dk_182 0 149 (dk_at dksX0_task_4 12 rfl rfl)
theorem dX0_task_105 : decode cX0_task 105 = .ok (.ireturn, 1) := dk_172 (dk_at dksX0_task_4 15 rfl rfl)
theorem dX0_task_106 : decode cX0_task 106 = .ok (.aload_n 0, 1) := dk_42 (dk_at dksX0_task_4 16 rfl rfl)
theorem dX0_task_107 : decode cX0_task 107 = .ok (.getfield 46, 3) := dk_180 0 46 (dk_at dksX0_task_4 17 rfl rfl)
theorem dX0_task_110 : decode cX0_task 110 = .ok (.aload_n 0, 1) := dk_42 (dk_at dksX0_task_4 20 rfl rfl)
theorem dX0_task_111 : decode cX0_task 111 = .ok (.getfield 35, 3) := dk_180 0 35 (dk_at dksX0_task_4 21 rfl rfl)
theorem dX0_task_114 : decode cX0_task 114 = .ok (.iload_n 1, 1) := dk_27 (dk_at dksX0_task_5 0 rfl rfl)
theorem dX0_task_115 : decode cX0_task 115 = .ok (.invokevirtual 153, 3) := dk_182 0 153 (dk_at dksX0_task_5 1 rfl rfl)
theorem dX0_task_118 : decode cX0_task 118 = .ok (.ifCond .eq 7, 3) := dk_153 0 7 (dk_at dksX0_task_5 4 rfl rfl)
theorem dX0_task_121 : decode cX0_task 121 = .ok (.iconst 1, 1) := dk_4 (dk_at dksX0_task_5 7 rfl rfl)
theorem dX0_task_122 : decode cX0_task 122 = .ok (.goto 4, 3) := dk_167 0 4 (dk_at dksX0_task_5 8 rfl rfl)
theorem dX0_task_125 : decode cX0_task 125 = .ok (.iconst 0, 1) := dk_3 (dk_at dksX0_task_5 11 rfl rfl)
theorem dX0_task_126 : decode cX0_task 126 = .ok (.ireturn, 1) := dk_172 (dk_at dksX0_task_5 12 rfl rfl)
theorem dX0_task_127 : decode cX0_task 127 = .ok (.iconst (-1), 1) := dk_2 (dk_at dksX0_task_5 13 rfl rfl)
theorem dX0_task_128 : decode cX0_task 128 = .ok (.ireturn, 1) := dk_172 (dk_at dksX0_task_5 14 rfl rfl)
abbrev cX0_isTask : ByteArray := prog_1_method_9_code
def yX0_isTask : MethodName := ⟨RX0, "isTask", "(I)Z"⟩
def dkwX0_isTask_0 : List UInt8 := [27, 42, 180, 0, 35, 180, 0, 107, 182, 0, 111, 184, 0, 117, 172]
abbrev dktX0_isTask_0 : List UInt8 := dkwX0_isTask_0 ++ []
theorem dksX0_isTask_0 : cX0_isTask.data.toList.drop 0 = dktX0_isTask_0 := by decide +kernel
theorem dX0_isTask_0 : decode cX0_isTask 0 = .ok (.iload_n 1, 1) := dk_27 (dk_at dksX0_isTask_0 0 rfl rfl)
theorem dX0_isTask_1 : decode cX0_isTask 1 = .ok (.aload_n 0, 1) := dk_42 (dk_at dksX0_isTask_0 1 rfl rfl)
theorem dX0_isTask_2 : decode cX0_isTask 2 = .ok (.getfield 35, 3) := dk_180 0 35 (dk_at dksX0_isTask_0 2 rfl rfl)
theorem dX0_isTask_5 : decode cX0_isTask 5 = .ok (.getfield 107, 3) := dk_180 0 107 (dk_at dksX0_isTask_0 5 rfl rfl)
theorem dX0_isTask_8 : decode cX0_isTask 8 = .ok (.invokevirtual 111, 3) := dk_182 0 111 (dk_at dksX0_isTask_0 8 rfl rfl)
theorem dX0_isTask_11 : decode cX0_isTask 11 = .ok (.invokestatic 117, 3) := dk_184 0 117 (dk_at dksX0_isTask_0 11 rfl rfl)
theorem dX0_isTask_14 : decode cX0_isTask 14 = .ok (.ireturn, 1) := dk_172 (dk_at dksX0_isTask_0 14 rfl rfl)
abbrev cX0_isOne : ByteArray := prog_1_method_8_code
def yX0_isOne : MethodName := ⟨RX0, "isOne", "(II)Z"⟩
def dkwX0_isOne_0 : List UInt8 := [26, 3, 27, 4, 100, 184, 0, 103, 172]
abbrev dktX0_isOne_0 : List UInt8 := dkwX0_isOne_0 ++ []
theorem dksX0_isOne_0 : cX0_isOne.data.toList.drop 0 = dktX0_isOne_0 := by decide +kernel
theorem dX0_isOne_0 : decode cX0_isOne 0 = .ok (.iload_n 0, 1) := dk_26 (dk_at dksX0_isOne_0 0 rfl rfl)
theorem dX0_isOne_1 : decode cX0_isOne 1 = .ok (.iconst 0, 1) := dk_3 (dk_at dksX0_isOne_0 1 rfl rfl)
theorem dX0_isOne_2 : decode cX0_isOne 2 = .ok (.iload_n 1, 1) := dk_27 (dk_at dksX0_isOne_0 2 rfl rfl)
theorem dX0_isOne_3 : decode cX0_isOne 3 = .ok (.iconst 1, 1) := dk_4 (dk_at dksX0_isOne_0 3 rfl rfl)
theorem dX0_isOne_4 : decode cX0_isOne 4 = .ok (.isub, 1) := dk_100 (dk_at dksX0_isOne_0 4 rfl rfl)
theorem dX0_isOne_5 : decode cX0_isOne 5 = .ok (.invokestatic 103, 3) := dk_184 0 103 (dk_at dksX0_isOne_0 5 rfl rfl)
theorem dX0_isOne_8 : decode cX0_isOne 8 = .ok (.ireturn, 1) := dk_172 (dk_at dksX0_isOne_0 8 rfl rfl)
abbrev cX0_isIn : ByteArray := prog_1_method_7_code
def yX0_isIn : MethodName := ⟨RX0, "isIn", "(III)Z"⟩
def dkwX0_isIn_0 : List UInt8 := [26, 27, 161, 0, 12, 26, 28, 163, 0, 7, 4, 167, 0, 4, 3, 172]
abbrev dktX0_isIn_0 : List UInt8 := dkwX0_isIn_0 ++ []
theorem dksX0_isIn_0 : cX0_isIn.data.toList.drop 0 = dktX0_isIn_0 := by decide +kernel
theorem dX0_isIn_0 : decode cX0_isIn 0 = .ok (.iload_n 0, 1) := dk_26 (dk_at dksX0_isIn_0 0 rfl rfl)
theorem dX0_isIn_1 : decode cX0_isIn 1 = .ok (.iload_n 1, 1) := dk_27 (dk_at dksX0_isIn_0 1 rfl rfl)
theorem dX0_isIn_2 : decode cX0_isIn 2 = .ok (.if_icmp .lt 12, 3) := dk_161 0 12 (dk_at dksX0_isIn_0 2 rfl rfl)
theorem dX0_isIn_5 : decode cX0_isIn 5 = .ok (.iload_n 0, 1) := dk_26 (dk_at dksX0_isIn_0 5 rfl rfl)
theorem dX0_isIn_6 : decode cX0_isIn 6 = .ok (.iload_n 2, 1) := dk_28 (dk_at dksX0_isIn_0 6 rfl rfl)
theorem dX0_isIn_7 : decode cX0_isIn 7 = .ok (.if_icmp .gt 7, 3) := dk_163 0 7 (dk_at dksX0_isIn_0 7 rfl rfl)
theorem dX0_isIn_10 : decode cX0_isIn 10 = .ok (.iconst 1, 1) := dk_4 (dk_at dksX0_isIn_0 10 rfl rfl)
theorem dX0_isIn_11 : decode cX0_isIn 11 = .ok (.goto 4, 3) := dk_167 0 4 (dk_at dksX0_isIn_0 11 rfl rfl)
theorem dX0_isIn_14 : decode cX0_isIn 14 = .ok (.iconst 0, 1) := dk_3 (dk_at dksX0_isIn_0 14 rfl rfl)
theorem dX0_isIn_15 : decode cX0_isIn 15 = .ok (.ireturn, 1) := dk_172 (dk_at dksX0_isIn_0 15 rfl rfl)
abbrev cX0_step : ByteArray := prog_1_method_14_code
def yX0_step : MethodName := ⟨RX0, "step", "(III)I"⟩
def dkwX0_step_5 : List UInt8 := [2, 172]
abbrev dktX0_step_5 : List UInt8 := dkwX0_step_5 ++ []
def dkwX0_step_4 : List UInt8 := [25, 4, 180, 0, 171, 172, 25, 4, 180, 0, 174, 172, 25, 4, 180, 0, 177, 172, 25, 4, 180, 0, 180, 172]
abbrev dktX0_step_4 : List UInt8 := dkwX0_step_4 ++ dktX0_step_5
def dkwX0_step_3 : List UInt8 := [42, 180, 0, 46, 180, 0, 161, 27, 50, 28, 46, 172, 25, 4, 180, 0, 165, 172, 25, 4, 180, 0, 168, 172]
abbrev dktX0_step_3 : List UInt8 := dkwX0_step_3 ++ dktX0_step_4
def dkwX0_step_2 : List UInt8 := [170, 0, 0, 0, 0, 90, 0, 0, 0, 0, 0, 0, 0, 6, 0, 0, 0, 42, 0, 0, 0, 54, 0, 0, 0, 60, 0, 0, 0, 66, 0, 0, 0, 72, 0, 0, 0, 78, 0, 0, 0, 84]
abbrev dktX0_step_2 : List UInt8 := dkwX0_step_2 ++ dktX0_step_3
def dkwX0_step_1 : List UInt8 := [192, 0, 135, 180, 0, 143, 28, 182, 0, 131, 192, 0, 159, 58, 4, 29]
abbrev dktX0_step_1 : List UInt8 := dkwX0_step_1 ++ dktX0_step_2
def dkwX0_step_0 : List UInt8 := [42, 27, 28, 182, 0, 157, 154, 0, 5, 2, 172, 42, 180, 0, 35, 180, 0, 107, 27, 182, 0, 131]
abbrev dktX0_step_0 : List UInt8 := dkwX0_step_0 ++ dktX0_step_1
theorem dksX0_step_0 : cX0_step.data.toList.drop 0 = dktX0_step_0 := by decide +kernel
theorem dksX0_step_1 : cX0_step.data.toList.drop 22 = dktX0_step_1 := dk_seg dksX0_step_0 22 rfl rfl
theorem dksX0_step_2 : cX0_step.data.toList.drop 38 = dktX0_step_2 := dk_seg dksX0_step_1 16 rfl rfl
theorem dksX0_step_3 : cX0_step.data.toList.drop 80 = dktX0_step_3 := dk_seg dksX0_step_2 42 rfl rfl
theorem dksX0_step_4 : cX0_step.data.toList.drop 104 = dktX0_step_4 := dk_seg dksX0_step_3 24 rfl rfl
theorem dksX0_step_5 : cX0_step.data.toList.drop 128 = dktX0_step_5 := dk_seg dksX0_step_4 24 rfl rfl
theorem dX0_step_0 : decode cX0_step 0 = .ok (.aload_n 0, 1) := dk_42 (dk_at dksX0_step_0 0 rfl rfl)
theorem dX0_step_1 : decode cX0_step 1 = .ok (.iload_n 1, 1) := dk_27 (dk_at dksX0_step_0 1 rfl rfl)
theorem dX0_step_2 : decode cX0_step 2 = .ok (.iload_n 2, 1) := dk_28 (dk_at dksX0_step_0 2 rfl rfl)
theorem dX0_step_3 : decode cX0_step 3 = .ok (.invokevirtual 157, 3) := dk_182 0 157 (dk_at dksX0_step_0 3 rfl rfl)
theorem dX0_step_6 : decode cX0_step 6 = .ok (.ifCond .ne 5, 3) := dk_154 0 5 (dk_at dksX0_step_0 6 rfl rfl)
theorem dX0_step_9 : decode cX0_step 9 = .ok (.iconst (-1), 1) := dk_2 (dk_at dksX0_step_0 9 rfl rfl)
theorem dX0_step_10 : decode cX0_step 10 = .ok (.ireturn, 1) := dk_172 (dk_at dksX0_step_0 10 rfl rfl)
theorem dX0_step_11 : decode cX0_step 11 = .ok (.aload_n 0, 1) := dk_42 (dk_at dksX0_step_0 11 rfl rfl)
theorem dX0_step_12 : decode cX0_step 12 = .ok (.getfield 35, 3) := dk_180 0 35 (dk_at dksX0_step_0 12 rfl rfl)
theorem dX0_step_15 : decode cX0_step 15 = .ok (.getfield 107, 3) := dk_180 0 107 (dk_at dksX0_step_0 15 rfl rfl)
theorem dX0_step_18 : decode cX0_step 18 = .ok (.iload_n 1, 1) := dk_27 (dk_at dksX0_step_0 18 rfl rfl)
theorem dX0_step_19 : decode cX0_step 19 = .ok (.invokevirtual 131, 3) := dk_182 0 131 (dk_at dksX0_step_0 19 rfl rfl)
theorem dX0_step_22 : decode cX0_step 22 = .ok (.checkcast 135, 3) := dk_192 0 135 (dk_at dksX0_step_1 0 rfl rfl)
theorem dX0_step_25 : decode cX0_step 25 = .ok (.getfield 143, 3) := dk_180 0 143 (dk_at dksX0_step_1 3 rfl rfl)
theorem dX0_step_28 : decode cX0_step 28 = .ok (.iload_n 2, 1) := dk_28 (dk_at dksX0_step_1 6 rfl rfl)
theorem dX0_step_29 : decode cX0_step 29 = .ok (.invokevirtual 131, 3) := dk_182 0 131 (dk_at dksX0_step_1 7 rfl rfl)
theorem dX0_step_32 : decode cX0_step 32 = .ok (.checkcast 159, 3) := dk_192 0 159 (dk_at dksX0_step_1 10 rfl rfl)
theorem dX0_step_35 : decode cX0_step 35 = .ok (.astore 4, 2) := dk_58 4 (dk_at dksX0_step_1 13 rfl rfl)
theorem dX0_step_37 : decode cX0_step 37 = .ok (.iload_n 3, 1) := dk_29 (dk_at dksX0_step_1 15 rfl rfl)
theorem dX0_step_38 : decode cX0_step 38 = .ok (.tableswitch 90 0 6 #[42, 54, 60, 66, 72, 78, 84], 42) := by decide +kernel
theorem dX0_step_80 : decode cX0_step 80 = .ok (.aload_n 0, 1) := dk_42 (dk_at dksX0_step_3 0 rfl rfl)
theorem dX0_step_81 : decode cX0_step 81 = .ok (.getfield 46, 3) := dk_180 0 46 (dk_at dksX0_step_3 1 rfl rfl)
theorem dX0_step_84 : decode cX0_step 84 = .ok (.getfield 161, 3) := dk_180 0 161 (dk_at dksX0_step_3 4 rfl rfl)
theorem dX0_step_87 : decode cX0_step 87 = .ok (.iload_n 1, 1) := dk_27 (dk_at dksX0_step_3 7 rfl rfl)
theorem dX0_step_88 : decode cX0_step 88 = .ok (.aaload, 1) := dk_50 (dk_at dksX0_step_3 8 rfl rfl)
theorem dX0_step_89 : decode cX0_step 89 = .ok (.iload_n 2, 1) := dk_28 (dk_at dksX0_step_3 9 rfl rfl)
theorem dX0_step_90 : decode cX0_step 90 = .ok (.iaload, 1) := dk_46 (dk_at dksX0_step_3 10 rfl rfl)
theorem dX0_step_91 : decode cX0_step 91 = .ok (.ireturn, 1) := dk_172 (dk_at dksX0_step_3 11 rfl rfl)
theorem dX0_step_92 : decode cX0_step 92 = .ok (.aload 4, 2) := dk_25 4 (dk_at dksX0_step_3 12 rfl rfl)
theorem dX0_step_94 : decode cX0_step 94 = .ok (.getfield 165, 3) := dk_180 0 165 (dk_at dksX0_step_3 14 rfl rfl)
theorem dX0_step_97 : decode cX0_step 97 = .ok (.ireturn, 1) := dk_172 (dk_at dksX0_step_3 17 rfl rfl)
theorem dX0_step_98 : decode cX0_step 98 = .ok (.aload 4, 2) := dk_25 4 (dk_at dksX0_step_3 18 rfl rfl)
theorem dX0_step_100 : decode cX0_step 100 = .ok (.getfield 168, 3) := dk_180 0 168 (dk_at dksX0_step_3 20 rfl rfl)
theorem dX0_step_103 : decode cX0_step 103 = .ok (.ireturn, 1) := dk_172 (dk_at dksX0_step_3 23 rfl rfl)
theorem dX0_step_104 : decode cX0_step 104 = .ok (.aload 4, 2) := dk_25 4 (dk_at dksX0_step_4 0 rfl rfl)
theorem dX0_step_106 : decode cX0_step 106 = .ok (.getfield 171, 3) := dk_180 0 171 (dk_at dksX0_step_4 2 rfl rfl)
theorem dX0_step_109 : decode cX0_step 109 = .ok (.ireturn, 1) := dk_172 (dk_at dksX0_step_4 5 rfl rfl)
theorem dX0_step_110 : decode cX0_step 110 = .ok (.aload 4, 2) := dk_25 4 (dk_at dksX0_step_4 6 rfl rfl)
theorem dX0_step_112 : decode cX0_step 112 = .ok (.getfield 174, 3) := dk_180 0 174 (dk_at dksX0_step_4 8 rfl rfl)
theorem dX0_step_115 : decode cX0_step 115 = .ok (.ireturn, 1) := dk_172 (dk_at dksX0_step_4 11 rfl rfl)
theorem dX0_step_116 : decode cX0_step 116 = .ok (.aload 4, 2) := dk_25 4 (dk_at dksX0_step_4 12 rfl rfl)
theorem dX0_step_118 : decode cX0_step 118 = .ok (.getfield 177, 3) := dk_180 0 177 (dk_at dksX0_step_4 14 rfl rfl)
theorem dX0_step_121 : decode cX0_step 121 = .ok (.ireturn, 1) := dk_172 (dk_at dksX0_step_4 17 rfl rfl)
theorem dX0_step_122 : decode cX0_step 122 = .ok (.aload 4, 2) := dk_25 4 (dk_at dksX0_step_4 18 rfl rfl)
theorem dX0_step_124 : decode cX0_step 124 = .ok (.getfield 180, 3) := dk_180 0 180 (dk_at dksX0_step_4 20 rfl rfl)
theorem dX0_step_127 : decode cX0_step 127 = .ok (.ireturn, 1) := dk_172 (dk_at dksX0_step_4 23 rfl rfl)
theorem dX0_step_128 : decode cX0_step 128 = .ok (.iconst (-1), 1) := dk_2 (dk_at dksX0_step_5 0 rfl rfl)
theorem dX0_step_129 : decode cX0_step 129 = .ok (.ireturn, 1) := dk_172 (dk_at dksX0_step_5 1 rfl rfl)
abbrev cX0_isStep : ByteArray := prog_1_method_12_code
def yX0_isStep : MethodName := ⟨RX0, "isStep", "(II)Z"⟩
def dkwX0_isStep_1 : List UInt8 := [182, 0, 137, 153, 0, 7, 4, 167, 0, 4, 3, 172]
abbrev dktX0_isStep_1 : List UInt8 := dkwX0_isStep_1 ++ []
def dkwX0_isStep_0 : List UInt8 := [42, 27, 182, 0, 127, 153, 0, 28, 42, 180, 0, 35, 180, 0, 107, 27, 182, 0, 131, 192, 0, 135, 28]
abbrev dktX0_isStep_0 : List UInt8 := dkwX0_isStep_0 ++ dktX0_isStep_1
theorem dksX0_isStep_0 : cX0_isStep.data.toList.drop 0 = dktX0_isStep_0 := by decide +kernel
theorem dksX0_isStep_1 : cX0_isStep.data.toList.drop 23 = dktX0_isStep_1 := dk_seg dksX0_isStep_0 23 rfl rfl
theorem dX0_isStep_0 : decode cX0_isStep 0 = .ok (.aload_n 0, 1) := dk_42 (dk_at dksX0_isStep_0 0 rfl rfl)
theorem dX0_isStep_1 : decode cX0_isStep 1 = .ok (.iload_n 1, 1) := dk_27 (dk_at dksX0_isStep_0 1 rfl rfl)
theorem dX0_isStep_2 : decode cX0_isStep 2 = .ok (.invokevirtual 127, 3) := dk_182 0 127 (dk_at dksX0_isStep_0 2 rfl rfl)
theorem dX0_isStep_5 : decode cX0_isStep 5 = .ok (.ifCond .eq 28, 3) := dk_153 0 28 (dk_at dksX0_isStep_0 5 rfl rfl)
theorem dX0_isStep_8 : decode cX0_isStep 8 = .ok (.aload_n 0, 1) := dk_42 (dk_at dksX0_isStep_0 8 rfl rfl)
theorem dX0_isStep_9 : decode cX0_isStep 9 = .ok (.getfield 35, 3) := dk_180 0 35 (dk_at dksX0_isStep_0 9 rfl rfl)
theorem dX0_isStep_12 : decode cX0_isStep 12 = .ok (.getfield 107, 3) := dk_180 0 107 (dk_at dksX0_isStep_0 12 rfl rfl)
theorem dX0_isStep_15 : decode cX0_isStep 15 = .ok (.iload_n 1, 1) := dk_27 (dk_at dksX0_isStep_0 15 rfl rfl)
theorem dX0_isStep_16 : decode cX0_isStep 16 = .ok (.invokevirtual 131, 3) := dk_182 0 131 (dk_at dksX0_isStep_0 16 rfl rfl)
theorem dX0_isStep_19 : decode cX0_isStep 19 = .ok (.checkcast 135, 3) := dk_192 0 135 (dk_at dksX0_isStep_0 19 rfl rfl)
theorem dX0_isStep_22 : decode cX0_isStep 22 = .ok (.iload_n 2, 1) := dk_28 (dk_at dksX0_isStep_0 22 rfl rfl)
theorem dX0_isStep_23 : decode cX0_isStep 23 = .ok (.invokevirtual 137, 3) := dk_182 0 137 (dk_at dksX0_isStep_1 0 rfl rfl)
theorem dX0_isStep_26 : decode cX0_isStep 26 = .ok (.ifCond .eq 7, 3) := dk_153 0 7 (dk_at dksX0_isStep_1 3 rfl rfl)
theorem dX0_isStep_29 : decode cX0_isStep 29 = .ok (.iconst 1, 1) := dk_4 (dk_at dksX0_isStep_1 6 rfl rfl)
theorem dX0_isStep_30 : decode cX0_isStep 30 = .ok (.goto 4, 3) := dk_167 0 4 (dk_at dksX0_isStep_1 7 rfl rfl)
theorem dX0_isStep_33 : decode cX0_isStep 33 = .ok (.iconst 0, 1) := dk_3 (dk_at dksX0_isStep_1 10 rfl rfl)
theorem dX0_isStep_34 : decode cX0_isStep 34 = .ok (.ireturn, 1) := dk_172 (dk_at dksX0_isStep_1 11 rfl rfl)
abbrev cX0_man : ByteArray := prog_1_method_15_code
def yX0_man : MethodName := ⟨RX0, "man", "(II)I"⟩
def dkwX0_man_4 : List UInt8 := [46, 172, 42, 180, 0, 46, 180, 0, 200, 27, 46, 172, 42, 180, 0, 46, 180, 0, 203, 27, 46, 172, 2, 172]
abbrev dktX0_man_4 : List UInt8 := dkwX0_man_4 ++ []
def dkwX0_man_3 : List UInt8 := [180, 0, 191, 27, 46, 172, 42, 180, 0, 46, 180, 0, 194, 27, 46, 172, 42, 180, 0, 46, 180, 0, 197, 27]
abbrev dktX0_man_3 : List UInt8 := dkwX0_man_3 ++ dktX0_man_4
def dkwX0_man_2 : List UInt8 := [42, 180, 0, 35, 180, 0, 121, 27, 182, 0, 131, 192, 0, 186, 180, 0, 188, 172, 42, 180, 0, 46]
abbrev dktX0_man_2 : List UInt8 := dkwX0_man_2 ++ dktX0_man_3
def dkwX0_man_1 : List UInt8 := [170, 0, 0, 0, 105, 0, 0, 0, 0, 0, 0, 0, 5, 0, 0, 0, 37, 0, 0, 0, 55, 0, 0, 0, 65, 0, 0, 0, 75, 0, 0, 0, 85, 0, 0, 0, 95]
abbrev dktX0_man_1 : List UInt8 := dkwX0_man_1 ++ dktX0_man_2
def dkwX0_man_0 : List UInt8 := [42, 27, 182, 0, 183, 154, 0, 5, 2, 172, 28]
abbrev dktX0_man_0 : List UInt8 := dkwX0_man_0 ++ dktX0_man_1
theorem dksX0_man_0 : cX0_man.data.toList.drop 0 = dktX0_man_0 := by decide +kernel
theorem dksX0_man_1 : cX0_man.data.toList.drop 11 = dktX0_man_1 := dk_seg dksX0_man_0 11 rfl rfl
theorem dksX0_man_2 : cX0_man.data.toList.drop 48 = dktX0_man_2 := dk_seg dksX0_man_1 37 rfl rfl
theorem dksX0_man_3 : cX0_man.data.toList.drop 70 = dktX0_man_3 := dk_seg dksX0_man_2 22 rfl rfl
theorem dksX0_man_4 : cX0_man.data.toList.drop 94 = dktX0_man_4 := dk_seg dksX0_man_3 24 rfl rfl
theorem dX0_man_0 : decode cX0_man 0 = .ok (.aload_n 0, 1) := dk_42 (dk_at dksX0_man_0 0 rfl rfl)
theorem dX0_man_1 : decode cX0_man 1 = .ok (.iload_n 1, 1) := dk_27 (dk_at dksX0_man_0 1 rfl rfl)
theorem dX0_man_2 : decode cX0_man 2 = .ok (.invokevirtual 183, 3) := dk_182 0 183 (dk_at dksX0_man_0 2 rfl rfl)
theorem dX0_man_5 : decode cX0_man 5 = .ok (.ifCond .ne 5, 3) := dk_154 0 5 (dk_at dksX0_man_0 5 rfl rfl)
theorem dX0_man_8 : decode cX0_man 8 = .ok (.iconst (-1), 1) := dk_2 (dk_at dksX0_man_0 8 rfl rfl)
theorem dX0_man_9 : decode cX0_man 9 = .ok (.ireturn, 1) := dk_172 (dk_at dksX0_man_0 9 rfl rfl)
theorem dX0_man_10 : decode cX0_man 10 = .ok (.iload_n 2, 1) := dk_28 (dk_at dksX0_man_0 10 rfl rfl)
theorem dX0_man_11 : decode cX0_man 11 = .ok (.tableswitch 105 0 5 #[37, 55, 65, 75, 85, 95], 37) := by decide +kernel
theorem dX0_man_48 : decode cX0_man 48 = .ok (.aload_n 0, 1) := dk_42 (dk_at dksX0_man_2 0 rfl rfl)
theorem dX0_man_49 : decode cX0_man 49 = .ok (.getfield 35, 3) := dk_180 0 35 (dk_at dksX0_man_2 1 rfl rfl)
theorem dX0_man_52 : decode cX0_man 52 = .ok (.getfield 121, 3) := dk_180 0 121 (dk_at dksX0_man_2 4 rfl rfl)
theorem dX0_man_55 : decode cX0_man 55 = .ok (.iload_n 1, 1) := dk_27 (dk_at dksX0_man_2 7 rfl rfl)
theorem dX0_man_56 : decode cX0_man 56 = .ok (.invokevirtual 131, 3) := dk_182 0 131 (dk_at dksX0_man_2 8 rfl rfl)
theorem dX0_man_59 : decode cX0_man 59 = .ok (.checkcast 186, 3) := dk_192 0 186 (dk_at dksX0_man_2 11 rfl rfl)
theorem dX0_man_62 : decode cX0_man 62 = .ok (.getfield 188, 3) := dk_180 0 188 (dk_at dksX0_man_2 14 rfl rfl)
theorem dX0_man_65 : decode cX0_man 65 = .ok (.ireturn, 1) := dk_172 (dk_at dksX0_man_2 17 rfl rfl)
theorem dX0_man_66 : decode cX0_man 66 = .ok (.aload_n 0, 1) := dk_42 (dk_at dksX0_man_2 18 rfl rfl)
theorem dX0_man_67 : decode cX0_man 67 = .ok (.getfield 46, 3) := dk_180 0 46 (dk_at dksX0_man_2 19 rfl rfl)
theorem dX0_man_70 : decode cX0_man 70 = .ok (.getfield 191, 3) := dk_180 0 191 (dk_at dksX0_man_3 0 rfl rfl)
theorem dX0_man_73 : decode cX0_man 73 = .ok (.iload_n 1, 1) := dk_27 (dk_at dksX0_man_3 3 rfl rfl)
theorem dX0_man_74 : decode cX0_man 74 = .ok (.iaload, 1) := dk_46 (dk_at dksX0_man_3 4 rfl rfl)
theorem dX0_man_75 : decode cX0_man 75 = .ok (.ireturn, 1) := dk_172 (dk_at dksX0_man_3 5 rfl rfl)
theorem dX0_man_76 : decode cX0_man 76 = .ok (.aload_n 0, 1) := dk_42 (dk_at dksX0_man_3 6 rfl rfl)
theorem dX0_man_77 : decode cX0_man 77 = .ok (.getfield 46, 3) := dk_180 0 46 (dk_at dksX0_man_3 7 rfl rfl)
theorem dX0_man_80 : decode cX0_man 80 = .ok (.getfield 194, 3) := dk_180 0 194 (dk_at dksX0_man_3 10 rfl rfl)
theorem dX0_man_83 : decode cX0_man 83 = .ok (.iload_n 1, 1) := dk_27 (dk_at dksX0_man_3 13 rfl rfl)
theorem dX0_man_84 : decode cX0_man 84 = .ok (.iaload, 1) := dk_46 (dk_at dksX0_man_3 14 rfl rfl)
theorem dX0_man_85 : decode cX0_man 85 = .ok (.ireturn, 1) := dk_172 (dk_at dksX0_man_3 15 rfl rfl)
theorem dX0_man_86 : decode cX0_man 86 = .ok (.aload_n 0, 1) := dk_42 (dk_at dksX0_man_3 16 rfl rfl)
theorem dX0_man_87 : decode cX0_man 87 = .ok (.getfield 46, 3) := dk_180 0 46 (dk_at dksX0_man_3 17 rfl rfl)
theorem dX0_man_90 : decode cX0_man 90 = .ok (.getfield 197, 3) := dk_180 0 197 (dk_at dksX0_man_3 20 rfl rfl)
theorem dX0_man_93 : decode cX0_man 93 = .ok (.iload_n 1, 1) := dk_27 (dk_at dksX0_man_3 23 rfl rfl)
theorem dX0_man_94 : decode cX0_man 94 = .ok (.iaload, 1) := dk_46 (dk_at dksX0_man_4 0 rfl rfl)
theorem dX0_man_95 : decode cX0_man 95 = .ok (.ireturn, 1) := dk_172 (dk_at dksX0_man_4 1 rfl rfl)
theorem dX0_man_96 : decode cX0_man 96 = .ok (.aload_n 0, 1) := dk_42 (dk_at dksX0_man_4 2 rfl rfl)
theorem dX0_man_97 : decode cX0_man 97 = .ok (.getfield 46, 3) := dk_180 0 46 (dk_at dksX0_man_4 3 rfl rfl)
theorem dX0_man_100 : decode cX0_man 100 = .ok (.getfield 200, 3) := dk_180 0 200 (dk_at dksX0_man_4 6 rfl rfl)
theorem dX0_man_103 : decode cX0_man 103 = .ok (.iload_n 1, 1) := dk_27 (dk_at dksX0_man_4 9 rfl rfl)
theorem dX0_man_104 : decode cX0_man 104 = .ok (.iaload, 1) := dk_46 (dk_at dksX0_man_4 10 rfl rfl)
theorem dX0_man_105 : decode cX0_man 105 = .ok (.ireturn, 1) := dk_172 (dk_at dksX0_man_4 11 rfl rfl)
theorem dX0_man_106 : decode cX0_man 106 = .ok (.aload_n 0, 1) := dk_42 (dk_at dksX0_man_4 12 rfl rfl)
theorem dX0_man_107 : decode cX0_man 107 = .ok (.getfield 46, 3) := dk_180 0 46 (dk_at dksX0_man_4 13 rfl rfl)
theorem dX0_man_110 : decode cX0_man 110 = .ok (.getfield 203, 3) := dk_180 0 203 (dk_at dksX0_man_4 16 rfl rfl)
theorem dX0_man_113 : decode cX0_man 113 = .ok (.iload_n 1, 1) := dk_27 (dk_at dksX0_man_4 19 rfl rfl)
theorem dX0_man_114 : decode cX0_man 114 = .ok (.iaload, 1) := dk_46 (dk_at dksX0_man_4 20 rfl rfl)
theorem dX0_man_115 : decode cX0_man 115 = .ok (.ireturn, 1) := dk_172 (dk_at dksX0_man_4 21 rfl rfl)
theorem dX0_man_116 : decode cX0_man 116 = .ok (.iconst (-1), 1) := dk_2 (dk_at dksX0_man_4 22 rfl rfl)
theorem dX0_man_117 : decode cX0_man 117 = .ok (.ireturn, 1) := dk_172 (dk_at dksX0_man_4 23 rfl rfl)
abbrev cX0_isMan : ByteArray := prog_1_method_10_code
def yX0_isMan : MethodName := ⟨RX0, "isMan", "(I)Z"⟩
def dkwX0_isMan_0 : List UInt8 := [27, 42, 180, 0, 35, 180, 0, 121, 182, 0, 111, 184, 0, 117, 172]
abbrev dktX0_isMan_0 : List UInt8 := dkwX0_isMan_0 ++ []
theorem dksX0_isMan_0 : cX0_isMan.data.toList.drop 0 = dktX0_isMan_0 := by decide +kernel
theorem dX0_isMan_0 : decode cX0_isMan 0 = .ok (.iload_n 1, 1) := dk_27 (dk_at dksX0_isMan_0 0 rfl rfl)
theorem dX0_isMan_1 : decode cX0_isMan 1 = .ok (.aload_n 0, 1) := dk_42 (dk_at dksX0_isMan_0 1 rfl rfl)
theorem dX0_isMan_2 : decode cX0_isMan 2 = .ok (.getfield 35, 3) := dk_180 0 35 (dk_at dksX0_isMan_0 2 rfl rfl)
theorem dX0_isMan_5 : decode cX0_isMan 5 = .ok (.getfield 121, 3) := dk_180 0 121 (dk_at dksX0_isMan_0 5 rfl rfl)
theorem dX0_isMan_8 : decode cX0_isMan 8 = .ok (.invokevirtual 111, 3) := dk_182 0 111 (dk_at dksX0_isMan_0 8 rfl rfl)
theorem dX0_isMan_11 : decode cX0_isMan 11 = .ok (.invokestatic 117, 3) := dk_184 0 117 (dk_at dksX0_isMan_0 11 rfl rfl)
theorem dX0_isMan_14 : decode cX0_isMan 14 = .ok (.ireturn, 1) := dk_172 (dk_at dksX0_isMan_0 14 rfl rfl)
abbrev cX0_tool : ByteArray := prog_1_method_16_code
def yX0_tool : MethodName := ⟨RX0, "tool", "(I)I"⟩
def dkwX0_tool_1 : List UInt8 := [27, 46, 167, 0, 4, 2, 172]
abbrev dktX0_tool_1 : List UInt8 := dkwX0_tool_1 ++ []
def dkwX0_tool_0 : List UInt8 := [27, 42, 180, 0, 35, 180, 0, 206, 182, 0, 111, 184, 0, 117, 153, 0, 15, 42, 180, 0, 46, 180, 0, 209]
abbrev dktX0_tool_0 : List UInt8 := dkwX0_tool_0 ++ dktX0_tool_1
theorem dksX0_tool_0 : cX0_tool.data.toList.drop 0 = dktX0_tool_0 := by decide +kernel
theorem dksX0_tool_1 : cX0_tool.data.toList.drop 24 = dktX0_tool_1 := dk_seg dksX0_tool_0 24 rfl rfl
theorem dX0_tool_0 : decode cX0_tool 0 = .ok (.iload_n 1, 1) := dk_27 (dk_at dksX0_tool_0 0 rfl rfl)
theorem dX0_tool_1 : decode cX0_tool 1 = .ok (.aload_n 0, 1) := dk_42 (dk_at dksX0_tool_0 1 rfl rfl)
theorem dX0_tool_2 : decode cX0_tool 2 = .ok (.getfield 35, 3) := dk_180 0 35 (dk_at dksX0_tool_0 2 rfl rfl)
theorem dX0_tool_5 : decode cX0_tool 5 = .ok (.getfield 206, 3) := dk_180 0 206 (dk_at dksX0_tool_0 5 rfl rfl)
theorem dX0_tool_8 : decode cX0_tool 8 = .ok (.invokevirtual 111, 3) := dk_182 0 111 (dk_at dksX0_tool_0 8 rfl rfl)
theorem dX0_tool_11 : decode cX0_tool 11 = .ok (.invokestatic 117, 3) := dk_184 0 117 (dk_at dksX0_tool_0 11 rfl rfl)
theorem dX0_tool_14 : decode cX0_tool 14 = .ok (.ifCond .eq 15, 3) := dk_153 0 15 (dk_at dksX0_tool_0 14 rfl rfl)
theorem dX0_tool_17 : decode cX0_tool 17 = .ok (.aload_n 0, 1) := dk_42 (dk_at dksX0_tool_0 17 rfl rfl)
theorem dX0_tool_18 : decode cX0_tool 18 = .ok (.getfield 46, 3) := dk_180 0 46 (dk_at dksX0_tool_0 18 rfl rfl)
theorem dX0_tool_21 : decode cX0_tool 21 = .ok (.getfield 209, 3) := dk_180 0 209 (dk_at dksX0_tool_0 21 rfl rfl)
theorem dX0_tool_24 : decode cX0_tool 24 = .ok (.iload_n 1, 1) := dk_27 (dk_at dksX0_tool_1 0 rfl rfl)
theorem dX0_tool_25 : decode cX0_tool 25 = .ok (.iaload, 1) := dk_46 (dk_at dksX0_tool_1 1 rfl rfl)
theorem dX0_tool_26 : decode cX0_tool 26 = .ok (.goto 4, 3) := dk_167 0 4 (dk_at dksX0_tool_1 2 rfl rfl)
theorem dX0_tool_29 : decode cX0_tool 29 = .ok (.iconst (-1), 1) := dk_2 (dk_at dksX0_tool_1 5 rfl rfl)
theorem dX0_tool_30 : decode cX0_tool 30 = .ok (.ireturn, 1) := dk_172 (dk_at dksX0_tool_1 6 rfl rfl)
abbrev cX0_way : ByteArray := prog_1_method_17_code
def yX0_way : MethodName := ⟨RX0, "way", "(II)I"⟩
def dkwX0_way_2 : List UInt8 := [16, 254, 167, 0, 4, 29, 172]
abbrev dktX0_way_2 : List UInt8 := dkwX0_way_2 ++ []
def dkwX0_way_1 : List UInt8 := [180, 0, 35, 182, 0, 215, 42, 180, 0, 46, 180, 0, 218, 27, 50, 28, 46, 62, 29, 18, 221, 161, 0, 8]
abbrev dktX0_way_1 : List UInt8 := dkwX0_way_1 ++ dktX0_way_2
def dkwX0_way_0 : List UInt8 := [42, 27, 182, 0, 212, 153, 0, 11, 42, 28, 182, 0, 212, 154, 0, 5, 2, 172, 42, 180, 0, 46, 42]
abbrev dktX0_way_0 : List UInt8 := dkwX0_way_0 ++ dktX0_way_1
theorem dksX0_way_0 : cX0_way.data.toList.drop 0 = dktX0_way_0 := by decide +kernel
theorem dksX0_way_1 : cX0_way.data.toList.drop 23 = dktX0_way_1 := dk_seg dksX0_way_0 23 rfl rfl
theorem dksX0_way_2 : cX0_way.data.toList.drop 47 = dktX0_way_2 := dk_seg dksX0_way_1 24 rfl rfl
theorem dX0_way_0 : decode cX0_way 0 = .ok (.aload_n 0, 1) := dk_42 (dk_at dksX0_way_0 0 rfl rfl)
theorem dX0_way_1 : decode cX0_way 1 = .ok (.iload_n 1, 1) := dk_27 (dk_at dksX0_way_0 1 rfl rfl)
theorem dX0_way_2 : decode cX0_way 2 = .ok (.invokevirtual 212, 3) := dk_182 0 212 (dk_at dksX0_way_0 2 rfl rfl)
theorem dX0_way_5 : decode cX0_way 5 = .ok (.ifCond .eq 11, 3) := dk_153 0 11 (dk_at dksX0_way_0 5 rfl rfl)
theorem dX0_way_8 : decode cX0_way 8 = .ok (.aload_n 0, 1) := dk_42 (dk_at dksX0_way_0 8 rfl rfl)
theorem dX0_way_9 : decode cX0_way 9 = .ok (.iload_n 2, 1) := dk_28 (dk_at dksX0_way_0 9 rfl rfl)
theorem dX0_way_10 : decode cX0_way 10 = .ok (.invokevirtual 212, 3) := dk_182 0 212 (dk_at dksX0_way_0 10 rfl rfl)
theorem dX0_way_13 : decode cX0_way 13 = .ok (.ifCond .ne 5, 3) := dk_154 0 5 (dk_at dksX0_way_0 13 rfl rfl)
theorem dX0_way_16 : decode cX0_way 16 = .ok (.iconst (-1), 1) := dk_2 (dk_at dksX0_way_0 16 rfl rfl)
theorem dX0_way_17 : decode cX0_way 17 = .ok (.ireturn, 1) := dk_172 (dk_at dksX0_way_0 17 rfl rfl)
theorem dX0_way_18 : decode cX0_way 18 = .ok (.aload_n 0, 1) := dk_42 (dk_at dksX0_way_0 18 rfl rfl)
theorem dX0_way_19 : decode cX0_way 19 = .ok (.getfield 46, 3) := dk_180 0 46 (dk_at dksX0_way_0 19 rfl rfl)
theorem dX0_way_22 : decode cX0_way 22 = .ok (.aload_n 0, 1) := dk_42 (dk_at dksX0_way_0 22 rfl rfl)
theorem dX0_way_23 : decode cX0_way 23 = .ok (.getfield 35, 3) := dk_180 0 35 (dk_at dksX0_way_1 0 rfl rfl)
theorem dX0_way_26 : decode cX0_way 26 = .ok (.invokevirtual 215, 3) := dk_182 0 215 (dk_at dksX0_way_1 3 rfl rfl)
theorem dX0_way_29 : decode cX0_way 29 = .ok (.aload_n 0, 1) := dk_42 (dk_at dksX0_way_1 6 rfl rfl)
theorem dX0_way_30 : decode cX0_way 30 = .ok (.getfield 46, 3) := dk_180 0 46 (dk_at dksX0_way_1 7 rfl rfl)
theorem dX0_way_33 : decode cX0_way 33 = .ok (.getfield 218, 3) := dk_180 0 218 (dk_at dksX0_way_1 10 rfl rfl)
theorem dX0_way_36 : decode cX0_way 36 = .ok (.iload_n 1, 1) := dk_27 (dk_at dksX0_way_1 13 rfl rfl)
theorem dX0_way_37 : decode cX0_way 37 = .ok (.aaload, 1) := dk_50 (dk_at dksX0_way_1 14 rfl rfl)
theorem dX0_way_38 : decode cX0_way 38 = .ok (.iload_n 2, 1) := dk_28 (dk_at dksX0_way_1 15 rfl rfl)
theorem dX0_way_39 : decode cX0_way 39 = .ok (.iaload, 1) := dk_46 (dk_at dksX0_way_1 16 rfl rfl)
theorem dX0_way_40 : decode cX0_way 40 = .ok (.istore_n 3, 1) := dk_62 (dk_at dksX0_way_1 17 rfl rfl)
theorem dX0_way_41 : decode cX0_way 41 = .ok (.iload_n 3, 1) := dk_29 (dk_at dksX0_way_1 18 rfl rfl)
theorem dX0_way_42 : decode cX0_way 42 = .ok (.ldc 221, 2) := dk_18 221 (dk_at dksX0_way_1 19 rfl rfl)
theorem dX0_way_44 : decode cX0_way 44 = .ok (.if_icmp .lt 8, 3) := dk_161 0 8 (dk_at dksX0_way_1 21 rfl rfl)
theorem dX0_way_47 : decode cX0_way 47 = .ok (.bipush (-2), 2) := dk_16 254 (dk_at dksX0_way_2 0 rfl rfl)
theorem dX0_way_49 : decode cX0_way 49 = .ok (.goto 4, 3) := dk_167 0 4 (dk_at dksX0_way_2 2 rfl rfl)
theorem dX0_way_52 : decode cX0_way 52 = .ok (.iload_n 3, 1) := dk_29 (dk_at dksX0_way_2 5 rfl rfl)
theorem dX0_way_53 : decode cX0_way 53 = .ok (.ireturn, 1) := dk_172 (dk_at dksX0_way_2 6 rfl rfl)
abbrev cX0_isRoom : ByteArray := prog_1_method_11_code
def yX0_isRoom : MethodName := ⟨RX0, "isRoom", "(I)Z"⟩
def dkwX0_isRoom_0 : List UInt8 := [27, 42, 180, 0, 35, 180, 0, 124, 182, 0, 111, 184, 0, 117, 172]
abbrev dktX0_isRoom_0 : List UInt8 := dkwX0_isRoom_0 ++ []
theorem dksX0_isRoom_0 : cX0_isRoom.data.toList.drop 0 = dktX0_isRoom_0 := by decide +kernel
theorem dX0_isRoom_0 : decode cX0_isRoom 0 = .ok (.iload_n 1, 1) := dk_27 (dk_at dksX0_isRoom_0 0 rfl rfl)
theorem dX0_isRoom_1 : decode cX0_isRoom 1 = .ok (.aload_n 0, 1) := dk_42 (dk_at dksX0_isRoom_0 1 rfl rfl)
theorem dX0_isRoom_2 : decode cX0_isRoom 2 = .ok (.getfield 35, 3) := dk_180 0 35 (dk_at dksX0_isRoom_0 2 rfl rfl)
theorem dX0_isRoom_5 : decode cX0_isRoom 5 = .ok (.getfield 124, 3) := dk_180 0 124 (dk_at dksX0_isRoom_0 5 rfl rfl)
theorem dX0_isRoom_8 : decode cX0_isRoom 8 = .ok (.invokevirtual 111, 3) := dk_182 0 111 (dk_at dksX0_isRoom_0 8 rfl rfl)
theorem dX0_isRoom_11 : decode cX0_isRoom 11 = .ok (.invokestatic 117, 3) := dk_184 0 117 (dk_at dksX0_isRoom_0 11 rfl rfl)
theorem dX0_isRoom_14 : decode cX0_isRoom 14 = .ok (.ireturn, 1) := dk_172 (dk_at dksX0_isRoom_0 14 rfl rfl)
abbrev cX0_leave : ByteArray := prog_1_method_18_code
def yX0_leave : MethodName := ⟨RX0, "leave", "(III)Z"⟩
def dkwX0_leave_3 : List UInt8 := [21, 4, 153, 0, 8, 16, 254, 167, 0, 4, 29, 79, 4, 172]
abbrev dktX0_leave_3 : List UInt8 := dkwX0_leave_3 ++ []
def dkwX0_leave_2 : List UInt8 := [180, 0, 191, 27, 21, 4, 153, 0, 8, 16, 254, 167, 0, 4, 28, 79, 42, 180, 0, 46, 180, 0, 194, 27]
abbrev dktX0_leave_2 : List UInt8 := dkwX0_leave_2 ++ dktX0_leave_3
def dkwX0_leave_1 : List UInt8 := [153, 0, 17, 21, 4, 154, 0, 14, 42, 28, 29, 182, 0, 157, 154, 0, 5, 3, 172, 42, 180, 0, 46]
abbrev dktX0_leave_1 : List UInt8 := dkwX0_leave_1 ++ dktX0_leave_2
def dkwX0_leave_0 : List UInt8 := [28, 2, 160, 0, 12, 29, 2, 160, 0, 7, 4, 167, 0, 4, 3, 54, 4, 42, 27, 182, 0, 183]
abbrev dktX0_leave_0 : List UInt8 := dkwX0_leave_0 ++ dktX0_leave_1
theorem dksX0_leave_0 : cX0_leave.data.toList.drop 0 = dktX0_leave_0 := by decide +kernel
theorem dksX0_leave_1 : cX0_leave.data.toList.drop 22 = dktX0_leave_1 := dk_seg dksX0_leave_0 22 rfl rfl
theorem dksX0_leave_2 : cX0_leave.data.toList.drop 45 = dktX0_leave_2 := dk_seg dksX0_leave_1 23 rfl rfl
theorem dksX0_leave_3 : cX0_leave.data.toList.drop 69 = dktX0_leave_3 := dk_seg dksX0_leave_2 24 rfl rfl
theorem dX0_leave_0 : decode cX0_leave 0 = .ok (.iload_n 2, 1) := dk_28 (dk_at dksX0_leave_0 0 rfl rfl)
theorem dX0_leave_1 : decode cX0_leave 1 = .ok (.iconst (-1), 1) := dk_2 (dk_at dksX0_leave_0 1 rfl rfl)
theorem dX0_leave_2 : decode cX0_leave 2 = .ok (.if_icmp .ne 12, 3) := dk_160 0 12 (dk_at dksX0_leave_0 2 rfl rfl)
theorem dX0_leave_5 : decode cX0_leave 5 = .ok (.iload_n 3, 1) := dk_29 (dk_at dksX0_leave_0 5 rfl rfl)
theorem dX0_leave_6 : decode cX0_leave 6 = .ok (.iconst (-1), 1) := dk_2 (dk_at dksX0_leave_0 6 rfl rfl)
theorem dX0_leave_7 : decode cX0_leave 7 = .ok (.if_icmp .ne 7, 3) := dk_160 0 7 (dk_at dksX0_leave_0 7 rfl rfl)
theorem dX0_leave_10 : decode cX0_leave 10 = .ok (.iconst 1, 1) := dk_4 (dk_at dksX0_leave_0 10 rfl rfl)
theorem dX0_leave_11 : decode cX0_leave 11 = .ok (.goto 4, 3) := dk_167 0 4 (dk_at dksX0_leave_0 11 rfl rfl)
theorem dX0_leave_14 : decode cX0_leave 14 = .ok (.iconst 0, 1) := dk_3 (dk_at dksX0_leave_0 14 rfl rfl)
theorem dX0_leave_15 : decode cX0_leave 15 = .ok (.istore 4, 2) := dk_54 4 (dk_at dksX0_leave_0 15 rfl rfl)
theorem dX0_leave_17 : decode cX0_leave 17 = .ok (.aload_n 0, 1) := dk_42 (dk_at dksX0_leave_0 17 rfl rfl)
theorem dX0_leave_18 : decode cX0_leave 18 = .ok (.iload_n 1, 1) := dk_27 (dk_at dksX0_leave_0 18 rfl rfl)
theorem dX0_leave_19 : decode cX0_leave 19 = .ok (.invokevirtual 183, 3) := dk_182 0 183 (dk_at dksX0_leave_0 19 rfl rfl)
theorem dX0_leave_22 : decode cX0_leave 22 = .ok (.ifCond .eq 17, 3) := dk_153 0 17 (dk_at dksX0_leave_1 0 rfl rfl)
theorem dX0_leave_25 : decode cX0_leave 25 = .ok (.iload 4, 2) := dk_21 4 (dk_at dksX0_leave_1 3 rfl rfl)
theorem dX0_leave_27 : decode cX0_leave 27 = .ok (.ifCond .ne 14, 3) := dk_154 0 14 (dk_at dksX0_leave_1 5 rfl rfl)
theorem dX0_leave_30 : decode cX0_leave 30 = .ok (.aload_n 0, 1) := dk_42 (dk_at dksX0_leave_1 8 rfl rfl)
theorem dX0_leave_31 : decode cX0_leave 31 = .ok (.iload_n 2, 1) := dk_28 (dk_at dksX0_leave_1 9 rfl rfl)
theorem dX0_leave_32 : decode cX0_leave 32 = .ok (.iload_n 3, 1) := dk_29 (dk_at dksX0_leave_1 10 rfl rfl)
theorem dX0_leave_33 : decode cX0_leave 33 = .ok (.invokevirtual 157, 3) := dk_182 0 157 (dk_at dksX0_leave_1 11 rfl rfl)
theorem dX0_leave_36 : decode cX0_leave 36 = .ok (.ifCond .ne 5, 3) := dk_154 0 5 (dk_at dksX0_leave_1 14 rfl rfl)
theorem dX0_leave_39 : decode cX0_leave 39 = .ok (.iconst 0, 1) := dk_3 (dk_at dksX0_leave_1 17 rfl rfl)
theorem dX0_leave_40 : decode cX0_leave 40 = .ok (.ireturn, 1) := dk_172 (dk_at dksX0_leave_1 18 rfl rfl)
theorem dX0_leave_41 : decode cX0_leave 41 = .ok (.aload_n 0, 1) := dk_42 (dk_at dksX0_leave_1 19 rfl rfl)
theorem dX0_leave_42 : decode cX0_leave 42 = .ok (.getfield 46, 3) := dk_180 0 46 (dk_at dksX0_leave_1 20 rfl rfl)
theorem dX0_leave_45 : decode cX0_leave 45 = .ok (.getfield 191, 3) := dk_180 0 191 (dk_at dksX0_leave_2 0 rfl rfl)
theorem dX0_leave_48 : decode cX0_leave 48 = .ok (.iload_n 1, 1) := dk_27 (dk_at dksX0_leave_2 3 rfl rfl)
theorem dX0_leave_49 : decode cX0_leave 49 = .ok (.iload 4, 2) := dk_21 4 (dk_at dksX0_leave_2 4 rfl rfl)
theorem dX0_leave_51 : decode cX0_leave 51 = .ok (.ifCond .eq 8, 3) := dk_153 0 8 (dk_at dksX0_leave_2 6 rfl rfl)
theorem dX0_leave_54 : decode cX0_leave 54 = .ok (.bipush (-2), 2) := dk_16 254 (dk_at dksX0_leave_2 9 rfl rfl)
theorem dX0_leave_56 : decode cX0_leave 56 = .ok (.goto 4, 3) := dk_167 0 4 (dk_at dksX0_leave_2 11 rfl rfl)
theorem dX0_leave_59 : decode cX0_leave 59 = .ok (.iload_n 2, 1) := dk_28 (dk_at dksX0_leave_2 14 rfl rfl)
theorem dX0_leave_60 : decode cX0_leave 60 = .ok (.iastore, 1) := dk_79 (dk_at dksX0_leave_2 15 rfl rfl)
theorem dX0_leave_61 : decode cX0_leave 61 = .ok (.aload_n 0, 1) := dk_42 (dk_at dksX0_leave_2 16 rfl rfl)
theorem dX0_leave_62 : decode cX0_leave 62 = .ok (.getfield 46, 3) := dk_180 0 46 (dk_at dksX0_leave_2 17 rfl rfl)
theorem dX0_leave_65 : decode cX0_leave 65 = .ok (.getfield 194, 3) := dk_180 0 194 (dk_at dksX0_leave_2 20 rfl rfl)
theorem dX0_leave_68 : decode cX0_leave 68 = .ok (.iload_n 1, 1) := dk_27 (dk_at dksX0_leave_2 23 rfl rfl)
theorem dX0_leave_69 : decode cX0_leave 69 = .ok (.iload 4, 2) := dk_21 4 (dk_at dksX0_leave_3 0 rfl rfl)
theorem dX0_leave_71 : decode cX0_leave 71 = .ok (.ifCond .eq 8, 3) := dk_153 0 8 (dk_at dksX0_leave_3 2 rfl rfl)
theorem dX0_leave_74 : decode cX0_leave 74 = .ok (.bipush (-2), 2) := dk_16 254 (dk_at dksX0_leave_3 5 rfl rfl)
theorem dX0_leave_76 : decode cX0_leave 76 = .ok (.goto 4, 3) := dk_167 0 4 (dk_at dksX0_leave_3 7 rfl rfl)
theorem dX0_leave_79 : decode cX0_leave 79 = .ok (.iload_n 3, 1) := dk_29 (dk_at dksX0_leave_3 10 rfl rfl)
theorem dX0_leave_80 : decode cX0_leave 80 = .ok (.iastore, 1) := dk_79 (dk_at dksX0_leave_3 11 rfl rfl)
theorem dX0_leave_81 : decode cX0_leave 81 = .ok (.iconst 1, 1) := dk_4 (dk_at dksX0_leave_3 12 rfl rfl)
theorem dX0_leave_82 : decode cX0_leave 82 = .ok (.ireturn, 1) := dk_172 (dk_at dksX0_leave_3 13 rfl rfl)
abbrev cX0_work : ByteArray := prog_1_method_19_code
def yX0_work : MethodName := ⟨RX0, "work", "(II)Z"⟩
def dkwX0_work_2 : List UInt8 := [182, 0, 222, 4, 172]
abbrev dktX0_work_2 : List UInt8 := dkwX0_work_2 ++ []
def dkwX0_work_1 : List UInt8 := [180, 0, 46, 180, 0, 146, 27, 92, 46, 4, 100, 79, 42, 180, 0, 46, 42, 180, 0, 35, 27, 28]
abbrev dktX0_work_1 : List UInt8 := dkwX0_work_1 ++ dktX0_work_2
def dkwX0_work_0 : List UInt8 := [42, 27, 28, 182, 0, 157, 153, 0, 15, 42, 180, 0, 46, 180, 0, 146, 27, 46, 154, 0, 5, 3, 172, 42]
abbrev dktX0_work_0 : List UInt8 := dkwX0_work_0 ++ dktX0_work_1
theorem dksX0_work_0 : cX0_work.data.toList.drop 0 = dktX0_work_0 := by decide +kernel
theorem dksX0_work_1 : cX0_work.data.toList.drop 24 = dktX0_work_1 := dk_seg dksX0_work_0 24 rfl rfl
theorem dksX0_work_2 : cX0_work.data.toList.drop 46 = dktX0_work_2 := dk_seg dksX0_work_1 22 rfl rfl
theorem dX0_work_0 : decode cX0_work 0 = .ok (.aload_n 0, 1) := dk_42 (dk_at dksX0_work_0 0 rfl rfl)
theorem dX0_work_1 : decode cX0_work 1 = .ok (.iload_n 1, 1) := dk_27 (dk_at dksX0_work_0 1 rfl rfl)
theorem dX0_work_2 : decode cX0_work 2 = .ok (.iload_n 2, 1) := dk_28 (dk_at dksX0_work_0 2 rfl rfl)
theorem dX0_work_3 : decode cX0_work 3 = .ok (.invokevirtual 157, 3) := dk_182 0 157 (dk_at dksX0_work_0 3 rfl rfl)
theorem dX0_work_6 : decode cX0_work 6 = .ok (.ifCond .eq 15, 3) := dk_153 0 15 (dk_at dksX0_work_0 6 rfl rfl)
theorem dX0_work_9 : decode cX0_work 9 = .ok (.aload_n 0, 1) := dk_42 (dk_at dksX0_work_0 9 rfl rfl)
theorem dX0_work_10 : decode cX0_work 10 = .ok (.getfield 46, 3) := dk_180 0 46 (dk_at dksX0_work_0 10 rfl rfl)
theorem dX0_work_13 : decode cX0_work 13 = .ok (.getfield 146, 3) := dk_180 0 146 (dk_at dksX0_work_0 13 rfl rfl)
theorem dX0_work_16 : decode cX0_work 16 = .ok (.iload_n 1, 1) := dk_27 (dk_at dksX0_work_0 16 rfl rfl)
theorem dX0_work_17 : decode cX0_work 17 = .ok (.iaload, 1) := dk_46 (dk_at dksX0_work_0 17 rfl rfl)
theorem dX0_work_18 : decode cX0_work 18 = .ok (.ifCond .ne 5, 3) := dk_154 0 5 (dk_at dksX0_work_0 18 rfl rfl)
theorem dX0_work_21 : decode cX0_work 21 = .ok (.iconst 0, 1) := dk_3 (dk_at dksX0_work_0 21 rfl rfl)
theorem dX0_work_22 : decode cX0_work 22 = .ok (.ireturn, 1) := dk_172 (dk_at dksX0_work_0 22 rfl rfl)
theorem dX0_work_23 : decode cX0_work 23 = .ok (.aload_n 0, 1) := dk_42 (dk_at dksX0_work_0 23 rfl rfl)
theorem dX0_work_24 : decode cX0_work 24 = .ok (.getfield 46, 3) := dk_180 0 46 (dk_at dksX0_work_1 0 rfl rfl)
theorem dX0_work_27 : decode cX0_work 27 = .ok (.getfield 146, 3) := dk_180 0 146 (dk_at dksX0_work_1 3 rfl rfl)
theorem dX0_work_30 : decode cX0_work 30 = .ok (.iload_n 1, 1) := dk_27 (dk_at dksX0_work_1 6 rfl rfl)
theorem dX0_work_31 : decode cX0_work 31 = .ok (.dup2, 1) := dk_92 (dk_at dksX0_work_1 7 rfl rfl)
theorem dX0_work_32 : decode cX0_work 32 = .ok (.iaload, 1) := dk_46 (dk_at dksX0_work_1 8 rfl rfl)
theorem dX0_work_33 : decode cX0_work 33 = .ok (.iconst 1, 1) := dk_4 (dk_at dksX0_work_1 9 rfl rfl)
theorem dX0_work_34 : decode cX0_work 34 = .ok (.isub, 1) := dk_100 (dk_at dksX0_work_1 10 rfl rfl)
theorem dX0_work_35 : decode cX0_work 35 = .ok (.iastore, 1) := dk_79 (dk_at dksX0_work_1 11 rfl rfl)
theorem dX0_work_36 : decode cX0_work 36 = .ok (.aload_n 0, 1) := dk_42 (dk_at dksX0_work_1 12 rfl rfl)
theorem dX0_work_37 : decode cX0_work 37 = .ok (.getfield 46, 3) := dk_180 0 46 (dk_at dksX0_work_1 13 rfl rfl)
theorem dX0_work_40 : decode cX0_work 40 = .ok (.aload_n 0, 1) := dk_42 (dk_at dksX0_work_1 16 rfl rfl)
theorem dX0_work_41 : decode cX0_work 41 = .ok (.getfield 35, 3) := dk_180 0 35 (dk_at dksX0_work_1 17 rfl rfl)
theorem dX0_work_44 : decode cX0_work 44 = .ok (.iload_n 1, 1) := dk_27 (dk_at dksX0_work_1 20 rfl rfl)
theorem dX0_work_45 : decode cX0_work 45 = .ok (.iload_n 2, 1) := dk_28 (dk_at dksX0_work_1 21 rfl rfl)
theorem dX0_work_46 : decode cX0_work 46 = .ok (.invokevirtual 222, 3) := dk_182 0 222 (dk_at dksX0_work_2 0 rfl rfl)
theorem dX0_work_49 : decode cX0_work 49 = .ok (.iconst 1, 1) := dk_4 (dk_at dksX0_work_2 3 rfl rfl)
theorem dX0_work_50 : decode cX0_work 50 = .ok (.ireturn, 1) := dk_172 (dk_at dksX0_work_2 4 rfl rfl)
abbrev cX0_lay : ByteArray := prog_1_method_20_code
def yX0_lay : MethodName := ⟨RX0, "lay", "(II)Z"⟩
def dkwX0_lay_1 : List UInt8 := [154, 0, 5, 3, 172, 42, 180, 0, 46, 180, 0, 209, 27, 28, 79, 4, 172]
abbrev dktX0_lay_1 : List UInt8 := dkwX0_lay_1 ++ []
def dkwX0_lay_0 : List UInt8 := [27, 42, 180, 0, 35, 180, 0, 206, 182, 0, 111, 184, 0, 117, 153, 0, 11, 42, 28, 182, 0, 212]
abbrev dktX0_lay_0 : List UInt8 := dkwX0_lay_0 ++ dktX0_lay_1
theorem dksX0_lay_0 : cX0_lay.data.toList.drop 0 = dktX0_lay_0 := by decide +kernel
theorem dksX0_lay_1 : cX0_lay.data.toList.drop 22 = dktX0_lay_1 := dk_seg dksX0_lay_0 22 rfl rfl
theorem dX0_lay_0 : decode cX0_lay 0 = .ok (.iload_n 1, 1) := dk_27 (dk_at dksX0_lay_0 0 rfl rfl)
theorem dX0_lay_1 : decode cX0_lay 1 = .ok (.aload_n 0, 1) := dk_42 (dk_at dksX0_lay_0 1 rfl rfl)
theorem dX0_lay_2 : decode cX0_lay 2 = .ok (.getfield 35, 3) := dk_180 0 35 (dk_at dksX0_lay_0 2 rfl rfl)
theorem dX0_lay_5 : decode cX0_lay 5 = .ok (.getfield 206, 3) := dk_180 0 206 (dk_at dksX0_lay_0 5 rfl rfl)
theorem dX0_lay_8 : decode cX0_lay 8 = .ok (.invokevirtual 111, 3) := dk_182 0 111 (dk_at dksX0_lay_0 8 rfl rfl)
theorem dX0_lay_11 : decode cX0_lay 11 = .ok (.invokestatic 117, 3) := dk_184 0 117 (dk_at dksX0_lay_0 11 rfl rfl)
theorem dX0_lay_14 : decode cX0_lay 14 = .ok (.ifCond .eq 11, 3) := dk_153 0 11 (dk_at dksX0_lay_0 14 rfl rfl)
theorem dX0_lay_17 : decode cX0_lay 17 = .ok (.aload_n 0, 1) := dk_42 (dk_at dksX0_lay_0 17 rfl rfl)
theorem dX0_lay_18 : decode cX0_lay 18 = .ok (.iload_n 2, 1) := dk_28 (dk_at dksX0_lay_0 18 rfl rfl)
theorem dX0_lay_19 : decode cX0_lay 19 = .ok (.invokevirtual 212, 3) := dk_182 0 212 (dk_at dksX0_lay_0 19 rfl rfl)
theorem dX0_lay_22 : decode cX0_lay 22 = .ok (.ifCond .ne 5, 3) := dk_154 0 5 (dk_at dksX0_lay_1 0 rfl rfl)
theorem dX0_lay_25 : decode cX0_lay 25 = .ok (.iconst 0, 1) := dk_3 (dk_at dksX0_lay_1 3 rfl rfl)
theorem dX0_lay_26 : decode cX0_lay 26 = .ok (.ireturn, 1) := dk_172 (dk_at dksX0_lay_1 4 rfl rfl)
theorem dX0_lay_27 : decode cX0_lay 27 = .ok (.aload_n 0, 1) := dk_42 (dk_at dksX0_lay_1 5 rfl rfl)
theorem dX0_lay_28 : decode cX0_lay 28 = .ok (.getfield 46, 3) := dk_180 0 46 (dk_at dksX0_lay_1 6 rfl rfl)
theorem dX0_lay_31 : decode cX0_lay 31 = .ok (.getfield 209, 3) := dk_180 0 209 (dk_at dksX0_lay_1 9 rfl rfl)
theorem dX0_lay_34 : decode cX0_lay 34 = .ok (.iload_n 1, 1) := dk_27 (dk_at dksX0_lay_1 12 rfl rfl)
theorem dX0_lay_35 : decode cX0_lay 35 = .ok (.iload_n 2, 1) := dk_28 (dk_at dksX0_lay_1 13 rfl rfl)
theorem dX0_lay_36 : decode cX0_lay 36 = .ok (.iastore, 1) := dk_79 (dk_at dksX0_lay_1 14 rfl rfl)
theorem dX0_lay_37 : decode cX0_lay 37 = .ok (.iconst 1, 1) := dk_4 (dk_at dksX0_lay_1 15 rfl rfl)
theorem dX0_lay_38 : decode cX0_lay 38 = .ok (.ireturn, 1) := dk_172 (dk_at dksX0_lay_1 16 rfl rfl)
abbrev cX0_give : ByteArray := prog_1_method_21_code
def yX0_give : MethodName := ⟨RX0, "give", "(II)Z"⟩
def dkwX0_give_1 : List UInt8 := [154, 0, 5, 3, 172, 42, 180, 0, 46, 180, 0, 209, 27, 16, 100, 28, 96, 79, 4, 172]
abbrev dktX0_give_1 : List UInt8 := dkwX0_give_1 ++ []
def dkwX0_give_0 : List UInt8 := [27, 42, 180, 0, 35, 180, 0, 206, 182, 0, 111, 184, 0, 117, 153, 0, 11, 42, 28, 182, 0, 183]
abbrev dktX0_give_0 : List UInt8 := dkwX0_give_0 ++ dktX0_give_1
theorem dksX0_give_0 : cX0_give.data.toList.drop 0 = dktX0_give_0 := by decide +kernel
theorem dksX0_give_1 : cX0_give.data.toList.drop 22 = dktX0_give_1 := dk_seg dksX0_give_0 22 rfl rfl
theorem dX0_give_0 : decode cX0_give 0 = .ok (.iload_n 1, 1) := dk_27 (dk_at dksX0_give_0 0 rfl rfl)
theorem dX0_give_1 : decode cX0_give 1 = .ok (.aload_n 0, 1) := dk_42 (dk_at dksX0_give_0 1 rfl rfl)
theorem dX0_give_2 : decode cX0_give 2 = .ok (.getfield 35, 3) := dk_180 0 35 (dk_at dksX0_give_0 2 rfl rfl)
theorem dX0_give_5 : decode cX0_give 5 = .ok (.getfield 206, 3) := dk_180 0 206 (dk_at dksX0_give_0 5 rfl rfl)
theorem dX0_give_8 : decode cX0_give 8 = .ok (.invokevirtual 111, 3) := dk_182 0 111 (dk_at dksX0_give_0 8 rfl rfl)
theorem dX0_give_11 : decode cX0_give 11 = .ok (.invokestatic 117, 3) := dk_184 0 117 (dk_at dksX0_give_0 11 rfl rfl)
theorem dX0_give_14 : decode cX0_give 14 = .ok (.ifCond .eq 11, 3) := dk_153 0 11 (dk_at dksX0_give_0 14 rfl rfl)
theorem dX0_give_17 : decode cX0_give 17 = .ok (.aload_n 0, 1) := dk_42 (dk_at dksX0_give_0 17 rfl rfl)
theorem dX0_give_18 : decode cX0_give 18 = .ok (.iload_n 2, 1) := dk_28 (dk_at dksX0_give_0 18 rfl rfl)
theorem dX0_give_19 : decode cX0_give 19 = .ok (.invokevirtual 183, 3) := dk_182 0 183 (dk_at dksX0_give_0 19 rfl rfl)
theorem dX0_give_22 : decode cX0_give 22 = .ok (.ifCond .ne 5, 3) := dk_154 0 5 (dk_at dksX0_give_1 0 rfl rfl)
theorem dX0_give_25 : decode cX0_give 25 = .ok (.iconst 0, 1) := dk_3 (dk_at dksX0_give_1 3 rfl rfl)
theorem dX0_give_26 : decode cX0_give 26 = .ok (.ireturn, 1) := dk_172 (dk_at dksX0_give_1 4 rfl rfl)
theorem dX0_give_27 : decode cX0_give 27 = .ok (.aload_n 0, 1) := dk_42 (dk_at dksX0_give_1 5 rfl rfl)
theorem dX0_give_28 : decode cX0_give 28 = .ok (.getfield 46, 3) := dk_180 0 46 (dk_at dksX0_give_1 6 rfl rfl)
theorem dX0_give_31 : decode cX0_give 31 = .ok (.getfield 209, 3) := dk_180 0 209 (dk_at dksX0_give_1 9 rfl rfl)
theorem dX0_give_34 : decode cX0_give 34 = .ok (.iload_n 1, 1) := dk_27 (dk_at dksX0_give_1 12 rfl rfl)
theorem dX0_give_35 : decode cX0_give 35 = .ok (.bipush 100, 2) := dk_16 100 (dk_at dksX0_give_1 13 rfl rfl)
theorem dX0_give_37 : decode cX0_give 37 = .ok (.iload_n 2, 1) := dk_28 (dk_at dksX0_give_1 15 rfl rfl)
theorem dX0_give_38 : decode cX0_give 38 = .ok (.iadd, 1) := dk_96 (dk_at dksX0_give_1 16 rfl rfl)
theorem dX0_give_39 : decode cX0_give 39 = .ok (.iastore, 1) := dk_79 (dk_at dksX0_give_1 17 rfl rfl)
theorem dX0_give_40 : decode cX0_give 40 = .ok (.iconst 1, 1) := dk_4 (dk_at dksX0_give_1 18 rfl rfl)
theorem dX0_give_41 : decode cX0_give 41 = .ok (.ireturn, 1) := dk_172 (dk_at dksX0_give_1 19 rfl rfl)
abbrev cX0_bar : ByteArray := prog_1_method_22_code
def yX0_bar : MethodName := ⟨RX0, "bar", "(IZ)Z"⟩
def dkwX0_bar_2 : List UInt8 := [4, 27, 120, 2, 130, 126, 181, 0, 229, 4, 172]
abbrev dktX0_bar_2 : List UInt8 := dkwX0_bar_2 ++ []
def dkwX0_bar_1 : List UInt8 := [153, 0, 17, 42, 180, 0, 46, 180, 0, 229, 4, 27, 120, 128, 167, 0, 16, 42, 180, 0, 46, 180, 0, 229]
abbrev dktX0_bar_1 : List UInt8 := dkwX0_bar_1 ++ dktX0_bar_2
def dkwX0_bar_0 : List UInt8 := [27, 42, 180, 0, 35, 180, 0, 226, 182, 0, 111, 184, 0, 117, 154, 0, 5, 3, 172, 42, 180, 0, 46, 28]
abbrev dktX0_bar_0 : List UInt8 := dkwX0_bar_0 ++ dktX0_bar_1
theorem dksX0_bar_0 : cX0_bar.data.toList.drop 0 = dktX0_bar_0 := by decide +kernel
theorem dksX0_bar_1 : cX0_bar.data.toList.drop 24 = dktX0_bar_1 := dk_seg dksX0_bar_0 24 rfl rfl
theorem dksX0_bar_2 : cX0_bar.data.toList.drop 48 = dktX0_bar_2 := dk_seg dksX0_bar_1 24 rfl rfl
theorem dX0_bar_0 : decode cX0_bar 0 = .ok (.iload_n 1, 1) := dk_27 (dk_at dksX0_bar_0 0 rfl rfl)
theorem dX0_bar_1 : decode cX0_bar 1 = .ok (.aload_n 0, 1) := dk_42 (dk_at dksX0_bar_0 1 rfl rfl)
theorem dX0_bar_2 : decode cX0_bar 2 = .ok (.getfield 35, 3) := dk_180 0 35 (dk_at dksX0_bar_0 2 rfl rfl)
theorem dX0_bar_5 : decode cX0_bar 5 = .ok (.getfield 226, 3) := dk_180 0 226 (dk_at dksX0_bar_0 5 rfl rfl)
theorem dX0_bar_8 : decode cX0_bar 8 = .ok (.invokevirtual 111, 3) := dk_182 0 111 (dk_at dksX0_bar_0 8 rfl rfl)
theorem dX0_bar_11 : decode cX0_bar 11 = .ok (.invokestatic 117, 3) := dk_184 0 117 (dk_at dksX0_bar_0 11 rfl rfl)
theorem dX0_bar_14 : decode cX0_bar 14 = .ok (.ifCond .ne 5, 3) := dk_154 0 5 (dk_at dksX0_bar_0 14 rfl rfl)
theorem dX0_bar_17 : decode cX0_bar 17 = .ok (.iconst 0, 1) := dk_3 (dk_at dksX0_bar_0 17 rfl rfl)
theorem dX0_bar_18 : decode cX0_bar 18 = .ok (.ireturn, 1) := dk_172 (dk_at dksX0_bar_0 18 rfl rfl)
theorem dX0_bar_19 : decode cX0_bar 19 = .ok (.aload_n 0, 1) := dk_42 (dk_at dksX0_bar_0 19 rfl rfl)
theorem dX0_bar_20 : decode cX0_bar 20 = .ok (.getfield 46, 3) := dk_180 0 46 (dk_at dksX0_bar_0 20 rfl rfl)
theorem dX0_bar_23 : decode cX0_bar 23 = .ok (.iload_n 2, 1) := dk_28 (dk_at dksX0_bar_0 23 rfl rfl)
theorem dX0_bar_24 : decode cX0_bar 24 = .ok (.ifCond .eq 17, 3) := dk_153 0 17 (dk_at dksX0_bar_1 0 rfl rfl)
theorem dX0_bar_27 : decode cX0_bar 27 = .ok (.aload_n 0, 1) := dk_42 (dk_at dksX0_bar_1 3 rfl rfl)
theorem dX0_bar_28 : decode cX0_bar 28 = .ok (.getfield 46, 3) := dk_180 0 46 (dk_at dksX0_bar_1 4 rfl rfl)
theorem dX0_bar_31 : decode cX0_bar 31 = .ok (.getfield 229, 3) := dk_180 0 229 (dk_at dksX0_bar_1 7 rfl rfl)
theorem dX0_bar_34 : decode cX0_bar 34 = .ok (.iconst 1, 1) := dk_4 (dk_at dksX0_bar_1 10 rfl rfl)
theorem dX0_bar_35 : decode cX0_bar 35 = .ok (.iload_n 1, 1) := dk_27 (dk_at dksX0_bar_1 11 rfl rfl)
theorem dX0_bar_36 : decode cX0_bar 36 = .ok (.ishl, 1) := dk_120 (dk_at dksX0_bar_1 12 rfl rfl)
theorem dX0_bar_37 : decode cX0_bar 37 = .ok (.ior, 1) := dk_128 (dk_at dksX0_bar_1 13 rfl rfl)
theorem dX0_bar_38 : decode cX0_bar 38 = .ok (.goto 16, 3) := dk_167 0 16 (dk_at dksX0_bar_1 14 rfl rfl)
theorem dX0_bar_41 : decode cX0_bar 41 = .ok (.aload_n 0, 1) := dk_42 (dk_at dksX0_bar_1 17 rfl rfl)
theorem dX0_bar_42 : decode cX0_bar 42 = .ok (.getfield 46, 3) := dk_180 0 46 (dk_at dksX0_bar_1 18 rfl rfl)
theorem dX0_bar_45 : decode cX0_bar 45 = .ok (.getfield 229, 3) := dk_180 0 229 (dk_at dksX0_bar_1 21 rfl rfl)
theorem dX0_bar_48 : decode cX0_bar 48 = .ok (.iconst 1, 1) := dk_4 (dk_at dksX0_bar_2 0 rfl rfl)
theorem dX0_bar_49 : decode cX0_bar 49 = .ok (.iload_n 1, 1) := dk_27 (dk_at dksX0_bar_2 1 rfl rfl)
theorem dX0_bar_50 : decode cX0_bar 50 = .ok (.ishl, 1) := dk_120 (dk_at dksX0_bar_2 2 rfl rfl)
theorem dX0_bar_51 : decode cX0_bar 51 = .ok (.iconst (-1), 1) := dk_2 (dk_at dksX0_bar_2 3 rfl rfl)
theorem dX0_bar_52 : decode cX0_bar 52 = .ok (.ixor, 1) := dk_130 (dk_at dksX0_bar_2 4 rfl rfl)
theorem dX0_bar_53 : decode cX0_bar 53 = .ok (.iand, 1) := dk_126 (dk_at dksX0_bar_2 5 rfl rfl)
theorem dX0_bar_54 : decode cX0_bar 54 = .ok (.putfield 229, 3) := dk_181 0 229 (dk_at dksX0_bar_2 6 rfl rfl)
theorem dX0_bar_57 : decode cX0_bar 57 = .ok (.iconst 1, 1) := dk_4 (dk_at dksX0_bar_2 9 rfl rfl)
theorem dX0_bar_58 : decode cX0_bar 58 = .ok (.ireturn, 1) := dk_172 (dk_at dksX0_bar_2 10 rfl rfl)
abbrev cX0_night : ByteArray := prog_1_method_23_code
def yX0_night : MethodName := ⟨RX0, "night", "()I"⟩
def dkwX0_night_3 : List UInt8 := [180, 0, 46, 42, 180, 0, 35, 182, 0, 245, 27, 100, 172]
abbrev dktX0_night_3 : List UInt8 := dkwX0_night_3 ++ []
def dkwX0_night_2 : List UInt8 := [180, 0, 46, 42, 180, 0, 35, 182, 0, 245, 60, 42, 180, 0, 46, 42, 180, 0, 35, 182, 0, 249, 42]
abbrev dktX0_night_2 : List UInt8 := dkwX0_night_2 ++ dktX0_night_3
def dkwX0_night_1 : List UInt8 := [16, 20, 112, 181, 0, 232, 42, 16, 20, 42, 180, 0, 93, 4, 96, 184, 0, 239, 181, 0, 93, 42]
abbrev dktX0_night_1 : List UInt8 := dkwX0_night_1 ++ dktX0_night_2
def dkwX0_night_0 : List UInt8 := [42, 180, 0, 53, 42, 180, 0, 232, 50, 42, 180, 0, 46, 182, 0, 235, 42, 42, 180, 0, 232, 4, 96]
abbrev dktX0_night_0 : List UInt8 := dkwX0_night_0 ++ dktX0_night_1
theorem dksX0_night_0 : cX0_night.data.toList.drop 0 = dktX0_night_0 := by decide +kernel
theorem dksX0_night_1 : cX0_night.data.toList.drop 23 = dktX0_night_1 := dk_seg dksX0_night_0 23 rfl rfl
theorem dksX0_night_2 : cX0_night.data.toList.drop 45 = dktX0_night_2 := dk_seg dksX0_night_1 22 rfl rfl
theorem dksX0_night_3 : cX0_night.data.toList.drop 68 = dktX0_night_3 := dk_seg dksX0_night_2 23 rfl rfl
theorem dX0_night_0 : decode cX0_night 0 = .ok (.aload_n 0, 1) := dk_42 (dk_at dksX0_night_0 0 rfl rfl)
theorem dX0_night_1 : decode cX0_night 1 = .ok (.getfield 53, 3) := dk_180 0 53 (dk_at dksX0_night_0 1 rfl rfl)
theorem dX0_night_4 : decode cX0_night 4 = .ok (.aload_n 0, 1) := dk_42 (dk_at dksX0_night_0 4 rfl rfl)
theorem dX0_night_5 : decode cX0_night 5 = .ok (.getfield 232, 3) := dk_180 0 232 (dk_at dksX0_night_0 5 rfl rfl)
theorem dX0_night_8 : decode cX0_night 8 = .ok (.aaload, 1) := dk_50 (dk_at dksX0_night_0 8 rfl rfl)
theorem dX0_night_9 : decode cX0_night 9 = .ok (.aload_n 0, 1) := dk_42 (dk_at dksX0_night_0 9 rfl rfl)
theorem dX0_night_10 : decode cX0_night 10 = .ok (.getfield 46, 3) := dk_180 0 46 (dk_at dksX0_night_0 10 rfl rfl)
theorem dX0_night_13 : decode cX0_night 13 = .ok (.invokevirtual 235, 3) := dk_182 0 235 (dk_at dksX0_night_0 13 rfl rfl)
theorem dX0_night_16 : decode cX0_night 16 = .ok (.aload_n 0, 1) := dk_42 (dk_at dksX0_night_0 16 rfl rfl)
theorem dX0_night_17 : decode cX0_night 17 = .ok (.aload_n 0, 1) := dk_42 (dk_at dksX0_night_0 17 rfl rfl)
theorem dX0_night_18 : decode cX0_night 18 = .ok (.getfield 232, 3) := dk_180 0 232 (dk_at dksX0_night_0 18 rfl rfl)
theorem dX0_night_21 : decode cX0_night 21 = .ok (.iconst 1, 1) := dk_4 (dk_at dksX0_night_0 21 rfl rfl)
theorem dX0_night_22 : decode cX0_night 22 = .ok (.iadd, 1) := dk_96 (dk_at dksX0_night_0 22 rfl rfl)
theorem dX0_night_23 : decode cX0_night 23 = .ok (.bipush 20, 2) := dk_16 20 (dk_at dksX0_night_1 0 rfl rfl)
theorem dX0_night_25 : decode cX0_night 25 = .ok (.irem, 1) := dk_112 (dk_at dksX0_night_1 2 rfl rfl)
theorem dX0_night_26 : decode cX0_night 26 = .ok (.putfield 232, 3) := dk_181 0 232 (dk_at dksX0_night_1 3 rfl rfl)
theorem dX0_night_29 : decode cX0_night 29 = .ok (.aload_n 0, 1) := dk_42 (dk_at dksX0_night_1 6 rfl rfl)
theorem dX0_night_30 : decode cX0_night 30 = .ok (.bipush 20, 2) := dk_16 20 (dk_at dksX0_night_1 7 rfl rfl)
theorem dX0_night_32 : decode cX0_night 32 = .ok (.aload_n 0, 1) := dk_42 (dk_at dksX0_night_1 9 rfl rfl)
theorem dX0_night_33 : decode cX0_night 33 = .ok (.getfield 93, 3) := dk_180 0 93 (dk_at dksX0_night_1 10 rfl rfl)
theorem dX0_night_36 : decode cX0_night 36 = .ok (.iconst 1, 1) := dk_4 (dk_at dksX0_night_1 13 rfl rfl)
theorem dX0_night_37 : decode cX0_night 37 = .ok (.iadd, 1) := dk_96 (dk_at dksX0_night_1 14 rfl rfl)
theorem dX0_night_38 : decode cX0_night 38 = .ok (.invokestatic 239, 3) := dk_184 0 239 (dk_at dksX0_night_1 15 rfl rfl)
theorem dX0_night_41 : decode cX0_night 41 = .ok (.putfield 93, 3) := dk_181 0 93 (dk_at dksX0_night_1 18 rfl rfl)
theorem dX0_night_44 : decode cX0_night 44 = .ok (.aload_n 0, 1) := dk_42 (dk_at dksX0_night_1 21 rfl rfl)
theorem dX0_night_45 : decode cX0_night 45 = .ok (.getfield 46, 3) := dk_180 0 46 (dk_at dksX0_night_2 0 rfl rfl)
theorem dX0_night_48 : decode cX0_night 48 = .ok (.aload_n 0, 1) := dk_42 (dk_at dksX0_night_2 3 rfl rfl)
theorem dX0_night_49 : decode cX0_night 49 = .ok (.getfield 35, 3) := dk_180 0 35 (dk_at dksX0_night_2 4 rfl rfl)
theorem dX0_night_52 : decode cX0_night 52 = .ok (.invokevirtual 245, 3) := dk_182 0 245 (dk_at dksX0_night_2 7 rfl rfl)
theorem dX0_night_55 : decode cX0_night 55 = .ok (.istore_n 1, 1) := dk_60 (dk_at dksX0_night_2 10 rfl rfl)
theorem dX0_night_56 : decode cX0_night 56 = .ok (.aload_n 0, 1) := dk_42 (dk_at dksX0_night_2 11 rfl rfl)
theorem dX0_night_57 : decode cX0_night 57 = .ok (.getfield 46, 3) := dk_180 0 46 (dk_at dksX0_night_2 12 rfl rfl)
theorem dX0_night_60 : decode cX0_night 60 = .ok (.aload_n 0, 1) := dk_42 (dk_at dksX0_night_2 15 rfl rfl)
theorem dX0_night_61 : decode cX0_night 61 = .ok (.getfield 35, 3) := dk_180 0 35 (dk_at dksX0_night_2 16 rfl rfl)
theorem dX0_night_64 : decode cX0_night 64 = .ok (.invokevirtual 249, 3) := dk_182 0 249 (dk_at dksX0_night_2 19 rfl rfl)
theorem dX0_night_67 : decode cX0_night 67 = .ok (.aload_n 0, 1) := dk_42 (dk_at dksX0_night_2 22 rfl rfl)
theorem dX0_night_68 : decode cX0_night 68 = .ok (.getfield 46, 3) := dk_180 0 46 (dk_at dksX0_night_3 0 rfl rfl)
theorem dX0_night_71 : decode cX0_night 71 = .ok (.aload_n 0, 1) := dk_42 (dk_at dksX0_night_3 3 rfl rfl)
theorem dX0_night_72 : decode cX0_night 72 = .ok (.getfield 35, 3) := dk_180 0 35 (dk_at dksX0_night_3 4 rfl rfl)
theorem dX0_night_75 : decode cX0_night 75 = .ok (.invokevirtual 245, 3) := dk_182 0 245 (dk_at dksX0_night_3 7 rfl rfl)
theorem dX0_night_78 : decode cX0_night 78 = .ok (.iload_n 1, 1) := dk_27 (dk_at dksX0_night_3 10 rfl rfl)
theorem dX0_night_79 : decode cX0_night 79 = .ok (.isub, 1) := dk_100 (dk_at dksX0_night_3 11 rfl rfl)
theorem dX0_night_80 : decode cX0_night 80 = .ok (.ireturn, 1) := dk_172 (dk_at dksX0_night_3 12 rfl rfl)
abbrev cX0_undo : ByteArray := prog_1_method_24_code
def yX0_undo : MethodName := ⟨RX0, "undo", "()Z"⟩
def dkwX0_undo_2 : List UInt8 := [182, 0, 235, 4, 172]
abbrev dktX0_undo_2 : List UInt8 := dkwX0_undo_2 ++ []
def dkwX0_undo_1 : List UInt8 := [16, 20, 96, 4, 100, 16, 20, 112, 181, 0, 232, 42, 180, 0, 46, 42, 180, 0, 53, 42, 180, 0, 232, 50]
abbrev dktX0_undo_1 : List UInt8 := dkwX0_undo_1 ++ dktX0_undo_2
def dkwX0_undo_0 : List UInt8 := [42, 180, 0, 93, 154, 0, 5, 3, 172, 42, 89, 180, 0, 93, 4, 100, 181, 0, 93, 42, 42, 180, 0, 232]
abbrev dktX0_undo_0 : List UInt8 := dkwX0_undo_0 ++ dktX0_undo_1
theorem dksX0_undo_0 : cX0_undo.data.toList.drop 0 = dktX0_undo_0 := by decide +kernel
theorem dksX0_undo_1 : cX0_undo.data.toList.drop 24 = dktX0_undo_1 := dk_seg dksX0_undo_0 24 rfl rfl
theorem dksX0_undo_2 : cX0_undo.data.toList.drop 48 = dktX0_undo_2 := dk_seg dksX0_undo_1 24 rfl rfl
theorem dX0_undo_0 : decode cX0_undo 0 = .ok (.aload_n 0, 1) := dk_42 (dk_at dksX0_undo_0 0 rfl rfl)
theorem dX0_undo_1 : decode cX0_undo 1 = .ok (.getfield 93, 3) := dk_180 0 93 (dk_at dksX0_undo_0 1 rfl rfl)
theorem dX0_undo_4 : decode cX0_undo 4 = .ok (.ifCond .ne 5, 3) := dk_154 0 5 (dk_at dksX0_undo_0 4 rfl rfl)
theorem dX0_undo_7 : decode cX0_undo 7 = .ok (.iconst 0, 1) := dk_3 (dk_at dksX0_undo_0 7 rfl rfl)
theorem dX0_undo_8 : decode cX0_undo 8 = .ok (.ireturn, 1) := dk_172 (dk_at dksX0_undo_0 8 rfl rfl)
theorem dX0_undo_9 : decode cX0_undo 9 = .ok (.aload_n 0, 1) := dk_42 (dk_at dksX0_undo_0 9 rfl rfl)
theorem dX0_undo_10 : decode cX0_undo 10 = .ok (.dup, 1) := dk_89 (dk_at dksX0_undo_0 10 rfl rfl)
theorem dX0_undo_11 : decode cX0_undo 11 = .ok (.getfield 93, 3) := dk_180 0 93 (dk_at dksX0_undo_0 11 rfl rfl)
theorem dX0_undo_14 : decode cX0_undo 14 = .ok (.iconst 1, 1) := dk_4 (dk_at dksX0_undo_0 14 rfl rfl)
theorem dX0_undo_15 : decode cX0_undo 15 = .ok (.isub, 1) := dk_100 (dk_at dksX0_undo_0 15 rfl rfl)
theorem dX0_undo_16 : decode cX0_undo 16 = .ok (.putfield 93, 3) := dk_181 0 93 (dk_at dksX0_undo_0 16 rfl rfl)
theorem dX0_undo_19 : decode cX0_undo 19 = .ok (.aload_n 0, 1) := dk_42 (dk_at dksX0_undo_0 19 rfl rfl)
theorem dX0_undo_20 : decode cX0_undo 20 = .ok (.aload_n 0, 1) := dk_42 (dk_at dksX0_undo_0 20 rfl rfl)
theorem dX0_undo_21 : decode cX0_undo 21 = .ok (.getfield 232, 3) := dk_180 0 232 (dk_at dksX0_undo_0 21 rfl rfl)
theorem dX0_undo_24 : decode cX0_undo 24 = .ok (.bipush 20, 2) := dk_16 20 (dk_at dksX0_undo_1 0 rfl rfl)
theorem dX0_undo_26 : decode cX0_undo 26 = .ok (.iadd, 1) := dk_96 (dk_at dksX0_undo_1 2 rfl rfl)
theorem dX0_undo_27 : decode cX0_undo 27 = .ok (.iconst 1, 1) := dk_4 (dk_at dksX0_undo_1 3 rfl rfl)
theorem dX0_undo_28 : decode cX0_undo 28 = .ok (.isub, 1) := dk_100 (dk_at dksX0_undo_1 4 rfl rfl)
theorem dX0_undo_29 : decode cX0_undo 29 = .ok (.bipush 20, 2) := dk_16 20 (dk_at dksX0_undo_1 5 rfl rfl)
theorem dX0_undo_31 : decode cX0_undo 31 = .ok (.irem, 1) := dk_112 (dk_at dksX0_undo_1 7 rfl rfl)
theorem dX0_undo_32 : decode cX0_undo 32 = .ok (.putfield 232, 3) := dk_181 0 232 (dk_at dksX0_undo_1 8 rfl rfl)
theorem dX0_undo_35 : decode cX0_undo 35 = .ok (.aload_n 0, 1) := dk_42 (dk_at dksX0_undo_1 11 rfl rfl)
theorem dX0_undo_36 : decode cX0_undo 36 = .ok (.getfield 46, 3) := dk_180 0 46 (dk_at dksX0_undo_1 12 rfl rfl)
theorem dX0_undo_39 : decode cX0_undo 39 = .ok (.aload_n 0, 1) := dk_42 (dk_at dksX0_undo_1 15 rfl rfl)
theorem dX0_undo_40 : decode cX0_undo 40 = .ok (.getfield 53, 3) := dk_180 0 53 (dk_at dksX0_undo_1 16 rfl rfl)
theorem dX0_undo_43 : decode cX0_undo 43 = .ok (.aload_n 0, 1) := dk_42 (dk_at dksX0_undo_1 19 rfl rfl)
theorem dX0_undo_44 : decode cX0_undo 44 = .ok (.getfield 232, 3) := dk_180 0 232 (dk_at dksX0_undo_1 20 rfl rfl)
theorem dX0_undo_47 : decode cX0_undo 47 = .ok (.aaload, 1) := dk_50 (dk_at dksX0_undo_1 23 rfl rfl)
theorem dX0_undo_48 : decode cX0_undo 48 = .ok (.invokevirtual 235, 3) := dk_182 0 235 (dk_at dksX0_undo_2 0 rfl rfl)
theorem dX0_undo_51 : decode cX0_undo 51 = .ok (.iconst 1, 1) := dk_4 (dk_at dksX0_undo_2 3 rfl rfl)
theorem dX0_undo_52 : decode cX0_undo 52 = .ok (.ireturn, 1) := dk_172 (dk_at dksX0_undo_2 4 rfl rfl)
abbrev cX0_gain : ByteArray := prog_1_method_26_code
def yX0_gain : MethodName := ⟨RX0, "gain", "()I"⟩
def dkwX0_gain_0 : List UInt8 := [42, 180, 0, 50, 42, 180, 0, 46, 182, 0, 235, 42, 182, 0, 252, 172]
abbrev dktX0_gain_0 : List UInt8 := dkwX0_gain_0 ++ []
theorem dksX0_gain_0 : cX0_gain.data.toList.drop 0 = dktX0_gain_0 := by decide +kernel
theorem dX0_gain_0 : decode cX0_gain 0 = .ok (.aload_n 0, 1) := dk_42 (dk_at dksX0_gain_0 0 rfl rfl)
theorem dX0_gain_1 : decode cX0_gain 1 = .ok (.getfield 50, 3) := dk_180 0 50 (dk_at dksX0_gain_0 1 rfl rfl)
theorem dX0_gain_4 : decode cX0_gain 4 = .ok (.aload_n 0, 1) := dk_42 (dk_at dksX0_gain_0 4 rfl rfl)
theorem dX0_gain_5 : decode cX0_gain 5 = .ok (.getfield 46, 3) := dk_180 0 46 (dk_at dksX0_gain_0 5 rfl rfl)
theorem dX0_gain_8 : decode cX0_gain 8 = .ok (.invokevirtual 235, 3) := dk_182 0 235 (dk_at dksX0_gain_0 8 rfl rfl)
theorem dX0_gain_11 : decode cX0_gain 11 = .ok (.aload_n 0, 1) := dk_42 (dk_at dksX0_gain_0 11 rfl rfl)
theorem dX0_gain_12 : decode cX0_gain 12 = .ok (.invokevirtual 252, 3) := dk_182 0 252 (dk_at dksX0_gain_0 12 rfl rfl)
theorem dX0_gain_15 : decode cX0_gain 15 = .ok (.ireturn, 1) := dk_172 (dk_at dksX0_gain_0 15 rfl rfl)
abbrev cX0_brings : ByteArray := prog_1_method_25_code
def yX0_brings : MethodName := ⟨RX0, "brings", "()I"⟩
def dkwX0_brings_1 : List UInt8 := [180, 0, 50, 42, 180, 0, 35, 182, 0, 245, 27, 100, 172]
abbrev dktX0_brings_1 : List UInt8 := dkwX0_brings_1 ++ []
def dkwX0_brings_0 : List UInt8 := [42, 180, 0, 50, 42, 180, 0, 35, 182, 0, 245, 60, 42, 180, 0, 50, 42, 180, 0, 35, 182, 0, 249, 42]
abbrev dktX0_brings_0 : List UInt8 := dkwX0_brings_0 ++ dktX0_brings_1
theorem dksX0_brings_0 : cX0_brings.data.toList.drop 0 = dktX0_brings_0 := by decide +kernel
theorem dksX0_brings_1 : cX0_brings.data.toList.drop 24 = dktX0_brings_1 := dk_seg dksX0_brings_0 24 rfl rfl
theorem dX0_brings_0 : decode cX0_brings 0 = .ok (.aload_n 0, 1) := dk_42 (dk_at dksX0_brings_0 0 rfl rfl)
theorem dX0_brings_1 : decode cX0_brings 1 = .ok (.getfield 50, 3) := dk_180 0 50 (dk_at dksX0_brings_0 1 rfl rfl)
theorem dX0_brings_4 : decode cX0_brings 4 = .ok (.aload_n 0, 1) := dk_42 (dk_at dksX0_brings_0 4 rfl rfl)
theorem dX0_brings_5 : decode cX0_brings 5 = .ok (.getfield 35, 3) := dk_180 0 35 (dk_at dksX0_brings_0 5 rfl rfl)
theorem dX0_brings_8 : decode cX0_brings 8 = .ok (.invokevirtual 245, 3) := dk_182 0 245 (dk_at dksX0_brings_0 8 rfl rfl)
theorem dX0_brings_11 : decode cX0_brings 11 = .ok (.istore_n 1, 1) := dk_60 (dk_at dksX0_brings_0 11 rfl rfl)
theorem dX0_brings_12 : decode cX0_brings 12 = .ok (.aload_n 0, 1) := dk_42 (dk_at dksX0_brings_0 12 rfl rfl)
theorem dX0_brings_13 : decode cX0_brings 13 = .ok (.getfield 50, 3) := dk_180 0 50 (dk_at dksX0_brings_0 13 rfl rfl)
theorem dX0_brings_16 : decode cX0_brings 16 = .ok (.aload_n 0, 1) := dk_42 (dk_at dksX0_brings_0 16 rfl rfl)
theorem dX0_brings_17 : decode cX0_brings 17 = .ok (.getfield 35, 3) := dk_180 0 35 (dk_at dksX0_brings_0 17 rfl rfl)
theorem dX0_brings_20 : decode cX0_brings 20 = .ok (.invokevirtual 249, 3) := dk_182 0 249 (dk_at dksX0_brings_0 20 rfl rfl)
theorem dX0_brings_23 : decode cX0_brings 23 = .ok (.aload_n 0, 1) := dk_42 (dk_at dksX0_brings_0 23 rfl rfl)
theorem dX0_brings_24 : decode cX0_brings 24 = .ok (.getfield 50, 3) := dk_180 0 50 (dk_at dksX0_brings_1 0 rfl rfl)
theorem dX0_brings_27 : decode cX0_brings 27 = .ok (.aload_n 0, 1) := dk_42 (dk_at dksX0_brings_1 3 rfl rfl)
theorem dX0_brings_28 : decode cX0_brings 28 = .ok (.getfield 35, 3) := dk_180 0 35 (dk_at dksX0_brings_1 4 rfl rfl)
theorem dX0_brings_31 : decode cX0_brings 31 = .ok (.invokevirtual 245, 3) := dk_182 0 245 (dk_at dksX0_brings_1 7 rfl rfl)
theorem dX0_brings_34 : decode cX0_brings 34 = .ok (.iload_n 1, 1) := dk_27 (dk_at dksX0_brings_1 10 rfl rfl)
theorem dX0_brings_35 : decode cX0_brings 35 = .ok (.isub, 1) := dk_100 (dk_at dksX0_brings_1 11 rfl rfl)
theorem dX0_brings_36 : decode cX0_brings 36 = .ok (.ireturn, 1) := dk_172 (dk_at dksX0_brings_1 12 rfl rfl)
abbrev cX0_best : ByteArray := prog_1_method_31_code
def yX0_best : MethodName := ⟨RX0, "best", "(II)I"⟩
def dkwX0_best_1 : List UInt8 := [28, 154, 0, 10, 42, 180, 1, 10, 167, 0, 7, 42, 180, 1, 13, 172]
abbrev dktX0_best_1 : List UInt8 := dkwX0_best_1 ++ []
def dkwX0_best_0 : List UInt8 := [42, 27, 182, 0, 183, 153, 0, 12, 28, 3, 4, 184, 0, 103, 154, 0, 5, 2, 172, 42, 27, 182, 1, 16]
abbrev dktX0_best_0 : List UInt8 := dkwX0_best_0 ++ dktX0_best_1
theorem dksX0_best_0 : cX0_best.data.toList.drop 0 = dktX0_best_0 := by decide +kernel
theorem dksX0_best_1 : cX0_best.data.toList.drop 24 = dktX0_best_1 := dk_seg dksX0_best_0 24 rfl rfl
theorem dX0_best_0 : decode cX0_best 0 = .ok (.aload_n 0, 1) := dk_42 (dk_at dksX0_best_0 0 rfl rfl)
theorem dX0_best_1 : decode cX0_best 1 = .ok (.iload_n 1, 1) := dk_27 (dk_at dksX0_best_0 1 rfl rfl)
theorem dX0_best_2 : decode cX0_best 2 = .ok (.invokevirtual 183, 3) := dk_182 0 183 (dk_at dksX0_best_0 2 rfl rfl)
theorem dX0_best_5 : decode cX0_best 5 = .ok (.ifCond .eq 12, 3) := dk_153 0 12 (dk_at dksX0_best_0 5 rfl rfl)
theorem dX0_best_8 : decode cX0_best 8 = .ok (.iload_n 2, 1) := dk_28 (dk_at dksX0_best_0 8 rfl rfl)
theorem dX0_best_9 : decode cX0_best 9 = .ok (.iconst 0, 1) := dk_3 (dk_at dksX0_best_0 9 rfl rfl)
theorem dX0_best_10 : decode cX0_best 10 = .ok (.iconst 1, 1) := dk_4 (dk_at dksX0_best_0 10 rfl rfl)
theorem dX0_best_11 : decode cX0_best 11 = .ok (.invokestatic 103, 3) := dk_184 0 103 (dk_at dksX0_best_0 11 rfl rfl)
theorem dX0_best_14 : decode cX0_best 14 = .ok (.ifCond .ne 5, 3) := dk_154 0 5 (dk_at dksX0_best_0 14 rfl rfl)
theorem dX0_best_17 : decode cX0_best 17 = .ok (.iconst (-1), 1) := dk_2 (dk_at dksX0_best_0 17 rfl rfl)
theorem dX0_best_18 : decode cX0_best 18 = .ok (.ireturn, 1) := dk_172 (dk_at dksX0_best_0 18 rfl rfl)
theorem dX0_best_19 : decode cX0_best 19 = .ok (.aload_n 0, 1) := dk_42 (dk_at dksX0_best_0 19 rfl rfl)
theorem dX0_best_20 : decode cX0_best 20 = .ok (.iload_n 1, 1) := dk_27 (dk_at dksX0_best_0 20 rfl rfl)
theorem dX0_best_21 : decode cX0_best 21 = .ok (.invokevirtual 272, 3) := dk_182 1 16 (dk_at dksX0_best_0 21 rfl rfl)
theorem dX0_best_24 : decode cX0_best 24 = .ok (.iload_n 2, 1) := dk_28 (dk_at dksX0_best_1 0 rfl rfl)
theorem dX0_best_25 : decode cX0_best 25 = .ok (.ifCond .ne 10, 3) := dk_154 0 10 (dk_at dksX0_best_1 1 rfl rfl)
theorem dX0_best_28 : decode cX0_best 28 = .ok (.aload_n 0, 1) := dk_42 (dk_at dksX0_best_1 4 rfl rfl)
theorem dX0_best_29 : decode cX0_best 29 = .ok (.getfield 266, 3) := dk_180 1 10 (dk_at dksX0_best_1 5 rfl rfl)
theorem dX0_best_32 : decode cX0_best 32 = .ok (.goto 7, 3) := dk_167 0 7 (dk_at dksX0_best_1 8 rfl rfl)
theorem dX0_best_35 : decode cX0_best 35 = .ok (.aload_n 0, 1) := dk_42 (dk_at dksX0_best_1 11 rfl rfl)
theorem dX0_best_36 : decode cX0_best 36 = .ok (.getfield 269, 3) := dk_180 1 13 (dk_at dksX0_best_1 12 rfl rfl)
theorem dX0_best_39 : decode cX0_best 39 = .ok (.ireturn, 1) := dk_172 (dk_at dksX0_best_1 15 rfl rfl)
abbrev cX0_evening : ByteArray := prog_1_method_30_code
def yX0_evening : MethodName := ⟨RX0, "evening", "(I)V"⟩
def dkwX0_evening_2 : List UInt8 := [167, 0, 17, 42, 29, 181, 1, 10, 42, 42, 28, 182, 1, 2, 181, 1, 13, 132, 2, 1, 167, 255, 190, 177]
abbrev dktX0_evening_2 : List UInt8 := dkwX0_evening_2 ++ []
def dkwX0_evening_1 : List UInt8 := [28, 182, 1, 2, 182, 1, 6, 42, 182, 0, 252, 62, 28, 158, 0, 14, 29, 42, 180, 1, 10, 163, 0, 6]
abbrev dktX0_evening_1 : List UInt8 := dkwX0_evening_1 ++ dktX0_evening_2
def dkwX0_evening_0 : List UInt8 := [3, 61, 28, 42, 182, 0, 255, 162, 0, 64, 42, 180, 0, 50, 42, 180, 0, 46, 182, 0, 235, 42, 27, 42]
abbrev dktX0_evening_0 : List UInt8 := dkwX0_evening_0 ++ dktX0_evening_1
theorem dksX0_evening_0 : cX0_evening.data.toList.drop 0 = dktX0_evening_0 := by decide +kernel
theorem dksX0_evening_1 : cX0_evening.data.toList.drop 24 = dktX0_evening_1 := dk_seg dksX0_evening_0 24 rfl rfl
theorem dksX0_evening_2 : cX0_evening.data.toList.drop 48 = dktX0_evening_2 := dk_seg dksX0_evening_1 24 rfl rfl
theorem dX0_evening_0 : decode cX0_evening 0 = .ok (.iconst 0, 1) := dk_3 (dk_at dksX0_evening_0 0 rfl rfl)
theorem dX0_evening_1 : decode cX0_evening 1 = .ok (.istore_n 2, 1) := dk_61 (dk_at dksX0_evening_0 1 rfl rfl)
theorem dX0_evening_2 : decode cX0_evening 2 = .ok (.iload_n 2, 1) := dk_28 (dk_at dksX0_evening_0 2 rfl rfl)
theorem dX0_evening_3 : decode cX0_evening 3 = .ok (.aload_n 0, 1) := dk_42 (dk_at dksX0_evening_0 3 rfl rfl)
theorem dX0_evening_4 : decode cX0_evening 4 = .ok (.invokevirtual 255, 3) := dk_182 0 255 (dk_at dksX0_evening_0 4 rfl rfl)
theorem dX0_evening_7 : decode cX0_evening 7 = .ok (.if_icmp .ge 64, 3) := dk_162 0 64 (dk_at dksX0_evening_0 7 rfl rfl)
theorem dX0_evening_10 : decode cX0_evening 10 = .ok (.aload_n 0, 1) := dk_42 (dk_at dksX0_evening_0 10 rfl rfl)
theorem dX0_evening_11 : decode cX0_evening 11 = .ok (.getfield 50, 3) := dk_180 0 50 (dk_at dksX0_evening_0 11 rfl rfl)
theorem dX0_evening_14 : decode cX0_evening 14 = .ok (.aload_n 0, 1) := dk_42 (dk_at dksX0_evening_0 14 rfl rfl)
theorem dX0_evening_15 : decode cX0_evening 15 = .ok (.getfield 46, 3) := dk_180 0 46 (dk_at dksX0_evening_0 15 rfl rfl)
theorem dX0_evening_18 : decode cX0_evening 18 = .ok (.invokevirtual 235, 3) := dk_182 0 235 (dk_at dksX0_evening_0 18 rfl rfl)
theorem dX0_evening_21 : decode cX0_evening 21 = .ok (.aload_n 0, 1) := dk_42 (dk_at dksX0_evening_0 21 rfl rfl)
theorem dX0_evening_22 : decode cX0_evening 22 = .ok (.iload_n 1, 1) := dk_27 (dk_at dksX0_evening_0 22 rfl rfl)
theorem dX0_evening_23 : decode cX0_evening 23 = .ok (.aload_n 0, 1) := dk_42 (dk_at dksX0_evening_0 23 rfl rfl)
theorem dX0_evening_24 : decode cX0_evening 24 = .ok (.iload_n 2, 1) := dk_28 (dk_at dksX0_evening_1 0 rfl rfl)
theorem dX0_evening_25 : decode cX0_evening 25 = .ok (.invokevirtual 258, 3) := dk_182 1 2 (dk_at dksX0_evening_1 1 rfl rfl)
theorem dX0_evening_28 : decode cX0_evening 28 = .ok (.invokevirtual 262, 3) := dk_182 1 6 (dk_at dksX0_evening_1 4 rfl rfl)
theorem dX0_evening_31 : decode cX0_evening 31 = .ok (.aload_n 0, 1) := dk_42 (dk_at dksX0_evening_1 7 rfl rfl)
theorem dX0_evening_32 : decode cX0_evening 32 = .ok (.invokevirtual 252, 3) := dk_182 0 252 (dk_at dksX0_evening_1 8 rfl rfl)
theorem dX0_evening_35 : decode cX0_evening 35 = .ok (.istore_n 3, 1) := dk_62 (dk_at dksX0_evening_1 11 rfl rfl)
theorem dX0_evening_36 : decode cX0_evening 36 = .ok (.iload_n 2, 1) := dk_28 (dk_at dksX0_evening_1 12 rfl rfl)
theorem dX0_evening_37 : decode cX0_evening 37 = .ok (.ifCond .le 14, 3) := dk_158 0 14 (dk_at dksX0_evening_1 13 rfl rfl)
theorem dX0_evening_40 : decode cX0_evening 40 = .ok (.iload_n 3, 1) := dk_29 (dk_at dksX0_evening_1 16 rfl rfl)
theorem dX0_evening_41 : decode cX0_evening 41 = .ok (.aload_n 0, 1) := dk_42 (dk_at dksX0_evening_1 17 rfl rfl)
theorem dX0_evening_42 : decode cX0_evening 42 = .ok (.getfield 266, 3) := dk_180 1 10 (dk_at dksX0_evening_1 18 rfl rfl)
theorem dX0_evening_45 : decode cX0_evening 45 = .ok (.if_icmp .gt 6, 3) := dk_163 0 6 (dk_at dksX0_evening_1 21 rfl rfl)
theorem dX0_evening_48 : decode cX0_evening 48 = .ok (.goto 17, 3) := dk_167 0 17 (dk_at dksX0_evening_2 0 rfl rfl)
theorem dX0_evening_51 : decode cX0_evening 51 = .ok (.aload_n 0, 1) := dk_42 (dk_at dksX0_evening_2 3 rfl rfl)
theorem dX0_evening_52 : decode cX0_evening 52 = .ok (.iload_n 3, 1) := dk_29 (dk_at dksX0_evening_2 4 rfl rfl)
theorem dX0_evening_53 : decode cX0_evening 53 = .ok (.putfield 266, 3) := dk_181 1 10 (dk_at dksX0_evening_2 5 rfl rfl)
theorem dX0_evening_56 : decode cX0_evening 56 = .ok (.aload_n 0, 1) := dk_42 (dk_at dksX0_evening_2 8 rfl rfl)
theorem dX0_evening_57 : decode cX0_evening 57 = .ok (.aload_n 0, 1) := dk_42 (dk_at dksX0_evening_2 9 rfl rfl)
theorem dX0_evening_58 : decode cX0_evening 58 = .ok (.iload_n 2, 1) := dk_28 (dk_at dksX0_evening_2 10 rfl rfl)
theorem dX0_evening_59 : decode cX0_evening 59 = .ok (.invokevirtual 258, 3) := dk_182 1 2 (dk_at dksX0_evening_2 11 rfl rfl)
theorem dX0_evening_62 : decode cX0_evening 62 = .ok (.putfield 269, 3) := dk_181 1 13 (dk_at dksX0_evening_2 14 rfl rfl)
theorem dX0_evening_65 : decode cX0_evening 65 = .ok (.iinc 2 1, 3) := dk_132 2 1 (dk_at dksX0_evening_2 17 rfl rfl)
theorem dX0_evening_68 : decode cX0_evening 68 = .ok (.goto (-66), 3) := dk_167 255 190 (dk_at dksX0_evening_2 20 rfl rfl)
theorem dX0_evening_71 : decode cX0_evening 71 = .ok (.return_, 1) := dk_177 (dk_at dksX0_evening_2 23 rfl rfl)
abbrev cX0_choices : ByteArray := prog_1_method_27_code
def yX0_choices : MethodName := ⟨RX0, "choices", "()I"⟩
def dkwX0_choices_2 : List UInt8 := [27, 172]
abbrev dktX0_choices_2 : List UInt8 := dkwX0_choices_2 ++ []
def dkwX0_choices_1 : List UInt8 := [180, 0, 107, 28, 182, 0, 131, 192, 0, 135, 180, 0, 143, 182, 0, 111, 96, 60, 132, 2, 1, 167, 255, 216]
abbrev dktX0_choices_1 : List UInt8 := dkwX0_choices_1 ++ dktX0_choices_2
def dkwX0_choices_0 : List UInt8 := [4, 60, 3, 61, 28, 42, 180, 0, 35, 180, 0, 107, 182, 0, 111, 162, 0, 32, 27, 42, 180, 0, 35]
abbrev dktX0_choices_0 : List UInt8 := dkwX0_choices_0 ++ dktX0_choices_1
theorem dksX0_choices_0 : cX0_choices.data.toList.drop 0 = dktX0_choices_0 := by decide +kernel
theorem dksX0_choices_1 : cX0_choices.data.toList.drop 23 = dktX0_choices_1 := dk_seg dksX0_choices_0 23 rfl rfl
theorem dksX0_choices_2 : cX0_choices.data.toList.drop 47 = dktX0_choices_2 := dk_seg dksX0_choices_1 24 rfl rfl
theorem dX0_choices_0 : decode cX0_choices 0 = .ok (.iconst 1, 1) := dk_4 (dk_at dksX0_choices_0 0 rfl rfl)
theorem dX0_choices_1 : decode cX0_choices 1 = .ok (.istore_n 1, 1) := dk_60 (dk_at dksX0_choices_0 1 rfl rfl)
theorem dX0_choices_2 : decode cX0_choices 2 = .ok (.iconst 0, 1) := dk_3 (dk_at dksX0_choices_0 2 rfl rfl)
theorem dX0_choices_3 : decode cX0_choices 3 = .ok (.istore_n 2, 1) := dk_61 (dk_at dksX0_choices_0 3 rfl rfl)
theorem dX0_choices_4 : decode cX0_choices 4 = .ok (.iload_n 2, 1) := dk_28 (dk_at dksX0_choices_0 4 rfl rfl)
theorem dX0_choices_5 : decode cX0_choices 5 = .ok (.aload_n 0, 1) := dk_42 (dk_at dksX0_choices_0 5 rfl rfl)
theorem dX0_choices_6 : decode cX0_choices 6 = .ok (.getfield 35, 3) := dk_180 0 35 (dk_at dksX0_choices_0 6 rfl rfl)
theorem dX0_choices_9 : decode cX0_choices 9 = .ok (.getfield 107, 3) := dk_180 0 107 (dk_at dksX0_choices_0 9 rfl rfl)
theorem dX0_choices_12 : decode cX0_choices 12 = .ok (.invokevirtual 111, 3) := dk_182 0 111 (dk_at dksX0_choices_0 12 rfl rfl)
theorem dX0_choices_15 : decode cX0_choices 15 = .ok (.if_icmp .ge 32, 3) := dk_162 0 32 (dk_at dksX0_choices_0 15 rfl rfl)
theorem dX0_choices_18 : decode cX0_choices 18 = .ok (.iload_n 1, 1) := dk_27 (dk_at dksX0_choices_0 18 rfl rfl)
theorem dX0_choices_19 : decode cX0_choices 19 = .ok (.aload_n 0, 1) := dk_42 (dk_at dksX0_choices_0 19 rfl rfl)
theorem dX0_choices_20 : decode cX0_choices 20 = .ok (.getfield 35, 3) := dk_180 0 35 (dk_at dksX0_choices_0 20 rfl rfl)
theorem dX0_choices_23 : decode cX0_choices 23 = .ok (.getfield 107, 3) := dk_180 0 107 (dk_at dksX0_choices_1 0 rfl rfl)
theorem dX0_choices_26 : decode cX0_choices 26 = .ok (.iload_n 2, 1) := dk_28 (dk_at dksX0_choices_1 3 rfl rfl)
theorem dX0_choices_27 : decode cX0_choices 27 = .ok (.invokevirtual 131, 3) := dk_182 0 131 (dk_at dksX0_choices_1 4 rfl rfl)
theorem dX0_choices_30 : decode cX0_choices 30 = .ok (.checkcast 135, 3) := dk_192 0 135 (dk_at dksX0_choices_1 7 rfl rfl)
theorem dX0_choices_33 : decode cX0_choices 33 = .ok (.getfield 143, 3) := dk_180 0 143 (dk_at dksX0_choices_1 10 rfl rfl)
theorem dX0_choices_36 : decode cX0_choices 36 = .ok (.invokevirtual 111, 3) := dk_182 0 111 (dk_at dksX0_choices_1 13 rfl rfl)
theorem dX0_choices_39 : decode cX0_choices 39 = .ok (.iadd, 1) := dk_96 (dk_at dksX0_choices_1 16 rfl rfl)
theorem dX0_choices_40 : decode cX0_choices 40 = .ok (.istore_n 1, 1) := dk_60 (dk_at dksX0_choices_1 17 rfl rfl)
theorem dX0_choices_41 : decode cX0_choices 41 = .ok (.iinc 2 1, 3) := dk_132 2 1 (dk_at dksX0_choices_1 18 rfl rfl)
theorem dX0_choices_44 : decode cX0_choices 44 = .ok (.goto (-40), 3) := dk_167 255 216 (dk_at dksX0_choices_1 21 rfl rfl)
theorem dX0_choices_47 : decode cX0_choices 47 = .ok (.iload_n 1, 1) := dk_27 (dk_at dksX0_choices_2 0 rfl rfl)
theorem dX0_choices_48 : decode cX0_choices 48 = .ok (.ireturn, 1) := dk_172 (dk_at dksX0_choices_2 1 rfl rfl)
abbrev cX0_choice : ByteArray := prog_1_method_28_code
def yX0_choice : MethodName := ⟨RX0, "choice", "(I)I"⟩
def dkwX0_choice_3 : List UInt8 := [167, 255, 199, 16, 254, 172]
abbrev dktX0_choice_3 : List UInt8 := dkwX0_choice_3 ++ []
def dkwX0_choice_2 : List UInt8 := [54, 4, 28, 21, 4, 162, 0, 10, 16, 10, 29, 104, 28, 96, 172, 28, 21, 4, 100, 61, 132, 3, 1]
abbrev dktX0_choice_2 : List UInt8 := dkwX0_choice_2 ++ dktX0_choice_3
def dkwX0_choice_1 : List UInt8 := [162, 0, 49, 42, 180, 0, 35, 180, 0, 107, 29, 182, 0, 131, 192, 0, 135, 180, 0, 143, 182, 0, 111]
abbrev dktX0_choice_1 : List UInt8 := dkwX0_choice_1 ++ dktX0_choice_2
def dkwX0_choice_0 : List UInt8 := [27, 4, 100, 61, 28, 156, 0, 6, 16, 254, 172, 3, 62, 29, 42, 180, 0, 35, 180, 0, 107, 182, 0, 111]
abbrev dktX0_choice_0 : List UInt8 := dkwX0_choice_0 ++ dktX0_choice_1
theorem dksX0_choice_0 : cX0_choice.data.toList.drop 0 = dktX0_choice_0 := by decide +kernel
theorem dksX0_choice_1 : cX0_choice.data.toList.drop 24 = dktX0_choice_1 := dk_seg dksX0_choice_0 24 rfl rfl
theorem dksX0_choice_2 : cX0_choice.data.toList.drop 47 = dktX0_choice_2 := dk_seg dksX0_choice_1 23 rfl rfl
theorem dksX0_choice_3 : cX0_choice.data.toList.drop 70 = dktX0_choice_3 := dk_seg dksX0_choice_2 23 rfl rfl
theorem dX0_choice_0 : decode cX0_choice 0 = .ok (.iload_n 1, 1) := dk_27 (dk_at dksX0_choice_0 0 rfl rfl)
theorem dX0_choice_1 : decode cX0_choice 1 = .ok (.iconst 1, 1) := dk_4 (dk_at dksX0_choice_0 1 rfl rfl)
theorem dX0_choice_2 : decode cX0_choice 2 = .ok (.isub, 1) := dk_100 (dk_at dksX0_choice_0 2 rfl rfl)
theorem dX0_choice_3 : decode cX0_choice 3 = .ok (.istore_n 2, 1) := dk_61 (dk_at dksX0_choice_0 3 rfl rfl)
theorem dX0_choice_4 : decode cX0_choice 4 = .ok (.iload_n 2, 1) := dk_28 (dk_at dksX0_choice_0 4 rfl rfl)
theorem dX0_choice_5 : decode cX0_choice 5 = .ok (.ifCond .ge 6, 3) := dk_156 0 6 (dk_at dksX0_choice_0 5 rfl rfl)
theorem dX0_choice_8 : decode cX0_choice 8 = .ok (.bipush (-2), 2) := dk_16 254 (dk_at dksX0_choice_0 8 rfl rfl)
theorem dX0_choice_10 : decode cX0_choice 10 = .ok (.ireturn, 1) := dk_172 (dk_at dksX0_choice_0 10 rfl rfl)
theorem dX0_choice_11 : decode cX0_choice 11 = .ok (.iconst 0, 1) := dk_3 (dk_at dksX0_choice_0 11 rfl rfl)
theorem dX0_choice_12 : decode cX0_choice 12 = .ok (.istore_n 3, 1) := dk_62 (dk_at dksX0_choice_0 12 rfl rfl)
theorem dX0_choice_13 : decode cX0_choice 13 = .ok (.iload_n 3, 1) := dk_29 (dk_at dksX0_choice_0 13 rfl rfl)
theorem dX0_choice_14 : decode cX0_choice 14 = .ok (.aload_n 0, 1) := dk_42 (dk_at dksX0_choice_0 14 rfl rfl)
theorem dX0_choice_15 : decode cX0_choice 15 = .ok (.getfield 35, 3) := dk_180 0 35 (dk_at dksX0_choice_0 15 rfl rfl)
theorem dX0_choice_18 : decode cX0_choice 18 = .ok (.getfield 107, 3) := dk_180 0 107 (dk_at dksX0_choice_0 18 rfl rfl)
theorem dX0_choice_21 : decode cX0_choice 21 = .ok (.invokevirtual 111, 3) := dk_182 0 111 (dk_at dksX0_choice_0 21 rfl rfl)
theorem dX0_choice_24 : decode cX0_choice 24 = .ok (.if_icmp .ge 49, 3) := dk_162 0 49 (dk_at dksX0_choice_1 0 rfl rfl)
theorem dX0_choice_27 : decode cX0_choice 27 = .ok (.aload_n 0, 1) := dk_42 (dk_at dksX0_choice_1 3 rfl rfl)
theorem dX0_choice_28 : decode cX0_choice 28 = .ok (.getfield 35, 3) := dk_180 0 35 (dk_at dksX0_choice_1 4 rfl rfl)
theorem dX0_choice_31 : decode cX0_choice 31 = .ok (.getfield 107, 3) := dk_180 0 107 (dk_at dksX0_choice_1 7 rfl rfl)
theorem dX0_choice_34 : decode cX0_choice 34 = .ok (.iload_n 3, 1) := dk_29 (dk_at dksX0_choice_1 10 rfl rfl)
theorem dX0_choice_35 : decode cX0_choice 35 = .ok (.invokevirtual 131, 3) := dk_182 0 131 (dk_at dksX0_choice_1 11 rfl rfl)
theorem dX0_choice_38 : decode cX0_choice 38 = .ok (.checkcast 135, 3) := dk_192 0 135 (dk_at dksX0_choice_1 14 rfl rfl)
theorem dX0_choice_41 : decode cX0_choice 41 = .ok (.getfield 143, 3) := dk_180 0 143 (dk_at dksX0_choice_1 17 rfl rfl)
theorem dX0_choice_44 : decode cX0_choice 44 = .ok (.invokevirtual 111, 3) := dk_182 0 111 (dk_at dksX0_choice_1 20 rfl rfl)
theorem dX0_choice_47 : decode cX0_choice 47 = .ok (.istore 4, 2) := dk_54 4 (dk_at dksX0_choice_2 0 rfl rfl)
theorem dX0_choice_49 : decode cX0_choice 49 = .ok (.iload_n 2, 1) := dk_28 (dk_at dksX0_choice_2 2 rfl rfl)
theorem dX0_choice_50 : decode cX0_choice 50 = .ok (.iload 4, 2) := dk_21 4 (dk_at dksX0_choice_2 3 rfl rfl)
theorem dX0_choice_52 : decode cX0_choice 52 = .ok (.if_icmp .ge 10, 3) := dk_162 0 10 (dk_at dksX0_choice_2 5 rfl rfl)
theorem dX0_choice_55 : decode cX0_choice 55 = .ok (.bipush 10, 2) := dk_16 10 (dk_at dksX0_choice_2 8 rfl rfl)
theorem dX0_choice_57 : decode cX0_choice 57 = .ok (.iload_n 3, 1) := dk_29 (dk_at dksX0_choice_2 10 rfl rfl)
theorem dX0_choice_58 : decode cX0_choice 58 = .ok (.imul, 1) := dk_104 (dk_at dksX0_choice_2 11 rfl rfl)
theorem dX0_choice_59 : decode cX0_choice 59 = .ok (.iload_n 2, 1) := dk_28 (dk_at dksX0_choice_2 12 rfl rfl)
theorem dX0_choice_60 : decode cX0_choice 60 = .ok (.iadd, 1) := dk_96 (dk_at dksX0_choice_2 13 rfl rfl)
theorem dX0_choice_61 : decode cX0_choice 61 = .ok (.ireturn, 1) := dk_172 (dk_at dksX0_choice_2 14 rfl rfl)
theorem dX0_choice_62 : decode cX0_choice 62 = .ok (.iload_n 2, 1) := dk_28 (dk_at dksX0_choice_2 15 rfl rfl)
theorem dX0_choice_63 : decode cX0_choice 63 = .ok (.iload 4, 2) := dk_21 4 (dk_at dksX0_choice_2 16 rfl rfl)
theorem dX0_choice_65 : decode cX0_choice 65 = .ok (.isub, 1) := dk_100 (dk_at dksX0_choice_2 18 rfl rfl)
theorem dX0_choice_66 : decode cX0_choice 66 = .ok (.istore_n 2, 1) := dk_61 (dk_at dksX0_choice_2 19 rfl rfl)
theorem dX0_choice_67 : decode cX0_choice 67 = .ok (.iinc 3 1, 3) := dk_132 3 1 (dk_at dksX0_choice_2 20 rfl rfl)
theorem dX0_choice_70 : decode cX0_choice 70 = .ok (.goto (-57), 3) := dk_167 255 199 (dk_at dksX0_choice_3 0 rfl rfl)
theorem dX0_choice_73 : decode cX0_choice 73 = .ok (.bipush (-2), 2) := dk_16 254 (dk_at dksX0_choice_3 3 rfl rfl)
theorem dX0_choice_75 : decode cX0_choice 75 = .ok (.ireturn, 1) := dk_172 (dk_at dksX0_choice_3 5 rfl rfl)
abbrev cX0_leavesThen : ByteArray := prog_1_method_29_code
def yX0_leavesThen : MethodName := ⟨RX0, "leavesThen", "(II)V"⟩
def dkwX0_leavesThen_1 : List UInt8 := [180, 0, 50, 180, 0, 194, 27, 28, 156, 0, 8, 16, 254, 167, 0, 7, 28, 16, 10, 112, 79, 177]
abbrev dktX0_leavesThen_1 : List UInt8 := dkwX0_leavesThen_1 ++ []
def dkwX0_leavesThen_0 : List UInt8 := [42, 180, 0, 50, 180, 0, 191, 27, 28, 156, 0, 8, 16, 254, 167, 0, 7, 28, 16, 10, 108, 79, 42]
abbrev dktX0_leavesThen_0 : List UInt8 := dkwX0_leavesThen_0 ++ dktX0_leavesThen_1
theorem dksX0_leavesThen_0 : cX0_leavesThen.data.toList.drop 0 = dktX0_leavesThen_0 := by decide +kernel
theorem dksX0_leavesThen_1 : cX0_leavesThen.data.toList.drop 23 = dktX0_leavesThen_1 := dk_seg dksX0_leavesThen_0 23 rfl rfl
theorem dX0_leavesThen_0 : decode cX0_leavesThen 0 = .ok (.aload_n 0, 1) := dk_42 (dk_at dksX0_leavesThen_0 0 rfl rfl)
theorem dX0_leavesThen_1 : decode cX0_leavesThen 1 = .ok (.getfield 50, 3) := dk_180 0 50 (dk_at dksX0_leavesThen_0 1 rfl rfl)
theorem dX0_leavesThen_4 : decode cX0_leavesThen 4 = .ok (.getfield 191, 3) := dk_180 0 191 (dk_at dksX0_leavesThen_0 4 rfl rfl)
theorem dX0_leavesThen_7 : decode cX0_leavesThen 7 = .ok (.iload_n 1, 1) := dk_27 (dk_at dksX0_leavesThen_0 7 rfl rfl)
theorem dX0_leavesThen_8 : decode cX0_leavesThen 8 = .ok (.iload_n 2, 1) := dk_28 (dk_at dksX0_leavesThen_0 8 rfl rfl)
theorem dX0_leavesThen_9 : decode cX0_leavesThen 9 = .ok (.ifCond .ge 8, 3) := dk_156 0 8 (dk_at dksX0_leavesThen_0 9 rfl rfl)
theorem dX0_leavesThen_12 : decode cX0_leavesThen 12 = .ok (.bipush (-2), 2) := dk_16 254 (dk_at dksX0_leavesThen_0 12 rfl rfl)
theorem dX0_leavesThen_14 : decode cX0_leavesThen 14 = .ok (.goto 7, 3) := dk_167 0 7 (dk_at dksX0_leavesThen_0 14 rfl rfl)
theorem dX0_leavesThen_17 : decode cX0_leavesThen 17 = .ok (.iload_n 2, 1) := dk_28 (dk_at dksX0_leavesThen_0 17 rfl rfl)
theorem dX0_leavesThen_18 : decode cX0_leavesThen 18 = .ok (.bipush 10, 2) := dk_16 10 (dk_at dksX0_leavesThen_0 18 rfl rfl)
theorem dX0_leavesThen_20 : decode cX0_leavesThen 20 = .ok (.idiv, 1) := dk_108 (dk_at dksX0_leavesThen_0 20 rfl rfl)
theorem dX0_leavesThen_21 : decode cX0_leavesThen 21 = .ok (.iastore, 1) := dk_79 (dk_at dksX0_leavesThen_0 21 rfl rfl)
theorem dX0_leavesThen_22 : decode cX0_leavesThen 22 = .ok (.aload_n 0, 1) := dk_42 (dk_at dksX0_leavesThen_0 22 rfl rfl)
theorem dX0_leavesThen_23 : decode cX0_leavesThen 23 = .ok (.getfield 50, 3) := dk_180 0 50 (dk_at dksX0_leavesThen_1 0 rfl rfl)
theorem dX0_leavesThen_26 : decode cX0_leavesThen 26 = .ok (.getfield 194, 3) := dk_180 0 194 (dk_at dksX0_leavesThen_1 3 rfl rfl)
theorem dX0_leavesThen_29 : decode cX0_leavesThen 29 = .ok (.iload_n 1, 1) := dk_27 (dk_at dksX0_leavesThen_1 6 rfl rfl)
theorem dX0_leavesThen_30 : decode cX0_leavesThen 30 = .ok (.iload_n 2, 1) := dk_28 (dk_at dksX0_leavesThen_1 7 rfl rfl)
theorem dX0_leavesThen_31 : decode cX0_leavesThen 31 = .ok (.ifCond .ge 8, 3) := dk_156 0 8 (dk_at dksX0_leavesThen_1 8 rfl rfl)
theorem dX0_leavesThen_34 : decode cX0_leavesThen 34 = .ok (.bipush (-2), 2) := dk_16 254 (dk_at dksX0_leavesThen_1 11 rfl rfl)
theorem dX0_leavesThen_36 : decode cX0_leavesThen 36 = .ok (.goto 7, 3) := dk_167 0 7 (dk_at dksX0_leavesThen_1 13 rfl rfl)
theorem dX0_leavesThen_39 : decode cX0_leavesThen 39 = .ok (.iload_n 2, 1) := dk_28 (dk_at dksX0_leavesThen_1 16 rfl rfl)
theorem dX0_leavesThen_40 : decode cX0_leavesThen 40 = .ok (.bipush 10, 2) := dk_16 10 (dk_at dksX0_leavesThen_1 17 rfl rfl)
theorem dX0_leavesThen_42 : decode cX0_leavesThen 42 = .ok (.irem, 1) := dk_112 (dk_at dksX0_leavesThen_1 19 rfl rfl)
theorem dX0_leavesThen_43 : decode cX0_leavesThen 43 = .ok (.iastore, 1) := dk_79 (dk_at dksX0_leavesThen_1 20 rfl rfl)
theorem dX0_leavesThen_44 : decode cX0_leavesThen 44 = .ok (.return_, 1) := dk_177 (dk_at dksX0_leavesThen_1 21 rfl rfl)
abbrev cX0_bestOfTwo : ByteArray := prog_1_method_33_code
def yX0_bestOfTwo : MethodName := ⟨RX0, "bestOfTwo", "(III)I"⟩
def dkwX0_bestOfTwo_7 : List UInt8 := [167, 0, 7, 42, 180, 1, 22, 172]
abbrev dktX0_bestOfTwo_7 : List UInt8 := dkwX0_bestOfTwo_7 ++ []
def dkwX0_bestOfTwo_6 : List UInt8 := [167, 255, 141, 29, 154, 0, 10, 42, 180, 1, 10, 167, 0, 19, 29, 4, 160, 0, 10, 42, 180, 1, 13]
abbrev dktX0_bestOfTwo_6 : List UInt8 := dkwX0_bestOfTwo_6 ++ dktX0_bestOfTwo_7
def dkwX0_bestOfTwo_5 : List UInt8 := [181, 1, 13, 42, 42, 21, 5, 182, 1, 2, 181, 1, 22, 132, 5, 1, 167, 255, 159, 132, 4, 1]
abbrev dktX0_bestOfTwo_5 : List UInt8 := dkwX0_bestOfTwo_5 ++ dktX0_bestOfTwo_6
def dkwX0_bestOfTwo_4 : List UInt8 := [42, 180, 1, 10, 163, 0, 6, 167, 0, 29, 42, 21, 6, 181, 1, 10, 42, 42, 21, 4, 182, 1, 2]
abbrev dktX0_bestOfTwo_4 : List UInt8 := dkwX0_bestOfTwo_4 ++ dktX0_bestOfTwo_5
def dkwX0_bestOfTwo_3 : List UInt8 := [21, 5, 182, 1, 2, 182, 1, 6, 42, 182, 0, 252, 54, 6, 21, 4, 21, 5, 96, 158, 0, 15, 21, 6]
abbrev dktX0_bestOfTwo_3 : List UInt8 := dkwX0_bestOfTwo_3 ++ dktX0_bestOfTwo_4
def dkwX0_bestOfTwo_2 : List UInt8 := [180, 0, 50, 42, 180, 0, 46, 182, 0, 235, 42, 27, 42, 21, 4, 182, 1, 2, 182, 1, 6, 42, 28, 42]
abbrev dktX0_bestOfTwo_2 : List UInt8 := dkwX0_bestOfTwo_2 ++ dktX0_bestOfTwo_3
def dkwX0_bestOfTwo_1 : List UInt8 := [21, 4, 42, 182, 0, 255, 162, 0, 112, 3, 54, 5, 21, 5, 42, 182, 0, 255, 162, 0, 94, 42]
abbrev dktX0_bestOfTwo_1 : List UInt8 := dkwX0_bestOfTwo_1 ++ dktX0_bestOfTwo_2
def dkwX0_bestOfTwo_0 : List UInt8 := [42, 27, 28, 182, 1, 19, 153, 0, 12, 29, 3, 5, 184, 0, 103, 154, 0, 5, 2, 172, 3, 54, 4]
abbrev dktX0_bestOfTwo_0 : List UInt8 := dkwX0_bestOfTwo_0 ++ dktX0_bestOfTwo_1
theorem dksX0_bestOfTwo_0 : cX0_bestOfTwo.data.toList.drop 0 = dktX0_bestOfTwo_0 := by decide +kernel
theorem dksX0_bestOfTwo_1 : cX0_bestOfTwo.data.toList.drop 23 = dktX0_bestOfTwo_1 := dk_seg dksX0_bestOfTwo_0 23 rfl rfl
theorem dksX0_bestOfTwo_2 : cX0_bestOfTwo.data.toList.drop 45 = dktX0_bestOfTwo_2 := dk_seg dksX0_bestOfTwo_1 22 rfl rfl
theorem dksX0_bestOfTwo_3 : cX0_bestOfTwo.data.toList.drop 69 = dktX0_bestOfTwo_3 := dk_seg dksX0_bestOfTwo_2 24 rfl rfl
theorem dksX0_bestOfTwo_4 : cX0_bestOfTwo.data.toList.drop 93 = dktX0_bestOfTwo_4 := dk_seg dksX0_bestOfTwo_3 24 rfl rfl
theorem dksX0_bestOfTwo_5 : cX0_bestOfTwo.data.toList.drop 116 = dktX0_bestOfTwo_5 := dk_seg dksX0_bestOfTwo_4 23 rfl rfl
theorem dksX0_bestOfTwo_6 : cX0_bestOfTwo.data.toList.drop 138 = dktX0_bestOfTwo_6 := dk_seg dksX0_bestOfTwo_5 22 rfl rfl
theorem dksX0_bestOfTwo_7 : cX0_bestOfTwo.data.toList.drop 161 = dktX0_bestOfTwo_7 := dk_seg dksX0_bestOfTwo_6 23 rfl rfl
theorem dX0_bestOfTwo_0 : decode cX0_bestOfTwo 0 = .ok (.aload_n 0, 1) := dk_42 (dk_at dksX0_bestOfTwo_0 0 rfl rfl)
theorem dX0_bestOfTwo_1 : decode cX0_bestOfTwo 1 = .ok (.iload_n 1, 1) := dk_27 (dk_at dksX0_bestOfTwo_0 1 rfl rfl)
theorem dX0_bestOfTwo_2 : decode cX0_bestOfTwo 2 = .ok (.iload_n 2, 1) := dk_28 (dk_at dksX0_bestOfTwo_0 2 rfl rfl)
theorem dX0_bestOfTwo_3 : decode cX0_bestOfTwo 3 = .ok (.invokevirtual 275, 3) := dk_182 1 19 (dk_at dksX0_bestOfTwo_0 3 rfl rfl)
theorem dX0_bestOfTwo_6 : decode cX0_bestOfTwo 6 = .ok (.ifCond .eq 12, 3) := dk_153 0 12 (dk_at dksX0_bestOfTwo_0 6 rfl rfl)
theorem dX0_bestOfTwo_9 : decode cX0_bestOfTwo 9 = .ok (.iload_n 3, 1) := dk_29 (dk_at dksX0_bestOfTwo_0 9 rfl rfl)
theorem dX0_bestOfTwo_10 : decode cX0_bestOfTwo 10 = .ok (.iconst 0, 1) := dk_3 (dk_at dksX0_bestOfTwo_0 10 rfl rfl)
theorem dX0_bestOfTwo_11 : decode cX0_bestOfTwo 11 = .ok (.iconst 2, 1) := dk_5 (dk_at dksX0_bestOfTwo_0 11 rfl rfl)
theorem dX0_bestOfTwo_12 : decode cX0_bestOfTwo 12 = .ok (.invokestatic 103, 3) := dk_184 0 103 (dk_at dksX0_bestOfTwo_0 12 rfl rfl)
theorem dX0_bestOfTwo_15 : decode cX0_bestOfTwo 15 = .ok (.ifCond .ne 5, 3) := dk_154 0 5 (dk_at dksX0_bestOfTwo_0 15 rfl rfl)
theorem dX0_bestOfTwo_18 : decode cX0_bestOfTwo 18 = .ok (.iconst (-1), 1) := dk_2 (dk_at dksX0_bestOfTwo_0 18 rfl rfl)
theorem dX0_bestOfTwo_19 : decode cX0_bestOfTwo 19 = .ok (.ireturn, 1) := dk_172 (dk_at dksX0_bestOfTwo_0 19 rfl rfl)
theorem dX0_bestOfTwo_20 : decode cX0_bestOfTwo 20 = .ok (.iconst 0, 1) := dk_3 (dk_at dksX0_bestOfTwo_0 20 rfl rfl)
theorem dX0_bestOfTwo_21 : decode cX0_bestOfTwo 21 = .ok (.istore 4, 2) := dk_54 4 (dk_at dksX0_bestOfTwo_0 21 rfl rfl)
theorem dX0_bestOfTwo_23 : decode cX0_bestOfTwo 23 = .ok (.iload 4, 2) := dk_21 4 (dk_at dksX0_bestOfTwo_1 0 rfl rfl)
theorem dX0_bestOfTwo_25 : decode cX0_bestOfTwo 25 = .ok (.aload_n 0, 1) := dk_42 (dk_at dksX0_bestOfTwo_1 2 rfl rfl)
theorem dX0_bestOfTwo_26 : decode cX0_bestOfTwo 26 = .ok (.invokevirtual 255, 3) := dk_182 0 255 (dk_at dksX0_bestOfTwo_1 3 rfl rfl)
theorem dX0_bestOfTwo_29 : decode cX0_bestOfTwo 29 = .ok (.if_icmp .ge 112, 3) := dk_162 0 112 (dk_at dksX0_bestOfTwo_1 6 rfl rfl)
theorem dX0_bestOfTwo_32 : decode cX0_bestOfTwo 32 = .ok (.iconst 0, 1) := dk_3 (dk_at dksX0_bestOfTwo_1 9 rfl rfl)
theorem dX0_bestOfTwo_33 : decode cX0_bestOfTwo 33 = .ok (.istore 5, 2) := dk_54 5 (dk_at dksX0_bestOfTwo_1 10 rfl rfl)
theorem dX0_bestOfTwo_35 : decode cX0_bestOfTwo 35 = .ok (.iload 5, 2) := dk_21 5 (dk_at dksX0_bestOfTwo_1 12 rfl rfl)
theorem dX0_bestOfTwo_37 : decode cX0_bestOfTwo 37 = .ok (.aload_n 0, 1) := dk_42 (dk_at dksX0_bestOfTwo_1 14 rfl rfl)
theorem dX0_bestOfTwo_38 : decode cX0_bestOfTwo 38 = .ok (.invokevirtual 255, 3) := dk_182 0 255 (dk_at dksX0_bestOfTwo_1 15 rfl rfl)
theorem dX0_bestOfTwo_41 : decode cX0_bestOfTwo 41 = .ok (.if_icmp .ge 94, 3) := dk_162 0 94 (dk_at dksX0_bestOfTwo_1 18 rfl rfl)
theorem dX0_bestOfTwo_44 : decode cX0_bestOfTwo 44 = .ok (.aload_n 0, 1) := dk_42 (dk_at dksX0_bestOfTwo_1 21 rfl rfl)
theorem dX0_bestOfTwo_45 : decode cX0_bestOfTwo 45 = .ok (.getfield 50, 3) := dk_180 0 50 (dk_at dksX0_bestOfTwo_2 0 rfl rfl)
theorem dX0_bestOfTwo_48 : decode cX0_bestOfTwo 48 = .ok (.aload_n 0, 1) := dk_42 (dk_at dksX0_bestOfTwo_2 3 rfl rfl)
theorem dX0_bestOfTwo_49 : decode cX0_bestOfTwo 49 = .ok (.getfield 46, 3) := dk_180 0 46 (dk_at dksX0_bestOfTwo_2 4 rfl rfl)
theorem dX0_bestOfTwo_52 : decode cX0_bestOfTwo 52 = .ok (.invokevirtual 235, 3) := dk_182 0 235 (dk_at dksX0_bestOfTwo_2 7 rfl rfl)
theorem dX0_bestOfTwo_55 : decode cX0_bestOfTwo 55 = .ok (.aload_n 0, 1) := dk_42 (dk_at dksX0_bestOfTwo_2 10 rfl rfl)
theorem dX0_bestOfTwo_56 : decode cX0_bestOfTwo 56 = .ok (.iload_n 1, 1) := dk_27 (dk_at dksX0_bestOfTwo_2 11 rfl rfl)
theorem dX0_bestOfTwo_57 : decode cX0_bestOfTwo 57 = .ok (.aload_n 0, 1) := dk_42 (dk_at dksX0_bestOfTwo_2 12 rfl rfl)
theorem dX0_bestOfTwo_58 : decode cX0_bestOfTwo 58 = .ok (.iload 4, 2) := dk_21 4 (dk_at dksX0_bestOfTwo_2 13 rfl rfl)
theorem dX0_bestOfTwo_60 : decode cX0_bestOfTwo 60 = .ok (.invokevirtual 258, 3) := dk_182 1 2 (dk_at dksX0_bestOfTwo_2 15 rfl rfl)
theorem dX0_bestOfTwo_63 : decode cX0_bestOfTwo 63 = .ok (.invokevirtual 262, 3) := dk_182 1 6 (dk_at dksX0_bestOfTwo_2 18 rfl rfl)
theorem dX0_bestOfTwo_66 : decode cX0_bestOfTwo 66 = .ok (.aload_n 0, 1) := dk_42 (dk_at dksX0_bestOfTwo_2 21 rfl rfl)
theorem dX0_bestOfTwo_67 : decode cX0_bestOfTwo 67 = .ok (.iload_n 2, 1) := dk_28 (dk_at dksX0_bestOfTwo_2 22 rfl rfl)
theorem dX0_bestOfTwo_68 : decode cX0_bestOfTwo 68 = .ok (.aload_n 0, 1) := dk_42 (dk_at dksX0_bestOfTwo_2 23 rfl rfl)
theorem dX0_bestOfTwo_69 : decode cX0_bestOfTwo 69 = .ok (.iload 5, 2) := dk_21 5 (dk_at dksX0_bestOfTwo_3 0 rfl rfl)
theorem dX0_bestOfTwo_71 : decode cX0_bestOfTwo 71 = .ok (.invokevirtual 258, 3) := dk_182 1 2 (dk_at dksX0_bestOfTwo_3 2 rfl rfl)
theorem dX0_bestOfTwo_74 : decode cX0_bestOfTwo 74 = .ok (.invokevirtual 262, 3) := dk_182 1 6 (dk_at dksX0_bestOfTwo_3 5 rfl rfl)
theorem dX0_bestOfTwo_77 : decode cX0_bestOfTwo 77 = .ok (.aload_n 0, 1) := dk_42 (dk_at dksX0_bestOfTwo_3 8 rfl rfl)
theorem dX0_bestOfTwo_78 : decode cX0_bestOfTwo 78 = .ok (.invokevirtual 252, 3) := dk_182 0 252 (dk_at dksX0_bestOfTwo_3 9 rfl rfl)
theorem dX0_bestOfTwo_81 : decode cX0_bestOfTwo 81 = .ok (.istore 6, 2) := dk_54 6 (dk_at dksX0_bestOfTwo_3 12 rfl rfl)
theorem dX0_bestOfTwo_83 : decode cX0_bestOfTwo 83 = .ok (.iload 4, 2) := dk_21 4 (dk_at dksX0_bestOfTwo_3 14 rfl rfl)
theorem dX0_bestOfTwo_85 : decode cX0_bestOfTwo 85 = .ok (.iload 5, 2) := dk_21 5 (dk_at dksX0_bestOfTwo_3 16 rfl rfl)
theorem dX0_bestOfTwo_87 : decode cX0_bestOfTwo 87 = .ok (.iadd, 1) := dk_96 (dk_at dksX0_bestOfTwo_3 18 rfl rfl)
theorem dX0_bestOfTwo_88 : decode cX0_bestOfTwo 88 = .ok (.ifCond .le 15, 3) := dk_158 0 15 (dk_at dksX0_bestOfTwo_3 19 rfl rfl)
theorem dX0_bestOfTwo_91 : decode cX0_bestOfTwo 91 = .ok (.iload 6, 2) := dk_21 6 (dk_at dksX0_bestOfTwo_3 22 rfl rfl)
theorem dX0_bestOfTwo_93 : decode cX0_bestOfTwo 93 = .ok (.aload_n 0, 1) := dk_42 (dk_at dksX0_bestOfTwo_4 0 rfl rfl)
theorem dX0_bestOfTwo_94 : decode cX0_bestOfTwo 94 = .ok (.getfield 266, 3) := dk_180 1 10 (dk_at dksX0_bestOfTwo_4 1 rfl rfl)
theorem dX0_bestOfTwo_97 : decode cX0_bestOfTwo 97 = .ok (.if_icmp .gt 6, 3) := dk_163 0 6 (dk_at dksX0_bestOfTwo_4 4 rfl rfl)
theorem dX0_bestOfTwo_100 : decode cX0_bestOfTwo 100 = .ok (.goto 29, 3) := dk_167 0 29 (dk_at dksX0_bestOfTwo_4 7 rfl rfl)
theorem dX0_bestOfTwo_103 : decode cX0_bestOfTwo 103 = .ok (.aload_n 0, 1) := dk_42 (dk_at dksX0_bestOfTwo_4 10 rfl rfl)
theorem dX0_bestOfTwo_104 : decode cX0_bestOfTwo 104 = .ok (.iload 6, 2) := dk_21 6 (dk_at dksX0_bestOfTwo_4 11 rfl rfl)
theorem dX0_bestOfTwo_106 : decode cX0_bestOfTwo 106 = .ok (.putfield 266, 3) := dk_181 1 10 (dk_at dksX0_bestOfTwo_4 13 rfl rfl)
theorem dX0_bestOfTwo_109 : decode cX0_bestOfTwo 109 = .ok (.aload_n 0, 1) := dk_42 (dk_at dksX0_bestOfTwo_4 16 rfl rfl)
theorem dX0_bestOfTwo_110 : decode cX0_bestOfTwo 110 = .ok (.aload_n 0, 1) := dk_42 (dk_at dksX0_bestOfTwo_4 17 rfl rfl)
theorem dX0_bestOfTwo_111 : decode cX0_bestOfTwo 111 = .ok (.iload 4, 2) := dk_21 4 (dk_at dksX0_bestOfTwo_4 18 rfl rfl)
theorem dX0_bestOfTwo_113 : decode cX0_bestOfTwo 113 = .ok (.invokevirtual 258, 3) := dk_182 1 2 (dk_at dksX0_bestOfTwo_4 20 rfl rfl)
theorem dX0_bestOfTwo_116 : decode cX0_bestOfTwo 116 = .ok (.putfield 269, 3) := dk_181 1 13 (dk_at dksX0_bestOfTwo_5 0 rfl rfl)
theorem dX0_bestOfTwo_119 : decode cX0_bestOfTwo 119 = .ok (.aload_n 0, 1) := dk_42 (dk_at dksX0_bestOfTwo_5 3 rfl rfl)
theorem dX0_bestOfTwo_120 : decode cX0_bestOfTwo 120 = .ok (.aload_n 0, 1) := dk_42 (dk_at dksX0_bestOfTwo_5 4 rfl rfl)
theorem dX0_bestOfTwo_121 : decode cX0_bestOfTwo 121 = .ok (.iload 5, 2) := dk_21 5 (dk_at dksX0_bestOfTwo_5 5 rfl rfl)
theorem dX0_bestOfTwo_123 : decode cX0_bestOfTwo 123 = .ok (.invokevirtual 258, 3) := dk_182 1 2 (dk_at dksX0_bestOfTwo_5 7 rfl rfl)
theorem dX0_bestOfTwo_126 : decode cX0_bestOfTwo 126 = .ok (.putfield 278, 3) := dk_181 1 22 (dk_at dksX0_bestOfTwo_5 10 rfl rfl)
theorem dX0_bestOfTwo_129 : decode cX0_bestOfTwo 129 = .ok (.iinc 5 1, 3) := dk_132 5 1 (dk_at dksX0_bestOfTwo_5 13 rfl rfl)
theorem dX0_bestOfTwo_132 : decode cX0_bestOfTwo 132 = .ok (.goto (-97), 3) := dk_167 255 159 (dk_at dksX0_bestOfTwo_5 16 rfl rfl)
theorem dX0_bestOfTwo_135 : decode cX0_bestOfTwo 135 = .ok (.iinc 4 1, 3) := dk_132 4 1 (dk_at dksX0_bestOfTwo_5 19 rfl rfl)
theorem dX0_bestOfTwo_138 : decode cX0_bestOfTwo 138 = .ok (.goto (-115), 3) := dk_167 255 141 (dk_at dksX0_bestOfTwo_6 0 rfl rfl)
theorem dX0_bestOfTwo_141 : decode cX0_bestOfTwo 141 = .ok (.iload_n 3, 1) := dk_29 (dk_at dksX0_bestOfTwo_6 3 rfl rfl)
theorem dX0_bestOfTwo_142 : decode cX0_bestOfTwo 142 = .ok (.ifCond .ne 10, 3) := dk_154 0 10 (dk_at dksX0_bestOfTwo_6 4 rfl rfl)
theorem dX0_bestOfTwo_145 : decode cX0_bestOfTwo 145 = .ok (.aload_n 0, 1) := dk_42 (dk_at dksX0_bestOfTwo_6 7 rfl rfl)
theorem dX0_bestOfTwo_146 : decode cX0_bestOfTwo 146 = .ok (.getfield 266, 3) := dk_180 1 10 (dk_at dksX0_bestOfTwo_6 8 rfl rfl)
theorem dX0_bestOfTwo_149 : decode cX0_bestOfTwo 149 = .ok (.goto 19, 3) := dk_167 0 19 (dk_at dksX0_bestOfTwo_6 11 rfl rfl)
theorem dX0_bestOfTwo_152 : decode cX0_bestOfTwo 152 = .ok (.iload_n 3, 1) := dk_29 (dk_at dksX0_bestOfTwo_6 14 rfl rfl)
theorem dX0_bestOfTwo_153 : decode cX0_bestOfTwo 153 = .ok (.iconst 1, 1) := dk_4 (dk_at dksX0_bestOfTwo_6 15 rfl rfl)
theorem dX0_bestOfTwo_154 : decode cX0_bestOfTwo 154 = .ok (.if_icmp .ne 10, 3) := dk_160 0 10 (dk_at dksX0_bestOfTwo_6 16 rfl rfl)
theorem dX0_bestOfTwo_157 : decode cX0_bestOfTwo 157 = .ok (.aload_n 0, 1) := dk_42 (dk_at dksX0_bestOfTwo_6 19 rfl rfl)
theorem dX0_bestOfTwo_158 : decode cX0_bestOfTwo 158 = .ok (.getfield 269, 3) := dk_180 1 13 (dk_at dksX0_bestOfTwo_6 20 rfl rfl)
theorem dX0_bestOfTwo_161 : decode cX0_bestOfTwo 161 = .ok (.goto 7, 3) := dk_167 0 7 (dk_at dksX0_bestOfTwo_7 0 rfl rfl)
theorem dX0_bestOfTwo_164 : decode cX0_bestOfTwo 164 = .ok (.aload_n 0, 1) := dk_42 (dk_at dksX0_bestOfTwo_7 3 rfl rfl)
theorem dX0_bestOfTwo_165 : decode cX0_bestOfTwo 165 = .ok (.getfield 278, 3) := dk_180 1 22 (dk_at dksX0_bestOfTwo_7 4 rfl rfl)
theorem dX0_bestOfTwo_168 : decode cX0_bestOfTwo 168 = .ok (.ireturn, 1) := dk_172 (dk_at dksX0_bestOfTwo_7 7 rfl rfl)
abbrev cX0_areTwo : ByteArray := prog_1_method_32_code
def yX0_areTwo : MethodName := ⟨RX0, "areTwo", "(II)Z"⟩
def dkwX0_areTwo_1 : List UInt8 := [167, 0, 4, 3, 172]
abbrev dktX0_areTwo_1 : List UInt8 := dkwX0_areTwo_1 ++ []
def dkwX0_areTwo_0 : List UInt8 := [42, 27, 182, 0, 183, 153, 0, 20, 42, 28, 182, 0, 183, 153, 0, 12, 27, 28, 159, 0, 7, 4]
abbrev dktX0_areTwo_0 : List UInt8 := dkwX0_areTwo_0 ++ dktX0_areTwo_1
theorem dksX0_areTwo_0 : cX0_areTwo.data.toList.drop 0 = dktX0_areTwo_0 := by decide +kernel
theorem dksX0_areTwo_1 : cX0_areTwo.data.toList.drop 22 = dktX0_areTwo_1 := dk_seg dksX0_areTwo_0 22 rfl rfl
theorem dX0_areTwo_0 : decode cX0_areTwo 0 = .ok (.aload_n 0, 1) := dk_42 (dk_at dksX0_areTwo_0 0 rfl rfl)
theorem dX0_areTwo_1 : decode cX0_areTwo 1 = .ok (.iload_n 1, 1) := dk_27 (dk_at dksX0_areTwo_0 1 rfl rfl)
theorem dX0_areTwo_2 : decode cX0_areTwo 2 = .ok (.invokevirtual 183, 3) := dk_182 0 183 (dk_at dksX0_areTwo_0 2 rfl rfl)
theorem dX0_areTwo_5 : decode cX0_areTwo 5 = .ok (.ifCond .eq 20, 3) := dk_153 0 20 (dk_at dksX0_areTwo_0 5 rfl rfl)
theorem dX0_areTwo_8 : decode cX0_areTwo 8 = .ok (.aload_n 0, 1) := dk_42 (dk_at dksX0_areTwo_0 8 rfl rfl)
theorem dX0_areTwo_9 : decode cX0_areTwo 9 = .ok (.iload_n 2, 1) := dk_28 (dk_at dksX0_areTwo_0 9 rfl rfl)
theorem dX0_areTwo_10 : decode cX0_areTwo 10 = .ok (.invokevirtual 183, 3) := dk_182 0 183 (dk_at dksX0_areTwo_0 10 rfl rfl)
theorem dX0_areTwo_13 : decode cX0_areTwo 13 = .ok (.ifCond .eq 12, 3) := dk_153 0 12 (dk_at dksX0_areTwo_0 13 rfl rfl)
theorem dX0_areTwo_16 : decode cX0_areTwo 16 = .ok (.iload_n 1, 1) := dk_27 (dk_at dksX0_areTwo_0 16 rfl rfl)
theorem dX0_areTwo_17 : decode cX0_areTwo 17 = .ok (.iload_n 2, 1) := dk_28 (dk_at dksX0_areTwo_0 17 rfl rfl)
theorem dX0_areTwo_18 : decode cX0_areTwo 18 = .ok (.if_icmp .eq 7, 3) := dk_159 0 7 (dk_at dksX0_areTwo_0 18 rfl rfl)
theorem dX0_areTwo_21 : decode cX0_areTwo 21 = .ok (.iconst 1, 1) := dk_4 (dk_at dksX0_areTwo_0 21 rfl rfl)
theorem dX0_areTwo_22 : decode cX0_areTwo 22 = .ok (.goto 4, 3) := dk_167 0 4 (dk_at dksX0_areTwo_1 0 rfl rfl)
theorem dX0_areTwo_25 : decode cX0_areTwo 25 = .ok (.iconst 0, 1) := dk_3 (dk_at dksX0_areTwo_1 3 rfl rfl)
theorem dX0_areTwo_26 : decode cX0_areTwo 26 = .ok (.ireturn, 1) := dk_172 (dk_at dksX0_areTwo_1 4 rfl rfl)
abbrev cX0_hire : ByteArray := prog_1_method_34_code
def yX0_hire : MethodName := ⟨RX0, "hire", "(I)I"⟩
def dkwX0_hire_1 : List UInt8 := [180, 0, 50, 42, 180, 0, 46, 182, 0, 235, 42, 27, 16, 254, 182, 1, 6, 28, 42, 182, 0, 252, 100, 172]
abbrev dktX0_hire_1 : List UInt8 := dkwX0_hire_1 ++ []
def dkwX0_hire_0 : List UInt8 := [42, 27, 182, 0, 183, 154, 0, 7, 19, 1, 25, 172, 42, 27, 182, 1, 16, 42, 180, 1, 10, 61, 42]
abbrev dktX0_hire_0 : List UInt8 := dkwX0_hire_0 ++ dktX0_hire_1
theorem dksX0_hire_0 : cX0_hire.data.toList.drop 0 = dktX0_hire_0 := by decide +kernel
theorem dksX0_hire_1 : cX0_hire.data.toList.drop 23 = dktX0_hire_1 := dk_seg dksX0_hire_0 23 rfl rfl
theorem dX0_hire_0 : decode cX0_hire 0 = .ok (.aload_n 0, 1) := dk_42 (dk_at dksX0_hire_0 0 rfl rfl)
theorem dX0_hire_1 : decode cX0_hire 1 = .ok (.iload_n 1, 1) := dk_27 (dk_at dksX0_hire_0 1 rfl rfl)
theorem dX0_hire_2 : decode cX0_hire 2 = .ok (.invokevirtual 183, 3) := dk_182 0 183 (dk_at dksX0_hire_0 2 rfl rfl)
theorem dX0_hire_5 : decode cX0_hire 5 = .ok (.ifCond .ne 7, 3) := dk_154 0 7 (dk_at dksX0_hire_0 5 rfl rfl)
theorem dX0_hire_8 : decode cX0_hire 8 = .ok (.ldc_w 281, 3) := dk_19 1 25 (dk_at dksX0_hire_0 8 rfl rfl)
theorem dX0_hire_11 : decode cX0_hire 11 = .ok (.ireturn, 1) := dk_172 (dk_at dksX0_hire_0 11 rfl rfl)
theorem dX0_hire_12 : decode cX0_hire 12 = .ok (.aload_n 0, 1) := dk_42 (dk_at dksX0_hire_0 12 rfl rfl)
theorem dX0_hire_13 : decode cX0_hire 13 = .ok (.iload_n 1, 1) := dk_27 (dk_at dksX0_hire_0 13 rfl rfl)
theorem dX0_hire_14 : decode cX0_hire 14 = .ok (.invokevirtual 272, 3) := dk_182 1 16 (dk_at dksX0_hire_0 14 rfl rfl)
theorem dX0_hire_17 : decode cX0_hire 17 = .ok (.aload_n 0, 1) := dk_42 (dk_at dksX0_hire_0 17 rfl rfl)
theorem dX0_hire_18 : decode cX0_hire 18 = .ok (.getfield 266, 3) := dk_180 1 10 (dk_at dksX0_hire_0 18 rfl rfl)
theorem dX0_hire_21 : decode cX0_hire 21 = .ok (.istore_n 2, 1) := dk_61 (dk_at dksX0_hire_0 21 rfl rfl)
theorem dX0_hire_22 : decode cX0_hire 22 = .ok (.aload_n 0, 1) := dk_42 (dk_at dksX0_hire_0 22 rfl rfl)
theorem dX0_hire_23 : decode cX0_hire 23 = .ok (.getfield 50, 3) := dk_180 0 50 (dk_at dksX0_hire_1 0 rfl rfl)
theorem dX0_hire_26 : decode cX0_hire 26 = .ok (.aload_n 0, 1) := dk_42 (dk_at dksX0_hire_1 3 rfl rfl)
theorem dX0_hire_27 : decode cX0_hire 27 = .ok (.getfield 46, 3) := dk_180 0 46 (dk_at dksX0_hire_1 4 rfl rfl)
theorem dX0_hire_30 : decode cX0_hire 30 = .ok (.invokevirtual 235, 3) := dk_182 0 235 (dk_at dksX0_hire_1 7 rfl rfl)
theorem dX0_hire_33 : decode cX0_hire 33 = .ok (.aload_n 0, 1) := dk_42 (dk_at dksX0_hire_1 10 rfl rfl)
theorem dX0_hire_34 : decode cX0_hire 34 = .ok (.iload_n 1, 1) := dk_27 (dk_at dksX0_hire_1 11 rfl rfl)
theorem dX0_hire_35 : decode cX0_hire 35 = .ok (.bipush (-2), 2) := dk_16 254 (dk_at dksX0_hire_1 12 rfl rfl)
theorem dX0_hire_37 : decode cX0_hire 37 = .ok (.invokevirtual 262, 3) := dk_182 1 6 (dk_at dksX0_hire_1 14 rfl rfl)
theorem dX0_hire_40 : decode cX0_hire 40 = .ok (.iload_n 2, 1) := dk_28 (dk_at dksX0_hire_1 17 rfl rfl)
theorem dX0_hire_41 : decode cX0_hire 41 = .ok (.aload_n 0, 1) := dk_42 (dk_at dksX0_hire_1 18 rfl rfl)
theorem dX0_hire_42 : decode cX0_hire 42 = .ok (.invokevirtual 252, 3) := dk_182 0 252 (dk_at dksX0_hire_1 19 rfl rfl)
theorem dX0_hire_45 : decode cX0_hire 45 = .ok (.isub, 1) := dk_100 (dk_at dksX0_hire_1 22 rfl rfl)
theorem dX0_hire_46 : decode cX0_hire 46 = .ok (.ireturn, 1) := dk_172 (dk_at dksX0_hire_1 23 rfl rfl)
abbrev cX0_hide : ByteArray := prog_1_method_35_code
def yX0_hide : MethodName := ⟨RX0, "hide", "(II)I"⟩
def dkwX0_hide_6 : List UInt8 := [167, 255, 164, 28, 154, 0, 7, 29, 167, 0, 5, 21, 4, 172]
abbrev dktX0_hide_6 : List UInt8 := dkwX0_hide_6 ++ []
def dkwX0_hide_5 : List UInt8 := [21, 4, 155, 0, 12, 21, 8, 29, 163, 0, 6, 167, 0, 10, 21, 8, 62, 21, 7, 54, 4, 132, 6, 1]
abbrev dktX0_hide_5 : List UInt8 := dkwX0_hide_5 ++ dktX0_hide_6
def dkwX0_hide_4 : List UInt8 := [180, 0, 46, 182, 0, 235, 42, 180, 0, 50, 180, 0, 209, 27, 21, 7, 79, 42, 182, 0, 252, 54, 8]
abbrev dktX0_hide_4 : List UInt8 := dkwX0_hide_4 ++ dktX0_hide_5
def dkwX0_hide_3 : List UInt8 := [162, 0, 8, 21, 6, 167, 0, 11, 16, 100, 21, 6, 96, 21, 5, 100, 54, 7, 42, 180, 0, 50, 42]
abbrev dktX0_hide_3 : List UInt8 := dkwX0_hide_3 ++ dktX0_hide_4
def dkwX0_hide_2 : List UInt8 := [54, 6, 21, 6, 21, 5, 42, 180, 0, 35, 180, 0, 121, 182, 0, 111, 96, 162, 0, 80, 21, 6, 21, 5]
abbrev dktX0_hide_2 : List UInt8 := dkwX0_hide_2 ++ dktX0_hide_3
def dkwX0_hide_1 : List UInt8 := [154, 0, 5, 2, 172, 3, 62, 2, 54, 4, 42, 180, 0, 35, 180, 0, 124, 182, 0, 111, 54, 5, 3]
abbrev dktX0_hide_1 : List UInt8 := dkwX0_hide_1 ++ dktX0_hide_2
def dkwX0_hide_0 : List UInt8 := [27, 42, 180, 0, 35, 180, 0, 206, 182, 0, 111, 184, 0, 117, 153, 0, 12, 28, 3, 4, 184, 0, 103]
abbrev dktX0_hide_0 : List UInt8 := dkwX0_hide_0 ++ dktX0_hide_1
theorem dksX0_hide_0 : cX0_hide.data.toList.drop 0 = dktX0_hide_0 := by decide +kernel
theorem dksX0_hide_1 : cX0_hide.data.toList.drop 23 = dktX0_hide_1 := dk_seg dksX0_hide_0 23 rfl rfl
theorem dksX0_hide_2 : cX0_hide.data.toList.drop 46 = dktX0_hide_2 := dk_seg dksX0_hide_1 23 rfl rfl
theorem dksX0_hide_3 : cX0_hide.data.toList.drop 70 = dktX0_hide_3 := dk_seg dksX0_hide_2 24 rfl rfl
theorem dksX0_hide_4 : cX0_hide.data.toList.drop 93 = dktX0_hide_4 := dk_seg dksX0_hide_3 23 rfl rfl
theorem dksX0_hide_5 : cX0_hide.data.toList.drop 116 = dktX0_hide_5 := dk_seg dksX0_hide_4 23 rfl rfl
theorem dksX0_hide_6 : cX0_hide.data.toList.drop 140 = dktX0_hide_6 := dk_seg dksX0_hide_5 24 rfl rfl
theorem dX0_hide_0 : decode cX0_hide 0 = .ok (.iload_n 1, 1) := dk_27 (dk_at dksX0_hide_0 0 rfl rfl)
theorem dX0_hide_1 : decode cX0_hide 1 = .ok (.aload_n 0, 1) := dk_42 (dk_at dksX0_hide_0 1 rfl rfl)
theorem dX0_hide_2 : decode cX0_hide 2 = .ok (.getfield 35, 3) := dk_180 0 35 (dk_at dksX0_hide_0 2 rfl rfl)
theorem dX0_hide_5 : decode cX0_hide 5 = .ok (.getfield 206, 3) := dk_180 0 206 (dk_at dksX0_hide_0 5 rfl rfl)
theorem dX0_hide_8 : decode cX0_hide 8 = .ok (.invokevirtual 111, 3) := dk_182 0 111 (dk_at dksX0_hide_0 8 rfl rfl)
theorem dX0_hide_11 : decode cX0_hide 11 = .ok (.invokestatic 117, 3) := dk_184 0 117 (dk_at dksX0_hide_0 11 rfl rfl)
theorem dX0_hide_14 : decode cX0_hide 14 = .ok (.ifCond .eq 12, 3) := dk_153 0 12 (dk_at dksX0_hide_0 14 rfl rfl)
theorem dX0_hide_17 : decode cX0_hide 17 = .ok (.iload_n 2, 1) := dk_28 (dk_at dksX0_hide_0 17 rfl rfl)
theorem dX0_hide_18 : decode cX0_hide 18 = .ok (.iconst 0, 1) := dk_3 (dk_at dksX0_hide_0 18 rfl rfl)
theorem dX0_hide_19 : decode cX0_hide 19 = .ok (.iconst 1, 1) := dk_4 (dk_at dksX0_hide_0 19 rfl rfl)
theorem dX0_hide_20 : decode cX0_hide 20 = .ok (.invokestatic 103, 3) := dk_184 0 103 (dk_at dksX0_hide_0 20 rfl rfl)
theorem dX0_hide_23 : decode cX0_hide 23 = .ok (.ifCond .ne 5, 3) := dk_154 0 5 (dk_at dksX0_hide_1 0 rfl rfl)
theorem dX0_hide_26 : decode cX0_hide 26 = .ok (.iconst (-1), 1) := dk_2 (dk_at dksX0_hide_1 3 rfl rfl)
theorem dX0_hide_27 : decode cX0_hide 27 = .ok (.ireturn, 1) := dk_172 (dk_at dksX0_hide_1 4 rfl rfl)
theorem dX0_hide_28 : decode cX0_hide 28 = .ok (.iconst 0, 1) := dk_3 (dk_at dksX0_hide_1 5 rfl rfl)
theorem dX0_hide_29 : decode cX0_hide 29 = .ok (.istore_n 3, 1) := dk_62 (dk_at dksX0_hide_1 6 rfl rfl)
theorem dX0_hide_30 : decode cX0_hide 30 = .ok (.iconst (-1), 1) := dk_2 (dk_at dksX0_hide_1 7 rfl rfl)
theorem dX0_hide_31 : decode cX0_hide 31 = .ok (.istore 4, 2) := dk_54 4 (dk_at dksX0_hide_1 8 rfl rfl)
theorem dX0_hide_33 : decode cX0_hide 33 = .ok (.aload_n 0, 1) := dk_42 (dk_at dksX0_hide_1 10 rfl rfl)
theorem dX0_hide_34 : decode cX0_hide 34 = .ok (.getfield 35, 3) := dk_180 0 35 (dk_at dksX0_hide_1 11 rfl rfl)
theorem dX0_hide_37 : decode cX0_hide 37 = .ok (.getfield 124, 3) := dk_180 0 124 (dk_at dksX0_hide_1 14 rfl rfl)
theorem dX0_hide_40 : decode cX0_hide 40 = .ok (.invokevirtual 111, 3) := dk_182 0 111 (dk_at dksX0_hide_1 17 rfl rfl)
theorem dX0_hide_43 : decode cX0_hide 43 = .ok (.istore 5, 2) := dk_54 5 (dk_at dksX0_hide_1 20 rfl rfl)
theorem dX0_hide_45 : decode cX0_hide 45 = .ok (.iconst 0, 1) := dk_3 (dk_at dksX0_hide_1 22 rfl rfl)
theorem dX0_hide_46 : decode cX0_hide 46 = .ok (.istore 6, 2) := dk_54 6 (dk_at dksX0_hide_2 0 rfl rfl)
theorem dX0_hide_48 : decode cX0_hide 48 = .ok (.iload 6, 2) := dk_21 6 (dk_at dksX0_hide_2 2 rfl rfl)
theorem dX0_hide_50 : decode cX0_hide 50 = .ok (.iload 5, 2) := dk_21 5 (dk_at dksX0_hide_2 4 rfl rfl)
theorem dX0_hide_52 : decode cX0_hide 52 = .ok (.aload_n 0, 1) := dk_42 (dk_at dksX0_hide_2 6 rfl rfl)
theorem dX0_hide_53 : decode cX0_hide 53 = .ok (.getfield 35, 3) := dk_180 0 35 (dk_at dksX0_hide_2 7 rfl rfl)
theorem dX0_hide_56 : decode cX0_hide 56 = .ok (.getfield 121, 3) := dk_180 0 121 (dk_at dksX0_hide_2 10 rfl rfl)
theorem dX0_hide_59 : decode cX0_hide 59 = .ok (.invokevirtual 111, 3) := dk_182 0 111 (dk_at dksX0_hide_2 13 rfl rfl)
theorem dX0_hide_62 : decode cX0_hide 62 = .ok (.iadd, 1) := dk_96 (dk_at dksX0_hide_2 16 rfl rfl)
theorem dX0_hide_63 : decode cX0_hide 63 = .ok (.if_icmp .ge 80, 3) := dk_162 0 80 (dk_at dksX0_hide_2 17 rfl rfl)
theorem dX0_hide_66 : decode cX0_hide 66 = .ok (.iload 6, 2) := dk_21 6 (dk_at dksX0_hide_2 20 rfl rfl)
theorem dX0_hide_68 : decode cX0_hide 68 = .ok (.iload 5, 2) := dk_21 5 (dk_at dksX0_hide_2 22 rfl rfl)
theorem dX0_hide_70 : decode cX0_hide 70 = .ok (.if_icmp .ge 8, 3) := dk_162 0 8 (dk_at dksX0_hide_3 0 rfl rfl)
theorem dX0_hide_73 : decode cX0_hide 73 = .ok (.iload 6, 2) := dk_21 6 (dk_at dksX0_hide_3 3 rfl rfl)
theorem dX0_hide_75 : decode cX0_hide 75 = .ok (.goto 11, 3) := dk_167 0 11 (dk_at dksX0_hide_3 5 rfl rfl)
theorem dX0_hide_78 : decode cX0_hide 78 = .ok (.bipush 100, 2) := dk_16 100 (dk_at dksX0_hide_3 8 rfl rfl)
theorem dX0_hide_80 : decode cX0_hide 80 = .ok (.iload 6, 2) := dk_21 6 (dk_at dksX0_hide_3 10 rfl rfl)
theorem dX0_hide_82 : decode cX0_hide 82 = .ok (.iadd, 1) := dk_96 (dk_at dksX0_hide_3 12 rfl rfl)
theorem dX0_hide_83 : decode cX0_hide 83 = .ok (.iload 5, 2) := dk_21 5 (dk_at dksX0_hide_3 13 rfl rfl)
theorem dX0_hide_85 : decode cX0_hide 85 = .ok (.isub, 1) := dk_100 (dk_at dksX0_hide_3 15 rfl rfl)
theorem dX0_hide_86 : decode cX0_hide 86 = .ok (.istore 7, 2) := dk_54 7 (dk_at dksX0_hide_3 16 rfl rfl)
theorem dX0_hide_88 : decode cX0_hide 88 = .ok (.aload_n 0, 1) := dk_42 (dk_at dksX0_hide_3 18 rfl rfl)
theorem dX0_hide_89 : decode cX0_hide 89 = .ok (.getfield 50, 3) := dk_180 0 50 (dk_at dksX0_hide_3 19 rfl rfl)
theorem dX0_hide_92 : decode cX0_hide 92 = .ok (.aload_n 0, 1) := dk_42 (dk_at dksX0_hide_3 22 rfl rfl)
theorem dX0_hide_93 : decode cX0_hide 93 = .ok (.getfield 46, 3) := dk_180 0 46 (dk_at dksX0_hide_4 0 rfl rfl)
theorem dX0_hide_96 : decode cX0_hide 96 = .ok (.invokevirtual 235, 3) := dk_182 0 235 (dk_at dksX0_hide_4 3 rfl rfl)
theorem dX0_hide_99 : decode cX0_hide 99 = .ok (.aload_n 0, 1) := dk_42 (dk_at dksX0_hide_4 6 rfl rfl)
theorem dX0_hide_100 : decode cX0_hide 100 = .ok (.getfield 50, 3) := dk_180 0 50 (dk_at dksX0_hide_4 7 rfl rfl)
theorem dX0_hide_103 : decode cX0_hide 103 = .ok (.getfield 209, 3) := dk_180 0 209 (dk_at dksX0_hide_4 10 rfl rfl)
theorem dX0_hide_106 : decode cX0_hide 106 = .ok (.iload_n 1, 1) := dk_27 (dk_at dksX0_hide_4 13 rfl rfl)
theorem dX0_hide_107 : decode cX0_hide 107 = .ok (.iload 7, 2) := dk_21 7 (dk_at dksX0_hide_4 14 rfl rfl)
theorem dX0_hide_109 : decode cX0_hide 109 = .ok (.iastore, 1) := dk_79 (dk_at dksX0_hide_4 16 rfl rfl)
theorem dX0_hide_110 : decode cX0_hide 110 = .ok (.aload_n 0, 1) := dk_42 (dk_at dksX0_hide_4 17 rfl rfl)
theorem dX0_hide_111 : decode cX0_hide 111 = .ok (.invokevirtual 252, 3) := dk_182 0 252 (dk_at dksX0_hide_4 18 rfl rfl)
theorem dX0_hide_114 : decode cX0_hide 114 = .ok (.istore 8, 2) := dk_54 8 (dk_at dksX0_hide_4 21 rfl rfl)
theorem dX0_hide_116 : decode cX0_hide 116 = .ok (.iload 4, 2) := dk_21 4 (dk_at dksX0_hide_5 0 rfl rfl)
theorem dX0_hide_118 : decode cX0_hide 118 = .ok (.ifCond .lt 12, 3) := dk_155 0 12 (dk_at dksX0_hide_5 2 rfl rfl)
theorem dX0_hide_121 : decode cX0_hide 121 = .ok (.iload 8, 2) := dk_21 8 (dk_at dksX0_hide_5 5 rfl rfl)
theorem dX0_hide_123 : decode cX0_hide 123 = .ok (.iload_n 3, 1) := dk_29 (dk_at dksX0_hide_5 7 rfl rfl)
theorem dX0_hide_124 : decode cX0_hide 124 = .ok (.if_icmp .gt 6, 3) := dk_163 0 6 (dk_at dksX0_hide_5 8 rfl rfl)
theorem dX0_hide_127 : decode cX0_hide 127 = .ok (.goto 10, 3) := dk_167 0 10 (dk_at dksX0_hide_5 11 rfl rfl)
theorem dX0_hide_130 : decode cX0_hide 130 = .ok (.iload 8, 2) := dk_21 8 (dk_at dksX0_hide_5 14 rfl rfl)
theorem dX0_hide_132 : decode cX0_hide 132 = .ok (.istore_n 3, 1) := dk_62 (dk_at dksX0_hide_5 16 rfl rfl)
theorem dX0_hide_133 : decode cX0_hide 133 = .ok (.iload 7, 2) := dk_21 7 (dk_at dksX0_hide_5 17 rfl rfl)
theorem dX0_hide_135 : decode cX0_hide 135 = .ok (.istore 4, 2) := dk_54 4 (dk_at dksX0_hide_5 19 rfl rfl)
theorem dX0_hide_137 : decode cX0_hide 137 = .ok (.iinc 6 1, 3) := dk_132 6 1 (dk_at dksX0_hide_5 21 rfl rfl)
theorem dX0_hide_140 : decode cX0_hide 140 = .ok (.goto (-92), 3) := dk_167 255 164 (dk_at dksX0_hide_6 0 rfl rfl)
theorem dX0_hide_143 : decode cX0_hide 143 = .ok (.iload_n 2, 1) := dk_28 (dk_at dksX0_hide_6 3 rfl rfl)
theorem dX0_hide_144 : decode cX0_hide 144 = .ok (.ifCond .ne 7, 3) := dk_154 0 7 (dk_at dksX0_hide_6 4 rfl rfl)
theorem dX0_hide_147 : decode cX0_hide 147 = .ok (.iload_n 3, 1) := dk_29 (dk_at dksX0_hide_6 7 rfl rfl)
theorem dX0_hide_148 : decode cX0_hide 148 = .ok (.goto 5, 3) := dk_167 0 5 (dk_at dksX0_hide_6 8 rfl rfl)
theorem dX0_hide_151 : decode cX0_hide 151 = .ok (.iload 4, 2) := dk_21 4 (dk_at dksX0_hide_6 11 rfl rfl)
theorem dX0_hide_153 : decode cX0_hide 153 = .ok (.ireturn, 1) := dk_172 (dk_at dksX0_hide_6 13 rfl rfl)
abbrev cX0_bars : ByteArray := prog_1_method_36_code
def yX0_bars : MethodName := ⟨RX0, "bars", "(I)I"⟩
def dkwX0_bars_4 : List UInt8 := [21, 5, 61, 21, 4, 62, 132, 4, 1, 167, 255, 173, 27, 154, 0, 7, 28, 167, 0, 4, 29, 172]
abbrev dktX0_bars_4 : List UInt8 := dkwX0_bars_4 ++ []
def dkwX0_bars_3 : List UInt8 := [161, 0, 30, 21, 5, 28, 160, 0, 18, 21, 4, 184, 1, 26, 29, 184, 1, 26, 161, 0, 6, 167, 0, 9]
abbrev dktX0_bars_3 : List UInt8 := dkwX0_bars_3 ++ dktX0_bars_4
def dkwX0_bars_2 : List UInt8 := [42, 180, 0, 50, 21, 4, 181, 0, 229, 42, 182, 0, 252, 54, 5, 29, 155, 0, 30, 21, 5, 28]
abbrev dktX0_bars_2 : List UInt8 := dkwX0_bars_2 ++ dktX0_bars_3
def dkwX0_bars_1 : List UInt8 := [180, 0, 35, 180, 0, 226, 182, 0, 111, 120, 162, 0, 72, 42, 180, 0, 50, 42, 180, 0, 46, 182, 0, 235]
abbrev dktX0_bars_1 : List UInt8 := dkwX0_bars_1 ++ dktX0_bars_2
def dkwX0_bars_0 : List UInt8 := [27, 3, 4, 184, 0, 103, 154, 0, 5, 2, 172, 3, 61, 2, 62, 3, 54, 4, 21, 4, 4, 42]
abbrev dktX0_bars_0 : List UInt8 := dkwX0_bars_0 ++ dktX0_bars_1
theorem dksX0_bars_0 : cX0_bars.data.toList.drop 0 = dktX0_bars_0 := by decide +kernel
theorem dksX0_bars_1 : cX0_bars.data.toList.drop 22 = dktX0_bars_1 := dk_seg dksX0_bars_0 22 rfl rfl
theorem dksX0_bars_2 : cX0_bars.data.toList.drop 46 = dktX0_bars_2 := dk_seg dksX0_bars_1 24 rfl rfl
theorem dksX0_bars_3 : cX0_bars.data.toList.drop 68 = dktX0_bars_3 := dk_seg dksX0_bars_2 22 rfl rfl
theorem dksX0_bars_4 : cX0_bars.data.toList.drop 92 = dktX0_bars_4 := dk_seg dksX0_bars_3 24 rfl rfl
theorem dX0_bars_0 : decode cX0_bars 0 = .ok (.iload_n 1, 1) := dk_27 (dk_at dksX0_bars_0 0 rfl rfl)
theorem dX0_bars_1 : decode cX0_bars 1 = .ok (.iconst 0, 1) := dk_3 (dk_at dksX0_bars_0 1 rfl rfl)
theorem dX0_bars_2 : decode cX0_bars 2 = .ok (.iconst 1, 1) := dk_4 (dk_at dksX0_bars_0 2 rfl rfl)
theorem dX0_bars_3 : decode cX0_bars 3 = .ok (.invokestatic 103, 3) := dk_184 0 103 (dk_at dksX0_bars_0 3 rfl rfl)
theorem dX0_bars_6 : decode cX0_bars 6 = .ok (.ifCond .ne 5, 3) := dk_154 0 5 (dk_at dksX0_bars_0 6 rfl rfl)
theorem dX0_bars_9 : decode cX0_bars 9 = .ok (.iconst (-1), 1) := dk_2 (dk_at dksX0_bars_0 9 rfl rfl)
theorem dX0_bars_10 : decode cX0_bars 10 = .ok (.ireturn, 1) := dk_172 (dk_at dksX0_bars_0 10 rfl rfl)
theorem dX0_bars_11 : decode cX0_bars 11 = .ok (.iconst 0, 1) := dk_3 (dk_at dksX0_bars_0 11 rfl rfl)
theorem dX0_bars_12 : decode cX0_bars 12 = .ok (.istore_n 2, 1) := dk_61 (dk_at dksX0_bars_0 12 rfl rfl)
theorem dX0_bars_13 : decode cX0_bars 13 = .ok (.iconst (-1), 1) := dk_2 (dk_at dksX0_bars_0 13 rfl rfl)
theorem dX0_bars_14 : decode cX0_bars 14 = .ok (.istore_n 3, 1) := dk_62 (dk_at dksX0_bars_0 14 rfl rfl)
theorem dX0_bars_15 : decode cX0_bars 15 = .ok (.iconst 0, 1) := dk_3 (dk_at dksX0_bars_0 15 rfl rfl)
theorem dX0_bars_16 : decode cX0_bars 16 = .ok (.istore 4, 2) := dk_54 4 (dk_at dksX0_bars_0 16 rfl rfl)
theorem dX0_bars_18 : decode cX0_bars 18 = .ok (.iload 4, 2) := dk_21 4 (dk_at dksX0_bars_0 18 rfl rfl)
theorem dX0_bars_20 : decode cX0_bars 20 = .ok (.iconst 1, 1) := dk_4 (dk_at dksX0_bars_0 20 rfl rfl)
theorem dX0_bars_21 : decode cX0_bars 21 = .ok (.aload_n 0, 1) := dk_42 (dk_at dksX0_bars_0 21 rfl rfl)
theorem dX0_bars_22 : decode cX0_bars 22 = .ok (.getfield 35, 3) := dk_180 0 35 (dk_at dksX0_bars_1 0 rfl rfl)
theorem dX0_bars_25 : decode cX0_bars 25 = .ok (.getfield 226, 3) := dk_180 0 226 (dk_at dksX0_bars_1 3 rfl rfl)
theorem dX0_bars_28 : decode cX0_bars 28 = .ok (.invokevirtual 111, 3) := dk_182 0 111 (dk_at dksX0_bars_1 6 rfl rfl)
theorem dX0_bars_31 : decode cX0_bars 31 = .ok (.ishl, 1) := dk_120 (dk_at dksX0_bars_1 9 rfl rfl)
theorem dX0_bars_32 : decode cX0_bars 32 = .ok (.if_icmp .ge 72, 3) := dk_162 0 72 (dk_at dksX0_bars_1 10 rfl rfl)
theorem dX0_bars_35 : decode cX0_bars 35 = .ok (.aload_n 0, 1) := dk_42 (dk_at dksX0_bars_1 13 rfl rfl)
theorem dX0_bars_36 : decode cX0_bars 36 = .ok (.getfield 50, 3) := dk_180 0 50 (dk_at dksX0_bars_1 14 rfl rfl)
theorem dX0_bars_39 : decode cX0_bars 39 = .ok (.aload_n 0, 1) := dk_42 (dk_at dksX0_bars_1 17 rfl rfl)
theorem dX0_bars_40 : decode cX0_bars 40 = .ok (.getfield 46, 3) := dk_180 0 46 (dk_at dksX0_bars_1 18 rfl rfl)
theorem dX0_bars_43 : decode cX0_bars 43 = .ok (.invokevirtual 235, 3) := dk_182 0 235 (dk_at dksX0_bars_1 21 rfl rfl)
theorem dX0_bars_46 : decode cX0_bars 46 = .ok (.aload_n 0, 1) := dk_42 (dk_at dksX0_bars_2 0 rfl rfl)
theorem dX0_bars_47 : decode cX0_bars 47 = .ok (.getfield 50, 3) := dk_180 0 50 (dk_at dksX0_bars_2 1 rfl rfl)
theorem dX0_bars_50 : decode cX0_bars 50 = .ok (.iload 4, 2) := dk_21 4 (dk_at dksX0_bars_2 4 rfl rfl)
theorem dX0_bars_52 : decode cX0_bars 52 = .ok (.putfield 229, 3) := dk_181 0 229 (dk_at dksX0_bars_2 6 rfl rfl)
theorem dX0_bars_55 : decode cX0_bars 55 = .ok (.aload_n 0, 1) := dk_42 (dk_at dksX0_bars_2 9 rfl rfl)
theorem dX0_bars_56 : decode cX0_bars 56 = .ok (.invokevirtual 252, 3) := dk_182 0 252 (dk_at dksX0_bars_2 10 rfl rfl)
theorem dX0_bars_59 : decode cX0_bars 59 = .ok (.istore 5, 2) := dk_54 5 (dk_at dksX0_bars_2 13 rfl rfl)
theorem dX0_bars_61 : decode cX0_bars 61 = .ok (.iload_n 3, 1) := dk_29 (dk_at dksX0_bars_2 15 rfl rfl)
theorem dX0_bars_62 : decode cX0_bars 62 = .ok (.ifCond .lt 30, 3) := dk_155 0 30 (dk_at dksX0_bars_2 16 rfl rfl)
theorem dX0_bars_65 : decode cX0_bars 65 = .ok (.iload 5, 2) := dk_21 5 (dk_at dksX0_bars_2 19 rfl rfl)
theorem dX0_bars_67 : decode cX0_bars 67 = .ok (.iload_n 2, 1) := dk_28 (dk_at dksX0_bars_2 21 rfl rfl)
theorem dX0_bars_68 : decode cX0_bars 68 = .ok (.if_icmp .lt 30, 3) := dk_161 0 30 (dk_at dksX0_bars_3 0 rfl rfl)
theorem dX0_bars_71 : decode cX0_bars 71 = .ok (.iload 5, 2) := dk_21 5 (dk_at dksX0_bars_3 3 rfl rfl)
theorem dX0_bars_73 : decode cX0_bars 73 = .ok (.iload_n 2, 1) := dk_28 (dk_at dksX0_bars_3 5 rfl rfl)
theorem dX0_bars_74 : decode cX0_bars 74 = .ok (.if_icmp .ne 18, 3) := dk_160 0 18 (dk_at dksX0_bars_3 6 rfl rfl)
theorem dX0_bars_77 : decode cX0_bars 77 = .ok (.iload 4, 2) := dk_21 4 (dk_at dksX0_bars_3 9 rfl rfl)
theorem dX0_bars_79 : decode cX0_bars 79 = .ok (.invokestatic 282, 3) := dk_184 1 26 (dk_at dksX0_bars_3 11 rfl rfl)
theorem dX0_bars_82 : decode cX0_bars 82 = .ok (.iload_n 3, 1) := dk_29 (dk_at dksX0_bars_3 14 rfl rfl)
theorem dX0_bars_83 : decode cX0_bars 83 = .ok (.invokestatic 282, 3) := dk_184 1 26 (dk_at dksX0_bars_3 15 rfl rfl)
theorem dX0_bars_86 : decode cX0_bars 86 = .ok (.if_icmp .lt 6, 3) := dk_161 0 6 (dk_at dksX0_bars_3 18 rfl rfl)
theorem dX0_bars_89 : decode cX0_bars 89 = .ok (.goto 9, 3) := dk_167 0 9 (dk_at dksX0_bars_3 21 rfl rfl)
theorem dX0_bars_92 : decode cX0_bars 92 = .ok (.iload 5, 2) := dk_21 5 (dk_at dksX0_bars_4 0 rfl rfl)
theorem dX0_bars_94 : decode cX0_bars 94 = .ok (.istore_n 2, 1) := dk_61 (dk_at dksX0_bars_4 2 rfl rfl)
theorem dX0_bars_95 : decode cX0_bars 95 = .ok (.iload 4, 2) := dk_21 4 (dk_at dksX0_bars_4 3 rfl rfl)
theorem dX0_bars_97 : decode cX0_bars 97 = .ok (.istore_n 3, 1) := dk_62 (dk_at dksX0_bars_4 5 rfl rfl)
theorem dX0_bars_98 : decode cX0_bars 98 = .ok (.iinc 4 1, 3) := dk_132 4 1 (dk_at dksX0_bars_4 6 rfl rfl)
theorem dX0_bars_101 : decode cX0_bars 101 = .ok (.goto (-83), 3) := dk_167 255 173 (dk_at dksX0_bars_4 9 rfl rfl)
theorem dX0_bars_104 : decode cX0_bars 104 = .ok (.iload_n 1, 1) := dk_27 (dk_at dksX0_bars_4 12 rfl rfl)
theorem dX0_bars_105 : decode cX0_bars 105 = .ok (.ifCond .ne 7, 3) := dk_154 0 7 (dk_at dksX0_bars_4 13 rfl rfl)
theorem dX0_bars_108 : decode cX0_bars 108 = .ok (.iload_n 2, 1) := dk_28 (dk_at dksX0_bars_4 16 rfl rfl)
theorem dX0_bars_109 : decode cX0_bars 109 = .ok (.goto 4, 3) := dk_167 0 4 (dk_at dksX0_bars_4 17 rfl rfl)
theorem dX0_bars_112 : decode cX0_bars 112 = .ok (.iload_n 3, 1) := dk_29 (dk_at dksX0_bars_4 20 rfl rfl)
theorem dX0_bars_113 : decode cX0_bars 113 = .ok (.ireturn, 1) := dk_172 (dk_at dksX0_bars_4 21 rfl rfl)
abbrev cX0_where : ByteArray := prog_1_method_38_code
def yX0_where : MethodName := ⟨RX0, "where", "(II)I"⟩
def dkwX0_where_4 : List UInt8 := [29, 50, 21, 5, 46, 161, 0, 8, 21, 5, 167, 0, 4, 29, 172]
abbrev dktX0_where_4 : List UInt8 := dkwX0_where_4 ++ []
def dkwX0_where_3 : List UInt8 := [180, 0, 107, 21, 4, 182, 0, 131, 192, 0, 135, 180, 0, 140, 54, 5, 28, 42, 180, 0, 46, 180, 0, 218]
abbrev dktX0_where_3 : List UInt8 := dkwX0_where_3 ++ dktX0_where_4
def dkwX0_where_2 : List UInt8 := [54, 4, 21, 4, 156, 0, 5, 29, 172, 42, 180, 0, 46, 42, 180, 0, 35, 182, 0, 215, 42, 180, 0, 35]
abbrev dktX0_where_2 : List UInt8 := dkwX0_where_2 ++ dktX0_where_3
def dkwX0_where_1 : List UInt8 := [180, 0, 121, 27, 182, 0, 131, 192, 0, 186, 180, 0, 188, 62, 42, 180, 0, 46, 180, 0, 191, 27, 46]
abbrev dktX0_where_1 : List UInt8 := dkwX0_where_1 ++ dktX0_where_2
def dkwX0_where_0 : List UInt8 := [42, 27, 182, 0, 183, 153, 0, 11, 42, 28, 182, 1, 33, 154, 0, 5, 2, 172, 42, 180, 0, 35]
abbrev dktX0_where_0 : List UInt8 := dkwX0_where_0 ++ dktX0_where_1
theorem dksX0_where_0 : cX0_where.data.toList.drop 0 = dktX0_where_0 := by decide +kernel
theorem dksX0_where_1 : cX0_where.data.toList.drop 22 = dktX0_where_1 := dk_seg dksX0_where_0 22 rfl rfl
theorem dksX0_where_2 : cX0_where.data.toList.drop 45 = dktX0_where_2 := dk_seg dksX0_where_1 23 rfl rfl
theorem dksX0_where_3 : cX0_where.data.toList.drop 69 = dktX0_where_3 := dk_seg dksX0_where_2 24 rfl rfl
theorem dksX0_where_4 : cX0_where.data.toList.drop 93 = dktX0_where_4 := dk_seg dksX0_where_3 24 rfl rfl
theorem dX0_where_0 : decode cX0_where 0 = .ok (.aload_n 0, 1) := dk_42 (dk_at dksX0_where_0 0 rfl rfl)
theorem dX0_where_1 : decode cX0_where 1 = .ok (.iload_n 1, 1) := dk_27 (dk_at dksX0_where_0 1 rfl rfl)
theorem dX0_where_2 : decode cX0_where 2 = .ok (.invokevirtual 183, 3) := dk_182 0 183 (dk_at dksX0_where_0 2 rfl rfl)
theorem dX0_where_5 : decode cX0_where 5 = .ok (.ifCond .eq 11, 3) := dk_153 0 11 (dk_at dksX0_where_0 5 rfl rfl)
theorem dX0_where_8 : decode cX0_where 8 = .ok (.aload_n 0, 1) := dk_42 (dk_at dksX0_where_0 8 rfl rfl)
theorem dX0_where_9 : decode cX0_where 9 = .ok (.iload_n 2, 1) := dk_28 (dk_at dksX0_where_0 9 rfl rfl)
theorem dX0_where_10 : decode cX0_where 10 = .ok (.invokevirtual 289, 3) := dk_182 1 33 (dk_at dksX0_where_0 10 rfl rfl)
theorem dX0_where_13 : decode cX0_where 13 = .ok (.ifCond .ne 5, 3) := dk_154 0 5 (dk_at dksX0_where_0 13 rfl rfl)
theorem dX0_where_16 : decode cX0_where 16 = .ok (.iconst (-1), 1) := dk_2 (dk_at dksX0_where_0 16 rfl rfl)
theorem dX0_where_17 : decode cX0_where 17 = .ok (.ireturn, 1) := dk_172 (dk_at dksX0_where_0 17 rfl rfl)
theorem dX0_where_18 : decode cX0_where 18 = .ok (.aload_n 0, 1) := dk_42 (dk_at dksX0_where_0 18 rfl rfl)
theorem dX0_where_19 : decode cX0_where 19 = .ok (.getfield 35, 3) := dk_180 0 35 (dk_at dksX0_where_0 19 rfl rfl)
theorem dX0_where_22 : decode cX0_where 22 = .ok (.getfield 121, 3) := dk_180 0 121 (dk_at dksX0_where_1 0 rfl rfl)
theorem dX0_where_25 : decode cX0_where 25 = .ok (.iload_n 1, 1) := dk_27 (dk_at dksX0_where_1 3 rfl rfl)
theorem dX0_where_26 : decode cX0_where 26 = .ok (.invokevirtual 131, 3) := dk_182 0 131 (dk_at dksX0_where_1 4 rfl rfl)
theorem dX0_where_29 : decode cX0_where 29 = .ok (.checkcast 186, 3) := dk_192 0 186 (dk_at dksX0_where_1 7 rfl rfl)
theorem dX0_where_32 : decode cX0_where 32 = .ok (.getfield 188, 3) := dk_180 0 188 (dk_at dksX0_where_1 10 rfl rfl)
theorem dX0_where_35 : decode cX0_where 35 = .ok (.istore_n 3, 1) := dk_62 (dk_at dksX0_where_1 13 rfl rfl)
theorem dX0_where_36 : decode cX0_where 36 = .ok (.aload_n 0, 1) := dk_42 (dk_at dksX0_where_1 14 rfl rfl)
theorem dX0_where_37 : decode cX0_where 37 = .ok (.getfield 46, 3) := dk_180 0 46 (dk_at dksX0_where_1 15 rfl rfl)
theorem dX0_where_40 : decode cX0_where 40 = .ok (.getfield 191, 3) := dk_180 0 191 (dk_at dksX0_where_1 18 rfl rfl)
theorem dX0_where_43 : decode cX0_where 43 = .ok (.iload_n 1, 1) := dk_27 (dk_at dksX0_where_1 21 rfl rfl)
theorem dX0_where_44 : decode cX0_where 44 = .ok (.iaload, 1) := dk_46 (dk_at dksX0_where_1 22 rfl rfl)
theorem dX0_where_45 : decode cX0_where 45 = .ok (.istore 4, 2) := dk_54 4 (dk_at dksX0_where_2 0 rfl rfl)
theorem dX0_where_47 : decode cX0_where 47 = .ok (.iload 4, 2) := dk_21 4 (dk_at dksX0_where_2 2 rfl rfl)
theorem dX0_where_49 : decode cX0_where 49 = .ok (.ifCond .ge 5, 3) := dk_156 0 5 (dk_at dksX0_where_2 4 rfl rfl)
theorem dX0_where_52 : decode cX0_where 52 = .ok (.iload_n 3, 1) := dk_29 (dk_at dksX0_where_2 7 rfl rfl)
theorem dX0_where_53 : decode cX0_where 53 = .ok (.ireturn, 1) := dk_172 (dk_at dksX0_where_2 8 rfl rfl)
theorem dX0_where_54 : decode cX0_where 54 = .ok (.aload_n 0, 1) := dk_42 (dk_at dksX0_where_2 9 rfl rfl)
theorem dX0_where_55 : decode cX0_where 55 = .ok (.getfield 46, 3) := dk_180 0 46 (dk_at dksX0_where_2 10 rfl rfl)
theorem dX0_where_58 : decode cX0_where 58 = .ok (.aload_n 0, 1) := dk_42 (dk_at dksX0_where_2 13 rfl rfl)
theorem dX0_where_59 : decode cX0_where 59 = .ok (.getfield 35, 3) := dk_180 0 35 (dk_at dksX0_where_2 14 rfl rfl)
theorem dX0_where_62 : decode cX0_where 62 = .ok (.invokevirtual 215, 3) := dk_182 0 215 (dk_at dksX0_where_2 17 rfl rfl)
theorem dX0_where_65 : decode cX0_where 65 = .ok (.aload_n 0, 1) := dk_42 (dk_at dksX0_where_2 20 rfl rfl)
theorem dX0_where_66 : decode cX0_where 66 = .ok (.getfield 35, 3) := dk_180 0 35 (dk_at dksX0_where_2 21 rfl rfl)
theorem dX0_where_69 : decode cX0_where 69 = .ok (.getfield 107, 3) := dk_180 0 107 (dk_at dksX0_where_3 0 rfl rfl)
theorem dX0_where_72 : decode cX0_where 72 = .ok (.iload 4, 2) := dk_21 4 (dk_at dksX0_where_3 3 rfl rfl)
theorem dX0_where_74 : decode cX0_where 74 = .ok (.invokevirtual 131, 3) := dk_182 0 131 (dk_at dksX0_where_3 5 rfl rfl)
theorem dX0_where_77 : decode cX0_where 77 = .ok (.checkcast 135, 3) := dk_192 0 135 (dk_at dksX0_where_3 8 rfl rfl)
theorem dX0_where_80 : decode cX0_where 80 = .ok (.getfield 140, 3) := dk_180 0 140 (dk_at dksX0_where_3 11 rfl rfl)
theorem dX0_where_83 : decode cX0_where 83 = .ok (.istore 5, 2) := dk_54 5 (dk_at dksX0_where_3 14 rfl rfl)
theorem dX0_where_85 : decode cX0_where 85 = .ok (.iload_n 2, 1) := dk_28 (dk_at dksX0_where_3 16 rfl rfl)
theorem dX0_where_86 : decode cX0_where 86 = .ok (.aload_n 0, 1) := dk_42 (dk_at dksX0_where_3 17 rfl rfl)
theorem dX0_where_87 : decode cX0_where 87 = .ok (.getfield 46, 3) := dk_180 0 46 (dk_at dksX0_where_3 18 rfl rfl)
theorem dX0_where_90 : decode cX0_where 90 = .ok (.getfield 218, 3) := dk_180 0 218 (dk_at dksX0_where_3 21 rfl rfl)
theorem dX0_where_93 : decode cX0_where 93 = .ok (.iload_n 3, 1) := dk_29 (dk_at dksX0_where_4 0 rfl rfl)
theorem dX0_where_94 : decode cX0_where 94 = .ok (.aaload, 1) := dk_50 (dk_at dksX0_where_4 1 rfl rfl)
theorem dX0_where_95 : decode cX0_where 95 = .ok (.iload 5, 2) := dk_21 5 (dk_at dksX0_where_4 2 rfl rfl)
theorem dX0_where_97 : decode cX0_where 97 = .ok (.iaload, 1) := dk_46 (dk_at dksX0_where_4 4 rfl rfl)
theorem dX0_where_98 : decode cX0_where 98 = .ok (.if_icmp .lt 8, 3) := dk_161 0 8 (dk_at dksX0_where_4 5 rfl rfl)
theorem dX0_where_101 : decode cX0_where 101 = .ok (.iload 5, 2) := dk_21 5 (dk_at dksX0_where_4 8 rfl rfl)
theorem dX0_where_103 : decode cX0_where 103 = .ok (.goto 4, 3) := dk_167 0 4 (dk_at dksX0_where_4 10 rfl rfl)
theorem dX0_where_106 : decode cX0_where 106 = .ok (.iload_n 3, 1) := dk_29 (dk_at dksX0_where_4 13 rfl rfl)
theorem dX0_where_107 : decode cX0_where 107 = .ok (.ireturn, 1) := dk_172 (dk_at dksX0_where_4 14 rfl rfl)
abbrev cX0_isMinute : ByteArray := prog_1_method_37_code
def yX0_isMinute : MethodName := ⟨RX0, "isMinute", "(I)Z"⟩
def dkwX0_isMinute_0 : List UInt8 := [27, 3, 42, 180, 0, 35, 180, 1, 31, 184, 0, 103, 172]
abbrev dktX0_isMinute_0 : List UInt8 := dkwX0_isMinute_0 ++ []
theorem dksX0_isMinute_0 : cX0_isMinute.data.toList.drop 0 = dktX0_isMinute_0 := by decide +kernel
theorem dX0_isMinute_0 : decode cX0_isMinute 0 = .ok (.iload_n 1, 1) := dk_27 (dk_at dksX0_isMinute_0 0 rfl rfl)
theorem dX0_isMinute_1 : decode cX0_isMinute 1 = .ok (.iconst 0, 1) := dk_3 (dk_at dksX0_isMinute_0 1 rfl rfl)
theorem dX0_isMinute_2 : decode cX0_isMinute 2 = .ok (.aload_n 0, 1) := dk_42 (dk_at dksX0_isMinute_0 2 rfl rfl)
theorem dX0_isMinute_3 : decode cX0_isMinute 3 = .ok (.getfield 35, 3) := dk_180 0 35 (dk_at dksX0_isMinute_0 3 rfl rfl)
theorem dX0_isMinute_6 : decode cX0_isMinute 6 = .ok (.getfield 287, 3) := dk_180 1 31 (dk_at dksX0_isMinute_0 6 rfl rfl)
theorem dX0_isMinute_9 : decode cX0_isMinute 9 = .ok (.invokestatic 103, 3) := dk_184 0 103 (dk_at dksX0_isMinute_0 9 rfl rfl)
theorem dX0_isMinute_12 : decode cX0_isMinute 12 = .ok (.ireturn, 1) := dk_172 (dk_at dksX0_isMinute_0 12 rfl rfl)
abbrev cX0_strokes : ByteArray := prog_1_method_39_code
def yX0_strokes : MethodName := ⟨RX0, "strokes", "(II)I"⟩
def dkwX0_strokes_2 : List UInt8 := [180, 0, 197, 27, 46, 172]
abbrev dktX0_strokes_2 : List UInt8 := dkwX0_strokes_2 ++ []
def dkwX0_strokes_1 : List UInt8 := [180, 0, 46, 182, 0, 235, 42, 180, 0, 50, 42, 180, 0, 35, 28, 182, 1, 36, 42, 180, 0, 50]
abbrev dktX0_strokes_1 : List UInt8 := dkwX0_strokes_1 ++ dktX0_strokes_2
def dkwX0_strokes_0 : List UInt8 := [42, 27, 182, 0, 183, 153, 0, 11, 42, 28, 182, 1, 33, 154, 0, 5, 2, 172, 42, 180, 0, 50, 42]
abbrev dktX0_strokes_0 : List UInt8 := dkwX0_strokes_0 ++ dktX0_strokes_1
theorem dksX0_strokes_0 : cX0_strokes.data.toList.drop 0 = dktX0_strokes_0 := by decide +kernel
theorem dksX0_strokes_1 : cX0_strokes.data.toList.drop 23 = dktX0_strokes_1 := dk_seg dksX0_strokes_0 23 rfl rfl
theorem dksX0_strokes_2 : cX0_strokes.data.toList.drop 45 = dktX0_strokes_2 := dk_seg dksX0_strokes_1 22 rfl rfl
theorem dX0_strokes_0 : decode cX0_strokes 0 = .ok (.aload_n 0, 1) := dk_42 (dk_at dksX0_strokes_0 0 rfl rfl)
theorem dX0_strokes_1 : decode cX0_strokes 1 = .ok (.iload_n 1, 1) := dk_27 (dk_at dksX0_strokes_0 1 rfl rfl)
theorem dX0_strokes_2 : decode cX0_strokes 2 = .ok (.invokevirtual 183, 3) := dk_182 0 183 (dk_at dksX0_strokes_0 2 rfl rfl)
theorem dX0_strokes_5 : decode cX0_strokes 5 = .ok (.ifCond .eq 11, 3) := dk_153 0 11 (dk_at dksX0_strokes_0 5 rfl rfl)
theorem dX0_strokes_8 : decode cX0_strokes 8 = .ok (.aload_n 0, 1) := dk_42 (dk_at dksX0_strokes_0 8 rfl rfl)
theorem dX0_strokes_9 : decode cX0_strokes 9 = .ok (.iload_n 2, 1) := dk_28 (dk_at dksX0_strokes_0 9 rfl rfl)
theorem dX0_strokes_10 : decode cX0_strokes 10 = .ok (.invokevirtual 289, 3) := dk_182 1 33 (dk_at dksX0_strokes_0 10 rfl rfl)
theorem dX0_strokes_13 : decode cX0_strokes 13 = .ok (.ifCond .ne 5, 3) := dk_154 0 5 (dk_at dksX0_strokes_0 13 rfl rfl)
theorem dX0_strokes_16 : decode cX0_strokes 16 = .ok (.iconst (-1), 1) := dk_2 (dk_at dksX0_strokes_0 16 rfl rfl)
theorem dX0_strokes_17 : decode cX0_strokes 17 = .ok (.ireturn, 1) := dk_172 (dk_at dksX0_strokes_0 17 rfl rfl)
theorem dX0_strokes_18 : decode cX0_strokes 18 = .ok (.aload_n 0, 1) := dk_42 (dk_at dksX0_strokes_0 18 rfl rfl)
theorem dX0_strokes_19 : decode cX0_strokes 19 = .ok (.getfield 50, 3) := dk_180 0 50 (dk_at dksX0_strokes_0 19 rfl rfl)
theorem dX0_strokes_22 : decode cX0_strokes 22 = .ok (.aload_n 0, 1) := dk_42 (dk_at dksX0_strokes_0 22 rfl rfl)
theorem dX0_strokes_23 : decode cX0_strokes 23 = .ok (.getfield 46, 3) := dk_180 0 46 (dk_at dksX0_strokes_1 0 rfl rfl)
theorem dX0_strokes_26 : decode cX0_strokes 26 = .ok (.invokevirtual 235, 3) := dk_182 0 235 (dk_at dksX0_strokes_1 3 rfl rfl)
theorem dX0_strokes_29 : decode cX0_strokes 29 = .ok (.aload_n 0, 1) := dk_42 (dk_at dksX0_strokes_1 6 rfl rfl)
theorem dX0_strokes_30 : decode cX0_strokes 30 = .ok (.getfield 50, 3) := dk_180 0 50 (dk_at dksX0_strokes_1 7 rfl rfl)
theorem dX0_strokes_33 : decode cX0_strokes 33 = .ok (.aload_n 0, 1) := dk_42 (dk_at dksX0_strokes_1 10 rfl rfl)
theorem dX0_strokes_34 : decode cX0_strokes 34 = .ok (.getfield 35, 3) := dk_180 0 35 (dk_at dksX0_strokes_1 11 rfl rfl)
theorem dX0_strokes_37 : decode cX0_strokes 37 = .ok (.iload_n 2, 1) := dk_28 (dk_at dksX0_strokes_1 14 rfl rfl)
theorem dX0_strokes_38 : decode cX0_strokes 38 = .ok (.invokevirtual 292, 3) := dk_182 1 36 (dk_at dksX0_strokes_1 15 rfl rfl)
theorem dX0_strokes_41 : decode cX0_strokes 41 = .ok (.aload_n 0, 1) := dk_42 (dk_at dksX0_strokes_1 18 rfl rfl)
theorem dX0_strokes_42 : decode cX0_strokes 42 = .ok (.getfield 50, 3) := dk_180 0 50 (dk_at dksX0_strokes_1 19 rfl rfl)
theorem dX0_strokes_45 : decode cX0_strokes 45 = .ok (.getfield 197, 3) := dk_180 0 197 (dk_at dksX0_strokes_2 0 rfl rfl)
theorem dX0_strokes_48 : decode cX0_strokes 48 = .ok (.iload_n 1, 1) := dk_27 (dk_at dksX0_strokes_2 3 rfl rfl)
theorem dX0_strokes_49 : decode cX0_strokes 49 = .ok (.iaload, 1) := dk_46 (dk_at dksX0_strokes_2 4 rfl rfl)
theorem dX0_strokes_50 : decode cX0_strokes 50 = .ok (.ireturn, 1) := dk_172 (dk_at dksX0_strokes_2 5 rfl rfl)
abbrev cX0_tell : ByteArray := prog_1_method_40_code
def yX0_tell : MethodName := ⟨RX0, "tell", "(III)I"⟩
def dkwX0_tell_3 : List UInt8 := [181, 0, 96, 42, 180, 0, 96, 4, 100, 172]
abbrev dktX0_tell_3 : List UInt8 := dkwX0_tell_3 ++ []
def dkwX0_tell_2 : List UInt8 := [180, 0, 96, 28, 79, 42, 180, 0, 71, 42, 180, 0, 96, 29, 79, 42, 89, 180, 0, 96, 4, 96]
abbrev dktX0_tell_2 : List UInt8 := dkwX0_tell_2 ++ dktX0_tell_3
def dkwX0_tell_1 : List UInt8 := [16, 30, 160, 0, 5, 2, 172, 42, 180, 0, 64, 42, 180, 0, 96, 27, 79, 42, 180, 0, 68, 42]
abbrev dktX0_tell_1 : List UInt8 := dkwX0_tell_1 ++ dktX0_tell_2
def dkwX0_tell_0 : List UInt8 := [42, 27, 28, 182, 0, 157, 153, 0, 23, 29, 3, 17, 3, 231, 184, 0, 103, 153, 0, 12, 42, 180, 0, 96]
abbrev dktX0_tell_0 : List UInt8 := dkwX0_tell_0 ++ dktX0_tell_1
theorem dksX0_tell_0 : cX0_tell.data.toList.drop 0 = dktX0_tell_0 := by decide +kernel
theorem dksX0_tell_1 : cX0_tell.data.toList.drop 24 = dktX0_tell_1 := dk_seg dksX0_tell_0 24 rfl rfl
theorem dksX0_tell_2 : cX0_tell.data.toList.drop 46 = dktX0_tell_2 := dk_seg dksX0_tell_1 22 rfl rfl
theorem dksX0_tell_3 : cX0_tell.data.toList.drop 68 = dktX0_tell_3 := dk_seg dksX0_tell_2 22 rfl rfl
theorem dX0_tell_0 : decode cX0_tell 0 = .ok (.aload_n 0, 1) := dk_42 (dk_at dksX0_tell_0 0 rfl rfl)
theorem dX0_tell_1 : decode cX0_tell 1 = .ok (.iload_n 1, 1) := dk_27 (dk_at dksX0_tell_0 1 rfl rfl)
theorem dX0_tell_2 : decode cX0_tell 2 = .ok (.iload_n 2, 1) := dk_28 (dk_at dksX0_tell_0 2 rfl rfl)
theorem dX0_tell_3 : decode cX0_tell 3 = .ok (.invokevirtual 157, 3) := dk_182 0 157 (dk_at dksX0_tell_0 3 rfl rfl)
theorem dX0_tell_6 : decode cX0_tell 6 = .ok (.ifCond .eq 23, 3) := dk_153 0 23 (dk_at dksX0_tell_0 6 rfl rfl)
theorem dX0_tell_9 : decode cX0_tell 9 = .ok (.iload_n 3, 1) := dk_29 (dk_at dksX0_tell_0 9 rfl rfl)
theorem dX0_tell_10 : decode cX0_tell 10 = .ok (.iconst 0, 1) := dk_3 (dk_at dksX0_tell_0 10 rfl rfl)
theorem dX0_tell_11 : decode cX0_tell 11 = .ok (.sipush 999, 3) := dk_17 3 231 (dk_at dksX0_tell_0 11 rfl rfl)
theorem dX0_tell_14 : decode cX0_tell 14 = .ok (.invokestatic 103, 3) := dk_184 0 103 (dk_at dksX0_tell_0 14 rfl rfl)
theorem dX0_tell_17 : decode cX0_tell 17 = .ok (.ifCond .eq 12, 3) := dk_153 0 12 (dk_at dksX0_tell_0 17 rfl rfl)
theorem dX0_tell_20 : decode cX0_tell 20 = .ok (.aload_n 0, 1) := dk_42 (dk_at dksX0_tell_0 20 rfl rfl)
theorem dX0_tell_21 : decode cX0_tell 21 = .ok (.getfield 96, 3) := dk_180 0 96 (dk_at dksX0_tell_0 21 rfl rfl)
theorem dX0_tell_24 : decode cX0_tell 24 = .ok (.bipush 30, 2) := dk_16 30 (dk_at dksX0_tell_1 0 rfl rfl)
theorem dX0_tell_26 : decode cX0_tell 26 = .ok (.if_icmp .ne 5, 3) := dk_160 0 5 (dk_at dksX0_tell_1 2 rfl rfl)
theorem dX0_tell_29 : decode cX0_tell 29 = .ok (.iconst (-1), 1) := dk_2 (dk_at dksX0_tell_1 5 rfl rfl)
theorem dX0_tell_30 : decode cX0_tell 30 = .ok (.ireturn, 1) := dk_172 (dk_at dksX0_tell_1 6 rfl rfl)
theorem dX0_tell_31 : decode cX0_tell 31 = .ok (.aload_n 0, 1) := dk_42 (dk_at dksX0_tell_1 7 rfl rfl)
theorem dX0_tell_32 : decode cX0_tell 32 = .ok (.getfield 64, 3) := dk_180 0 64 (dk_at dksX0_tell_1 8 rfl rfl)
theorem dX0_tell_35 : decode cX0_tell 35 = .ok (.aload_n 0, 1) := dk_42 (dk_at dksX0_tell_1 11 rfl rfl)
theorem dX0_tell_36 : decode cX0_tell 36 = .ok (.getfield 96, 3) := dk_180 0 96 (dk_at dksX0_tell_1 12 rfl rfl)
theorem dX0_tell_39 : decode cX0_tell 39 = .ok (.iload_n 1, 1) := dk_27 (dk_at dksX0_tell_1 15 rfl rfl)
theorem dX0_tell_40 : decode cX0_tell 40 = .ok (.iastore, 1) := dk_79 (dk_at dksX0_tell_1 16 rfl rfl)
theorem dX0_tell_41 : decode cX0_tell 41 = .ok (.aload_n 0, 1) := dk_42 (dk_at dksX0_tell_1 17 rfl rfl)
theorem dX0_tell_42 : decode cX0_tell 42 = .ok (.getfield 68, 3) := dk_180 0 68 (dk_at dksX0_tell_1 18 rfl rfl)
theorem dX0_tell_45 : decode cX0_tell 45 = .ok (.aload_n 0, 1) := dk_42 (dk_at dksX0_tell_1 21 rfl rfl)
theorem dX0_tell_46 : decode cX0_tell 46 = .ok (.getfield 96, 3) := dk_180 0 96 (dk_at dksX0_tell_2 0 rfl rfl)
theorem dX0_tell_49 : decode cX0_tell 49 = .ok (.iload_n 2, 1) := dk_28 (dk_at dksX0_tell_2 3 rfl rfl)
theorem dX0_tell_50 : decode cX0_tell 50 = .ok (.iastore, 1) := dk_79 (dk_at dksX0_tell_2 4 rfl rfl)
theorem dX0_tell_51 : decode cX0_tell 51 = .ok (.aload_n 0, 1) := dk_42 (dk_at dksX0_tell_2 5 rfl rfl)
theorem dX0_tell_52 : decode cX0_tell 52 = .ok (.getfield 71, 3) := dk_180 0 71 (dk_at dksX0_tell_2 6 rfl rfl)
theorem dX0_tell_55 : decode cX0_tell 55 = .ok (.aload_n 0, 1) := dk_42 (dk_at dksX0_tell_2 9 rfl rfl)
theorem dX0_tell_56 : decode cX0_tell 56 = .ok (.getfield 96, 3) := dk_180 0 96 (dk_at dksX0_tell_2 10 rfl rfl)
theorem dX0_tell_59 : decode cX0_tell 59 = .ok (.iload_n 3, 1) := dk_29 (dk_at dksX0_tell_2 13 rfl rfl)
theorem dX0_tell_60 : decode cX0_tell 60 = .ok (.iastore, 1) := dk_79 (dk_at dksX0_tell_2 14 rfl rfl)
theorem dX0_tell_61 : decode cX0_tell 61 = .ok (.aload_n 0, 1) := dk_42 (dk_at dksX0_tell_2 15 rfl rfl)
theorem dX0_tell_62 : decode cX0_tell 62 = .ok (.dup, 1) := dk_89 (dk_at dksX0_tell_2 16 rfl rfl)
theorem dX0_tell_63 : decode cX0_tell 63 = .ok (.getfield 96, 3) := dk_180 0 96 (dk_at dksX0_tell_2 17 rfl rfl)
theorem dX0_tell_66 : decode cX0_tell 66 = .ok (.iconst 1, 1) := dk_4 (dk_at dksX0_tell_2 20 rfl rfl)
theorem dX0_tell_67 : decode cX0_tell 67 = .ok (.iadd, 1) := dk_96 (dk_at dksX0_tell_2 21 rfl rfl)
theorem dX0_tell_68 : decode cX0_tell 68 = .ok (.putfield 96, 3) := dk_181 0 96 (dk_at dksX0_tell_3 0 rfl rfl)
theorem dX0_tell_71 : decode cX0_tell 71 = .ok (.aload_n 0, 1) := dk_42 (dk_at dksX0_tell_3 3 rfl rfl)
theorem dX0_tell_72 : decode cX0_tell 72 = .ok (.getfield 96, 3) := dk_180 0 96 (dk_at dksX0_tell_3 4 rfl rfl)
theorem dX0_tell_75 : decode cX0_tell 75 = .ok (.iconst 1, 1) := dk_4 (dk_at dksX0_tell_3 7 rfl rfl)
theorem dX0_tell_76 : decode cX0_tell 76 = .ok (.isub, 1) := dk_100 (dk_at dksX0_tell_3 8 rfl rfl)
theorem dX0_tell_77 : decode cX0_tell 77 = .ok (.ireturn, 1) := dk_172 (dk_at dksX0_tell_3 9 rfl rfl)
abbrev cX0_forget : ByteArray := prog_1_method_41_code
def yX0_forget : MethodName := ⟨RX0, "forget", "()I"⟩
def dkwX0_forget_0 : List UInt8 := [42, 180, 0, 96, 60, 42, 3, 181, 0, 96, 27, 172]
abbrev dktX0_forget_0 : List UInt8 := dkwX0_forget_0 ++ []
theorem dksX0_forget_0 : cX0_forget.data.toList.drop 0 = dktX0_forget_0 := by decide +kernel
theorem dX0_forget_0 : decode cX0_forget 0 = .ok (.aload_n 0, 1) := dk_42 (dk_at dksX0_forget_0 0 rfl rfl)
theorem dX0_forget_1 : decode cX0_forget 1 = .ok (.getfield 96, 3) := dk_180 0 96 (dk_at dksX0_forget_0 1 rfl rfl)
theorem dX0_forget_4 : decode cX0_forget 4 = .ok (.istore_n 1, 1) := dk_60 (dk_at dksX0_forget_0 4 rfl rfl)
theorem dX0_forget_5 : decode cX0_forget 5 = .ok (.aload_n 0, 1) := dk_42 (dk_at dksX0_forget_0 5 rfl rfl)
theorem dX0_forget_6 : decode cX0_forget 6 = .ok (.iconst 0, 1) := dk_3 (dk_at dksX0_forget_0 6 rfl rfl)
theorem dX0_forget_7 : decode cX0_forget 7 = .ok (.putfield 96, 3) := dk_181 0 96 (dk_at dksX0_forget_0 7 rfl rfl)
theorem dX0_forget_10 : decode cX0_forget 10 = .ok (.iload_n 1, 1) := dk_27 (dk_at dksX0_forget_0 10 rfl rfl)
theorem dX0_forget_11 : decode cX0_forget 11 = .ok (.ireturn, 1) := dk_172 (dk_at dksX0_forget_0 11 rfl rfl)
abbrev cX0_fits : ByteArray := prog_1_method_45_code
def yX0_fits : MethodName := ⟨RX0, "fits", "(III)I"⟩
def dkwX0_fits_3 : List UInt8 := [132, 4, 1, 132, 5, 1, 167, 255, 210, 29, 2, 160, 0, 8, 21, 4, 167, 0, 4, 2, 172]
abbrev dktX0_fits_3 : List UInt8 := dkwX0_fits_3 ++ []
def dkwX0_fits_2 : List UInt8 := [182, 1, 46, 154, 0, 6, 167, 0, 19, 21, 4, 29, 160, 0, 10, 42, 21, 5, 182, 1, 2, 172]
abbrev dktX0_fits_2 : List UInt8 := dkwX0_fits_2 ++ dktX0_fits_3
def dkwX0_fits_1 : List UInt8 := [54, 4, 3, 54, 5, 21, 5, 42, 182, 0, 255, 162, 0, 43, 42, 27, 42, 21, 5, 182, 1, 2, 28]
abbrev dktX0_fits_1 : List UInt8 := dkwX0_fits_1 ++ dktX0_fits_2
def dkwX0_fits_0 : List UInt8 := [42, 27, 182, 0, 183, 153, 0, 16, 42, 28, 182, 1, 43, 153, 0, 8, 29, 2, 162, 0, 5, 2, 172, 3]
abbrev dktX0_fits_0 : List UInt8 := dkwX0_fits_0 ++ dktX0_fits_1
theorem dksX0_fits_0 : cX0_fits.data.toList.drop 0 = dktX0_fits_0 := by decide +kernel
theorem dksX0_fits_1 : cX0_fits.data.toList.drop 24 = dktX0_fits_1 := dk_seg dksX0_fits_0 24 rfl rfl
theorem dksX0_fits_2 : cX0_fits.data.toList.drop 47 = dktX0_fits_2 := dk_seg dksX0_fits_1 23 rfl rfl
theorem dksX0_fits_3 : cX0_fits.data.toList.drop 69 = dktX0_fits_3 := dk_seg dksX0_fits_2 22 rfl rfl
theorem dX0_fits_0 : decode cX0_fits 0 = .ok (.aload_n 0, 1) := dk_42 (dk_at dksX0_fits_0 0 rfl rfl)
theorem dX0_fits_1 : decode cX0_fits 1 = .ok (.iload_n 1, 1) := dk_27 (dk_at dksX0_fits_0 1 rfl rfl)
theorem dX0_fits_2 : decode cX0_fits 2 = .ok (.invokevirtual 183, 3) := dk_182 0 183 (dk_at dksX0_fits_0 2 rfl rfl)
theorem dX0_fits_5 : decode cX0_fits 5 = .ok (.ifCond .eq 16, 3) := dk_153 0 16 (dk_at dksX0_fits_0 5 rfl rfl)
theorem dX0_fits_8 : decode cX0_fits 8 = .ok (.aload_n 0, 1) := dk_42 (dk_at dksX0_fits_0 8 rfl rfl)
theorem dX0_fits_9 : decode cX0_fits 9 = .ok (.iload_n 2, 1) := dk_28 (dk_at dksX0_fits_0 9 rfl rfl)
theorem dX0_fits_10 : decode cX0_fits 10 = .ok (.invokevirtual 299, 3) := dk_182 1 43 (dk_at dksX0_fits_0 10 rfl rfl)
theorem dX0_fits_13 : decode cX0_fits 13 = .ok (.ifCond .eq 8, 3) := dk_153 0 8 (dk_at dksX0_fits_0 13 rfl rfl)
theorem dX0_fits_16 : decode cX0_fits 16 = .ok (.iload_n 3, 1) := dk_29 (dk_at dksX0_fits_0 16 rfl rfl)
theorem dX0_fits_17 : decode cX0_fits 17 = .ok (.iconst (-1), 1) := dk_2 (dk_at dksX0_fits_0 17 rfl rfl)
theorem dX0_fits_18 : decode cX0_fits 18 = .ok (.if_icmp .ge 5, 3) := dk_162 0 5 (dk_at dksX0_fits_0 18 rfl rfl)
theorem dX0_fits_21 : decode cX0_fits 21 = .ok (.iconst (-1), 1) := dk_2 (dk_at dksX0_fits_0 21 rfl rfl)
theorem dX0_fits_22 : decode cX0_fits 22 = .ok (.ireturn, 1) := dk_172 (dk_at dksX0_fits_0 22 rfl rfl)
theorem dX0_fits_23 : decode cX0_fits 23 = .ok (.iconst 0, 1) := dk_3 (dk_at dksX0_fits_0 23 rfl rfl)
theorem dX0_fits_24 : decode cX0_fits 24 = .ok (.istore 4, 2) := dk_54 4 (dk_at dksX0_fits_1 0 rfl rfl)
theorem dX0_fits_26 : decode cX0_fits 26 = .ok (.iconst 0, 1) := dk_3 (dk_at dksX0_fits_1 2 rfl rfl)
theorem dX0_fits_27 : decode cX0_fits 27 = .ok (.istore 5, 2) := dk_54 5 (dk_at dksX0_fits_1 3 rfl rfl)
theorem dX0_fits_29 : decode cX0_fits 29 = .ok (.iload 5, 2) := dk_21 5 (dk_at dksX0_fits_1 5 rfl rfl)
theorem dX0_fits_31 : decode cX0_fits 31 = .ok (.aload_n 0, 1) := dk_42 (dk_at dksX0_fits_1 7 rfl rfl)
theorem dX0_fits_32 : decode cX0_fits 32 = .ok (.invokevirtual 255, 3) := dk_182 0 255 (dk_at dksX0_fits_1 8 rfl rfl)
theorem dX0_fits_35 : decode cX0_fits 35 = .ok (.if_icmp .ge 43, 3) := dk_162 0 43 (dk_at dksX0_fits_1 11 rfl rfl)
theorem dX0_fits_38 : decode cX0_fits 38 = .ok (.aload_n 0, 1) := dk_42 (dk_at dksX0_fits_1 14 rfl rfl)
theorem dX0_fits_39 : decode cX0_fits 39 = .ok (.iload_n 1, 1) := dk_27 (dk_at dksX0_fits_1 15 rfl rfl)
theorem dX0_fits_40 : decode cX0_fits 40 = .ok (.aload_n 0, 1) := dk_42 (dk_at dksX0_fits_1 16 rfl rfl)
theorem dX0_fits_41 : decode cX0_fits 41 = .ok (.iload 5, 2) := dk_21 5 (dk_at dksX0_fits_1 17 rfl rfl)
theorem dX0_fits_43 : decode cX0_fits 43 = .ok (.invokevirtual 258, 3) := dk_182 1 2 (dk_at dksX0_fits_1 19 rfl rfl)
theorem dX0_fits_46 : decode cX0_fits 46 = .ok (.iload_n 2, 1) := dk_28 (dk_at dksX0_fits_1 22 rfl rfl)
theorem dX0_fits_47 : decode cX0_fits 47 = .ok (.invokevirtual 302, 3) := dk_182 1 46 (dk_at dksX0_fits_2 0 rfl rfl)
theorem dX0_fits_50 : decode cX0_fits 50 = .ok (.ifCond .ne 6, 3) := dk_154 0 6 (dk_at dksX0_fits_2 3 rfl rfl)
theorem dX0_fits_53 : decode cX0_fits 53 = .ok (.goto 19, 3) := dk_167 0 19 (dk_at dksX0_fits_2 6 rfl rfl)
theorem dX0_fits_56 : decode cX0_fits 56 = .ok (.iload 4, 2) := dk_21 4 (dk_at dksX0_fits_2 9 rfl rfl)
theorem dX0_fits_58 : decode cX0_fits 58 = .ok (.iload_n 3, 1) := dk_29 (dk_at dksX0_fits_2 11 rfl rfl)
theorem dX0_fits_59 : decode cX0_fits 59 = .ok (.if_icmp .ne 10, 3) := dk_160 0 10 (dk_at dksX0_fits_2 12 rfl rfl)
theorem dX0_fits_62 : decode cX0_fits 62 = .ok (.aload_n 0, 1) := dk_42 (dk_at dksX0_fits_2 15 rfl rfl)
theorem dX0_fits_63 : decode cX0_fits 63 = .ok (.iload 5, 2) := dk_21 5 (dk_at dksX0_fits_2 16 rfl rfl)
theorem dX0_fits_65 : decode cX0_fits 65 = .ok (.invokevirtual 258, 3) := dk_182 1 2 (dk_at dksX0_fits_2 18 rfl rfl)
theorem dX0_fits_68 : decode cX0_fits 68 = .ok (.ireturn, 1) := dk_172 (dk_at dksX0_fits_2 21 rfl rfl)
theorem dX0_fits_69 : decode cX0_fits 69 = .ok (.iinc 4 1, 3) := dk_132 4 1 (dk_at dksX0_fits_3 0 rfl rfl)
theorem dX0_fits_72 : decode cX0_fits 72 = .ok (.iinc 5 1, 3) := dk_132 5 1 (dk_at dksX0_fits_3 3 rfl rfl)
theorem dX0_fits_75 : decode cX0_fits 75 = .ok (.goto (-46), 3) := dk_167 255 210 (dk_at dksX0_fits_3 6 rfl rfl)
theorem dX0_fits_78 : decode cX0_fits 78 = .ok (.iload_n 3, 1) := dk_29 (dk_at dksX0_fits_3 9 rfl rfl)
theorem dX0_fits_79 : decode cX0_fits 79 = .ok (.iconst (-1), 1) := dk_2 (dk_at dksX0_fits_3 10 rfl rfl)
theorem dX0_fits_80 : decode cX0_fits 80 = .ok (.if_icmp .ne 8, 3) := dk_160 0 8 (dk_at dksX0_fits_3 11 rfl rfl)
theorem dX0_fits_83 : decode cX0_fits 83 = .ok (.iload 4, 2) := dk_21 4 (dk_at dksX0_fits_3 14 rfl rfl)
theorem dX0_fits_85 : decode cX0_fits 85 = .ok (.goto 4, 3) := dk_167 0 4 (dk_at dksX0_fits_3 16 rfl rfl)
theorem dX0_fits_88 : decode cX0_fits 88 = .ok (.iconst (-1), 1) := dk_2 (dk_at dksX0_fits_3 19 rfl rfl)
theorem dX0_fits_89 : decode cX0_fits 89 = .ok (.ireturn, 1) := dk_172 (dk_at dksX0_fits_3 20 rfl rfl)
abbrev cX0_isKnown : ByteArray := prog_1_method_42_code
def yX0_isKnown : MethodName := ⟨RX0, "isKnown", "(I)Z"⟩
def dkwX0_isKnown_0 : List UInt8 := [27, 3, 42, 180, 0, 96, 184, 0, 103, 172]
abbrev dktX0_isKnown_0 : List UInt8 := dkwX0_isKnown_0 ++ []
theorem dksX0_isKnown_0 : cX0_isKnown.data.toList.drop 0 = dktX0_isKnown_0 := by decide +kernel
theorem dX0_isKnown_0 : decode cX0_isKnown 0 = .ok (.iload_n 1, 1) := dk_27 (dk_at dksX0_isKnown_0 0 rfl rfl)
theorem dX0_isKnown_1 : decode cX0_isKnown 1 = .ok (.iconst 0, 1) := dk_3 (dk_at dksX0_isKnown_0 1 rfl rfl)
theorem dX0_isKnown_2 : decode cX0_isKnown 2 = .ok (.aload_n 0, 1) := dk_42 (dk_at dksX0_isKnown_0 2 rfl rfl)
theorem dX0_isKnown_3 : decode cX0_isKnown 3 = .ok (.getfield 96, 3) := dk_180 0 96 (dk_at dksX0_isKnown_0 3 rfl rfl)
theorem dX0_isKnown_6 : decode cX0_isKnown 6 = .ok (.invokestatic 103, 3) := dk_184 0 103 (dk_at dksX0_isKnown_0 6 rfl rfl)
theorem dX0_isKnown_9 : decode cX0_isKnown 9 = .ok (.ireturn, 1) := dk_172 (dk_at dksX0_isKnown_0 9 rfl rfl)
abbrev cX0_isFit : ByteArray := prog_1_method_44_code
def yX0_isFit : MethodName := ⟨RX0, "isFit", "(III)Z"⟩
def dkwX0_isFit_0 : List UInt8 := [42, 180, 0, 50, 42, 180, 0, 46, 182, 0, 235, 42, 27, 28, 182, 1, 6, 42, 29, 182, 1, 40, 172]
abbrev dktX0_isFit_0 : List UInt8 := dkwX0_isFit_0 ++ []
theorem dksX0_isFit_0 : cX0_isFit.data.toList.drop 0 = dktX0_isFit_0 := by decide +kernel
theorem dX0_isFit_0 : decode cX0_isFit 0 = .ok (.aload_n 0, 1) := dk_42 (dk_at dksX0_isFit_0 0 rfl rfl)
theorem dX0_isFit_1 : decode cX0_isFit 1 = .ok (.getfield 50, 3) := dk_180 0 50 (dk_at dksX0_isFit_0 1 rfl rfl)
theorem dX0_isFit_4 : decode cX0_isFit 4 = .ok (.aload_n 0, 1) := dk_42 (dk_at dksX0_isFit_0 4 rfl rfl)
theorem dX0_isFit_5 : decode cX0_isFit 5 = .ok (.getfield 46, 3) := dk_180 0 46 (dk_at dksX0_isFit_0 5 rfl rfl)
theorem dX0_isFit_8 : decode cX0_isFit 8 = .ok (.invokevirtual 235, 3) := dk_182 0 235 (dk_at dksX0_isFit_0 8 rfl rfl)
theorem dX0_isFit_11 : decode cX0_isFit 11 = .ok (.aload_n 0, 1) := dk_42 (dk_at dksX0_isFit_0 11 rfl rfl)
theorem dX0_isFit_12 : decode cX0_isFit 12 = .ok (.iload_n 1, 1) := dk_27 (dk_at dksX0_isFit_0 12 rfl rfl)
theorem dX0_isFit_13 : decode cX0_isFit 13 = .ok (.iload_n 2, 1) := dk_28 (dk_at dksX0_isFit_0 13 rfl rfl)
theorem dX0_isFit_14 : decode cX0_isFit 14 = .ok (.invokevirtual 262, 3) := dk_182 1 6 (dk_at dksX0_isFit_0 14 rfl rfl)
theorem dX0_isFit_17 : decode cX0_isFit 17 = .ok (.aload_n 0, 1) := dk_42 (dk_at dksX0_isFit_0 17 rfl rfl)
theorem dX0_isFit_18 : decode cX0_isFit 18 = .ok (.iload_n 3, 1) := dk_29 (dk_at dksX0_isFit_0 18 rfl rfl)
theorem dX0_isFit_19 : decode cX0_isFit 19 = .ok (.invokevirtual 296, 3) := dk_182 1 40 (dk_at dksX0_isFit_0 19 rfl rfl)
theorem dX0_isFit_22 : decode cX0_isFit 22 = .ok (.ireturn, 1) := dk_172 (dk_at dksX0_isFit_0 22 rfl rfl)
abbrev cX0_isSo : ByteArray := prog_1_method_43_code
def yX0_isSo : MethodName := ⟨RX0, "isSo", "(I)Z"⟩
def dkwX0_isSo_2 : List UInt8 := [159, 0, 5, 3, 172, 132, 2, 1, 167, 255, 216, 4, 172]
abbrev dktX0_isSo_2 : List UInt8 := dkwX0_isSo_2 ++ []
def dkwX0_isSo_1 : List UInt8 := [180, 0, 161, 42, 180, 0, 64, 28, 46, 50, 42, 180, 0, 68, 28, 46, 46, 42, 180, 0, 71, 28, 46]
abbrev dktX0_isSo_1 : List UInt8 := dkwX0_isSo_1 ++ dktX0_isSo_2
def dkwX0_isSo_0 : List UInt8 := [42, 180, 0, 50, 42, 180, 0, 35, 182, 0, 249, 3, 61, 28, 27, 162, 0, 41, 42, 180, 0, 50]
abbrev dktX0_isSo_0 : List UInt8 := dkwX0_isSo_0 ++ dktX0_isSo_1
theorem dksX0_isSo_0 : cX0_isSo.data.toList.drop 0 = dktX0_isSo_0 := by decide +kernel
theorem dksX0_isSo_1 : cX0_isSo.data.toList.drop 22 = dktX0_isSo_1 := dk_seg dksX0_isSo_0 22 rfl rfl
theorem dksX0_isSo_2 : cX0_isSo.data.toList.drop 45 = dktX0_isSo_2 := dk_seg dksX0_isSo_1 23 rfl rfl
theorem dX0_isSo_0 : decode cX0_isSo 0 = .ok (.aload_n 0, 1) := dk_42 (dk_at dksX0_isSo_0 0 rfl rfl)
theorem dX0_isSo_1 : decode cX0_isSo 1 = .ok (.getfield 50, 3) := dk_180 0 50 (dk_at dksX0_isSo_0 1 rfl rfl)
theorem dX0_isSo_4 : decode cX0_isSo 4 = .ok (.aload_n 0, 1) := dk_42 (dk_at dksX0_isSo_0 4 rfl rfl)
theorem dX0_isSo_5 : decode cX0_isSo 5 = .ok (.getfield 35, 3) := dk_180 0 35 (dk_at dksX0_isSo_0 5 rfl rfl)
theorem dX0_isSo_8 : decode cX0_isSo 8 = .ok (.invokevirtual 249, 3) := dk_182 0 249 (dk_at dksX0_isSo_0 8 rfl rfl)
theorem dX0_isSo_11 : decode cX0_isSo 11 = .ok (.iconst 0, 1) := dk_3 (dk_at dksX0_isSo_0 11 rfl rfl)
theorem dX0_isSo_12 : decode cX0_isSo 12 = .ok (.istore_n 2, 1) := dk_61 (dk_at dksX0_isSo_0 12 rfl rfl)
theorem dX0_isSo_13 : decode cX0_isSo 13 = .ok (.iload_n 2, 1) := dk_28 (dk_at dksX0_isSo_0 13 rfl rfl)
theorem dX0_isSo_14 : decode cX0_isSo 14 = .ok (.iload_n 1, 1) := dk_27 (dk_at dksX0_isSo_0 14 rfl rfl)
theorem dX0_isSo_15 : decode cX0_isSo 15 = .ok (.if_icmp .ge 41, 3) := dk_162 0 41 (dk_at dksX0_isSo_0 15 rfl rfl)
theorem dX0_isSo_18 : decode cX0_isSo 18 = .ok (.aload_n 0, 1) := dk_42 (dk_at dksX0_isSo_0 18 rfl rfl)
theorem dX0_isSo_19 : decode cX0_isSo 19 = .ok (.getfield 50, 3) := dk_180 0 50 (dk_at dksX0_isSo_0 19 rfl rfl)
theorem dX0_isSo_22 : decode cX0_isSo 22 = .ok (.getfield 161, 3) := dk_180 0 161 (dk_at dksX0_isSo_1 0 rfl rfl)
theorem dX0_isSo_25 : decode cX0_isSo 25 = .ok (.aload_n 0, 1) := dk_42 (dk_at dksX0_isSo_1 3 rfl rfl)
theorem dX0_isSo_26 : decode cX0_isSo 26 = .ok (.getfield 64, 3) := dk_180 0 64 (dk_at dksX0_isSo_1 4 rfl rfl)
theorem dX0_isSo_29 : decode cX0_isSo 29 = .ok (.iload_n 2, 1) := dk_28 (dk_at dksX0_isSo_1 7 rfl rfl)
theorem dX0_isSo_30 : decode cX0_isSo 30 = .ok (.iaload, 1) := dk_46 (dk_at dksX0_isSo_1 8 rfl rfl)
theorem dX0_isSo_31 : decode cX0_isSo 31 = .ok (.aaload, 1) := dk_50 (dk_at dksX0_isSo_1 9 rfl rfl)
theorem dX0_isSo_32 : decode cX0_isSo 32 = .ok (.aload_n 0, 1) := dk_42 (dk_at dksX0_isSo_1 10 rfl rfl)
theorem dX0_isSo_33 : decode cX0_isSo 33 = .ok (.getfield 68, 3) := dk_180 0 68 (dk_at dksX0_isSo_1 11 rfl rfl)
theorem dX0_isSo_36 : decode cX0_isSo 36 = .ok (.iload_n 2, 1) := dk_28 (dk_at dksX0_isSo_1 14 rfl rfl)
theorem dX0_isSo_37 : decode cX0_isSo 37 = .ok (.iaload, 1) := dk_46 (dk_at dksX0_isSo_1 15 rfl rfl)
theorem dX0_isSo_38 : decode cX0_isSo 38 = .ok (.iaload, 1) := dk_46 (dk_at dksX0_isSo_1 16 rfl rfl)
theorem dX0_isSo_39 : decode cX0_isSo 39 = .ok (.aload_n 0, 1) := dk_42 (dk_at dksX0_isSo_1 17 rfl rfl)
theorem dX0_isSo_40 : decode cX0_isSo 40 = .ok (.getfield 71, 3) := dk_180 0 71 (dk_at dksX0_isSo_1 18 rfl rfl)
theorem dX0_isSo_43 : decode cX0_isSo 43 = .ok (.iload_n 2, 1) := dk_28 (dk_at dksX0_isSo_1 21 rfl rfl)
theorem dX0_isSo_44 : decode cX0_isSo 44 = .ok (.iaload, 1) := dk_46 (dk_at dksX0_isSo_1 22 rfl rfl)
theorem dX0_isSo_45 : decode cX0_isSo 45 = .ok (.if_icmp .eq 5, 3) := dk_159 0 5 (dk_at dksX0_isSo_2 0 rfl rfl)
theorem dX0_isSo_48 : decode cX0_isSo 48 = .ok (.iconst 0, 1) := dk_3 (dk_at dksX0_isSo_2 3 rfl rfl)
theorem dX0_isSo_49 : decode cX0_isSo 49 = .ok (.ireturn, 1) := dk_172 (dk_at dksX0_isSo_2 4 rfl rfl)
theorem dX0_isSo_50 : decode cX0_isSo 50 = .ok (.iinc 2 1, 3) := dk_132 2 1 (dk_at dksX0_isSo_2 5 rfl rfl)
theorem dX0_isSo_53 : decode cX0_isSo 53 = .ok (.goto (-40), 3) := dk_167 255 216 (dk_at dksX0_isSo_2 8 rfl rfl)
theorem dX0_isSo_56 : decode cX0_isSo 56 = .ok (.iconst 1, 1) := dk_4 (dk_at dksX0_isSo_2 11 rfl rfl)
theorem dX0_isSo_57 : decode cX0_isSo 57 = .ok (.ireturn, 1) := dk_172 (dk_at dksX0_isSo_2 12 rfl rfl)
abbrev cX0_suspects : ByteArray := prog_1_method_47_code
def yX0_suspects : MethodName := ⟨RX0, "suspects", "(I)I"⟩
def dkwX0_suspects_3 : List UInt8 := [4, 29, 120, 128, 61, 132, 4, 1, 167, 255, 209, 132, 3, 1, 167, 255, 186, 28, 172]
abbrev dktX0_suspects_3 : List UInt8 := dkwX0_suspects_3 ++ []
def dkwX0_suspects_2 : List UInt8 := [42, 29, 182, 1, 49, 159, 0, 24, 42, 29, 42, 21, 4, 182, 1, 2, 27, 182, 1, 46, 153, 0, 9, 28]
abbrev dktX0_suspects_2 : List UInt8 := dkwX0_suspects_2 ++ dktX0_suspects_3
def dkwX0_suspects_1 : List UInt8 := [182, 0, 111, 162, 0, 62, 3, 54, 4, 21, 4, 42, 182, 0, 255, 162, 0, 44, 42, 21, 4, 182, 1, 2]
abbrev dktX0_suspects_1 : List UInt8 := dkwX0_suspects_1 ++ dktX0_suspects_2
def dkwX0_suspects_0 : List UInt8 := [42, 27, 182, 1, 43, 154, 0, 5, 2, 172, 3, 61, 3, 62, 29, 42, 180, 0, 35, 180, 0, 121]
abbrev dktX0_suspects_0 : List UInt8 := dkwX0_suspects_0 ++ dktX0_suspects_1
theorem dksX0_suspects_0 : cX0_suspects.data.toList.drop 0 = dktX0_suspects_0 := by decide +kernel
theorem dksX0_suspects_1 : cX0_suspects.data.toList.drop 22 = dktX0_suspects_1 := dk_seg dksX0_suspects_0 22 rfl rfl
theorem dksX0_suspects_2 : cX0_suspects.data.toList.drop 46 = dktX0_suspects_2 := dk_seg dksX0_suspects_1 24 rfl rfl
theorem dksX0_suspects_3 : cX0_suspects.data.toList.drop 70 = dktX0_suspects_3 := dk_seg dksX0_suspects_2 24 rfl rfl
theorem dX0_suspects_0 : decode cX0_suspects 0 = .ok (.aload_n 0, 1) := dk_42 (dk_at dksX0_suspects_0 0 rfl rfl)
theorem dX0_suspects_1 : decode cX0_suspects 1 = .ok (.iload_n 1, 1) := dk_27 (dk_at dksX0_suspects_0 1 rfl rfl)
theorem dX0_suspects_2 : decode cX0_suspects 2 = .ok (.invokevirtual 299, 3) := dk_182 1 43 (dk_at dksX0_suspects_0 2 rfl rfl)
theorem dX0_suspects_5 : decode cX0_suspects 5 = .ok (.ifCond .ne 5, 3) := dk_154 0 5 (dk_at dksX0_suspects_0 5 rfl rfl)
theorem dX0_suspects_8 : decode cX0_suspects 8 = .ok (.iconst (-1), 1) := dk_2 (dk_at dksX0_suspects_0 8 rfl rfl)
theorem dX0_suspects_9 : decode cX0_suspects 9 = .ok (.ireturn, 1) := dk_172 (dk_at dksX0_suspects_0 9 rfl rfl)
theorem dX0_suspects_10 : decode cX0_suspects 10 = .ok (.iconst 0, 1) := dk_3 (dk_at dksX0_suspects_0 10 rfl rfl)
theorem dX0_suspects_11 : decode cX0_suspects 11 = .ok (.istore_n 2, 1) := dk_61 (dk_at dksX0_suspects_0 11 rfl rfl)
theorem dX0_suspects_12 : decode cX0_suspects 12 = .ok (.iconst 0, 1) := dk_3 (dk_at dksX0_suspects_0 12 rfl rfl)
theorem dX0_suspects_13 : decode cX0_suspects 13 = .ok (.istore_n 3, 1) := dk_62 (dk_at dksX0_suspects_0 13 rfl rfl)
theorem dX0_suspects_14 : decode cX0_suspects 14 = .ok (.iload_n 3, 1) := dk_29 (dk_at dksX0_suspects_0 14 rfl rfl)
theorem dX0_suspects_15 : decode cX0_suspects 15 = .ok (.aload_n 0, 1) := dk_42 (dk_at dksX0_suspects_0 15 rfl rfl)
theorem dX0_suspects_16 : decode cX0_suspects 16 = .ok (.getfield 35, 3) := dk_180 0 35 (dk_at dksX0_suspects_0 16 rfl rfl)
theorem dX0_suspects_19 : decode cX0_suspects 19 = .ok (.getfield 121, 3) := dk_180 0 121 (dk_at dksX0_suspects_0 19 rfl rfl)
theorem dX0_suspects_22 : decode cX0_suspects 22 = .ok (.invokevirtual 111, 3) := dk_182 0 111 (dk_at dksX0_suspects_1 0 rfl rfl)
theorem dX0_suspects_25 : decode cX0_suspects 25 = .ok (.if_icmp .ge 62, 3) := dk_162 0 62 (dk_at dksX0_suspects_1 3 rfl rfl)
theorem dX0_suspects_28 : decode cX0_suspects 28 = .ok (.iconst 0, 1) := dk_3 (dk_at dksX0_suspects_1 6 rfl rfl)
theorem dX0_suspects_29 : decode cX0_suspects 29 = .ok (.istore 4, 2) := dk_54 4 (dk_at dksX0_suspects_1 7 rfl rfl)
theorem dX0_suspects_31 : decode cX0_suspects 31 = .ok (.iload 4, 2) := dk_21 4 (dk_at dksX0_suspects_1 9 rfl rfl)
theorem dX0_suspects_33 : decode cX0_suspects 33 = .ok (.aload_n 0, 1) := dk_42 (dk_at dksX0_suspects_1 11 rfl rfl)
theorem dX0_suspects_34 : decode cX0_suspects 34 = .ok (.invokevirtual 255, 3) := dk_182 0 255 (dk_at dksX0_suspects_1 12 rfl rfl)
theorem dX0_suspects_37 : decode cX0_suspects 37 = .ok (.if_icmp .ge 44, 3) := dk_162 0 44 (dk_at dksX0_suspects_1 15 rfl rfl)
theorem dX0_suspects_40 : decode cX0_suspects 40 = .ok (.aload_n 0, 1) := dk_42 (dk_at dksX0_suspects_1 18 rfl rfl)
theorem dX0_suspects_41 : decode cX0_suspects 41 = .ok (.iload 4, 2) := dk_21 4 (dk_at dksX0_suspects_1 19 rfl rfl)
theorem dX0_suspects_43 : decode cX0_suspects 43 = .ok (.invokevirtual 258, 3) := dk_182 1 2 (dk_at dksX0_suspects_1 21 rfl rfl)
theorem dX0_suspects_46 : decode cX0_suspects 46 = .ok (.aload_n 0, 1) := dk_42 (dk_at dksX0_suspects_2 0 rfl rfl)
theorem dX0_suspects_47 : decode cX0_suspects 47 = .ok (.iload_n 3, 1) := dk_29 (dk_at dksX0_suspects_2 1 rfl rfl)
theorem dX0_suspects_48 : decode cX0_suspects 48 = .ok (.invokevirtual 305, 3) := dk_182 1 49 (dk_at dksX0_suspects_2 2 rfl rfl)
theorem dX0_suspects_51 : decode cX0_suspects 51 = .ok (.if_icmp .eq 24, 3) := dk_159 0 24 (dk_at dksX0_suspects_2 5 rfl rfl)
theorem dX0_suspects_54 : decode cX0_suspects 54 = .ok (.aload_n 0, 1) := dk_42 (dk_at dksX0_suspects_2 8 rfl rfl)
theorem dX0_suspects_55 : decode cX0_suspects 55 = .ok (.iload_n 3, 1) := dk_29 (dk_at dksX0_suspects_2 9 rfl rfl)
theorem dX0_suspects_56 : decode cX0_suspects 56 = .ok (.aload_n 0, 1) := dk_42 (dk_at dksX0_suspects_2 10 rfl rfl)
theorem dX0_suspects_57 : decode cX0_suspects 57 = .ok (.iload 4, 2) := dk_21 4 (dk_at dksX0_suspects_2 11 rfl rfl)
theorem dX0_suspects_59 : decode cX0_suspects 59 = .ok (.invokevirtual 258, 3) := dk_182 1 2 (dk_at dksX0_suspects_2 13 rfl rfl)
theorem dX0_suspects_62 : decode cX0_suspects 62 = .ok (.iload_n 1, 1) := dk_27 (dk_at dksX0_suspects_2 16 rfl rfl)
theorem dX0_suspects_63 : decode cX0_suspects 63 = .ok (.invokevirtual 302, 3) := dk_182 1 46 (dk_at dksX0_suspects_2 17 rfl rfl)
theorem dX0_suspects_66 : decode cX0_suspects 66 = .ok (.ifCond .eq 9, 3) := dk_153 0 9 (dk_at dksX0_suspects_2 20 rfl rfl)
theorem dX0_suspects_69 : decode cX0_suspects 69 = .ok (.iload_n 2, 1) := dk_28 (dk_at dksX0_suspects_2 23 rfl rfl)
theorem dX0_suspects_70 : decode cX0_suspects 70 = .ok (.iconst 1, 1) := dk_4 (dk_at dksX0_suspects_3 0 rfl rfl)
theorem dX0_suspects_71 : decode cX0_suspects 71 = .ok (.iload_n 3, 1) := dk_29 (dk_at dksX0_suspects_3 1 rfl rfl)
theorem dX0_suspects_72 : decode cX0_suspects 72 = .ok (.ishl, 1) := dk_120 (dk_at dksX0_suspects_3 2 rfl rfl)
theorem dX0_suspects_73 : decode cX0_suspects 73 = .ok (.ior, 1) := dk_128 (dk_at dksX0_suspects_3 3 rfl rfl)
theorem dX0_suspects_74 : decode cX0_suspects 74 = .ok (.istore_n 2, 1) := dk_61 (dk_at dksX0_suspects_3 4 rfl rfl)
theorem dX0_suspects_75 : decode cX0_suspects 75 = .ok (.iinc 4 1, 3) := dk_132 4 1 (dk_at dksX0_suspects_3 5 rfl rfl)
theorem dX0_suspects_78 : decode cX0_suspects 78 = .ok (.goto (-47), 3) := dk_167 255 209 (dk_at dksX0_suspects_3 8 rfl rfl)
theorem dX0_suspects_81 : decode cX0_suspects 81 = .ok (.iinc 3 1, 3) := dk_132 3 1 (dk_at dksX0_suspects_3 11 rfl rfl)
theorem dX0_suspects_84 : decode cX0_suspects 84 = .ok (.goto (-70), 3) := dk_167 255 186 (dk_at dksX0_suspects_3 14 rfl rfl)
theorem dX0_suspects_87 : decode cX0_suspects 87 = .ok (.iload_n 2, 1) := dk_28 (dk_at dksX0_suspects_3 17 rfl rfl)
theorem dX0_suspects_88 : decode cX0_suspects 88 = .ok (.ireturn, 1) := dk_172 (dk_at dksX0_suspects_3 18 rfl rfl)
abbrev cX0_leftNow : ByteArray := prog_1_method_46_code
def yX0_leftNow : MethodName := ⟨RX0, "leftNow", "(I)I"⟩
def dkwX0_leftNow_1 : List UInt8 := [180, 0, 191, 27, 46, 104, 42, 180, 0, 46, 180, 0, 194, 27, 46, 96, 172]
abbrev dktX0_leftNow_1 : List UInt8 := dkwX0_leftNow_1 ++ []
def dkwX0_leftNow_0 : List UInt8 := [42, 180, 0, 46, 180, 0, 191, 27, 46, 156, 0, 8, 16, 254, 167, 0, 25, 16, 10, 42, 180, 0, 46]
abbrev dktX0_leftNow_0 : List UInt8 := dkwX0_leftNow_0 ++ dktX0_leftNow_1
theorem dksX0_leftNow_0 : cX0_leftNow.data.toList.drop 0 = dktX0_leftNow_0 := by decide +kernel
theorem dksX0_leftNow_1 : cX0_leftNow.data.toList.drop 23 = dktX0_leftNow_1 := dk_seg dksX0_leftNow_0 23 rfl rfl
theorem dX0_leftNow_0 : decode cX0_leftNow 0 = .ok (.aload_n 0, 1) := dk_42 (dk_at dksX0_leftNow_0 0 rfl rfl)
theorem dX0_leftNow_1 : decode cX0_leftNow 1 = .ok (.getfield 46, 3) := dk_180 0 46 (dk_at dksX0_leftNow_0 1 rfl rfl)
theorem dX0_leftNow_4 : decode cX0_leftNow 4 = .ok (.getfield 191, 3) := dk_180 0 191 (dk_at dksX0_leftNow_0 4 rfl rfl)
theorem dX0_leftNow_7 : decode cX0_leftNow 7 = .ok (.iload_n 1, 1) := dk_27 (dk_at dksX0_leftNow_0 7 rfl rfl)
theorem dX0_leftNow_8 : decode cX0_leftNow 8 = .ok (.iaload, 1) := dk_46 (dk_at dksX0_leftNow_0 8 rfl rfl)
theorem dX0_leftNow_9 : decode cX0_leftNow 9 = .ok (.ifCond .ge 8, 3) := dk_156 0 8 (dk_at dksX0_leftNow_0 9 rfl rfl)
theorem dX0_leftNow_12 : decode cX0_leftNow 12 = .ok (.bipush (-2), 2) := dk_16 254 (dk_at dksX0_leftNow_0 12 rfl rfl)
theorem dX0_leftNow_14 : decode cX0_leftNow 14 = .ok (.goto 25, 3) := dk_167 0 25 (dk_at dksX0_leftNow_0 14 rfl rfl)
theorem dX0_leftNow_17 : decode cX0_leftNow 17 = .ok (.bipush 10, 2) := dk_16 10 (dk_at dksX0_leftNow_0 17 rfl rfl)
theorem dX0_leftNow_19 : decode cX0_leftNow 19 = .ok (.aload_n 0, 1) := dk_42 (dk_at dksX0_leftNow_0 19 rfl rfl)
theorem dX0_leftNow_20 : decode cX0_leftNow 20 = .ok (.getfield 46, 3) := dk_180 0 46 (dk_at dksX0_leftNow_0 20 rfl rfl)
theorem dX0_leftNow_23 : decode cX0_leftNow 23 = .ok (.getfield 191, 3) := dk_180 0 191 (dk_at dksX0_leftNow_1 0 rfl rfl)
theorem dX0_leftNow_26 : decode cX0_leftNow 26 = .ok (.iload_n 1, 1) := dk_27 (dk_at dksX0_leftNow_1 3 rfl rfl)
theorem dX0_leftNow_27 : decode cX0_leftNow 27 = .ok (.iaload, 1) := dk_46 (dk_at dksX0_leftNow_1 4 rfl rfl)
theorem dX0_leftNow_28 : decode cX0_leftNow 28 = .ok (.imul, 1) := dk_104 (dk_at dksX0_leftNow_1 5 rfl rfl)
theorem dX0_leftNow_29 : decode cX0_leftNow 29 = .ok (.aload_n 0, 1) := dk_42 (dk_at dksX0_leftNow_1 6 rfl rfl)
theorem dX0_leftNow_30 : decode cX0_leftNow 30 = .ok (.getfield 46, 3) := dk_180 0 46 (dk_at dksX0_leftNow_1 7 rfl rfl)
theorem dX0_leftNow_33 : decode cX0_leftNow 33 = .ok (.getfield 194, 3) := dk_180 0 194 (dk_at dksX0_leftNow_1 10 rfl rfl)
theorem dX0_leftNow_36 : decode cX0_leftNow 36 = .ok (.iload_n 1, 1) := dk_27 (dk_at dksX0_leftNow_1 13 rfl rfl)
theorem dX0_leftNow_37 : decode cX0_leftNow 37 = .ok (.iaload, 1) := dk_46 (dk_at dksX0_leftNow_1 14 rfl rfl)
theorem dX0_leftNow_38 : decode cX0_leftNow 38 = .ok (.iadd, 1) := dk_96 (dk_at dksX0_leftNow_1 15 rfl rfl)
theorem dX0_leftNow_39 : decode cX0_leftNow 39 = .ok (.ireturn, 1) := dk_172 (dk_at dksX0_leftNow_1 16 rfl rfl)
abbrev cX0_pairs : ByteArray := prog_1_method_48_code
def yX0_pairs : MethodName := ⟨RX0, "pairs", "(III)I"⟩
def dkwX0_pairs_4 : List UInt8 := [54, 4, 132, 6, 1, 167, 255, 193, 132, 5, 1, 167, 255, 175, 21, 4, 172]
abbrev dktX0_pairs_4 : List UInt8 := dkwX0_pairs_4 ++ []
def dkwX0_pairs_3 : List UInt8 := [21, 6, 182, 1, 2, 182, 1, 6, 21, 4, 42, 29, 182, 1, 40, 153, 0, 7, 4, 167, 0, 4, 3, 96]
abbrev dktX0_pairs_3 : List UInt8 := dkwX0_pairs_3 ++ dktX0_pairs_4
def dkwX0_pairs_2 : List UInt8 := [180, 0, 50, 42, 180, 0, 46, 182, 0, 235, 42, 27, 42, 21, 5, 182, 1, 2, 182, 1, 6, 42, 28, 42]
abbrev dktX0_pairs_2 : List UInt8 := dkwX0_pairs_2 ++ dktX0_pairs_3
def dkwX0_pairs_1 : List UInt8 := [54, 5, 21, 5, 42, 182, 0, 255, 162, 0, 78, 3, 54, 6, 21, 6, 42, 182, 0, 255, 162, 0, 60, 42]
abbrev dktX0_pairs_1 : List UInt8 := dkwX0_pairs_1 ++ dktX0_pairs_2
def dkwX0_pairs_0 : List UInt8 := [42, 27, 28, 182, 1, 19, 153, 0, 11, 42, 29, 182, 1, 43, 154, 0, 5, 2, 172, 3, 54, 4, 3]
abbrev dktX0_pairs_0 : List UInt8 := dkwX0_pairs_0 ++ dktX0_pairs_1
theorem dksX0_pairs_0 : cX0_pairs.data.toList.drop 0 = dktX0_pairs_0 := by decide +kernel
theorem dksX0_pairs_1 : cX0_pairs.data.toList.drop 23 = dktX0_pairs_1 := dk_seg dksX0_pairs_0 23 rfl rfl
theorem dksX0_pairs_2 : cX0_pairs.data.toList.drop 47 = dktX0_pairs_2 := dk_seg dksX0_pairs_1 24 rfl rfl
theorem dksX0_pairs_3 : cX0_pairs.data.toList.drop 71 = dktX0_pairs_3 := dk_seg dksX0_pairs_2 24 rfl rfl
theorem dksX0_pairs_4 : cX0_pairs.data.toList.drop 95 = dktX0_pairs_4 := dk_seg dksX0_pairs_3 24 rfl rfl
theorem dX0_pairs_0 : decode cX0_pairs 0 = .ok (.aload_n 0, 1) := dk_42 (dk_at dksX0_pairs_0 0 rfl rfl)
theorem dX0_pairs_1 : decode cX0_pairs 1 = .ok (.iload_n 1, 1) := dk_27 (dk_at dksX0_pairs_0 1 rfl rfl)
theorem dX0_pairs_2 : decode cX0_pairs 2 = .ok (.iload_n 2, 1) := dk_28 (dk_at dksX0_pairs_0 2 rfl rfl)
theorem dX0_pairs_3 : decode cX0_pairs 3 = .ok (.invokevirtual 275, 3) := dk_182 1 19 (dk_at dksX0_pairs_0 3 rfl rfl)
theorem dX0_pairs_6 : decode cX0_pairs 6 = .ok (.ifCond .eq 11, 3) := dk_153 0 11 (dk_at dksX0_pairs_0 6 rfl rfl)
theorem dX0_pairs_9 : decode cX0_pairs 9 = .ok (.aload_n 0, 1) := dk_42 (dk_at dksX0_pairs_0 9 rfl rfl)
theorem dX0_pairs_10 : decode cX0_pairs 10 = .ok (.iload_n 3, 1) := dk_29 (dk_at dksX0_pairs_0 10 rfl rfl)
theorem dX0_pairs_11 : decode cX0_pairs 11 = .ok (.invokevirtual 299, 3) := dk_182 1 43 (dk_at dksX0_pairs_0 11 rfl rfl)
theorem dX0_pairs_14 : decode cX0_pairs 14 = .ok (.ifCond .ne 5, 3) := dk_154 0 5 (dk_at dksX0_pairs_0 14 rfl rfl)
theorem dX0_pairs_17 : decode cX0_pairs 17 = .ok (.iconst (-1), 1) := dk_2 (dk_at dksX0_pairs_0 17 rfl rfl)
theorem dX0_pairs_18 : decode cX0_pairs 18 = .ok (.ireturn, 1) := dk_172 (dk_at dksX0_pairs_0 18 rfl rfl)
theorem dX0_pairs_19 : decode cX0_pairs 19 = .ok (.iconst 0, 1) := dk_3 (dk_at dksX0_pairs_0 19 rfl rfl)
theorem dX0_pairs_20 : decode cX0_pairs 20 = .ok (.istore 4, 2) := dk_54 4 (dk_at dksX0_pairs_0 20 rfl rfl)
theorem dX0_pairs_22 : decode cX0_pairs 22 = .ok (.iconst 0, 1) := dk_3 (dk_at dksX0_pairs_0 22 rfl rfl)
theorem dX0_pairs_23 : decode cX0_pairs 23 = .ok (.istore 5, 2) := dk_54 5 (dk_at dksX0_pairs_1 0 rfl rfl)
theorem dX0_pairs_25 : decode cX0_pairs 25 = .ok (.iload 5, 2) := dk_21 5 (dk_at dksX0_pairs_1 2 rfl rfl)
theorem dX0_pairs_27 : decode cX0_pairs 27 = .ok (.aload_n 0, 1) := dk_42 (dk_at dksX0_pairs_1 4 rfl rfl)
theorem dX0_pairs_28 : decode cX0_pairs 28 = .ok (.invokevirtual 255, 3) := dk_182 0 255 (dk_at dksX0_pairs_1 5 rfl rfl)
theorem dX0_pairs_31 : decode cX0_pairs 31 = .ok (.if_icmp .ge 78, 3) := dk_162 0 78 (dk_at dksX0_pairs_1 8 rfl rfl)
theorem dX0_pairs_34 : decode cX0_pairs 34 = .ok (.iconst 0, 1) := dk_3 (dk_at dksX0_pairs_1 11 rfl rfl)
theorem dX0_pairs_35 : decode cX0_pairs 35 = .ok (.istore 6, 2) := dk_54 6 (dk_at dksX0_pairs_1 12 rfl rfl)
theorem dX0_pairs_37 : decode cX0_pairs 37 = .ok (.iload 6, 2) := dk_21 6 (dk_at dksX0_pairs_1 14 rfl rfl)
theorem dX0_pairs_39 : decode cX0_pairs 39 = .ok (.aload_n 0, 1) := dk_42 (dk_at dksX0_pairs_1 16 rfl rfl)
theorem dX0_pairs_40 : decode cX0_pairs 40 = .ok (.invokevirtual 255, 3) := dk_182 0 255 (dk_at dksX0_pairs_1 17 rfl rfl)
theorem dX0_pairs_43 : decode cX0_pairs 43 = .ok (.if_icmp .ge 60, 3) := dk_162 0 60 (dk_at dksX0_pairs_1 20 rfl rfl)
theorem dX0_pairs_46 : decode cX0_pairs 46 = .ok (.aload_n 0, 1) := dk_42 (dk_at dksX0_pairs_1 23 rfl rfl)
theorem dX0_pairs_47 : decode cX0_pairs 47 = .ok (.getfield 50, 3) := dk_180 0 50 (dk_at dksX0_pairs_2 0 rfl rfl)
theorem dX0_pairs_50 : decode cX0_pairs 50 = .ok (.aload_n 0, 1) := dk_42 (dk_at dksX0_pairs_2 3 rfl rfl)
theorem dX0_pairs_51 : decode cX0_pairs 51 = .ok (.getfield 46, 3) := dk_180 0 46 (dk_at dksX0_pairs_2 4 rfl rfl)
theorem dX0_pairs_54 : decode cX0_pairs 54 = .ok (.invokevirtual 235, 3) := dk_182 0 235 (dk_at dksX0_pairs_2 7 rfl rfl)
theorem dX0_pairs_57 : decode cX0_pairs 57 = .ok (.aload_n 0, 1) := dk_42 (dk_at dksX0_pairs_2 10 rfl rfl)
theorem dX0_pairs_58 : decode cX0_pairs 58 = .ok (.iload_n 1, 1) := dk_27 (dk_at dksX0_pairs_2 11 rfl rfl)
theorem dX0_pairs_59 : decode cX0_pairs 59 = .ok (.aload_n 0, 1) := dk_42 (dk_at dksX0_pairs_2 12 rfl rfl)
theorem dX0_pairs_60 : decode cX0_pairs 60 = .ok (.iload 5, 2) := dk_21 5 (dk_at dksX0_pairs_2 13 rfl rfl)
theorem dX0_pairs_62 : decode cX0_pairs 62 = .ok (.invokevirtual 258, 3) := dk_182 1 2 (dk_at dksX0_pairs_2 15 rfl rfl)
theorem dX0_pairs_65 : decode cX0_pairs 65 = .ok (.invokevirtual 262, 3) := dk_182 1 6 (dk_at dksX0_pairs_2 18 rfl rfl)
theorem dX0_pairs_68 : decode cX0_pairs 68 = .ok (.aload_n 0, 1) := dk_42 (dk_at dksX0_pairs_2 21 rfl rfl)
theorem dX0_pairs_69 : decode cX0_pairs 69 = .ok (.iload_n 2, 1) := dk_28 (dk_at dksX0_pairs_2 22 rfl rfl)
theorem dX0_pairs_70 : decode cX0_pairs 70 = .ok (.aload_n 0, 1) := dk_42 (dk_at dksX0_pairs_2 23 rfl rfl)
theorem dX0_pairs_71 : decode cX0_pairs 71 = .ok (.iload 6, 2) := dk_21 6 (dk_at dksX0_pairs_3 0 rfl rfl)
theorem dX0_pairs_73 : decode cX0_pairs 73 = .ok (.invokevirtual 258, 3) := dk_182 1 2 (dk_at dksX0_pairs_3 2 rfl rfl)
theorem dX0_pairs_76 : decode cX0_pairs 76 = .ok (.invokevirtual 262, 3) := dk_182 1 6 (dk_at dksX0_pairs_3 5 rfl rfl)
theorem dX0_pairs_79 : decode cX0_pairs 79 = .ok (.iload 4, 2) := dk_21 4 (dk_at dksX0_pairs_3 8 rfl rfl)
theorem dX0_pairs_81 : decode cX0_pairs 81 = .ok (.aload_n 0, 1) := dk_42 (dk_at dksX0_pairs_3 10 rfl rfl)
theorem dX0_pairs_82 : decode cX0_pairs 82 = .ok (.iload_n 3, 1) := dk_29 (dk_at dksX0_pairs_3 11 rfl rfl)
theorem dX0_pairs_83 : decode cX0_pairs 83 = .ok (.invokevirtual 296, 3) := dk_182 1 40 (dk_at dksX0_pairs_3 12 rfl rfl)
theorem dX0_pairs_86 : decode cX0_pairs 86 = .ok (.ifCond .eq 7, 3) := dk_153 0 7 (dk_at dksX0_pairs_3 15 rfl rfl)
theorem dX0_pairs_89 : decode cX0_pairs 89 = .ok (.iconst 1, 1) := dk_4 (dk_at dksX0_pairs_3 18 rfl rfl)
theorem dX0_pairs_90 : decode cX0_pairs 90 = .ok (.goto 4, 3) := dk_167 0 4 (dk_at dksX0_pairs_3 19 rfl rfl)
theorem dX0_pairs_93 : decode cX0_pairs 93 = .ok (.iconst 0, 1) := dk_3 (dk_at dksX0_pairs_3 22 rfl rfl)
theorem dX0_pairs_94 : decode cX0_pairs 94 = .ok (.iadd, 1) := dk_96 (dk_at dksX0_pairs_3 23 rfl rfl)
theorem dX0_pairs_95 : decode cX0_pairs 95 = .ok (.istore 4, 2) := dk_54 4 (dk_at dksX0_pairs_4 0 rfl rfl)
theorem dX0_pairs_97 : decode cX0_pairs 97 = .ok (.iinc 6 1, 3) := dk_132 6 1 (dk_at dksX0_pairs_4 2 rfl rfl)
theorem dX0_pairs_100 : decode cX0_pairs 100 = .ok (.goto (-63), 3) := dk_167 255 193 (dk_at dksX0_pairs_4 5 rfl rfl)
theorem dX0_pairs_103 : decode cX0_pairs 103 = .ok (.iinc 5 1, 3) := dk_132 5 1 (dk_at dksX0_pairs_4 8 rfl rfl)
theorem dX0_pairs_106 : decode cX0_pairs 106 = .ok (.goto (-81), 3) := dk_167 255 175 (dk_at dksX0_pairs_4 11 rfl rfl)
theorem dX0_pairs_109 : decode cX0_pairs 109 = .ok (.iload 4, 2) := dk_21 4 (dk_at dksX0_pairs_4 14 rfl rfl)
theorem dX0_pairs_111 : decode cX0_pairs 111 = .ok (.ireturn, 1) := dk_172 (dk_at dksX0_pairs_4 16 rfl rfl)
abbrev cX0_hold : ByteArray := prog_1_method_49_code
def yX0_hold : MethodName := ⟨RX0, "hold", "(I)Z"⟩
def dkwX0_hold_1 : List UInt8 := [42, 180, 0, 60, 27, 4, 84, 4, 172]
abbrev dktX0_hold_1 : List UInt8 := dkwX0_hold_1 ++ []
def dkwX0_hold_0 : List UInt8 := [27, 3, 5, 184, 0, 103, 154, 0, 5, 3, 172, 42, 180, 0, 57, 27, 50, 42, 180, 0, 46, 182, 0, 235]
abbrev dktX0_hold_0 : List UInt8 := dkwX0_hold_0 ++ dktX0_hold_1
theorem dksX0_hold_0 : cX0_hold.data.toList.drop 0 = dktX0_hold_0 := by decide +kernel
theorem dksX0_hold_1 : cX0_hold.data.toList.drop 24 = dktX0_hold_1 := dk_seg dksX0_hold_0 24 rfl rfl
theorem dX0_hold_0 : decode cX0_hold 0 = .ok (.iload_n 1, 1) := dk_27 (dk_at dksX0_hold_0 0 rfl rfl)
theorem dX0_hold_1 : decode cX0_hold 1 = .ok (.iconst 0, 1) := dk_3 (dk_at dksX0_hold_0 1 rfl rfl)
theorem dX0_hold_2 : decode cX0_hold 2 = .ok (.iconst 2, 1) := dk_5 (dk_at dksX0_hold_0 2 rfl rfl)
theorem dX0_hold_3 : decode cX0_hold 3 = .ok (.invokestatic 103, 3) := dk_184 0 103 (dk_at dksX0_hold_0 3 rfl rfl)
theorem dX0_hold_6 : decode cX0_hold 6 = .ok (.ifCond .ne 5, 3) := dk_154 0 5 (dk_at dksX0_hold_0 6 rfl rfl)
theorem dX0_hold_9 : decode cX0_hold 9 = .ok (.iconst 0, 1) := dk_3 (dk_at dksX0_hold_0 9 rfl rfl)
theorem dX0_hold_10 : decode cX0_hold 10 = .ok (.ireturn, 1) := dk_172 (dk_at dksX0_hold_0 10 rfl rfl)
theorem dX0_hold_11 : decode cX0_hold 11 = .ok (.aload_n 0, 1) := dk_42 (dk_at dksX0_hold_0 11 rfl rfl)
theorem dX0_hold_12 : decode cX0_hold 12 = .ok (.getfield 57, 3) := dk_180 0 57 (dk_at dksX0_hold_0 12 rfl rfl)
theorem dX0_hold_15 : decode cX0_hold 15 = .ok (.iload_n 1, 1) := dk_27 (dk_at dksX0_hold_0 15 rfl rfl)
theorem dX0_hold_16 : decode cX0_hold 16 = .ok (.aaload, 1) := dk_50 (dk_at dksX0_hold_0 16 rfl rfl)
theorem dX0_hold_17 : decode cX0_hold 17 = .ok (.aload_n 0, 1) := dk_42 (dk_at dksX0_hold_0 17 rfl rfl)
theorem dX0_hold_18 : decode cX0_hold 18 = .ok (.getfield 46, 3) := dk_180 0 46 (dk_at dksX0_hold_0 18 rfl rfl)
theorem dX0_hold_21 : decode cX0_hold 21 = .ok (.invokevirtual 235, 3) := dk_182 0 235 (dk_at dksX0_hold_0 21 rfl rfl)
theorem dX0_hold_24 : decode cX0_hold 24 = .ok (.aload_n 0, 1) := dk_42 (dk_at dksX0_hold_1 0 rfl rfl)
theorem dX0_hold_25 : decode cX0_hold 25 = .ok (.getfield 60, 3) := dk_180 0 60 (dk_at dksX0_hold_1 1 rfl rfl)
theorem dX0_hold_28 : decode cX0_hold 28 = .ok (.iload_n 1, 1) := dk_27 (dk_at dksX0_hold_1 4 rfl rfl)
theorem dX0_hold_29 : decode cX0_hold 29 = .ok (.iconst 1, 1) := dk_4 (dk_at dksX0_hold_1 5 rfl rfl)
theorem dX0_hold_30 : decode cX0_hold 30 = .ok (.bastore, 1) := dk_84 (dk_at dksX0_hold_1 6 rfl rfl)
theorem dX0_hold_31 : decode cX0_hold 31 = .ok (.iconst 1, 1) := dk_4 (dk_at dksX0_hold_1 7 rfl rfl)
theorem dX0_hold_32 : decode cX0_hold 32 = .ok (.ireturn, 1) := dk_172 (dk_at dksX0_hold_1 8 rfl rfl)
abbrev cX0_restore : ByteArray := prog_1_method_50_code
def yX0_restore : MethodName := ⟨RX0, "restore", "(I)Z"⟩
def dkwX0_restore_1 : List UInt8 := [42, 180, 0, 57, 27, 50, 182, 0, 235, 42, 3, 181, 0, 93, 4, 172]
abbrev dktX0_restore_1 : List UInt8 := dkwX0_restore_1 ++ []
def dkwX0_restore_0 : List UInt8 := [27, 3, 5, 184, 0, 103, 153, 0, 12, 42, 180, 0, 60, 27, 51, 154, 0, 5, 3, 172, 42, 180, 0, 46]
abbrev dktX0_restore_0 : List UInt8 := dkwX0_restore_0 ++ dktX0_restore_1
theorem dksX0_restore_0 : cX0_restore.data.toList.drop 0 = dktX0_restore_0 := by decide +kernel
theorem dksX0_restore_1 : cX0_restore.data.toList.drop 24 = dktX0_restore_1 := dk_seg dksX0_restore_0 24 rfl rfl
theorem dX0_restore_0 : decode cX0_restore 0 = .ok (.iload_n 1, 1) := dk_27 (dk_at dksX0_restore_0 0 rfl rfl)
theorem dX0_restore_1 : decode cX0_restore 1 = .ok (.iconst 0, 1) := dk_3 (dk_at dksX0_restore_0 1 rfl rfl)
theorem dX0_restore_2 : decode cX0_restore 2 = .ok (.iconst 2, 1) := dk_5 (dk_at dksX0_restore_0 2 rfl rfl)
theorem dX0_restore_3 : decode cX0_restore 3 = .ok (.invokestatic 103, 3) := dk_184 0 103 (dk_at dksX0_restore_0 3 rfl rfl)
theorem dX0_restore_6 : decode cX0_restore 6 = .ok (.ifCond .eq 12, 3) := dk_153 0 12 (dk_at dksX0_restore_0 6 rfl rfl)
theorem dX0_restore_9 : decode cX0_restore 9 = .ok (.aload_n 0, 1) := dk_42 (dk_at dksX0_restore_0 9 rfl rfl)
theorem dX0_restore_10 : decode cX0_restore 10 = .ok (.getfield 60, 3) := dk_180 0 60 (dk_at dksX0_restore_0 10 rfl rfl)
theorem dX0_restore_13 : decode cX0_restore 13 = .ok (.iload_n 1, 1) := dk_27 (dk_at dksX0_restore_0 13 rfl rfl)
theorem dX0_restore_14 : decode cX0_restore 14 = .ok (.baload, 1) := dk_51 (dk_at dksX0_restore_0 14 rfl rfl)
theorem dX0_restore_15 : decode cX0_restore 15 = .ok (.ifCond .ne 5, 3) := dk_154 0 5 (dk_at dksX0_restore_0 15 rfl rfl)
theorem dX0_restore_18 : decode cX0_restore 18 = .ok (.iconst 0, 1) := dk_3 (dk_at dksX0_restore_0 18 rfl rfl)
theorem dX0_restore_19 : decode cX0_restore 19 = .ok (.ireturn, 1) := dk_172 (dk_at dksX0_restore_0 19 rfl rfl)
theorem dX0_restore_20 : decode cX0_restore 20 = .ok (.aload_n 0, 1) := dk_42 (dk_at dksX0_restore_0 20 rfl rfl)
theorem dX0_restore_21 : decode cX0_restore 21 = .ok (.getfield 46, 3) := dk_180 0 46 (dk_at dksX0_restore_0 21 rfl rfl)
theorem dX0_restore_24 : decode cX0_restore 24 = .ok (.aload_n 0, 1) := dk_42 (dk_at dksX0_restore_1 0 rfl rfl)
theorem dX0_restore_25 : decode cX0_restore 25 = .ok (.getfield 57, 3) := dk_180 0 57 (dk_at dksX0_restore_1 1 rfl rfl)
theorem dX0_restore_28 : decode cX0_restore 28 = .ok (.iload_n 1, 1) := dk_27 (dk_at dksX0_restore_1 4 rfl rfl)
theorem dX0_restore_29 : decode cX0_restore 29 = .ok (.aaload, 1) := dk_50 (dk_at dksX0_restore_1 5 rfl rfl)
theorem dX0_restore_30 : decode cX0_restore 30 = .ok (.invokevirtual 235, 3) := dk_182 0 235 (dk_at dksX0_restore_1 6 rfl rfl)
theorem dX0_restore_33 : decode cX0_restore 33 = .ok (.aload_n 0, 1) := dk_42 (dk_at dksX0_restore_1 9 rfl rfl)
theorem dX0_restore_34 : decode cX0_restore 34 = .ok (.iconst 0, 1) := dk_3 (dk_at dksX0_restore_1 10 rfl rfl)
theorem dX0_restore_35 : decode cX0_restore 35 = .ok (.putfield 93, 3) := dk_181 0 93 (dk_at dksX0_restore_1 11 rfl rfl)
theorem dX0_restore_38 : decode cX0_restore 38 = .ok (.iconst 1, 1) := dk_4 (dk_at dksX0_restore_1 14 rfl rfl)
theorem dX0_restore_39 : decode cX0_restore 39 = .ok (.ireturn, 1) := dk_172 (dk_at dksX0_restore_1 15 rfl rfl)
abbrev cX0_count : ByteArray := prog_1_method_51_code
def yX0_count : MethodName := ⟨RX0, "count", "(I)I"⟩
def dkwX0_count_8 : List UInt8 := [167, 0, 4, 3, 96, 42, 180, 0, 60, 5, 51, 153, 0, 7, 4, 167, 0, 4, 3, 96, 172, 2, 172]
abbrev dktX0_count_8 : List UInt8 := dkwX0_count_8 ++ []
def dkwX0_count_7 : List UInt8 := [180, 0, 60, 3, 51, 153, 0, 7, 4, 167, 0, 4, 3, 42, 180, 0, 60, 4, 51, 153, 0, 7, 4]
abbrev dktX0_count_7 : List UInt8 := dkwX0_count_7 ++ dktX0_count_8
def dkwX0_count_6 : List UInt8 := [182, 0, 245, 172, 42, 180, 0, 19, 180, 0, 74, 172, 42, 180, 0, 93, 172, 42, 180, 0, 96, 172, 42]
abbrev dktX0_count_6 : List UInt8 := dkwX0_count_6 ++ dktX0_count_7
def dkwX0_count_5 : List UInt8 := [180, 1, 52, 172, 42, 180, 0, 46, 180, 0, 229, 184, 1, 26, 172, 42, 180, 0, 46, 42, 180, 0, 35]
abbrev dktX0_count_5 : List UInt8 := dkwX0_count_5 ++ dktX0_count_6
def dkwX0_count_4 : List UInt8 := [180, 0, 35, 180, 0, 121, 182, 0, 111, 172, 42, 180, 0, 35, 180, 1, 31, 172, 42, 180, 0, 46]
abbrev dktX0_count_4 : List UInt8 := dkwX0_count_4 ++ dktX0_count_5
def dkwX0_count_3 : List UInt8 := [180, 0, 35, 180, 0, 206, 182, 0, 111, 172, 42, 180, 0, 35, 180, 0, 107, 182, 0, 111, 172, 42]
abbrev dktX0_count_3 : List UInt8 := dkwX0_count_3 ++ dktX0_count_4
def dkwX0_count_2 : List UInt8 := [42, 180, 0, 35, 180, 0, 124, 182, 0, 111, 172, 42, 180, 0, 35, 180, 0, 226, 182, 0, 111, 172, 42]
abbrev dktX0_count_2 : List UInt8 := dkwX0_count_2 ++ dktX0_count_3
def dkwX0_count_1 : List UInt8 := [170, 0, 0, 0, 0, 0, 224, 0, 0, 0, 0, 0, 0, 0, 12, 0, 0, 0, 67, 0, 0, 0, 78, 0, 0, 0, 89, 0, 0, 0, 100, 0, 0, 0, 111, 0, 0, 0, 122, 0, 0, 0, 130, 0, 0, 0, 138, 0, 0, 0, 149, 0, 0, 0, 161, 0, 0, 0, 169, 0, 0, 0, 174, 0, 0, 0, 179]
abbrev dktX0_count_1 : List UInt8 := dkwX0_count_1 ++ dktX0_count_2
def dkwX0_count_0 : List UInt8 := [27]
abbrev dktX0_count_0 : List UInt8 := dkwX0_count_0 ++ dktX0_count_1
theorem dksX0_count_0 : cX0_count.data.toList.drop 0 = dktX0_count_0 := by decide +kernel
theorem dksX0_count_1 : cX0_count.data.toList.drop 1 = dktX0_count_1 := dk_seg dksX0_count_0 1 rfl rfl
theorem dksX0_count_2 : cX0_count.data.toList.drop 68 = dktX0_count_2 := dk_seg dksX0_count_1 67 rfl rfl
theorem dksX0_count_3 : cX0_count.data.toList.drop 91 = dktX0_count_3 := dk_seg dksX0_count_2 23 rfl rfl
theorem dksX0_count_4 : cX0_count.data.toList.drop 113 = dktX0_count_4 := dk_seg dksX0_count_3 22 rfl rfl
theorem dksX0_count_5 : cX0_count.data.toList.drop 135 = dktX0_count_5 := dk_seg dksX0_count_4 22 rfl rfl
theorem dksX0_count_6 : cX0_count.data.toList.drop 158 = dktX0_count_6 := dk_seg dksX0_count_5 23 rfl rfl
theorem dksX0_count_7 : cX0_count.data.toList.drop 181 = dktX0_count_7 := dk_seg dksX0_count_6 23 rfl rfl
theorem dksX0_count_8 : cX0_count.data.toList.drop 204 = dktX0_count_8 := dk_seg dksX0_count_7 23 rfl rfl
theorem dX0_count_0 : decode cX0_count 0 = .ok (.iload_n 1, 1) := dk_27 (dk_at dksX0_count_0 0 rfl rfl)
theorem dX0_count_1 : decode cX0_count 1 = .ok (.tableswitch 224 0 12 #[67, 78, 89, 100, 111, 122, 130, 138, 149, 161, 169, 174, 179], 67) := by decide +kernel
theorem dX0_count_68 : decode cX0_count 68 = .ok (.aload_n 0, 1) := dk_42 (dk_at dksX0_count_2 0 rfl rfl)
theorem dX0_count_69 : decode cX0_count 69 = .ok (.getfield 35, 3) := dk_180 0 35 (dk_at dksX0_count_2 1 rfl rfl)
theorem dX0_count_72 : decode cX0_count 72 = .ok (.getfield 124, 3) := dk_180 0 124 (dk_at dksX0_count_2 4 rfl rfl)
theorem dX0_count_75 : decode cX0_count 75 = .ok (.invokevirtual 111, 3) := dk_182 0 111 (dk_at dksX0_count_2 7 rfl rfl)
theorem dX0_count_78 : decode cX0_count 78 = .ok (.ireturn, 1) := dk_172 (dk_at dksX0_count_2 10 rfl rfl)
theorem dX0_count_79 : decode cX0_count 79 = .ok (.aload_n 0, 1) := dk_42 (dk_at dksX0_count_2 11 rfl rfl)
theorem dX0_count_80 : decode cX0_count 80 = .ok (.getfield 35, 3) := dk_180 0 35 (dk_at dksX0_count_2 12 rfl rfl)
theorem dX0_count_83 : decode cX0_count 83 = .ok (.getfield 226, 3) := dk_180 0 226 (dk_at dksX0_count_2 15 rfl rfl)
theorem dX0_count_86 : decode cX0_count 86 = .ok (.invokevirtual 111, 3) := dk_182 0 111 (dk_at dksX0_count_2 18 rfl rfl)
theorem dX0_count_89 : decode cX0_count 89 = .ok (.ireturn, 1) := dk_172 (dk_at dksX0_count_2 21 rfl rfl)
theorem dX0_count_90 : decode cX0_count 90 = .ok (.aload_n 0, 1) := dk_42 (dk_at dksX0_count_2 22 rfl rfl)
theorem dX0_count_91 : decode cX0_count 91 = .ok (.getfield 35, 3) := dk_180 0 35 (dk_at dksX0_count_3 0 rfl rfl)
theorem dX0_count_94 : decode cX0_count 94 = .ok (.getfield 206, 3) := dk_180 0 206 (dk_at dksX0_count_3 3 rfl rfl)
theorem dX0_count_97 : decode cX0_count 97 = .ok (.invokevirtual 111, 3) := dk_182 0 111 (dk_at dksX0_count_3 6 rfl rfl)
theorem dX0_count_100 : decode cX0_count 100 = .ok (.ireturn, 1) := dk_172 (dk_at dksX0_count_3 9 rfl rfl)
theorem dX0_count_101 : decode cX0_count 101 = .ok (.aload_n 0, 1) := dk_42 (dk_at dksX0_count_3 10 rfl rfl)
theorem dX0_count_102 : decode cX0_count 102 = .ok (.getfield 35, 3) := dk_180 0 35 (dk_at dksX0_count_3 11 rfl rfl)
theorem dX0_count_105 : decode cX0_count 105 = .ok (.getfield 107, 3) := dk_180 0 107 (dk_at dksX0_count_3 14 rfl rfl)
theorem dX0_count_108 : decode cX0_count 108 = .ok (.invokevirtual 111, 3) := dk_182 0 111 (dk_at dksX0_count_3 17 rfl rfl)
theorem dX0_count_111 : decode cX0_count 111 = .ok (.ireturn, 1) := dk_172 (dk_at dksX0_count_3 20 rfl rfl)
theorem dX0_count_112 : decode cX0_count 112 = .ok (.aload_n 0, 1) := dk_42 (dk_at dksX0_count_3 21 rfl rfl)
theorem dX0_count_113 : decode cX0_count 113 = .ok (.getfield 35, 3) := dk_180 0 35 (dk_at dksX0_count_4 0 rfl rfl)
theorem dX0_count_116 : decode cX0_count 116 = .ok (.getfield 121, 3) := dk_180 0 121 (dk_at dksX0_count_4 3 rfl rfl)
theorem dX0_count_119 : decode cX0_count 119 = .ok (.invokevirtual 111, 3) := dk_182 0 111 (dk_at dksX0_count_4 6 rfl rfl)
theorem dX0_count_122 : decode cX0_count 122 = .ok (.ireturn, 1) := dk_172 (dk_at dksX0_count_4 9 rfl rfl)
theorem dX0_count_123 : decode cX0_count 123 = .ok (.aload_n 0, 1) := dk_42 (dk_at dksX0_count_4 10 rfl rfl)
theorem dX0_count_124 : decode cX0_count 124 = .ok (.getfield 35, 3) := dk_180 0 35 (dk_at dksX0_count_4 11 rfl rfl)
theorem dX0_count_127 : decode cX0_count 127 = .ok (.getfield 287, 3) := dk_180 1 31 (dk_at dksX0_count_4 14 rfl rfl)
theorem dX0_count_130 : decode cX0_count 130 = .ok (.ireturn, 1) := dk_172 (dk_at dksX0_count_4 17 rfl rfl)
theorem dX0_count_131 : decode cX0_count 131 = .ok (.aload_n 0, 1) := dk_42 (dk_at dksX0_count_4 18 rfl rfl)
theorem dX0_count_132 : decode cX0_count 132 = .ok (.getfield 46, 3) := dk_180 0 46 (dk_at dksX0_count_4 19 rfl rfl)
theorem dX0_count_135 : decode cX0_count 135 = .ok (.getfield 308, 3) := dk_180 1 52 (dk_at dksX0_count_5 0 rfl rfl)
theorem dX0_count_138 : decode cX0_count 138 = .ok (.ireturn, 1) := dk_172 (dk_at dksX0_count_5 3 rfl rfl)
theorem dX0_count_139 : decode cX0_count 139 = .ok (.aload_n 0, 1) := dk_42 (dk_at dksX0_count_5 4 rfl rfl)
theorem dX0_count_140 : decode cX0_count 140 = .ok (.getfield 46, 3) := dk_180 0 46 (dk_at dksX0_count_5 5 rfl rfl)
theorem dX0_count_143 : decode cX0_count 143 = .ok (.getfield 229, 3) := dk_180 0 229 (dk_at dksX0_count_5 8 rfl rfl)
theorem dX0_count_146 : decode cX0_count 146 = .ok (.invokestatic 282, 3) := dk_184 1 26 (dk_at dksX0_count_5 11 rfl rfl)
theorem dX0_count_149 : decode cX0_count 149 = .ok (.ireturn, 1) := dk_172 (dk_at dksX0_count_5 14 rfl rfl)
theorem dX0_count_150 : decode cX0_count 150 = .ok (.aload_n 0, 1) := dk_42 (dk_at dksX0_count_5 15 rfl rfl)
theorem dX0_count_151 : decode cX0_count 151 = .ok (.getfield 46, 3) := dk_180 0 46 (dk_at dksX0_count_5 16 rfl rfl)
theorem dX0_count_154 : decode cX0_count 154 = .ok (.aload_n 0, 1) := dk_42 (dk_at dksX0_count_5 19 rfl rfl)
theorem dX0_count_155 : decode cX0_count 155 = .ok (.getfield 35, 3) := dk_180 0 35 (dk_at dksX0_count_5 20 rfl rfl)
theorem dX0_count_158 : decode cX0_count 158 = .ok (.invokevirtual 245, 3) := dk_182 0 245 (dk_at dksX0_count_6 0 rfl rfl)
theorem dX0_count_161 : decode cX0_count 161 = .ok (.ireturn, 1) := dk_172 (dk_at dksX0_count_6 3 rfl rfl)
theorem dX0_count_162 : decode cX0_count 162 = .ok (.aload_n 0, 1) := dk_42 (dk_at dksX0_count_6 4 rfl rfl)
theorem dX0_count_163 : decode cX0_count 163 = .ok (.getfield 19, 3) := dk_180 0 19 (dk_at dksX0_count_6 5 rfl rfl)
theorem dX0_count_166 : decode cX0_count 166 = .ok (.getfield 74, 3) := dk_180 0 74 (dk_at dksX0_count_6 8 rfl rfl)
theorem dX0_count_169 : decode cX0_count 169 = .ok (.ireturn, 1) := dk_172 (dk_at dksX0_count_6 11 rfl rfl)
theorem dX0_count_170 : decode cX0_count 170 = .ok (.aload_n 0, 1) := dk_42 (dk_at dksX0_count_6 12 rfl rfl)
theorem dX0_count_171 : decode cX0_count 171 = .ok (.getfield 93, 3) := dk_180 0 93 (dk_at dksX0_count_6 13 rfl rfl)
theorem dX0_count_174 : decode cX0_count 174 = .ok (.ireturn, 1) := dk_172 (dk_at dksX0_count_6 16 rfl rfl)
theorem dX0_count_175 : decode cX0_count 175 = .ok (.aload_n 0, 1) := dk_42 (dk_at dksX0_count_6 17 rfl rfl)
theorem dX0_count_176 : decode cX0_count 176 = .ok (.getfield 96, 3) := dk_180 0 96 (dk_at dksX0_count_6 18 rfl rfl)
theorem dX0_count_179 : decode cX0_count 179 = .ok (.ireturn, 1) := dk_172 (dk_at dksX0_count_6 21 rfl rfl)
theorem dX0_count_180 : decode cX0_count 180 = .ok (.aload_n 0, 1) := dk_42 (dk_at dksX0_count_6 22 rfl rfl)
theorem dX0_count_181 : decode cX0_count 181 = .ok (.getfield 60, 3) := dk_180 0 60 (dk_at dksX0_count_7 0 rfl rfl)
theorem dX0_count_184 : decode cX0_count 184 = .ok (.iconst 0, 1) := dk_3 (dk_at dksX0_count_7 3 rfl rfl)
theorem dX0_count_185 : decode cX0_count 185 = .ok (.baload, 1) := dk_51 (dk_at dksX0_count_7 4 rfl rfl)
theorem dX0_count_186 : decode cX0_count 186 = .ok (.ifCond .eq 7, 3) := dk_153 0 7 (dk_at dksX0_count_7 5 rfl rfl)
theorem dX0_count_189 : decode cX0_count 189 = .ok (.iconst 1, 1) := dk_4 (dk_at dksX0_count_7 8 rfl rfl)
theorem dX0_count_190 : decode cX0_count 190 = .ok (.goto 4, 3) := dk_167 0 4 (dk_at dksX0_count_7 9 rfl rfl)
theorem dX0_count_193 : decode cX0_count 193 = .ok (.iconst 0, 1) := dk_3 (dk_at dksX0_count_7 12 rfl rfl)
theorem dX0_count_194 : decode cX0_count 194 = .ok (.aload_n 0, 1) := dk_42 (dk_at dksX0_count_7 13 rfl rfl)
theorem dX0_count_195 : decode cX0_count 195 = .ok (.getfield 60, 3) := dk_180 0 60 (dk_at dksX0_count_7 14 rfl rfl)
theorem dX0_count_198 : decode cX0_count 198 = .ok (.iconst 1, 1) := dk_4 (dk_at dksX0_count_7 17 rfl rfl)
theorem dX0_count_199 : decode cX0_count 199 = .ok (.baload, 1) := dk_51 (dk_at dksX0_count_7 18 rfl rfl)
theorem dX0_count_200 : decode cX0_count 200 = .ok (.ifCond .eq 7, 3) := dk_153 0 7 (dk_at dksX0_count_7 19 rfl rfl)
theorem dX0_count_203 : decode cX0_count 203 = .ok (.iconst 1, 1) := dk_4 (dk_at dksX0_count_7 22 rfl rfl)
theorem dX0_count_204 : decode cX0_count 204 = .ok (.goto 4, 3) := dk_167 0 4 (dk_at dksX0_count_8 0 rfl rfl)
theorem dX0_count_207 : decode cX0_count 207 = .ok (.iconst 0, 1) := dk_3 (dk_at dksX0_count_8 3 rfl rfl)
theorem dX0_count_208 : decode cX0_count 208 = .ok (.iadd, 1) := dk_96 (dk_at dksX0_count_8 4 rfl rfl)
theorem dX0_count_209 : decode cX0_count 209 = .ok (.aload_n 0, 1) := dk_42 (dk_at dksX0_count_8 5 rfl rfl)
theorem dX0_count_210 : decode cX0_count 210 = .ok (.getfield 60, 3) := dk_180 0 60 (dk_at dksX0_count_8 6 rfl rfl)
theorem dX0_count_213 : decode cX0_count 213 = .ok (.iconst 2, 1) := dk_5 (dk_at dksX0_count_8 9 rfl rfl)
theorem dX0_count_214 : decode cX0_count 214 = .ok (.baload, 1) := dk_51 (dk_at dksX0_count_8 10 rfl rfl)
theorem dX0_count_215 : decode cX0_count 215 = .ok (.ifCond .eq 7, 3) := dk_153 0 7 (dk_at dksX0_count_8 11 rfl rfl)
theorem dX0_count_218 : decode cX0_count 218 = .ok (.iconst 1, 1) := dk_4 (dk_at dksX0_count_8 14 rfl rfl)
theorem dX0_count_219 : decode cX0_count 219 = .ok (.goto 4, 3) := dk_167 0 4 (dk_at dksX0_count_8 15 rfl rfl)
theorem dX0_count_222 : decode cX0_count 222 = .ok (.iconst 0, 1) := dk_3 (dk_at dksX0_count_8 18 rfl rfl)
theorem dX0_count_223 : decode cX0_count 223 = .ok (.iadd, 1) := dk_96 (dk_at dksX0_count_8 19 rfl rfl)
theorem dX0_count_224 : decode cX0_count 224 = .ok (.ireturn, 1) := dk_172 (dk_at dksX0_count_8 20 rfl rfl)
theorem dX0_count_225 : decode cX0_count 225 = .ok (.iconst (-1), 1) := dk_2 (dk_at dksX0_count_8 21 rfl rfl)
theorem dX0_count_226 : decode cX0_count 226 = .ok (.ireturn, 1) := dk_172 (dk_at dksX0_count_8 22 rfl rfl)
theorem q114 : (Jvm.Cond.initialized "SleepWork") ∈ lw_all := lw_g (lw_at lw_m1 1 rfl) rfl
theorem q154 : (Jvm.Cond.instantiable "SleepWork" (19 : Nat)) ∈ lw_all := lw_g (lw_at lw_m1 41 rfl) rfl
theorem q156 : (Jvm.Cond.instanceMethod ({ cls := "SleepWork", name := "<init>", desc := "()V" } : Jvm.MethodName)) ∈ lw_all := lw_g (lw_at lw_m1 43 rfl) rfl
theorem q157 : (Jvm.Cond.code ({ cls := "SleepWork", name := "<init>", desc := "()V" } : Jvm.MethodName) prog_1_method_1_code (2 : Nat) (Option.none : Option Jvm.ClassFile.FieldType)) ∈ lw_all := lw_g (lw_at lw_m1 44 rfl) rfl
theorem q158 : (Jvm.Cond.methodLink "SleepWork" (1 : Nat) ({ cls := "java/lang/Object", name := "<init>", desc := "()V" } : Jvm.MethodName)) ∈ lw_all := lw_g (lw_at lw_m1 45 rfl) rfl
theorem q161 : (Jvm.Cond.classLink "SleepWork" (7 : Nat) "SleepWork$Fault") ∈ lw_all := lw_g (lw_at lw_m1 48 rfl) rfl
theorem q200 : (Jvm.Cond.methodLink "SleepWork" (9 : Nat) ({ cls := "SleepWork$Fault", name := "<init>", desc := "()V" } : Jvm.MethodName)) ∈ lw_all := lw_g (lw_at lw_m1 87 rfl) rfl
theorem q214 : (Jvm.Cond.fieldLink "SleepWork" (99 : Nat) "SleepWork$Fault" "number" "I") ∈ lw_all := lw_g (lw_at lw_m1 101 rfl) rfl
theorem q216 : (Jvm.Cond.fieldLink "SleepWork" (102 : Nat) "SleepWork$Fault" "place" "I") ∈ lw_all := lw_g (lw_at lw_m1 103 rfl) rfl
theorem q235 : (Jvm.Cond.classLink "SleepWork" (16 : Nat) "SleepWork$Tokens") ∈ lw_all := lw_g (lw_at lw_m1 122 rfl) rfl
theorem q237 : (Jvm.Cond.methodLinkNest "SleepWork" (18 : Nat) ({ cls := "SleepWork$Tokens", name := "<init>", desc := "()V" } : Jvm.MethodName) "SleepWork") ∈ lw_tbl := lw_at lw_m1 124 rfl
theorem q266 : (Jvm.Cond.fieldLink "SleepWork" (81 : Nat) "SleepWork$Tokens" "tape" "[B") ∈ lw_all := lw_g (lw_at lw_m1 153 rfl) rfl
theorem q268 : (Jvm.Cond.fieldLink "SleepWork" (74 : Nat) "SleepWork$Tokens" "taped" "I") ∈ lw_all := lw_g (lw_at lw_m1 155 rfl) rfl
theorem q295 : (Jvm.Cond.classLink "SleepWork" (23 : Nat) "SleepWork$Parser") ∈ lw_all := lw_g (lw_at lw_m1 182 rfl) rfl
theorem q297 : (Jvm.Cond.methodLink "SleepWork" (25 : Nat) ({ cls := "SleepWork$Parser", name := "<init>", desc := "(LSleepWork$Tokens;LSleepWork$Fault;)V" } : Jvm.MethodName)) ∈ lw_all := lw_g (lw_at lw_m1 184 rfl) rfl
theorem q323 : (Jvm.Cond.classLink "SleepWork" (32 : Nat) "SleepWork$Text") ∈ lw_all := lw_g (lw_at lw_m1 210 rfl) rfl
theorem q325 : (Jvm.Cond.methodLinkNest "SleepWork" (34 : Nat) ({ cls := "SleepWork$Text", name := "<init>", desc := "()V" } : Jvm.MethodName) "SleepWork") ∈ lw_tbl := lw_at lw_m1 212 rfl
theorem q357 : (Jvm.Cond.fieldLink "SleepWork" (124 : Nat) "SleepWork$Text" "rooms" "Ljava/util/ArrayList;") ∈ lw_all := lw_g (lw_at lw_m2 4 rfl) rfl
theorem q362 : (Jvm.Cond.fieldLink "SleepWork" (226 : Nat) "SleepWork$Text" "doors" "Ljava/util/ArrayList;") ∈ lw_all := lw_g (lw_at lw_m2 9 rfl) rfl
theorem q365 : (Jvm.Cond.fieldLink "SleepWork" (206 : Nat) "SleepWork$Text" "tools" "Ljava/util/ArrayList;") ∈ lw_all := lw_g (lw_at lw_m2 12 rfl) rfl
theorem q370 : (Jvm.Cond.fieldLink "SleepWork" (107 : Nat) "SleepWork$Text" "tasks" "Ljava/util/ArrayList;") ∈ lw_all := lw_g (lw_at lw_m2 17 rfl) rfl
theorem q375 : (Jvm.Cond.fieldLink "SleepWork" (121 : Nat) "SleepWork$Text" "men" "Ljava/util/ArrayList;") ∈ lw_all := lw_g (lw_at lw_m2 22 rfl) rfl
theorem q380 : (Jvm.Cond.fieldLink "SleepWork" (287 : Nat) "SleepWork$Text" "night" "I") ∈ lw_all := lw_g (lw_at lw_m2 27 rfl) rfl
theorem q397 : (Jvm.Cond.classLink "SleepWork" (43 : Nat) "SleepWork$Village") ∈ lw_all := lw_g (lw_at lw_m2 44 rfl) rfl
theorem q399 : (Jvm.Cond.methodLinkNest "SleepWork" (45 : Nat) ({ cls := "SleepWork$Village", name := "<init>", desc := "()V" } : Jvm.MethodName) "SleepWork") ∈ lw_tbl := lw_at lw_m2 46 rfl
theorem q454 : (Jvm.Cond.fieldLink "SleepWork" (161 : Nat) "SleepWork$Village" "done" "[[I") ∈ lw_all := lw_g (lw_at lw_m2 101 rfl) rfl
theorem q457 : (Jvm.Cond.fieldLink "SleepWork" (146 : Nat) "SleepWork$Village" "stuff" "[I") ∈ lw_all := lw_g (lw_at lw_m2 104 rfl) rfl
theorem q460 : (Jvm.Cond.fieldLink "SleepWork" (191 : Nat) "SleepWork$Village" "leftTask" "[I") ∈ lw_all := lw_g (lw_at lw_m2 107 rfl) rfl
theorem q463 : (Jvm.Cond.fieldLink "SleepWork" (194 : Nat) "SleepWork$Village" "leftStep" "[I") ∈ lw_all := lw_g (lw_at lw_m2 110 rfl) rfl
theorem q465 : (Jvm.Cond.fieldLink "SleepWork" (209 : Nat) "SleepWork$Village" "toolAt" "[I") ∈ lw_all := lw_g (lw_at lw_m2 112 rfl) rfl
theorem q468 : (Jvm.Cond.fieldLink "SleepWork" (197 : Nat) "SleepWork$Village" "did" "[I") ∈ lw_all := lw_g (lw_at lw_m2 115 rfl) rfl
theorem q471 : (Jvm.Cond.fieldLink "SleepWork" (200 : Nat) "SleepWork$Village" "didAll" "[I") ∈ lw_all := lw_g (lw_at lw_m2 118 rfl) rfl
theorem q474 : (Jvm.Cond.fieldLink "SleepWork" (203 : Nat) "SleepWork$Village" "lay" "[I") ∈ lw_all := lw_g (lw_at lw_m2 121 rfl) rfl
theorem q476 : (Jvm.Cond.fieldLink "SleepWork" (229 : Nat) "SleepWork$Village" "shut" "I") ∈ lw_all := lw_g (lw_at lw_m2 123 rfl) rfl
theorem q478 : (Jvm.Cond.fieldLink "SleepWork" (308 : Nat) "SleepWork$Village" "nights" "I") ∈ lw_all := lw_g (lw_at lw_m2 125 rfl) rfl
theorem q481 : (Jvm.Cond.fieldLinkNest "SleepWork" (218 : Nat) "SleepWork$Village" "apart" "[[I" "SleepWork") ∈ lw_tbl := lw_at lw_m2 128 rfl
theorem q517 : (Jvm.Cond.fieldLink "SleepWork" (10 : Nat) "SleepWork" "fault" "LSleepWork$Fault;") ∈ lw_all := lw_g (lw_at lw_m2 164 rfl) rfl
theorem q518 : (Jvm.Cond.fieldLink "SleepWork" (19 : Nat) "SleepWork" "tokens" "LSleepWork$Tokens;") ∈ lw_all := lw_g (lw_at lw_m2 165 rfl) rfl
theorem q519 : (Jvm.Cond.fieldLink "SleepWork" (28 : Nat) "SleepWork" "parser" "LSleepWork$Parser;") ∈ lw_all := lw_g (lw_at lw_m2 166 rfl) rfl
theorem q520 : (Jvm.Cond.fieldLink "SleepWork" (35 : Nat) "SleepWork" "text" "LSleepWork$Text;") ∈ lw_all := lw_g (lw_at lw_m2 167 rfl) rfl
theorem q521 : (Jvm.Cond.fieldLink "SleepWork" (39 : Nat) "SleepWork" "place" "I") ∈ lw_all := lw_g (lw_at lw_m2 168 rfl) rfl
theorem q522 : (Jvm.Cond.fieldLink "SleepWork" (93 : Nat) "SleepWork" "undos" "I") ∈ lw_all := lw_g (lw_at lw_m2 169 rfl) rfl
theorem q523 : (Jvm.Cond.fieldLink "SleepWork" (232 : Nat) "SleepWork" "undoAt" "I") ∈ lw_all := lw_g (lw_at lw_m2 170 rfl) rfl
theorem q524 : (Jvm.Cond.fieldLink "SleepWork" (46 : Nat) "SleepWork" "village" "LSleepWork$Village;") ∈ lw_all := lw_g (lw_at lw_m2 171 rfl) rfl
theorem q525 : (Jvm.Cond.fieldLink "SleepWork" (50 : Nat) "SleepWork" "trial" "LSleepWork$Village;") ∈ lw_all := lw_g (lw_at lw_m2 172 rfl) rfl
theorem q526 : (Jvm.Cond.fieldLink "SleepWork" (53 : Nat) "SleepWork" "past" "[LSleepWork$Village;") ∈ lw_all := lw_g (lw_at lw_m2 173 rfl) rfl
theorem q527 : (Jvm.Cond.fieldLink "SleepWork" (57 : Nat) "SleepWork" "slots" "[LSleepWork$Village;") ∈ lw_all := lw_g (lw_at lw_m2 174 rfl) rfl
theorem q528 : (Jvm.Cond.fieldLink "SleepWork" (60 : Nat) "SleepWork" "held" "[Z") ∈ lw_all := lw_g (lw_at lw_m2 175 rfl) rfl
theorem q529 : (Jvm.Cond.fieldLink "SleepWork" (266 : Nat) "SleepWork" "bestGain" "I") ∈ lw_all := lw_g (lw_at lw_m2 176 rfl) rfl
theorem q530 : (Jvm.Cond.fieldLink "SleepWork" (269 : Nat) "SleepWork" "bestChoice" "I") ∈ lw_all := lw_g (lw_at lw_m2 177 rfl) rfl
theorem q531 : (Jvm.Cond.fieldLink "SleepWork" (278 : Nat) "SleepWork" "bestOther" "I") ∈ lw_all := lw_g (lw_at lw_m2 178 rfl) rfl
theorem q532 : (Jvm.Cond.fieldLink "SleepWork" (96 : Nat) "SleepWork" "tolds" "I") ∈ lw_all := lw_g (lw_at lw_m2 179 rfl) rfl
theorem q533 : (Jvm.Cond.fieldLink "SleepWork" (64 : Nat) "SleepWork" "toldTask" "[I") ∈ lw_all := lw_g (lw_at lw_m2 180 rfl) rfl
theorem q534 : (Jvm.Cond.fieldLink "SleepWork" (68 : Nat) "SleepWork" "toldStep" "[I") ∈ lw_all := lw_g (lw_at lw_m2 181 rfl) rfl
theorem q535 : (Jvm.Cond.fieldLink "SleepWork" (71 : Nat) "SleepWork" "toldTimes" "[I") ∈ lw_all := lw_g (lw_at lw_m2 182 rfl) rfl
theorem q536 : (Jvm.Cond.laysFinal "SleepWork" "SleepWork" "fault" "LSleepWork$Fault;") ∈ lw_all := lw_g (lw_at lw_m2 183 rfl) rfl
theorem q537 : (Jvm.Cond.soleField "SleepWork" "fault") ∈ lw_all := lw_g (lw_at lw_m2 184 rfl) rfl
theorem q538 : (Jvm.Cond.laysFinal "SleepWork" "SleepWork" "tokens" "LSleepWork$Tokens;") ∈ lw_all := lw_g (lw_at lw_m2 185 rfl) rfl
theorem q539 : (Jvm.Cond.soleField "SleepWork" "tokens") ∈ lw_all := lw_g (lw_at lw_m2 186 rfl) rfl
theorem q540 : (Jvm.Cond.laysFinal "SleepWork" "SleepWork" "parser" "LSleepWork$Parser;") ∈ lw_all := lw_g (lw_at lw_m2 187 rfl) rfl
theorem q541 : (Jvm.Cond.soleField "SleepWork" "parser") ∈ lw_all := lw_g (lw_at lw_m2 188 rfl) rfl
theorem q542 : (Jvm.Cond.lays "SleepWork" "SleepWork" "text" "LSleepWork$Text;") ∈ lw_all := lw_g (lw_at lw_m2 189 rfl) rfl
theorem q543 : (Jvm.Cond.soleField "SleepWork" "text") ∈ lw_all := lw_g (lw_at lw_m2 190 rfl) rfl
theorem q544 : (Jvm.Cond.lays "SleepWork" "SleepWork" "place" "I") ∈ lw_all := lw_g (lw_at lw_m2 191 rfl) rfl
theorem q545 : (Jvm.Cond.soleField "SleepWork" "place") ∈ lw_all := lw_g (lw_at lw_m2 192 rfl) rfl
theorem q546 : (Jvm.Cond.lays "SleepWork" "SleepWork" "undos" "I") ∈ lw_all := lw_g (lw_at lw_m2 193 rfl) rfl
theorem q547 : (Jvm.Cond.soleField "SleepWork" "undos") ∈ lw_all := lw_g (lw_at lw_m2 194 rfl) rfl
theorem q548 : (Jvm.Cond.lays "SleepWork" "SleepWork" "undoAt" "I") ∈ lw_all := lw_g (lw_at lw_m2 195 rfl) rfl
theorem q549 : (Jvm.Cond.soleField "SleepWork" "undoAt") ∈ lw_all := lw_g (lw_at lw_m2 196 rfl) rfl
theorem q550 : (Jvm.Cond.laysFinal "SleepWork" "SleepWork" "village" "LSleepWork$Village;") ∈ lw_all := lw_g (lw_at lw_m2 197 rfl) rfl
theorem q551 : (Jvm.Cond.soleField "SleepWork" "village") ∈ lw_all := lw_g (lw_at lw_m2 198 rfl) rfl
theorem q552 : (Jvm.Cond.laysFinal "SleepWork" "SleepWork" "trial" "LSleepWork$Village;") ∈ lw_all := lw_g (lw_at lw_m2 199 rfl) rfl
theorem q553 : (Jvm.Cond.soleField "SleepWork" "trial") ∈ lw_all := lw_g (lw_at lw_m2 200 rfl) rfl
theorem q554 : (Jvm.Cond.laysFinal "SleepWork" "SleepWork" "past" "[LSleepWork$Village;") ∈ lw_all := lw_g (lw_at lw_m2 201 rfl) rfl
theorem q555 : (Jvm.Cond.soleField "SleepWork" "past") ∈ lw_all := lw_g (lw_at lw_m2 202 rfl) rfl
theorem q556 : (Jvm.Cond.laysFinal "SleepWork" "SleepWork" "slots" "[LSleepWork$Village;") ∈ lw_all := lw_g (lw_at lw_m2 203 rfl) rfl
theorem q557 : (Jvm.Cond.soleField "SleepWork" "slots") ∈ lw_all := lw_g (lw_at lw_m2 204 rfl) rfl
theorem q558 : (Jvm.Cond.laysFinal "SleepWork" "SleepWork" "held" "[Z") ∈ lw_all := lw_g (lw_at lw_m2 205 rfl) rfl
theorem q559 : (Jvm.Cond.soleField "SleepWork" "held") ∈ lw_all := lw_g (lw_at lw_m2 206 rfl) rfl
theorem q560 : (Jvm.Cond.lays "SleepWork" "SleepWork" "bestGain" "I") ∈ lw_all := lw_g (lw_at lw_m2 207 rfl) rfl
theorem q561 : (Jvm.Cond.soleField "SleepWork" "bestGain") ∈ lw_all := lw_g (lw_at lw_m2 208 rfl) rfl
theorem q562 : (Jvm.Cond.lays "SleepWork" "SleepWork" "bestChoice" "I") ∈ lw_all := lw_g (lw_at lw_m2 209 rfl) rfl
theorem q563 : (Jvm.Cond.soleField "SleepWork" "bestChoice") ∈ lw_all := lw_g (lw_at lw_m2 210 rfl) rfl
theorem q564 : (Jvm.Cond.lays "SleepWork" "SleepWork" "bestOther" "I") ∈ lw_all := lw_g (lw_at lw_m2 211 rfl) rfl
theorem q565 : (Jvm.Cond.soleField "SleepWork" "bestOther") ∈ lw_all := lw_g (lw_at lw_m2 212 rfl) rfl
theorem q566 : (Jvm.Cond.lays "SleepWork" "SleepWork" "tolds" "I") ∈ lw_all := lw_g (lw_at lw_m2 213 rfl) rfl
theorem q567 : (Jvm.Cond.soleField "SleepWork" "tolds") ∈ lw_all := lw_g (lw_at lw_m2 214 rfl) rfl
theorem q568 : (Jvm.Cond.laysFinal "SleepWork" "SleepWork" "toldTask" "[I") ∈ lw_all := lw_g (lw_at lw_m2 215 rfl) rfl
theorem q569 : (Jvm.Cond.soleField "SleepWork" "toldTask") ∈ lw_all := lw_g (lw_at lw_m2 216 rfl) rfl
theorem q570 : (Jvm.Cond.laysFinal "SleepWork" "SleepWork" "toldStep" "[I") ∈ lw_all := lw_g (lw_at lw_m2 217 rfl) rfl
theorem q571 : (Jvm.Cond.soleField "SleepWork" "toldStep") ∈ lw_all := lw_g (lw_at lw_m2 218 rfl) rfl
theorem q572 : (Jvm.Cond.laysFinal "SleepWork" "SleepWork" "toldTimes" "[I") ∈ lw_all := lw_g (lw_at lw_m2 219 rfl) rfl
theorem q573 : (Jvm.Cond.soleField "SleepWork" "toldTimes") ∈ lw_all := lw_g (lw_at lw_m2 220 rfl) rfl
theorem q574 : (Jvm.Cond.superclass "SleepWork" "java/lang/Object") ∈ lw_all := lw_g (lw_at lw_m2 221 rfl) rfl
theorem q577 : (Jvm.Cond.instanceMethod ({ cls := "SleepWork", name := "feed", desc := "(IIIII)I" } : Jvm.MethodName)) ∈ lw_all := lw_g (lw_at lw_m2 224 rfl) rfl
theorem q578 : (Jvm.Cond.selects "SleepWork" ({ cls := "SleepWork", name := "feed", desc := "(IIIII)I" } : Jvm.MethodName) ({ cls := "SleepWork", name := "feed", desc := "(IIIII)I" } : Jvm.MethodName)) ∈ lw_all := lw_g (lw_at lw_m2 225 rfl) rfl
theorem q579 : (Jvm.Cond.code ({ cls := "SleepWork", name := "feed", desc := "(IIIII)I" } : Jvm.MethodName) prog_1_method_2_code (6 : Nat) (Option.some Jvm.ClassFile.FieldType.int)) ∈ lw_all := lw_g (lw_at lw_m2 226 rfl) rfl
theorem q580 : (Jvm.Cond.methodLink "SleepWork" (77 : Nat) ({ cls := "SleepWork", name := "typed", desc := "(I)V" } : Jvm.MethodName)) ∈ lw_all := lw_g (lw_at lw_m2 227 rfl) rfl
theorem q581 : (Jvm.Cond.privateMethod ({ cls := "SleepWork", name := "typed", desc := "(I)V" } : Jvm.MethodName)) ∈ lw_tbl := lw_at lw_m2 228 rfl
theorem q582 : (Jvm.Cond.instanceMethod ({ cls := "SleepWork", name := "typed", desc := "(I)V" } : Jvm.MethodName)) ∈ lw_all := lw_g (lw_at lw_m2 229 rfl) rfl
theorem q583 : (Jvm.Cond.code ({ cls := "SleepWork", name := "typed", desc := "(I)V" } : Jvm.MethodName) prog_1_method_3_code (3 : Nat) (Option.none : Option Jvm.ClassFile.FieldType)) ∈ lw_all := lw_g (lw_at lw_m2 230 rfl) rfl
theorem q585 : (Jvm.Cond.instanceMethod ({ cls := "SleepWork", name := "back", desc := "(I)I" } : Jvm.MethodName)) ∈ lw_all := lw_g (lw_at lw_m2 232 rfl) rfl
theorem q586 : (Jvm.Cond.selects "SleepWork" ({ cls := "SleepWork", name := "back", desc := "(I)I" } : Jvm.MethodName) ({ cls := "SleepWork", name := "back", desc := "(I)I" } : Jvm.MethodName)) ∈ lw_all := lw_g (lw_at lw_m2 233 rfl) rfl
theorem q587 : (Jvm.Cond.code ({ cls := "SleepWork", name := "back", desc := "(I)I" } : Jvm.MethodName) prog_1_method_4_code (2 : Nat) (Option.some Jvm.ClassFile.FieldType.int)) ∈ lw_all := lw_g (lw_at lw_m2 234 rfl) rfl
theorem q589 : (Jvm.Cond.instanceMethod ({ cls := "SleepWork", name := "read", desc := "()I" } : Jvm.MethodName)) ∈ lw_all := lw_g (lw_at lw_m2 236 rfl) rfl
theorem q590 : (Jvm.Cond.selects "SleepWork" ({ cls := "SleepWork", name := "read", desc := "()I" } : Jvm.MethodName) ({ cls := "SleepWork", name := "read", desc := "()I" } : Jvm.MethodName)) ∈ lw_all := lw_g (lw_at lw_m2 237 rfl) rfl
theorem q591 : (Jvm.Cond.codeWith ({ cls := "SleepWork", name := "read", desc := "()I" } : Jvm.MethodName) prog_1_method_5_code (3 : Nat) (Option.some Jvm.ClassFile.FieldType.int) [((7 : Nat), (59 : Nat), (62 : Nat), (7 : Nat))]) ∈ lw_all := lw_g (lw_at lw_m2 238 rfl) rfl
theorem q592 : (Jvm.Cond.methodLink "SleepWork" (85 : Nat) ({ cls := "SleepWork$Parser", name := "read", desc := "()LSleepWork$Text;" } : Jvm.MethodName)) ∈ lw_all := lw_g (lw_at lw_m2 239 rfl) rfl
theorem q950 : (Jvm.Cond.selects "SleepWork" ({ cls := "java/lang/Object", name := "getClass", desc := "()Ljava/lang/Class;" } : Jvm.MethodName) ({ cls := "java/lang/Object", name := "getClass", desc := "()Ljava/lang/Class;" } : Jvm.MethodName)) ∈ lw_all := lw_g (lw_at lw_m4 117 rfl) rfl
theorem q1046 : (Jvm.Cond.fieldLink "SleepWork" (140 : Nat) "SleepWork$Task" "room" "I") ∈ lw_all := lw_g (lw_at lw_m4 213 rfl) rfl
theorem q1053 : (Jvm.Cond.fieldLink "SleepWork" (143 : Nat) "SleepWork$Task" "steps" "Ljava/util/ArrayList;") ∈ lw_all := lw_g (lw_at lw_m4 220 rfl) rfl
theorem q1075 : (Jvm.Cond.fieldLink "SleepWork" (165 : Nat) "SleepWork$Step" "minutes" "I") ∈ lw_all := lw_g (lw_at lw_m5 2 rfl) rfl
theorem q1078 : (Jvm.Cond.fieldLink "SleepWork" (168 : Nat) "SleepWork$Step" "need" "I") ∈ lw_all := lw_g (lw_at lw_m5 5 rfl) rfl
theorem q1081 : (Jvm.Cond.fieldLink "SleepWork" (171 : Nat) "SleepWork$Step" "gain" "I") ∈ lw_all := lw_g (lw_at lw_m5 8 rfl) rfl
theorem q1084 : (Jvm.Cond.fieldLink "SleepWork" (174 : Nat) "SleepWork$Step" "spoil" "I") ∈ lw_all := lw_g (lw_at lw_m5 11 rfl) rfl
theorem q1088 : (Jvm.Cond.fieldLink "SleepWork" (177 : Nat) "SleepWork$Step" "tool" "I") ∈ lw_all := lw_g (lw_at lw_m5 15 rfl) rfl
theorem q1092 : (Jvm.Cond.fieldLink "SleepWork" (180 : Nat) "SleepWork$Step" "undoes" "I") ∈ lw_all := lw_g (lw_at lw_m5 19 rfl) rfl
theorem q1127 : (Jvm.Cond.fieldLink "SleepWork" (188 : Nat) "SleepWork$Man" "home" "I") ∈ lw_all := lw_g (lw_at lw_m5 54 rfl) rfl
theorem q1239 : (Jvm.Cond.methodLink "SleepWork" (89 : Nat) ({ cls := "SleepWork$Village", name := "begins", desc := "(LSleepWork$Text;)V" } : Jvm.MethodName)) ∈ lw_all := lw_g (lw_at lw_m5 166 rfl) rfl
theorem q1250 : (Jvm.Cond.instanceMethod ({ cls := "SleepWork", name := "place", desc := "()I" } : Jvm.MethodName)) ∈ lw_all := lw_g (lw_at lw_m5 177 rfl) rfl
theorem q1251 : (Jvm.Cond.selects "SleepWork" ({ cls := "SleepWork", name := "place", desc := "()I" } : Jvm.MethodName) ({ cls := "SleepWork", name := "place", desc := "()I" } : Jvm.MethodName)) ∈ lw_all := lw_g (lw_at lw_m5 178 rfl) rfl
theorem q1252 : (Jvm.Cond.code ({ cls := "SleepWork", name := "place", desc := "()I" } : Jvm.MethodName) prog_1_method_6_code (1 : Nat) (Option.some Jvm.ClassFile.FieldType.int)) ∈ lw_all := lw_g (lw_at lw_m5 179 rfl) rfl
theorem q1254 : (Jvm.Cond.instanceMethod ({ cls := "SleepWork", name := "task", desc := "(II)I" } : Jvm.MethodName)) ∈ lw_all := lw_g (lw_at lw_m5 181 rfl) rfl
theorem q1255 : (Jvm.Cond.selects "SleepWork" ({ cls := "SleepWork", name := "task", desc := "(II)I" } : Jvm.MethodName) ({ cls := "SleepWork", name := "task", desc := "(II)I" } : Jvm.MethodName)) ∈ lw_all := lw_g (lw_at lw_m5 182 rfl) rfl
theorem q1256 : (Jvm.Cond.code ({ cls := "SleepWork", name := "task", desc := "(II)I" } : Jvm.MethodName) prog_1_method_13_code (3 : Nat) (Option.some Jvm.ClassFile.FieldType.int)) ∈ lw_all := lw_g (lw_at lw_m5 183 rfl) rfl
theorem q1257 : (Jvm.Cond.methodLink "SleepWork" (127 : Nat) ({ cls := "SleepWork", name := "isTask", desc := "(I)Z" } : Jvm.MethodName)) ∈ lw_all := lw_g (lw_at lw_m5 184 rfl) rfl
theorem q1258 : (Jvm.Cond.privateMethod ({ cls := "SleepWork", name := "isTask", desc := "(I)Z" } : Jvm.MethodName)) ∈ lw_tbl := lw_at lw_m5 185 rfl
theorem q1259 : (Jvm.Cond.instanceMethod ({ cls := "SleepWork", name := "isTask", desc := "(I)Z" } : Jvm.MethodName)) ∈ lw_all := lw_g (lw_at lw_m5 186 rfl) rfl
theorem q1260 : (Jvm.Cond.code ({ cls := "SleepWork", name := "isTask", desc := "(I)Z" } : Jvm.MethodName) prog_1_method_9_code (2 : Nat) (Option.some Jvm.ClassFile.FieldType.boolean)) ∈ lw_all := lw_g (lw_at lw_m5 187 rfl) rfl
theorem q1261 : (Jvm.Cond.methodLink "SleepWork" (111 : Nat) ({ cls := "java/util/ArrayList", name := "size", desc := "()I" } : Jvm.MethodName)) ∈ lw_all := lw_g (lw_at lw_m5 188 rfl) rfl
theorem q1262 : (Jvm.Cond.methodLink "SleepWork" (117 : Nat) ({ cls := "SleepWork", name := "isOne", desc := "(II)Z" } : Jvm.MethodName)) ∈ lw_all := lw_g (lw_at lw_m5 189 rfl) rfl
theorem q1263 : (Jvm.Cond.static ({ cls := "SleepWork", name := "isOne", desc := "(II)Z" } : Jvm.MethodName)) ∈ lw_all := lw_g (lw_at lw_m5 190 rfl) rfl
theorem q1264 : (Jvm.Cond.code ({ cls := "SleepWork", name := "isOne", desc := "(II)Z" } : Jvm.MethodName) prog_1_method_8_code (2 : Nat) (Option.some Jvm.ClassFile.FieldType.boolean)) ∈ lw_all := lw_g (lw_at lw_m5 191 rfl) rfl
theorem q1265 : (Jvm.Cond.methodLink "SleepWork" (103 : Nat) ({ cls := "SleepWork", name := "isIn", desc := "(III)Z" } : Jvm.MethodName)) ∈ lw_all := lw_g (lw_at lw_m5 192 rfl) rfl
theorem q1266 : (Jvm.Cond.static ({ cls := "SleepWork", name := "isIn", desc := "(III)Z" } : Jvm.MethodName)) ∈ lw_all := lw_g (lw_at lw_m5 193 rfl) rfl
theorem q1267 : (Jvm.Cond.code ({ cls := "SleepWork", name := "isIn", desc := "(III)Z" } : Jvm.MethodName) prog_1_method_7_code (3 : Nat) (Option.some Jvm.ClassFile.FieldType.boolean)) ∈ lw_all := lw_g (lw_at lw_m5 194 rfl) rfl
theorem q1268 : (Jvm.Cond.methodLink "SleepWork" (131 : Nat) ({ cls := "java/util/ArrayList", name := "get", desc := "(I)Ljava/lang/Object;" } : Jvm.MethodName)) ∈ lw_all := lw_g (lw_at lw_m5 195 rfl) rfl
theorem q1269 : (Jvm.Cond.classLink "SleepWork" (135 : Nat) "SleepWork$Task") ∈ lw_all := lw_g (lw_at lw_m5 196 rfl) rfl
theorem q1270 : (Jvm.Cond.methodLink "SleepWork" (149 : Nat) ({ cls := "SleepWork$Village", name := "worth", desc := "(LSleepWork$Text;I)I" } : Jvm.MethodName)) ∈ lw_all := lw_g (lw_at lw_m5 197 rfl) rfl
theorem q1277 : (Jvm.Cond.methodLink "SleepWork" (153 : Nat) ({ cls := "SleepWork$Village", name := "isEnded", desc := "(LSleepWork$Text;I)Z" } : Jvm.MethodName)) ∈ lw_all := lw_g (lw_at lw_m5 204 rfl) rfl
theorem q1282 : (Jvm.Cond.instanceMethod ({ cls := "SleepWork", name := "step", desc := "(III)I" } : Jvm.MethodName)) ∈ lw_all := lw_g (lw_at lw_m5 209 rfl) rfl
theorem q1283 : (Jvm.Cond.selects "SleepWork" ({ cls := "SleepWork", name := "step", desc := "(III)I" } : Jvm.MethodName) ({ cls := "SleepWork", name := "step", desc := "(III)I" } : Jvm.MethodName)) ∈ lw_all := lw_g (lw_at lw_m5 210 rfl) rfl
theorem q1284 : (Jvm.Cond.code ({ cls := "SleepWork", name := "step", desc := "(III)I" } : Jvm.MethodName) prog_1_method_14_code (5 : Nat) (Option.some Jvm.ClassFile.FieldType.int)) ∈ lw_all := lw_g (lw_at lw_m5 211 rfl) rfl
theorem q1285 : (Jvm.Cond.methodLink "SleepWork" (157 : Nat) ({ cls := "SleepWork", name := "isStep", desc := "(II)Z" } : Jvm.MethodName)) ∈ lw_all := lw_g (lw_at lw_m5 212 rfl) rfl
theorem q1286 : (Jvm.Cond.privateMethod ({ cls := "SleepWork", name := "isStep", desc := "(II)Z" } : Jvm.MethodName)) ∈ lw_tbl := lw_at lw_m5 213 rfl
theorem q1287 : (Jvm.Cond.instanceMethod ({ cls := "SleepWork", name := "isStep", desc := "(II)Z" } : Jvm.MethodName)) ∈ lw_all := lw_g (lw_at lw_m5 214 rfl) rfl
theorem q1288 : (Jvm.Cond.code ({ cls := "SleepWork", name := "isStep", desc := "(II)Z" } : Jvm.MethodName) prog_1_method_12_code (3 : Nat) (Option.some Jvm.ClassFile.FieldType.boolean)) ∈ lw_all := lw_g (lw_at lw_m5 215 rfl) rfl
theorem q1289 : (Jvm.Cond.methodLink "SleepWork" (137 : Nat) ({ cls := "SleepWork$Task", name := "isStep", desc := "(I)Z" } : Jvm.MethodName)) ∈ lw_all := lw_g (lw_at lw_m5 216 rfl) rfl
theorem q1290 : (Jvm.Cond.classLink "SleepWork" (159 : Nat) "SleepWork$Step") ∈ lw_all := lw_g (lw_at lw_m5 217 rfl) rfl
theorem q1292 : (Jvm.Cond.instanceMethod ({ cls := "SleepWork", name := "man", desc := "(II)I" } : Jvm.MethodName)) ∈ lw_all := lw_g (lw_at lw_m5 219 rfl) rfl
theorem q1293 : (Jvm.Cond.selects "SleepWork" ({ cls := "SleepWork", name := "man", desc := "(II)I" } : Jvm.MethodName) ({ cls := "SleepWork", name := "man", desc := "(II)I" } : Jvm.MethodName)) ∈ lw_all := lw_g (lw_at lw_m5 220 rfl) rfl
theorem q1294 : (Jvm.Cond.code ({ cls := "SleepWork", name := "man", desc := "(II)I" } : Jvm.MethodName) prog_1_method_15_code (3 : Nat) (Option.some Jvm.ClassFile.FieldType.int)) ∈ lw_all := lw_g (lw_at lw_m5 221 rfl) rfl
theorem q1295 : (Jvm.Cond.methodLink "SleepWork" (183 : Nat) ({ cls := "SleepWork", name := "isMan", desc := "(I)Z" } : Jvm.MethodName)) ∈ lw_all := lw_g (lw_at lw_m5 222 rfl) rfl
theorem q1296 : (Jvm.Cond.privateMethod ({ cls := "SleepWork", name := "isMan", desc := "(I)Z" } : Jvm.MethodName)) ∈ lw_tbl := lw_at lw_m5 223 rfl
theorem q1297 : (Jvm.Cond.instanceMethod ({ cls := "SleepWork", name := "isMan", desc := "(I)Z" } : Jvm.MethodName)) ∈ lw_all := lw_g (lw_at lw_m5 224 rfl) rfl
theorem q1298 : (Jvm.Cond.code ({ cls := "SleepWork", name := "isMan", desc := "(I)Z" } : Jvm.MethodName) prog_1_method_10_code (2 : Nat) (Option.some Jvm.ClassFile.FieldType.boolean)) ∈ lw_all := lw_g (lw_at lw_m5 225 rfl) rfl
theorem q1299 : (Jvm.Cond.classLink "SleepWork" (186 : Nat) "SleepWork$Man") ∈ lw_all := lw_g (lw_at lw_m5 226 rfl) rfl
theorem q1301 : (Jvm.Cond.instanceMethod ({ cls := "SleepWork", name := "tool", desc := "(I)I" } : Jvm.MethodName)) ∈ lw_all := lw_g (lw_at lw_m5 228 rfl) rfl
theorem q1302 : (Jvm.Cond.selects "SleepWork" ({ cls := "SleepWork", name := "tool", desc := "(I)I" } : Jvm.MethodName) ({ cls := "SleepWork", name := "tool", desc := "(I)I" } : Jvm.MethodName)) ∈ lw_all := lw_g (lw_at lw_m5 229 rfl) rfl
theorem q1303 : (Jvm.Cond.code ({ cls := "SleepWork", name := "tool", desc := "(I)I" } : Jvm.MethodName) prog_1_method_16_code (2 : Nat) (Option.some Jvm.ClassFile.FieldType.int)) ∈ lw_all := lw_g (lw_at lw_m5 230 rfl) rfl
theorem q1305 : (Jvm.Cond.instanceMethod ({ cls := "SleepWork", name := "way", desc := "(II)I" } : Jvm.MethodName)) ∈ lw_all := lw_g (lw_at lw_m5 232 rfl) rfl
theorem q1306 : (Jvm.Cond.selects "SleepWork" ({ cls := "SleepWork", name := "way", desc := "(II)I" } : Jvm.MethodName) ({ cls := "SleepWork", name := "way", desc := "(II)I" } : Jvm.MethodName)) ∈ lw_all := lw_g (lw_at lw_m5 233 rfl) rfl
theorem q1307 : (Jvm.Cond.code ({ cls := "SleepWork", name := "way", desc := "(II)I" } : Jvm.MethodName) prog_1_method_17_code (4 : Nat) (Option.some Jvm.ClassFile.FieldType.int)) ∈ lw_all := lw_g (lw_at lw_m5 234 rfl) rfl
theorem q1308 : (Jvm.Cond.methodLink "SleepWork" (212 : Nat) ({ cls := "SleepWork", name := "isRoom", desc := "(I)Z" } : Jvm.MethodName)) ∈ lw_all := lw_g (lw_at lw_m5 235 rfl) rfl
theorem q1309 : (Jvm.Cond.privateMethod ({ cls := "SleepWork", name := "isRoom", desc := "(I)Z" } : Jvm.MethodName)) ∈ lw_tbl := lw_at lw_m5 236 rfl
theorem q1310 : (Jvm.Cond.instanceMethod ({ cls := "SleepWork", name := "isRoom", desc := "(I)Z" } : Jvm.MethodName)) ∈ lw_all := lw_g (lw_at lw_m5 237 rfl) rfl
theorem q1311 : (Jvm.Cond.code ({ cls := "SleepWork", name := "isRoom", desc := "(I)Z" } : Jvm.MethodName) prog_1_method_11_code (2 : Nat) (Option.some Jvm.ClassFile.FieldType.boolean)) ∈ lw_all := lw_g (lw_at lw_m5 238 rfl) rfl
theorem q1312 : (Jvm.Cond.methodLink "SleepWork" (215 : Nat) ({ cls := "SleepWork$Village", name := "laysWays", desc := "(LSleepWork$Text;)V" } : Jvm.MethodName)) ∈ lw_all := lw_g (lw_at lw_m5 239 rfl) rfl
theorem q1317 : (Jvm.Cond.constant "SleepWork" (221 : Nat) (1000000 : Int32)) ∈ lw_all := lw_g (lw_at lw_m6 4 rfl) rfl
theorem q1319 : (Jvm.Cond.instanceMethod ({ cls := "SleepWork", name := "leave", desc := "(III)Z" } : Jvm.MethodName)) ∈ lw_all := lw_g (lw_at lw_m6 6 rfl) rfl
theorem q1320 : (Jvm.Cond.selects "SleepWork" ({ cls := "SleepWork", name := "leave", desc := "(III)Z" } : Jvm.MethodName) ({ cls := "SleepWork", name := "leave", desc := "(III)Z" } : Jvm.MethodName)) ∈ lw_all := lw_g (lw_at lw_m6 7 rfl) rfl
theorem q1321 : (Jvm.Cond.code ({ cls := "SleepWork", name := "leave", desc := "(III)Z" } : Jvm.MethodName) prog_1_method_18_code (5 : Nat) (Option.some Jvm.ClassFile.FieldType.boolean)) ∈ lw_all := lw_g (lw_at lw_m6 8 rfl) rfl
theorem q1323 : (Jvm.Cond.instanceMethod ({ cls := "SleepWork", name := "work", desc := "(II)Z" } : Jvm.MethodName)) ∈ lw_all := lw_g (lw_at lw_m6 10 rfl) rfl
theorem q1324 : (Jvm.Cond.selects "SleepWork" ({ cls := "SleepWork", name := "work", desc := "(II)Z" } : Jvm.MethodName) ({ cls := "SleepWork", name := "work", desc := "(II)Z" } : Jvm.MethodName)) ∈ lw_all := lw_g (lw_at lw_m6 11 rfl) rfl
theorem q1325 : (Jvm.Cond.code ({ cls := "SleepWork", name := "work", desc := "(II)Z" } : Jvm.MethodName) prog_1_method_19_code (3 : Nat) (Option.some Jvm.ClassFile.FieldType.boolean)) ∈ lw_all := lw_g (lw_at lw_m6 12 rfl) rfl
theorem q1326 : (Jvm.Cond.methodLink "SleepWork" (222 : Nat) ({ cls := "SleepWork$Village", name := "does", desc := "(LSleepWork$Text;II)V" } : Jvm.MethodName)) ∈ lw_all := lw_g (lw_at lw_m6 13 rfl) rfl
theorem q1331 : (Jvm.Cond.instanceMethod ({ cls := "SleepWork", name := "lay", desc := "(II)Z" } : Jvm.MethodName)) ∈ lw_all := lw_g (lw_at lw_m6 18 rfl) rfl
theorem q1332 : (Jvm.Cond.selects "SleepWork" ({ cls := "SleepWork", name := "lay", desc := "(II)Z" } : Jvm.MethodName) ({ cls := "SleepWork", name := "lay", desc := "(II)Z" } : Jvm.MethodName)) ∈ lw_all := lw_g (lw_at lw_m6 19 rfl) rfl
theorem q1333 : (Jvm.Cond.code ({ cls := "SleepWork", name := "lay", desc := "(II)Z" } : Jvm.MethodName) prog_1_method_20_code (3 : Nat) (Option.some Jvm.ClassFile.FieldType.boolean)) ∈ lw_all := lw_g (lw_at lw_m6 20 rfl) rfl
theorem q1335 : (Jvm.Cond.instanceMethod ({ cls := "SleepWork", name := "give", desc := "(II)Z" } : Jvm.MethodName)) ∈ lw_all := lw_g (lw_at lw_m6 22 rfl) rfl
theorem q1336 : (Jvm.Cond.selects "SleepWork" ({ cls := "SleepWork", name := "give", desc := "(II)Z" } : Jvm.MethodName) ({ cls := "SleepWork", name := "give", desc := "(II)Z" } : Jvm.MethodName)) ∈ lw_all := lw_g (lw_at lw_m6 23 rfl) rfl
theorem q1337 : (Jvm.Cond.code ({ cls := "SleepWork", name := "give", desc := "(II)Z" } : Jvm.MethodName) prog_1_method_21_code (3 : Nat) (Option.some Jvm.ClassFile.FieldType.boolean)) ∈ lw_all := lw_g (lw_at lw_m6 24 rfl) rfl
theorem q1339 : (Jvm.Cond.instanceMethod ({ cls := "SleepWork", name := "bar", desc := "(IZ)Z" } : Jvm.MethodName)) ∈ lw_all := lw_g (lw_at lw_m6 26 rfl) rfl
theorem q1340 : (Jvm.Cond.selects "SleepWork" ({ cls := "SleepWork", name := "bar", desc := "(IZ)Z" } : Jvm.MethodName) ({ cls := "SleepWork", name := "bar", desc := "(IZ)Z" } : Jvm.MethodName)) ∈ lw_all := lw_g (lw_at lw_m6 27 rfl) rfl
theorem q1341 : (Jvm.Cond.code ({ cls := "SleepWork", name := "bar", desc := "(IZ)Z" } : Jvm.MethodName) prog_1_method_22_code (3 : Nat) (Option.some Jvm.ClassFile.FieldType.boolean)) ∈ lw_all := lw_g (lw_at lw_m6 28 rfl) rfl
theorem q1343 : (Jvm.Cond.instanceMethod ({ cls := "SleepWork", name := "night", desc := "()I" } : Jvm.MethodName)) ∈ lw_all := lw_g (lw_at lw_m6 30 rfl) rfl
theorem q1344 : (Jvm.Cond.selects "SleepWork" ({ cls := "SleepWork", name := "night", desc := "()I" } : Jvm.MethodName) ({ cls := "SleepWork", name := "night", desc := "()I" } : Jvm.MethodName)) ∈ lw_all := lw_g (lw_at lw_m6 31 rfl) rfl
theorem q1345 : (Jvm.Cond.code ({ cls := "SleepWork", name := "night", desc := "()I" } : Jvm.MethodName) prog_1_method_23_code (2 : Nat) (Option.some Jvm.ClassFile.FieldType.int)) ∈ lw_all := lw_g (lw_at lw_m6 32 rfl) rfl
theorem q1346 : (Jvm.Cond.methodLink "SleepWork" (235 : Nat) ({ cls := "SleepWork$Village", name := "takes", desc := "(LSleepWork$Village;)V" } : Jvm.MethodName)) ∈ lw_all := lw_g (lw_at lw_m6 33 rfl) rfl
theorem q1351 : (Jvm.Cond.methodLink "SleepWork" (239 : Nat) ({ cls := "java/lang/Math", name := "min", desc := "(II)I" } : Jvm.MethodName)) ∈ lw_all := lw_g (lw_at lw_m6 38 rfl) rfl
theorem q1352 : (Jvm.Cond.methodLink "SleepWork" (245 : Nat) ({ cls := "SleepWork$Village", name := "worthOfAll", desc := "(LSleepWork$Text;)I" } : Jvm.MethodName)) ∈ lw_all := lw_g (lw_at lw_m6 39 rfl) rfl
theorem q1357 : (Jvm.Cond.methodLink "SleepWork" (249 : Nat) ({ cls := "SleepWork$Village", name := "night", desc := "(LSleepWork$Text;)V" } : Jvm.MethodName)) ∈ lw_all := lw_g (lw_at lw_m6 44 rfl) rfl
theorem q1422 : (Jvm.Cond.instanceMethod ({ cls := "SleepWork", name := "undo", desc := "()Z" } : Jvm.MethodName)) ∈ lw_all := lw_g (lw_at lw_m6 109 rfl) rfl
theorem q1423 : (Jvm.Cond.selects "SleepWork" ({ cls := "SleepWork", name := "undo", desc := "()Z" } : Jvm.MethodName) ({ cls := "SleepWork", name := "undo", desc := "()Z" } : Jvm.MethodName)) ∈ lw_all := lw_g (lw_at lw_m6 110 rfl) rfl
theorem q1424 : (Jvm.Cond.code ({ cls := "SleepWork", name := "undo", desc := "()Z" } : Jvm.MethodName) prog_1_method_24_code (1 : Nat) (Option.some Jvm.ClassFile.FieldType.boolean)) ∈ lw_all := lw_g (lw_at lw_m6 111 rfl) rfl
theorem q1426 : (Jvm.Cond.instanceMethod ({ cls := "SleepWork", name := "gain", desc := "()I" } : Jvm.MethodName)) ∈ lw_all := lw_g (lw_at lw_m6 113 rfl) rfl
theorem q1427 : (Jvm.Cond.selects "SleepWork" ({ cls := "SleepWork", name := "gain", desc := "()I" } : Jvm.MethodName) ({ cls := "SleepWork", name := "gain", desc := "()I" } : Jvm.MethodName)) ∈ lw_all := lw_g (lw_at lw_m6 114 rfl) rfl
theorem q1428 : (Jvm.Cond.code ({ cls := "SleepWork", name := "gain", desc := "()I" } : Jvm.MethodName) prog_1_method_26_code (1 : Nat) (Option.some Jvm.ClassFile.FieldType.int)) ∈ lw_all := lw_g (lw_at lw_m6 115 rfl) rfl
theorem q1429 : (Jvm.Cond.methodLink "SleepWork" (252 : Nat) ({ cls := "SleepWork", name := "brings", desc := "()I" } : Jvm.MethodName)) ∈ lw_all := lw_g (lw_at lw_m6 116 rfl) rfl
theorem q1430 : (Jvm.Cond.privateMethod ({ cls := "SleepWork", name := "brings", desc := "()I" } : Jvm.MethodName)) ∈ lw_tbl := lw_at lw_m6 117 rfl
theorem q1431 : (Jvm.Cond.instanceMethod ({ cls := "SleepWork", name := "brings", desc := "()I" } : Jvm.MethodName)) ∈ lw_all := lw_g (lw_at lw_m6 118 rfl) rfl
theorem q1432 : (Jvm.Cond.code ({ cls := "SleepWork", name := "brings", desc := "()I" } : Jvm.MethodName) prog_1_method_25_code (2 : Nat) (Option.some Jvm.ClassFile.FieldType.int)) ∈ lw_all := lw_g (lw_at lw_m6 119 rfl) rfl
theorem q1434 : (Jvm.Cond.instanceMethod ({ cls := "SleepWork", name := "best", desc := "(II)I" } : Jvm.MethodName)) ∈ lw_all := lw_g (lw_at lw_m6 121 rfl) rfl
theorem q1435 : (Jvm.Cond.selects "SleepWork" ({ cls := "SleepWork", name := "best", desc := "(II)I" } : Jvm.MethodName) ({ cls := "SleepWork", name := "best", desc := "(II)I" } : Jvm.MethodName)) ∈ lw_all := lw_g (lw_at lw_m6 122 rfl) rfl
theorem q1436 : (Jvm.Cond.code ({ cls := "SleepWork", name := "best", desc := "(II)I" } : Jvm.MethodName) prog_1_method_31_code (3 : Nat) (Option.some Jvm.ClassFile.FieldType.int)) ∈ lw_all := lw_g (lw_at lw_m6 123 rfl) rfl
theorem q1437 : (Jvm.Cond.methodLink "SleepWork" (272 : Nat) ({ cls := "SleepWork", name := "evening", desc := "(I)V" } : Jvm.MethodName)) ∈ lw_all := lw_g (lw_at lw_m6 124 rfl) rfl
theorem q1438 : (Jvm.Cond.privateMethod ({ cls := "SleepWork", name := "evening", desc := "(I)V" } : Jvm.MethodName)) ∈ lw_tbl := lw_at lw_m6 125 rfl
theorem q1439 : (Jvm.Cond.instanceMethod ({ cls := "SleepWork", name := "evening", desc := "(I)V" } : Jvm.MethodName)) ∈ lw_all := lw_g (lw_at lw_m6 126 rfl) rfl
theorem q1440 : (Jvm.Cond.code ({ cls := "SleepWork", name := "evening", desc := "(I)V" } : Jvm.MethodName) prog_1_method_30_code (4 : Nat) (Option.none : Option Jvm.ClassFile.FieldType)) ∈ lw_all := lw_g (lw_at lw_m6 127 rfl) rfl
theorem q1441 : (Jvm.Cond.methodLink "SleepWork" (255 : Nat) ({ cls := "SleepWork", name := "choices", desc := "()I" } : Jvm.MethodName)) ∈ lw_all := lw_g (lw_at lw_m6 128 rfl) rfl
theorem q1442 : (Jvm.Cond.privateMethod ({ cls := "SleepWork", name := "choices", desc := "()I" } : Jvm.MethodName)) ∈ lw_tbl := lw_at lw_m6 129 rfl
theorem q1443 : (Jvm.Cond.instanceMethod ({ cls := "SleepWork", name := "choices", desc := "()I" } : Jvm.MethodName)) ∈ lw_all := lw_g (lw_at lw_m6 130 rfl) rfl
theorem q1444 : (Jvm.Cond.code ({ cls := "SleepWork", name := "choices", desc := "()I" } : Jvm.MethodName) prog_1_method_27_code (3 : Nat) (Option.some Jvm.ClassFile.FieldType.int)) ∈ lw_all := lw_g (lw_at lw_m6 131 rfl) rfl
theorem q1445 : (Jvm.Cond.methodLink "SleepWork" (258 : Nat) ({ cls := "SleepWork", name := "choice", desc := "(I)I" } : Jvm.MethodName)) ∈ lw_all := lw_g (lw_at lw_m6 132 rfl) rfl
theorem q1446 : (Jvm.Cond.privateMethod ({ cls := "SleepWork", name := "choice", desc := "(I)I" } : Jvm.MethodName)) ∈ lw_tbl := lw_at lw_m6 133 rfl
theorem q1447 : (Jvm.Cond.instanceMethod ({ cls := "SleepWork", name := "choice", desc := "(I)I" } : Jvm.MethodName)) ∈ lw_all := lw_g (lw_at lw_m6 134 rfl) rfl
theorem q1448 : (Jvm.Cond.code ({ cls := "SleepWork", name := "choice", desc := "(I)I" } : Jvm.MethodName) prog_1_method_28_code (5 : Nat) (Option.some Jvm.ClassFile.FieldType.int)) ∈ lw_all := lw_g (lw_at lw_m6 135 rfl) rfl
theorem q1449 : (Jvm.Cond.methodLink "SleepWork" (262 : Nat) ({ cls := "SleepWork", name := "leavesThen", desc := "(II)V" } : Jvm.MethodName)) ∈ lw_all := lw_g (lw_at lw_m6 136 rfl) rfl
theorem q1450 : (Jvm.Cond.privateMethod ({ cls := "SleepWork", name := "leavesThen", desc := "(II)V" } : Jvm.MethodName)) ∈ lw_tbl := lw_at lw_m6 137 rfl
theorem q1451 : (Jvm.Cond.instanceMethod ({ cls := "SleepWork", name := "leavesThen", desc := "(II)V" } : Jvm.MethodName)) ∈ lw_all := lw_g (lw_at lw_m6 138 rfl) rfl
theorem q1452 : (Jvm.Cond.code ({ cls := "SleepWork", name := "leavesThen", desc := "(II)V" } : Jvm.MethodName) prog_1_method_29_code (3 : Nat) (Option.none : Option Jvm.ClassFile.FieldType)) ∈ lw_all := lw_g (lw_at lw_m6 139 rfl) rfl
theorem q1454 : (Jvm.Cond.instanceMethod ({ cls := "SleepWork", name := "bestOfTwo", desc := "(III)I" } : Jvm.MethodName)) ∈ lw_all := lw_g (lw_at lw_m6 141 rfl) rfl
theorem q1455 : (Jvm.Cond.selects "SleepWork" ({ cls := "SleepWork", name := "bestOfTwo", desc := "(III)I" } : Jvm.MethodName) ({ cls := "SleepWork", name := "bestOfTwo", desc := "(III)I" } : Jvm.MethodName)) ∈ lw_all := lw_g (lw_at lw_m6 142 rfl) rfl
theorem q1456 : (Jvm.Cond.code ({ cls := "SleepWork", name := "bestOfTwo", desc := "(III)I" } : Jvm.MethodName) prog_1_method_33_code (7 : Nat) (Option.some Jvm.ClassFile.FieldType.int)) ∈ lw_all := lw_g (lw_at lw_m6 143 rfl) rfl
theorem q1457 : (Jvm.Cond.methodLink "SleepWork" (275 : Nat) ({ cls := "SleepWork", name := "areTwo", desc := "(II)Z" } : Jvm.MethodName)) ∈ lw_all := lw_g (lw_at lw_m6 144 rfl) rfl
theorem q1458 : (Jvm.Cond.privateMethod ({ cls := "SleepWork", name := "areTwo", desc := "(II)Z" } : Jvm.MethodName)) ∈ lw_tbl := lw_at lw_m6 145 rfl
theorem q1459 : (Jvm.Cond.instanceMethod ({ cls := "SleepWork", name := "areTwo", desc := "(II)Z" } : Jvm.MethodName)) ∈ lw_all := lw_g (lw_at lw_m6 146 rfl) rfl
theorem q1460 : (Jvm.Cond.code ({ cls := "SleepWork", name := "areTwo", desc := "(II)Z" } : Jvm.MethodName) prog_1_method_32_code (3 : Nat) (Option.some Jvm.ClassFile.FieldType.boolean)) ∈ lw_all := lw_g (lw_at lw_m6 147 rfl) rfl
theorem q1462 : (Jvm.Cond.instanceMethod ({ cls := "SleepWork", name := "hire", desc := "(I)I" } : Jvm.MethodName)) ∈ lw_all := lw_g (lw_at lw_m6 149 rfl) rfl
theorem q1463 : (Jvm.Cond.selects "SleepWork" ({ cls := "SleepWork", name := "hire", desc := "(I)I" } : Jvm.MethodName) ({ cls := "SleepWork", name := "hire", desc := "(I)I" } : Jvm.MethodName)) ∈ lw_all := lw_g (lw_at lw_m6 150 rfl) rfl
theorem q1464 : (Jvm.Cond.code ({ cls := "SleepWork", name := "hire", desc := "(I)I" } : Jvm.MethodName) prog_1_method_34_code (3 : Nat) (Option.some Jvm.ClassFile.FieldType.int)) ∈ lw_all := lw_g (lw_at lw_m6 151 rfl) rfl
theorem q1465 : (Jvm.Cond.constant "SleepWork" (281 : Nat) (-1000000 : Int32)) ∈ lw_all := lw_g (lw_at lw_m6 152 rfl) rfl
theorem q1467 : (Jvm.Cond.instanceMethod ({ cls := "SleepWork", name := "hide", desc := "(II)I" } : Jvm.MethodName)) ∈ lw_all := lw_g (lw_at lw_m6 154 rfl) rfl
theorem q1468 : (Jvm.Cond.selects "SleepWork" ({ cls := "SleepWork", name := "hide", desc := "(II)I" } : Jvm.MethodName) ({ cls := "SleepWork", name := "hide", desc := "(II)I" } : Jvm.MethodName)) ∈ lw_all := lw_g (lw_at lw_m6 155 rfl) rfl
theorem q1469 : (Jvm.Cond.code ({ cls := "SleepWork", name := "hide", desc := "(II)I" } : Jvm.MethodName) prog_1_method_35_code (9 : Nat) (Option.some Jvm.ClassFile.FieldType.int)) ∈ lw_all := lw_g (lw_at lw_m6 156 rfl) rfl
theorem q1471 : (Jvm.Cond.instanceMethod ({ cls := "SleepWork", name := "bars", desc := "(I)I" } : Jvm.MethodName)) ∈ lw_all := lw_g (lw_at lw_m6 158 rfl) rfl
theorem q1472 : (Jvm.Cond.selects "SleepWork" ({ cls := "SleepWork", name := "bars", desc := "(I)I" } : Jvm.MethodName) ({ cls := "SleepWork", name := "bars", desc := "(I)I" } : Jvm.MethodName)) ∈ lw_all := lw_g (lw_at lw_m6 159 rfl) rfl
theorem q1473 : (Jvm.Cond.code ({ cls := "SleepWork", name := "bars", desc := "(I)I" } : Jvm.MethodName) prog_1_method_36_code (6 : Nat) (Option.some Jvm.ClassFile.FieldType.int)) ∈ lw_all := lw_g (lw_at lw_m6 160 rfl) rfl
theorem q1474 : (Jvm.Cond.methodLink "SleepWork" (282 : Nat) ({ cls := "java/lang/Integer", name := "bitCount", desc := "(I)I" } : Jvm.MethodName)) ∈ lw_all := lw_g (lw_at lw_m6 161 rfl) rfl
theorem q1481 : (Jvm.Cond.instanceMethod ({ cls := "SleepWork", name := "where", desc := "(II)I" } : Jvm.MethodName)) ∈ lw_all := lw_g (lw_at lw_m6 168 rfl) rfl
theorem q1482 : (Jvm.Cond.selects "SleepWork" ({ cls := "SleepWork", name := "where", desc := "(II)I" } : Jvm.MethodName) ({ cls := "SleepWork", name := "where", desc := "(II)I" } : Jvm.MethodName)) ∈ lw_all := lw_g (lw_at lw_m6 169 rfl) rfl
theorem q1483 : (Jvm.Cond.code ({ cls := "SleepWork", name := "where", desc := "(II)I" } : Jvm.MethodName) prog_1_method_38_code (6 : Nat) (Option.some Jvm.ClassFile.FieldType.int)) ∈ lw_all := lw_g (lw_at lw_m6 170 rfl) rfl
theorem q1484 : (Jvm.Cond.methodLink "SleepWork" (289 : Nat) ({ cls := "SleepWork", name := "isMinute", desc := "(I)Z" } : Jvm.MethodName)) ∈ lw_all := lw_g (lw_at lw_m6 171 rfl) rfl
theorem q1485 : (Jvm.Cond.privateMethod ({ cls := "SleepWork", name := "isMinute", desc := "(I)Z" } : Jvm.MethodName)) ∈ lw_tbl := lw_at lw_m6 172 rfl
theorem q1486 : (Jvm.Cond.instanceMethod ({ cls := "SleepWork", name := "isMinute", desc := "(I)Z" } : Jvm.MethodName)) ∈ lw_all := lw_g (lw_at lw_m6 173 rfl) rfl
theorem q1487 : (Jvm.Cond.code ({ cls := "SleepWork", name := "isMinute", desc := "(I)Z" } : Jvm.MethodName) prog_1_method_37_code (2 : Nat) (Option.some Jvm.ClassFile.FieldType.boolean)) ∈ lw_all := lw_g (lw_at lw_m6 174 rfl) rfl
theorem q1489 : (Jvm.Cond.instanceMethod ({ cls := "SleepWork", name := "strokes", desc := "(II)I" } : Jvm.MethodName)) ∈ lw_all := lw_g (lw_at lw_m6 176 rfl) rfl
theorem q1490 : (Jvm.Cond.selects "SleepWork" ({ cls := "SleepWork", name := "strokes", desc := "(II)I" } : Jvm.MethodName) ({ cls := "SleepWork", name := "strokes", desc := "(II)I" } : Jvm.MethodName)) ∈ lw_all := lw_g (lw_at lw_m6 177 rfl) rfl
theorem q1491 : (Jvm.Cond.code ({ cls := "SleepWork", name := "strokes", desc := "(II)I" } : Jvm.MethodName) prog_1_method_39_code (3 : Nat) (Option.some Jvm.ClassFile.FieldType.int)) ∈ lw_all := lw_g (lw_at lw_m6 178 rfl) rfl
theorem q1492 : (Jvm.Cond.methodLink "SleepWork" (292 : Nat) ({ cls := "SleepWork$Village", name := "nightTill", desc := "(LSleepWork$Text;I)V" } : Jvm.MethodName)) ∈ lw_all := lw_g (lw_at lw_m6 179 rfl) rfl
theorem q1494 : (Jvm.Cond.instanceMethod ({ cls := "SleepWork", name := "tell", desc := "(III)I" } : Jvm.MethodName)) ∈ lw_all := lw_g (lw_at lw_m6 181 rfl) rfl
theorem q1495 : (Jvm.Cond.selects "SleepWork" ({ cls := "SleepWork", name := "tell", desc := "(III)I" } : Jvm.MethodName) ({ cls := "SleepWork", name := "tell", desc := "(III)I" } : Jvm.MethodName)) ∈ lw_all := lw_g (lw_at lw_m6 182 rfl) rfl
theorem q1496 : (Jvm.Cond.code ({ cls := "SleepWork", name := "tell", desc := "(III)I" } : Jvm.MethodName) prog_1_method_40_code (4 : Nat) (Option.some Jvm.ClassFile.FieldType.int)) ∈ lw_all := lw_g (lw_at lw_m6 183 rfl) rfl
theorem q1498 : (Jvm.Cond.instanceMethod ({ cls := "SleepWork", name := "forget", desc := "()I" } : Jvm.MethodName)) ∈ lw_all := lw_g (lw_at lw_m6 185 rfl) rfl
theorem q1499 : (Jvm.Cond.selects "SleepWork" ({ cls := "SleepWork", name := "forget", desc := "()I" } : Jvm.MethodName) ({ cls := "SleepWork", name := "forget", desc := "()I" } : Jvm.MethodName)) ∈ lw_all := lw_g (lw_at lw_m6 186 rfl) rfl
theorem q1500 : (Jvm.Cond.code ({ cls := "SleepWork", name := "forget", desc := "()I" } : Jvm.MethodName) prog_1_method_41_code (2 : Nat) (Option.some Jvm.ClassFile.FieldType.int)) ∈ lw_all := lw_g (lw_at lw_m6 187 rfl) rfl
theorem q1502 : (Jvm.Cond.instanceMethod ({ cls := "SleepWork", name := "fits", desc := "(III)I" } : Jvm.MethodName)) ∈ lw_all := lw_g (lw_at lw_m6 189 rfl) rfl
theorem q1503 : (Jvm.Cond.selects "SleepWork" ({ cls := "SleepWork", name := "fits", desc := "(III)I" } : Jvm.MethodName) ({ cls := "SleepWork", name := "fits", desc := "(III)I" } : Jvm.MethodName)) ∈ lw_all := lw_g (lw_at lw_m6 190 rfl) rfl
theorem q1504 : (Jvm.Cond.code ({ cls := "SleepWork", name := "fits", desc := "(III)I" } : Jvm.MethodName) prog_1_method_45_code (6 : Nat) (Option.some Jvm.ClassFile.FieldType.int)) ∈ lw_all := lw_g (lw_at lw_m6 191 rfl) rfl
theorem q1505 : (Jvm.Cond.methodLink "SleepWork" (299 : Nat) ({ cls := "SleepWork", name := "isKnown", desc := "(I)Z" } : Jvm.MethodName)) ∈ lw_all := lw_g (lw_at lw_m6 192 rfl) rfl
theorem q1506 : (Jvm.Cond.privateMethod ({ cls := "SleepWork", name := "isKnown", desc := "(I)Z" } : Jvm.MethodName)) ∈ lw_tbl := lw_at lw_m6 193 rfl
theorem q1507 : (Jvm.Cond.instanceMethod ({ cls := "SleepWork", name := "isKnown", desc := "(I)Z" } : Jvm.MethodName)) ∈ lw_all := lw_g (lw_at lw_m6 194 rfl) rfl
theorem q1508 : (Jvm.Cond.code ({ cls := "SleepWork", name := "isKnown", desc := "(I)Z" } : Jvm.MethodName) prog_1_method_42_code (2 : Nat) (Option.some Jvm.ClassFile.FieldType.boolean)) ∈ lw_all := lw_g (lw_at lw_m6 195 rfl) rfl
theorem q1509 : (Jvm.Cond.methodLink "SleepWork" (302 : Nat) ({ cls := "SleepWork", name := "isFit", desc := "(III)Z" } : Jvm.MethodName)) ∈ lw_all := lw_g (lw_at lw_m6 196 rfl) rfl
theorem q1510 : (Jvm.Cond.privateMethod ({ cls := "SleepWork", name := "isFit", desc := "(III)Z" } : Jvm.MethodName)) ∈ lw_tbl := lw_at lw_m6 197 rfl
theorem q1511 : (Jvm.Cond.instanceMethod ({ cls := "SleepWork", name := "isFit", desc := "(III)Z" } : Jvm.MethodName)) ∈ lw_all := lw_g (lw_at lw_m6 198 rfl) rfl
theorem q1512 : (Jvm.Cond.code ({ cls := "SleepWork", name := "isFit", desc := "(III)Z" } : Jvm.MethodName) prog_1_method_44_code (4 : Nat) (Option.some Jvm.ClassFile.FieldType.boolean)) ∈ lw_all := lw_g (lw_at lw_m6 199 rfl) rfl
theorem q1513 : (Jvm.Cond.methodLink "SleepWork" (296 : Nat) ({ cls := "SleepWork", name := "isSo", desc := "(I)Z" } : Jvm.MethodName)) ∈ lw_all := lw_g (lw_at lw_m6 200 rfl) rfl
theorem q1514 : (Jvm.Cond.privateMethod ({ cls := "SleepWork", name := "isSo", desc := "(I)Z" } : Jvm.MethodName)) ∈ lw_tbl := lw_at lw_m6 201 rfl
theorem q1515 : (Jvm.Cond.instanceMethod ({ cls := "SleepWork", name := "isSo", desc := "(I)Z" } : Jvm.MethodName)) ∈ lw_all := lw_g (lw_at lw_m6 202 rfl) rfl
theorem q1516 : (Jvm.Cond.code ({ cls := "SleepWork", name := "isSo", desc := "(I)Z" } : Jvm.MethodName) prog_1_method_43_code (3 : Nat) (Option.some Jvm.ClassFile.FieldType.boolean)) ∈ lw_all := lw_g (lw_at lw_m6 203 rfl) rfl
theorem q1518 : (Jvm.Cond.instanceMethod ({ cls := "SleepWork", name := "suspects", desc := "(I)I" } : Jvm.MethodName)) ∈ lw_all := lw_g (lw_at lw_m6 205 rfl) rfl
theorem q1519 : (Jvm.Cond.selects "SleepWork" ({ cls := "SleepWork", name := "suspects", desc := "(I)I" } : Jvm.MethodName) ({ cls := "SleepWork", name := "suspects", desc := "(I)I" } : Jvm.MethodName)) ∈ lw_all := lw_g (lw_at lw_m6 206 rfl) rfl
theorem q1520 : (Jvm.Cond.code ({ cls := "SleepWork", name := "suspects", desc := "(I)I" } : Jvm.MethodName) prog_1_method_47_code (5 : Nat) (Option.some Jvm.ClassFile.FieldType.int)) ∈ lw_all := lw_g (lw_at lw_m6 207 rfl) rfl
theorem q1521 : (Jvm.Cond.methodLink "SleepWork" (305 : Nat) ({ cls := "SleepWork", name := "leftNow", desc := "(I)I" } : Jvm.MethodName)) ∈ lw_all := lw_g (lw_at lw_m6 208 rfl) rfl
theorem q1522 : (Jvm.Cond.privateMethod ({ cls := "SleepWork", name := "leftNow", desc := "(I)I" } : Jvm.MethodName)) ∈ lw_tbl := lw_at lw_m6 209 rfl
theorem q1523 : (Jvm.Cond.instanceMethod ({ cls := "SleepWork", name := "leftNow", desc := "(I)I" } : Jvm.MethodName)) ∈ lw_all := lw_g (lw_at lw_m6 210 rfl) rfl
theorem q1524 : (Jvm.Cond.code ({ cls := "SleepWork", name := "leftNow", desc := "(I)I" } : Jvm.MethodName) prog_1_method_46_code (2 : Nat) (Option.some Jvm.ClassFile.FieldType.int)) ∈ lw_all := lw_g (lw_at lw_m6 211 rfl) rfl
theorem q1526 : (Jvm.Cond.instanceMethod ({ cls := "SleepWork", name := "pairs", desc := "(III)I" } : Jvm.MethodName)) ∈ lw_all := lw_g (lw_at lw_m6 213 rfl) rfl
theorem q1527 : (Jvm.Cond.selects "SleepWork" ({ cls := "SleepWork", name := "pairs", desc := "(III)I" } : Jvm.MethodName) ({ cls := "SleepWork", name := "pairs", desc := "(III)I" } : Jvm.MethodName)) ∈ lw_all := lw_g (lw_at lw_m6 214 rfl) rfl
theorem q1528 : (Jvm.Cond.code ({ cls := "SleepWork", name := "pairs", desc := "(III)I" } : Jvm.MethodName) prog_1_method_48_code (7 : Nat) (Option.some Jvm.ClassFile.FieldType.int)) ∈ lw_all := lw_g (lw_at lw_m6 215 rfl) rfl
theorem q1530 : (Jvm.Cond.instanceMethod ({ cls := "SleepWork", name := "hold", desc := "(I)Z" } : Jvm.MethodName)) ∈ lw_all := lw_g (lw_at lw_m6 217 rfl) rfl
theorem q1531 : (Jvm.Cond.selects "SleepWork" ({ cls := "SleepWork", name := "hold", desc := "(I)Z" } : Jvm.MethodName) ({ cls := "SleepWork", name := "hold", desc := "(I)Z" } : Jvm.MethodName)) ∈ lw_all := lw_g (lw_at lw_m6 218 rfl) rfl
theorem q1532 : (Jvm.Cond.code ({ cls := "SleepWork", name := "hold", desc := "(I)Z" } : Jvm.MethodName) prog_1_method_49_code (2 : Nat) (Option.some Jvm.ClassFile.FieldType.boolean)) ∈ lw_all := lw_g (lw_at lw_m6 219 rfl) rfl
theorem q1534 : (Jvm.Cond.instanceMethod ({ cls := "SleepWork", name := "restore", desc := "(I)Z" } : Jvm.MethodName)) ∈ lw_all := lw_g (lw_at lw_m6 221 rfl) rfl
theorem q1535 : (Jvm.Cond.selects "SleepWork" ({ cls := "SleepWork", name := "restore", desc := "(I)Z" } : Jvm.MethodName) ({ cls := "SleepWork", name := "restore", desc := "(I)Z" } : Jvm.MethodName)) ∈ lw_all := lw_g (lw_at lw_m6 222 rfl) rfl
theorem q1536 : (Jvm.Cond.code ({ cls := "SleepWork", name := "restore", desc := "(I)Z" } : Jvm.MethodName) prog_1_method_50_code (2 : Nat) (Option.some Jvm.ClassFile.FieldType.boolean)) ∈ lw_all := lw_g (lw_at lw_m6 223 rfl) rfl
theorem q1538 : (Jvm.Cond.instanceMethod ({ cls := "SleepWork", name := "count", desc := "(I)I" } : Jvm.MethodName)) ∈ lw_all := lw_g (lw_at lw_m6 225 rfl) rfl
theorem q1539 : (Jvm.Cond.selects "SleepWork" ({ cls := "SleepWork", name := "count", desc := "(I)I" } : Jvm.MethodName) ({ cls := "SleepWork", name := "count", desc := "(I)I" } : Jvm.MethodName)) ∈ lw_all := lw_g (lw_at lw_m6 226 rfl) rfl
theorem q1540 : (Jvm.Cond.code ({ cls := "SleepWork", name := "count", desc := "(I)I" } : Jvm.MethodName) prog_1_method_51_code (2 : Nat) (Option.some Jvm.ClassFile.FieldType.int)) ∈ lw_all := lw_g (lw_at lw_m6 227 rfl) rfl
theorem q2210 : (Jvm.Cond.castable "SleepWork" "java/lang/Object") ∈ lw_tbl := lw_at lw_m9 177 rfl
theorem in_X0 : ∀ w ∈ wsX00, w ∈ lw_all := lw_in wsX00 [536, 538, 540, 542, 544, 546, 548, 550, 552, 554, 556, 558, 560, 562, 564, 566, 568, 570, 572] (by decide +kernel) (by decide +kernel)
