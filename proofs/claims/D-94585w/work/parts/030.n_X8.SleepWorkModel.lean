/-! SleepWorkModel -/
set_option maxRecDepth 100000
def RX8 : String := "SleepWorkModel"
def TX8 : u_T := fun k => match k with
  | 0 => ("SleepWorkModel", "thrown", "I", false)
  | 1 => ("SleepWorkModel", "tape", "[B", true)
  | 2 => ("SleepWorkModel", "taped", "I", false)
  | 3 => ("SleepWorkModel", "text", "[B", true)
  | 4 => ("SleepWorkModel", "size", "I", false)
  | 5 => ("SleepWorkModel", "tKind", "[I", true)
  | 6 => ("SleepWorkModel", "tPlace", "[I", true)
  | 7 => ("SleepWorkModel", "tValue", "[I", true)
  | 8 => ("SleepWorkModel", "tName", "[J", true)
  | 9 => ("SleepWorkModel", "keys", "[J", true)
  | 10 => ("SleepWorkModel", "tokens", "I", false)
  | 11 => ("SleepWorkModel", "t", "I", false)
  | 12 => ("SleepWorkModel", "open", "I", false)
  | 13 => ("SleepWorkModel", "fault", "I", false)
  | 14 => ("SleepWorkModel", "faultPlace", "I", false)
  | 15 => ("SleepWorkModel", "worst", "I", false)
  | 16 => ("SleepWorkModel", "worstPlace", "I", false)
  | 17 => ("SleepWorkModel", "place", "I", false)
  | 18 => ("SleepWorkModel", "live", "I", false)
  | 19 => ("SleepWorkModel", "side", "I", false)
  | 20 => ("SleepWorkModel", "names", "I", false)
  | 21 => ("SleepWorkModel", "nameOf", "[J", true)
  | 22 => ("SleepWorkModel", "nameSort", "[I", true)
  | 23 => ("SleepWorkModel", "nameAt", "[I", true)
  | 24 => ("SleepWorkModel", "rooms", "[I", true)
  | 25 => ("SleepWorkModel", "doors", "[I", true)
  | 26 => ("SleepWorkModel", "doorOne", "[I", true)
  | 27 => ("SleepWorkModel", "doorOther", "[I", true)
  | 28 => ("SleepWorkModel", "doorMinutes", "[I", true)
  | 29 => ("SleepWorkModel", "doorShut", "[Z", true)
  | 30 => ("SleepWorkModel", "tools", "[I", true)
  | 31 => ("SleepWorkModel", "toolTold", "[I", true)
  | 32 => ("SleepWorkModel", "tasks", "[I", true)
  | 33 => ("SleepWorkModel", "taskRoom", "[I", true)
  | 34 => ("SleepWorkModel", "stuffTold", "[I", true)
  | 35 => ("SleepWorkModel", "steps", "[I", true)
  | 36 => ("SleepWorkModel", "stepMinutes", "[I", true)
  | 37 => ("SleepWorkModel", "stepNeed", "[I", true)
  | 38 => ("SleepWorkModel", "stepGain", "[I", true)
  | 39 => ("SleepWorkModel", "stepSpoil", "[I", true)
  | 40 => ("SleepWorkModel", "stepTool", "[I", true)
  | 41 => ("SleepWorkModel", "stepUndoes", "[I", true)
  | 42 => ("SleepWorkModel", "men", "[I", true)
  | 43 => ("SleepWorkModel", "home", "[I", true)
  | 44 => ("SleepWorkModel", "leftTask", "[I", true)
  | 45 => ("SleepWorkModel", "leftStep", "[I", true)
  | 46 => ("SleepWorkModel", "laws", "[I", true)
  | 47 => ("SleepWorkModel", "lawFirst", "[I", true)
  | 48 => ("SleepWorkModel", "lawLast", "[I", true)
  | 49 => ("SleepWorkModel", "branches", "I", false)
  | 50 => ("SleepWorkModel", "hasTest", "[Z", true)
  | 51 => ("SleepWorkModel", "testFrom", "[I", true)
  | 52 => ("SleepWorkModel", "testMid", "[I", true)
  | 53 => ("SleepWorkModel", "testTo", "[I", true)
  | 54 => ("SleepWorkModel", "termTo", "[I", true)
  | 55 => ("SleepWorkModel", "nights", "[I", true)
  | 56 => ("SleepWorkModel", "codes", "I", false)
  | 57 => ("SleepWorkModel", "code", "[I", true)
  | 58 => ("SleepWorkModel", "codeInt", "[I", true)
  | 59 => ("SleepWorkModel", "waits", "[I", true)
  | 60 => ("SleepWorkModel", "waiting", "I", false)
  | 61 => ("SleepWorkModel", "variables", "[I", true)
  | 62 => ("SleepWorkModel", "pile", "[I", true)
  | 63 => ("SleepWorkModel", "isBroken", "Z", false)
  | 64 => ("SleepWorkModel", "now", "[I", true)
  | 65 => ("SleepWorkModel", "row", "[I", true)
  | 66 => ("SleepWorkModel", "far", "[I", true)
  | 67 => ("SleepWorkModel", "state", "[I", true)
  | 68 => ("SleepWorkModel", "from", "[I", true)
  | 69 => ("SleepWorkModel", "till", "[I", true)
  | 70 => ("SleepWorkModel", "doing", "[I", true)
  | 71 => ("SleepWorkModel", "lastStep", "[I", true)
  | 72 => ("SleepWorkModel", "times0", "[I", true)
  | 73 => ("SleepWorkModel", "byEnd", "[Z", true)
  | 74 => ("SleepWorkModel", "undos", "I", false)
  | 75 => ("SleepWorkModel", "history", "[I", true)
  | 76 => ("SleepWorkModel", "bestGain", "I", false)
  | 77 => ("SleepWorkModel", "told", "I", false)
  | 78 => ("SleepWorkModel", "toldTask", "[I", true)
  | 79 => ("SleepWorkModel", "toldStep", "[I", true)
  | 80 => ("SleepWorkModel", "toldTimes", "[I", true)
  | 81 => ("SleepWorkModel", "isHeld", "[Z", true)
  | _ => ("SleepWorkModel", "held", "[I", true)
def tyX8 : Nat → FieldType := fun k => match k with
  | 0 => .int
  | 1 => .array .byte
  | 2 => .int
  | 3 => .array .byte
  | 4 => .int
  | 5 => .array .int
  | 6 => .array .int
  | 7 => .array .int
  | 8 => .array .long
  | 9 => .array .long
  | 10 => .int
  | 11 => .int
  | 12 => .int
  | 13 => .int
  | 14 => .int
  | 15 => .int
  | 16 => .int
  | 17 => .int
  | 18 => .int
  | 19 => .int
  | 20 => .int
  | 21 => .array .long
  | 22 => .array .int
  | 23 => .array .int
  | 24 => .array .int
  | 25 => .array .int
  | 26 => .array .int
  | 27 => .array .int
  | 28 => .array .int
  | 29 => .array .boolean
  | 30 => .array .int
  | 31 => .array .int
  | 32 => .array .int
  | 33 => .array .int
  | 34 => .array .int
  | 35 => .array .int
  | 36 => .array .int
  | 37 => .array .int
  | 38 => .array .int
  | 39 => .array .int
  | 40 => .array .int
  | 41 => .array .int
  | 42 => .array .int
  | 43 => .array .int
  | 44 => .array .int
  | 45 => .array .int
  | 46 => .array .int
  | 47 => .array .int
  | 48 => .array .int
  | 49 => .int
  | 50 => .array .boolean
  | 51 => .array .int
  | 52 => .array .int
  | 53 => .array .int
  | 54 => .array .int
  | 55 => .array .int
  | 56 => .int
  | 57 => .array .int
  | 58 => .array .int
  | 59 => .array .int
  | 60 => .int
  | 61 => .array .int
  | 62 => .array .int
  | 63 => .boolean
  | 64 => .array .int
  | 65 => .array .int
  | 66 => .array .int
  | 67 => .array .int
  | 68 => .array .int
  | 69 => .array .int
  | 70 => .array .int
  | 71 => .array .int
  | 72 => .array .int
  | 73 => .array .boolean
  | 74 => .int
  | 75 => .array .int
  | 76 => .int
  | 77 => .int
  | 78 => .array .int
  | 79 => .array .int
  | 80 => .array .int
  | 81 => .array .boolean
  | _ => .array .int
abbrev wsX80 : List Cond := u_ws RX8 TX8 83
set_option maxRecDepth 100000 in
theorem nmX8 : ∀ a, a < 83 → ∀ b, b < 83 → a ≠ b → (TX8 a).2.1 ≠ (TX8 b).2.1 := by decide +kernel
set_option maxRecDepth 100000 in
theorem tyX8_ok : ∀ k, k < 83 → parseFieldDescriptor (TX8 k).2.2.1 = some (tyX8 k) := by decide +kernel
abbrev cX8_init : ByteArray := prog_22_method_2_code
def yX8_init : MethodName := ⟨RX8, "<init>", "()V"⟩
def dkwX8_init_41 : List UInt8 := [184, 0, 206, 80, 177]
abbrev dktX8_init_41 : List UInt8 := dkwX8_init_41 ++ []
def dkwX8_init_40 : List UInt8 := [184, 0, 206, 80, 42, 180, 0, 34, 16, 20, 16, 116, 16, 105, 16, 109, 16, 101, 16, 115, 3, 3]
abbrev dktX8_init_40 : List UInt8 := dkwX8_init_40 ++ dktX8_init_41
def dkwX8_init_39 : List UInt8 := [184, 0, 206, 80, 42, 180, 0, 34, 16, 19, 16, 115, 16, 116, 16, 117, 16, 102, 16, 102, 3, 3]
abbrev dktX8_init_39 : List UInt8 := dkwX8_init_39 ++ dktX8_init_40
def dkwX8_init_38 : List UInt8 := [184, 0, 206, 80, 42, 180, 0, 34, 16, 18, 16, 109, 16, 105, 16, 110, 16, 117, 16, 116, 16, 101, 3]
abbrev dktX8_init_38 : List UInt8 := dkwX8_init_38 ++ dktX8_init_39
def dkwX8_init_37 : List UInt8 := [184, 0, 206, 80, 42, 180, 0, 34, 16, 17, 16, 115, 16, 116, 16, 101, 16, 112, 16, 115, 3, 3]
abbrev dktX8_init_37 : List UInt8 := dkwX8_init_37 ++ dktX8_init_38
def dkwX8_init_36 : List UInt8 := [3, 3, 3, 184, 0, 206, 80, 42, 180, 0, 34, 16, 16, 16, 100, 16, 111, 16, 110, 16, 101, 3, 3, 3]
abbrev dktX8_init_36 : List UInt8 := dkwX8_init_36 ++ dktX8_init_37
def dkwX8_init_35 : List UInt8 := [16, 104, 16, 116, 3, 3, 184, 0, 206, 80, 42, 180, 0, 34, 16, 15, 16, 108, 16, 97, 16, 115, 16, 116]
abbrev dktX8_init_35 : List UInt8 := dkwX8_init_35 ++ dktX8_init_36
def dkwX8_init_34 : List UInt8 := [16, 115, 16, 101, 3, 3, 3, 184, 0, 206, 80, 42, 180, 0, 34, 16, 14, 16, 110, 16, 105, 16, 103]
abbrev dktX8_init_34 : List UInt8 := dkwX8_init_34 ++ dktX8_init_35
def dkwX8_init_33 : List UInt8 := [16, 104, 16, 101, 16, 110, 3, 3, 3, 184, 0, 206, 80, 42, 180, 0, 34, 16, 13, 16, 101, 16, 108]
abbrev dktX8_init_33 : List UInt8 := dkwX8_init_33 ++ dktX8_init_34
def dkwX8_init_32 : List UInt8 := [16, 11, 16, 105, 16, 102, 3, 3, 3, 3, 3, 184, 0, 206, 80, 42, 180, 0, 34, 16, 12, 16, 116]
abbrev dktX8_init_32 : List UInt8 := dkwX8_init_32 ++ dktX8_init_33
def dkwX8_init_31 : List UInt8 := [180, 0, 34, 16, 10, 16, 108, 16, 97, 16, 119, 3, 3, 3, 3, 184, 0, 206, 80, 42, 180, 0, 34]
abbrev dktX8_init_31 : List UInt8 := dkwX8_init_31 ++ dktX8_init_32
def dkwX8_init_30 : List UInt8 := [42, 180, 0, 34, 16, 9, 16, 108, 16, 101, 16, 102, 16, 116, 3, 3, 3, 184, 0, 206, 80, 42]
abbrev dktX8_init_30 : List UInt8 := dkwX8_init_30 ++ dktX8_init_31
def dkwX8_init_29 : List UInt8 := [184, 0, 206, 80, 42, 180, 0, 34, 16, 8, 16, 109, 16, 97, 16, 110, 3, 3, 3, 3, 184, 0, 206, 80]
abbrev dktX8_init_29 : List UInt8 := dkwX8_init_29 ++ dktX8_init_30
def dkwX8_init_28 : List UInt8 := [184, 0, 206, 80, 42, 180, 0, 34, 16, 7, 16, 117, 16, 110, 16, 100, 16, 111, 16, 101, 16, 115, 3]
abbrev dktX8_init_28 : List UInt8 := dkwX8_init_28 ++ dktX8_init_29
def dkwX8_init_27 : List UInt8 := [3, 184, 0, 206, 80, 42, 180, 0, 34, 16, 6, 16, 119, 16, 105, 16, 116, 16, 104, 3, 3, 3]
abbrev dktX8_init_27 : List UInt8 := dkwX8_init_27 ++ dktX8_init_28
def dkwX8_init_26 : List UInt8 := [16, 107, 3, 3, 3, 184, 0, 206, 80, 42, 180, 0, 34, 8, 16, 115, 16, 116, 16, 101, 16, 112, 3, 3]
abbrev dktX8_init_26 : List UInt8 := dkwX8_init_26 ++ dktX8_init_27
def dkwX8_init_25 : List UInt8 := [16, 111, 16, 111, 16, 108, 3, 3, 3, 184, 0, 206, 80, 42, 180, 0, 34, 7, 16, 116, 16, 97, 16, 115]
abbrev dktX8_init_25 : List UInt8 := dkwX8_init_25 ++ dktX8_init_26
def dkwX8_init_24 : List UInt8 := [5, 16, 115, 16, 104, 16, 117, 16, 116, 3, 3, 3, 184, 0, 206, 80, 42, 180, 0, 34, 6, 16, 116]
abbrev dktX8_init_24 : List UInt8 := dkwX8_init_24 ++ dktX8_init_25
def dkwX8_init_23 : List UInt8 := [42, 180, 0, 34, 4, 16, 100, 16, 111, 16, 111, 16, 114, 3, 3, 3, 184, 0, 206, 80, 42, 180, 0, 34]
abbrev dktX8_init_23 : List UInt8 := dkwX8_init_23 ++ dktX8_init_24
def dkwX8_init_22 : List UInt8 := [17, 1, 224, 79, 42, 180, 0, 34, 3, 16, 114, 16, 111, 16, 111, 16, 109, 3, 3, 3, 184, 0, 206, 80]
abbrev dktX8_init_22 : List UInt8 := dkwX8_init_22 ++ dktX8_init_23
def dkwX8_init_21 : List UInt8 := [181, 0, 197, 42, 6, 188, 4, 181, 0, 200, 42, 17, 1, 44, 188, 10, 181, 0, 203, 42, 180, 0, 140, 3]
abbrev dktX8_init_21 : List UInt8 := dkwX8_init_21 ++ dktX8_init_22
def dkwX8_init_20 : List UInt8 := [181, 0, 188, 42, 16, 30, 188, 10, 181, 0, 191, 42, 16, 30, 188, 10, 181, 0, 194, 42, 16, 30, 188, 10]
abbrev dktX8_init_20 : List UInt8 := dkwX8_init_20 ++ dktX8_init_21
def dkwX8_init_19 : List UInt8 := [42, 16, 6, 188, 10, 181, 0, 182, 42, 16, 6, 188, 4, 181, 0, 185, 42, 17, 7, 208, 188, 10]
abbrev dktX8_init_19 : List UInt8 := dkwX8_init_19 ++ dktX8_init_20
def dkwX8_init_18 : List UInt8 := [42, 16, 6, 188, 10, 181, 0, 173, 42, 16, 6, 188, 10, 181, 0, 176, 42, 16, 6, 188, 10, 181, 0, 179]
abbrev dktX8_init_18 : List UInt8 := dkwX8_init_18 ++ dktX8_init_19
def dkwX8_init_17 : List UInt8 := [42, 16, 64, 188, 10, 181, 0, 164, 42, 16, 6, 188, 10, 181, 0, 167, 42, 16, 6, 188, 10, 181, 0, 170]
abbrev dktX8_init_17 : List UInt8 := dkwX8_init_17 ++ dktX8_init_18
def dkwX8_init_16 : List UInt8 := [17, 1, 144, 188, 10, 181, 0, 155, 42, 16, 100, 188, 10, 181, 0, 158, 42, 16, 100, 188, 10, 181, 0, 161]
abbrev dktX8_init_16 : List UInt8 := dkwX8_init_16 ++ dktX8_init_17
def dkwX8_init_15 : List UInt8 := [188, 10, 181, 0, 146, 42, 16, 64, 188, 10, 181, 0, 149, 42, 16, 6, 188, 10, 181, 0, 152, 42]
abbrev dktX8_init_15 : List UInt8 := dkwX8_init_15 ++ dktX8_init_16
def dkwX8_init_14 : List UInt8 := [181, 0, 137, 42, 5, 188, 10, 181, 0, 140, 42, 17, 3, 72, 188, 10, 181, 0, 143, 42, 17, 3, 72]
abbrev dktX8_init_14 : List UInt8 := dkwX8_init_14 ++ dktX8_init_15
def dkwX8_init_13 : List UInt8 := [181, 0, 128, 42, 16, 100, 188, 10, 181, 0, 131, 42, 16, 100, 188, 10, 181, 0, 134, 42, 16, 100, 188, 10]
abbrev dktX8_init_13 : List UInt8 := dkwX8_init_13 ++ dktX8_init_14
def dkwX8_init_12 : List UInt8 := [181, 0, 119, 42, 16, 12, 188, 10, 181, 0, 122, 42, 16, 100, 188, 4, 181, 0, 125, 42, 16, 100, 188, 10]
abbrev dktX8_init_12 : List UInt8 := dkwX8_init_12 ++ dktX8_init_13
def dkwX8_init_11 : List UInt8 := [181, 0, 110, 42, 16, 12, 188, 10, 181, 0, 113, 42, 5, 188, 10, 181, 0, 116, 42, 16, 12, 188, 10]
abbrev dktX8_init_11 : List UInt8 := dkwX8_init_11 ++ dktX8_init_12
def dkwX8_init_10 : List UInt8 := [181, 0, 101, 42, 5, 188, 10, 181, 0, 104, 42, 16, 12, 188, 10, 181, 0, 107, 42, 16, 12, 188, 10]
abbrev dktX8_init_10 : List UInt8 := dkwX8_init_10 ++ dktX8_init_11
def dkwX8_init_9 : List UInt8 := [181, 0, 92, 42, 16, 72, 188, 10, 181, 0, 95, 42, 16, 72, 188, 10, 181, 0, 98, 42, 16, 72, 188, 10]
abbrev dktX8_init_9 : List UInt8 := dkwX8_init_9 ++ dktX8_init_10
def dkwX8_init_8 : List UInt8 := [181, 0, 83, 42, 16, 72, 188, 10, 181, 0, 86, 42, 16, 72, 188, 10, 181, 0, 89, 42, 16, 72, 188, 10]
abbrev dktX8_init_8 : List UInt8 := dkwX8_init_8 ++ dktX8_init_9
def dkwX8_init_7 : List UInt8 := [181, 0, 74, 42, 16, 12, 188, 10, 181, 0, 77, 42, 16, 12, 188, 10, 181, 0, 80, 42, 16, 12, 188, 10]
abbrev dktX8_init_7 : List UInt8 := dkwX8_init_7 ++ dktX8_init_8
def dkwX8_init_6 : List UInt8 := [181, 0, 64, 42, 5, 188, 10, 181, 0, 68, 42, 16, 12, 188, 10, 181, 0, 71, 42, 5, 188, 10]
abbrev dktX8_init_6 : List UInt8 := dkwX8_init_6 ++ dktX8_init_7
def dkwX8_init_5 : List UInt8 := [181, 0, 55, 42, 16, 24, 188, 10, 181, 0, 58, 42, 16, 24, 188, 10, 181, 0, 61, 42, 16, 24, 188, 4]
abbrev dktX8_init_5 : List UInt8 := dkwX8_init_5 ++ dktX8_init_6
def dkwX8_init_4 : List UInt8 := [181, 0, 46, 42, 5, 188, 10, 181, 0, 49, 42, 5, 188, 10, 181, 0, 52, 42, 16, 24, 188, 10]
abbrev dktX8_init_4 : List UInt8 := dkwX8_init_4 ++ dktX8_init_5
def dkwX8_init_3 : List UInt8 := [181, 0, 37, 42, 16, 32, 188, 11, 181, 0, 40, 42, 16, 32, 188, 10, 181, 0, 43, 42, 16, 32, 188, 10]
abbrev dktX8_init_3 : List UInt8 := dkwX8_init_3 ++ dktX8_init_4
def dkwX8_init_2 : List UInt8 := [181, 0, 27, 42, 17, 1, 147, 188, 11, 181, 0, 30, 42, 16, 21, 188, 11, 181, 0, 34, 42, 2]
abbrev dktX8_init_2 : List UInt8 := dkwX8_init_2 ++ dktX8_init_3
def dkwX8_init_1 : List UInt8 := [17, 1, 147, 188, 10, 181, 0, 20, 42, 17, 1, 147, 188, 10, 181, 0, 24, 42, 17, 1, 147, 188, 10]
abbrev dktX8_init_1 : List UInt8 := dkwX8_init_1 ++ dktX8_init_2
def dkwX8_init_0 : List UInt8 := [42, 183, 0, 7, 42, 17, 7, 208, 188, 8, 181, 0, 13, 42, 17, 7, 208, 188, 8, 181, 0, 17, 42]
abbrev dktX8_init_0 : List UInt8 := dkwX8_init_0 ++ dktX8_init_1
theorem dksX8_init_0 : cX8_init.data.toList.drop 0 = dktX8_init_0 := by decide +kernel
theorem dksX8_init_1 : cX8_init.data.toList.drop 23 = dktX8_init_1 := dk_seg dksX8_init_0 23 rfl rfl
theorem dksX8_init_2 : cX8_init.data.toList.drop 46 = dktX8_init_2 := dk_seg dksX8_init_1 23 rfl rfl
theorem dksX8_init_3 : cX8_init.data.toList.drop 68 = dktX8_init_3 := dk_seg dksX8_init_2 22 rfl rfl
theorem dksX8_init_4 : cX8_init.data.toList.drop 92 = dktX8_init_4 := dk_seg dksX8_init_3 24 rfl rfl
theorem dksX8_init_5 : cX8_init.data.toList.drop 114 = dktX8_init_5 := dk_seg dksX8_init_4 22 rfl rfl
theorem dksX8_init_6 : cX8_init.data.toList.drop 138 = dktX8_init_6 := dk_seg dksX8_init_5 24 rfl rfl
theorem dksX8_init_7 : cX8_init.data.toList.drop 160 = dktX8_init_7 := dk_seg dksX8_init_6 22 rfl rfl
theorem dksX8_init_8 : cX8_init.data.toList.drop 184 = dktX8_init_8 := dk_seg dksX8_init_7 24 rfl rfl
theorem dksX8_init_9 : cX8_init.data.toList.drop 208 = dktX8_init_9 := dk_seg dksX8_init_8 24 rfl rfl
theorem dksX8_init_10 : cX8_init.data.toList.drop 232 = dktX8_init_10 := dk_seg dksX8_init_9 24 rfl rfl
theorem dksX8_init_11 : cX8_init.data.toList.drop 255 = dktX8_init_11 := dk_seg dksX8_init_10 23 rfl rfl
theorem dksX8_init_12 : cX8_init.data.toList.drop 278 = dktX8_init_12 := dk_seg dksX8_init_11 23 rfl rfl
theorem dksX8_init_13 : cX8_init.data.toList.drop 302 = dktX8_init_13 := dk_seg dksX8_init_12 24 rfl rfl
theorem dksX8_init_14 : cX8_init.data.toList.drop 326 = dktX8_init_14 := dk_seg dksX8_init_13 24 rfl rfl
theorem dksX8_init_15 : cX8_init.data.toList.drop 349 = dktX8_init_15 := dk_seg dksX8_init_14 23 rfl rfl
theorem dksX8_init_16 : cX8_init.data.toList.drop 371 = dktX8_init_16 := dk_seg dksX8_init_15 22 rfl rfl
theorem dksX8_init_17 : cX8_init.data.toList.drop 395 = dktX8_init_17 := dk_seg dksX8_init_16 24 rfl rfl
theorem dksX8_init_18 : cX8_init.data.toList.drop 419 = dktX8_init_18 := dk_seg dksX8_init_17 24 rfl rfl
theorem dksX8_init_19 : cX8_init.data.toList.drop 443 = dktX8_init_19 := dk_seg dksX8_init_18 24 rfl rfl
theorem dksX8_init_20 : cX8_init.data.toList.drop 465 = dktX8_init_20 := dk_seg dksX8_init_19 22 rfl rfl
theorem dksX8_init_21 : cX8_init.data.toList.drop 489 = dktX8_init_21 := dk_seg dksX8_init_20 24 rfl rfl
theorem dksX8_init_22 : cX8_init.data.toList.drop 513 = dktX8_init_22 := dk_seg dksX8_init_21 24 rfl rfl
theorem dksX8_init_23 : cX8_init.data.toList.drop 537 = dktX8_init_23 := dk_seg dksX8_init_22 24 rfl rfl
theorem dksX8_init_24 : cX8_init.data.toList.drop 561 = dktX8_init_24 := dk_seg dksX8_init_23 24 rfl rfl
theorem dksX8_init_25 : cX8_init.data.toList.drop 584 = dktX8_init_25 := dk_seg dksX8_init_24 23 rfl rfl
theorem dksX8_init_26 : cX8_init.data.toList.drop 608 = dktX8_init_26 := dk_seg dksX8_init_25 24 rfl rfl
theorem dksX8_init_27 : cX8_init.data.toList.drop 632 = dktX8_init_27 := dk_seg dksX8_init_26 24 rfl rfl
theorem dksX8_init_28 : cX8_init.data.toList.drop 654 = dktX8_init_28 := dk_seg dksX8_init_27 22 rfl rfl
theorem dksX8_init_29 : cX8_init.data.toList.drop 677 = dktX8_init_29 := dk_seg dksX8_init_28 23 rfl rfl
theorem dksX8_init_30 : cX8_init.data.toList.drop 701 = dktX8_init_30 := dk_seg dksX8_init_29 24 rfl rfl
theorem dksX8_init_31 : cX8_init.data.toList.drop 723 = dktX8_init_31 := dk_seg dksX8_init_30 22 rfl rfl
theorem dksX8_init_32 : cX8_init.data.toList.drop 746 = dktX8_init_32 := dk_seg dksX8_init_31 23 rfl rfl
theorem dksX8_init_33 : cX8_init.data.toList.drop 769 = dktX8_init_33 := dk_seg dksX8_init_32 23 rfl rfl
theorem dksX8_init_34 : cX8_init.data.toList.drop 792 = dktX8_init_34 := dk_seg dksX8_init_33 23 rfl rfl
theorem dksX8_init_35 : cX8_init.data.toList.drop 815 = dktX8_init_35 := dk_seg dksX8_init_34 23 rfl rfl
theorem dksX8_init_36 : cX8_init.data.toList.drop 839 = dktX8_init_36 := dk_seg dksX8_init_35 24 rfl rfl
theorem dksX8_init_37 : cX8_init.data.toList.drop 863 = dktX8_init_37 := dk_seg dksX8_init_36 24 rfl rfl
theorem dksX8_init_38 : cX8_init.data.toList.drop 885 = dktX8_init_38 := dk_seg dksX8_init_37 22 rfl rfl
theorem dksX8_init_39 : cX8_init.data.toList.drop 908 = dktX8_init_39 := dk_seg dksX8_init_38 23 rfl rfl
theorem dksX8_init_40 : cX8_init.data.toList.drop 930 = dktX8_init_40 := dk_seg dksX8_init_39 22 rfl rfl
theorem dksX8_init_41 : cX8_init.data.toList.drop 952 = dktX8_init_41 := dk_seg dksX8_init_40 22 rfl rfl
theorem dX8_init_0 : decode cX8_init 0 = .ok (.aload_n 0, 1) := dk_42 (dk_at dksX8_init_0 0 rfl rfl)
theorem dX8_init_1 : decode cX8_init 1 = .ok (.invokespecial 7, 3) := dk_183 0 7 (dk_at dksX8_init_0 1 rfl rfl)
theorem dX8_init_4 : decode cX8_init 4 = .ok (.aload_n 0, 1) := dk_42 (dk_at dksX8_init_0 4 rfl rfl)
theorem dX8_init_5 : decode cX8_init 5 = .ok (.sipush 2000, 3) := dk_17 7 208 (dk_at dksX8_init_0 5 rfl rfl)
theorem dX8_init_8 : decode cX8_init 8 = .ok (.newarray .byte, 2) := dk_188_8 (dk_at dksX8_init_0 8 rfl rfl)
theorem dX8_init_10 : decode cX8_init 10 = .ok (.putfield 13, 3) := dk_181 0 13 (dk_at dksX8_init_0 10 rfl rfl)
theorem dX8_init_13 : decode cX8_init 13 = .ok (.aload_n 0, 1) := dk_42 (dk_at dksX8_init_0 13 rfl rfl)
theorem dX8_init_14 : decode cX8_init 14 = .ok (.sipush 2000, 3) := dk_17 7 208 (dk_at dksX8_init_0 14 rfl rfl)
theorem dX8_init_17 : decode cX8_init 17 = .ok (.newarray .byte, 2) := dk_188_8 (dk_at dksX8_init_0 17 rfl rfl)
theorem dX8_init_19 : decode cX8_init 19 = .ok (.putfield 17, 3) := dk_181 0 17 (dk_at dksX8_init_0 19 rfl rfl)
theorem dX8_init_22 : decode cX8_init 22 = .ok (.aload_n 0, 1) := dk_42 (dk_at dksX8_init_0 22 rfl rfl)
theorem dX8_init_23 : decode cX8_init 23 = .ok (.sipush 403, 3) := dk_17 1 147 (dk_at dksX8_init_1 0 rfl rfl)
theorem dX8_init_26 : decode cX8_init 26 = .ok (.newarray .int, 2) := dk_188_10 (dk_at dksX8_init_1 3 rfl rfl)
theorem dX8_init_28 : decode cX8_init 28 = .ok (.putfield 20, 3) := dk_181 0 20 (dk_at dksX8_init_1 5 rfl rfl)
theorem dX8_init_31 : decode cX8_init 31 = .ok (.aload_n 0, 1) := dk_42 (dk_at dksX8_init_1 8 rfl rfl)
theorem dX8_init_32 : decode cX8_init 32 = .ok (.sipush 403, 3) := dk_17 1 147 (dk_at dksX8_init_1 9 rfl rfl)
theorem dX8_init_35 : decode cX8_init 35 = .ok (.newarray .int, 2) := dk_188_10 (dk_at dksX8_init_1 12 rfl rfl)
theorem dX8_init_37 : decode cX8_init 37 = .ok (.putfield 24, 3) := dk_181 0 24 (dk_at dksX8_init_1 14 rfl rfl)
theorem dX8_init_40 : decode cX8_init 40 = .ok (.aload_n 0, 1) := dk_42 (dk_at dksX8_init_1 17 rfl rfl)
theorem dX8_init_41 : decode cX8_init 41 = .ok (.sipush 403, 3) := dk_17 1 147 (dk_at dksX8_init_1 18 rfl rfl)
theorem dX8_init_44 : decode cX8_init 44 = .ok (.newarray .int, 2) := dk_188_10 (dk_at dksX8_init_1 21 rfl rfl)
theorem dX8_init_46 : decode cX8_init 46 = .ok (.putfield 27, 3) := dk_181 0 27 (dk_at dksX8_init_2 0 rfl rfl)
theorem dX8_init_49 : decode cX8_init 49 = .ok (.aload_n 0, 1) := dk_42 (dk_at dksX8_init_2 3 rfl rfl)
theorem dX8_init_50 : decode cX8_init 50 = .ok (.sipush 403, 3) := dk_17 1 147 (dk_at dksX8_init_2 4 rfl rfl)
theorem dX8_init_53 : decode cX8_init 53 = .ok (.newarray .long, 2) := dk_188_11 (dk_at dksX8_init_2 7 rfl rfl)
theorem dX8_init_55 : decode cX8_init 55 = .ok (.putfield 30, 3) := dk_181 0 30 (dk_at dksX8_init_2 9 rfl rfl)
theorem dX8_init_58 : decode cX8_init 58 = .ok (.aload_n 0, 1) := dk_42 (dk_at dksX8_init_2 12 rfl rfl)
theorem dX8_init_59 : decode cX8_init 59 = .ok (.bipush 21, 2) := dk_16 21 (dk_at dksX8_init_2 13 rfl rfl)
theorem dX8_init_61 : decode cX8_init 61 = .ok (.newarray .long, 2) := dk_188_11 (dk_at dksX8_init_2 15 rfl rfl)
theorem dX8_init_63 : decode cX8_init 63 = .ok (.putfield 34, 3) := dk_181 0 34 (dk_at dksX8_init_2 17 rfl rfl)
theorem dX8_init_66 : decode cX8_init 66 = .ok (.aload_n 0, 1) := dk_42 (dk_at dksX8_init_2 20 rfl rfl)
theorem dX8_init_67 : decode cX8_init 67 = .ok (.iconst (-1), 1) := dk_2 (dk_at dksX8_init_2 21 rfl rfl)
theorem dX8_init_68 : decode cX8_init 68 = .ok (.putfield 37, 3) := dk_181 0 37 (dk_at dksX8_init_3 0 rfl rfl)
theorem dX8_init_71 : decode cX8_init 71 = .ok (.aload_n 0, 1) := dk_42 (dk_at dksX8_init_3 3 rfl rfl)
theorem dX8_init_72 : decode cX8_init 72 = .ok (.bipush 32, 2) := dk_16 32 (dk_at dksX8_init_3 4 rfl rfl)
theorem dX8_init_74 : decode cX8_init 74 = .ok (.newarray .long, 2) := dk_188_11 (dk_at dksX8_init_3 6 rfl rfl)
theorem dX8_init_76 : decode cX8_init 76 = .ok (.putfield 40, 3) := dk_181 0 40 (dk_at dksX8_init_3 8 rfl rfl)
theorem dX8_init_79 : decode cX8_init 79 = .ok (.aload_n 0, 1) := dk_42 (dk_at dksX8_init_3 11 rfl rfl)
theorem dX8_init_80 : decode cX8_init 80 = .ok (.bipush 32, 2) := dk_16 32 (dk_at dksX8_init_3 12 rfl rfl)
theorem dX8_init_82 : decode cX8_init 82 = .ok (.newarray .int, 2) := dk_188_10 (dk_at dksX8_init_3 14 rfl rfl)
theorem dX8_init_84 : decode cX8_init 84 = .ok (.putfield 43, 3) := dk_181 0 43 (dk_at dksX8_init_3 16 rfl rfl)
theorem dX8_init_87 : decode cX8_init 87 = .ok (.aload_n 0, 1) := dk_42 (dk_at dksX8_init_3 19 rfl rfl)
theorem dX8_init_88 : decode cX8_init 88 = .ok (.bipush 32, 2) := dk_16 32 (dk_at dksX8_init_3 20 rfl rfl)
theorem dX8_init_90 : decode cX8_init 90 = .ok (.newarray .int, 2) := dk_188_10 (dk_at dksX8_init_3 22 rfl rfl)
theorem dX8_init_92 : decode cX8_init 92 = .ok (.putfield 46, 3) := dk_181 0 46 (dk_at dksX8_init_4 0 rfl rfl)
theorem dX8_init_95 : decode cX8_init 95 = .ok (.aload_n 0, 1) := dk_42 (dk_at dksX8_init_4 3 rfl rfl)
theorem dX8_init_96 : decode cX8_init 96 = .ok (.iconst 2, 1) := dk_5 (dk_at dksX8_init_4 4 rfl rfl)
theorem dX8_init_97 : decode cX8_init 97 = .ok (.newarray .int, 2) := dk_188_10 (dk_at dksX8_init_4 5 rfl rfl)
theorem dX8_init_99 : decode cX8_init 99 = .ok (.putfield 49, 3) := dk_181 0 49 (dk_at dksX8_init_4 7 rfl rfl)
theorem dX8_init_102 : decode cX8_init 102 = .ok (.aload_n 0, 1) := dk_42 (dk_at dksX8_init_4 10 rfl rfl)
theorem dX8_init_103 : decode cX8_init 103 = .ok (.iconst 2, 1) := dk_5 (dk_at dksX8_init_4 11 rfl rfl)
theorem dX8_init_104 : decode cX8_init 104 = .ok (.newarray .int, 2) := dk_188_10 (dk_at dksX8_init_4 12 rfl rfl)
theorem dX8_init_106 : decode cX8_init 106 = .ok (.putfield 52, 3) := dk_181 0 52 (dk_at dksX8_init_4 14 rfl rfl)
theorem dX8_init_109 : decode cX8_init 109 = .ok (.aload_n 0, 1) := dk_42 (dk_at dksX8_init_4 17 rfl rfl)
theorem dX8_init_110 : decode cX8_init 110 = .ok (.bipush 24, 2) := dk_16 24 (dk_at dksX8_init_4 18 rfl rfl)
theorem dX8_init_112 : decode cX8_init 112 = .ok (.newarray .int, 2) := dk_188_10 (dk_at dksX8_init_4 20 rfl rfl)
theorem dX8_init_114 : decode cX8_init 114 = .ok (.putfield 55, 3) := dk_181 0 55 (dk_at dksX8_init_5 0 rfl rfl)
theorem dX8_init_117 : decode cX8_init 117 = .ok (.aload_n 0, 1) := dk_42 (dk_at dksX8_init_5 3 rfl rfl)
theorem dX8_init_118 : decode cX8_init 118 = .ok (.bipush 24, 2) := dk_16 24 (dk_at dksX8_init_5 4 rfl rfl)
theorem dX8_init_120 : decode cX8_init 120 = .ok (.newarray .int, 2) := dk_188_10 (dk_at dksX8_init_5 6 rfl rfl)
theorem dX8_init_122 : decode cX8_init 122 = .ok (.putfield 58, 3) := dk_181 0 58 (dk_at dksX8_init_5 8 rfl rfl)
theorem dX8_init_125 : decode cX8_init 125 = .ok (.aload_n 0, 1) := dk_42 (dk_at dksX8_init_5 11 rfl rfl)
theorem dX8_init_126 : decode cX8_init 126 = .ok (.bipush 24, 2) := dk_16 24 (dk_at dksX8_init_5 12 rfl rfl)
theorem dX8_init_128 : decode cX8_init 128 = .ok (.newarray .int, 2) := dk_188_10 (dk_at dksX8_init_5 14 rfl rfl)
theorem dX8_init_130 : decode cX8_init 130 = .ok (.putfield 61, 3) := dk_181 0 61 (dk_at dksX8_init_5 16 rfl rfl)
theorem dX8_init_133 : decode cX8_init 133 = .ok (.aload_n 0, 1) := dk_42 (dk_at dksX8_init_5 19 rfl rfl)
theorem dX8_init_134 : decode cX8_init 134 = .ok (.bipush 24, 2) := dk_16 24 (dk_at dksX8_init_5 20 rfl rfl)
theorem dX8_init_136 : decode cX8_init 136 = .ok (.newarray .boolean, 2) := dk_188_4 (dk_at dksX8_init_5 22 rfl rfl)
theorem dX8_init_138 : decode cX8_init 138 = .ok (.putfield 64, 3) := dk_181 0 64 (dk_at dksX8_init_6 0 rfl rfl)
theorem dX8_init_141 : decode cX8_init 141 = .ok (.aload_n 0, 1) := dk_42 (dk_at dksX8_init_6 3 rfl rfl)
theorem dX8_init_142 : decode cX8_init 142 = .ok (.iconst 2, 1) := dk_5 (dk_at dksX8_init_6 4 rfl rfl)
theorem dX8_init_143 : decode cX8_init 143 = .ok (.newarray .int, 2) := dk_188_10 (dk_at dksX8_init_6 5 rfl rfl)
theorem dX8_init_145 : decode cX8_init 145 = .ok (.putfield 68, 3) := dk_181 0 68 (dk_at dksX8_init_6 7 rfl rfl)
theorem dX8_init_148 : decode cX8_init 148 = .ok (.aload_n 0, 1) := dk_42 (dk_at dksX8_init_6 10 rfl rfl)
theorem dX8_init_149 : decode cX8_init 149 = .ok (.bipush 12, 2) := dk_16 12 (dk_at dksX8_init_6 11 rfl rfl)
theorem dX8_init_151 : decode cX8_init 151 = .ok (.newarray .int, 2) := dk_188_10 (dk_at dksX8_init_6 13 rfl rfl)
theorem dX8_init_153 : decode cX8_init 153 = .ok (.putfield 71, 3) := dk_181 0 71 (dk_at dksX8_init_6 15 rfl rfl)
theorem dX8_init_156 : decode cX8_init 156 = .ok (.aload_n 0, 1) := dk_42 (dk_at dksX8_init_6 18 rfl rfl)
theorem dX8_init_157 : decode cX8_init 157 = .ok (.iconst 2, 1) := dk_5 (dk_at dksX8_init_6 19 rfl rfl)
theorem dX8_init_158 : decode cX8_init 158 = .ok (.newarray .int, 2) := dk_188_10 (dk_at dksX8_init_6 20 rfl rfl)
theorem dX8_init_160 : decode cX8_init 160 = .ok (.putfield 74, 3) := dk_181 0 74 (dk_at dksX8_init_7 0 rfl rfl)
theorem dX8_init_163 : decode cX8_init 163 = .ok (.aload_n 0, 1) := dk_42 (dk_at dksX8_init_7 3 rfl rfl)
theorem dX8_init_164 : decode cX8_init 164 = .ok (.bipush 12, 2) := dk_16 12 (dk_at dksX8_init_7 4 rfl rfl)
theorem dX8_init_166 : decode cX8_init 166 = .ok (.newarray .int, 2) := dk_188_10 (dk_at dksX8_init_7 6 rfl rfl)
theorem dX8_init_168 : decode cX8_init 168 = .ok (.putfield 77, 3) := dk_181 0 77 (dk_at dksX8_init_7 8 rfl rfl)
theorem dX8_init_171 : decode cX8_init 171 = .ok (.aload_n 0, 1) := dk_42 (dk_at dksX8_init_7 11 rfl rfl)
theorem dX8_init_172 : decode cX8_init 172 = .ok (.bipush 12, 2) := dk_16 12 (dk_at dksX8_init_7 12 rfl rfl)
theorem dX8_init_174 : decode cX8_init 174 = .ok (.newarray .int, 2) := dk_188_10 (dk_at dksX8_init_7 14 rfl rfl)
theorem dX8_init_176 : decode cX8_init 176 = .ok (.putfield 80, 3) := dk_181 0 80 (dk_at dksX8_init_7 16 rfl rfl)
theorem dX8_init_179 : decode cX8_init 179 = .ok (.aload_n 0, 1) := dk_42 (dk_at dksX8_init_7 19 rfl rfl)
theorem dX8_init_180 : decode cX8_init 180 = .ok (.bipush 12, 2) := dk_16 12 (dk_at dksX8_init_7 20 rfl rfl)
theorem dX8_init_182 : decode cX8_init 182 = .ok (.newarray .int, 2) := dk_188_10 (dk_at dksX8_init_7 22 rfl rfl)
theorem dX8_init_184 : decode cX8_init 184 = .ok (.putfield 83, 3) := dk_181 0 83 (dk_at dksX8_init_8 0 rfl rfl)
theorem dX8_init_187 : decode cX8_init 187 = .ok (.aload_n 0, 1) := dk_42 (dk_at dksX8_init_8 3 rfl rfl)
theorem dX8_init_188 : decode cX8_init 188 = .ok (.bipush 72, 2) := dk_16 72 (dk_at dksX8_init_8 4 rfl rfl)
theorem dX8_init_190 : decode cX8_init 190 = .ok (.newarray .int, 2) := dk_188_10 (dk_at dksX8_init_8 6 rfl rfl)
theorem dX8_init_192 : decode cX8_init 192 = .ok (.putfield 86, 3) := dk_181 0 86 (dk_at dksX8_init_8 8 rfl rfl)
theorem dX8_init_195 : decode cX8_init 195 = .ok (.aload_n 0, 1) := dk_42 (dk_at dksX8_init_8 11 rfl rfl)
theorem dX8_init_196 : decode cX8_init 196 = .ok (.bipush 72, 2) := dk_16 72 (dk_at dksX8_init_8 12 rfl rfl)
theorem dX8_init_198 : decode cX8_init 198 = .ok (.newarray .int, 2) := dk_188_10 (dk_at dksX8_init_8 14 rfl rfl)
theorem dX8_init_200 : decode cX8_init 200 = .ok (.putfield 89, 3) := dk_181 0 89 (dk_at dksX8_init_8 16 rfl rfl)
theorem dX8_init_203 : decode cX8_init 203 = .ok (.aload_n 0, 1) := dk_42 (dk_at dksX8_init_8 19 rfl rfl)
theorem dX8_init_204 : decode cX8_init 204 = .ok (.bipush 72, 2) := dk_16 72 (dk_at dksX8_init_8 20 rfl rfl)
theorem dX8_init_206 : decode cX8_init 206 = .ok (.newarray .int, 2) := dk_188_10 (dk_at dksX8_init_8 22 rfl rfl)
theorem dX8_init_208 : decode cX8_init 208 = .ok (.putfield 92, 3) := dk_181 0 92 (dk_at dksX8_init_9 0 rfl rfl)
theorem dX8_init_211 : decode cX8_init 211 = .ok (.aload_n 0, 1) := dk_42 (dk_at dksX8_init_9 3 rfl rfl)
theorem dX8_init_212 : decode cX8_init 212 = .ok (.bipush 72, 2) := dk_16 72 (dk_at dksX8_init_9 4 rfl rfl)
theorem dX8_init_214 : decode cX8_init 214 = .ok (.newarray .int, 2) := dk_188_10 (dk_at dksX8_init_9 6 rfl rfl)
theorem dX8_init_216 : decode cX8_init 216 = .ok (.putfield 95, 3) := dk_181 0 95 (dk_at dksX8_init_9 8 rfl rfl)
theorem dX8_init_219 : decode cX8_init 219 = .ok (.aload_n 0, 1) := dk_42 (dk_at dksX8_init_9 11 rfl rfl)
theorem dX8_init_220 : decode cX8_init 220 = .ok (.bipush 72, 2) := dk_16 72 (dk_at dksX8_init_9 12 rfl rfl)
theorem dX8_init_222 : decode cX8_init 222 = .ok (.newarray .int, 2) := dk_188_10 (dk_at dksX8_init_9 14 rfl rfl)
theorem dX8_init_224 : decode cX8_init 224 = .ok (.putfield 98, 3) := dk_181 0 98 (dk_at dksX8_init_9 16 rfl rfl)
theorem dX8_init_227 : decode cX8_init 227 = .ok (.aload_n 0, 1) := dk_42 (dk_at dksX8_init_9 19 rfl rfl)
theorem dX8_init_228 : decode cX8_init 228 = .ok (.bipush 72, 2) := dk_16 72 (dk_at dksX8_init_9 20 rfl rfl)
theorem dX8_init_230 : decode cX8_init 230 = .ok (.newarray .int, 2) := dk_188_10 (dk_at dksX8_init_9 22 rfl rfl)
theorem dX8_init_232 : decode cX8_init 232 = .ok (.putfield 101, 3) := dk_181 0 101 (dk_at dksX8_init_10 0 rfl rfl)
theorem dX8_init_235 : decode cX8_init 235 = .ok (.aload_n 0, 1) := dk_42 (dk_at dksX8_init_10 3 rfl rfl)
theorem dX8_init_236 : decode cX8_init 236 = .ok (.iconst 2, 1) := dk_5 (dk_at dksX8_init_10 4 rfl rfl)
theorem dX8_init_237 : decode cX8_init 237 = .ok (.newarray .int, 2) := dk_188_10 (dk_at dksX8_init_10 5 rfl rfl)
theorem dX8_init_239 : decode cX8_init 239 = .ok (.putfield 104, 3) := dk_181 0 104 (dk_at dksX8_init_10 7 rfl rfl)
theorem dX8_init_242 : decode cX8_init 242 = .ok (.aload_n 0, 1) := dk_42 (dk_at dksX8_init_10 10 rfl rfl)
theorem dX8_init_243 : decode cX8_init 243 = .ok (.bipush 12, 2) := dk_16 12 (dk_at dksX8_init_10 11 rfl rfl)
theorem dX8_init_245 : decode cX8_init 245 = .ok (.newarray .int, 2) := dk_188_10 (dk_at dksX8_init_10 13 rfl rfl)
theorem dX8_init_247 : decode cX8_init 247 = .ok (.putfield 107, 3) := dk_181 0 107 (dk_at dksX8_init_10 15 rfl rfl)
theorem dX8_init_250 : decode cX8_init 250 = .ok (.aload_n 0, 1) := dk_42 (dk_at dksX8_init_10 18 rfl rfl)
theorem dX8_init_251 : decode cX8_init 251 = .ok (.bipush 12, 2) := dk_16 12 (dk_at dksX8_init_10 19 rfl rfl)
theorem dX8_init_253 : decode cX8_init 253 = .ok (.newarray .int, 2) := dk_188_10 (dk_at dksX8_init_10 21 rfl rfl)
theorem dX8_init_255 : decode cX8_init 255 = .ok (.putfield 110, 3) := dk_181 0 110 (dk_at dksX8_init_11 0 rfl rfl)
theorem dX8_init_258 : decode cX8_init 258 = .ok (.aload_n 0, 1) := dk_42 (dk_at dksX8_init_11 3 rfl rfl)
theorem dX8_init_259 : decode cX8_init 259 = .ok (.bipush 12, 2) := dk_16 12 (dk_at dksX8_init_11 4 rfl rfl)
theorem dX8_init_261 : decode cX8_init 261 = .ok (.newarray .int, 2) := dk_188_10 (dk_at dksX8_init_11 6 rfl rfl)
theorem dX8_init_263 : decode cX8_init 263 = .ok (.putfield 113, 3) := dk_181 0 113 (dk_at dksX8_init_11 8 rfl rfl)
theorem dX8_init_266 : decode cX8_init 266 = .ok (.aload_n 0, 1) := dk_42 (dk_at dksX8_init_11 11 rfl rfl)
theorem dX8_init_267 : decode cX8_init 267 = .ok (.iconst 2, 1) := dk_5 (dk_at dksX8_init_11 12 rfl rfl)
theorem dX8_init_268 : decode cX8_init 268 = .ok (.newarray .int, 2) := dk_188_10 (dk_at dksX8_init_11 13 rfl rfl)
theorem dX8_init_270 : decode cX8_init 270 = .ok (.putfield 116, 3) := dk_181 0 116 (dk_at dksX8_init_11 15 rfl rfl)
theorem dX8_init_273 : decode cX8_init 273 = .ok (.aload_n 0, 1) := dk_42 (dk_at dksX8_init_11 18 rfl rfl)
theorem dX8_init_274 : decode cX8_init 274 = .ok (.bipush 12, 2) := dk_16 12 (dk_at dksX8_init_11 19 rfl rfl)
theorem dX8_init_276 : decode cX8_init 276 = .ok (.newarray .int, 2) := dk_188_10 (dk_at dksX8_init_11 21 rfl rfl)
theorem dX8_init_278 : decode cX8_init 278 = .ok (.putfield 119, 3) := dk_181 0 119 (dk_at dksX8_init_12 0 rfl rfl)
theorem dX8_init_281 : decode cX8_init 281 = .ok (.aload_n 0, 1) := dk_42 (dk_at dksX8_init_12 3 rfl rfl)
theorem dX8_init_282 : decode cX8_init 282 = .ok (.bipush 12, 2) := dk_16 12 (dk_at dksX8_init_12 4 rfl rfl)
theorem dX8_init_284 : decode cX8_init 284 = .ok (.newarray .int, 2) := dk_188_10 (dk_at dksX8_init_12 6 rfl rfl)
theorem dX8_init_286 : decode cX8_init 286 = .ok (.putfield 122, 3) := dk_181 0 122 (dk_at dksX8_init_12 8 rfl rfl)
theorem dX8_init_289 : decode cX8_init 289 = .ok (.aload_n 0, 1) := dk_42 (dk_at dksX8_init_12 11 rfl rfl)
theorem dX8_init_290 : decode cX8_init 290 = .ok (.bipush 100, 2) := dk_16 100 (dk_at dksX8_init_12 12 rfl rfl)
theorem dX8_init_292 : decode cX8_init 292 = .ok (.newarray .boolean, 2) := dk_188_4 (dk_at dksX8_init_12 14 rfl rfl)
theorem dX8_init_294 : decode cX8_init 294 = .ok (.putfield 125, 3) := dk_181 0 125 (dk_at dksX8_init_12 16 rfl rfl)
theorem dX8_init_297 : decode cX8_init 297 = .ok (.aload_n 0, 1) := dk_42 (dk_at dksX8_init_12 19 rfl rfl)
theorem dX8_init_298 : decode cX8_init 298 = .ok (.bipush 100, 2) := dk_16 100 (dk_at dksX8_init_12 20 rfl rfl)
theorem dX8_init_300 : decode cX8_init 300 = .ok (.newarray .int, 2) := dk_188_10 (dk_at dksX8_init_12 22 rfl rfl)
theorem dX8_init_302 : decode cX8_init 302 = .ok (.putfield 128, 3) := dk_181 0 128 (dk_at dksX8_init_13 0 rfl rfl)
theorem dX8_init_305 : decode cX8_init 305 = .ok (.aload_n 0, 1) := dk_42 (dk_at dksX8_init_13 3 rfl rfl)
theorem dX8_init_306 : decode cX8_init 306 = .ok (.bipush 100, 2) := dk_16 100 (dk_at dksX8_init_13 4 rfl rfl)
theorem dX8_init_308 : decode cX8_init 308 = .ok (.newarray .int, 2) := dk_188_10 (dk_at dksX8_init_13 6 rfl rfl)
theorem dX8_init_310 : decode cX8_init 310 = .ok (.putfield 131, 3) := dk_181 0 131 (dk_at dksX8_init_13 8 rfl rfl)
theorem dX8_init_313 : decode cX8_init 313 = .ok (.aload_n 0, 1) := dk_42 (dk_at dksX8_init_13 11 rfl rfl)
theorem dX8_init_314 : decode cX8_init 314 = .ok (.bipush 100, 2) := dk_16 100 (dk_at dksX8_init_13 12 rfl rfl)
theorem dX8_init_316 : decode cX8_init 316 = .ok (.newarray .int, 2) := dk_188_10 (dk_at dksX8_init_13 14 rfl rfl)
theorem dX8_init_318 : decode cX8_init 318 = .ok (.putfield 134, 3) := dk_181 0 134 (dk_at dksX8_init_13 16 rfl rfl)
theorem dX8_init_321 : decode cX8_init 321 = .ok (.aload_n 0, 1) := dk_42 (dk_at dksX8_init_13 19 rfl rfl)
theorem dX8_init_322 : decode cX8_init 322 = .ok (.bipush 100, 2) := dk_16 100 (dk_at dksX8_init_13 20 rfl rfl)
theorem dX8_init_324 : decode cX8_init 324 = .ok (.newarray .int, 2) := dk_188_10 (dk_at dksX8_init_13 22 rfl rfl)
theorem dX8_init_326 : decode cX8_init 326 = .ok (.putfield 137, 3) := dk_181 0 137 (dk_at dksX8_init_14 0 rfl rfl)
theorem dX8_init_329 : decode cX8_init 329 = .ok (.aload_n 0, 1) := dk_42 (dk_at dksX8_init_14 3 rfl rfl)
theorem dX8_init_330 : decode cX8_init 330 = .ok (.iconst 2, 1) := dk_5 (dk_at dksX8_init_14 4 rfl rfl)
theorem dX8_init_331 : decode cX8_init 331 = .ok (.newarray .int, 2) := dk_188_10 (dk_at dksX8_init_14 5 rfl rfl)
theorem dX8_init_333 : decode cX8_init 333 = .ok (.putfield 140, 3) := dk_181 0 140 (dk_at dksX8_init_14 7 rfl rfl)
theorem dX8_init_336 : decode cX8_init 336 = .ok (.aload_n 0, 1) := dk_42 (dk_at dksX8_init_14 10 rfl rfl)
theorem dX8_init_337 : decode cX8_init 337 = .ok (.sipush 840, 3) := dk_17 3 72 (dk_at dksX8_init_14 11 rfl rfl)
theorem dX8_init_340 : decode cX8_init 340 = .ok (.newarray .int, 2) := dk_188_10 (dk_at dksX8_init_14 14 rfl rfl)
theorem dX8_init_342 : decode cX8_init 342 = .ok (.putfield 143, 3) := dk_181 0 143 (dk_at dksX8_init_14 16 rfl rfl)
theorem dX8_init_345 : decode cX8_init 345 = .ok (.aload_n 0, 1) := dk_42 (dk_at dksX8_init_14 19 rfl rfl)
theorem dX8_init_346 : decode cX8_init 346 = .ok (.sipush 840, 3) := dk_17 3 72 (dk_at dksX8_init_14 20 rfl rfl)
theorem dX8_init_349 : decode cX8_init 349 = .ok (.newarray .int, 2) := dk_188_10 (dk_at dksX8_init_15 0 rfl rfl)
theorem dX8_init_351 : decode cX8_init 351 = .ok (.putfield 146, 3) := dk_181 0 146 (dk_at dksX8_init_15 2 rfl rfl)
theorem dX8_init_354 : decode cX8_init 354 = .ok (.aload_n 0, 1) := dk_42 (dk_at dksX8_init_15 5 rfl rfl)
theorem dX8_init_355 : decode cX8_init 355 = .ok (.bipush 64, 2) := dk_16 64 (dk_at dksX8_init_15 6 rfl rfl)
theorem dX8_init_357 : decode cX8_init 357 = .ok (.newarray .int, 2) := dk_188_10 (dk_at dksX8_init_15 8 rfl rfl)
theorem dX8_init_359 : decode cX8_init 359 = .ok (.putfield 149, 3) := dk_181 0 149 (dk_at dksX8_init_15 10 rfl rfl)
theorem dX8_init_362 : decode cX8_init 362 = .ok (.aload_n 0, 1) := dk_42 (dk_at dksX8_init_15 13 rfl rfl)
theorem dX8_init_363 : decode cX8_init 363 = .ok (.bipush 6, 2) := dk_16 6 (dk_at dksX8_init_15 14 rfl rfl)
theorem dX8_init_365 : decode cX8_init 365 = .ok (.newarray .int, 2) := dk_188_10 (dk_at dksX8_init_15 16 rfl rfl)
theorem dX8_init_367 : decode cX8_init 367 = .ok (.putfield 152, 3) := dk_181 0 152 (dk_at dksX8_init_15 18 rfl rfl)
theorem dX8_init_370 : decode cX8_init 370 = .ok (.aload_n 0, 1) := dk_42 (dk_at dksX8_init_15 21 rfl rfl)
theorem dX8_init_371 : decode cX8_init 371 = .ok (.sipush 400, 3) := dk_17 1 144 (dk_at dksX8_init_16 0 rfl rfl)
theorem dX8_init_374 : decode cX8_init 374 = .ok (.newarray .int, 2) := dk_188_10 (dk_at dksX8_init_16 3 rfl rfl)
theorem dX8_init_376 : decode cX8_init 376 = .ok (.putfield 155, 3) := dk_181 0 155 (dk_at dksX8_init_16 5 rfl rfl)
theorem dX8_init_379 : decode cX8_init 379 = .ok (.aload_n 0, 1) := dk_42 (dk_at dksX8_init_16 8 rfl rfl)
theorem dX8_init_380 : decode cX8_init 380 = .ok (.bipush 100, 2) := dk_16 100 (dk_at dksX8_init_16 9 rfl rfl)
theorem dX8_init_382 : decode cX8_init 382 = .ok (.newarray .int, 2) := dk_188_10 (dk_at dksX8_init_16 11 rfl rfl)
theorem dX8_init_384 : decode cX8_init 384 = .ok (.putfield 158, 3) := dk_181 0 158 (dk_at dksX8_init_16 13 rfl rfl)
theorem dX8_init_387 : decode cX8_init 387 = .ok (.aload_n 0, 1) := dk_42 (dk_at dksX8_init_16 16 rfl rfl)
theorem dX8_init_388 : decode cX8_init 388 = .ok (.bipush 100, 2) := dk_16 100 (dk_at dksX8_init_16 17 rfl rfl)
theorem dX8_init_390 : decode cX8_init 390 = .ok (.newarray .int, 2) := dk_188_10 (dk_at dksX8_init_16 19 rfl rfl)
theorem dX8_init_392 : decode cX8_init 392 = .ok (.putfield 161, 3) := dk_181 0 161 (dk_at dksX8_init_16 21 rfl rfl)
theorem dX8_init_395 : decode cX8_init 395 = .ok (.aload_n 0, 1) := dk_42 (dk_at dksX8_init_17 0 rfl rfl)
theorem dX8_init_396 : decode cX8_init 396 = .ok (.bipush 64, 2) := dk_16 64 (dk_at dksX8_init_17 1 rfl rfl)
theorem dX8_init_398 : decode cX8_init 398 = .ok (.newarray .int, 2) := dk_188_10 (dk_at dksX8_init_17 3 rfl rfl)
theorem dX8_init_400 : decode cX8_init 400 = .ok (.putfield 164, 3) := dk_181 0 164 (dk_at dksX8_init_17 5 rfl rfl)
theorem dX8_init_403 : decode cX8_init 403 = .ok (.aload_n 0, 1) := dk_42 (dk_at dksX8_init_17 8 rfl rfl)
theorem dX8_init_404 : decode cX8_init 404 = .ok (.bipush 6, 2) := dk_16 6 (dk_at dksX8_init_17 9 rfl rfl)
theorem dX8_init_406 : decode cX8_init 406 = .ok (.newarray .int, 2) := dk_188_10 (dk_at dksX8_init_17 11 rfl rfl)
theorem dX8_init_408 : decode cX8_init 408 = .ok (.putfield 167, 3) := dk_181 0 167 (dk_at dksX8_init_17 13 rfl rfl)
theorem dX8_init_411 : decode cX8_init 411 = .ok (.aload_n 0, 1) := dk_42 (dk_at dksX8_init_17 16 rfl rfl)
theorem dX8_init_412 : decode cX8_init 412 = .ok (.bipush 6, 2) := dk_16 6 (dk_at dksX8_init_17 17 rfl rfl)
theorem dX8_init_414 : decode cX8_init 414 = .ok (.newarray .int, 2) := dk_188_10 (dk_at dksX8_init_17 19 rfl rfl)
theorem dX8_init_416 : decode cX8_init 416 = .ok (.putfield 170, 3) := dk_181 0 170 (dk_at dksX8_init_17 21 rfl rfl)
theorem dX8_init_419 : decode cX8_init 419 = .ok (.aload_n 0, 1) := dk_42 (dk_at dksX8_init_18 0 rfl rfl)
theorem dX8_init_420 : decode cX8_init 420 = .ok (.bipush 6, 2) := dk_16 6 (dk_at dksX8_init_18 1 rfl rfl)
theorem dX8_init_422 : decode cX8_init 422 = .ok (.newarray .int, 2) := dk_188_10 (dk_at dksX8_init_18 3 rfl rfl)
theorem dX8_init_424 : decode cX8_init 424 = .ok (.putfield 173, 3) := dk_181 0 173 (dk_at dksX8_init_18 5 rfl rfl)
theorem dX8_init_427 : decode cX8_init 427 = .ok (.aload_n 0, 1) := dk_42 (dk_at dksX8_init_18 8 rfl rfl)
theorem dX8_init_428 : decode cX8_init 428 = .ok (.bipush 6, 2) := dk_16 6 (dk_at dksX8_init_18 9 rfl rfl)
theorem dX8_init_430 : decode cX8_init 430 = .ok (.newarray .int, 2) := dk_188_10 (dk_at dksX8_init_18 11 rfl rfl)
theorem dX8_init_432 : decode cX8_init 432 = .ok (.putfield 176, 3) := dk_181 0 176 (dk_at dksX8_init_18 13 rfl rfl)
theorem dX8_init_435 : decode cX8_init 435 = .ok (.aload_n 0, 1) := dk_42 (dk_at dksX8_init_18 16 rfl rfl)
theorem dX8_init_436 : decode cX8_init 436 = .ok (.bipush 6, 2) := dk_16 6 (dk_at dksX8_init_18 17 rfl rfl)
theorem dX8_init_438 : decode cX8_init 438 = .ok (.newarray .int, 2) := dk_188_10 (dk_at dksX8_init_18 19 rfl rfl)
theorem dX8_init_440 : decode cX8_init 440 = .ok (.putfield 179, 3) := dk_181 0 179 (dk_at dksX8_init_18 21 rfl rfl)
theorem dX8_init_443 : decode cX8_init 443 = .ok (.aload_n 0, 1) := dk_42 (dk_at dksX8_init_19 0 rfl rfl)
theorem dX8_init_444 : decode cX8_init 444 = .ok (.bipush 6, 2) := dk_16 6 (dk_at dksX8_init_19 1 rfl rfl)
theorem dX8_init_446 : decode cX8_init 446 = .ok (.newarray .int, 2) := dk_188_10 (dk_at dksX8_init_19 3 rfl rfl)
theorem dX8_init_448 : decode cX8_init 448 = .ok (.putfield 182, 3) := dk_181 0 182 (dk_at dksX8_init_19 5 rfl rfl)
theorem dX8_init_451 : decode cX8_init 451 = .ok (.aload_n 0, 1) := dk_42 (dk_at dksX8_init_19 8 rfl rfl)
theorem dX8_init_452 : decode cX8_init 452 = .ok (.bipush 6, 2) := dk_16 6 (dk_at dksX8_init_19 9 rfl rfl)
theorem dX8_init_454 : decode cX8_init 454 = .ok (.newarray .boolean, 2) := dk_188_4 (dk_at dksX8_init_19 11 rfl rfl)
theorem dX8_init_456 : decode cX8_init 456 = .ok (.putfield 185, 3) := dk_181 0 185 (dk_at dksX8_init_19 13 rfl rfl)
theorem dX8_init_459 : decode cX8_init 459 = .ok (.aload_n 0, 1) := dk_42 (dk_at dksX8_init_19 16 rfl rfl)
theorem dX8_init_460 : decode cX8_init 460 = .ok (.sipush 2000, 3) := dk_17 7 208 (dk_at dksX8_init_19 17 rfl rfl)
theorem dX8_init_463 : decode cX8_init 463 = .ok (.newarray .int, 2) := dk_188_10 (dk_at dksX8_init_19 20 rfl rfl)
theorem dX8_init_465 : decode cX8_init 465 = .ok (.putfield 188, 3) := dk_181 0 188 (dk_at dksX8_init_20 0 rfl rfl)
theorem dX8_init_468 : decode cX8_init 468 = .ok (.aload_n 0, 1) := dk_42 (dk_at dksX8_init_20 3 rfl rfl)
theorem dX8_init_469 : decode cX8_init 469 = .ok (.bipush 30, 2) := dk_16 30 (dk_at dksX8_init_20 4 rfl rfl)
theorem dX8_init_471 : decode cX8_init 471 = .ok (.newarray .int, 2) := dk_188_10 (dk_at dksX8_init_20 6 rfl rfl)
theorem dX8_init_473 : decode cX8_init 473 = .ok (.putfield 191, 3) := dk_181 0 191 (dk_at dksX8_init_20 8 rfl rfl)
theorem dX8_init_476 : decode cX8_init 476 = .ok (.aload_n 0, 1) := dk_42 (dk_at dksX8_init_20 11 rfl rfl)
theorem dX8_init_477 : decode cX8_init 477 = .ok (.bipush 30, 2) := dk_16 30 (dk_at dksX8_init_20 12 rfl rfl)
theorem dX8_init_479 : decode cX8_init 479 = .ok (.newarray .int, 2) := dk_188_10 (dk_at dksX8_init_20 14 rfl rfl)
theorem dX8_init_481 : decode cX8_init 481 = .ok (.putfield 194, 3) := dk_181 0 194 (dk_at dksX8_init_20 16 rfl rfl)
theorem dX8_init_484 : decode cX8_init 484 = .ok (.aload_n 0, 1) := dk_42 (dk_at dksX8_init_20 19 rfl rfl)
theorem dX8_init_485 : decode cX8_init 485 = .ok (.bipush 30, 2) := dk_16 30 (dk_at dksX8_init_20 20 rfl rfl)
theorem dX8_init_487 : decode cX8_init 487 = .ok (.newarray .int, 2) := dk_188_10 (dk_at dksX8_init_20 22 rfl rfl)
theorem dX8_init_489 : decode cX8_init 489 = .ok (.putfield 197, 3) := dk_181 0 197 (dk_at dksX8_init_21 0 rfl rfl)
theorem dX8_init_492 : decode cX8_init 492 = .ok (.aload_n 0, 1) := dk_42 (dk_at dksX8_init_21 3 rfl rfl)
theorem dX8_init_493 : decode cX8_init 493 = .ok (.iconst 3, 1) := dk_6 (dk_at dksX8_init_21 4 rfl rfl)
theorem dX8_init_494 : decode cX8_init 494 = .ok (.newarray .boolean, 2) := dk_188_4 (dk_at dksX8_init_21 5 rfl rfl)
theorem dX8_init_496 : decode cX8_init 496 = .ok (.putfield 200, 3) := dk_181 0 200 (dk_at dksX8_init_21 7 rfl rfl)
theorem dX8_init_499 : decode cX8_init 499 = .ok (.aload_n 0, 1) := dk_42 (dk_at dksX8_init_21 10 rfl rfl)
theorem dX8_init_500 : decode cX8_init 500 = .ok (.sipush 300, 3) := dk_17 1 44 (dk_at dksX8_init_21 11 rfl rfl)
theorem dX8_init_503 : decode cX8_init 503 = .ok (.newarray .int, 2) := dk_188_10 (dk_at dksX8_init_21 14 rfl rfl)
theorem dX8_init_505 : decode cX8_init 505 = .ok (.putfield 203, 3) := dk_181 0 203 (dk_at dksX8_init_21 16 rfl rfl)
theorem dX8_init_508 : decode cX8_init 508 = .ok (.aload_n 0, 1) := dk_42 (dk_at dksX8_init_21 19 rfl rfl)
theorem dX8_init_509 : decode cX8_init 509 = .ok (.getfield 140, 3) := dk_180 0 140 (dk_at dksX8_init_21 20 rfl rfl)
theorem dX8_init_512 : decode cX8_init 512 = .ok (.iconst 0, 1) := dk_3 (dk_at dksX8_init_21 23 rfl rfl)
theorem dX8_init_513 : decode cX8_init 513 = .ok (.sipush 480, 3) := dk_17 1 224 (dk_at dksX8_init_22 0 rfl rfl)
theorem dX8_init_516 : decode cX8_init 516 = .ok (.iastore, 1) := dk_79 (dk_at dksX8_init_22 3 rfl rfl)
theorem dX8_init_517 : decode cX8_init 517 = .ok (.aload_n 0, 1) := dk_42 (dk_at dksX8_init_22 4 rfl rfl)
theorem dX8_init_518 : decode cX8_init 518 = .ok (.getfield 34, 3) := dk_180 0 34 (dk_at dksX8_init_22 5 rfl rfl)
theorem dX8_init_521 : decode cX8_init 521 = .ok (.iconst 0, 1) := dk_3 (dk_at dksX8_init_22 8 rfl rfl)
theorem dX8_init_522 : decode cX8_init 522 = .ok (.bipush 114, 2) := dk_16 114 (dk_at dksX8_init_22 9 rfl rfl)
theorem dX8_init_524 : decode cX8_init 524 = .ok (.bipush 111, 2) := dk_16 111 (dk_at dksX8_init_22 11 rfl rfl)
theorem dX8_init_526 : decode cX8_init 526 = .ok (.bipush 111, 2) := dk_16 111 (dk_at dksX8_init_22 13 rfl rfl)
theorem dX8_init_528 : decode cX8_init 528 = .ok (.bipush 109, 2) := dk_16 109 (dk_at dksX8_init_22 15 rfl rfl)
theorem dX8_init_530 : decode cX8_init 530 = .ok (.iconst 0, 1) := dk_3 (dk_at dksX8_init_22 17 rfl rfl)
theorem dX8_init_531 : decode cX8_init 531 = .ok (.iconst 0, 1) := dk_3 (dk_at dksX8_init_22 18 rfl rfl)
theorem dX8_init_532 : decode cX8_init 532 = .ok (.iconst 0, 1) := dk_3 (dk_at dksX8_init_22 19 rfl rfl)
theorem dX8_init_533 : decode cX8_init 533 = .ok (.invokestatic 206, 3) := dk_184 0 206 (dk_at dksX8_init_22 20 rfl rfl)
theorem dX8_init_536 : decode cX8_init 536 = .ok (.lastore, 1) := dk_80 (dk_at dksX8_init_22 23 rfl rfl)
theorem dX8_init_537 : decode cX8_init 537 = .ok (.aload_n 0, 1) := dk_42 (dk_at dksX8_init_23 0 rfl rfl)
theorem dX8_init_538 : decode cX8_init 538 = .ok (.getfield 34, 3) := dk_180 0 34 (dk_at dksX8_init_23 1 rfl rfl)
theorem dX8_init_541 : decode cX8_init 541 = .ok (.iconst 1, 1) := dk_4 (dk_at dksX8_init_23 4 rfl rfl)
theorem dX8_init_542 : decode cX8_init 542 = .ok (.bipush 100, 2) := dk_16 100 (dk_at dksX8_init_23 5 rfl rfl)
theorem dX8_init_544 : decode cX8_init 544 = .ok (.bipush 111, 2) := dk_16 111 (dk_at dksX8_init_23 7 rfl rfl)
theorem dX8_init_546 : decode cX8_init 546 = .ok (.bipush 111, 2) := dk_16 111 (dk_at dksX8_init_23 9 rfl rfl)
theorem dX8_init_548 : decode cX8_init 548 = .ok (.bipush 114, 2) := dk_16 114 (dk_at dksX8_init_23 11 rfl rfl)
theorem dX8_init_550 : decode cX8_init 550 = .ok (.iconst 0, 1) := dk_3 (dk_at dksX8_init_23 13 rfl rfl)
theorem dX8_init_551 : decode cX8_init 551 = .ok (.iconst 0, 1) := dk_3 (dk_at dksX8_init_23 14 rfl rfl)
theorem dX8_init_552 : decode cX8_init 552 = .ok (.iconst 0, 1) := dk_3 (dk_at dksX8_init_23 15 rfl rfl)
theorem dX8_init_553 : decode cX8_init 553 = .ok (.invokestatic 206, 3) := dk_184 0 206 (dk_at dksX8_init_23 16 rfl rfl)
theorem dX8_init_556 : decode cX8_init 556 = .ok (.lastore, 1) := dk_80 (dk_at dksX8_init_23 19 rfl rfl)
theorem dX8_init_557 : decode cX8_init 557 = .ok (.aload_n 0, 1) := dk_42 (dk_at dksX8_init_23 20 rfl rfl)
theorem dX8_init_558 : decode cX8_init 558 = .ok (.getfield 34, 3) := dk_180 0 34 (dk_at dksX8_init_23 21 rfl rfl)
theorem dX8_init_561 : decode cX8_init 561 = .ok (.iconst 2, 1) := dk_5 (dk_at dksX8_init_24 0 rfl rfl)
theorem dX8_init_562 : decode cX8_init 562 = .ok (.bipush 115, 2) := dk_16 115 (dk_at dksX8_init_24 1 rfl rfl)
theorem dX8_init_564 : decode cX8_init 564 = .ok (.bipush 104, 2) := dk_16 104 (dk_at dksX8_init_24 3 rfl rfl)
theorem dX8_init_566 : decode cX8_init 566 = .ok (.bipush 117, 2) := dk_16 117 (dk_at dksX8_init_24 5 rfl rfl)
theorem dX8_init_568 : decode cX8_init 568 = .ok (.bipush 116, 2) := dk_16 116 (dk_at dksX8_init_24 7 rfl rfl)
theorem dX8_init_570 : decode cX8_init 570 = .ok (.iconst 0, 1) := dk_3 (dk_at dksX8_init_24 9 rfl rfl)
theorem dX8_init_571 : decode cX8_init 571 = .ok (.iconst 0, 1) := dk_3 (dk_at dksX8_init_24 10 rfl rfl)
theorem dX8_init_572 : decode cX8_init 572 = .ok (.iconst 0, 1) := dk_3 (dk_at dksX8_init_24 11 rfl rfl)
theorem dX8_init_573 : decode cX8_init 573 = .ok (.invokestatic 206, 3) := dk_184 0 206 (dk_at dksX8_init_24 12 rfl rfl)
theorem dX8_init_576 : decode cX8_init 576 = .ok (.lastore, 1) := dk_80 (dk_at dksX8_init_24 15 rfl rfl)
theorem dX8_init_577 : decode cX8_init 577 = .ok (.aload_n 0, 1) := dk_42 (dk_at dksX8_init_24 16 rfl rfl)
theorem dX8_init_578 : decode cX8_init 578 = .ok (.getfield 34, 3) := dk_180 0 34 (dk_at dksX8_init_24 17 rfl rfl)
theorem dX8_init_581 : decode cX8_init 581 = .ok (.iconst 3, 1) := dk_6 (dk_at dksX8_init_24 20 rfl rfl)
theorem dX8_init_582 : decode cX8_init 582 = .ok (.bipush 116, 2) := dk_16 116 (dk_at dksX8_init_24 21 rfl rfl)
theorem dX8_init_584 : decode cX8_init 584 = .ok (.bipush 111, 2) := dk_16 111 (dk_at dksX8_init_25 0 rfl rfl)
theorem dX8_init_586 : decode cX8_init 586 = .ok (.bipush 111, 2) := dk_16 111 (dk_at dksX8_init_25 2 rfl rfl)
theorem dX8_init_588 : decode cX8_init 588 = .ok (.bipush 108, 2) := dk_16 108 (dk_at dksX8_init_25 4 rfl rfl)
theorem dX8_init_590 : decode cX8_init 590 = .ok (.iconst 0, 1) := dk_3 (dk_at dksX8_init_25 6 rfl rfl)
theorem dX8_init_591 : decode cX8_init 591 = .ok (.iconst 0, 1) := dk_3 (dk_at dksX8_init_25 7 rfl rfl)
theorem dX8_init_592 : decode cX8_init 592 = .ok (.iconst 0, 1) := dk_3 (dk_at dksX8_init_25 8 rfl rfl)
theorem dX8_init_593 : decode cX8_init 593 = .ok (.invokestatic 206, 3) := dk_184 0 206 (dk_at dksX8_init_25 9 rfl rfl)
theorem dX8_init_596 : decode cX8_init 596 = .ok (.lastore, 1) := dk_80 (dk_at dksX8_init_25 12 rfl rfl)
theorem dX8_init_597 : decode cX8_init 597 = .ok (.aload_n 0, 1) := dk_42 (dk_at dksX8_init_25 13 rfl rfl)
theorem dX8_init_598 : decode cX8_init 598 = .ok (.getfield 34, 3) := dk_180 0 34 (dk_at dksX8_init_25 14 rfl rfl)
theorem dX8_init_601 : decode cX8_init 601 = .ok (.iconst 4, 1) := dk_7 (dk_at dksX8_init_25 17 rfl rfl)
theorem dX8_init_602 : decode cX8_init 602 = .ok (.bipush 116, 2) := dk_16 116 (dk_at dksX8_init_25 18 rfl rfl)
theorem dX8_init_604 : decode cX8_init 604 = .ok (.bipush 97, 2) := dk_16 97 (dk_at dksX8_init_25 20 rfl rfl)
theorem dX8_init_606 : decode cX8_init 606 = .ok (.bipush 115, 2) := dk_16 115 (dk_at dksX8_init_25 22 rfl rfl)
theorem dX8_init_608 : decode cX8_init 608 = .ok (.bipush 107, 2) := dk_16 107 (dk_at dksX8_init_26 0 rfl rfl)
theorem dX8_init_610 : decode cX8_init 610 = .ok (.iconst 0, 1) := dk_3 (dk_at dksX8_init_26 2 rfl rfl)
theorem dX8_init_611 : decode cX8_init 611 = .ok (.iconst 0, 1) := dk_3 (dk_at dksX8_init_26 3 rfl rfl)
theorem dX8_init_612 : decode cX8_init 612 = .ok (.iconst 0, 1) := dk_3 (dk_at dksX8_init_26 4 rfl rfl)
theorem dX8_init_613 : decode cX8_init 613 = .ok (.invokestatic 206, 3) := dk_184 0 206 (dk_at dksX8_init_26 5 rfl rfl)
theorem dX8_init_616 : decode cX8_init 616 = .ok (.lastore, 1) := dk_80 (dk_at dksX8_init_26 8 rfl rfl)
theorem dX8_init_617 : decode cX8_init 617 = .ok (.aload_n 0, 1) := dk_42 (dk_at dksX8_init_26 9 rfl rfl)
theorem dX8_init_618 : decode cX8_init 618 = .ok (.getfield 34, 3) := dk_180 0 34 (dk_at dksX8_init_26 10 rfl rfl)
theorem dX8_init_621 : decode cX8_init 621 = .ok (.iconst 5, 1) := dk_8 (dk_at dksX8_init_26 13 rfl rfl)
theorem dX8_init_622 : decode cX8_init 622 = .ok (.bipush 115, 2) := dk_16 115 (dk_at dksX8_init_26 14 rfl rfl)
theorem dX8_init_624 : decode cX8_init 624 = .ok (.bipush 116, 2) := dk_16 116 (dk_at dksX8_init_26 16 rfl rfl)
theorem dX8_init_626 : decode cX8_init 626 = .ok (.bipush 101, 2) := dk_16 101 (dk_at dksX8_init_26 18 rfl rfl)
theorem dX8_init_628 : decode cX8_init 628 = .ok (.bipush 112, 2) := dk_16 112 (dk_at dksX8_init_26 20 rfl rfl)
theorem dX8_init_630 : decode cX8_init 630 = .ok (.iconst 0, 1) := dk_3 (dk_at dksX8_init_26 22 rfl rfl)
theorem dX8_init_631 : decode cX8_init 631 = .ok (.iconst 0, 1) := dk_3 (dk_at dksX8_init_26 23 rfl rfl)
theorem dX8_init_632 : decode cX8_init 632 = .ok (.iconst 0, 1) := dk_3 (dk_at dksX8_init_27 0 rfl rfl)
theorem dX8_init_633 : decode cX8_init 633 = .ok (.invokestatic 206, 3) := dk_184 0 206 (dk_at dksX8_init_27 1 rfl rfl)
theorem dX8_init_636 : decode cX8_init 636 = .ok (.lastore, 1) := dk_80 (dk_at dksX8_init_27 4 rfl rfl)
theorem dX8_init_637 : decode cX8_init 637 = .ok (.aload_n 0, 1) := dk_42 (dk_at dksX8_init_27 5 rfl rfl)
theorem dX8_init_638 : decode cX8_init 638 = .ok (.getfield 34, 3) := dk_180 0 34 (dk_at dksX8_init_27 6 rfl rfl)
theorem dX8_init_641 : decode cX8_init 641 = .ok (.bipush 6, 2) := dk_16 6 (dk_at dksX8_init_27 9 rfl rfl)
theorem dX8_init_643 : decode cX8_init 643 = .ok (.bipush 119, 2) := dk_16 119 (dk_at dksX8_init_27 11 rfl rfl)
theorem dX8_init_645 : decode cX8_init 645 = .ok (.bipush 105, 2) := dk_16 105 (dk_at dksX8_init_27 13 rfl rfl)
theorem dX8_init_647 : decode cX8_init 647 = .ok (.bipush 116, 2) := dk_16 116 (dk_at dksX8_init_27 15 rfl rfl)
theorem dX8_init_649 : decode cX8_init 649 = .ok (.bipush 104, 2) := dk_16 104 (dk_at dksX8_init_27 17 rfl rfl)
theorem dX8_init_651 : decode cX8_init 651 = .ok (.iconst 0, 1) := dk_3 (dk_at dksX8_init_27 19 rfl rfl)
theorem dX8_init_652 : decode cX8_init 652 = .ok (.iconst 0, 1) := dk_3 (dk_at dksX8_init_27 20 rfl rfl)
theorem dX8_init_653 : decode cX8_init 653 = .ok (.iconst 0, 1) := dk_3 (dk_at dksX8_init_27 21 rfl rfl)
theorem dX8_init_654 : decode cX8_init 654 = .ok (.invokestatic 206, 3) := dk_184 0 206 (dk_at dksX8_init_28 0 rfl rfl)
theorem dX8_init_657 : decode cX8_init 657 = .ok (.lastore, 1) := dk_80 (dk_at dksX8_init_28 3 rfl rfl)
theorem dX8_init_658 : decode cX8_init 658 = .ok (.aload_n 0, 1) := dk_42 (dk_at dksX8_init_28 4 rfl rfl)
theorem dX8_init_659 : decode cX8_init 659 = .ok (.getfield 34, 3) := dk_180 0 34 (dk_at dksX8_init_28 5 rfl rfl)
theorem dX8_init_662 : decode cX8_init 662 = .ok (.bipush 7, 2) := dk_16 7 (dk_at dksX8_init_28 8 rfl rfl)
theorem dX8_init_664 : decode cX8_init 664 = .ok (.bipush 117, 2) := dk_16 117 (dk_at dksX8_init_28 10 rfl rfl)
theorem dX8_init_666 : decode cX8_init 666 = .ok (.bipush 110, 2) := dk_16 110 (dk_at dksX8_init_28 12 rfl rfl)
theorem dX8_init_668 : decode cX8_init 668 = .ok (.bipush 100, 2) := dk_16 100 (dk_at dksX8_init_28 14 rfl rfl)
theorem dX8_init_670 : decode cX8_init 670 = .ok (.bipush 111, 2) := dk_16 111 (dk_at dksX8_init_28 16 rfl rfl)
theorem dX8_init_672 : decode cX8_init 672 = .ok (.bipush 101, 2) := dk_16 101 (dk_at dksX8_init_28 18 rfl rfl)
theorem dX8_init_674 : decode cX8_init 674 = .ok (.bipush 115, 2) := dk_16 115 (dk_at dksX8_init_28 20 rfl rfl)
theorem dX8_init_676 : decode cX8_init 676 = .ok (.iconst 0, 1) := dk_3 (dk_at dksX8_init_28 22 rfl rfl)
theorem dX8_init_677 : decode cX8_init 677 = .ok (.invokestatic 206, 3) := dk_184 0 206 (dk_at dksX8_init_29 0 rfl rfl)
theorem dX8_init_680 : decode cX8_init 680 = .ok (.lastore, 1) := dk_80 (dk_at dksX8_init_29 3 rfl rfl)
theorem dX8_init_681 : decode cX8_init 681 = .ok (.aload_n 0, 1) := dk_42 (dk_at dksX8_init_29 4 rfl rfl)
theorem dX8_init_682 : decode cX8_init 682 = .ok (.getfield 34, 3) := dk_180 0 34 (dk_at dksX8_init_29 5 rfl rfl)
theorem dX8_init_685 : decode cX8_init 685 = .ok (.bipush 8, 2) := dk_16 8 (dk_at dksX8_init_29 8 rfl rfl)
theorem dX8_init_687 : decode cX8_init 687 = .ok (.bipush 109, 2) := dk_16 109 (dk_at dksX8_init_29 10 rfl rfl)
theorem dX8_init_689 : decode cX8_init 689 = .ok (.bipush 97, 2) := dk_16 97 (dk_at dksX8_init_29 12 rfl rfl)
theorem dX8_init_691 : decode cX8_init 691 = .ok (.bipush 110, 2) := dk_16 110 (dk_at dksX8_init_29 14 rfl rfl)
theorem dX8_init_693 : decode cX8_init 693 = .ok (.iconst 0, 1) := dk_3 (dk_at dksX8_init_29 16 rfl rfl)
theorem dX8_init_694 : decode cX8_init 694 = .ok (.iconst 0, 1) := dk_3 (dk_at dksX8_init_29 17 rfl rfl)
theorem dX8_init_695 : decode cX8_init 695 = .ok (.iconst 0, 1) := dk_3 (dk_at dksX8_init_29 18 rfl rfl)
theorem dX8_init_696 : decode cX8_init 696 = .ok (.iconst 0, 1) := dk_3 (dk_at dksX8_init_29 19 rfl rfl)
theorem dX8_init_697 : decode cX8_init 697 = .ok (.invokestatic 206, 3) := dk_184 0 206 (dk_at dksX8_init_29 20 rfl rfl)
theorem dX8_init_700 : decode cX8_init 700 = .ok (.lastore, 1) := dk_80 (dk_at dksX8_init_29 23 rfl rfl)
theorem dX8_init_701 : decode cX8_init 701 = .ok (.aload_n 0, 1) := dk_42 (dk_at dksX8_init_30 0 rfl rfl)
theorem dX8_init_702 : decode cX8_init 702 = .ok (.getfield 34, 3) := dk_180 0 34 (dk_at dksX8_init_30 1 rfl rfl)
theorem dX8_init_705 : decode cX8_init 705 = .ok (.bipush 9, 2) := dk_16 9 (dk_at dksX8_init_30 4 rfl rfl)
theorem dX8_init_707 : decode cX8_init 707 = .ok (.bipush 108, 2) := dk_16 108 (dk_at dksX8_init_30 6 rfl rfl)
theorem dX8_init_709 : decode cX8_init 709 = .ok (.bipush 101, 2) := dk_16 101 (dk_at dksX8_init_30 8 rfl rfl)
theorem dX8_init_711 : decode cX8_init 711 = .ok (.bipush 102, 2) := dk_16 102 (dk_at dksX8_init_30 10 rfl rfl)
theorem dX8_init_713 : decode cX8_init 713 = .ok (.bipush 116, 2) := dk_16 116 (dk_at dksX8_init_30 12 rfl rfl)
theorem dX8_init_715 : decode cX8_init 715 = .ok (.iconst 0, 1) := dk_3 (dk_at dksX8_init_30 14 rfl rfl)
theorem dX8_init_716 : decode cX8_init 716 = .ok (.iconst 0, 1) := dk_3 (dk_at dksX8_init_30 15 rfl rfl)
theorem dX8_init_717 : decode cX8_init 717 = .ok (.iconst 0, 1) := dk_3 (dk_at dksX8_init_30 16 rfl rfl)
theorem dX8_init_718 : decode cX8_init 718 = .ok (.invokestatic 206, 3) := dk_184 0 206 (dk_at dksX8_init_30 17 rfl rfl)
theorem dX8_init_721 : decode cX8_init 721 = .ok (.lastore, 1) := dk_80 (dk_at dksX8_init_30 20 rfl rfl)
theorem dX8_init_722 : decode cX8_init 722 = .ok (.aload_n 0, 1) := dk_42 (dk_at dksX8_init_30 21 rfl rfl)
theorem dX8_init_723 : decode cX8_init 723 = .ok (.getfield 34, 3) := dk_180 0 34 (dk_at dksX8_init_31 0 rfl rfl)
theorem dX8_init_726 : decode cX8_init 726 = .ok (.bipush 10, 2) := dk_16 10 (dk_at dksX8_init_31 3 rfl rfl)
theorem dX8_init_728 : decode cX8_init 728 = .ok (.bipush 108, 2) := dk_16 108 (dk_at dksX8_init_31 5 rfl rfl)
theorem dX8_init_730 : decode cX8_init 730 = .ok (.bipush 97, 2) := dk_16 97 (dk_at dksX8_init_31 7 rfl rfl)
theorem dX8_init_732 : decode cX8_init 732 = .ok (.bipush 119, 2) := dk_16 119 (dk_at dksX8_init_31 9 rfl rfl)
theorem dX8_init_734 : decode cX8_init 734 = .ok (.iconst 0, 1) := dk_3 (dk_at dksX8_init_31 11 rfl rfl)
theorem dX8_init_735 : decode cX8_init 735 = .ok (.iconst 0, 1) := dk_3 (dk_at dksX8_init_31 12 rfl rfl)
theorem dX8_init_736 : decode cX8_init 736 = .ok (.iconst 0, 1) := dk_3 (dk_at dksX8_init_31 13 rfl rfl)
theorem dX8_init_737 : decode cX8_init 737 = .ok (.iconst 0, 1) := dk_3 (dk_at dksX8_init_31 14 rfl rfl)
theorem dX8_init_738 : decode cX8_init 738 = .ok (.invokestatic 206, 3) := dk_184 0 206 (dk_at dksX8_init_31 15 rfl rfl)
theorem dX8_init_741 : decode cX8_init 741 = .ok (.lastore, 1) := dk_80 (dk_at dksX8_init_31 18 rfl rfl)
theorem dX8_init_742 : decode cX8_init 742 = .ok (.aload_n 0, 1) := dk_42 (dk_at dksX8_init_31 19 rfl rfl)
theorem dX8_init_743 : decode cX8_init 743 = .ok (.getfield 34, 3) := dk_180 0 34 (dk_at dksX8_init_31 20 rfl rfl)
theorem dX8_init_746 : decode cX8_init 746 = .ok (.bipush 11, 2) := dk_16 11 (dk_at dksX8_init_32 0 rfl rfl)
theorem dX8_init_748 : decode cX8_init 748 = .ok (.bipush 105, 2) := dk_16 105 (dk_at dksX8_init_32 2 rfl rfl)
theorem dX8_init_750 : decode cX8_init 750 = .ok (.bipush 102, 2) := dk_16 102 (dk_at dksX8_init_32 4 rfl rfl)
theorem dX8_init_752 : decode cX8_init 752 = .ok (.iconst 0, 1) := dk_3 (dk_at dksX8_init_32 6 rfl rfl)
theorem dX8_init_753 : decode cX8_init 753 = .ok (.iconst 0, 1) := dk_3 (dk_at dksX8_init_32 7 rfl rfl)
theorem dX8_init_754 : decode cX8_init 754 = .ok (.iconst 0, 1) := dk_3 (dk_at dksX8_init_32 8 rfl rfl)
theorem dX8_init_755 : decode cX8_init 755 = .ok (.iconst 0, 1) := dk_3 (dk_at dksX8_init_32 9 rfl rfl)
theorem dX8_init_756 : decode cX8_init 756 = .ok (.iconst 0, 1) := dk_3 (dk_at dksX8_init_32 10 rfl rfl)
theorem dX8_init_757 : decode cX8_init 757 = .ok (.invokestatic 206, 3) := dk_184 0 206 (dk_at dksX8_init_32 11 rfl rfl)
theorem dX8_init_760 : decode cX8_init 760 = .ok (.lastore, 1) := dk_80 (dk_at dksX8_init_32 14 rfl rfl)
theorem dX8_init_761 : decode cX8_init 761 = .ok (.aload_n 0, 1) := dk_42 (dk_at dksX8_init_32 15 rfl rfl)
theorem dX8_init_762 : decode cX8_init 762 = .ok (.getfield 34, 3) := dk_180 0 34 (dk_at dksX8_init_32 16 rfl rfl)
theorem dX8_init_765 : decode cX8_init 765 = .ok (.bipush 12, 2) := dk_16 12 (dk_at dksX8_init_32 19 rfl rfl)
theorem dX8_init_767 : decode cX8_init 767 = .ok (.bipush 116, 2) := dk_16 116 (dk_at dksX8_init_32 21 rfl rfl)
theorem dX8_init_769 : decode cX8_init 769 = .ok (.bipush 104, 2) := dk_16 104 (dk_at dksX8_init_33 0 rfl rfl)
theorem dX8_init_771 : decode cX8_init 771 = .ok (.bipush 101, 2) := dk_16 101 (dk_at dksX8_init_33 2 rfl rfl)
theorem dX8_init_773 : decode cX8_init 773 = .ok (.bipush 110, 2) := dk_16 110 (dk_at dksX8_init_33 4 rfl rfl)
theorem dX8_init_775 : decode cX8_init 775 = .ok (.iconst 0, 1) := dk_3 (dk_at dksX8_init_33 6 rfl rfl)
theorem dX8_init_776 : decode cX8_init 776 = .ok (.iconst 0, 1) := dk_3 (dk_at dksX8_init_33 7 rfl rfl)
theorem dX8_init_777 : decode cX8_init 777 = .ok (.iconst 0, 1) := dk_3 (dk_at dksX8_init_33 8 rfl rfl)
theorem dX8_init_778 : decode cX8_init 778 = .ok (.invokestatic 206, 3) := dk_184 0 206 (dk_at dksX8_init_33 9 rfl rfl)
theorem dX8_init_781 : decode cX8_init 781 = .ok (.lastore, 1) := dk_80 (dk_at dksX8_init_33 12 rfl rfl)
theorem dX8_init_782 : decode cX8_init 782 = .ok (.aload_n 0, 1) := dk_42 (dk_at dksX8_init_33 13 rfl rfl)
theorem dX8_init_783 : decode cX8_init 783 = .ok (.getfield 34, 3) := dk_180 0 34 (dk_at dksX8_init_33 14 rfl rfl)
theorem dX8_init_786 : decode cX8_init 786 = .ok (.bipush 13, 2) := dk_16 13 (dk_at dksX8_init_33 17 rfl rfl)
theorem dX8_init_788 : decode cX8_init 788 = .ok (.bipush 101, 2) := dk_16 101 (dk_at dksX8_init_33 19 rfl rfl)
theorem dX8_init_790 : decode cX8_init 790 = .ok (.bipush 108, 2) := dk_16 108 (dk_at dksX8_init_33 21 rfl rfl)
theorem dX8_init_792 : decode cX8_init 792 = .ok (.bipush 115, 2) := dk_16 115 (dk_at dksX8_init_34 0 rfl rfl)
theorem dX8_init_794 : decode cX8_init 794 = .ok (.bipush 101, 2) := dk_16 101 (dk_at dksX8_init_34 2 rfl rfl)
theorem dX8_init_796 : decode cX8_init 796 = .ok (.iconst 0, 1) := dk_3 (dk_at dksX8_init_34 4 rfl rfl)
theorem dX8_init_797 : decode cX8_init 797 = .ok (.iconst 0, 1) := dk_3 (dk_at dksX8_init_34 5 rfl rfl)
theorem dX8_init_798 : decode cX8_init 798 = .ok (.iconst 0, 1) := dk_3 (dk_at dksX8_init_34 6 rfl rfl)
theorem dX8_init_799 : decode cX8_init 799 = .ok (.invokestatic 206, 3) := dk_184 0 206 (dk_at dksX8_init_34 7 rfl rfl)
theorem dX8_init_802 : decode cX8_init 802 = .ok (.lastore, 1) := dk_80 (dk_at dksX8_init_34 10 rfl rfl)
theorem dX8_init_803 : decode cX8_init 803 = .ok (.aload_n 0, 1) := dk_42 (dk_at dksX8_init_34 11 rfl rfl)
theorem dX8_init_804 : decode cX8_init 804 = .ok (.getfield 34, 3) := dk_180 0 34 (dk_at dksX8_init_34 12 rfl rfl)
theorem dX8_init_807 : decode cX8_init 807 = .ok (.bipush 14, 2) := dk_16 14 (dk_at dksX8_init_34 15 rfl rfl)
theorem dX8_init_809 : decode cX8_init 809 = .ok (.bipush 110, 2) := dk_16 110 (dk_at dksX8_init_34 17 rfl rfl)
theorem dX8_init_811 : decode cX8_init 811 = .ok (.bipush 105, 2) := dk_16 105 (dk_at dksX8_init_34 19 rfl rfl)
theorem dX8_init_813 : decode cX8_init 813 = .ok (.bipush 103, 2) := dk_16 103 (dk_at dksX8_init_34 21 rfl rfl)
theorem dX8_init_815 : decode cX8_init 815 = .ok (.bipush 104, 2) := dk_16 104 (dk_at dksX8_init_35 0 rfl rfl)
theorem dX8_init_817 : decode cX8_init 817 = .ok (.bipush 116, 2) := dk_16 116 (dk_at dksX8_init_35 2 rfl rfl)
theorem dX8_init_819 : decode cX8_init 819 = .ok (.iconst 0, 1) := dk_3 (dk_at dksX8_init_35 4 rfl rfl)
theorem dX8_init_820 : decode cX8_init 820 = .ok (.iconst 0, 1) := dk_3 (dk_at dksX8_init_35 5 rfl rfl)
theorem dX8_init_821 : decode cX8_init 821 = .ok (.invokestatic 206, 3) := dk_184 0 206 (dk_at dksX8_init_35 6 rfl rfl)
theorem dX8_init_824 : decode cX8_init 824 = .ok (.lastore, 1) := dk_80 (dk_at dksX8_init_35 9 rfl rfl)
theorem dX8_init_825 : decode cX8_init 825 = .ok (.aload_n 0, 1) := dk_42 (dk_at dksX8_init_35 10 rfl rfl)
theorem dX8_init_826 : decode cX8_init 826 = .ok (.getfield 34, 3) := dk_180 0 34 (dk_at dksX8_init_35 11 rfl rfl)
theorem dX8_init_829 : decode cX8_init 829 = .ok (.bipush 15, 2) := dk_16 15 (dk_at dksX8_init_35 14 rfl rfl)
theorem dX8_init_831 : decode cX8_init 831 = .ok (.bipush 108, 2) := dk_16 108 (dk_at dksX8_init_35 16 rfl rfl)
theorem dX8_init_833 : decode cX8_init 833 = .ok (.bipush 97, 2) := dk_16 97 (dk_at dksX8_init_35 18 rfl rfl)
theorem dX8_init_835 : decode cX8_init 835 = .ok (.bipush 115, 2) := dk_16 115 (dk_at dksX8_init_35 20 rfl rfl)
theorem dX8_init_837 : decode cX8_init 837 = .ok (.bipush 116, 2) := dk_16 116 (dk_at dksX8_init_35 22 rfl rfl)
theorem dX8_init_839 : decode cX8_init 839 = .ok (.iconst 0, 1) := dk_3 (dk_at dksX8_init_36 0 rfl rfl)
theorem dX8_init_840 : decode cX8_init 840 = .ok (.iconst 0, 1) := dk_3 (dk_at dksX8_init_36 1 rfl rfl)
theorem dX8_init_841 : decode cX8_init 841 = .ok (.iconst 0, 1) := dk_3 (dk_at dksX8_init_36 2 rfl rfl)
theorem dX8_init_842 : decode cX8_init 842 = .ok (.invokestatic 206, 3) := dk_184 0 206 (dk_at dksX8_init_36 3 rfl rfl)
theorem dX8_init_845 : decode cX8_init 845 = .ok (.lastore, 1) := dk_80 (dk_at dksX8_init_36 6 rfl rfl)
theorem dX8_init_846 : decode cX8_init 846 = .ok (.aload_n 0, 1) := dk_42 (dk_at dksX8_init_36 7 rfl rfl)
theorem dX8_init_847 : decode cX8_init 847 = .ok (.getfield 34, 3) := dk_180 0 34 (dk_at dksX8_init_36 8 rfl rfl)
theorem dX8_init_850 : decode cX8_init 850 = .ok (.bipush 16, 2) := dk_16 16 (dk_at dksX8_init_36 11 rfl rfl)
theorem dX8_init_852 : decode cX8_init 852 = .ok (.bipush 100, 2) := dk_16 100 (dk_at dksX8_init_36 13 rfl rfl)
theorem dX8_init_854 : decode cX8_init 854 = .ok (.bipush 111, 2) := dk_16 111 (dk_at dksX8_init_36 15 rfl rfl)
theorem dX8_init_856 : decode cX8_init 856 = .ok (.bipush 110, 2) := dk_16 110 (dk_at dksX8_init_36 17 rfl rfl)
theorem dX8_init_858 : decode cX8_init 858 = .ok (.bipush 101, 2) := dk_16 101 (dk_at dksX8_init_36 19 rfl rfl)
theorem dX8_init_860 : decode cX8_init 860 = .ok (.iconst 0, 1) := dk_3 (dk_at dksX8_init_36 21 rfl rfl)
theorem dX8_init_861 : decode cX8_init 861 = .ok (.iconst 0, 1) := dk_3 (dk_at dksX8_init_36 22 rfl rfl)
theorem dX8_init_862 : decode cX8_init 862 = .ok (.iconst 0, 1) := dk_3 (dk_at dksX8_init_36 23 rfl rfl)
theorem dX8_init_863 : decode cX8_init 863 = .ok (.invokestatic 206, 3) := dk_184 0 206 (dk_at dksX8_init_37 0 rfl rfl)
theorem dX8_init_866 : decode cX8_init 866 = .ok (.lastore, 1) := dk_80 (dk_at dksX8_init_37 3 rfl rfl)
theorem dX8_init_867 : decode cX8_init 867 = .ok (.aload_n 0, 1) := dk_42 (dk_at dksX8_init_37 4 rfl rfl)
theorem dX8_init_868 : decode cX8_init 868 = .ok (.getfield 34, 3) := dk_180 0 34 (dk_at dksX8_init_37 5 rfl rfl)
theorem dX8_init_871 : decode cX8_init 871 = .ok (.bipush 17, 2) := dk_16 17 (dk_at dksX8_init_37 8 rfl rfl)
theorem dX8_init_873 : decode cX8_init 873 = .ok (.bipush 115, 2) := dk_16 115 (dk_at dksX8_init_37 10 rfl rfl)
theorem dX8_init_875 : decode cX8_init 875 = .ok (.bipush 116, 2) := dk_16 116 (dk_at dksX8_init_37 12 rfl rfl)
theorem dX8_init_877 : decode cX8_init 877 = .ok (.bipush 101, 2) := dk_16 101 (dk_at dksX8_init_37 14 rfl rfl)
theorem dX8_init_879 : decode cX8_init 879 = .ok (.bipush 112, 2) := dk_16 112 (dk_at dksX8_init_37 16 rfl rfl)
theorem dX8_init_881 : decode cX8_init 881 = .ok (.bipush 115, 2) := dk_16 115 (dk_at dksX8_init_37 18 rfl rfl)
theorem dX8_init_883 : decode cX8_init 883 = .ok (.iconst 0, 1) := dk_3 (dk_at dksX8_init_37 20 rfl rfl)
theorem dX8_init_884 : decode cX8_init 884 = .ok (.iconst 0, 1) := dk_3 (dk_at dksX8_init_37 21 rfl rfl)
theorem dX8_init_885 : decode cX8_init 885 = .ok (.invokestatic 206, 3) := dk_184 0 206 (dk_at dksX8_init_38 0 rfl rfl)
theorem dX8_init_888 : decode cX8_init 888 = .ok (.lastore, 1) := dk_80 (dk_at dksX8_init_38 3 rfl rfl)
theorem dX8_init_889 : decode cX8_init 889 = .ok (.aload_n 0, 1) := dk_42 (dk_at dksX8_init_38 4 rfl rfl)
theorem dX8_init_890 : decode cX8_init 890 = .ok (.getfield 34, 3) := dk_180 0 34 (dk_at dksX8_init_38 5 rfl rfl)
theorem dX8_init_893 : decode cX8_init 893 = .ok (.bipush 18, 2) := dk_16 18 (dk_at dksX8_init_38 8 rfl rfl)
theorem dX8_init_895 : decode cX8_init 895 = .ok (.bipush 109, 2) := dk_16 109 (dk_at dksX8_init_38 10 rfl rfl)
theorem dX8_init_897 : decode cX8_init 897 = .ok (.bipush 105, 2) := dk_16 105 (dk_at dksX8_init_38 12 rfl rfl)
theorem dX8_init_899 : decode cX8_init 899 = .ok (.bipush 110, 2) := dk_16 110 (dk_at dksX8_init_38 14 rfl rfl)
theorem dX8_init_901 : decode cX8_init 901 = .ok (.bipush 117, 2) := dk_16 117 (dk_at dksX8_init_38 16 rfl rfl)
theorem dX8_init_903 : decode cX8_init 903 = .ok (.bipush 116, 2) := dk_16 116 (dk_at dksX8_init_38 18 rfl rfl)
theorem dX8_init_905 : decode cX8_init 905 = .ok (.bipush 101, 2) := dk_16 101 (dk_at dksX8_init_38 20 rfl rfl)
theorem dX8_init_907 : decode cX8_init 907 = .ok (.iconst 0, 1) := dk_3 (dk_at dksX8_init_38 22 rfl rfl)
theorem dX8_init_908 : decode cX8_init 908 = .ok (.invokestatic 206, 3) := dk_184 0 206 (dk_at dksX8_init_39 0 rfl rfl)
theorem dX8_init_911 : decode cX8_init 911 = .ok (.lastore, 1) := dk_80 (dk_at dksX8_init_39 3 rfl rfl)
theorem dX8_init_912 : decode cX8_init 912 = .ok (.aload_n 0, 1) := dk_42 (dk_at dksX8_init_39 4 rfl rfl)
theorem dX8_init_913 : decode cX8_init 913 = .ok (.getfield 34, 3) := dk_180 0 34 (dk_at dksX8_init_39 5 rfl rfl)
theorem dX8_init_916 : decode cX8_init 916 = .ok (.bipush 19, 2) := dk_16 19 (dk_at dksX8_init_39 8 rfl rfl)
theorem dX8_init_918 : decode cX8_init 918 = .ok (.bipush 115, 2) := dk_16 115 (dk_at dksX8_init_39 10 rfl rfl)
theorem dX8_init_920 : decode cX8_init 920 = .ok (.bipush 116, 2) := dk_16 116 (dk_at dksX8_init_39 12 rfl rfl)
theorem dX8_init_922 : decode cX8_init 922 = .ok (.bipush 117, 2) := dk_16 117 (dk_at dksX8_init_39 14 rfl rfl)
theorem dX8_init_924 : decode cX8_init 924 = .ok (.bipush 102, 2) := dk_16 102 (dk_at dksX8_init_39 16 rfl rfl)
theorem dX8_init_926 : decode cX8_init 926 = .ok (.bipush 102, 2) := dk_16 102 (dk_at dksX8_init_39 18 rfl rfl)
theorem dX8_init_928 : decode cX8_init 928 = .ok (.iconst 0, 1) := dk_3 (dk_at dksX8_init_39 20 rfl rfl)
theorem dX8_init_929 : decode cX8_init 929 = .ok (.iconst 0, 1) := dk_3 (dk_at dksX8_init_39 21 rfl rfl)
theorem dX8_init_930 : decode cX8_init 930 = .ok (.invokestatic 206, 3) := dk_184 0 206 (dk_at dksX8_init_40 0 rfl rfl)
theorem dX8_init_933 : decode cX8_init 933 = .ok (.lastore, 1) := dk_80 (dk_at dksX8_init_40 3 rfl rfl)
theorem dX8_init_934 : decode cX8_init 934 = .ok (.aload_n 0, 1) := dk_42 (dk_at dksX8_init_40 4 rfl rfl)
theorem dX8_init_935 : decode cX8_init 935 = .ok (.getfield 34, 3) := dk_180 0 34 (dk_at dksX8_init_40 5 rfl rfl)
theorem dX8_init_938 : decode cX8_init 938 = .ok (.bipush 20, 2) := dk_16 20 (dk_at dksX8_init_40 8 rfl rfl)
theorem dX8_init_940 : decode cX8_init 940 = .ok (.bipush 116, 2) := dk_16 116 (dk_at dksX8_init_40 10 rfl rfl)
theorem dX8_init_942 : decode cX8_init 942 = .ok (.bipush 105, 2) := dk_16 105 (dk_at dksX8_init_40 12 rfl rfl)
theorem dX8_init_944 : decode cX8_init 944 = .ok (.bipush 109, 2) := dk_16 109 (dk_at dksX8_init_40 14 rfl rfl)
theorem dX8_init_946 : decode cX8_init 946 = .ok (.bipush 101, 2) := dk_16 101 (dk_at dksX8_init_40 16 rfl rfl)
theorem dX8_init_948 : decode cX8_init 948 = .ok (.bipush 115, 2) := dk_16 115 (dk_at dksX8_init_40 18 rfl rfl)
theorem dX8_init_950 : decode cX8_init 950 = .ok (.iconst 0, 1) := dk_3 (dk_at dksX8_init_40 20 rfl rfl)
theorem dX8_init_951 : decode cX8_init 951 = .ok (.iconst 0, 1) := dk_3 (dk_at dksX8_init_40 21 rfl rfl)
theorem dX8_init_952 : decode cX8_init 952 = .ok (.invokestatic 206, 3) := dk_184 0 206 (dk_at dksX8_init_41 0 rfl rfl)
theorem dX8_init_955 : decode cX8_init 955 = .ok (.lastore, 1) := dk_80 (dk_at dksX8_init_41 3 rfl rfl)
theorem dX8_init_956 : decode cX8_init 956 = .ok (.return_, 1) := dk_177 (dk_at dksX8_init_41 4 rfl rfl)
abbrev cX8_word : ByteArray := prog_22_method_10_code
def yX8_word : MethodName := ⟨RX8, "word", "(IIIIIII)J"⟩
def dkwX8_word_1 : List UInt8 := [184, 0, 222, 21, 6, 184, 0, 222, 173]
abbrev dktX8_word_1 : List UInt8 := dkwX8_word_1 ++ []
def dkwX8_word_0 : List UInt8 := [9, 26, 184, 0, 222, 27, 184, 0, 222, 28, 184, 0, 222, 29, 184, 0, 222, 21, 4, 184, 0, 222, 21, 5]
abbrev dktX8_word_0 : List UInt8 := dkwX8_word_0 ++ dktX8_word_1
theorem dksX8_word_0 : cX8_word.data.toList.drop 0 = dktX8_word_0 := by decide +kernel
theorem dksX8_word_1 : cX8_word.data.toList.drop 24 = dktX8_word_1 := dk_seg dksX8_word_0 24 rfl rfl
theorem dX8_word_0 : decode cX8_word 0 = .ok (.lconst 0, 1) := dk_9 (dk_at dksX8_word_0 0 rfl rfl)
theorem dX8_word_1 : decode cX8_word 1 = .ok (.iload_n 0, 1) := dk_26 (dk_at dksX8_word_0 1 rfl rfl)
theorem dX8_word_2 : decode cX8_word 2 = .ok (.invokestatic 222, 3) := dk_184 0 222 (dk_at dksX8_word_0 2 rfl rfl)
theorem dX8_word_5 : decode cX8_word 5 = .ok (.iload_n 1, 1) := dk_27 (dk_at dksX8_word_0 5 rfl rfl)
theorem dX8_word_6 : decode cX8_word 6 = .ok (.invokestatic 222, 3) := dk_184 0 222 (dk_at dksX8_word_0 6 rfl rfl)
theorem dX8_word_9 : decode cX8_word 9 = .ok (.iload_n 2, 1) := dk_28 (dk_at dksX8_word_0 9 rfl rfl)
theorem dX8_word_10 : decode cX8_word 10 = .ok (.invokestatic 222, 3) := dk_184 0 222 (dk_at dksX8_word_0 10 rfl rfl)
theorem dX8_word_13 : decode cX8_word 13 = .ok (.iload_n 3, 1) := dk_29 (dk_at dksX8_word_0 13 rfl rfl)
theorem dX8_word_14 : decode cX8_word 14 = .ok (.invokestatic 222, 3) := dk_184 0 222 (dk_at dksX8_word_0 14 rfl rfl)
theorem dX8_word_17 : decode cX8_word 17 = .ok (.iload 4, 2) := dk_21 4 (dk_at dksX8_word_0 17 rfl rfl)
theorem dX8_word_19 : decode cX8_word 19 = .ok (.invokestatic 222, 3) := dk_184 0 222 (dk_at dksX8_word_0 19 rfl rfl)
theorem dX8_word_22 : decode cX8_word 22 = .ok (.iload 5, 2) := dk_21 5 (dk_at dksX8_word_0 22 rfl rfl)
theorem dX8_word_24 : decode cX8_word 24 = .ok (.invokestatic 222, 3) := dk_184 0 222 (dk_at dksX8_word_1 0 rfl rfl)
theorem dX8_word_27 : decode cX8_word 27 = .ok (.iload 6, 2) := dk_21 6 (dk_at dksX8_word_1 3 rfl rfl)
theorem dX8_word_29 : decode cX8_word 29 = .ok (.invokestatic 222, 3) := dk_184 0 222 (dk_at dksX8_word_1 5 rfl rfl)
theorem dX8_word_32 : decode cX8_word 32 = .ok (.lreturn, 1) := dk_173 (dk_at dksX8_word_1 8 rfl rfl)
abbrev cX8_appends : ByteArray := prog_22_method_9_code
def yX8_appends : MethodName := ⟨RX8, "appends", "(JI)J"⟩
def dkwX8_appends_0 : List UInt8 := [28, 154, 0, 7, 30, 167, 0, 16, 20, 0, 220, 30, 105, 28, 16, 97, 100, 4, 96, 133, 97, 173]
abbrev dktX8_appends_0 : List UInt8 := dkwX8_appends_0 ++ []
theorem dksX8_appends_0 : cX8_appends.data.toList.drop 0 = dktX8_appends_0 := by decide +kernel
theorem dX8_appends_0 : decode cX8_appends 0 = .ok (.iload_n 2, 1) := dk_28 (dk_at dksX8_appends_0 0 rfl rfl)
theorem dX8_appends_1 : decode cX8_appends 1 = .ok (.ifCond .ne 7, 3) := dk_154 0 7 (dk_at dksX8_appends_0 1 rfl rfl)
theorem dX8_appends_4 : decode cX8_appends 4 = .ok (.lload_n 0, 1) := dk_30 (dk_at dksX8_appends_0 4 rfl rfl)
theorem dX8_appends_5 : decode cX8_appends 5 = .ok (.goto 16, 3) := dk_167 0 16 (dk_at dksX8_appends_0 5 rfl rfl)
theorem dX8_appends_8 : decode cX8_appends 8 = .ok (.ldc2_w 220, 3) := dk_20 0 220 (dk_at dksX8_appends_0 8 rfl rfl)
theorem dX8_appends_11 : decode cX8_appends 11 = .ok (.lload_n 0, 1) := dk_30 (dk_at dksX8_appends_0 11 rfl rfl)
theorem dX8_appends_12 : decode cX8_appends 12 = .ok (.lmul, 1) := dk_105 (dk_at dksX8_appends_0 12 rfl rfl)
theorem dX8_appends_13 : decode cX8_appends 13 = .ok (.iload_n 2, 1) := dk_28 (dk_at dksX8_appends_0 13 rfl rfl)
theorem dX8_appends_14 : decode cX8_appends 14 = .ok (.bipush 97, 2) := dk_16 97 (dk_at dksX8_appends_0 14 rfl rfl)
theorem dX8_appends_16 : decode cX8_appends 16 = .ok (.isub, 1) := dk_100 (dk_at dksX8_appends_0 16 rfl rfl)
theorem dX8_appends_17 : decode cX8_appends 17 = .ok (.iconst 1, 1) := dk_4 (dk_at dksX8_appends_0 17 rfl rfl)
theorem dX8_appends_18 : decode cX8_appends 18 = .ok (.iadd, 1) := dk_96 (dk_at dksX8_appends_0 18 rfl rfl)
theorem dX8_appends_19 : decode cX8_appends 19 = .ok (.i2l, 1) := dk_133 (dk_at dksX8_appends_0 19 rfl rfl)
theorem dX8_appends_20 : decode cX8_appends 20 = .ok (.ladd, 1) := dk_97 (dk_at dksX8_appends_0 20 rfl rfl)
theorem dX8_appends_21 : decode cX8_appends 21 = .ok (.lreturn, 1) := dk_173 (dk_at dksX8_appends_0 21 rfl rfl)
abbrev cX8_feed : ByteArray := prog_22_method_3_code
def yX8_feed : MethodName := ⟨RX8, "feed", "(IIIII)I"⟩
def dkwX8_feed_2 : List UInt8 := [172]
abbrev dktX8_feed_2 : List UInt8 := dkwX8_feed_2 ++ []
def dkwX8_feed_1 : List UInt8 := [182, 0, 213, 42, 29, 182, 0, 213, 42, 21, 4, 182, 0, 213, 42, 21, 5, 182, 0, 213, 42, 180, 0, 210]
abbrev dktX8_feed_1 : List UInt8 := dkwX8_feed_1 ++ dktX8_feed_2
def dkwX8_feed_0 : List UInt8 := [42, 180, 0, 210, 16, 20, 96, 17, 7, 208, 164, 0, 5, 2, 172, 42, 27, 182, 0, 213, 42, 28]
abbrev dktX8_feed_0 : List UInt8 := dkwX8_feed_0 ++ dktX8_feed_1
theorem dksX8_feed_0 : cX8_feed.data.toList.drop 0 = dktX8_feed_0 := by decide +kernel
theorem dksX8_feed_1 : cX8_feed.data.toList.drop 22 = dktX8_feed_1 := dk_seg dksX8_feed_0 22 rfl rfl
theorem dksX8_feed_2 : cX8_feed.data.toList.drop 46 = dktX8_feed_2 := dk_seg dksX8_feed_1 24 rfl rfl
theorem dX8_feed_0 : decode cX8_feed 0 = .ok (.aload_n 0, 1) := dk_42 (dk_at dksX8_feed_0 0 rfl rfl)
theorem dX8_feed_1 : decode cX8_feed 1 = .ok (.getfield 210, 3) := dk_180 0 210 (dk_at dksX8_feed_0 1 rfl rfl)
theorem dX8_feed_4 : decode cX8_feed 4 = .ok (.bipush 20, 2) := dk_16 20 (dk_at dksX8_feed_0 4 rfl rfl)
theorem dX8_feed_6 : decode cX8_feed 6 = .ok (.iadd, 1) := dk_96 (dk_at dksX8_feed_0 6 rfl rfl)
theorem dX8_feed_7 : decode cX8_feed 7 = .ok (.sipush 2000, 3) := dk_17 7 208 (dk_at dksX8_feed_0 7 rfl rfl)
theorem dX8_feed_10 : decode cX8_feed 10 = .ok (.if_icmp .le 5, 3) := dk_164 0 5 (dk_at dksX8_feed_0 10 rfl rfl)
theorem dX8_feed_13 : decode cX8_feed 13 = .ok (.iconst (-1), 1) := dk_2 (dk_at dksX8_feed_0 13 rfl rfl)
theorem dX8_feed_14 : decode cX8_feed 14 = .ok (.ireturn, 1) := dk_172 (dk_at dksX8_feed_0 14 rfl rfl)
theorem dX8_feed_15 : decode cX8_feed 15 = .ok (.aload_n 0, 1) := dk_42 (dk_at dksX8_feed_0 15 rfl rfl)
theorem dX8_feed_16 : decode cX8_feed 16 = .ok (.iload_n 1, 1) := dk_27 (dk_at dksX8_feed_0 16 rfl rfl)
theorem dX8_feed_17 : decode cX8_feed 17 = .ok (.invokevirtual 213, 3) := dk_182 0 213 (dk_at dksX8_feed_0 17 rfl rfl)
theorem dX8_feed_20 : decode cX8_feed 20 = .ok (.aload_n 0, 1) := dk_42 (dk_at dksX8_feed_0 20 rfl rfl)
theorem dX8_feed_21 : decode cX8_feed 21 = .ok (.iload_n 2, 1) := dk_28 (dk_at dksX8_feed_0 21 rfl rfl)
theorem dX8_feed_22 : decode cX8_feed 22 = .ok (.invokevirtual 213, 3) := dk_182 0 213 (dk_at dksX8_feed_1 0 rfl rfl)
theorem dX8_feed_25 : decode cX8_feed 25 = .ok (.aload_n 0, 1) := dk_42 (dk_at dksX8_feed_1 3 rfl rfl)
theorem dX8_feed_26 : decode cX8_feed 26 = .ok (.iload_n 3, 1) := dk_29 (dk_at dksX8_feed_1 4 rfl rfl)
theorem dX8_feed_27 : decode cX8_feed 27 = .ok (.invokevirtual 213, 3) := dk_182 0 213 (dk_at dksX8_feed_1 5 rfl rfl)
theorem dX8_feed_30 : decode cX8_feed 30 = .ok (.aload_n 0, 1) := dk_42 (dk_at dksX8_feed_1 8 rfl rfl)
theorem dX8_feed_31 : decode cX8_feed 31 = .ok (.iload 4, 2) := dk_21 4 (dk_at dksX8_feed_1 9 rfl rfl)
theorem dX8_feed_33 : decode cX8_feed 33 = .ok (.invokevirtual 213, 3) := dk_182 0 213 (dk_at dksX8_feed_1 11 rfl rfl)
theorem dX8_feed_36 : decode cX8_feed 36 = .ok (.aload_n 0, 1) := dk_42 (dk_at dksX8_feed_1 14 rfl rfl)
theorem dX8_feed_37 : decode cX8_feed 37 = .ok (.iload 5, 2) := dk_21 5 (dk_at dksX8_feed_1 15 rfl rfl)
theorem dX8_feed_39 : decode cX8_feed 39 = .ok (.invokevirtual 213, 3) := dk_182 0 213 (dk_at dksX8_feed_1 17 rfl rfl)
theorem dX8_feed_42 : decode cX8_feed 42 = .ok (.aload_n 0, 1) := dk_42 (dk_at dksX8_feed_1 20 rfl rfl)
theorem dX8_feed_43 : decode cX8_feed 43 = .ok (.getfield 210, 3) := dk_180 0 210 (dk_at dksX8_feed_1 21 rfl rfl)
theorem dX8_feed_46 : decode cX8_feed 46 = .ok (.ireturn, 1) := dk_172 (dk_at dksX8_feed_2 0 rfl rfl)
abbrev cX8_put : ByteArray := prog_22_method_4_code
def yX8_put : MethodName := ⟨RX8, "put", "(I)V"⟩
def dkwX8_put_1 : List UInt8 := [180, 0, 210, 4, 96, 181, 0, 210, 132, 2, 248, 167, 255, 226, 177]
abbrev dktX8_put_1 : List UInt8 := dkwX8_put_1 ++ []
def dkwX8_put_0 : List UInt8 := [16, 24, 61, 28, 155, 0, 32, 42, 180, 0, 13, 42, 180, 0, 210, 27, 28, 122, 145, 84, 42, 89]
abbrev dktX8_put_0 : List UInt8 := dkwX8_put_0 ++ dktX8_put_1
theorem dksX8_put_0 : cX8_put.data.toList.drop 0 = dktX8_put_0 := by decide +kernel
theorem dksX8_put_1 : cX8_put.data.toList.drop 22 = dktX8_put_1 := dk_seg dksX8_put_0 22 rfl rfl
theorem dX8_put_0 : decode cX8_put 0 = .ok (.bipush 24, 2) := dk_16 24 (dk_at dksX8_put_0 0 rfl rfl)
theorem dX8_put_2 : decode cX8_put 2 = .ok (.istore_n 2, 1) := dk_61 (dk_at dksX8_put_0 2 rfl rfl)
theorem dX8_put_3 : decode cX8_put 3 = .ok (.iload_n 2, 1) := dk_28 (dk_at dksX8_put_0 3 rfl rfl)
theorem dX8_put_4 : decode cX8_put 4 = .ok (.ifCond .lt 32, 3) := dk_155 0 32 (dk_at dksX8_put_0 4 rfl rfl)
theorem dX8_put_7 : decode cX8_put 7 = .ok (.aload_n 0, 1) := dk_42 (dk_at dksX8_put_0 7 rfl rfl)
theorem dX8_put_8 : decode cX8_put 8 = .ok (.getfield 13, 3) := dk_180 0 13 (dk_at dksX8_put_0 8 rfl rfl)
theorem dX8_put_11 : decode cX8_put 11 = .ok (.aload_n 0, 1) := dk_42 (dk_at dksX8_put_0 11 rfl rfl)
theorem dX8_put_12 : decode cX8_put 12 = .ok (.getfield 210, 3) := dk_180 0 210 (dk_at dksX8_put_0 12 rfl rfl)
theorem dX8_put_15 : decode cX8_put 15 = .ok (.iload_n 1, 1) := dk_27 (dk_at dksX8_put_0 15 rfl rfl)
theorem dX8_put_16 : decode cX8_put 16 = .ok (.iload_n 2, 1) := dk_28 (dk_at dksX8_put_0 16 rfl rfl)
theorem dX8_put_17 : decode cX8_put 17 = .ok (.ishr, 1) := dk_122 (dk_at dksX8_put_0 17 rfl rfl)
theorem dX8_put_18 : decode cX8_put 18 = .ok (.i2b, 1) := dk_145 (dk_at dksX8_put_0 18 rfl rfl)
theorem dX8_put_19 : decode cX8_put 19 = .ok (.bastore, 1) := dk_84 (dk_at dksX8_put_0 19 rfl rfl)
theorem dX8_put_20 : decode cX8_put 20 = .ok (.aload_n 0, 1) := dk_42 (dk_at dksX8_put_0 20 rfl rfl)
theorem dX8_put_21 : decode cX8_put 21 = .ok (.dup, 1) := dk_89 (dk_at dksX8_put_0 21 rfl rfl)
theorem dX8_put_22 : decode cX8_put 22 = .ok (.getfield 210, 3) := dk_180 0 210 (dk_at dksX8_put_1 0 rfl rfl)
theorem dX8_put_25 : decode cX8_put 25 = .ok (.iconst 1, 1) := dk_4 (dk_at dksX8_put_1 3 rfl rfl)
theorem dX8_put_26 : decode cX8_put 26 = .ok (.iadd, 1) := dk_96 (dk_at dksX8_put_1 4 rfl rfl)
theorem dX8_put_27 : decode cX8_put 27 = .ok (.putfield 210, 3) := dk_181 0 210 (dk_at dksX8_put_1 5 rfl rfl)
theorem dX8_put_30 : decode cX8_put 30 = .ok (.iinc 2 (-8), 3) := dk_132 2 248 (dk_at dksX8_put_1 8 rfl rfl)
theorem dX8_put_33 : decode cX8_put 33 = .ok (.goto (-30), 3) := dk_167 255 226 (dk_at dksX8_put_1 11 rfl rfl)
theorem dX8_put_36 : decode cX8_put 36 = .ok (.return_, 1) := dk_177 (dk_at dksX8_put_1 14 rfl rfl)
abbrev cX8_back : ByteArray := prog_22_method_5_code
def yX8_back : MethodName := ⟨RX8, "back", "(I)I"⟩
def dkwX8_back_1 : List UInt8 := [42, 180, 0, 210, 172]
abbrev dktX8_back_1 : List UInt8 := dkwX8_back_1 ++ []
def dkwX8_back_0 : List UInt8 := [27, 155, 0, 11, 27, 42, 180, 0, 210, 164, 0, 5, 2, 172, 42, 89, 180, 0, 210, 27, 100, 181, 0, 210]
abbrev dktX8_back_0 : List UInt8 := dkwX8_back_0 ++ dktX8_back_1
theorem dksX8_back_0 : cX8_back.data.toList.drop 0 = dktX8_back_0 := by decide +kernel
theorem dksX8_back_1 : cX8_back.data.toList.drop 24 = dktX8_back_1 := dk_seg dksX8_back_0 24 rfl rfl
theorem dX8_back_0 : decode cX8_back 0 = .ok (.iload_n 1, 1) := dk_27 (dk_at dksX8_back_0 0 rfl rfl)
theorem dX8_back_1 : decode cX8_back 1 = .ok (.ifCond .lt 11, 3) := dk_155 0 11 (dk_at dksX8_back_0 1 rfl rfl)
theorem dX8_back_4 : decode cX8_back 4 = .ok (.iload_n 1, 1) := dk_27 (dk_at dksX8_back_0 4 rfl rfl)
theorem dX8_back_5 : decode cX8_back 5 = .ok (.aload_n 0, 1) := dk_42 (dk_at dksX8_back_0 5 rfl rfl)
theorem dX8_back_6 : decode cX8_back 6 = .ok (.getfield 210, 3) := dk_180 0 210 (dk_at dksX8_back_0 6 rfl rfl)
theorem dX8_back_9 : decode cX8_back 9 = .ok (.if_icmp .le 5, 3) := dk_164 0 5 (dk_at dksX8_back_0 9 rfl rfl)
theorem dX8_back_12 : decode cX8_back 12 = .ok (.iconst (-1), 1) := dk_2 (dk_at dksX8_back_0 12 rfl rfl)
theorem dX8_back_13 : decode cX8_back 13 = .ok (.ireturn, 1) := dk_172 (dk_at dksX8_back_0 13 rfl rfl)
theorem dX8_back_14 : decode cX8_back 14 = .ok (.aload_n 0, 1) := dk_42 (dk_at dksX8_back_0 14 rfl rfl)
theorem dX8_back_15 : decode cX8_back 15 = .ok (.dup, 1) := dk_89 (dk_at dksX8_back_0 15 rfl rfl)
theorem dX8_back_16 : decode cX8_back 16 = .ok (.getfield 210, 3) := dk_180 0 210 (dk_at dksX8_back_0 16 rfl rfl)
theorem dX8_back_19 : decode cX8_back 19 = .ok (.iload_n 1, 1) := dk_27 (dk_at dksX8_back_0 19 rfl rfl)
theorem dX8_back_20 : decode cX8_back 20 = .ok (.isub, 1) := dk_100 (dk_at dksX8_back_0 20 rfl rfl)
theorem dX8_back_21 : decode cX8_back 21 = .ok (.putfield 210, 3) := dk_181 0 210 (dk_at dksX8_back_0 21 rfl rfl)
theorem dX8_back_24 : decode cX8_back 24 = .ok (.aload_n 0, 1) := dk_42 (dk_at dksX8_back_1 0 rfl rfl)
theorem dX8_back_25 : decode cX8_back 25 = .ok (.getfield 210, 3) := dk_180 0 210 (dk_at dksX8_back_1 1 rfl rfl)
theorem dX8_back_28 : decode cX8_back 28 = .ok (.ireturn, 1) := dk_172 (dk_at dksX8_back_1 4 rfl rfl)
abbrev cX8_read : ByteArray := prog_22_method_19_code
def yX8_read : MethodName := ⟨RX8, "read", "()I"⟩
def dkwX8_read_14 : List UInt8 := [42, 180, 0, 200, 27, 3, 84, 132, 1, 1, 167, 255, 241, 3, 172]
abbrev dktX8_read_14 : List UInt8 := dkwX8_read_14 ++ []
def dkwX8_read_13 : List UInt8 := [181, 1, 22, 42, 182, 1, 40, 42, 3, 181, 1, 43, 42, 3, 181, 1, 46, 3, 60, 27, 6, 162, 0, 16]
abbrev dktX8_read_13 : List UInt8 := dkwX8_read_13 ++ dktX8_read_14
def dkwX8_read_12 : List UInt8 := [42, 180, 0, 248, 172, 42, 180, 1, 1, 158, 0, 8, 42, 180, 1, 1, 172, 42, 42, 180, 1, 25]
abbrev dktX8_read_12 : List UInt8 := dkwX8_read_12 ++ dktX8_read_13
def dkwX8_read_11 : List UInt8 := [180, 1, 1, 158, 0, 10, 42, 180, 1, 4, 167, 0, 4, 2, 181, 0, 37, 42, 180, 0, 248, 158, 0, 8]
abbrev dktX8_read_11 : List UInt8 := dkwX8_read_11 ++ dktX8_read_12
def dkwX8_read_10 : List UInt8 := [182, 1, 37, 167, 255, 237, 42, 42, 180, 0, 248, 158, 0, 10, 42, 180, 0, 254, 167, 0, 18, 42]
abbrev dktX8_read_10 : List UInt8 := dkwX8_read_10 ++ dktX8_read_11
def dkwX8_read_9 : List UInt8 := [3, 79, 132, 1, 1, 167, 255, 217, 42, 180, 0, 248, 154, 0, 18, 42, 3, 182, 1, 10, 154, 0, 10, 42]
abbrev dktX8_read_9 : List UInt8 := dkwX8_read_9 ++ dktX8_read_10
def dkwX8_read_8 : List UInt8 := [16, 6, 42, 180, 1, 25, 104, 27, 96, 3, 79, 42, 180, 0, 122, 16, 6, 42, 180, 1, 25, 104, 27, 96]
abbrev dktX8_read_8 : List UInt8 := dkwX8_read_8 ++ dktX8_read_9
def dkwX8_read_7 : List UInt8 := [17, 1, 164, 42, 180, 1, 25, 104, 181, 1, 34, 3, 60, 27, 16, 6, 162, 0, 39, 42, 180, 0, 119]
abbrev dktX8_read_7 : List UInt8 := dkwX8_read_7 ++ dktX8_read_8
def dkwX8_read_6 : List UInt8 := [180, 0, 140, 42, 180, 1, 25, 17, 1, 224, 79, 42, 16, 50, 42, 180, 1, 25, 104, 181, 1, 31, 42]
abbrev dktX8_read_6 : List UInt8 := dkwX8_read_6 ++ dktX8_read_7
def dkwX8_read_5 : List UInt8 := [79, 42, 180, 0, 104, 42, 180, 1, 25, 3, 79, 42, 180, 0, 116, 42, 180, 1, 25, 3, 79, 42]
abbrev dktX8_read_5 : List UInt8 := dkwX8_read_5 ++ dktX8_read_6
def dkwX8_read_4 : List UInt8 := [180, 1, 25, 3, 79, 42, 180, 0, 68, 42, 180, 1, 25, 3, 79, 42, 180, 0, 74, 42, 180, 1, 25, 3]
abbrev dktX8_read_4 : List UInt8 := dkwX8_read_4 ++ dktX8_read_5
def dkwX8_read_3 : List UInt8 := [100, 181, 1, 25, 42, 3, 181, 1, 28, 42, 180, 0, 49, 42, 180, 1, 25, 3, 79, 42, 180, 0, 52, 42]
abbrev dktX8_read_3 : List UInt8 := dkwX8_read_3 ++ dktX8_read_4
def dkwX8_read_2 : List UInt8 := [181, 0, 251, 42, 3, 181, 1, 19, 42, 3, 181, 0, 248, 42, 3, 181, 1, 1, 42, 4, 42, 180, 1, 22]
abbrev dktX8_read_2 : List UInt8 := dkwX8_read_2 ++ dktX8_read_3
def dkwX8_read_1 : List UInt8 := [180, 0, 13, 27, 51, 84, 132, 1, 1, 167, 255, 233, 42, 3, 181, 0, 210, 42, 182, 1, 16, 42, 3]
abbrev dktX8_read_1 : List UInt8 := dkwX8_read_1 ++ dktX8_read_2
def dkwX8_read_0 : List UInt8 := [42, 42, 180, 0, 210, 181, 0, 217, 3, 60, 27, 42, 180, 0, 217, 162, 0, 21, 42, 180, 0, 17, 27, 42]
abbrev dktX8_read_0 : List UInt8 := dkwX8_read_0 ++ dktX8_read_1
theorem dksX8_read_0 : cX8_read.data.toList.drop 0 = dktX8_read_0 := by decide +kernel
theorem dksX8_read_1 : cX8_read.data.toList.drop 24 = dktX8_read_1 := dk_seg dksX8_read_0 24 rfl rfl
theorem dksX8_read_2 : cX8_read.data.toList.drop 47 = dktX8_read_2 := dk_seg dksX8_read_1 23 rfl rfl
theorem dksX8_read_3 : cX8_read.data.toList.drop 71 = dktX8_read_3 := dk_seg dksX8_read_2 24 rfl rfl
theorem dksX8_read_4 : cX8_read.data.toList.drop 95 = dktX8_read_4 := dk_seg dksX8_read_3 24 rfl rfl
theorem dksX8_read_5 : cX8_read.data.toList.drop 119 = dktX8_read_5 := dk_seg dksX8_read_4 24 rfl rfl
theorem dksX8_read_6 : cX8_read.data.toList.drop 141 = dktX8_read_6 := dk_seg dksX8_read_5 22 rfl rfl
theorem dksX8_read_7 : cX8_read.data.toList.drop 164 = dktX8_read_7 := dk_seg dksX8_read_6 23 rfl rfl
theorem dksX8_read_8 : cX8_read.data.toList.drop 187 = dktX8_read_8 := dk_seg dksX8_read_7 23 rfl rfl
theorem dksX8_read_9 : cX8_read.data.toList.drop 211 = dktX8_read_9 := dk_seg dksX8_read_8 24 rfl rfl
theorem dksX8_read_10 : cX8_read.data.toList.drop 235 = dktX8_read_10 := dk_seg dksX8_read_9 24 rfl rfl
theorem dksX8_read_11 : cX8_read.data.toList.drop 257 = dktX8_read_11 := dk_seg dksX8_read_10 22 rfl rfl
theorem dksX8_read_12 : cX8_read.data.toList.drop 281 = dktX8_read_12 := dk_seg dksX8_read_11 24 rfl rfl
theorem dksX8_read_13 : cX8_read.data.toList.drop 303 = dktX8_read_13 := dk_seg dksX8_read_12 22 rfl rfl
theorem dksX8_read_14 : cX8_read.data.toList.drop 327 = dktX8_read_14 := dk_seg dksX8_read_13 24 rfl rfl
theorem dX8_read_0 : decode cX8_read 0 = .ok (.aload_n 0, 1) := dk_42 (dk_at dksX8_read_0 0 rfl rfl)
theorem dX8_read_1 : decode cX8_read 1 = .ok (.aload_n 0, 1) := dk_42 (dk_at dksX8_read_0 1 rfl rfl)
theorem dX8_read_2 : decode cX8_read 2 = .ok (.getfield 210, 3) := dk_180 0 210 (dk_at dksX8_read_0 2 rfl rfl)
theorem dX8_read_5 : decode cX8_read 5 = .ok (.putfield 217, 3) := dk_181 0 217 (dk_at dksX8_read_0 5 rfl rfl)
theorem dX8_read_8 : decode cX8_read 8 = .ok (.iconst 0, 1) := dk_3 (dk_at dksX8_read_0 8 rfl rfl)
theorem dX8_read_9 : decode cX8_read 9 = .ok (.istore_n 1, 1) := dk_60 (dk_at dksX8_read_0 9 rfl rfl)
theorem dX8_read_10 : decode cX8_read 10 = .ok (.iload_n 1, 1) := dk_27 (dk_at dksX8_read_0 10 rfl rfl)
theorem dX8_read_11 : decode cX8_read 11 = .ok (.aload_n 0, 1) := dk_42 (dk_at dksX8_read_0 11 rfl rfl)
theorem dX8_read_12 : decode cX8_read 12 = .ok (.getfield 217, 3) := dk_180 0 217 (dk_at dksX8_read_0 12 rfl rfl)
theorem dX8_read_15 : decode cX8_read 15 = .ok (.if_icmp .ge 21, 3) := dk_162 0 21 (dk_at dksX8_read_0 15 rfl rfl)
theorem dX8_read_18 : decode cX8_read 18 = .ok (.aload_n 0, 1) := dk_42 (dk_at dksX8_read_0 18 rfl rfl)
theorem dX8_read_19 : decode cX8_read 19 = .ok (.getfield 17, 3) := dk_180 0 17 (dk_at dksX8_read_0 19 rfl rfl)
theorem dX8_read_22 : decode cX8_read 22 = .ok (.iload_n 1, 1) := dk_27 (dk_at dksX8_read_0 22 rfl rfl)
theorem dX8_read_23 : decode cX8_read 23 = .ok (.aload_n 0, 1) := dk_42 (dk_at dksX8_read_0 23 rfl rfl)
theorem dX8_read_24 : decode cX8_read 24 = .ok (.getfield 13, 3) := dk_180 0 13 (dk_at dksX8_read_1 0 rfl rfl)
theorem dX8_read_27 : decode cX8_read 27 = .ok (.iload_n 1, 1) := dk_27 (dk_at dksX8_read_1 3 rfl rfl)
theorem dX8_read_28 : decode cX8_read 28 = .ok (.baload, 1) := dk_51 (dk_at dksX8_read_1 4 rfl rfl)
theorem dX8_read_29 : decode cX8_read 29 = .ok (.bastore, 1) := dk_84 (dk_at dksX8_read_1 5 rfl rfl)
theorem dX8_read_30 : decode cX8_read 30 = .ok (.iinc 1 1, 3) := dk_132 1 1 (dk_at dksX8_read_1 6 rfl rfl)
theorem dX8_read_33 : decode cX8_read 33 = .ok (.goto (-23), 3) := dk_167 255 233 (dk_at dksX8_read_1 9 rfl rfl)
theorem dX8_read_36 : decode cX8_read 36 = .ok (.aload_n 0, 1) := dk_42 (dk_at dksX8_read_1 12 rfl rfl)
theorem dX8_read_37 : decode cX8_read 37 = .ok (.iconst 0, 1) := dk_3 (dk_at dksX8_read_1 13 rfl rfl)
theorem dX8_read_38 : decode cX8_read 38 = .ok (.putfield 210, 3) := dk_181 0 210 (dk_at dksX8_read_1 14 rfl rfl)
theorem dX8_read_41 : decode cX8_read 41 = .ok (.aload_n 0, 1) := dk_42 (dk_at dksX8_read_1 17 rfl rfl)
theorem dX8_read_42 : decode cX8_read 42 = .ok (.invokevirtual 272, 3) := dk_182 1 16 (dk_at dksX8_read_1 18 rfl rfl)
theorem dX8_read_45 : decode cX8_read 45 = .ok (.aload_n 0, 1) := dk_42 (dk_at dksX8_read_1 21 rfl rfl)
theorem dX8_read_46 : decode cX8_read 46 = .ok (.iconst 0, 1) := dk_3 (dk_at dksX8_read_1 22 rfl rfl)
theorem dX8_read_47 : decode cX8_read 47 = .ok (.putfield 251, 3) := dk_181 0 251 (dk_at dksX8_read_2 0 rfl rfl)
theorem dX8_read_50 : decode cX8_read 50 = .ok (.aload_n 0, 1) := dk_42 (dk_at dksX8_read_2 3 rfl rfl)
theorem dX8_read_51 : decode cX8_read 51 = .ok (.iconst 0, 1) := dk_3 (dk_at dksX8_read_2 4 rfl rfl)
theorem dX8_read_52 : decode cX8_read 52 = .ok (.putfield 275, 3) := dk_181 1 19 (dk_at dksX8_read_2 5 rfl rfl)
theorem dX8_read_55 : decode cX8_read 55 = .ok (.aload_n 0, 1) := dk_42 (dk_at dksX8_read_2 8 rfl rfl)
theorem dX8_read_56 : decode cX8_read 56 = .ok (.iconst 0, 1) := dk_3 (dk_at dksX8_read_2 9 rfl rfl)
theorem dX8_read_57 : decode cX8_read 57 = .ok (.putfield 248, 3) := dk_181 0 248 (dk_at dksX8_read_2 10 rfl rfl)
theorem dX8_read_60 : decode cX8_read 60 = .ok (.aload_n 0, 1) := dk_42 (dk_at dksX8_read_2 13 rfl rfl)
theorem dX8_read_61 : decode cX8_read 61 = .ok (.iconst 0, 1) := dk_3 (dk_at dksX8_read_2 14 rfl rfl)
theorem dX8_read_62 : decode cX8_read 62 = .ok (.putfield 257, 3) := dk_181 1 1 (dk_at dksX8_read_2 15 rfl rfl)
theorem dX8_read_65 : decode cX8_read 65 = .ok (.aload_n 0, 1) := dk_42 (dk_at dksX8_read_2 18 rfl rfl)
theorem dX8_read_66 : decode cX8_read 66 = .ok (.iconst 1, 1) := dk_4 (dk_at dksX8_read_2 19 rfl rfl)
theorem dX8_read_67 : decode cX8_read 67 = .ok (.aload_n 0, 1) := dk_42 (dk_at dksX8_read_2 20 rfl rfl)
theorem dX8_read_68 : decode cX8_read 68 = .ok (.getfield 278, 3) := dk_180 1 22 (dk_at dksX8_read_2 21 rfl rfl)
theorem dX8_read_71 : decode cX8_read 71 = .ok (.isub, 1) := dk_100 (dk_at dksX8_read_3 0 rfl rfl)
theorem dX8_read_72 : decode cX8_read 72 = .ok (.putfield 281, 3) := dk_181 1 25 (dk_at dksX8_read_3 1 rfl rfl)
theorem dX8_read_75 : decode cX8_read 75 = .ok (.aload_n 0, 1) := dk_42 (dk_at dksX8_read_3 4 rfl rfl)
theorem dX8_read_76 : decode cX8_read 76 = .ok (.iconst 0, 1) := dk_3 (dk_at dksX8_read_3 5 rfl rfl)
theorem dX8_read_77 : decode cX8_read 77 = .ok (.putfield 284, 3) := dk_181 1 28 (dk_at dksX8_read_3 6 rfl rfl)
theorem dX8_read_80 : decode cX8_read 80 = .ok (.aload_n 0, 1) := dk_42 (dk_at dksX8_read_3 9 rfl rfl)
theorem dX8_read_81 : decode cX8_read 81 = .ok (.getfield 49, 3) := dk_180 0 49 (dk_at dksX8_read_3 10 rfl rfl)
theorem dX8_read_84 : decode cX8_read 84 = .ok (.aload_n 0, 1) := dk_42 (dk_at dksX8_read_3 13 rfl rfl)
theorem dX8_read_85 : decode cX8_read 85 = .ok (.getfield 281, 3) := dk_180 1 25 (dk_at dksX8_read_3 14 rfl rfl)
theorem dX8_read_88 : decode cX8_read 88 = .ok (.iconst 0, 1) := dk_3 (dk_at dksX8_read_3 17 rfl rfl)
theorem dX8_read_89 : decode cX8_read 89 = .ok (.iastore, 1) := dk_79 (dk_at dksX8_read_3 18 rfl rfl)
theorem dX8_read_90 : decode cX8_read 90 = .ok (.aload_n 0, 1) := dk_42 (dk_at dksX8_read_3 19 rfl rfl)
theorem dX8_read_91 : decode cX8_read 91 = .ok (.getfield 52, 3) := dk_180 0 52 (dk_at dksX8_read_3 20 rfl rfl)
theorem dX8_read_94 : decode cX8_read 94 = .ok (.aload_n 0, 1) := dk_42 (dk_at dksX8_read_3 23 rfl rfl)
theorem dX8_read_95 : decode cX8_read 95 = .ok (.getfield 281, 3) := dk_180 1 25 (dk_at dksX8_read_4 0 rfl rfl)
theorem dX8_read_98 : decode cX8_read 98 = .ok (.iconst 0, 1) := dk_3 (dk_at dksX8_read_4 3 rfl rfl)
theorem dX8_read_99 : decode cX8_read 99 = .ok (.iastore, 1) := dk_79 (dk_at dksX8_read_4 4 rfl rfl)
theorem dX8_read_100 : decode cX8_read 100 = .ok (.aload_n 0, 1) := dk_42 (dk_at dksX8_read_4 5 rfl rfl)
theorem dX8_read_101 : decode cX8_read 101 = .ok (.getfield 68, 3) := dk_180 0 68 (dk_at dksX8_read_4 6 rfl rfl)
theorem dX8_read_104 : decode cX8_read 104 = .ok (.aload_n 0, 1) := dk_42 (dk_at dksX8_read_4 9 rfl rfl)
theorem dX8_read_105 : decode cX8_read 105 = .ok (.getfield 281, 3) := dk_180 1 25 (dk_at dksX8_read_4 10 rfl rfl)
theorem dX8_read_108 : decode cX8_read 108 = .ok (.iconst 0, 1) := dk_3 (dk_at dksX8_read_4 13 rfl rfl)
theorem dX8_read_109 : decode cX8_read 109 = .ok (.iastore, 1) := dk_79 (dk_at dksX8_read_4 14 rfl rfl)
theorem dX8_read_110 : decode cX8_read 110 = .ok (.aload_n 0, 1) := dk_42 (dk_at dksX8_read_4 15 rfl rfl)
theorem dX8_read_111 : decode cX8_read 111 = .ok (.getfield 74, 3) := dk_180 0 74 (dk_at dksX8_read_4 16 rfl rfl)
theorem dX8_read_114 : decode cX8_read 114 = .ok (.aload_n 0, 1) := dk_42 (dk_at dksX8_read_4 19 rfl rfl)
theorem dX8_read_115 : decode cX8_read 115 = .ok (.getfield 281, 3) := dk_180 1 25 (dk_at dksX8_read_4 20 rfl rfl)
theorem dX8_read_118 : decode cX8_read 118 = .ok (.iconst 0, 1) := dk_3 (dk_at dksX8_read_4 23 rfl rfl)
theorem dX8_read_119 : decode cX8_read 119 = .ok (.iastore, 1) := dk_79 (dk_at dksX8_read_5 0 rfl rfl)
theorem dX8_read_120 : decode cX8_read 120 = .ok (.aload_n 0, 1) := dk_42 (dk_at dksX8_read_5 1 rfl rfl)
theorem dX8_read_121 : decode cX8_read 121 = .ok (.getfield 104, 3) := dk_180 0 104 (dk_at dksX8_read_5 2 rfl rfl)
theorem dX8_read_124 : decode cX8_read 124 = .ok (.aload_n 0, 1) := dk_42 (dk_at dksX8_read_5 5 rfl rfl)
theorem dX8_read_125 : decode cX8_read 125 = .ok (.getfield 281, 3) := dk_180 1 25 (dk_at dksX8_read_5 6 rfl rfl)
theorem dX8_read_128 : decode cX8_read 128 = .ok (.iconst 0, 1) := dk_3 (dk_at dksX8_read_5 9 rfl rfl)
theorem dX8_read_129 : decode cX8_read 129 = .ok (.iastore, 1) := dk_79 (dk_at dksX8_read_5 10 rfl rfl)
theorem dX8_read_130 : decode cX8_read 130 = .ok (.aload_n 0, 1) := dk_42 (dk_at dksX8_read_5 11 rfl rfl)
theorem dX8_read_131 : decode cX8_read 131 = .ok (.getfield 116, 3) := dk_180 0 116 (dk_at dksX8_read_5 12 rfl rfl)
theorem dX8_read_134 : decode cX8_read 134 = .ok (.aload_n 0, 1) := dk_42 (dk_at dksX8_read_5 15 rfl rfl)
theorem dX8_read_135 : decode cX8_read 135 = .ok (.getfield 281, 3) := dk_180 1 25 (dk_at dksX8_read_5 16 rfl rfl)
theorem dX8_read_138 : decode cX8_read 138 = .ok (.iconst 0, 1) := dk_3 (dk_at dksX8_read_5 19 rfl rfl)
theorem dX8_read_139 : decode cX8_read 139 = .ok (.iastore, 1) := dk_79 (dk_at dksX8_read_5 20 rfl rfl)
theorem dX8_read_140 : decode cX8_read 140 = .ok (.aload_n 0, 1) := dk_42 (dk_at dksX8_read_5 21 rfl rfl)
theorem dX8_read_141 : decode cX8_read 141 = .ok (.getfield 140, 3) := dk_180 0 140 (dk_at dksX8_read_6 0 rfl rfl)
theorem dX8_read_144 : decode cX8_read 144 = .ok (.aload_n 0, 1) := dk_42 (dk_at dksX8_read_6 3 rfl rfl)
theorem dX8_read_145 : decode cX8_read 145 = .ok (.getfield 281, 3) := dk_180 1 25 (dk_at dksX8_read_6 4 rfl rfl)
theorem dX8_read_148 : decode cX8_read 148 = .ok (.sipush 480, 3) := dk_17 1 224 (dk_at dksX8_read_6 7 rfl rfl)
theorem dX8_read_151 : decode cX8_read 151 = .ok (.iastore, 1) := dk_79 (dk_at dksX8_read_6 10 rfl rfl)
theorem dX8_read_152 : decode cX8_read 152 = .ok (.aload_n 0, 1) := dk_42 (dk_at dksX8_read_6 11 rfl rfl)
theorem dX8_read_153 : decode cX8_read 153 = .ok (.bipush 50, 2) := dk_16 50 (dk_at dksX8_read_6 12 rfl rfl)
theorem dX8_read_155 : decode cX8_read 155 = .ok (.aload_n 0, 1) := dk_42 (dk_at dksX8_read_6 14 rfl rfl)
theorem dX8_read_156 : decode cX8_read 156 = .ok (.getfield 281, 3) := dk_180 1 25 (dk_at dksX8_read_6 15 rfl rfl)
theorem dX8_read_159 : decode cX8_read 159 = .ok (.imul, 1) := dk_104 (dk_at dksX8_read_6 18 rfl rfl)
theorem dX8_read_160 : decode cX8_read 160 = .ok (.putfield 287, 3) := dk_181 1 31 (dk_at dksX8_read_6 19 rfl rfl)
theorem dX8_read_163 : decode cX8_read 163 = .ok (.aload_n 0, 1) := dk_42 (dk_at dksX8_read_6 22 rfl rfl)
theorem dX8_read_164 : decode cX8_read 164 = .ok (.sipush 420, 3) := dk_17 1 164 (dk_at dksX8_read_7 0 rfl rfl)
theorem dX8_read_167 : decode cX8_read 167 = .ok (.aload_n 0, 1) := dk_42 (dk_at dksX8_read_7 3 rfl rfl)
theorem dX8_read_168 : decode cX8_read 168 = .ok (.getfield 281, 3) := dk_180 1 25 (dk_at dksX8_read_7 4 rfl rfl)
theorem dX8_read_171 : decode cX8_read 171 = .ok (.imul, 1) := dk_104 (dk_at dksX8_read_7 7 rfl rfl)
theorem dX8_read_172 : decode cX8_read 172 = .ok (.putfield 290, 3) := dk_181 1 34 (dk_at dksX8_read_7 8 rfl rfl)
theorem dX8_read_175 : decode cX8_read 175 = .ok (.iconst 0, 1) := dk_3 (dk_at dksX8_read_7 11 rfl rfl)
theorem dX8_read_176 : decode cX8_read 176 = .ok (.istore_n 1, 1) := dk_60 (dk_at dksX8_read_7 12 rfl rfl)
theorem dX8_read_177 : decode cX8_read 177 = .ok (.iload_n 1, 1) := dk_27 (dk_at dksX8_read_7 13 rfl rfl)
theorem dX8_read_178 : decode cX8_read 178 = .ok (.bipush 6, 2) := dk_16 6 (dk_at dksX8_read_7 14 rfl rfl)
theorem dX8_read_180 : decode cX8_read 180 = .ok (.if_icmp .ge 39, 3) := dk_162 0 39 (dk_at dksX8_read_7 16 rfl rfl)
theorem dX8_read_183 : decode cX8_read 183 = .ok (.aload_n 0, 1) := dk_42 (dk_at dksX8_read_7 19 rfl rfl)
theorem dX8_read_184 : decode cX8_read 184 = .ok (.getfield 119, 3) := dk_180 0 119 (dk_at dksX8_read_7 20 rfl rfl)
theorem dX8_read_187 : decode cX8_read 187 = .ok (.bipush 6, 2) := dk_16 6 (dk_at dksX8_read_8 0 rfl rfl)
theorem dX8_read_189 : decode cX8_read 189 = .ok (.aload_n 0, 1) := dk_42 (dk_at dksX8_read_8 2 rfl rfl)
theorem dX8_read_190 : decode cX8_read 190 = .ok (.getfield 281, 3) := dk_180 1 25 (dk_at dksX8_read_8 3 rfl rfl)
theorem dX8_read_193 : decode cX8_read 193 = .ok (.imul, 1) := dk_104 (dk_at dksX8_read_8 6 rfl rfl)
theorem dX8_read_194 : decode cX8_read 194 = .ok (.iload_n 1, 1) := dk_27 (dk_at dksX8_read_8 7 rfl rfl)
theorem dX8_read_195 : decode cX8_read 195 = .ok (.iadd, 1) := dk_96 (dk_at dksX8_read_8 8 rfl rfl)
theorem dX8_read_196 : decode cX8_read 196 = .ok (.iconst 0, 1) := dk_3 (dk_at dksX8_read_8 9 rfl rfl)
theorem dX8_read_197 : decode cX8_read 197 = .ok (.iastore, 1) := dk_79 (dk_at dksX8_read_8 10 rfl rfl)
theorem dX8_read_198 : decode cX8_read 198 = .ok (.aload_n 0, 1) := dk_42 (dk_at dksX8_read_8 11 rfl rfl)
theorem dX8_read_199 : decode cX8_read 199 = .ok (.getfield 122, 3) := dk_180 0 122 (dk_at dksX8_read_8 12 rfl rfl)
theorem dX8_read_202 : decode cX8_read 202 = .ok (.bipush 6, 2) := dk_16 6 (dk_at dksX8_read_8 15 rfl rfl)
theorem dX8_read_204 : decode cX8_read 204 = .ok (.aload_n 0, 1) := dk_42 (dk_at dksX8_read_8 17 rfl rfl)
theorem dX8_read_205 : decode cX8_read 205 = .ok (.getfield 281, 3) := dk_180 1 25 (dk_at dksX8_read_8 18 rfl rfl)
theorem dX8_read_208 : decode cX8_read 208 = .ok (.imul, 1) := dk_104 (dk_at dksX8_read_8 21 rfl rfl)
theorem dX8_read_209 : decode cX8_read 209 = .ok (.iload_n 1, 1) := dk_27 (dk_at dksX8_read_8 22 rfl rfl)
theorem dX8_read_210 : decode cX8_read 210 = .ok (.iadd, 1) := dk_96 (dk_at dksX8_read_8 23 rfl rfl)
theorem dX8_read_211 : decode cX8_read 211 = .ok (.iconst 0, 1) := dk_3 (dk_at dksX8_read_9 0 rfl rfl)
theorem dX8_read_212 : decode cX8_read 212 = .ok (.iastore, 1) := dk_79 (dk_at dksX8_read_9 1 rfl rfl)
theorem dX8_read_213 : decode cX8_read 213 = .ok (.iinc 1 1, 3) := dk_132 1 1 (dk_at dksX8_read_9 2 rfl rfl)
theorem dX8_read_216 : decode cX8_read 216 = .ok (.goto (-39), 3) := dk_167 255 217 (dk_at dksX8_read_9 5 rfl rfl)
theorem dX8_read_219 : decode cX8_read 219 = .ok (.aload_n 0, 1) := dk_42 (dk_at dksX8_read_9 8 rfl rfl)
theorem dX8_read_220 : decode cX8_read 220 = .ok (.getfield 248, 3) := dk_180 0 248 (dk_at dksX8_read_9 9 rfl rfl)
theorem dX8_read_223 : decode cX8_read 223 = .ok (.ifCond .ne 18, 3) := dk_154 0 18 (dk_at dksX8_read_9 12 rfl rfl)
theorem dX8_read_226 : decode cX8_read 226 = .ok (.aload_n 0, 1) := dk_42 (dk_at dksX8_read_9 15 rfl rfl)
theorem dX8_read_227 : decode cX8_read 227 = .ok (.iconst 0, 1) := dk_3 (dk_at dksX8_read_9 16 rfl rfl)
theorem dX8_read_228 : decode cX8_read 228 = .ok (.invokevirtual 266, 3) := dk_182 1 10 (dk_at dksX8_read_9 17 rfl rfl)
theorem dX8_read_231 : decode cX8_read 231 = .ok (.ifCond .ne 10, 3) := dk_154 0 10 (dk_at dksX8_read_9 20 rfl rfl)
theorem dX8_read_234 : decode cX8_read 234 = .ok (.aload_n 0, 1) := dk_42 (dk_at dksX8_read_9 23 rfl rfl)
theorem dX8_read_235 : decode cX8_read 235 = .ok (.invokevirtual 293, 3) := dk_182 1 37 (dk_at dksX8_read_10 0 rfl rfl)
theorem dX8_read_238 : decode cX8_read 238 = .ok (.goto (-19), 3) := dk_167 255 237 (dk_at dksX8_read_10 3 rfl rfl)
theorem dX8_read_241 : decode cX8_read 241 = .ok (.aload_n 0, 1) := dk_42 (dk_at dksX8_read_10 6 rfl rfl)
theorem dX8_read_242 : decode cX8_read 242 = .ok (.aload_n 0, 1) := dk_42 (dk_at dksX8_read_10 7 rfl rfl)
theorem dX8_read_243 : decode cX8_read 243 = .ok (.getfield 248, 3) := dk_180 0 248 (dk_at dksX8_read_10 8 rfl rfl)
theorem dX8_read_246 : decode cX8_read 246 = .ok (.ifCond .le 10, 3) := dk_158 0 10 (dk_at dksX8_read_10 11 rfl rfl)
theorem dX8_read_249 : decode cX8_read 249 = .ok (.aload_n 0, 1) := dk_42 (dk_at dksX8_read_10 14 rfl rfl)
theorem dX8_read_250 : decode cX8_read 250 = .ok (.getfield 254, 3) := dk_180 0 254 (dk_at dksX8_read_10 15 rfl rfl)
theorem dX8_read_253 : decode cX8_read 253 = .ok (.goto 18, 3) := dk_167 0 18 (dk_at dksX8_read_10 18 rfl rfl)
theorem dX8_read_256 : decode cX8_read 256 = .ok (.aload_n 0, 1) := dk_42 (dk_at dksX8_read_10 21 rfl rfl)
theorem dX8_read_257 : decode cX8_read 257 = .ok (.getfield 257, 3) := dk_180 1 1 (dk_at dksX8_read_11 0 rfl rfl)
theorem dX8_read_260 : decode cX8_read 260 = .ok (.ifCond .le 10, 3) := dk_158 0 10 (dk_at dksX8_read_11 3 rfl rfl)
theorem dX8_read_263 : decode cX8_read 263 = .ok (.aload_n 0, 1) := dk_42 (dk_at dksX8_read_11 6 rfl rfl)
theorem dX8_read_264 : decode cX8_read 264 = .ok (.getfield 260, 3) := dk_180 1 4 (dk_at dksX8_read_11 7 rfl rfl)
theorem dX8_read_267 : decode cX8_read 267 = .ok (.goto 4, 3) := dk_167 0 4 (dk_at dksX8_read_11 10 rfl rfl)
theorem dX8_read_270 : decode cX8_read 270 = .ok (.iconst (-1), 1) := dk_2 (dk_at dksX8_read_11 13 rfl rfl)
theorem dX8_read_271 : decode cX8_read 271 = .ok (.putfield 37, 3) := dk_181 0 37 (dk_at dksX8_read_11 14 rfl rfl)
theorem dX8_read_274 : decode cX8_read 274 = .ok (.aload_n 0, 1) := dk_42 (dk_at dksX8_read_11 17 rfl rfl)
theorem dX8_read_275 : decode cX8_read 275 = .ok (.getfield 248, 3) := dk_180 0 248 (dk_at dksX8_read_11 18 rfl rfl)
theorem dX8_read_278 : decode cX8_read 278 = .ok (.ifCond .le 8, 3) := dk_158 0 8 (dk_at dksX8_read_11 21 rfl rfl)
theorem dX8_read_281 : decode cX8_read 281 = .ok (.aload_n 0, 1) := dk_42 (dk_at dksX8_read_12 0 rfl rfl)
theorem dX8_read_282 : decode cX8_read 282 = .ok (.getfield 248, 3) := dk_180 0 248 (dk_at dksX8_read_12 1 rfl rfl)
theorem dX8_read_285 : decode cX8_read 285 = .ok (.ireturn, 1) := dk_172 (dk_at dksX8_read_12 4 rfl rfl)
theorem dX8_read_286 : decode cX8_read 286 = .ok (.aload_n 0, 1) := dk_42 (dk_at dksX8_read_12 5 rfl rfl)
theorem dX8_read_287 : decode cX8_read 287 = .ok (.getfield 257, 3) := dk_180 1 1 (dk_at dksX8_read_12 6 rfl rfl)
theorem dX8_read_290 : decode cX8_read 290 = .ok (.ifCond .le 8, 3) := dk_158 0 8 (dk_at dksX8_read_12 9 rfl rfl)
theorem dX8_read_293 : decode cX8_read 293 = .ok (.aload_n 0, 1) := dk_42 (dk_at dksX8_read_12 12 rfl rfl)
theorem dX8_read_294 : decode cX8_read 294 = .ok (.getfield 257, 3) := dk_180 1 1 (dk_at dksX8_read_12 13 rfl rfl)
theorem dX8_read_297 : decode cX8_read 297 = .ok (.ireturn, 1) := dk_172 (dk_at dksX8_read_12 16 rfl rfl)
theorem dX8_read_298 : decode cX8_read 298 = .ok (.aload_n 0, 1) := dk_42 (dk_at dksX8_read_12 17 rfl rfl)
theorem dX8_read_299 : decode cX8_read 299 = .ok (.aload_n 0, 1) := dk_42 (dk_at dksX8_read_12 18 rfl rfl)
theorem dX8_read_300 : decode cX8_read 300 = .ok (.getfield 281, 3) := dk_180 1 25 (dk_at dksX8_read_12 19 rfl rfl)
theorem dX8_read_303 : decode cX8_read 303 = .ok (.putfield 278, 3) := dk_181 1 22 (dk_at dksX8_read_13 0 rfl rfl)
theorem dX8_read_306 : decode cX8_read 306 = .ok (.aload_n 0, 1) := dk_42 (dk_at dksX8_read_13 3 rfl rfl)
theorem dX8_read_307 : decode cX8_read 307 = .ok (.invokevirtual 296, 3) := dk_182 1 40 (dk_at dksX8_read_13 4 rfl rfl)
theorem dX8_read_310 : decode cX8_read 310 = .ok (.aload_n 0, 1) := dk_42 (dk_at dksX8_read_13 7 rfl rfl)
theorem dX8_read_311 : decode cX8_read 311 = .ok (.iconst 0, 1) := dk_3 (dk_at dksX8_read_13 8 rfl rfl)
theorem dX8_read_312 : decode cX8_read 312 = .ok (.putfield 299, 3) := dk_181 1 43 (dk_at dksX8_read_13 9 rfl rfl)
theorem dX8_read_315 : decode cX8_read 315 = .ok (.aload_n 0, 1) := dk_42 (dk_at dksX8_read_13 12 rfl rfl)
theorem dX8_read_316 : decode cX8_read 316 = .ok (.iconst 0, 1) := dk_3 (dk_at dksX8_read_13 13 rfl rfl)
theorem dX8_read_317 : decode cX8_read 317 = .ok (.putfield 302, 3) := dk_181 1 46 (dk_at dksX8_read_13 14 rfl rfl)
theorem dX8_read_320 : decode cX8_read 320 = .ok (.iconst 0, 1) := dk_3 (dk_at dksX8_read_13 17 rfl rfl)
theorem dX8_read_321 : decode cX8_read 321 = .ok (.istore_n 1, 1) := dk_60 (dk_at dksX8_read_13 18 rfl rfl)
theorem dX8_read_322 : decode cX8_read 322 = .ok (.iload_n 1, 1) := dk_27 (dk_at dksX8_read_13 19 rfl rfl)
theorem dX8_read_323 : decode cX8_read 323 = .ok (.iconst 3, 1) := dk_6 (dk_at dksX8_read_13 20 rfl rfl)
theorem dX8_read_324 : decode cX8_read 324 = .ok (.if_icmp .ge 16, 3) := dk_162 0 16 (dk_at dksX8_read_13 21 rfl rfl)
theorem dX8_read_327 : decode cX8_read 327 = .ok (.aload_n 0, 1) := dk_42 (dk_at dksX8_read_14 0 rfl rfl)
theorem dX8_read_328 : decode cX8_read 328 = .ok (.getfield 200, 3) := dk_180 0 200 (dk_at dksX8_read_14 1 rfl rfl)
theorem dX8_read_331 : decode cX8_read 331 = .ok (.iload_n 1, 1) := dk_27 (dk_at dksX8_read_14 4 rfl rfl)
theorem dX8_read_332 : decode cX8_read 332 = .ok (.iconst 0, 1) := dk_3 (dk_at dksX8_read_14 5 rfl rfl)
theorem dX8_read_333 : decode cX8_read 333 = .ok (.bastore, 1) := dk_84 (dk_at dksX8_read_14 6 rfl rfl)
theorem dX8_read_334 : decode cX8_read 334 = .ok (.iinc 1 1, 3) := dk_132 1 1 (dk_at dksX8_read_14 7 rfl rfl)
theorem dX8_read_337 : decode cX8_read 337 = .ok (.goto (-15), 3) := dk_167 255 241 (dk_at dksX8_read_14 10 rfl rfl)
theorem dX8_read_340 : decode cX8_read 340 = .ok (.iconst 0, 1) := dk_3 (dk_at dksX8_read_14 13 rfl rfl)
theorem dX8_read_341 : decode cX8_read 341 = .ok (.ireturn, 1) := dk_172 (dk_at dksX8_read_14 14 rfl rfl)
abbrev cX8_cut : ByteArray := prog_22_method_12_code
def yX8_cut : MethodName := ⟨RX8, "cut", "()V"⟩
def dkwX8_cut_12 : List UInt8 := [4, 96, 182, 0, 229, 182, 0, 244, 96, 60, 167, 254, 228, 177]
abbrev dktX8_cut_12 : List UInt8 := dkwX8_cut_12 ++ []
def dkwX8_cut_11 : List UInt8 := [167, 0, 4, 5, 27, 21, 4, 9, 182, 0, 233, 27, 29, 96, 60, 167, 0, 19, 27, 42, 27, 28, 42, 27]
abbrev dktX8_cut_11 : List UInt8 := dkwX8_cut_11 ++ dktX8_cut_12
def dkwX8_cut_10 : List UInt8 := [96, 182, 0, 229, 96, 16, 48, 100, 54, 4, 132, 3, 1, 167, 255, 217, 42, 29, 7, 164, 0, 7, 6]
abbrev dktX8_cut_10 : List UInt8 := dkwX8_cut_10 ++ dktX8_cut_11
def dkwX8_cut_9 : List UInt8 := [29, 96, 182, 0, 229, 184, 0, 241, 153, 0, 32, 29, 7, 162, 0, 21, 16, 10, 21, 4, 104, 42, 27, 29]
abbrev dktX8_cut_9 : List UInt8 := dkwX8_cut_9 ++ dktX8_cut_10
def dkwX8_cut_8 : List UInt8 := [182, 0, 233, 27, 29, 96, 60, 167, 0, 98, 28, 184, 0, 241, 153, 0, 75, 3, 62, 3, 54, 4, 42, 27]
abbrev dktX8_cut_8 : List UInt8 := dkwX8_cut_8 ++ dktX8_cut_9
def dkwX8_cut_7 : List UInt8 := [154, 0, 10, 16, 20, 21, 7, 96, 54, 6, 132, 7, 1, 167, 255, 226, 42, 21, 6, 27, 3, 22, 4]
abbrev dktX8_cut_7 : List UInt8 := dkwX8_cut_7 ++ dktX8_cut_8
def dkwX8_cut_6 : List UInt8 := [163, 0, 39, 3, 54, 7, 21, 7, 16, 21, 162, 0, 29, 42, 180, 0, 34, 21, 7, 47, 22, 4, 148]
abbrev dktX8_cut_6 : List UInt8 := dkwX8_cut_6 ++ dktX8_cut_7
def dkwX8_cut_5 : List UInt8 := [55, 4, 132, 3, 1, 167, 255, 220, 29, 16, 8, 164, 0, 7, 6, 167, 0, 4, 4, 54, 6, 29, 16, 7]
abbrev dktX8_cut_5 : List UInt8 := dkwX8_cut_5 ++ dktX8_cut_6
def dkwX8_cut_4 : List UInt8 := [184, 0, 237, 153, 0, 29, 29, 16, 8, 162, 0, 17, 22, 4, 42, 27, 29, 96, 182, 0, 229, 184, 0, 222]
abbrev dktX8_cut_4 : List UInt8 := dkwX8_cut_4 ++ dktX8_cut_5
def dkwX8_cut_3 : List UInt8 := [167, 0, 221, 28, 184, 0, 237, 153, 0, 119, 3, 62, 9, 55, 4, 42, 27, 29, 96, 182, 0, 229]
abbrev dktX8_cut_3 : List UInt8 := dkwX8_cut_3 ++ dktX8_cut_4
def dkwX8_cut_2 : List UInt8 := [159, 0, 21, 28, 16, 10, 159, 0, 15, 28, 16, 13, 159, 0, 9, 28, 16, 32, 160, 0, 9, 132, 1, 1]
abbrev dktX8_cut_2 : List UInt8 := dkwX8_cut_2 ++ dktX8_cut_3
def dkwX8_cut_1 : List UInt8 := [42, 180, 0, 217, 161, 0, 15, 42, 3, 42, 180, 0, 217, 3, 9, 182, 0, 233, 177, 28, 16, 9]
abbrev dktX8_cut_1 : List UInt8 := dkwX8_cut_1 ++ dktX8_cut_2
def dkwX8_cut_0 : List UInt8 := [42, 3, 181, 0, 226, 3, 60, 42, 180, 0, 226, 17, 1, 144, 163, 1, 24, 42, 27, 182, 0, 229, 61, 27]
abbrev dktX8_cut_0 : List UInt8 := dkwX8_cut_0 ++ dktX8_cut_1
theorem dksX8_cut_0 : cX8_cut.data.toList.drop 0 = dktX8_cut_0 := by decide +kernel
theorem dksX8_cut_1 : cX8_cut.data.toList.drop 24 = dktX8_cut_1 := dk_seg dksX8_cut_0 24 rfl rfl
theorem dksX8_cut_2 : cX8_cut.data.toList.drop 46 = dktX8_cut_2 := dk_seg dksX8_cut_1 22 rfl rfl
theorem dksX8_cut_3 : cX8_cut.data.toList.drop 70 = dktX8_cut_3 := dk_seg dksX8_cut_2 24 rfl rfl
theorem dksX8_cut_4 : cX8_cut.data.toList.drop 92 = dktX8_cut_4 := dk_seg dksX8_cut_3 22 rfl rfl
theorem dksX8_cut_5 : cX8_cut.data.toList.drop 116 = dktX8_cut_5 := dk_seg dksX8_cut_4 24 rfl rfl
theorem dksX8_cut_6 : cX8_cut.data.toList.drop 140 = dktX8_cut_6 := dk_seg dksX8_cut_5 24 rfl rfl
theorem dksX8_cut_7 : cX8_cut.data.toList.drop 163 = dktX8_cut_7 := dk_seg dksX8_cut_6 23 rfl rfl
theorem dksX8_cut_8 : cX8_cut.data.toList.drop 186 = dktX8_cut_8 := dk_seg dksX8_cut_7 23 rfl rfl
theorem dksX8_cut_9 : cX8_cut.data.toList.drop 210 = dktX8_cut_9 := dk_seg dksX8_cut_8 24 rfl rfl
theorem dksX8_cut_10 : cX8_cut.data.toList.drop 234 = dktX8_cut_10 := dk_seg dksX8_cut_9 24 rfl rfl
theorem dksX8_cut_11 : cX8_cut.data.toList.drop 257 = dktX8_cut_11 := dk_seg dksX8_cut_10 23 rfl rfl
theorem dksX8_cut_12 : cX8_cut.data.toList.drop 281 = dktX8_cut_12 := dk_seg dksX8_cut_11 24 rfl rfl
theorem dX8_cut_0 : decode cX8_cut 0 = .ok (.aload_n 0, 1) := dk_42 (dk_at dksX8_cut_0 0 rfl rfl)
theorem dX8_cut_1 : decode cX8_cut 1 = .ok (.iconst 0, 1) := dk_3 (dk_at dksX8_cut_0 1 rfl rfl)
theorem dX8_cut_2 : decode cX8_cut 2 = .ok (.putfield 226, 3) := dk_181 0 226 (dk_at dksX8_cut_0 2 rfl rfl)
theorem dX8_cut_5 : decode cX8_cut 5 = .ok (.iconst 0, 1) := dk_3 (dk_at dksX8_cut_0 5 rfl rfl)
theorem dX8_cut_6 : decode cX8_cut 6 = .ok (.istore_n 1, 1) := dk_60 (dk_at dksX8_cut_0 6 rfl rfl)
theorem dX8_cut_7 : decode cX8_cut 7 = .ok (.aload_n 0, 1) := dk_42 (dk_at dksX8_cut_0 7 rfl rfl)
theorem dX8_cut_8 : decode cX8_cut 8 = .ok (.getfield 226, 3) := dk_180 0 226 (dk_at dksX8_cut_0 8 rfl rfl)
theorem dX8_cut_11 : decode cX8_cut 11 = .ok (.sipush 400, 3) := dk_17 1 144 (dk_at dksX8_cut_0 11 rfl rfl)
theorem dX8_cut_14 : decode cX8_cut 14 = .ok (.if_icmp .gt 280, 3) := dk_163 1 24 (dk_at dksX8_cut_0 14 rfl rfl)
theorem dX8_cut_17 : decode cX8_cut 17 = .ok (.aload_n 0, 1) := dk_42 (dk_at dksX8_cut_0 17 rfl rfl)
theorem dX8_cut_18 : decode cX8_cut 18 = .ok (.iload_n 1, 1) := dk_27 (dk_at dksX8_cut_0 18 rfl rfl)
theorem dX8_cut_19 : decode cX8_cut 19 = .ok (.invokevirtual 229, 3) := dk_182 0 229 (dk_at dksX8_cut_0 19 rfl rfl)
theorem dX8_cut_22 : decode cX8_cut 22 = .ok (.istore_n 2, 1) := dk_61 (dk_at dksX8_cut_0 22 rfl rfl)
theorem dX8_cut_23 : decode cX8_cut 23 = .ok (.iload_n 1, 1) := dk_27 (dk_at dksX8_cut_0 23 rfl rfl)
theorem dX8_cut_24 : decode cX8_cut 24 = .ok (.aload_n 0, 1) := dk_42 (dk_at dksX8_cut_1 0 rfl rfl)
theorem dX8_cut_25 : decode cX8_cut 25 = .ok (.getfield 217, 3) := dk_180 0 217 (dk_at dksX8_cut_1 1 rfl rfl)
theorem dX8_cut_28 : decode cX8_cut 28 = .ok (.if_icmp .lt 15, 3) := dk_161 0 15 (dk_at dksX8_cut_1 4 rfl rfl)
theorem dX8_cut_31 : decode cX8_cut 31 = .ok (.aload_n 0, 1) := dk_42 (dk_at dksX8_cut_1 7 rfl rfl)
theorem dX8_cut_32 : decode cX8_cut 32 = .ok (.iconst 0, 1) := dk_3 (dk_at dksX8_cut_1 8 rfl rfl)
theorem dX8_cut_33 : decode cX8_cut 33 = .ok (.aload_n 0, 1) := dk_42 (dk_at dksX8_cut_1 9 rfl rfl)
theorem dX8_cut_34 : decode cX8_cut 34 = .ok (.getfield 217, 3) := dk_180 0 217 (dk_at dksX8_cut_1 10 rfl rfl)
theorem dX8_cut_37 : decode cX8_cut 37 = .ok (.iconst 0, 1) := dk_3 (dk_at dksX8_cut_1 13 rfl rfl)
theorem dX8_cut_38 : decode cX8_cut 38 = .ok (.lconst 0, 1) := dk_9 (dk_at dksX8_cut_1 14 rfl rfl)
theorem dX8_cut_39 : decode cX8_cut 39 = .ok (.invokevirtual 233, 3) := dk_182 0 233 (dk_at dksX8_cut_1 15 rfl rfl)
theorem dX8_cut_42 : decode cX8_cut 42 = .ok (.return_, 1) := dk_177 (dk_at dksX8_cut_1 18 rfl rfl)
theorem dX8_cut_43 : decode cX8_cut 43 = .ok (.iload_n 2, 1) := dk_28 (dk_at dksX8_cut_1 19 rfl rfl)
theorem dX8_cut_44 : decode cX8_cut 44 = .ok (.bipush 9, 2) := dk_16 9 (dk_at dksX8_cut_1 20 rfl rfl)
theorem dX8_cut_46 : decode cX8_cut 46 = .ok (.if_icmp .eq 21, 3) := dk_159 0 21 (dk_at dksX8_cut_2 0 rfl rfl)
theorem dX8_cut_49 : decode cX8_cut 49 = .ok (.iload_n 2, 1) := dk_28 (dk_at dksX8_cut_2 3 rfl rfl)
theorem dX8_cut_50 : decode cX8_cut 50 = .ok (.bipush 10, 2) := dk_16 10 (dk_at dksX8_cut_2 4 rfl rfl)
theorem dX8_cut_52 : decode cX8_cut 52 = .ok (.if_icmp .eq 15, 3) := dk_159 0 15 (dk_at dksX8_cut_2 6 rfl rfl)
theorem dX8_cut_55 : decode cX8_cut 55 = .ok (.iload_n 2, 1) := dk_28 (dk_at dksX8_cut_2 9 rfl rfl)
theorem dX8_cut_56 : decode cX8_cut 56 = .ok (.bipush 13, 2) := dk_16 13 (dk_at dksX8_cut_2 10 rfl rfl)
theorem dX8_cut_58 : decode cX8_cut 58 = .ok (.if_icmp .eq 9, 3) := dk_159 0 9 (dk_at dksX8_cut_2 12 rfl rfl)
theorem dX8_cut_61 : decode cX8_cut 61 = .ok (.iload_n 2, 1) := dk_28 (dk_at dksX8_cut_2 15 rfl rfl)
theorem dX8_cut_62 : decode cX8_cut 62 = .ok (.bipush 32, 2) := dk_16 32 (dk_at dksX8_cut_2 16 rfl rfl)
theorem dX8_cut_64 : decode cX8_cut 64 = .ok (.if_icmp .ne 9, 3) := dk_160 0 9 (dk_at dksX8_cut_2 18 rfl rfl)
theorem dX8_cut_67 : decode cX8_cut 67 = .ok (.iinc 1 1, 3) := dk_132 1 1 (dk_at dksX8_cut_2 21 rfl rfl)
theorem dX8_cut_70 : decode cX8_cut 70 = .ok (.goto 221, 3) := dk_167 0 221 (dk_at dksX8_cut_3 0 rfl rfl)
theorem dX8_cut_73 : decode cX8_cut 73 = .ok (.iload_n 2, 1) := dk_28 (dk_at dksX8_cut_3 3 rfl rfl)
theorem dX8_cut_74 : decode cX8_cut 74 = .ok (.invokestatic 237, 3) := dk_184 0 237 (dk_at dksX8_cut_3 4 rfl rfl)
theorem dX8_cut_77 : decode cX8_cut 77 = .ok (.ifCond .eq 119, 3) := dk_153 0 119 (dk_at dksX8_cut_3 7 rfl rfl)
theorem dX8_cut_80 : decode cX8_cut 80 = .ok (.iconst 0, 1) := dk_3 (dk_at dksX8_cut_3 10 rfl rfl)
theorem dX8_cut_81 : decode cX8_cut 81 = .ok (.istore_n 3, 1) := dk_62 (dk_at dksX8_cut_3 11 rfl rfl)
theorem dX8_cut_82 : decode cX8_cut 82 = .ok (.lconst 0, 1) := dk_9 (dk_at dksX8_cut_3 12 rfl rfl)
theorem dX8_cut_83 : decode cX8_cut 83 = .ok (.lstore 4, 2) := dk_55 4 (dk_at dksX8_cut_3 13 rfl rfl)
theorem dX8_cut_85 : decode cX8_cut 85 = .ok (.aload_n 0, 1) := dk_42 (dk_at dksX8_cut_3 15 rfl rfl)
theorem dX8_cut_86 : decode cX8_cut 86 = .ok (.iload_n 1, 1) := dk_27 (dk_at dksX8_cut_3 16 rfl rfl)
theorem dX8_cut_87 : decode cX8_cut 87 = .ok (.iload_n 3, 1) := dk_29 (dk_at dksX8_cut_3 17 rfl rfl)
theorem dX8_cut_88 : decode cX8_cut 88 = .ok (.iadd, 1) := dk_96 (dk_at dksX8_cut_3 18 rfl rfl)
theorem dX8_cut_89 : decode cX8_cut 89 = .ok (.invokevirtual 229, 3) := dk_182 0 229 (dk_at dksX8_cut_3 19 rfl rfl)
theorem dX8_cut_92 : decode cX8_cut 92 = .ok (.invokestatic 237, 3) := dk_184 0 237 (dk_at dksX8_cut_4 0 rfl rfl)
theorem dX8_cut_95 : decode cX8_cut 95 = .ok (.ifCond .eq 29, 3) := dk_153 0 29 (dk_at dksX8_cut_4 3 rfl rfl)
theorem dX8_cut_98 : decode cX8_cut 98 = .ok (.iload_n 3, 1) := dk_29 (dk_at dksX8_cut_4 6 rfl rfl)
theorem dX8_cut_99 : decode cX8_cut 99 = .ok (.bipush 8, 2) := dk_16 8 (dk_at dksX8_cut_4 7 rfl rfl)
theorem dX8_cut_101 : decode cX8_cut 101 = .ok (.if_icmp .ge 17, 3) := dk_162 0 17 (dk_at dksX8_cut_4 9 rfl rfl)
theorem dX8_cut_104 : decode cX8_cut 104 = .ok (.lload 4, 2) := dk_22 4 (dk_at dksX8_cut_4 12 rfl rfl)
theorem dX8_cut_106 : decode cX8_cut 106 = .ok (.aload_n 0, 1) := dk_42 (dk_at dksX8_cut_4 14 rfl rfl)
theorem dX8_cut_107 : decode cX8_cut 107 = .ok (.iload_n 1, 1) := dk_27 (dk_at dksX8_cut_4 15 rfl rfl)
theorem dX8_cut_108 : decode cX8_cut 108 = .ok (.iload_n 3, 1) := dk_29 (dk_at dksX8_cut_4 16 rfl rfl)
theorem dX8_cut_109 : decode cX8_cut 109 = .ok (.iadd, 1) := dk_96 (dk_at dksX8_cut_4 17 rfl rfl)
theorem dX8_cut_110 : decode cX8_cut 110 = .ok (.invokevirtual 229, 3) := dk_182 0 229 (dk_at dksX8_cut_4 18 rfl rfl)
theorem dX8_cut_113 : decode cX8_cut 113 = .ok (.invokestatic 222, 3) := dk_184 0 222 (dk_at dksX8_cut_4 21 rfl rfl)
theorem dX8_cut_116 : decode cX8_cut 116 = .ok (.lstore 4, 2) := dk_55 4 (dk_at dksX8_cut_5 0 rfl rfl)
theorem dX8_cut_118 : decode cX8_cut 118 = .ok (.iinc 3 1, 3) := dk_132 3 1 (dk_at dksX8_cut_5 2 rfl rfl)
theorem dX8_cut_121 : decode cX8_cut 121 = .ok (.goto (-36), 3) := dk_167 255 220 (dk_at dksX8_cut_5 5 rfl rfl)
theorem dX8_cut_124 : decode cX8_cut 124 = .ok (.iload_n 3, 1) := dk_29 (dk_at dksX8_cut_5 8 rfl rfl)
theorem dX8_cut_125 : decode cX8_cut 125 = .ok (.bipush 8, 2) := dk_16 8 (dk_at dksX8_cut_5 9 rfl rfl)
theorem dX8_cut_127 : decode cX8_cut 127 = .ok (.if_icmp .le 7, 3) := dk_164 0 7 (dk_at dksX8_cut_5 11 rfl rfl)
theorem dX8_cut_130 : decode cX8_cut 130 = .ok (.iconst 3, 1) := dk_6 (dk_at dksX8_cut_5 14 rfl rfl)
theorem dX8_cut_131 : decode cX8_cut 131 = .ok (.goto 4, 3) := dk_167 0 4 (dk_at dksX8_cut_5 15 rfl rfl)
theorem dX8_cut_134 : decode cX8_cut 134 = .ok (.iconst 1, 1) := dk_4 (dk_at dksX8_cut_5 18 rfl rfl)
theorem dX8_cut_135 : decode cX8_cut 135 = .ok (.istore 6, 2) := dk_54 6 (dk_at dksX8_cut_5 19 rfl rfl)
theorem dX8_cut_137 : decode cX8_cut 137 = .ok (.iload_n 3, 1) := dk_29 (dk_at dksX8_cut_5 21 rfl rfl)
theorem dX8_cut_138 : decode cX8_cut 138 = .ok (.bipush 7, 2) := dk_16 7 (dk_at dksX8_cut_5 22 rfl rfl)
theorem dX8_cut_140 : decode cX8_cut 140 = .ok (.if_icmp .gt 39, 3) := dk_163 0 39 (dk_at dksX8_cut_6 0 rfl rfl)
theorem dX8_cut_143 : decode cX8_cut 143 = .ok (.iconst 0, 1) := dk_3 (dk_at dksX8_cut_6 3 rfl rfl)
theorem dX8_cut_144 : decode cX8_cut 144 = .ok (.istore 7, 2) := dk_54 7 (dk_at dksX8_cut_6 4 rfl rfl)
theorem dX8_cut_146 : decode cX8_cut 146 = .ok (.iload 7, 2) := dk_21 7 (dk_at dksX8_cut_6 6 rfl rfl)
theorem dX8_cut_148 : decode cX8_cut 148 = .ok (.bipush 21, 2) := dk_16 21 (dk_at dksX8_cut_6 8 rfl rfl)
theorem dX8_cut_150 : decode cX8_cut 150 = .ok (.if_icmp .ge 29, 3) := dk_162 0 29 (dk_at dksX8_cut_6 10 rfl rfl)
theorem dX8_cut_153 : decode cX8_cut 153 = .ok (.aload_n 0, 1) := dk_42 (dk_at dksX8_cut_6 13 rfl rfl)
theorem dX8_cut_154 : decode cX8_cut 154 = .ok (.getfield 34, 3) := dk_180 0 34 (dk_at dksX8_cut_6 14 rfl rfl)
theorem dX8_cut_157 : decode cX8_cut 157 = .ok (.iload 7, 2) := dk_21 7 (dk_at dksX8_cut_6 17 rfl rfl)
theorem dX8_cut_159 : decode cX8_cut 159 = .ok (.laload, 1) := dk_47 (dk_at dksX8_cut_6 19 rfl rfl)
theorem dX8_cut_160 : decode cX8_cut 160 = .ok (.lload 4, 2) := dk_22 4 (dk_at dksX8_cut_6 20 rfl rfl)
theorem dX8_cut_162 : decode cX8_cut 162 = .ok (.lcmp, 1) := dk_148 (dk_at dksX8_cut_6 22 rfl rfl)
theorem dX8_cut_163 : decode cX8_cut 163 = .ok (.ifCond .ne 10, 3) := dk_154 0 10 (dk_at dksX8_cut_7 0 rfl rfl)
theorem dX8_cut_166 : decode cX8_cut 166 = .ok (.bipush 20, 2) := dk_16 20 (dk_at dksX8_cut_7 3 rfl rfl)
theorem dX8_cut_168 : decode cX8_cut 168 = .ok (.iload 7, 2) := dk_21 7 (dk_at dksX8_cut_7 5 rfl rfl)
theorem dX8_cut_170 : decode cX8_cut 170 = .ok (.iadd, 1) := dk_96 (dk_at dksX8_cut_7 7 rfl rfl)
theorem dX8_cut_171 : decode cX8_cut 171 = .ok (.istore 6, 2) := dk_54 6 (dk_at dksX8_cut_7 8 rfl rfl)
theorem dX8_cut_173 : decode cX8_cut 173 = .ok (.iinc 7 1, 3) := dk_132 7 1 (dk_at dksX8_cut_7 10 rfl rfl)
theorem dX8_cut_176 : decode cX8_cut 176 = .ok (.goto (-30), 3) := dk_167 255 226 (dk_at dksX8_cut_7 13 rfl rfl)
theorem dX8_cut_179 : decode cX8_cut 179 = .ok (.aload_n 0, 1) := dk_42 (dk_at dksX8_cut_7 16 rfl rfl)
theorem dX8_cut_180 : decode cX8_cut 180 = .ok (.iload 6, 2) := dk_21 6 (dk_at dksX8_cut_7 17 rfl rfl)
theorem dX8_cut_182 : decode cX8_cut 182 = .ok (.iload_n 1, 1) := dk_27 (dk_at dksX8_cut_7 19 rfl rfl)
theorem dX8_cut_183 : decode cX8_cut 183 = .ok (.iconst 0, 1) := dk_3 (dk_at dksX8_cut_7 20 rfl rfl)
theorem dX8_cut_184 : decode cX8_cut 184 = .ok (.lload 4, 2) := dk_22 4 (dk_at dksX8_cut_7 21 rfl rfl)
theorem dX8_cut_186 : decode cX8_cut 186 = .ok (.invokevirtual 233, 3) := dk_182 0 233 (dk_at dksX8_cut_8 0 rfl rfl)
theorem dX8_cut_189 : decode cX8_cut 189 = .ok (.iload_n 1, 1) := dk_27 (dk_at dksX8_cut_8 3 rfl rfl)
theorem dX8_cut_190 : decode cX8_cut 190 = .ok (.iload_n 3, 1) := dk_29 (dk_at dksX8_cut_8 4 rfl rfl)
theorem dX8_cut_191 : decode cX8_cut 191 = .ok (.iadd, 1) := dk_96 (dk_at dksX8_cut_8 5 rfl rfl)
theorem dX8_cut_192 : decode cX8_cut 192 = .ok (.istore_n 1, 1) := dk_60 (dk_at dksX8_cut_8 6 rfl rfl)
theorem dX8_cut_193 : decode cX8_cut 193 = .ok (.goto 98, 3) := dk_167 0 98 (dk_at dksX8_cut_8 7 rfl rfl)
theorem dX8_cut_196 : decode cX8_cut 196 = .ok (.iload_n 2, 1) := dk_28 (dk_at dksX8_cut_8 10 rfl rfl)
theorem dX8_cut_197 : decode cX8_cut 197 = .ok (.invokestatic 241, 3) := dk_184 0 241 (dk_at dksX8_cut_8 11 rfl rfl)
theorem dX8_cut_200 : decode cX8_cut 200 = .ok (.ifCond .eq 75, 3) := dk_153 0 75 (dk_at dksX8_cut_8 14 rfl rfl)
theorem dX8_cut_203 : decode cX8_cut 203 = .ok (.iconst 0, 1) := dk_3 (dk_at dksX8_cut_8 17 rfl rfl)
theorem dX8_cut_204 : decode cX8_cut 204 = .ok (.istore_n 3, 1) := dk_62 (dk_at dksX8_cut_8 18 rfl rfl)
theorem dX8_cut_205 : decode cX8_cut 205 = .ok (.iconst 0, 1) := dk_3 (dk_at dksX8_cut_8 19 rfl rfl)
theorem dX8_cut_206 : decode cX8_cut 206 = .ok (.istore 4, 2) := dk_54 4 (dk_at dksX8_cut_8 20 rfl rfl)
theorem dX8_cut_208 : decode cX8_cut 208 = .ok (.aload_n 0, 1) := dk_42 (dk_at dksX8_cut_8 22 rfl rfl)
theorem dX8_cut_209 : decode cX8_cut 209 = .ok (.iload_n 1, 1) := dk_27 (dk_at dksX8_cut_8 23 rfl rfl)
theorem dX8_cut_210 : decode cX8_cut 210 = .ok (.iload_n 3, 1) := dk_29 (dk_at dksX8_cut_9 0 rfl rfl)
theorem dX8_cut_211 : decode cX8_cut 211 = .ok (.iadd, 1) := dk_96 (dk_at dksX8_cut_9 1 rfl rfl)
theorem dX8_cut_212 : decode cX8_cut 212 = .ok (.invokevirtual 229, 3) := dk_182 0 229 (dk_at dksX8_cut_9 2 rfl rfl)
theorem dX8_cut_215 : decode cX8_cut 215 = .ok (.invokestatic 241, 3) := dk_184 0 241 (dk_at dksX8_cut_9 5 rfl rfl)
theorem dX8_cut_218 : decode cX8_cut 218 = .ok (.ifCond .eq 32, 3) := dk_153 0 32 (dk_at dksX8_cut_9 8 rfl rfl)
theorem dX8_cut_221 : decode cX8_cut 221 = .ok (.iload_n 3, 1) := dk_29 (dk_at dksX8_cut_9 11 rfl rfl)
theorem dX8_cut_222 : decode cX8_cut 222 = .ok (.iconst 4, 1) := dk_7 (dk_at dksX8_cut_9 12 rfl rfl)
theorem dX8_cut_223 : decode cX8_cut 223 = .ok (.if_icmp .ge 21, 3) := dk_162 0 21 (dk_at dksX8_cut_9 13 rfl rfl)
theorem dX8_cut_226 : decode cX8_cut 226 = .ok (.bipush 10, 2) := dk_16 10 (dk_at dksX8_cut_9 16 rfl rfl)
theorem dX8_cut_228 : decode cX8_cut 228 = .ok (.iload 4, 2) := dk_21 4 (dk_at dksX8_cut_9 18 rfl rfl)
theorem dX8_cut_230 : decode cX8_cut 230 = .ok (.imul, 1) := dk_104 (dk_at dksX8_cut_9 20 rfl rfl)
theorem dX8_cut_231 : decode cX8_cut 231 = .ok (.aload_n 0, 1) := dk_42 (dk_at dksX8_cut_9 21 rfl rfl)
theorem dX8_cut_232 : decode cX8_cut 232 = .ok (.iload_n 1, 1) := dk_27 (dk_at dksX8_cut_9 22 rfl rfl)
theorem dX8_cut_233 : decode cX8_cut 233 = .ok (.iload_n 3, 1) := dk_29 (dk_at dksX8_cut_9 23 rfl rfl)
theorem dX8_cut_234 : decode cX8_cut 234 = .ok (.iadd, 1) := dk_96 (dk_at dksX8_cut_10 0 rfl rfl)
theorem dX8_cut_235 : decode cX8_cut 235 = .ok (.invokevirtual 229, 3) := dk_182 0 229 (dk_at dksX8_cut_10 1 rfl rfl)
theorem dX8_cut_238 : decode cX8_cut 238 = .ok (.iadd, 1) := dk_96 (dk_at dksX8_cut_10 4 rfl rfl)
theorem dX8_cut_239 : decode cX8_cut 239 = .ok (.bipush 48, 2) := dk_16 48 (dk_at dksX8_cut_10 5 rfl rfl)
theorem dX8_cut_241 : decode cX8_cut 241 = .ok (.isub, 1) := dk_100 (dk_at dksX8_cut_10 7 rfl rfl)
theorem dX8_cut_242 : decode cX8_cut 242 = .ok (.istore 4, 2) := dk_54 4 (dk_at dksX8_cut_10 8 rfl rfl)
theorem dX8_cut_244 : decode cX8_cut 244 = .ok (.iinc 3 1, 3) := dk_132 3 1 (dk_at dksX8_cut_10 10 rfl rfl)
theorem dX8_cut_247 : decode cX8_cut 247 = .ok (.goto (-39), 3) := dk_167 255 217 (dk_at dksX8_cut_10 13 rfl rfl)
theorem dX8_cut_250 : decode cX8_cut 250 = .ok (.aload_n 0, 1) := dk_42 (dk_at dksX8_cut_10 16 rfl rfl)
theorem dX8_cut_251 : decode cX8_cut 251 = .ok (.iload_n 3, 1) := dk_29 (dk_at dksX8_cut_10 17 rfl rfl)
theorem dX8_cut_252 : decode cX8_cut 252 = .ok (.iconst 4, 1) := dk_7 (dk_at dksX8_cut_10 18 rfl rfl)
theorem dX8_cut_253 : decode cX8_cut 253 = .ok (.if_icmp .le 7, 3) := dk_164 0 7 (dk_at dksX8_cut_10 19 rfl rfl)
theorem dX8_cut_256 : decode cX8_cut 256 = .ok (.iconst 3, 1) := dk_6 (dk_at dksX8_cut_10 22 rfl rfl)
theorem dX8_cut_257 : decode cX8_cut 257 = .ok (.goto 4, 3) := dk_167 0 4 (dk_at dksX8_cut_11 0 rfl rfl)
theorem dX8_cut_260 : decode cX8_cut 260 = .ok (.iconst 2, 1) := dk_5 (dk_at dksX8_cut_11 3 rfl rfl)
theorem dX8_cut_261 : decode cX8_cut 261 = .ok (.iload_n 1, 1) := dk_27 (dk_at dksX8_cut_11 4 rfl rfl)
theorem dX8_cut_262 : decode cX8_cut 262 = .ok (.iload 4, 2) := dk_21 4 (dk_at dksX8_cut_11 5 rfl rfl)
theorem dX8_cut_264 : decode cX8_cut 264 = .ok (.lconst 0, 1) := dk_9 (dk_at dksX8_cut_11 7 rfl rfl)
theorem dX8_cut_265 : decode cX8_cut 265 = .ok (.invokevirtual 233, 3) := dk_182 0 233 (dk_at dksX8_cut_11 8 rfl rfl)
theorem dX8_cut_268 : decode cX8_cut 268 = .ok (.iload_n 1, 1) := dk_27 (dk_at dksX8_cut_11 11 rfl rfl)
theorem dX8_cut_269 : decode cX8_cut 269 = .ok (.iload_n 3, 1) := dk_29 (dk_at dksX8_cut_11 12 rfl rfl)
theorem dX8_cut_270 : decode cX8_cut 270 = .ok (.iadd, 1) := dk_96 (dk_at dksX8_cut_11 13 rfl rfl)
theorem dX8_cut_271 : decode cX8_cut 271 = .ok (.istore_n 1, 1) := dk_60 (dk_at dksX8_cut_11 14 rfl rfl)
theorem dX8_cut_272 : decode cX8_cut 272 = .ok (.goto 19, 3) := dk_167 0 19 (dk_at dksX8_cut_11 15 rfl rfl)
theorem dX8_cut_275 : decode cX8_cut 275 = .ok (.iload_n 1, 1) := dk_27 (dk_at dksX8_cut_11 18 rfl rfl)
theorem dX8_cut_276 : decode cX8_cut 276 = .ok (.aload_n 0, 1) := dk_42 (dk_at dksX8_cut_11 19 rfl rfl)
theorem dX8_cut_277 : decode cX8_cut 277 = .ok (.iload_n 1, 1) := dk_27 (dk_at dksX8_cut_11 20 rfl rfl)
theorem dX8_cut_278 : decode cX8_cut 278 = .ok (.iload_n 2, 1) := dk_28 (dk_at dksX8_cut_11 21 rfl rfl)
theorem dX8_cut_279 : decode cX8_cut 279 = .ok (.aload_n 0, 1) := dk_42 (dk_at dksX8_cut_11 22 rfl rfl)
theorem dX8_cut_280 : decode cX8_cut 280 = .ok (.iload_n 1, 1) := dk_27 (dk_at dksX8_cut_11 23 rfl rfl)
theorem dX8_cut_281 : decode cX8_cut 281 = .ok (.iconst 1, 1) := dk_4 (dk_at dksX8_cut_12 0 rfl rfl)
theorem dX8_cut_282 : decode cX8_cut 282 = .ok (.iadd, 1) := dk_96 (dk_at dksX8_cut_12 1 rfl rfl)
theorem dX8_cut_283 : decode cX8_cut 283 = .ok (.invokevirtual 229, 3) := dk_182 0 229 (dk_at dksX8_cut_12 2 rfl rfl)
theorem dX8_cut_286 : decode cX8_cut 286 = .ok (.invokevirtual 244, 3) := dk_182 0 244 (dk_at dksX8_cut_12 5 rfl rfl)
theorem dX8_cut_289 : decode cX8_cut 289 = .ok (.iadd, 1) := dk_96 (dk_at dksX8_cut_12 8 rfl rfl)
theorem dX8_cut_290 : decode cX8_cut 290 = .ok (.istore_n 1, 1) := dk_60 (dk_at dksX8_cut_12 9 rfl rfl)
theorem dX8_cut_291 : decode cX8_cut 291 = .ok (.goto (-284), 3) := dk_167 254 228 (dk_at dksX8_cut_12 10 rfl rfl)
theorem dX8_cut_294 : decode cX8_cut 294 = .ok (.return_, 1) := dk_177 (dk_at dksX8_cut_12 13 rfl rfl)
abbrev cX8_byteAt : ByteArray := prog_22_method_6_code
def yX8_byteAt : MethodName := ⟨RX8, "byteAt", "(I)I"⟩
def dkwX8_byteAt_0 : List UInt8 := [27, 42, 180, 0, 217, 162, 0, 16, 42, 180, 0, 17, 27, 51, 17, 0, 255, 126, 167, 0, 4, 3, 172]
abbrev dktX8_byteAt_0 : List UInt8 := dkwX8_byteAt_0 ++ []
theorem dksX8_byteAt_0 : cX8_byteAt.data.toList.drop 0 = dktX8_byteAt_0 := by decide +kernel
theorem dX8_byteAt_0 : decode cX8_byteAt 0 = .ok (.iload_n 1, 1) := dk_27 (dk_at dksX8_byteAt_0 0 rfl rfl)
theorem dX8_byteAt_1 : decode cX8_byteAt 1 = .ok (.aload_n 0, 1) := dk_42 (dk_at dksX8_byteAt_0 1 rfl rfl)
theorem dX8_byteAt_2 : decode cX8_byteAt 2 = .ok (.getfield 217, 3) := dk_180 0 217 (dk_at dksX8_byteAt_0 2 rfl rfl)
theorem dX8_byteAt_5 : decode cX8_byteAt 5 = .ok (.if_icmp .ge 16, 3) := dk_162 0 16 (dk_at dksX8_byteAt_0 5 rfl rfl)
theorem dX8_byteAt_8 : decode cX8_byteAt 8 = .ok (.aload_n 0, 1) := dk_42 (dk_at dksX8_byteAt_0 8 rfl rfl)
theorem dX8_byteAt_9 : decode cX8_byteAt 9 = .ok (.getfield 17, 3) := dk_180 0 17 (dk_at dksX8_byteAt_0 9 rfl rfl)
theorem dX8_byteAt_12 : decode cX8_byteAt 12 = .ok (.iload_n 1, 1) := dk_27 (dk_at dksX8_byteAt_0 12 rfl rfl)
theorem dX8_byteAt_13 : decode cX8_byteAt 13 = .ok (.baload, 1) := dk_51 (dk_at dksX8_byteAt_0 13 rfl rfl)
theorem dX8_byteAt_14 : decode cX8_byteAt 14 = .ok (.sipush 255, 3) := dk_17 0 255 (dk_at dksX8_byteAt_0 14 rfl rfl)
theorem dX8_byteAt_17 : decode cX8_byteAt 17 = .ok (.iand, 1) := dk_126 (dk_at dksX8_byteAt_0 17 rfl rfl)
theorem dX8_byteAt_18 : decode cX8_byteAt 18 = .ok (.goto 4, 3) := dk_167 0 4 (dk_at dksX8_byteAt_0 18 rfl rfl)
theorem dX8_byteAt_21 : decode cX8_byteAt 21 = .ok (.iconst 0, 1) := dk_3 (dk_at dksX8_byteAt_0 21 rfl rfl)
theorem dX8_byteAt_22 : decode cX8_byteAt 22 = .ok (.ireturn, 1) := dk_172 (dk_at dksX8_byteAt_0 22 rfl rfl)
abbrev cX8_token : ByteArray := prog_22_method_11_code
def yX8_token : MethodName := ⟨RX8, "token", "(IIIJ)V"⟩
def dkwX8_token_2 : List UInt8 := [181, 0, 226, 177]
abbrev dktX8_token_2 : List UInt8 := dkwX8_token_2 ++ []
def dkwX8_token_1 : List UInt8 := [42, 180, 0, 226, 29, 79, 42, 180, 0, 30, 42, 180, 0, 226, 22, 4, 80, 42, 89, 180, 0, 226, 4, 96]
abbrev dktX8_token_1 : List UInt8 := dkwX8_token_1 ++ dktX8_token_2
def dkwX8_token_0 : List UInt8 := [42, 180, 0, 20, 42, 180, 0, 226, 27, 79, 42, 180, 0, 24, 42, 180, 0, 226, 28, 79, 42, 180, 0, 27]
abbrev dktX8_token_0 : List UInt8 := dkwX8_token_0 ++ dktX8_token_1
theorem dksX8_token_0 : cX8_token.data.toList.drop 0 = dktX8_token_0 := by decide +kernel
theorem dksX8_token_1 : cX8_token.data.toList.drop 24 = dktX8_token_1 := dk_seg dksX8_token_0 24 rfl rfl
theorem dksX8_token_2 : cX8_token.data.toList.drop 48 = dktX8_token_2 := dk_seg dksX8_token_1 24 rfl rfl
theorem dX8_token_0 : decode cX8_token 0 = .ok (.aload_n 0, 1) := dk_42 (dk_at dksX8_token_0 0 rfl rfl)
theorem dX8_token_1 : decode cX8_token 1 = .ok (.getfield 20, 3) := dk_180 0 20 (dk_at dksX8_token_0 1 rfl rfl)
theorem dX8_token_4 : decode cX8_token 4 = .ok (.aload_n 0, 1) := dk_42 (dk_at dksX8_token_0 4 rfl rfl)
theorem dX8_token_5 : decode cX8_token 5 = .ok (.getfield 226, 3) := dk_180 0 226 (dk_at dksX8_token_0 5 rfl rfl)
theorem dX8_token_8 : decode cX8_token 8 = .ok (.iload_n 1, 1) := dk_27 (dk_at dksX8_token_0 8 rfl rfl)
theorem dX8_token_9 : decode cX8_token 9 = .ok (.iastore, 1) := dk_79 (dk_at dksX8_token_0 9 rfl rfl)
theorem dX8_token_10 : decode cX8_token 10 = .ok (.aload_n 0, 1) := dk_42 (dk_at dksX8_token_0 10 rfl rfl)
theorem dX8_token_11 : decode cX8_token 11 = .ok (.getfield 24, 3) := dk_180 0 24 (dk_at dksX8_token_0 11 rfl rfl)
theorem dX8_token_14 : decode cX8_token 14 = .ok (.aload_n 0, 1) := dk_42 (dk_at dksX8_token_0 14 rfl rfl)
theorem dX8_token_15 : decode cX8_token 15 = .ok (.getfield 226, 3) := dk_180 0 226 (dk_at dksX8_token_0 15 rfl rfl)
theorem dX8_token_18 : decode cX8_token 18 = .ok (.iload_n 2, 1) := dk_28 (dk_at dksX8_token_0 18 rfl rfl)
theorem dX8_token_19 : decode cX8_token 19 = .ok (.iastore, 1) := dk_79 (dk_at dksX8_token_0 19 rfl rfl)
theorem dX8_token_20 : decode cX8_token 20 = .ok (.aload_n 0, 1) := dk_42 (dk_at dksX8_token_0 20 rfl rfl)
theorem dX8_token_21 : decode cX8_token 21 = .ok (.getfield 27, 3) := dk_180 0 27 (dk_at dksX8_token_0 21 rfl rfl)
theorem dX8_token_24 : decode cX8_token 24 = .ok (.aload_n 0, 1) := dk_42 (dk_at dksX8_token_1 0 rfl rfl)
theorem dX8_token_25 : decode cX8_token 25 = .ok (.getfield 226, 3) := dk_180 0 226 (dk_at dksX8_token_1 1 rfl rfl)
theorem dX8_token_28 : decode cX8_token 28 = .ok (.iload_n 3, 1) := dk_29 (dk_at dksX8_token_1 4 rfl rfl)
theorem dX8_token_29 : decode cX8_token 29 = .ok (.iastore, 1) := dk_79 (dk_at dksX8_token_1 5 rfl rfl)
theorem dX8_token_30 : decode cX8_token 30 = .ok (.aload_n 0, 1) := dk_42 (dk_at dksX8_token_1 6 rfl rfl)
theorem dX8_token_31 : decode cX8_token 31 = .ok (.getfield 30, 3) := dk_180 0 30 (dk_at dksX8_token_1 7 rfl rfl)
theorem dX8_token_34 : decode cX8_token 34 = .ok (.aload_n 0, 1) := dk_42 (dk_at dksX8_token_1 10 rfl rfl)
theorem dX8_token_35 : decode cX8_token 35 = .ok (.getfield 226, 3) := dk_180 0 226 (dk_at dksX8_token_1 11 rfl rfl)
theorem dX8_token_38 : decode cX8_token 38 = .ok (.lload 4, 2) := dk_22 4 (dk_at dksX8_token_1 14 rfl rfl)
theorem dX8_token_40 : decode cX8_token 40 = .ok (.lastore, 1) := dk_80 (dk_at dksX8_token_1 16 rfl rfl)
theorem dX8_token_41 : decode cX8_token 41 = .ok (.aload_n 0, 1) := dk_42 (dk_at dksX8_token_1 17 rfl rfl)
theorem dX8_token_42 : decode cX8_token 42 = .ok (.dup, 1) := dk_89 (dk_at dksX8_token_1 18 rfl rfl)
theorem dX8_token_43 : decode cX8_token 43 = .ok (.getfield 226, 3) := dk_180 0 226 (dk_at dksX8_token_1 19 rfl rfl)
theorem dX8_token_46 : decode cX8_token 46 = .ok (.iconst 1, 1) := dk_4 (dk_at dksX8_token_1 22 rfl rfl)
theorem dX8_token_47 : decode cX8_token 47 = .ok (.iadd, 1) := dk_96 (dk_at dksX8_token_1 23 rfl rfl)
theorem dX8_token_48 : decode cX8_token 48 = .ok (.putfield 226, 3) := dk_181 0 226 (dk_at dksX8_token_2 0 rfl rfl)
theorem dX8_token_51 : decode cX8_token 51 = .ok (.return_, 1) := dk_177 (dk_at dksX8_token_2 3 rfl rfl)
abbrev cX8_isLetter : ByteArray := prog_22_method_8_code
def yX8_isLetter : MethodName := ⟨RX8, "isLetter", "(I)Z"⟩
def dkwX8_isLetter_0 : List UInt8 := [26, 16, 97, 161, 0, 13, 26, 16, 122, 163, 0, 7, 4, 167, 0, 4, 3, 172]
abbrev dktX8_isLetter_0 : List UInt8 := dkwX8_isLetter_0 ++ []
theorem dksX8_isLetter_0 : cX8_isLetter.data.toList.drop 0 = dktX8_isLetter_0 := by decide +kernel
theorem dX8_isLetter_0 : decode cX8_isLetter 0 = .ok (.iload_n 0, 1) := dk_26 (dk_at dksX8_isLetter_0 0 rfl rfl)
theorem dX8_isLetter_1 : decode cX8_isLetter 1 = .ok (.bipush 97, 2) := dk_16 97 (dk_at dksX8_isLetter_0 1 rfl rfl)
theorem dX8_isLetter_3 : decode cX8_isLetter 3 = .ok (.if_icmp .lt 13, 3) := dk_161 0 13 (dk_at dksX8_isLetter_0 3 rfl rfl)
theorem dX8_isLetter_6 : decode cX8_isLetter 6 = .ok (.iload_n 0, 1) := dk_26 (dk_at dksX8_isLetter_0 6 rfl rfl)
theorem dX8_isLetter_7 : decode cX8_isLetter 7 = .ok (.bipush 122, 2) := dk_16 122 (dk_at dksX8_isLetter_0 7 rfl rfl)
theorem dX8_isLetter_9 : decode cX8_isLetter 9 = .ok (.if_icmp .gt 7, 3) := dk_163 0 7 (dk_at dksX8_isLetter_0 9 rfl rfl)
theorem dX8_isLetter_12 : decode cX8_isLetter 12 = .ok (.iconst 1, 1) := dk_4 (dk_at dksX8_isLetter_0 12 rfl rfl)
theorem dX8_isLetter_13 : decode cX8_isLetter 13 = .ok (.goto 4, 3) := dk_167 0 4 (dk_at dksX8_isLetter_0 13 rfl rfl)
theorem dX8_isLetter_16 : decode cX8_isLetter 16 = .ok (.iconst 0, 1) := dk_3 (dk_at dksX8_isLetter_0 16 rfl rfl)
theorem dX8_isLetter_17 : decode cX8_isLetter 17 = .ok (.ireturn, 1) := dk_172 (dk_at dksX8_isLetter_0 17 rfl rfl)
abbrev cX8_isDigit : ByteArray := prog_22_method_7_code
def yX8_isDigit : MethodName := ⟨RX8, "isDigit", "(I)Z"⟩
def dkwX8_isDigit_0 : List UInt8 := [26, 16, 48, 161, 0, 13, 26, 16, 57, 163, 0, 7, 4, 167, 0, 4, 3, 172]
abbrev dktX8_isDigit_0 : List UInt8 := dkwX8_isDigit_0 ++ []
theorem dksX8_isDigit_0 : cX8_isDigit.data.toList.drop 0 = dktX8_isDigit_0 := by decide +kernel
theorem dX8_isDigit_0 : decode cX8_isDigit 0 = .ok (.iload_n 0, 1) := dk_26 (dk_at dksX8_isDigit_0 0 rfl rfl)
theorem dX8_isDigit_1 : decode cX8_isDigit 1 = .ok (.bipush 48, 2) := dk_16 48 (dk_at dksX8_isDigit_0 1 rfl rfl)
theorem dX8_isDigit_3 : decode cX8_isDigit 3 = .ok (.if_icmp .lt 13, 3) := dk_161 0 13 (dk_at dksX8_isDigit_0 3 rfl rfl)
theorem dX8_isDigit_6 : decode cX8_isDigit 6 = .ok (.iload_n 0, 1) := dk_26 (dk_at dksX8_isDigit_0 6 rfl rfl)
theorem dX8_isDigit_7 : decode cX8_isDigit 7 = .ok (.bipush 57, 2) := dk_16 57 (dk_at dksX8_isDigit_0 7 rfl rfl)
theorem dX8_isDigit_9 : decode cX8_isDigit 9 = .ok (.if_icmp .gt 7, 3) := dk_163 0 7 (dk_at dksX8_isDigit_0 9 rfl rfl)
theorem dX8_isDigit_12 : decode cX8_isDigit 12 = .ok (.iconst 1, 1) := dk_4 (dk_at dksX8_isDigit_0 12 rfl rfl)
theorem dX8_isDigit_13 : decode cX8_isDigit 13 = .ok (.goto 4, 3) := dk_167 0 4 (dk_at dksX8_isDigit_0 13 rfl rfl)
theorem dX8_isDigit_16 : decode cX8_isDigit 16 = .ok (.iconst 0, 1) := dk_3 (dk_at dksX8_isDigit_0 16 rfl rfl)
theorem dX8_isDigit_17 : decode cX8_isDigit 17 = .ok (.ireturn, 1) := dk_172 (dk_at dksX8_isDigit_0 17 rfl rfl)
abbrev cX8_sign : ByteArray := prog_22_method_13_code
def yX8_sign : MethodName := ⟨RX8, "sign", "(III)I"⟩
def dkwX8_sign_4 : List UInt8 := [16, 13, 54, 4, 42, 21, 4, 27, 3, 9, 182, 0, 233, 4, 172]
abbrev dktX8_sign_4 : List UInt8 := dkwX8_sign_4 ++ []
def dkwX8_sign_3 : List UInt8 := [160, 0, 7, 16, 10, 54, 4, 28, 16, 47, 160, 0, 7, 16, 15, 54, 4, 28, 16, 60, 160, 0, 7]
abbrev dktX8_sign_3 : List UInt8 := dkwX8_sign_3 ++ dktX8_sign_4
def dkwX8_sign_2 : List UInt8 := [16, 43, 160, 0, 7, 16, 8, 54, 4, 28, 16, 45, 160, 0, 7, 16, 9, 54, 4, 28, 16, 42]
abbrev dktX8_sign_2 : List UInt8 := dkwX8_sign_2 ++ dktX8_sign_3
def dkwX8_sign_1 : List UInt8 := [160, 0, 8, 16, 6, 167, 0, 15, 28, 16, 41, 160, 0, 8, 16, 7, 167, 0, 4, 6, 54, 4, 28]
abbrev dktX8_sign_1 : List UInt8 := dkwX8_sign_1 ++ dktX8_sign_2
def dkwX8_sign_0 : List UInt8 := [28, 16, 59, 160, 0, 7, 7, 167, 0, 36, 28, 16, 61, 160, 0, 7, 8, 167, 0, 26, 28, 16, 40]
abbrev dktX8_sign_0 : List UInt8 := dkwX8_sign_0 ++ dktX8_sign_1
theorem dksX8_sign_0 : cX8_sign.data.toList.drop 0 = dktX8_sign_0 := by decide +kernel
theorem dksX8_sign_1 : cX8_sign.data.toList.drop 23 = dktX8_sign_1 := dk_seg dksX8_sign_0 23 rfl rfl
theorem dksX8_sign_2 : cX8_sign.data.toList.drop 46 = dktX8_sign_2 := dk_seg dksX8_sign_1 23 rfl rfl
theorem dksX8_sign_3 : cX8_sign.data.toList.drop 68 = dktX8_sign_3 := dk_seg dksX8_sign_2 22 rfl rfl
theorem dksX8_sign_4 : cX8_sign.data.toList.drop 91 = dktX8_sign_4 := dk_seg dksX8_sign_3 23 rfl rfl
theorem dX8_sign_0 : decode cX8_sign 0 = .ok (.iload_n 2, 1) := dk_28 (dk_at dksX8_sign_0 0 rfl rfl)
theorem dX8_sign_1 : decode cX8_sign 1 = .ok (.bipush 59, 2) := dk_16 59 (dk_at dksX8_sign_0 1 rfl rfl)
theorem dX8_sign_3 : decode cX8_sign 3 = .ok (.if_icmp .ne 7, 3) := dk_160 0 7 (dk_at dksX8_sign_0 3 rfl rfl)
theorem dX8_sign_6 : decode cX8_sign 6 = .ok (.iconst 4, 1) := dk_7 (dk_at dksX8_sign_0 6 rfl rfl)
theorem dX8_sign_7 : decode cX8_sign 7 = .ok (.goto 36, 3) := dk_167 0 36 (dk_at dksX8_sign_0 7 rfl rfl)
theorem dX8_sign_10 : decode cX8_sign 10 = .ok (.iload_n 2, 1) := dk_28 (dk_at dksX8_sign_0 10 rfl rfl)
theorem dX8_sign_11 : decode cX8_sign 11 = .ok (.bipush 61, 2) := dk_16 61 (dk_at dksX8_sign_0 11 rfl rfl)
theorem dX8_sign_13 : decode cX8_sign 13 = .ok (.if_icmp .ne 7, 3) := dk_160 0 7 (dk_at dksX8_sign_0 13 rfl rfl)
theorem dX8_sign_16 : decode cX8_sign 16 = .ok (.iconst 5, 1) := dk_8 (dk_at dksX8_sign_0 16 rfl rfl)
theorem dX8_sign_17 : decode cX8_sign 17 = .ok (.goto 26, 3) := dk_167 0 26 (dk_at dksX8_sign_0 17 rfl rfl)
theorem dX8_sign_20 : decode cX8_sign 20 = .ok (.iload_n 2, 1) := dk_28 (dk_at dksX8_sign_0 20 rfl rfl)
theorem dX8_sign_21 : decode cX8_sign 21 = .ok (.bipush 40, 2) := dk_16 40 (dk_at dksX8_sign_0 21 rfl rfl)
theorem dX8_sign_23 : decode cX8_sign 23 = .ok (.if_icmp .ne 8, 3) := dk_160 0 8 (dk_at dksX8_sign_1 0 rfl rfl)
theorem dX8_sign_26 : decode cX8_sign 26 = .ok (.bipush 6, 2) := dk_16 6 (dk_at dksX8_sign_1 3 rfl rfl)
theorem dX8_sign_28 : decode cX8_sign 28 = .ok (.goto 15, 3) := dk_167 0 15 (dk_at dksX8_sign_1 5 rfl rfl)
theorem dX8_sign_31 : decode cX8_sign 31 = .ok (.iload_n 2, 1) := dk_28 (dk_at dksX8_sign_1 8 rfl rfl)
theorem dX8_sign_32 : decode cX8_sign 32 = .ok (.bipush 41, 2) := dk_16 41 (dk_at dksX8_sign_1 9 rfl rfl)
theorem dX8_sign_34 : decode cX8_sign 34 = .ok (.if_icmp .ne 8, 3) := dk_160 0 8 (dk_at dksX8_sign_1 11 rfl rfl)
theorem dX8_sign_37 : decode cX8_sign 37 = .ok (.bipush 7, 2) := dk_16 7 (dk_at dksX8_sign_1 14 rfl rfl)
theorem dX8_sign_39 : decode cX8_sign 39 = .ok (.goto 4, 3) := dk_167 0 4 (dk_at dksX8_sign_1 16 rfl rfl)
theorem dX8_sign_42 : decode cX8_sign 42 = .ok (.iconst 3, 1) := dk_6 (dk_at dksX8_sign_1 19 rfl rfl)
theorem dX8_sign_43 : decode cX8_sign 43 = .ok (.istore 4, 2) := dk_54 4 (dk_at dksX8_sign_1 20 rfl rfl)
theorem dX8_sign_45 : decode cX8_sign 45 = .ok (.iload_n 2, 1) := dk_28 (dk_at dksX8_sign_1 22 rfl rfl)
theorem dX8_sign_46 : decode cX8_sign 46 = .ok (.bipush 43, 2) := dk_16 43 (dk_at dksX8_sign_2 0 rfl rfl)
theorem dX8_sign_48 : decode cX8_sign 48 = .ok (.if_icmp .ne 7, 3) := dk_160 0 7 (dk_at dksX8_sign_2 2 rfl rfl)
theorem dX8_sign_51 : decode cX8_sign 51 = .ok (.bipush 8, 2) := dk_16 8 (dk_at dksX8_sign_2 5 rfl rfl)
theorem dX8_sign_53 : decode cX8_sign 53 = .ok (.istore 4, 2) := dk_54 4 (dk_at dksX8_sign_2 7 rfl rfl)
theorem dX8_sign_55 : decode cX8_sign 55 = .ok (.iload_n 2, 1) := dk_28 (dk_at dksX8_sign_2 9 rfl rfl)
theorem dX8_sign_56 : decode cX8_sign 56 = .ok (.bipush 45, 2) := dk_16 45 (dk_at dksX8_sign_2 10 rfl rfl)
theorem dX8_sign_58 : decode cX8_sign 58 = .ok (.if_icmp .ne 7, 3) := dk_160 0 7 (dk_at dksX8_sign_2 12 rfl rfl)
theorem dX8_sign_61 : decode cX8_sign 61 = .ok (.bipush 9, 2) := dk_16 9 (dk_at dksX8_sign_2 15 rfl rfl)
theorem dX8_sign_63 : decode cX8_sign 63 = .ok (.istore 4, 2) := dk_54 4 (dk_at dksX8_sign_2 17 rfl rfl)
theorem dX8_sign_65 : decode cX8_sign 65 = .ok (.iload_n 2, 1) := dk_28 (dk_at dksX8_sign_2 19 rfl rfl)
theorem dX8_sign_66 : decode cX8_sign 66 = .ok (.bipush 42, 2) := dk_16 42 (dk_at dksX8_sign_2 20 rfl rfl)
theorem dX8_sign_68 : decode cX8_sign 68 = .ok (.if_icmp .ne 7, 3) := dk_160 0 7 (dk_at dksX8_sign_3 0 rfl rfl)
theorem dX8_sign_71 : decode cX8_sign 71 = .ok (.bipush 10, 2) := dk_16 10 (dk_at dksX8_sign_3 3 rfl rfl)
theorem dX8_sign_73 : decode cX8_sign 73 = .ok (.istore 4, 2) := dk_54 4 (dk_at dksX8_sign_3 5 rfl rfl)
theorem dX8_sign_75 : decode cX8_sign 75 = .ok (.iload_n 2, 1) := dk_28 (dk_at dksX8_sign_3 7 rfl rfl)
theorem dX8_sign_76 : decode cX8_sign 76 = .ok (.bipush 47, 2) := dk_16 47 (dk_at dksX8_sign_3 8 rfl rfl)
theorem dX8_sign_78 : decode cX8_sign 78 = .ok (.if_icmp .ne 7, 3) := dk_160 0 7 (dk_at dksX8_sign_3 10 rfl rfl)
theorem dX8_sign_81 : decode cX8_sign 81 = .ok (.bipush 15, 2) := dk_16 15 (dk_at dksX8_sign_3 13 rfl rfl)
theorem dX8_sign_83 : decode cX8_sign 83 = .ok (.istore 4, 2) := dk_54 4 (dk_at dksX8_sign_3 15 rfl rfl)
theorem dX8_sign_85 : decode cX8_sign 85 = .ok (.iload_n 2, 1) := dk_28 (dk_at dksX8_sign_3 17 rfl rfl)
theorem dX8_sign_86 : decode cX8_sign 86 = .ok (.bipush 60, 2) := dk_16 60 (dk_at dksX8_sign_3 18 rfl rfl)
theorem dX8_sign_88 : decode cX8_sign 88 = .ok (.if_icmp .ne 7, 3) := dk_160 0 7 (dk_at dksX8_sign_3 20 rfl rfl)
theorem dX8_sign_91 : decode cX8_sign 91 = .ok (.bipush 13, 2) := dk_16 13 (dk_at dksX8_sign_4 0 rfl rfl)
theorem dX8_sign_93 : decode cX8_sign 93 = .ok (.istore 4, 2) := dk_54 4 (dk_at dksX8_sign_4 2 rfl rfl)
theorem dX8_sign_95 : decode cX8_sign 95 = .ok (.aload_n 0, 1) := dk_42 (dk_at dksX8_sign_4 4 rfl rfl)
theorem dX8_sign_96 : decode cX8_sign 96 = .ok (.iload 4, 2) := dk_21 4 (dk_at dksX8_sign_4 5 rfl rfl)
theorem dX8_sign_98 : decode cX8_sign 98 = .ok (.iload_n 1, 1) := dk_27 (dk_at dksX8_sign_4 7 rfl rfl)
theorem dX8_sign_99 : decode cX8_sign 99 = .ok (.iconst 0, 1) := dk_3 (dk_at dksX8_sign_4 8 rfl rfl)
theorem dX8_sign_100 : decode cX8_sign 100 = .ok (.lconst 0, 1) := dk_9 (dk_at dksX8_sign_4 9 rfl rfl)
theorem dX8_sign_101 : decode cX8_sign 101 = .ok (.invokevirtual 233, 3) := dk_182 0 233 (dk_at dksX8_sign_4 10 rfl rfl)
theorem dX8_sign_104 : decode cX8_sign 104 = .ok (.iconst 1, 1) := dk_4 (dk_at dksX8_sign_4 13 rfl rfl)
theorem dX8_sign_105 : decode cX8_sign 105 = .ok (.ireturn, 1) := dk_172 (dk_at dksX8_sign_4 14 rfl rfl)
abbrev cX8_is : ByteArray := prog_22_method_14_code
def yX8_is : MethodName := ⟨RX8, "is", "(I)Z"⟩
def dkwX8_is_1 : List UInt8 := [3, 172]
abbrev dktX8_is_1 : List UInt8 := dkwX8_is_1 ++ []
def dkwX8_is_0 : List UInt8 := [42, 180, 0, 248, 154, 0, 20, 42, 180, 0, 20, 42, 180, 0, 251, 46, 27, 160, 0, 7, 4, 167, 0, 4]
abbrev dktX8_is_0 : List UInt8 := dkwX8_is_0 ++ dktX8_is_1
theorem dksX8_is_0 : cX8_is.data.toList.drop 0 = dktX8_is_0 := by decide +kernel
theorem dksX8_is_1 : cX8_is.data.toList.drop 24 = dktX8_is_1 := dk_seg dksX8_is_0 24 rfl rfl
theorem dX8_is_0 : decode cX8_is 0 = .ok (.aload_n 0, 1) := dk_42 (dk_at dksX8_is_0 0 rfl rfl)
theorem dX8_is_1 : decode cX8_is 1 = .ok (.getfield 248, 3) := dk_180 0 248 (dk_at dksX8_is_0 1 rfl rfl)
theorem dX8_is_4 : decode cX8_is 4 = .ok (.ifCond .ne 20, 3) := dk_154 0 20 (dk_at dksX8_is_0 4 rfl rfl)
theorem dX8_is_7 : decode cX8_is 7 = .ok (.aload_n 0, 1) := dk_42 (dk_at dksX8_is_0 7 rfl rfl)
theorem dX8_is_8 : decode cX8_is 8 = .ok (.getfield 20, 3) := dk_180 0 20 (dk_at dksX8_is_0 8 rfl rfl)
theorem dX8_is_11 : decode cX8_is 11 = .ok (.aload_n 0, 1) := dk_42 (dk_at dksX8_is_0 11 rfl rfl)
theorem dX8_is_12 : decode cX8_is 12 = .ok (.getfield 251, 3) := dk_180 0 251 (dk_at dksX8_is_0 12 rfl rfl)
theorem dX8_is_15 : decode cX8_is 15 = .ok (.iaload, 1) := dk_46 (dk_at dksX8_is_0 15 rfl rfl)
theorem dX8_is_16 : decode cX8_is 16 = .ok (.iload_n 1, 1) := dk_27 (dk_at dksX8_is_0 16 rfl rfl)
theorem dX8_is_17 : decode cX8_is 17 = .ok (.if_icmp .ne 7, 3) := dk_160 0 7 (dk_at dksX8_is_0 17 rfl rfl)
theorem dX8_is_20 : decode cX8_is 20 = .ok (.iconst 1, 1) := dk_4 (dk_at dksX8_is_0 20 rfl rfl)
theorem dX8_is_21 : decode cX8_is 21 = .ok (.goto 4, 3) := dk_167 0 4 (dk_at dksX8_is_0 21 rfl rfl)
theorem dX8_is_24 : decode cX8_is 24 = .ok (.iconst 0, 1) := dk_3 (dk_at dksX8_is_1 0 rfl rfl)
theorem dX8_is_25 : decode cX8_is 25 = .ok (.ireturn, 1) := dk_172 (dk_at dksX8_is_1 1 rfl rfl)
abbrev cX8_tell : ByteArray := prog_22_method_23_code
def yX8_tell : MethodName := ⟨RX8, "tell", "()V"⟩
def dkwX8_tell_11 : List UInt8 := [182, 1, 74, 79, 42, 7, 182, 1, 78, 167, 0, 8, 42, 4, 182, 1, 7, 177]
abbrev dktX8_tell_11 : List UInt8 := dkwX8_tell_11 ++ []
def dkwX8_tell_10 : List UInt8 := [182, 1, 71, 167, 0, 37, 42, 182, 1, 13, 42, 180, 0, 140, 42, 180, 1, 25, 42, 4, 17, 2, 88]
abbrev dktX8_tell_10 : List UInt8 := dkwX8_tell_10 ++ dktX8_tell_11
def dkwX8_tell_9 : List UInt8 := [42, 180, 0, 116, 42, 180, 1, 25, 46, 16, 8, 182, 1, 49, 42, 180, 0, 248, 154, 0, 44, 42]
abbrev dktX8_tell_9 : List UInt8 := dkwX8_tell_9 ++ dktX8_tell_10
def dkwX8_tell_8 : List UInt8 := [180, 1, 25, 46, 16, 6, 182, 1, 49, 42, 180, 0, 248, 154, 0, 73, 42, 182, 1, 68, 167, 0, 66, 42]
abbrev dktX8_tell_8 : List UInt8 := dkwX8_tell_8 ++ dktX8_tell_9
def dkwX8_tell_7 : List UInt8 := [42, 182, 1, 13, 42, 42, 180, 0, 251, 4, 100, 182, 1, 65, 167, 0, 95, 42, 42, 180, 0, 104, 42]
abbrev dktX8_tell_7 : List UInt8 := dkwX8_tell_7 ++ dktX8_tell_8
def dkwX8_tell_6 : List UInt8 := [42, 180, 1, 25, 46, 16, 6, 182, 1, 49, 42, 180, 0, 248, 154, 0, 119, 42, 182, 1, 62, 167, 0, 112]
abbrev dktX8_tell_6 : List UInt8 := dkwX8_tell_6 ++ dktX8_tell_7
def dkwX8_tell_5 : List UInt8 := [16, 6, 182, 1, 49, 42, 180, 0, 248, 154, 0, 148, 42, 182, 1, 59, 167, 0, 141, 42, 42, 180, 0, 74]
abbrev dktX8_tell_5 : List UInt8 := dkwX8_tell_5 ++ dktX8_tell_6
def dkwX8_tell_4 : List UInt8 := [180, 0, 248, 154, 0, 177, 42, 182, 1, 56, 167, 0, 170, 42, 42, 180, 0, 68, 42, 180, 1, 25, 46]
abbrev dktX8_tell_4 : List UInt8 := dkwX8_tell_4 ++ dktX8_tell_5
def dkwX8_tell_3 : List UInt8 := [182, 1, 53, 167, 0, 199, 42, 42, 180, 0, 52, 42, 180, 1, 25, 46, 16, 12, 182, 1, 49, 42]
abbrev dktX8_tell_3 : List UInt8 := dkwX8_tell_3 ++ dktX8_tell_4
def dkwX8_tell_2 : List UInt8 := [42, 42, 180, 0, 49, 42, 180, 1, 25, 46, 16, 8, 182, 1, 49, 42, 180, 0, 248, 154, 0, 206, 42]
abbrev dktX8_tell_2 : List UInt8 := dkwX8_tell_2 ++ dktX8_tell_3
def dkwX8_tell_1 : List UInt8 := [170, 0, 0, 0, 0, 1, 39, 0, 0, 0, 20, 0, 0, 0, 34, 0, 0, 0, 75, 0, 0, 0, 104, 0, 0, 1, 39, 0, 0, 0, 133, 0, 0, 0, 162, 0, 0, 0, 191, 0, 0, 1, 39, 0, 0, 1, 39, 0, 0, 0, 208, 0, 0, 1, 39, 0, 0, 0, 237, 0, 0, 1, 39, 0, 0, 1, 39, 0, 0, 1, 39, 0, 0, 1, 10]
abbrev dktX8_tell_1 : List UInt8 := dkwX8_tell_1 ++ dktX8_tell_2
def dkwX8_tell_0 : List UInt8 := [42, 180, 0, 20, 42, 180, 0, 251, 46]
abbrev dktX8_tell_0 : List UInt8 := dkwX8_tell_0 ++ dktX8_tell_1
theorem dksX8_tell_0 : cX8_tell.data.toList.drop 0 = dktX8_tell_0 := by decide +kernel
theorem dksX8_tell_1 : cX8_tell.data.toList.drop 9 = dktX8_tell_1 := dk_seg dksX8_tell_0 9 rfl rfl
theorem dksX8_tell_2 : cX8_tell.data.toList.drop 84 = dktX8_tell_2 := dk_seg dksX8_tell_1 75 rfl rfl
theorem dksX8_tell_3 : cX8_tell.data.toList.drop 107 = dktX8_tell_3 := dk_seg dksX8_tell_2 23 rfl rfl
theorem dksX8_tell_4 : cX8_tell.data.toList.drop 129 = dktX8_tell_4 := dk_seg dksX8_tell_3 22 rfl rfl
theorem dksX8_tell_5 : cX8_tell.data.toList.drop 152 = dktX8_tell_5 := dk_seg dksX8_tell_4 23 rfl rfl
theorem dksX8_tell_6 : cX8_tell.data.toList.drop 176 = dktX8_tell_6 := dk_seg dksX8_tell_5 24 rfl rfl
theorem dksX8_tell_7 : cX8_tell.data.toList.drop 200 = dktX8_tell_7 := dk_seg dksX8_tell_6 24 rfl rfl
theorem dksX8_tell_8 : cX8_tell.data.toList.drop 223 = dktX8_tell_8 := dk_seg dksX8_tell_7 23 rfl rfl
theorem dksX8_tell_9 : cX8_tell.data.toList.drop 247 = dktX8_tell_9 := dk_seg dksX8_tell_8 24 rfl rfl
theorem dksX8_tell_10 : cX8_tell.data.toList.drop 269 = dktX8_tell_10 := dk_seg dksX8_tell_9 22 rfl rfl
theorem dksX8_tell_11 : cX8_tell.data.toList.drop 292 = dktX8_tell_11 := dk_seg dksX8_tell_10 23 rfl rfl
theorem dX8_tell_0 : decode cX8_tell 0 = .ok (.aload_n 0, 1) := dk_42 (dk_at dksX8_tell_0 0 rfl rfl)
theorem dX8_tell_1 : decode cX8_tell 1 = .ok (.getfield 20, 3) := dk_180 0 20 (dk_at dksX8_tell_0 1 rfl rfl)
theorem dX8_tell_4 : decode cX8_tell 4 = .ok (.aload_n 0, 1) := dk_42 (dk_at dksX8_tell_0 4 rfl rfl)
theorem dX8_tell_5 : decode cX8_tell 5 = .ok (.getfield 251, 3) := dk_180 0 251 (dk_at dksX8_tell_0 5 rfl rfl)
theorem dX8_tell_8 : decode cX8_tell 8 = .ok (.iaload, 1) := dk_46 (dk_at dksX8_tell_0 8 rfl rfl)
theorem dX8_tell_9 : decode cX8_tell 9 = .ok (.tableswitch 295 20 34 #[75, 104, 295, 133, 162, 191, 295, 295, 208, 295, 237, 295, 295, 295, 266], 75) := by decide +kernel
theorem dX8_tell_84 : decode cX8_tell 84 = .ok (.aload_n 0, 1) := dk_42 (dk_at dksX8_tell_2 0 rfl rfl)
theorem dX8_tell_85 : decode cX8_tell 85 = .ok (.aload_n 0, 1) := dk_42 (dk_at dksX8_tell_2 1 rfl rfl)
theorem dX8_tell_86 : decode cX8_tell 86 = .ok (.getfield 49, 3) := dk_180 0 49 (dk_at dksX8_tell_2 2 rfl rfl)
theorem dX8_tell_89 : decode cX8_tell 89 = .ok (.aload_n 0, 1) := dk_42 (dk_at dksX8_tell_2 5 rfl rfl)
theorem dX8_tell_90 : decode cX8_tell 90 = .ok (.getfield 281, 3) := dk_180 1 25 (dk_at dksX8_tell_2 6 rfl rfl)
theorem dX8_tell_93 : decode cX8_tell 93 = .ok (.iaload, 1) := dk_46 (dk_at dksX8_tell_2 9 rfl rfl)
theorem dX8_tell_94 : decode cX8_tell 94 = .ok (.bipush 8, 2) := dk_16 8 (dk_at dksX8_tell_2 10 rfl rfl)
theorem dX8_tell_96 : decode cX8_tell 96 = .ok (.invokevirtual 305, 3) := dk_182 1 49 (dk_at dksX8_tell_2 12 rfl rfl)
theorem dX8_tell_99 : decode cX8_tell 99 = .ok (.aload_n 0, 1) := dk_42 (dk_at dksX8_tell_2 15 rfl rfl)
theorem dX8_tell_100 : decode cX8_tell 100 = .ok (.getfield 248, 3) := dk_180 0 248 (dk_at dksX8_tell_2 16 rfl rfl)
theorem dX8_tell_103 : decode cX8_tell 103 = .ok (.ifCond .ne 206, 3) := dk_154 0 206 (dk_at dksX8_tell_2 19 rfl rfl)
theorem dX8_tell_106 : decode cX8_tell 106 = .ok (.aload_n 0, 1) := dk_42 (dk_at dksX8_tell_2 22 rfl rfl)
theorem dX8_tell_107 : decode cX8_tell 107 = .ok (.invokevirtual 309, 3) := dk_182 1 53 (dk_at dksX8_tell_3 0 rfl rfl)
theorem dX8_tell_110 : decode cX8_tell 110 = .ok (.goto 199, 3) := dk_167 0 199 (dk_at dksX8_tell_3 3 rfl rfl)
theorem dX8_tell_113 : decode cX8_tell 113 = .ok (.aload_n 0, 1) := dk_42 (dk_at dksX8_tell_3 6 rfl rfl)
theorem dX8_tell_114 : decode cX8_tell 114 = .ok (.aload_n 0, 1) := dk_42 (dk_at dksX8_tell_3 7 rfl rfl)
theorem dX8_tell_115 : decode cX8_tell 115 = .ok (.getfield 52, 3) := dk_180 0 52 (dk_at dksX8_tell_3 8 rfl rfl)
theorem dX8_tell_118 : decode cX8_tell 118 = .ok (.aload_n 0, 1) := dk_42 (dk_at dksX8_tell_3 11 rfl rfl)
theorem dX8_tell_119 : decode cX8_tell 119 = .ok (.getfield 281, 3) := dk_180 1 25 (dk_at dksX8_tell_3 12 rfl rfl)
theorem dX8_tell_122 : decode cX8_tell 122 = .ok (.iaload, 1) := dk_46 (dk_at dksX8_tell_3 15 rfl rfl)
theorem dX8_tell_123 : decode cX8_tell 123 = .ok (.bipush 12, 2) := dk_16 12 (dk_at dksX8_tell_3 16 rfl rfl)
theorem dX8_tell_125 : decode cX8_tell 125 = .ok (.invokevirtual 305, 3) := dk_182 1 49 (dk_at dksX8_tell_3 18 rfl rfl)
theorem dX8_tell_128 : decode cX8_tell 128 = .ok (.aload_n 0, 1) := dk_42 (dk_at dksX8_tell_3 21 rfl rfl)
theorem dX8_tell_129 : decode cX8_tell 129 = .ok (.getfield 248, 3) := dk_180 0 248 (dk_at dksX8_tell_4 0 rfl rfl)
theorem dX8_tell_132 : decode cX8_tell 132 = .ok (.ifCond .ne 177, 3) := dk_154 0 177 (dk_at dksX8_tell_4 3 rfl rfl)
theorem dX8_tell_135 : decode cX8_tell 135 = .ok (.aload_n 0, 1) := dk_42 (dk_at dksX8_tell_4 6 rfl rfl)
theorem dX8_tell_136 : decode cX8_tell 136 = .ok (.invokevirtual 312, 3) := dk_182 1 56 (dk_at dksX8_tell_4 7 rfl rfl)
theorem dX8_tell_139 : decode cX8_tell 139 = .ok (.goto 170, 3) := dk_167 0 170 (dk_at dksX8_tell_4 10 rfl rfl)
theorem dX8_tell_142 : decode cX8_tell 142 = .ok (.aload_n 0, 1) := dk_42 (dk_at dksX8_tell_4 13 rfl rfl)
theorem dX8_tell_143 : decode cX8_tell 143 = .ok (.aload_n 0, 1) := dk_42 (dk_at dksX8_tell_4 14 rfl rfl)
theorem dX8_tell_144 : decode cX8_tell 144 = .ok (.getfield 68, 3) := dk_180 0 68 (dk_at dksX8_tell_4 15 rfl rfl)
theorem dX8_tell_147 : decode cX8_tell 147 = .ok (.aload_n 0, 1) := dk_42 (dk_at dksX8_tell_4 18 rfl rfl)
theorem dX8_tell_148 : decode cX8_tell 148 = .ok (.getfield 281, 3) := dk_180 1 25 (dk_at dksX8_tell_4 19 rfl rfl)
theorem dX8_tell_151 : decode cX8_tell 151 = .ok (.iaload, 1) := dk_46 (dk_at dksX8_tell_4 22 rfl rfl)
theorem dX8_tell_152 : decode cX8_tell 152 = .ok (.bipush 6, 2) := dk_16 6 (dk_at dksX8_tell_5 0 rfl rfl)
theorem dX8_tell_154 : decode cX8_tell 154 = .ok (.invokevirtual 305, 3) := dk_182 1 49 (dk_at dksX8_tell_5 2 rfl rfl)
theorem dX8_tell_157 : decode cX8_tell 157 = .ok (.aload_n 0, 1) := dk_42 (dk_at dksX8_tell_5 5 rfl rfl)
theorem dX8_tell_158 : decode cX8_tell 158 = .ok (.getfield 248, 3) := dk_180 0 248 (dk_at dksX8_tell_5 6 rfl rfl)
theorem dX8_tell_161 : decode cX8_tell 161 = .ok (.ifCond .ne 148, 3) := dk_154 0 148 (dk_at dksX8_tell_5 9 rfl rfl)
theorem dX8_tell_164 : decode cX8_tell 164 = .ok (.aload_n 0, 1) := dk_42 (dk_at dksX8_tell_5 12 rfl rfl)
theorem dX8_tell_165 : decode cX8_tell 165 = .ok (.invokevirtual 315, 3) := dk_182 1 59 (dk_at dksX8_tell_5 13 rfl rfl)
theorem dX8_tell_168 : decode cX8_tell 168 = .ok (.goto 141, 3) := dk_167 0 141 (dk_at dksX8_tell_5 16 rfl rfl)
theorem dX8_tell_171 : decode cX8_tell 171 = .ok (.aload_n 0, 1) := dk_42 (dk_at dksX8_tell_5 19 rfl rfl)
theorem dX8_tell_172 : decode cX8_tell 172 = .ok (.aload_n 0, 1) := dk_42 (dk_at dksX8_tell_5 20 rfl rfl)
theorem dX8_tell_173 : decode cX8_tell 173 = .ok (.getfield 74, 3) := dk_180 0 74 (dk_at dksX8_tell_5 21 rfl rfl)
theorem dX8_tell_176 : decode cX8_tell 176 = .ok (.aload_n 0, 1) := dk_42 (dk_at dksX8_tell_6 0 rfl rfl)
theorem dX8_tell_177 : decode cX8_tell 177 = .ok (.getfield 281, 3) := dk_180 1 25 (dk_at dksX8_tell_6 1 rfl rfl)
theorem dX8_tell_180 : decode cX8_tell 180 = .ok (.iaload, 1) := dk_46 (dk_at dksX8_tell_6 4 rfl rfl)
theorem dX8_tell_181 : decode cX8_tell 181 = .ok (.bipush 6, 2) := dk_16 6 (dk_at dksX8_tell_6 5 rfl rfl)
theorem dX8_tell_183 : decode cX8_tell 183 = .ok (.invokevirtual 305, 3) := dk_182 1 49 (dk_at dksX8_tell_6 7 rfl rfl)
theorem dX8_tell_186 : decode cX8_tell 186 = .ok (.aload_n 0, 1) := dk_42 (dk_at dksX8_tell_6 10 rfl rfl)
theorem dX8_tell_187 : decode cX8_tell 187 = .ok (.getfield 248, 3) := dk_180 0 248 (dk_at dksX8_tell_6 11 rfl rfl)
theorem dX8_tell_190 : decode cX8_tell 190 = .ok (.ifCond .ne 119, 3) := dk_154 0 119 (dk_at dksX8_tell_6 14 rfl rfl)
theorem dX8_tell_193 : decode cX8_tell 193 = .ok (.aload_n 0, 1) := dk_42 (dk_at dksX8_tell_6 17 rfl rfl)
theorem dX8_tell_194 : decode cX8_tell 194 = .ok (.invokevirtual 318, 3) := dk_182 1 62 (dk_at dksX8_tell_6 18 rfl rfl)
theorem dX8_tell_197 : decode cX8_tell 197 = .ok (.goto 112, 3) := dk_167 0 112 (dk_at dksX8_tell_6 21 rfl rfl)
theorem dX8_tell_200 : decode cX8_tell 200 = .ok (.aload_n 0, 1) := dk_42 (dk_at dksX8_tell_7 0 rfl rfl)
theorem dX8_tell_201 : decode cX8_tell 201 = .ok (.invokevirtual 269, 3) := dk_182 1 13 (dk_at dksX8_tell_7 1 rfl rfl)
theorem dX8_tell_204 : decode cX8_tell 204 = .ok (.aload_n 0, 1) := dk_42 (dk_at dksX8_tell_7 4 rfl rfl)
theorem dX8_tell_205 : decode cX8_tell 205 = .ok (.aload_n 0, 1) := dk_42 (dk_at dksX8_tell_7 5 rfl rfl)
theorem dX8_tell_206 : decode cX8_tell 206 = .ok (.getfield 251, 3) := dk_180 0 251 (dk_at dksX8_tell_7 6 rfl rfl)
theorem dX8_tell_209 : decode cX8_tell 209 = .ok (.iconst 1, 1) := dk_4 (dk_at dksX8_tell_7 9 rfl rfl)
theorem dX8_tell_210 : decode cX8_tell 210 = .ok (.isub, 1) := dk_100 (dk_at dksX8_tell_7 10 rfl rfl)
theorem dX8_tell_211 : decode cX8_tell 211 = .ok (.invokevirtual 321, 3) := dk_182 1 65 (dk_at dksX8_tell_7 11 rfl rfl)
theorem dX8_tell_214 : decode cX8_tell 214 = .ok (.goto 95, 3) := dk_167 0 95 (dk_at dksX8_tell_7 14 rfl rfl)
theorem dX8_tell_217 : decode cX8_tell 217 = .ok (.aload_n 0, 1) := dk_42 (dk_at dksX8_tell_7 17 rfl rfl)
theorem dX8_tell_218 : decode cX8_tell 218 = .ok (.aload_n 0, 1) := dk_42 (dk_at dksX8_tell_7 18 rfl rfl)
theorem dX8_tell_219 : decode cX8_tell 219 = .ok (.getfield 104, 3) := dk_180 0 104 (dk_at dksX8_tell_7 19 rfl rfl)
theorem dX8_tell_222 : decode cX8_tell 222 = .ok (.aload_n 0, 1) := dk_42 (dk_at dksX8_tell_7 22 rfl rfl)
theorem dX8_tell_223 : decode cX8_tell 223 = .ok (.getfield 281, 3) := dk_180 1 25 (dk_at dksX8_tell_8 0 rfl rfl)
theorem dX8_tell_226 : decode cX8_tell 226 = .ok (.iaload, 1) := dk_46 (dk_at dksX8_tell_8 3 rfl rfl)
theorem dX8_tell_227 : decode cX8_tell 227 = .ok (.bipush 6, 2) := dk_16 6 (dk_at dksX8_tell_8 4 rfl rfl)
theorem dX8_tell_229 : decode cX8_tell 229 = .ok (.invokevirtual 305, 3) := dk_182 1 49 (dk_at dksX8_tell_8 6 rfl rfl)
theorem dX8_tell_232 : decode cX8_tell 232 = .ok (.aload_n 0, 1) := dk_42 (dk_at dksX8_tell_8 9 rfl rfl)
theorem dX8_tell_233 : decode cX8_tell 233 = .ok (.getfield 248, 3) := dk_180 0 248 (dk_at dksX8_tell_8 10 rfl rfl)
theorem dX8_tell_236 : decode cX8_tell 236 = .ok (.ifCond .ne 73, 3) := dk_154 0 73 (dk_at dksX8_tell_8 13 rfl rfl)
theorem dX8_tell_239 : decode cX8_tell 239 = .ok (.aload_n 0, 1) := dk_42 (dk_at dksX8_tell_8 16 rfl rfl)
theorem dX8_tell_240 : decode cX8_tell 240 = .ok (.invokevirtual 324, 3) := dk_182 1 68 (dk_at dksX8_tell_8 17 rfl rfl)
theorem dX8_tell_243 : decode cX8_tell 243 = .ok (.goto 66, 3) := dk_167 0 66 (dk_at dksX8_tell_8 20 rfl rfl)
theorem dX8_tell_246 : decode cX8_tell 246 = .ok (.aload_n 0, 1) := dk_42 (dk_at dksX8_tell_8 23 rfl rfl)
theorem dX8_tell_247 : decode cX8_tell 247 = .ok (.aload_n 0, 1) := dk_42 (dk_at dksX8_tell_9 0 rfl rfl)
theorem dX8_tell_248 : decode cX8_tell 248 = .ok (.getfield 116, 3) := dk_180 0 116 (dk_at dksX8_tell_9 1 rfl rfl)
theorem dX8_tell_251 : decode cX8_tell 251 = .ok (.aload_n 0, 1) := dk_42 (dk_at dksX8_tell_9 4 rfl rfl)
theorem dX8_tell_252 : decode cX8_tell 252 = .ok (.getfield 281, 3) := dk_180 1 25 (dk_at dksX8_tell_9 5 rfl rfl)
theorem dX8_tell_255 : decode cX8_tell 255 = .ok (.iaload, 1) := dk_46 (dk_at dksX8_tell_9 8 rfl rfl)
theorem dX8_tell_256 : decode cX8_tell 256 = .ok (.bipush 8, 2) := dk_16 8 (dk_at dksX8_tell_9 9 rfl rfl)
theorem dX8_tell_258 : decode cX8_tell 258 = .ok (.invokevirtual 305, 3) := dk_182 1 49 (dk_at dksX8_tell_9 11 rfl rfl)
theorem dX8_tell_261 : decode cX8_tell 261 = .ok (.aload_n 0, 1) := dk_42 (dk_at dksX8_tell_9 14 rfl rfl)
theorem dX8_tell_262 : decode cX8_tell 262 = .ok (.getfield 248, 3) := dk_180 0 248 (dk_at dksX8_tell_9 15 rfl rfl)
theorem dX8_tell_265 : decode cX8_tell 265 = .ok (.ifCond .ne 44, 3) := dk_154 0 44 (dk_at dksX8_tell_9 18 rfl rfl)
theorem dX8_tell_268 : decode cX8_tell 268 = .ok (.aload_n 0, 1) := dk_42 (dk_at dksX8_tell_9 21 rfl rfl)
theorem dX8_tell_269 : decode cX8_tell 269 = .ok (.invokevirtual 327, 3) := dk_182 1 71 (dk_at dksX8_tell_10 0 rfl rfl)
theorem dX8_tell_272 : decode cX8_tell 272 = .ok (.goto 37, 3) := dk_167 0 37 (dk_at dksX8_tell_10 3 rfl rfl)
theorem dX8_tell_275 : decode cX8_tell 275 = .ok (.aload_n 0, 1) := dk_42 (dk_at dksX8_tell_10 6 rfl rfl)
theorem dX8_tell_276 : decode cX8_tell 276 = .ok (.invokevirtual 269, 3) := dk_182 1 13 (dk_at dksX8_tell_10 7 rfl rfl)
theorem dX8_tell_279 : decode cX8_tell 279 = .ok (.aload_n 0, 1) := dk_42 (dk_at dksX8_tell_10 10 rfl rfl)
theorem dX8_tell_280 : decode cX8_tell 280 = .ok (.getfield 140, 3) := dk_180 0 140 (dk_at dksX8_tell_10 11 rfl rfl)
theorem dX8_tell_283 : decode cX8_tell 283 = .ok (.aload_n 0, 1) := dk_42 (dk_at dksX8_tell_10 14 rfl rfl)
theorem dX8_tell_284 : decode cX8_tell 284 = .ok (.getfield 281, 3) := dk_180 1 25 (dk_at dksX8_tell_10 15 rfl rfl)
theorem dX8_tell_287 : decode cX8_tell 287 = .ok (.aload_n 0, 1) := dk_42 (dk_at dksX8_tell_10 18 rfl rfl)
theorem dX8_tell_288 : decode cX8_tell 288 = .ok (.iconst 1, 1) := dk_4 (dk_at dksX8_tell_10 19 rfl rfl)
theorem dX8_tell_289 : decode cX8_tell 289 = .ok (.sipush 600, 3) := dk_17 2 88 (dk_at dksX8_tell_10 20 rfl rfl)
theorem dX8_tell_292 : decode cX8_tell 292 = .ok (.invokevirtual 330, 3) := dk_182 1 74 (dk_at dksX8_tell_11 0 rfl rfl)
theorem dX8_tell_295 : decode cX8_tell 295 = .ok (.iastore, 1) := dk_79 (dk_at dksX8_tell_11 3 rfl rfl)
theorem dX8_tell_296 : decode cX8_tell 296 = .ok (.aload_n 0, 1) := dk_42 (dk_at dksX8_tell_11 4 rfl rfl)
theorem dX8_tell_297 : decode cX8_tell 297 = .ok (.iconst 4, 1) := dk_7 (dk_at dksX8_tell_11 5 rfl rfl)
theorem dX8_tell_298 : decode cX8_tell 298 = .ok (.invokevirtual 334, 3) := dk_182 1 78 (dk_at dksX8_tell_11 6 rfl rfl)
theorem dX8_tell_301 : decode cX8_tell 301 = .ok (.goto 8, 3) := dk_167 0 8 (dk_at dksX8_tell_11 9 rfl rfl)
theorem dX8_tell_304 : decode cX8_tell 304 = .ok (.aload_n 0, 1) := dk_42 (dk_at dksX8_tell_11 12 rfl rfl)
theorem dX8_tell_305 : decode cX8_tell 305 = .ok (.iconst 1, 1) := dk_4 (dk_at dksX8_tell_11 13 rfl rfl)
theorem dX8_tell_306 : decode cX8_tell 306 = .ok (.invokevirtual 263, 3) := dk_182 1 7 (dk_at dksX8_tell_11 14 rfl rfl)
theorem dX8_tell_309 : decode cX8_tell 309 = .ok (.return_, 1) := dk_177 (dk_at dksX8_tell_11 17 rfl rfl)
abbrev cX8_roomFor : ByteArray := prog_22_method_22_code
def yX8_roomFor : MethodName := ⟨RX8, "roomFor", "(II)V"⟩
def dkwX8_roomFor_0 : List UInt8 := [27, 28, 160, 0, 8, 42, 5, 182, 1, 7, 42, 180, 0, 248, 154, 0, 7, 42, 182, 1, 13, 177]
abbrev dktX8_roomFor_0 : List UInt8 := dkwX8_roomFor_0 ++ []
theorem dksX8_roomFor_0 : cX8_roomFor.data.toList.drop 0 = dktX8_roomFor_0 := by decide +kernel
theorem dX8_roomFor_0 : decode cX8_roomFor 0 = .ok (.iload_n 1, 1) := dk_27 (dk_at dksX8_roomFor_0 0 rfl rfl)
theorem dX8_roomFor_1 : decode cX8_roomFor 1 = .ok (.iload_n 2, 1) := dk_28 (dk_at dksX8_roomFor_0 1 rfl rfl)
theorem dX8_roomFor_2 : decode cX8_roomFor 2 = .ok (.if_icmp .ne 8, 3) := dk_160 0 8 (dk_at dksX8_roomFor_0 2 rfl rfl)
theorem dX8_roomFor_5 : decode cX8_roomFor 5 = .ok (.aload_n 0, 1) := dk_42 (dk_at dksX8_roomFor_0 5 rfl rfl)
theorem dX8_roomFor_6 : decode cX8_roomFor 6 = .ok (.iconst 2, 1) := dk_5 (dk_at dksX8_roomFor_0 6 rfl rfl)
theorem dX8_roomFor_7 : decode cX8_roomFor 7 = .ok (.invokevirtual 263, 3) := dk_182 1 7 (dk_at dksX8_roomFor_0 7 rfl rfl)
theorem dX8_roomFor_10 : decode cX8_roomFor 10 = .ok (.aload_n 0, 1) := dk_42 (dk_at dksX8_roomFor_0 10 rfl rfl)
theorem dX8_roomFor_11 : decode cX8_roomFor 11 = .ok (.getfield 248, 3) := dk_180 0 248 (dk_at dksX8_roomFor_0 11 rfl rfl)
theorem dX8_roomFor_14 : decode cX8_roomFor 14 = .ok (.ifCond .ne 7, 3) := dk_154 0 7 (dk_at dksX8_roomFor_0 14 rfl rfl)
theorem dX8_roomFor_17 : decode cX8_roomFor 17 = .ok (.aload_n 0, 1) := dk_42 (dk_at dksX8_roomFor_0 17 rfl rfl)
theorem dX8_roomFor_18 : decode cX8_roomFor 18 = .ok (.invokevirtual 269, 3) := dk_182 1 13 (dk_at dksX8_roomFor_0 18 rfl rfl)
theorem dX8_roomFor_21 : decode cX8_roomFor 21 = .ok (.return_, 1) := dk_177 (dk_at dksX8_roomFor_0 21 rfl rfl)
abbrev cX8_fail : ByteArray := prog_22_method_15_code
def yX8_fail : MethodName := ⟨RX8, "fail", "(I)V"⟩
def dkwX8_fail_1 : List UInt8 := [181, 0, 254, 177]
abbrev dktX8_fail_1 : List UInt8 := dkwX8_fail_1 ++ []
def dkwX8_fail_0 : List UInt8 := [42, 180, 0, 248, 158, 0, 4, 177, 42, 27, 181, 0, 248, 42, 42, 180, 0, 24, 42, 180, 0, 251, 46]
abbrev dktX8_fail_0 : List UInt8 := dkwX8_fail_0 ++ dktX8_fail_1
theorem dksX8_fail_0 : cX8_fail.data.toList.drop 0 = dktX8_fail_0 := by decide +kernel
theorem dksX8_fail_1 : cX8_fail.data.toList.drop 23 = dktX8_fail_1 := dk_seg dksX8_fail_0 23 rfl rfl
theorem dX8_fail_0 : decode cX8_fail 0 = .ok (.aload_n 0, 1) := dk_42 (dk_at dksX8_fail_0 0 rfl rfl)
theorem dX8_fail_1 : decode cX8_fail 1 = .ok (.getfield 248, 3) := dk_180 0 248 (dk_at dksX8_fail_0 1 rfl rfl)
theorem dX8_fail_4 : decode cX8_fail 4 = .ok (.ifCond .le 4, 3) := dk_158 0 4 (dk_at dksX8_fail_0 4 rfl rfl)
theorem dX8_fail_7 : decode cX8_fail 7 = .ok (.return_, 1) := dk_177 (dk_at dksX8_fail_0 7 rfl rfl)
theorem dX8_fail_8 : decode cX8_fail 8 = .ok (.aload_n 0, 1) := dk_42 (dk_at dksX8_fail_0 8 rfl rfl)
theorem dX8_fail_9 : decode cX8_fail 9 = .ok (.iload_n 1, 1) := dk_27 (dk_at dksX8_fail_0 9 rfl rfl)
theorem dX8_fail_10 : decode cX8_fail 10 = .ok (.putfield 248, 3) := dk_181 0 248 (dk_at dksX8_fail_0 10 rfl rfl)
theorem dX8_fail_13 : decode cX8_fail 13 = .ok (.aload_n 0, 1) := dk_42 (dk_at dksX8_fail_0 13 rfl rfl)
theorem dX8_fail_14 : decode cX8_fail 14 = .ok (.aload_n 0, 1) := dk_42 (dk_at dksX8_fail_0 14 rfl rfl)
theorem dX8_fail_15 : decode cX8_fail 15 = .ok (.getfield 24, 3) := dk_180 0 24 (dk_at dksX8_fail_0 15 rfl rfl)
theorem dX8_fail_18 : decode cX8_fail 18 = .ok (.aload_n 0, 1) := dk_42 (dk_at dksX8_fail_0 18 rfl rfl)
theorem dX8_fail_19 : decode cX8_fail 19 = .ok (.getfield 251, 3) := dk_180 0 251 (dk_at dksX8_fail_0 19 rfl rfl)
theorem dX8_fail_22 : decode cX8_fail 22 = .ok (.iaload, 1) := dk_46 (dk_at dksX8_fail_0 22 rfl rfl)
theorem dX8_fail_23 : decode cX8_fail 23 = .ok (.putfield 254, 3) := dk_181 0 254 (dk_at dksX8_fail_1 0 rfl rfl)
theorem dX8_fail_26 : decode cX8_fail 26 = .ok (.return_, 1) := dk_177 (dk_at dksX8_fail_1 3 rfl rfl)
abbrev cX8_goesOn : ByteArray := prog_22_method_17_code
def yX8_goesOn : MethodName := ⟨RX8, "goesOn", "()V"⟩
def dkwX8_goesOn_1 : List UInt8 := [96, 181, 0, 251, 177]
abbrev dktX8_goesOn_1 : List UInt8 := dkwX8_goesOn_1 ++ []
def dkwX8_goesOn_0 : List UInt8 := [42, 180, 0, 251, 17, 1, 144, 160, 0, 11, 42, 5, 182, 1, 7, 167, 0, 13, 42, 89, 180, 0, 251, 4]
abbrev dktX8_goesOn_0 : List UInt8 := dkwX8_goesOn_0 ++ dktX8_goesOn_1
theorem dksX8_goesOn_0 : cX8_goesOn.data.toList.drop 0 = dktX8_goesOn_0 := by decide +kernel
theorem dksX8_goesOn_1 : cX8_goesOn.data.toList.drop 24 = dktX8_goesOn_1 := dk_seg dksX8_goesOn_0 24 rfl rfl
theorem dX8_goesOn_0 : decode cX8_goesOn 0 = .ok (.aload_n 0, 1) := dk_42 (dk_at dksX8_goesOn_0 0 rfl rfl)
theorem dX8_goesOn_1 : decode cX8_goesOn 1 = .ok (.getfield 251, 3) := dk_180 0 251 (dk_at dksX8_goesOn_0 1 rfl rfl)
theorem dX8_goesOn_4 : decode cX8_goesOn 4 = .ok (.sipush 400, 3) := dk_17 1 144 (dk_at dksX8_goesOn_0 4 rfl rfl)
theorem dX8_goesOn_7 : decode cX8_goesOn 7 = .ok (.if_icmp .ne 11, 3) := dk_160 0 11 (dk_at dksX8_goesOn_0 7 rfl rfl)
theorem dX8_goesOn_10 : decode cX8_goesOn 10 = .ok (.aload_n 0, 1) := dk_42 (dk_at dksX8_goesOn_0 10 rfl rfl)
theorem dX8_goesOn_11 : decode cX8_goesOn 11 = .ok (.iconst 2, 1) := dk_5 (dk_at dksX8_goesOn_0 11 rfl rfl)
theorem dX8_goesOn_12 : decode cX8_goesOn 12 = .ok (.invokevirtual 263, 3) := dk_182 1 7 (dk_at dksX8_goesOn_0 12 rfl rfl)
theorem dX8_goesOn_15 : decode cX8_goesOn 15 = .ok (.goto 13, 3) := dk_167 0 13 (dk_at dksX8_goesOn_0 15 rfl rfl)
theorem dX8_goesOn_18 : decode cX8_goesOn 18 = .ok (.aload_n 0, 1) := dk_42 (dk_at dksX8_goesOn_0 18 rfl rfl)
theorem dX8_goesOn_19 : decode cX8_goesOn 19 = .ok (.dup, 1) := dk_89 (dk_at dksX8_goesOn_0 19 rfl rfl)
theorem dX8_goesOn_20 : decode cX8_goesOn 20 = .ok (.getfield 251, 3) := dk_180 0 251 (dk_at dksX8_goesOn_0 20 rfl rfl)
theorem dX8_goesOn_23 : decode cX8_goesOn 23 = .ok (.iconst 1, 1) := dk_4 (dk_at dksX8_goesOn_0 23 rfl rfl)
theorem dX8_goesOn_24 : decode cX8_goesOn 24 = .ok (.iadd, 1) := dk_96 (dk_at dksX8_goesOn_1 0 rfl rfl)
theorem dX8_goesOn_25 : decode cX8_goesOn 25 = .ok (.putfield 251, 3) := dk_181 0 251 (dk_at dksX8_goesOn_1 1 rfl rfl)
theorem dX8_goesOn_28 : decode cX8_goesOn 28 = .ok (.return_, 1) := dk_177 (dk_at dksX8_goesOn_1 4 rfl rfl)
abbrev cX8_tellRoom : ByteArray := prog_22_method_28_code
def yX8_tellRoom : MethodName := ⟨RX8, "tellRoom", "()V"⟩
def dkwX8_tellRoom_2 : List UInt8 := [177]
abbrev dktX8_tellRoom_2 : List UInt8 := dkwX8_tellRoom_2 ++ []
def dkwX8_tellRoom_1 : List UInt8 := [180, 0, 49, 42, 180, 1, 25, 46, 182, 1, 88, 42, 180, 0, 49, 42, 180, 1, 25, 92, 46, 4, 96, 79]
abbrev dktX8_tellRoom_1 : List UInt8 := dkwX8_tellRoom_1 ++ dktX8_tellRoom_2
def dkwX8_tellRoom_0 : List UInt8 := [42, 182, 1, 84, 60, 42, 7, 182, 1, 78, 42, 180, 0, 248, 158, 0, 4, 177, 42, 27, 3, 42]
abbrev dktX8_tellRoom_0 : List UInt8 := dkwX8_tellRoom_0 ++ dktX8_tellRoom_1
theorem dksX8_tellRoom_0 : cX8_tellRoom.data.toList.drop 0 = dktX8_tellRoom_0 := by decide +kernel
theorem dksX8_tellRoom_1 : cX8_tellRoom.data.toList.drop 22 = dktX8_tellRoom_1 := dk_seg dksX8_tellRoom_0 22 rfl rfl
theorem dksX8_tellRoom_2 : cX8_tellRoom.data.toList.drop 46 = dktX8_tellRoom_2 := dk_seg dksX8_tellRoom_1 24 rfl rfl
theorem dX8_tellRoom_0 : decode cX8_tellRoom 0 = .ok (.aload_n 0, 1) := dk_42 (dk_at dksX8_tellRoom_0 0 rfl rfl)
theorem dX8_tellRoom_1 : decode cX8_tellRoom 1 = .ok (.invokevirtual 340, 3) := dk_182 1 84 (dk_at dksX8_tellRoom_0 1 rfl rfl)
theorem dX8_tellRoom_4 : decode cX8_tellRoom 4 = .ok (.istore_n 1, 1) := dk_60 (dk_at dksX8_tellRoom_0 4 rfl rfl)
theorem dX8_tellRoom_5 : decode cX8_tellRoom 5 = .ok (.aload_n 0, 1) := dk_42 (dk_at dksX8_tellRoom_0 5 rfl rfl)
theorem dX8_tellRoom_6 : decode cX8_tellRoom 6 = .ok (.iconst 4, 1) := dk_7 (dk_at dksX8_tellRoom_0 6 rfl rfl)
theorem dX8_tellRoom_7 : decode cX8_tellRoom 7 = .ok (.invokevirtual 334, 3) := dk_182 1 78 (dk_at dksX8_tellRoom_0 7 rfl rfl)
theorem dX8_tellRoom_10 : decode cX8_tellRoom 10 = .ok (.aload_n 0, 1) := dk_42 (dk_at dksX8_tellRoom_0 10 rfl rfl)
theorem dX8_tellRoom_11 : decode cX8_tellRoom 11 = .ok (.getfield 248, 3) := dk_180 0 248 (dk_at dksX8_tellRoom_0 11 rfl rfl)
theorem dX8_tellRoom_14 : decode cX8_tellRoom 14 = .ok (.ifCond .le 4, 3) := dk_158 0 4 (dk_at dksX8_tellRoom_0 14 rfl rfl)
theorem dX8_tellRoom_17 : decode cX8_tellRoom 17 = .ok (.return_, 1) := dk_177 (dk_at dksX8_tellRoom_0 17 rfl rfl)
theorem dX8_tellRoom_18 : decode cX8_tellRoom 18 = .ok (.aload_n 0, 1) := dk_42 (dk_at dksX8_tellRoom_0 18 rfl rfl)
theorem dX8_tellRoom_19 : decode cX8_tellRoom 19 = .ok (.iload_n 1, 1) := dk_27 (dk_at dksX8_tellRoom_0 19 rfl rfl)
theorem dX8_tellRoom_20 : decode cX8_tellRoom 20 = .ok (.iconst 0, 1) := dk_3 (dk_at dksX8_tellRoom_0 20 rfl rfl)
theorem dX8_tellRoom_21 : decode cX8_tellRoom 21 = .ok (.aload_n 0, 1) := dk_42 (dk_at dksX8_tellRoom_0 21 rfl rfl)
theorem dX8_tellRoom_22 : decode cX8_tellRoom 22 = .ok (.getfield 49, 3) := dk_180 0 49 (dk_at dksX8_tellRoom_1 0 rfl rfl)
theorem dX8_tellRoom_25 : decode cX8_tellRoom 25 = .ok (.aload_n 0, 1) := dk_42 (dk_at dksX8_tellRoom_1 3 rfl rfl)
theorem dX8_tellRoom_26 : decode cX8_tellRoom 26 = .ok (.getfield 281, 3) := dk_180 1 25 (dk_at dksX8_tellRoom_1 4 rfl rfl)
theorem dX8_tellRoom_29 : decode cX8_tellRoom 29 = .ok (.iaload, 1) := dk_46 (dk_at dksX8_tellRoom_1 7 rfl rfl)
theorem dX8_tellRoom_30 : decode cX8_tellRoom 30 = .ok (.invokevirtual 344, 3) := dk_182 1 88 (dk_at dksX8_tellRoom_1 8 rfl rfl)
theorem dX8_tellRoom_33 : decode cX8_tellRoom 33 = .ok (.aload_n 0, 1) := dk_42 (dk_at dksX8_tellRoom_1 11 rfl rfl)
theorem dX8_tellRoom_34 : decode cX8_tellRoom 34 = .ok (.getfield 49, 3) := dk_180 0 49 (dk_at dksX8_tellRoom_1 12 rfl rfl)
theorem dX8_tellRoom_37 : decode cX8_tellRoom 37 = .ok (.aload_n 0, 1) := dk_42 (dk_at dksX8_tellRoom_1 15 rfl rfl)
theorem dX8_tellRoom_38 : decode cX8_tellRoom 38 = .ok (.getfield 281, 3) := dk_180 1 25 (dk_at dksX8_tellRoom_1 16 rfl rfl)
theorem dX8_tellRoom_41 : decode cX8_tellRoom 41 = .ok (.dup2, 1) := dk_92 (dk_at dksX8_tellRoom_1 19 rfl rfl)
theorem dX8_tellRoom_42 : decode cX8_tellRoom 42 = .ok (.iaload, 1) := dk_46 (dk_at dksX8_tellRoom_1 20 rfl rfl)
theorem dX8_tellRoom_43 : decode cX8_tellRoom 43 = .ok (.iconst 1, 1) := dk_4 (dk_at dksX8_tellRoom_1 21 rfl rfl)
theorem dX8_tellRoom_44 : decode cX8_tellRoom 44 = .ok (.iadd, 1) := dk_96 (dk_at dksX8_tellRoom_1 22 rfl rfl)
theorem dX8_tellRoom_45 : decode cX8_tellRoom 45 = .ok (.iastore, 1) := dk_79 (dk_at dksX8_tellRoom_1 23 rfl rfl)
theorem dX8_tellRoom_46 : decode cX8_tellRoom 46 = .ok (.return_, 1) := dk_177 (dk_at dksX8_tellRoom_2 0 rfl rfl)
abbrev cX8_named : ByteArray := prog_22_method_24_code
def yX8_named : MethodName := ⟨RX8, "named", "()I"⟩
def dkwX8_named_2 : List UInt8 := [182, 1, 81, 132, 2, 1, 167, 255, 216, 27, 172]
abbrev dktX8_named_2 : List UInt8 := dkwX8_named_2 ++ []
def dkwX8_named_1 : List UInt8 := [154, 0, 31, 42, 180, 0, 40, 28, 47, 42, 180, 0, 30, 27, 47, 148, 154, 0, 9, 42, 6, 27]
abbrev dktX8_named_1 : List UInt8 := dkwX8_named_1 ++ dktX8_named_2
def dkwX8_named_0 : List UInt8 := [42, 180, 0, 251, 60, 42, 4, 182, 1, 78, 3, 61, 28, 42, 180, 1, 28, 162, 0, 38, 42, 180, 0, 248]
abbrev dktX8_named_0 : List UInt8 := dkwX8_named_0 ++ dktX8_named_1
theorem dksX8_named_0 : cX8_named.data.toList.drop 0 = dktX8_named_0 := by decide +kernel
theorem dksX8_named_1 : cX8_named.data.toList.drop 24 = dktX8_named_1 := dk_seg dksX8_named_0 24 rfl rfl
theorem dksX8_named_2 : cX8_named.data.toList.drop 46 = dktX8_named_2 := dk_seg dksX8_named_1 22 rfl rfl
theorem dX8_named_0 : decode cX8_named 0 = .ok (.aload_n 0, 1) := dk_42 (dk_at dksX8_named_0 0 rfl rfl)
theorem dX8_named_1 : decode cX8_named 1 = .ok (.getfield 251, 3) := dk_180 0 251 (dk_at dksX8_named_0 1 rfl rfl)
theorem dX8_named_4 : decode cX8_named 4 = .ok (.istore_n 1, 1) := dk_60 (dk_at dksX8_named_0 4 rfl rfl)
theorem dX8_named_5 : decode cX8_named 5 = .ok (.aload_n 0, 1) := dk_42 (dk_at dksX8_named_0 5 rfl rfl)
theorem dX8_named_6 : decode cX8_named 6 = .ok (.iconst 1, 1) := dk_4 (dk_at dksX8_named_0 6 rfl rfl)
theorem dX8_named_7 : decode cX8_named 7 = .ok (.invokevirtual 334, 3) := dk_182 1 78 (dk_at dksX8_named_0 7 rfl rfl)
theorem dX8_named_10 : decode cX8_named 10 = .ok (.iconst 0, 1) := dk_3 (dk_at dksX8_named_0 10 rfl rfl)
theorem dX8_named_11 : decode cX8_named 11 = .ok (.istore_n 2, 1) := dk_61 (dk_at dksX8_named_0 11 rfl rfl)
theorem dX8_named_12 : decode cX8_named 12 = .ok (.iload_n 2, 1) := dk_28 (dk_at dksX8_named_0 12 rfl rfl)
theorem dX8_named_13 : decode cX8_named 13 = .ok (.aload_n 0, 1) := dk_42 (dk_at dksX8_named_0 13 rfl rfl)
theorem dX8_named_14 : decode cX8_named 14 = .ok (.getfield 284, 3) := dk_180 1 28 (dk_at dksX8_named_0 14 rfl rfl)
theorem dX8_named_17 : decode cX8_named 17 = .ok (.if_icmp .ge 38, 3) := dk_162 0 38 (dk_at dksX8_named_0 17 rfl rfl)
theorem dX8_named_20 : decode cX8_named 20 = .ok (.aload_n 0, 1) := dk_42 (dk_at dksX8_named_0 20 rfl rfl)
theorem dX8_named_21 : decode cX8_named 21 = .ok (.getfield 248, 3) := dk_180 0 248 (dk_at dksX8_named_0 21 rfl rfl)
theorem dX8_named_24 : decode cX8_named 24 = .ok (.ifCond .ne 31, 3) := dk_154 0 31 (dk_at dksX8_named_1 0 rfl rfl)
theorem dX8_named_27 : decode cX8_named 27 = .ok (.aload_n 0, 1) := dk_42 (dk_at dksX8_named_1 3 rfl rfl)
theorem dX8_named_28 : decode cX8_named 28 = .ok (.getfield 40, 3) := dk_180 0 40 (dk_at dksX8_named_1 4 rfl rfl)
theorem dX8_named_31 : decode cX8_named 31 = .ok (.iload_n 2, 1) := dk_28 (dk_at dksX8_named_1 7 rfl rfl)
theorem dX8_named_32 : decode cX8_named 32 = .ok (.laload, 1) := dk_47 (dk_at dksX8_named_1 8 rfl rfl)
theorem dX8_named_33 : decode cX8_named 33 = .ok (.aload_n 0, 1) := dk_42 (dk_at dksX8_named_1 9 rfl rfl)
theorem dX8_named_34 : decode cX8_named 34 = .ok (.getfield 30, 3) := dk_180 0 30 (dk_at dksX8_named_1 10 rfl rfl)
theorem dX8_named_37 : decode cX8_named 37 = .ok (.iload_n 1, 1) := dk_27 (dk_at dksX8_named_1 13 rfl rfl)
theorem dX8_named_38 : decode cX8_named 38 = .ok (.laload, 1) := dk_47 (dk_at dksX8_named_1 14 rfl rfl)
theorem dX8_named_39 : decode cX8_named 39 = .ok (.lcmp, 1) := dk_148 (dk_at dksX8_named_1 15 rfl rfl)
theorem dX8_named_40 : decode cX8_named 40 = .ok (.ifCond .ne 9, 3) := dk_154 0 9 (dk_at dksX8_named_1 16 rfl rfl)
theorem dX8_named_43 : decode cX8_named 43 = .ok (.aload_n 0, 1) := dk_42 (dk_at dksX8_named_1 19 rfl rfl)
theorem dX8_named_44 : decode cX8_named 44 = .ok (.iconst 3, 1) := dk_6 (dk_at dksX8_named_1 20 rfl rfl)
theorem dX8_named_45 : decode cX8_named 45 = .ok (.iload_n 1, 1) := dk_27 (dk_at dksX8_named_1 21 rfl rfl)
theorem dX8_named_46 : decode cX8_named 46 = .ok (.invokevirtual 337, 3) := dk_182 1 81 (dk_at dksX8_named_2 0 rfl rfl)
theorem dX8_named_49 : decode cX8_named 49 = .ok (.iinc 2 1, 3) := dk_132 2 1 (dk_at dksX8_named_2 3 rfl rfl)
theorem dX8_named_52 : decode cX8_named 52 = .ok (.goto (-40), 3) := dk_167 255 216 (dk_at dksX8_named_2 6 rfl rfl)
theorem dX8_named_55 : decode cX8_named 55 = .ok (.iload_n 1, 1) := dk_27 (dk_at dksX8_named_2 9 rfl rfl)
theorem dX8_named_56 : decode cX8_named 56 = .ok (.ireturn, 1) := dk_172 (dk_at dksX8_named_2 10 rfl rfl)
abbrev cX8_must : ByteArray := prog_22_method_18_code
def yX8_must : MethodName := ⟨RX8, "must", "(I)V"⟩
def dkwX8_must_0 : List UInt8 := [42, 27, 182, 1, 10, 153, 0, 10, 42, 182, 1, 13, 167, 0, 8, 42, 4, 182, 1, 7, 177]
abbrev dktX8_must_0 : List UInt8 := dkwX8_must_0 ++ []
theorem dksX8_must_0 : cX8_must.data.toList.drop 0 = dktX8_must_0 := by decide +kernel
theorem dX8_must_0 : decode cX8_must 0 = .ok (.aload_n 0, 1) := dk_42 (dk_at dksX8_must_0 0 rfl rfl)
theorem dX8_must_1 : decode cX8_must 1 = .ok (.iload_n 1, 1) := dk_27 (dk_at dksX8_must_0 1 rfl rfl)
theorem dX8_must_2 : decode cX8_must 2 = .ok (.invokevirtual 266, 3) := dk_182 1 10 (dk_at dksX8_must_0 2 rfl rfl)
theorem dX8_must_5 : decode cX8_must 5 = .ok (.ifCond .eq 10, 3) := dk_153 0 10 (dk_at dksX8_must_0 5 rfl rfl)
theorem dX8_must_8 : decode cX8_must 8 = .ok (.aload_n 0, 1) := dk_42 (dk_at dksX8_must_0 8 rfl rfl)
theorem dX8_must_9 : decode cX8_must 9 = .ok (.invokevirtual 269, 3) := dk_182 1 13 (dk_at dksX8_must_0 9 rfl rfl)
theorem dX8_must_12 : decode cX8_must 12 = .ok (.goto 8, 3) := dk_167 0 8 (dk_at dksX8_must_0 12 rfl rfl)
theorem dX8_must_15 : decode cX8_must 15 = .ok (.aload_n 0, 1) := dk_42 (dk_at dksX8_must_0 15 rfl rfl)
theorem dX8_must_16 : decode cX8_must 16 = .ok (.iconst 1, 1) := dk_4 (dk_at dksX8_must_0 16 rfl rfl)
theorem dX8_must_17 : decode cX8_must 17 = .ok (.invokevirtual 263, 3) := dk_182 1 7 (dk_at dksX8_must_0 17 rfl rfl)
theorem dX8_must_20 : decode cX8_must 20 = .ok (.return_, 1) := dk_177 (dk_at dksX8_must_0 20 rfl rfl)
abbrev cX8_wrong : ByteArray := prog_22_method_16_code
def yX8_wrong : MethodName := ⟨RX8, "wrong", "(II)V"⟩
def dkwX8_wrong_2 : List UInt8 := [27, 181, 1, 1, 42, 29, 181, 1, 4, 177]
abbrev dktX8_wrong_2 : List UInt8 := dkwX8_wrong_2 ++ []
def dkwX8_wrong_1 : List UInt8 := [180, 1, 4, 163, 0, 19, 29, 42, 180, 1, 4, 160, 0, 12, 27, 42, 180, 1, 1, 161, 0, 4, 177, 42]
abbrev dktX8_wrong_1 : List UInt8 := dkwX8_wrong_1 ++ dktX8_wrong_2
def dkwX8_wrong_0 : List UInt8 := [42, 180, 0, 24, 28, 46, 62, 42, 180, 0, 248, 157, 0, 34, 42, 180, 1, 1, 153, 0, 28, 29, 42]
abbrev dktX8_wrong_0 : List UInt8 := dkwX8_wrong_0 ++ dktX8_wrong_1
theorem dksX8_wrong_0 : cX8_wrong.data.toList.drop 0 = dktX8_wrong_0 := by decide +kernel
theorem dksX8_wrong_1 : cX8_wrong.data.toList.drop 23 = dktX8_wrong_1 := dk_seg dksX8_wrong_0 23 rfl rfl
theorem dksX8_wrong_2 : cX8_wrong.data.toList.drop 47 = dktX8_wrong_2 := dk_seg dksX8_wrong_1 24 rfl rfl
theorem dX8_wrong_0 : decode cX8_wrong 0 = .ok (.aload_n 0, 1) := dk_42 (dk_at dksX8_wrong_0 0 rfl rfl)
theorem dX8_wrong_1 : decode cX8_wrong 1 = .ok (.getfield 24, 3) := dk_180 0 24 (dk_at dksX8_wrong_0 1 rfl rfl)
theorem dX8_wrong_4 : decode cX8_wrong 4 = .ok (.iload_n 2, 1) := dk_28 (dk_at dksX8_wrong_0 4 rfl rfl)
theorem dX8_wrong_5 : decode cX8_wrong 5 = .ok (.iaload, 1) := dk_46 (dk_at dksX8_wrong_0 5 rfl rfl)
theorem dX8_wrong_6 : decode cX8_wrong 6 = .ok (.istore_n 3, 1) := dk_62 (dk_at dksX8_wrong_0 6 rfl rfl)
theorem dX8_wrong_7 : decode cX8_wrong 7 = .ok (.aload_n 0, 1) := dk_42 (dk_at dksX8_wrong_0 7 rfl rfl)
theorem dX8_wrong_8 : decode cX8_wrong 8 = .ok (.getfield 248, 3) := dk_180 0 248 (dk_at dksX8_wrong_0 8 rfl rfl)
theorem dX8_wrong_11 : decode cX8_wrong 11 = .ok (.ifCond .gt 34, 3) := dk_157 0 34 (dk_at dksX8_wrong_0 11 rfl rfl)
theorem dX8_wrong_14 : decode cX8_wrong 14 = .ok (.aload_n 0, 1) := dk_42 (dk_at dksX8_wrong_0 14 rfl rfl)
theorem dX8_wrong_15 : decode cX8_wrong 15 = .ok (.getfield 257, 3) := dk_180 1 1 (dk_at dksX8_wrong_0 15 rfl rfl)
theorem dX8_wrong_18 : decode cX8_wrong 18 = .ok (.ifCond .eq 28, 3) := dk_153 0 28 (dk_at dksX8_wrong_0 18 rfl rfl)
theorem dX8_wrong_21 : decode cX8_wrong 21 = .ok (.iload_n 3, 1) := dk_29 (dk_at dksX8_wrong_0 21 rfl rfl)
theorem dX8_wrong_22 : decode cX8_wrong 22 = .ok (.aload_n 0, 1) := dk_42 (dk_at dksX8_wrong_0 22 rfl rfl)
theorem dX8_wrong_23 : decode cX8_wrong 23 = .ok (.getfield 260, 3) := dk_180 1 4 (dk_at dksX8_wrong_1 0 rfl rfl)
theorem dX8_wrong_26 : decode cX8_wrong 26 = .ok (.if_icmp .gt 19, 3) := dk_163 0 19 (dk_at dksX8_wrong_1 3 rfl rfl)
theorem dX8_wrong_29 : decode cX8_wrong 29 = .ok (.iload_n 3, 1) := dk_29 (dk_at dksX8_wrong_1 6 rfl rfl)
theorem dX8_wrong_30 : decode cX8_wrong 30 = .ok (.aload_n 0, 1) := dk_42 (dk_at dksX8_wrong_1 7 rfl rfl)
theorem dX8_wrong_31 : decode cX8_wrong 31 = .ok (.getfield 260, 3) := dk_180 1 4 (dk_at dksX8_wrong_1 8 rfl rfl)
theorem dX8_wrong_34 : decode cX8_wrong 34 = .ok (.if_icmp .ne 12, 3) := dk_160 0 12 (dk_at dksX8_wrong_1 11 rfl rfl)
theorem dX8_wrong_37 : decode cX8_wrong 37 = .ok (.iload_n 1, 1) := dk_27 (dk_at dksX8_wrong_1 14 rfl rfl)
theorem dX8_wrong_38 : decode cX8_wrong 38 = .ok (.aload_n 0, 1) := dk_42 (dk_at dksX8_wrong_1 15 rfl rfl)
theorem dX8_wrong_39 : decode cX8_wrong 39 = .ok (.getfield 257, 3) := dk_180 1 1 (dk_at dksX8_wrong_1 16 rfl rfl)
theorem dX8_wrong_42 : decode cX8_wrong 42 = .ok (.if_icmp .lt 4, 3) := dk_161 0 4 (dk_at dksX8_wrong_1 19 rfl rfl)
theorem dX8_wrong_45 : decode cX8_wrong 45 = .ok (.return_, 1) := dk_177 (dk_at dksX8_wrong_1 22 rfl rfl)
theorem dX8_wrong_46 : decode cX8_wrong 46 = .ok (.aload_n 0, 1) := dk_42 (dk_at dksX8_wrong_1 23 rfl rfl)
theorem dX8_wrong_47 : decode cX8_wrong 47 = .ok (.iload_n 1, 1) := dk_27 (dk_at dksX8_wrong_2 0 rfl rfl)
theorem dX8_wrong_48 : decode cX8_wrong 48 = .ok (.putfield 257, 3) := dk_181 1 1 (dk_at dksX8_wrong_2 1 rfl rfl)
theorem dX8_wrong_51 : decode cX8_wrong 51 = .ok (.aload_n 0, 1) := dk_42 (dk_at dksX8_wrong_2 4 rfl rfl)
theorem dX8_wrong_52 : decode cX8_wrong 52 = .ok (.iload_n 3, 1) := dk_29 (dk_at dksX8_wrong_2 5 rfl rfl)
theorem dX8_wrong_53 : decode cX8_wrong 53 = .ok (.putfield 260, 3) := dk_181 1 4 (dk_at dksX8_wrong_2 6 rfl rfl)
theorem dX8_wrong_56 : decode cX8_wrong 56 = .ok (.return_, 1) := dk_177 (dk_at dksX8_wrong_2 9 rfl rfl)
abbrev cX8_notes : ByteArray := prog_22_method_25_code
def yX8_notes : MethodName := ⟨RX8, "notes", "(III)V"⟩
def dkwX8_notes_1 : List UInt8 := [79, 42, 180, 0, 46, 42, 180, 1, 28, 29, 79, 42, 89, 180, 1, 28, 4, 96, 181, 1, 28, 177]
abbrev dktX8_notes_1 : List UInt8 := dkwX8_notes_1 ++ []
def dkwX8_notes_0 : List UInt8 := [42, 180, 0, 40, 42, 180, 1, 28, 42, 180, 0, 30, 27, 47, 80, 42, 180, 0, 43, 42, 180, 1, 28, 28]
abbrev dktX8_notes_0 : List UInt8 := dkwX8_notes_0 ++ dktX8_notes_1
theorem dksX8_notes_0 : cX8_notes.data.toList.drop 0 = dktX8_notes_0 := by decide +kernel
theorem dksX8_notes_1 : cX8_notes.data.toList.drop 24 = dktX8_notes_1 := dk_seg dksX8_notes_0 24 rfl rfl
theorem dX8_notes_0 : decode cX8_notes 0 = .ok (.aload_n 0, 1) := dk_42 (dk_at dksX8_notes_0 0 rfl rfl)
theorem dX8_notes_1 : decode cX8_notes 1 = .ok (.getfield 40, 3) := dk_180 0 40 (dk_at dksX8_notes_0 1 rfl rfl)
theorem dX8_notes_4 : decode cX8_notes 4 = .ok (.aload_n 0, 1) := dk_42 (dk_at dksX8_notes_0 4 rfl rfl)
theorem dX8_notes_5 : decode cX8_notes 5 = .ok (.getfield 284, 3) := dk_180 1 28 (dk_at dksX8_notes_0 5 rfl rfl)
theorem dX8_notes_8 : decode cX8_notes 8 = .ok (.aload_n 0, 1) := dk_42 (dk_at dksX8_notes_0 8 rfl rfl)
theorem dX8_notes_9 : decode cX8_notes 9 = .ok (.getfield 30, 3) := dk_180 0 30 (dk_at dksX8_notes_0 9 rfl rfl)
theorem dX8_notes_12 : decode cX8_notes 12 = .ok (.iload_n 1, 1) := dk_27 (dk_at dksX8_notes_0 12 rfl rfl)
theorem dX8_notes_13 : decode cX8_notes 13 = .ok (.laload, 1) := dk_47 (dk_at dksX8_notes_0 13 rfl rfl)
theorem dX8_notes_14 : decode cX8_notes 14 = .ok (.lastore, 1) := dk_80 (dk_at dksX8_notes_0 14 rfl rfl)
theorem dX8_notes_15 : decode cX8_notes 15 = .ok (.aload_n 0, 1) := dk_42 (dk_at dksX8_notes_0 15 rfl rfl)
theorem dX8_notes_16 : decode cX8_notes 16 = .ok (.getfield 43, 3) := dk_180 0 43 (dk_at dksX8_notes_0 16 rfl rfl)
theorem dX8_notes_19 : decode cX8_notes 19 = .ok (.aload_n 0, 1) := dk_42 (dk_at dksX8_notes_0 19 rfl rfl)
theorem dX8_notes_20 : decode cX8_notes 20 = .ok (.getfield 284, 3) := dk_180 1 28 (dk_at dksX8_notes_0 20 rfl rfl)
theorem dX8_notes_23 : decode cX8_notes 23 = .ok (.iload_n 2, 1) := dk_28 (dk_at dksX8_notes_0 23 rfl rfl)
theorem dX8_notes_24 : decode cX8_notes 24 = .ok (.iastore, 1) := dk_79 (dk_at dksX8_notes_1 0 rfl rfl)
theorem dX8_notes_25 : decode cX8_notes 25 = .ok (.aload_n 0, 1) := dk_42 (dk_at dksX8_notes_1 1 rfl rfl)
theorem dX8_notes_26 : decode cX8_notes 26 = .ok (.getfield 46, 3) := dk_180 0 46 (dk_at dksX8_notes_1 2 rfl rfl)
theorem dX8_notes_29 : decode cX8_notes 29 = .ok (.aload_n 0, 1) := dk_42 (dk_at dksX8_notes_1 5 rfl rfl)
theorem dX8_notes_30 : decode cX8_notes 30 = .ok (.getfield 284, 3) := dk_180 1 28 (dk_at dksX8_notes_1 6 rfl rfl)
theorem dX8_notes_33 : decode cX8_notes 33 = .ok (.iload_n 3, 1) := dk_29 (dk_at dksX8_notes_1 9 rfl rfl)
theorem dX8_notes_34 : decode cX8_notes 34 = .ok (.iastore, 1) := dk_79 (dk_at dksX8_notes_1 10 rfl rfl)
theorem dX8_notes_35 : decode cX8_notes 35 = .ok (.aload_n 0, 1) := dk_42 (dk_at dksX8_notes_1 11 rfl rfl)
theorem dX8_notes_36 : decode cX8_notes 36 = .ok (.dup, 1) := dk_89 (dk_at dksX8_notes_1 12 rfl rfl)
theorem dX8_notes_37 : decode cX8_notes 37 = .ok (.getfield 284, 3) := dk_180 1 28 (dk_at dksX8_notes_1 13 rfl rfl)
theorem dX8_notes_40 : decode cX8_notes 40 = .ok (.iconst 1, 1) := dk_4 (dk_at dksX8_notes_1 16 rfl rfl)
theorem dX8_notes_41 : decode cX8_notes 41 = .ok (.iadd, 1) := dk_96 (dk_at dksX8_notes_1 17 rfl rfl)
theorem dX8_notes_42 : decode cX8_notes 42 = .ok (.putfield 284, 3) := dk_181 1 28 (dk_at dksX8_notes_1 18 rfl rfl)
theorem dX8_notes_45 : decode cX8_notes 45 = .ok (.return_, 1) := dk_177 (dk_at dksX8_notes_1 21 rfl rfl)
abbrev cX8_tellDoor : ByteArray := prog_22_method_29_code
def yX8_tellDoor : MethodName := ⟨RX8, "tellDoor", "()V"⟩
def dkwX8_tellDoor_6 : List UInt8 := [182, 1, 78, 42, 180, 0, 248, 154, 0, 16, 42, 180, 0, 52, 42, 180, 1, 25, 92, 46, 4, 96, 79, 177]
abbrev dktX8_tellDoor_6 : List UInt8 := dkwX8_tellDoor_6 ++ []
def dkwX8_tellDoor_5 : List UInt8 := [153, 0, 7, 4, 167, 0, 4, 3, 84, 42, 180, 0, 64, 27, 51, 153, 0, 7, 42, 182, 1, 13, 42, 7]
abbrev dktX8_tellDoor_5 : List UInt8 := dkwX8_tellDoor_5 ++ dktX8_tellDoor_6
def dkwX8_tellDoor_4 : List UInt8 := [182, 1, 74, 79, 42, 180, 0, 64, 27, 42, 180, 0, 248, 154, 0, 16, 42, 16, 22, 182, 1, 10]
abbrev dktX8_tellDoor_4 : List UInt8 := dkwX8_tellDoor_4 ++ dktX8_tellDoor_5
def dkwX8_tellDoor_3 : List UInt8 := [180, 0, 58, 27, 46, 160, 0, 9, 42, 8, 28, 182, 1, 81, 42, 180, 0, 61, 27, 42, 4, 16, 60]
abbrev dktX8_tellDoor_3 : List UInt8 := dkwX8_tellDoor_3 ++ dktX8_tellDoor_4
def dkwX8_tellDoor_2 : List UInt8 := [180, 0, 248, 154, 0, 33, 42, 180, 0, 55, 27, 46, 155, 0, 24, 42, 180, 0, 55, 27, 46, 42]
abbrev dktX8_tellDoor_2 : List UInt8 := dkwX8_tellDoor_2 ++ dktX8_tellDoor_3
def dkwX8_tellDoor_1 : List UInt8 := [3, 182, 1, 92, 79, 42, 180, 0, 251, 61, 42, 180, 0, 58, 27, 42, 3, 182, 1, 92, 79, 42]
abbrev dktX8_tellDoor_1 : List UInt8 := dkwX8_tellDoor_1 ++ dktX8_tellDoor_2
def dkwX8_tellDoor_0 : List UInt8 := [16, 12, 42, 180, 1, 25, 104, 42, 180, 0, 52, 42, 180, 1, 25, 46, 96, 60, 42, 180, 0, 55, 27, 42]
abbrev dktX8_tellDoor_0 : List UInt8 := dkwX8_tellDoor_0 ++ dktX8_tellDoor_1
theorem dksX8_tellDoor_0 : cX8_tellDoor.data.toList.drop 0 = dktX8_tellDoor_0 := by decide +kernel
theorem dksX8_tellDoor_1 : cX8_tellDoor.data.toList.drop 24 = dktX8_tellDoor_1 := dk_seg dksX8_tellDoor_0 24 rfl rfl
theorem dksX8_tellDoor_2 : cX8_tellDoor.data.toList.drop 46 = dktX8_tellDoor_2 := dk_seg dksX8_tellDoor_1 22 rfl rfl
theorem dksX8_tellDoor_3 : cX8_tellDoor.data.toList.drop 68 = dktX8_tellDoor_3 := dk_seg dksX8_tellDoor_2 22 rfl rfl
theorem dksX8_tellDoor_4 : cX8_tellDoor.data.toList.drop 91 = dktX8_tellDoor_4 := dk_seg dksX8_tellDoor_3 23 rfl rfl
theorem dksX8_tellDoor_5 : cX8_tellDoor.data.toList.drop 113 = dktX8_tellDoor_5 := dk_seg dksX8_tellDoor_4 22 rfl rfl
theorem dksX8_tellDoor_6 : cX8_tellDoor.data.toList.drop 137 = dktX8_tellDoor_6 := dk_seg dksX8_tellDoor_5 24 rfl rfl
theorem dX8_tellDoor_0 : decode cX8_tellDoor 0 = .ok (.bipush 12, 2) := dk_16 12 (dk_at dksX8_tellDoor_0 0 rfl rfl)
theorem dX8_tellDoor_2 : decode cX8_tellDoor 2 = .ok (.aload_n 0, 1) := dk_42 (dk_at dksX8_tellDoor_0 2 rfl rfl)
theorem dX8_tellDoor_3 : decode cX8_tellDoor 3 = .ok (.getfield 281, 3) := dk_180 1 25 (dk_at dksX8_tellDoor_0 3 rfl rfl)
theorem dX8_tellDoor_6 : decode cX8_tellDoor 6 = .ok (.imul, 1) := dk_104 (dk_at dksX8_tellDoor_0 6 rfl rfl)
theorem dX8_tellDoor_7 : decode cX8_tellDoor 7 = .ok (.aload_n 0, 1) := dk_42 (dk_at dksX8_tellDoor_0 7 rfl rfl)
theorem dX8_tellDoor_8 : decode cX8_tellDoor 8 = .ok (.getfield 52, 3) := dk_180 0 52 (dk_at dksX8_tellDoor_0 8 rfl rfl)
theorem dX8_tellDoor_11 : decode cX8_tellDoor 11 = .ok (.aload_n 0, 1) := dk_42 (dk_at dksX8_tellDoor_0 11 rfl rfl)
theorem dX8_tellDoor_12 : decode cX8_tellDoor 12 = .ok (.getfield 281, 3) := dk_180 1 25 (dk_at dksX8_tellDoor_0 12 rfl rfl)
theorem dX8_tellDoor_15 : decode cX8_tellDoor 15 = .ok (.iaload, 1) := dk_46 (dk_at dksX8_tellDoor_0 15 rfl rfl)
theorem dX8_tellDoor_16 : decode cX8_tellDoor 16 = .ok (.iadd, 1) := dk_96 (dk_at dksX8_tellDoor_0 16 rfl rfl)
theorem dX8_tellDoor_17 : decode cX8_tellDoor 17 = .ok (.istore_n 1, 1) := dk_60 (dk_at dksX8_tellDoor_0 17 rfl rfl)
theorem dX8_tellDoor_18 : decode cX8_tellDoor 18 = .ok (.aload_n 0, 1) := dk_42 (dk_at dksX8_tellDoor_0 18 rfl rfl)
theorem dX8_tellDoor_19 : decode cX8_tellDoor 19 = .ok (.getfield 55, 3) := dk_180 0 55 (dk_at dksX8_tellDoor_0 19 rfl rfl)
theorem dX8_tellDoor_22 : decode cX8_tellDoor 22 = .ok (.iload_n 1, 1) := dk_27 (dk_at dksX8_tellDoor_0 22 rfl rfl)
theorem dX8_tellDoor_23 : decode cX8_tellDoor 23 = .ok (.aload_n 0, 1) := dk_42 (dk_at dksX8_tellDoor_0 23 rfl rfl)
theorem dX8_tellDoor_24 : decode cX8_tellDoor 24 = .ok (.iconst 0, 1) := dk_3 (dk_at dksX8_tellDoor_1 0 rfl rfl)
theorem dX8_tellDoor_25 : decode cX8_tellDoor 25 = .ok (.invokevirtual 348, 3) := dk_182 1 92 (dk_at dksX8_tellDoor_1 1 rfl rfl)
theorem dX8_tellDoor_28 : decode cX8_tellDoor 28 = .ok (.iastore, 1) := dk_79 (dk_at dksX8_tellDoor_1 4 rfl rfl)
theorem dX8_tellDoor_29 : decode cX8_tellDoor 29 = .ok (.aload_n 0, 1) := dk_42 (dk_at dksX8_tellDoor_1 5 rfl rfl)
theorem dX8_tellDoor_30 : decode cX8_tellDoor 30 = .ok (.getfield 251, 3) := dk_180 0 251 (dk_at dksX8_tellDoor_1 6 rfl rfl)
theorem dX8_tellDoor_33 : decode cX8_tellDoor 33 = .ok (.istore_n 2, 1) := dk_61 (dk_at dksX8_tellDoor_1 9 rfl rfl)
theorem dX8_tellDoor_34 : decode cX8_tellDoor 34 = .ok (.aload_n 0, 1) := dk_42 (dk_at dksX8_tellDoor_1 10 rfl rfl)
theorem dX8_tellDoor_35 : decode cX8_tellDoor 35 = .ok (.getfield 58, 3) := dk_180 0 58 (dk_at dksX8_tellDoor_1 11 rfl rfl)
theorem dX8_tellDoor_38 : decode cX8_tellDoor 38 = .ok (.iload_n 1, 1) := dk_27 (dk_at dksX8_tellDoor_1 14 rfl rfl)
theorem dX8_tellDoor_39 : decode cX8_tellDoor 39 = .ok (.aload_n 0, 1) := dk_42 (dk_at dksX8_tellDoor_1 15 rfl rfl)
theorem dX8_tellDoor_40 : decode cX8_tellDoor 40 = .ok (.iconst 0, 1) := dk_3 (dk_at dksX8_tellDoor_1 16 rfl rfl)
theorem dX8_tellDoor_41 : decode cX8_tellDoor 41 = .ok (.invokevirtual 348, 3) := dk_182 1 92 (dk_at dksX8_tellDoor_1 17 rfl rfl)
theorem dX8_tellDoor_44 : decode cX8_tellDoor 44 = .ok (.iastore, 1) := dk_79 (dk_at dksX8_tellDoor_1 20 rfl rfl)
theorem dX8_tellDoor_45 : decode cX8_tellDoor 45 = .ok (.aload_n 0, 1) := dk_42 (dk_at dksX8_tellDoor_1 21 rfl rfl)
theorem dX8_tellDoor_46 : decode cX8_tellDoor 46 = .ok (.getfield 248, 3) := dk_180 0 248 (dk_at dksX8_tellDoor_2 0 rfl rfl)
theorem dX8_tellDoor_49 : decode cX8_tellDoor 49 = .ok (.ifCond .ne 33, 3) := dk_154 0 33 (dk_at dksX8_tellDoor_2 3 rfl rfl)
theorem dX8_tellDoor_52 : decode cX8_tellDoor 52 = .ok (.aload_n 0, 1) := dk_42 (dk_at dksX8_tellDoor_2 6 rfl rfl)
theorem dX8_tellDoor_53 : decode cX8_tellDoor 53 = .ok (.getfield 55, 3) := dk_180 0 55 (dk_at dksX8_tellDoor_2 7 rfl rfl)
theorem dX8_tellDoor_56 : decode cX8_tellDoor 56 = .ok (.iload_n 1, 1) := dk_27 (dk_at dksX8_tellDoor_2 10 rfl rfl)
theorem dX8_tellDoor_57 : decode cX8_tellDoor 57 = .ok (.iaload, 1) := dk_46 (dk_at dksX8_tellDoor_2 11 rfl rfl)
theorem dX8_tellDoor_58 : decode cX8_tellDoor 58 = .ok (.ifCond .lt 24, 3) := dk_155 0 24 (dk_at dksX8_tellDoor_2 12 rfl rfl)
theorem dX8_tellDoor_61 : decode cX8_tellDoor 61 = .ok (.aload_n 0, 1) := dk_42 (dk_at dksX8_tellDoor_2 15 rfl rfl)
theorem dX8_tellDoor_62 : decode cX8_tellDoor 62 = .ok (.getfield 55, 3) := dk_180 0 55 (dk_at dksX8_tellDoor_2 16 rfl rfl)
theorem dX8_tellDoor_65 : decode cX8_tellDoor 65 = .ok (.iload_n 1, 1) := dk_27 (dk_at dksX8_tellDoor_2 19 rfl rfl)
theorem dX8_tellDoor_66 : decode cX8_tellDoor 66 = .ok (.iaload, 1) := dk_46 (dk_at dksX8_tellDoor_2 20 rfl rfl)
theorem dX8_tellDoor_67 : decode cX8_tellDoor 67 = .ok (.aload_n 0, 1) := dk_42 (dk_at dksX8_tellDoor_2 21 rfl rfl)
theorem dX8_tellDoor_68 : decode cX8_tellDoor 68 = .ok (.getfield 58, 3) := dk_180 0 58 (dk_at dksX8_tellDoor_3 0 rfl rfl)
theorem dX8_tellDoor_71 : decode cX8_tellDoor 71 = .ok (.iload_n 1, 1) := dk_27 (dk_at dksX8_tellDoor_3 3 rfl rfl)
theorem dX8_tellDoor_72 : decode cX8_tellDoor 72 = .ok (.iaload, 1) := dk_46 (dk_at dksX8_tellDoor_3 4 rfl rfl)
theorem dX8_tellDoor_73 : decode cX8_tellDoor 73 = .ok (.if_icmp .ne 9, 3) := dk_160 0 9 (dk_at dksX8_tellDoor_3 5 rfl rfl)
theorem dX8_tellDoor_76 : decode cX8_tellDoor 76 = .ok (.aload_n 0, 1) := dk_42 (dk_at dksX8_tellDoor_3 8 rfl rfl)
theorem dX8_tellDoor_77 : decode cX8_tellDoor 77 = .ok (.iconst 5, 1) := dk_8 (dk_at dksX8_tellDoor_3 9 rfl rfl)
theorem dX8_tellDoor_78 : decode cX8_tellDoor 78 = .ok (.iload_n 2, 1) := dk_28 (dk_at dksX8_tellDoor_3 10 rfl rfl)
theorem dX8_tellDoor_79 : decode cX8_tellDoor 79 = .ok (.invokevirtual 337, 3) := dk_182 1 81 (dk_at dksX8_tellDoor_3 11 rfl rfl)
theorem dX8_tellDoor_82 : decode cX8_tellDoor 82 = .ok (.aload_n 0, 1) := dk_42 (dk_at dksX8_tellDoor_3 14 rfl rfl)
theorem dX8_tellDoor_83 : decode cX8_tellDoor 83 = .ok (.getfield 61, 3) := dk_180 0 61 (dk_at dksX8_tellDoor_3 15 rfl rfl)
theorem dX8_tellDoor_86 : decode cX8_tellDoor 86 = .ok (.iload_n 1, 1) := dk_27 (dk_at dksX8_tellDoor_3 18 rfl rfl)
theorem dX8_tellDoor_87 : decode cX8_tellDoor 87 = .ok (.aload_n 0, 1) := dk_42 (dk_at dksX8_tellDoor_3 19 rfl rfl)
theorem dX8_tellDoor_88 : decode cX8_tellDoor 88 = .ok (.iconst 1, 1) := dk_4 (dk_at dksX8_tellDoor_3 20 rfl rfl)
theorem dX8_tellDoor_89 : decode cX8_tellDoor 89 = .ok (.bipush 60, 2) := dk_16 60 (dk_at dksX8_tellDoor_3 21 rfl rfl)
theorem dX8_tellDoor_91 : decode cX8_tellDoor 91 = .ok (.invokevirtual 330, 3) := dk_182 1 74 (dk_at dksX8_tellDoor_4 0 rfl rfl)
theorem dX8_tellDoor_94 : decode cX8_tellDoor 94 = .ok (.iastore, 1) := dk_79 (dk_at dksX8_tellDoor_4 3 rfl rfl)
theorem dX8_tellDoor_95 : decode cX8_tellDoor 95 = .ok (.aload_n 0, 1) := dk_42 (dk_at dksX8_tellDoor_4 4 rfl rfl)
theorem dX8_tellDoor_96 : decode cX8_tellDoor 96 = .ok (.getfield 64, 3) := dk_180 0 64 (dk_at dksX8_tellDoor_4 5 rfl rfl)
theorem dX8_tellDoor_99 : decode cX8_tellDoor 99 = .ok (.iload_n 1, 1) := dk_27 (dk_at dksX8_tellDoor_4 8 rfl rfl)
theorem dX8_tellDoor_100 : decode cX8_tellDoor 100 = .ok (.aload_n 0, 1) := dk_42 (dk_at dksX8_tellDoor_4 9 rfl rfl)
theorem dX8_tellDoor_101 : decode cX8_tellDoor 101 = .ok (.getfield 248, 3) := dk_180 0 248 (dk_at dksX8_tellDoor_4 10 rfl rfl)
theorem dX8_tellDoor_104 : decode cX8_tellDoor 104 = .ok (.ifCond .ne 16, 3) := dk_154 0 16 (dk_at dksX8_tellDoor_4 13 rfl rfl)
theorem dX8_tellDoor_107 : decode cX8_tellDoor 107 = .ok (.aload_n 0, 1) := dk_42 (dk_at dksX8_tellDoor_4 16 rfl rfl)
theorem dX8_tellDoor_108 : decode cX8_tellDoor 108 = .ok (.bipush 22, 2) := dk_16 22 (dk_at dksX8_tellDoor_4 17 rfl rfl)
theorem dX8_tellDoor_110 : decode cX8_tellDoor 110 = .ok (.invokevirtual 266, 3) := dk_182 1 10 (dk_at dksX8_tellDoor_4 19 rfl rfl)
theorem dX8_tellDoor_113 : decode cX8_tellDoor 113 = .ok (.ifCond .eq 7, 3) := dk_153 0 7 (dk_at dksX8_tellDoor_5 0 rfl rfl)
theorem dX8_tellDoor_116 : decode cX8_tellDoor 116 = .ok (.iconst 1, 1) := dk_4 (dk_at dksX8_tellDoor_5 3 rfl rfl)
theorem dX8_tellDoor_117 : decode cX8_tellDoor 117 = .ok (.goto 4, 3) := dk_167 0 4 (dk_at dksX8_tellDoor_5 4 rfl rfl)
theorem dX8_tellDoor_120 : decode cX8_tellDoor 120 = .ok (.iconst 0, 1) := dk_3 (dk_at dksX8_tellDoor_5 7 rfl rfl)
theorem dX8_tellDoor_121 : decode cX8_tellDoor 121 = .ok (.bastore, 1) := dk_84 (dk_at dksX8_tellDoor_5 8 rfl rfl)
theorem dX8_tellDoor_122 : decode cX8_tellDoor 122 = .ok (.aload_n 0, 1) := dk_42 (dk_at dksX8_tellDoor_5 9 rfl rfl)
theorem dX8_tellDoor_123 : decode cX8_tellDoor 123 = .ok (.getfield 64, 3) := dk_180 0 64 (dk_at dksX8_tellDoor_5 10 rfl rfl)
theorem dX8_tellDoor_126 : decode cX8_tellDoor 126 = .ok (.iload_n 1, 1) := dk_27 (dk_at dksX8_tellDoor_5 13 rfl rfl)
theorem dX8_tellDoor_127 : decode cX8_tellDoor 127 = .ok (.baload, 1) := dk_51 (dk_at dksX8_tellDoor_5 14 rfl rfl)
theorem dX8_tellDoor_128 : decode cX8_tellDoor 128 = .ok (.ifCond .eq 7, 3) := dk_153 0 7 (dk_at dksX8_tellDoor_5 15 rfl rfl)
theorem dX8_tellDoor_131 : decode cX8_tellDoor 131 = .ok (.aload_n 0, 1) := dk_42 (dk_at dksX8_tellDoor_5 18 rfl rfl)
theorem dX8_tellDoor_132 : decode cX8_tellDoor 132 = .ok (.invokevirtual 269, 3) := dk_182 1 13 (dk_at dksX8_tellDoor_5 19 rfl rfl)
theorem dX8_tellDoor_135 : decode cX8_tellDoor 135 = .ok (.aload_n 0, 1) := dk_42 (dk_at dksX8_tellDoor_5 22 rfl rfl)
theorem dX8_tellDoor_136 : decode cX8_tellDoor 136 = .ok (.iconst 4, 1) := dk_7 (dk_at dksX8_tellDoor_5 23 rfl rfl)
theorem dX8_tellDoor_137 : decode cX8_tellDoor 137 = .ok (.invokevirtual 334, 3) := dk_182 1 78 (dk_at dksX8_tellDoor_6 0 rfl rfl)
theorem dX8_tellDoor_140 : decode cX8_tellDoor 140 = .ok (.aload_n 0, 1) := dk_42 (dk_at dksX8_tellDoor_6 3 rfl rfl)
theorem dX8_tellDoor_141 : decode cX8_tellDoor 141 = .ok (.getfield 248, 3) := dk_180 0 248 (dk_at dksX8_tellDoor_6 4 rfl rfl)
theorem dX8_tellDoor_144 : decode cX8_tellDoor 144 = .ok (.ifCond .ne 16, 3) := dk_154 0 16 (dk_at dksX8_tellDoor_6 7 rfl rfl)
theorem dX8_tellDoor_147 : decode cX8_tellDoor 147 = .ok (.aload_n 0, 1) := dk_42 (dk_at dksX8_tellDoor_6 10 rfl rfl)
theorem dX8_tellDoor_148 : decode cX8_tellDoor 148 = .ok (.getfield 52, 3) := dk_180 0 52 (dk_at dksX8_tellDoor_6 11 rfl rfl)
theorem dX8_tellDoor_151 : decode cX8_tellDoor 151 = .ok (.aload_n 0, 1) := dk_42 (dk_at dksX8_tellDoor_6 14 rfl rfl)
theorem dX8_tellDoor_152 : decode cX8_tellDoor 152 = .ok (.getfield 281, 3) := dk_180 1 25 (dk_at dksX8_tellDoor_6 15 rfl rfl)
theorem dX8_tellDoor_155 : decode cX8_tellDoor 155 = .ok (.dup2, 1) := dk_92 (dk_at dksX8_tellDoor_6 18 rfl rfl)
theorem dX8_tellDoor_156 : decode cX8_tellDoor 156 = .ok (.iaload, 1) := dk_46 (dk_at dksX8_tellDoor_6 19 rfl rfl)
theorem dX8_tellDoor_157 : decode cX8_tellDoor 157 = .ok (.iconst 1, 1) := dk_4 (dk_at dksX8_tellDoor_6 20 rfl rfl)
theorem dX8_tellDoor_158 : decode cX8_tellDoor 158 = .ok (.iadd, 1) := dk_96 (dk_at dksX8_tellDoor_6 21 rfl rfl)
theorem dX8_tellDoor_159 : decode cX8_tellDoor 159 = .ok (.iastore, 1) := dk_79 (dk_at dksX8_tellDoor_6 22 rfl rfl)
theorem dX8_tellDoor_160 : decode cX8_tellDoor 160 = .ok (.return_, 1) := dk_177 (dk_at dksX8_tellDoor_6 23 rfl rfl)
abbrev cX8_known : ByteArray := prog_22_method_26_code
def yX8_known : MethodName := ⟨RX8, "known", "(I)I"⟩
def dkwX8_known_3 : List UInt8 := [28, 182, 1, 81, 2, 172]
abbrev dktX8_known_3 : List UInt8 := dkwX8_known_3 ++ []
def dkwX8_known_2 : List UInt8 := [180, 0, 43, 29, 46, 27, 160, 0, 10, 42, 180, 0, 46, 29, 46, 172, 132, 3, 1, 167, 255, 212, 42, 7]
abbrev dktX8_known_2 : List UInt8 := dkwX8_known_2 ++ dktX8_known_3
def dkwX8_known_1 : List UInt8 := [180, 1, 28, 162, 0, 42, 42, 180, 0, 40, 29, 47, 42, 180, 0, 30, 28, 47, 148, 154, 0, 20, 42]
abbrev dktX8_known_1 : List UInt8 := dkwX8_known_1 ++ dktX8_known_2
def dkwX8_known_0 : List UInt8 := [42, 180, 0, 251, 61, 42, 4, 182, 1, 78, 42, 180, 0, 248, 158, 0, 5, 2, 172, 3, 62, 29, 42]
abbrev dktX8_known_0 : List UInt8 := dkwX8_known_0 ++ dktX8_known_1
theorem dksX8_known_0 : cX8_known.data.toList.drop 0 = dktX8_known_0 := by decide +kernel
theorem dksX8_known_1 : cX8_known.data.toList.drop 23 = dktX8_known_1 := dk_seg dksX8_known_0 23 rfl rfl
theorem dksX8_known_2 : cX8_known.data.toList.drop 46 = dktX8_known_2 := dk_seg dksX8_known_1 23 rfl rfl
theorem dksX8_known_3 : cX8_known.data.toList.drop 70 = dktX8_known_3 := dk_seg dksX8_known_2 24 rfl rfl
theorem dX8_known_0 : decode cX8_known 0 = .ok (.aload_n 0, 1) := dk_42 (dk_at dksX8_known_0 0 rfl rfl)
theorem dX8_known_1 : decode cX8_known 1 = .ok (.getfield 251, 3) := dk_180 0 251 (dk_at dksX8_known_0 1 rfl rfl)
theorem dX8_known_4 : decode cX8_known 4 = .ok (.istore_n 2, 1) := dk_61 (dk_at dksX8_known_0 4 rfl rfl)
theorem dX8_known_5 : decode cX8_known 5 = .ok (.aload_n 0, 1) := dk_42 (dk_at dksX8_known_0 5 rfl rfl)
theorem dX8_known_6 : decode cX8_known 6 = .ok (.iconst 1, 1) := dk_4 (dk_at dksX8_known_0 6 rfl rfl)
theorem dX8_known_7 : decode cX8_known 7 = .ok (.invokevirtual 334, 3) := dk_182 1 78 (dk_at dksX8_known_0 7 rfl rfl)
theorem dX8_known_10 : decode cX8_known 10 = .ok (.aload_n 0, 1) := dk_42 (dk_at dksX8_known_0 10 rfl rfl)
theorem dX8_known_11 : decode cX8_known 11 = .ok (.getfield 248, 3) := dk_180 0 248 (dk_at dksX8_known_0 11 rfl rfl)
theorem dX8_known_14 : decode cX8_known 14 = .ok (.ifCond .le 5, 3) := dk_158 0 5 (dk_at dksX8_known_0 14 rfl rfl)
theorem dX8_known_17 : decode cX8_known 17 = .ok (.iconst (-1), 1) := dk_2 (dk_at dksX8_known_0 17 rfl rfl)
theorem dX8_known_18 : decode cX8_known 18 = .ok (.ireturn, 1) := dk_172 (dk_at dksX8_known_0 18 rfl rfl)
theorem dX8_known_19 : decode cX8_known 19 = .ok (.iconst 0, 1) := dk_3 (dk_at dksX8_known_0 19 rfl rfl)
theorem dX8_known_20 : decode cX8_known 20 = .ok (.istore_n 3, 1) := dk_62 (dk_at dksX8_known_0 20 rfl rfl)
theorem dX8_known_21 : decode cX8_known 21 = .ok (.iload_n 3, 1) := dk_29 (dk_at dksX8_known_0 21 rfl rfl)
theorem dX8_known_22 : decode cX8_known 22 = .ok (.aload_n 0, 1) := dk_42 (dk_at dksX8_known_0 22 rfl rfl)
theorem dX8_known_23 : decode cX8_known 23 = .ok (.getfield 284, 3) := dk_180 1 28 (dk_at dksX8_known_1 0 rfl rfl)
theorem dX8_known_26 : decode cX8_known 26 = .ok (.if_icmp .ge 42, 3) := dk_162 0 42 (dk_at dksX8_known_1 3 rfl rfl)
theorem dX8_known_29 : decode cX8_known 29 = .ok (.aload_n 0, 1) := dk_42 (dk_at dksX8_known_1 6 rfl rfl)
theorem dX8_known_30 : decode cX8_known 30 = .ok (.getfield 40, 3) := dk_180 0 40 (dk_at dksX8_known_1 7 rfl rfl)
theorem dX8_known_33 : decode cX8_known 33 = .ok (.iload_n 3, 1) := dk_29 (dk_at dksX8_known_1 10 rfl rfl)
theorem dX8_known_34 : decode cX8_known 34 = .ok (.laload, 1) := dk_47 (dk_at dksX8_known_1 11 rfl rfl)
theorem dX8_known_35 : decode cX8_known 35 = .ok (.aload_n 0, 1) := dk_42 (dk_at dksX8_known_1 12 rfl rfl)
theorem dX8_known_36 : decode cX8_known 36 = .ok (.getfield 30, 3) := dk_180 0 30 (dk_at dksX8_known_1 13 rfl rfl)
theorem dX8_known_39 : decode cX8_known 39 = .ok (.iload_n 2, 1) := dk_28 (dk_at dksX8_known_1 16 rfl rfl)
theorem dX8_known_40 : decode cX8_known 40 = .ok (.laload, 1) := dk_47 (dk_at dksX8_known_1 17 rfl rfl)
theorem dX8_known_41 : decode cX8_known 41 = .ok (.lcmp, 1) := dk_148 (dk_at dksX8_known_1 18 rfl rfl)
theorem dX8_known_42 : decode cX8_known 42 = .ok (.ifCond .ne 20, 3) := dk_154 0 20 (dk_at dksX8_known_1 19 rfl rfl)
theorem dX8_known_45 : decode cX8_known 45 = .ok (.aload_n 0, 1) := dk_42 (dk_at dksX8_known_1 22 rfl rfl)
theorem dX8_known_46 : decode cX8_known 46 = .ok (.getfield 43, 3) := dk_180 0 43 (dk_at dksX8_known_2 0 rfl rfl)
theorem dX8_known_49 : decode cX8_known 49 = .ok (.iload_n 3, 1) := dk_29 (dk_at dksX8_known_2 3 rfl rfl)
theorem dX8_known_50 : decode cX8_known 50 = .ok (.iaload, 1) := dk_46 (dk_at dksX8_known_2 4 rfl rfl)
theorem dX8_known_51 : decode cX8_known 51 = .ok (.iload_n 1, 1) := dk_27 (dk_at dksX8_known_2 5 rfl rfl)
theorem dX8_known_52 : decode cX8_known 52 = .ok (.if_icmp .ne 10, 3) := dk_160 0 10 (dk_at dksX8_known_2 6 rfl rfl)
theorem dX8_known_55 : decode cX8_known 55 = .ok (.aload_n 0, 1) := dk_42 (dk_at dksX8_known_2 9 rfl rfl)
theorem dX8_known_56 : decode cX8_known 56 = .ok (.getfield 46, 3) := dk_180 0 46 (dk_at dksX8_known_2 10 rfl rfl)
theorem dX8_known_59 : decode cX8_known 59 = .ok (.iload_n 3, 1) := dk_29 (dk_at dksX8_known_2 13 rfl rfl)
theorem dX8_known_60 : decode cX8_known 60 = .ok (.iaload, 1) := dk_46 (dk_at dksX8_known_2 14 rfl rfl)
theorem dX8_known_61 : decode cX8_known 61 = .ok (.ireturn, 1) := dk_172 (dk_at dksX8_known_2 15 rfl rfl)
theorem dX8_known_62 : decode cX8_known 62 = .ok (.iinc 3 1, 3) := dk_132 3 1 (dk_at dksX8_known_2 16 rfl rfl)
theorem dX8_known_65 : decode cX8_known 65 = .ok (.goto (-44), 3) := dk_167 255 212 (dk_at dksX8_known_2 19 rfl rfl)
theorem dX8_known_68 : decode cX8_known 68 = .ok (.aload_n 0, 1) := dk_42 (dk_at dksX8_known_2 22 rfl rfl)
theorem dX8_known_69 : decode cX8_known 69 = .ok (.iconst 4, 1) := dk_7 (dk_at dksX8_known_2 23 rfl rfl)
theorem dX8_known_70 : decode cX8_known 70 = .ok (.iload_n 2, 1) := dk_28 (dk_at dksX8_known_3 0 rfl rfl)
theorem dX8_known_71 : decode cX8_known 71 = .ok (.invokevirtual 337, 3) := dk_182 1 81 (dk_at dksX8_known_3 1 rfl rfl)
theorem dX8_known_74 : decode cX8_known 74 = .ok (.iconst (-1), 1) := dk_2 (dk_at dksX8_known_3 4 rfl rfl)
theorem dX8_known_75 : decode cX8_known 75 = .ok (.ireturn, 1) := dk_172 (dk_at dksX8_known_3 5 rfl rfl)
abbrev cX8_bounded : ByteArray := prog_22_method_27_code
def yX8_bounded : MethodName := ⟨RX8, "bounded", "(II)I"⟩
def dkwX8_bounded_2 : List UInt8 := [180, 0, 251, 182, 1, 81, 42, 182, 1, 13, 29, 172]
abbrev dktX8_bounded_2 : List UInt8 := dkwX8_bounded_2 ++ []
def dkwX8_bounded_1 : List UInt8 := [180, 0, 27, 42, 180, 0, 251, 46, 62, 29, 27, 161, 0, 8, 29, 28, 164, 0, 12, 42, 8, 42]
abbrev dktX8_bounded_1 : List UInt8 := dkwX8_bounded_1 ++ dktX8_bounded_2
def dkwX8_bounded_0 : List UInt8 := [42, 180, 0, 248, 157, 0, 11, 42, 5, 182, 1, 10, 154, 0, 10, 42, 4, 182, 1, 7, 27, 172, 42]
abbrev dktX8_bounded_0 : List UInt8 := dkwX8_bounded_0 ++ dktX8_bounded_1
theorem dksX8_bounded_0 : cX8_bounded.data.toList.drop 0 = dktX8_bounded_0 := by decide +kernel
theorem dksX8_bounded_1 : cX8_bounded.data.toList.drop 23 = dktX8_bounded_1 := dk_seg dksX8_bounded_0 23 rfl rfl
theorem dksX8_bounded_2 : cX8_bounded.data.toList.drop 45 = dktX8_bounded_2 := dk_seg dksX8_bounded_1 22 rfl rfl
theorem dX8_bounded_0 : decode cX8_bounded 0 = .ok (.aload_n 0, 1) := dk_42 (dk_at dksX8_bounded_0 0 rfl rfl)
theorem dX8_bounded_1 : decode cX8_bounded 1 = .ok (.getfield 248, 3) := dk_180 0 248 (dk_at dksX8_bounded_0 1 rfl rfl)
theorem dX8_bounded_4 : decode cX8_bounded 4 = .ok (.ifCond .gt 11, 3) := dk_157 0 11 (dk_at dksX8_bounded_0 4 rfl rfl)
theorem dX8_bounded_7 : decode cX8_bounded 7 = .ok (.aload_n 0, 1) := dk_42 (dk_at dksX8_bounded_0 7 rfl rfl)
theorem dX8_bounded_8 : decode cX8_bounded 8 = .ok (.iconst 2, 1) := dk_5 (dk_at dksX8_bounded_0 8 rfl rfl)
theorem dX8_bounded_9 : decode cX8_bounded 9 = .ok (.invokevirtual 266, 3) := dk_182 1 10 (dk_at dksX8_bounded_0 9 rfl rfl)
theorem dX8_bounded_12 : decode cX8_bounded 12 = .ok (.ifCond .ne 10, 3) := dk_154 0 10 (dk_at dksX8_bounded_0 12 rfl rfl)
theorem dX8_bounded_15 : decode cX8_bounded 15 = .ok (.aload_n 0, 1) := dk_42 (dk_at dksX8_bounded_0 15 rfl rfl)
theorem dX8_bounded_16 : decode cX8_bounded 16 = .ok (.iconst 1, 1) := dk_4 (dk_at dksX8_bounded_0 16 rfl rfl)
theorem dX8_bounded_17 : decode cX8_bounded 17 = .ok (.invokevirtual 263, 3) := dk_182 1 7 (dk_at dksX8_bounded_0 17 rfl rfl)
theorem dX8_bounded_20 : decode cX8_bounded 20 = .ok (.iload_n 1, 1) := dk_27 (dk_at dksX8_bounded_0 20 rfl rfl)
theorem dX8_bounded_21 : decode cX8_bounded 21 = .ok (.ireturn, 1) := dk_172 (dk_at dksX8_bounded_0 21 rfl rfl)
theorem dX8_bounded_22 : decode cX8_bounded 22 = .ok (.aload_n 0, 1) := dk_42 (dk_at dksX8_bounded_0 22 rfl rfl)
theorem dX8_bounded_23 : decode cX8_bounded 23 = .ok (.getfield 27, 3) := dk_180 0 27 (dk_at dksX8_bounded_1 0 rfl rfl)
theorem dX8_bounded_26 : decode cX8_bounded 26 = .ok (.aload_n 0, 1) := dk_42 (dk_at dksX8_bounded_1 3 rfl rfl)
theorem dX8_bounded_27 : decode cX8_bounded 27 = .ok (.getfield 251, 3) := dk_180 0 251 (dk_at dksX8_bounded_1 4 rfl rfl)
theorem dX8_bounded_30 : decode cX8_bounded 30 = .ok (.iaload, 1) := dk_46 (dk_at dksX8_bounded_1 7 rfl rfl)
theorem dX8_bounded_31 : decode cX8_bounded 31 = .ok (.istore_n 3, 1) := dk_62 (dk_at dksX8_bounded_1 8 rfl rfl)
theorem dX8_bounded_32 : decode cX8_bounded 32 = .ok (.iload_n 3, 1) := dk_29 (dk_at dksX8_bounded_1 9 rfl rfl)
theorem dX8_bounded_33 : decode cX8_bounded 33 = .ok (.iload_n 1, 1) := dk_27 (dk_at dksX8_bounded_1 10 rfl rfl)
theorem dX8_bounded_34 : decode cX8_bounded 34 = .ok (.if_icmp .lt 8, 3) := dk_161 0 8 (dk_at dksX8_bounded_1 11 rfl rfl)
theorem dX8_bounded_37 : decode cX8_bounded 37 = .ok (.iload_n 3, 1) := dk_29 (dk_at dksX8_bounded_1 14 rfl rfl)
theorem dX8_bounded_38 : decode cX8_bounded 38 = .ok (.iload_n 2, 1) := dk_28 (dk_at dksX8_bounded_1 15 rfl rfl)
theorem dX8_bounded_39 : decode cX8_bounded 39 = .ok (.if_icmp .le 12, 3) := dk_164 0 12 (dk_at dksX8_bounded_1 16 rfl rfl)
theorem dX8_bounded_42 : decode cX8_bounded 42 = .ok (.aload_n 0, 1) := dk_42 (dk_at dksX8_bounded_1 19 rfl rfl)
theorem dX8_bounded_43 : decode cX8_bounded 43 = .ok (.iconst 5, 1) := dk_8 (dk_at dksX8_bounded_1 20 rfl rfl)
theorem dX8_bounded_44 : decode cX8_bounded 44 = .ok (.aload_n 0, 1) := dk_42 (dk_at dksX8_bounded_1 21 rfl rfl)
theorem dX8_bounded_45 : decode cX8_bounded 45 = .ok (.getfield 251, 3) := dk_180 0 251 (dk_at dksX8_bounded_2 0 rfl rfl)
theorem dX8_bounded_48 : decode cX8_bounded 48 = .ok (.invokevirtual 337, 3) := dk_182 1 81 (dk_at dksX8_bounded_2 3 rfl rfl)
theorem dX8_bounded_51 : decode cX8_bounded 51 = .ok (.aload_n 0, 1) := dk_42 (dk_at dksX8_bounded_2 6 rfl rfl)
theorem dX8_bounded_52 : decode cX8_bounded 52 = .ok (.invokevirtual 269, 3) := dk_182 1 13 (dk_at dksX8_bounded_2 7 rfl rfl)
theorem dX8_bounded_55 : decode cX8_bounded 55 = .ok (.iload_n 3, 1) := dk_29 (dk_at dksX8_bounded_2 10 rfl rfl)
theorem dX8_bounded_56 : decode cX8_bounded 56 = .ok (.ireturn, 1) := dk_172 (dk_at dksX8_bounded_2 11 rfl rfl)
abbrev cX8_tellTool : ByteArray := prog_22_method_30_code
def yX8_tellTool : MethodName := ⟨RX8, "tellTool", "()V"⟩
def dkwX8_tellTool_3 : List UInt8 := [79, 177]
abbrev dktX8_tellTool_3 : List UInt8 := dkwX8_tellTool_3 ++ []
def dkwX8_tellTool_2 : List UInt8 := [42, 180, 0, 68, 42, 180, 1, 25, 46, 182, 1, 88, 42, 180, 0, 68, 42, 180, 1, 25, 92, 46, 4, 96]
abbrev dktX8_tellTool_2 : List UInt8 := dkwX8_tellTool_2 ++ dktX8_tellTool_3
def dkwX8_tellTool_1 : List UInt8 := [46, 96, 42, 3, 182, 1, 92, 79, 42, 7, 182, 1, 78, 42, 180, 0, 248, 158, 0, 4, 177, 42, 27, 4]
abbrev dktX8_tellTool_1 : List UInt8 := dkwX8_tellTool_1 ++ dktX8_tellTool_2
def dkwX8_tellTool_0 : List UInt8 := [42, 182, 1, 84, 60, 42, 180, 0, 71, 16, 6, 42, 180, 1, 25, 104, 42, 180, 0, 68, 42, 180, 1, 25]
abbrev dktX8_tellTool_0 : List UInt8 := dkwX8_tellTool_0 ++ dktX8_tellTool_1
theorem dksX8_tellTool_0 : cX8_tellTool.data.toList.drop 0 = dktX8_tellTool_0 := by decide +kernel
theorem dksX8_tellTool_1 : cX8_tellTool.data.toList.drop 24 = dktX8_tellTool_1 := dk_seg dksX8_tellTool_0 24 rfl rfl
theorem dksX8_tellTool_2 : cX8_tellTool.data.toList.drop 48 = dktX8_tellTool_2 := dk_seg dksX8_tellTool_1 24 rfl rfl
theorem dksX8_tellTool_3 : cX8_tellTool.data.toList.drop 72 = dktX8_tellTool_3 := dk_seg dksX8_tellTool_2 24 rfl rfl
theorem dX8_tellTool_0 : decode cX8_tellTool 0 = .ok (.aload_n 0, 1) := dk_42 (dk_at dksX8_tellTool_0 0 rfl rfl)
theorem dX8_tellTool_1 : decode cX8_tellTool 1 = .ok (.invokevirtual 340, 3) := dk_182 1 84 (dk_at dksX8_tellTool_0 1 rfl rfl)
theorem dX8_tellTool_4 : decode cX8_tellTool 4 = .ok (.istore_n 1, 1) := dk_60 (dk_at dksX8_tellTool_0 4 rfl rfl)
theorem dX8_tellTool_5 : decode cX8_tellTool 5 = .ok (.aload_n 0, 1) := dk_42 (dk_at dksX8_tellTool_0 5 rfl rfl)
theorem dX8_tellTool_6 : decode cX8_tellTool 6 = .ok (.getfield 71, 3) := dk_180 0 71 (dk_at dksX8_tellTool_0 6 rfl rfl)
theorem dX8_tellTool_9 : decode cX8_tellTool 9 = .ok (.bipush 6, 2) := dk_16 6 (dk_at dksX8_tellTool_0 9 rfl rfl)
theorem dX8_tellTool_11 : decode cX8_tellTool 11 = .ok (.aload_n 0, 1) := dk_42 (dk_at dksX8_tellTool_0 11 rfl rfl)
theorem dX8_tellTool_12 : decode cX8_tellTool 12 = .ok (.getfield 281, 3) := dk_180 1 25 (dk_at dksX8_tellTool_0 12 rfl rfl)
theorem dX8_tellTool_15 : decode cX8_tellTool 15 = .ok (.imul, 1) := dk_104 (dk_at dksX8_tellTool_0 15 rfl rfl)
theorem dX8_tellTool_16 : decode cX8_tellTool 16 = .ok (.aload_n 0, 1) := dk_42 (dk_at dksX8_tellTool_0 16 rfl rfl)
theorem dX8_tellTool_17 : decode cX8_tellTool 17 = .ok (.getfield 68, 3) := dk_180 0 68 (dk_at dksX8_tellTool_0 17 rfl rfl)
theorem dX8_tellTool_20 : decode cX8_tellTool 20 = .ok (.aload_n 0, 1) := dk_42 (dk_at dksX8_tellTool_0 20 rfl rfl)
theorem dX8_tellTool_21 : decode cX8_tellTool 21 = .ok (.getfield 281, 3) := dk_180 1 25 (dk_at dksX8_tellTool_0 21 rfl rfl)
theorem dX8_tellTool_24 : decode cX8_tellTool 24 = .ok (.iaload, 1) := dk_46 (dk_at dksX8_tellTool_1 0 rfl rfl)
theorem dX8_tellTool_25 : decode cX8_tellTool 25 = .ok (.iadd, 1) := dk_96 (dk_at dksX8_tellTool_1 1 rfl rfl)
theorem dX8_tellTool_26 : decode cX8_tellTool 26 = .ok (.aload_n 0, 1) := dk_42 (dk_at dksX8_tellTool_1 2 rfl rfl)
theorem dX8_tellTool_27 : decode cX8_tellTool 27 = .ok (.iconst 0, 1) := dk_3 (dk_at dksX8_tellTool_1 3 rfl rfl)
theorem dX8_tellTool_28 : decode cX8_tellTool 28 = .ok (.invokevirtual 348, 3) := dk_182 1 92 (dk_at dksX8_tellTool_1 4 rfl rfl)
theorem dX8_tellTool_31 : decode cX8_tellTool 31 = .ok (.iastore, 1) := dk_79 (dk_at dksX8_tellTool_1 7 rfl rfl)
theorem dX8_tellTool_32 : decode cX8_tellTool 32 = .ok (.aload_n 0, 1) := dk_42 (dk_at dksX8_tellTool_1 8 rfl rfl)
theorem dX8_tellTool_33 : decode cX8_tellTool 33 = .ok (.iconst 4, 1) := dk_7 (dk_at dksX8_tellTool_1 9 rfl rfl)
theorem dX8_tellTool_34 : decode cX8_tellTool 34 = .ok (.invokevirtual 334, 3) := dk_182 1 78 (dk_at dksX8_tellTool_1 10 rfl rfl)
theorem dX8_tellTool_37 : decode cX8_tellTool 37 = .ok (.aload_n 0, 1) := dk_42 (dk_at dksX8_tellTool_1 13 rfl rfl)
theorem dX8_tellTool_38 : decode cX8_tellTool 38 = .ok (.getfield 248, 3) := dk_180 0 248 (dk_at dksX8_tellTool_1 14 rfl rfl)
theorem dX8_tellTool_41 : decode cX8_tellTool 41 = .ok (.ifCond .le 4, 3) := dk_158 0 4 (dk_at dksX8_tellTool_1 17 rfl rfl)
theorem dX8_tellTool_44 : decode cX8_tellTool 44 = .ok (.return_, 1) := dk_177 (dk_at dksX8_tellTool_1 20 rfl rfl)
theorem dX8_tellTool_45 : decode cX8_tellTool 45 = .ok (.aload_n 0, 1) := dk_42 (dk_at dksX8_tellTool_1 21 rfl rfl)
theorem dX8_tellTool_46 : decode cX8_tellTool 46 = .ok (.iload_n 1, 1) := dk_27 (dk_at dksX8_tellTool_1 22 rfl rfl)
theorem dX8_tellTool_47 : decode cX8_tellTool 47 = .ok (.iconst 1, 1) := dk_4 (dk_at dksX8_tellTool_1 23 rfl rfl)
theorem dX8_tellTool_48 : decode cX8_tellTool 48 = .ok (.aload_n 0, 1) := dk_42 (dk_at dksX8_tellTool_2 0 rfl rfl)
theorem dX8_tellTool_49 : decode cX8_tellTool 49 = .ok (.getfield 68, 3) := dk_180 0 68 (dk_at dksX8_tellTool_2 1 rfl rfl)
theorem dX8_tellTool_52 : decode cX8_tellTool 52 = .ok (.aload_n 0, 1) := dk_42 (dk_at dksX8_tellTool_2 4 rfl rfl)
theorem dX8_tellTool_53 : decode cX8_tellTool 53 = .ok (.getfield 281, 3) := dk_180 1 25 (dk_at dksX8_tellTool_2 5 rfl rfl)
theorem dX8_tellTool_56 : decode cX8_tellTool 56 = .ok (.iaload, 1) := dk_46 (dk_at dksX8_tellTool_2 8 rfl rfl)
theorem dX8_tellTool_57 : decode cX8_tellTool 57 = .ok (.invokevirtual 344, 3) := dk_182 1 88 (dk_at dksX8_tellTool_2 9 rfl rfl)
theorem dX8_tellTool_60 : decode cX8_tellTool 60 = .ok (.aload_n 0, 1) := dk_42 (dk_at dksX8_tellTool_2 12 rfl rfl)
theorem dX8_tellTool_61 : decode cX8_tellTool 61 = .ok (.getfield 68, 3) := dk_180 0 68 (dk_at dksX8_tellTool_2 13 rfl rfl)
theorem dX8_tellTool_64 : decode cX8_tellTool 64 = .ok (.aload_n 0, 1) := dk_42 (dk_at dksX8_tellTool_2 16 rfl rfl)
theorem dX8_tellTool_65 : decode cX8_tellTool 65 = .ok (.getfield 281, 3) := dk_180 1 25 (dk_at dksX8_tellTool_2 17 rfl rfl)
theorem dX8_tellTool_68 : decode cX8_tellTool 68 = .ok (.dup2, 1) := dk_92 (dk_at dksX8_tellTool_2 20 rfl rfl)
theorem dX8_tellTool_69 : decode cX8_tellTool 69 = .ok (.iaload, 1) := dk_46 (dk_at dksX8_tellTool_2 21 rfl rfl)
theorem dX8_tellTool_70 : decode cX8_tellTool 70 = .ok (.iconst 1, 1) := dk_4 (dk_at dksX8_tellTool_2 22 rfl rfl)
theorem dX8_tellTool_71 : decode cX8_tellTool 71 = .ok (.iadd, 1) := dk_96 (dk_at dksX8_tellTool_2 23 rfl rfl)
theorem dX8_tellTool_72 : decode cX8_tellTool 72 = .ok (.iastore, 1) := dk_79 (dk_at dksX8_tellTool_3 0 rfl rfl)
theorem dX8_tellTool_73 : decode cX8_tellTool 73 = .ok (.return_, 1) := dk_177 (dk_at dksX8_tellTool_3 1 rfl rfl)
abbrev cX8_tellTask : ByteArray := prog_22_method_31_code
def yX8_tellTask : MethodName := ⟨RX8, "tellTask", "()V"⟩
def dkwX8_tellTask_4 : List UInt8 := [177]
abbrev dktX8_tellTask_4 : List UInt8 := dkwX8_tellTask_4 ++ []
def dkwX8_tellTask_3 : List UInt8 := [180, 0, 74, 42, 180, 1, 25, 46, 182, 1, 88, 42, 180, 0, 74, 42, 180, 1, 25, 92, 46, 4, 96, 79]
abbrev dktX8_tellTask_3 : List UInt8 := dkwX8_tellTask_3 ++ dktX8_tellTask_4
def dkwX8_tellTask_2 : List UInt8 := [42, 180, 0, 83, 27, 3, 79, 42, 7, 182, 1, 78, 42, 180, 0, 248, 158, 0, 4, 177, 42, 28, 5, 42]
abbrev dktX8_tellTask_2 : List UInt8 := dkwX8_tellTask_2 ++ dktX8_tellTask_3
def dkwX8_tellTask_1 : List UInt8 := [180, 0, 77, 27, 42, 3, 182, 1, 92, 79, 42, 180, 0, 80, 27, 42, 3, 17, 3, 231, 182, 1, 74, 79]
abbrev dktX8_tellTask_1 : List UInt8 := dkwX8_tellTask_1 ++ dktX8_tellTask_2
def dkwX8_tellTask_0 : List UInt8 := [16, 6, 42, 180, 1, 25, 104, 42, 180, 0, 74, 42, 180, 1, 25, 46, 96, 60, 42, 182, 1, 84, 61, 42]
abbrev dktX8_tellTask_0 : List UInt8 := dkwX8_tellTask_0 ++ dktX8_tellTask_1
theorem dksX8_tellTask_0 : cX8_tellTask.data.toList.drop 0 = dktX8_tellTask_0 := by decide +kernel
theorem dksX8_tellTask_1 : cX8_tellTask.data.toList.drop 24 = dktX8_tellTask_1 := dk_seg dksX8_tellTask_0 24 rfl rfl
theorem dksX8_tellTask_2 : cX8_tellTask.data.toList.drop 48 = dktX8_tellTask_2 := dk_seg dksX8_tellTask_1 24 rfl rfl
theorem dksX8_tellTask_3 : cX8_tellTask.data.toList.drop 72 = dktX8_tellTask_3 := dk_seg dksX8_tellTask_2 24 rfl rfl
theorem dksX8_tellTask_4 : cX8_tellTask.data.toList.drop 96 = dktX8_tellTask_4 := dk_seg dksX8_tellTask_3 24 rfl rfl
theorem dX8_tellTask_0 : decode cX8_tellTask 0 = .ok (.bipush 6, 2) := dk_16 6 (dk_at dksX8_tellTask_0 0 rfl rfl)
theorem dX8_tellTask_2 : decode cX8_tellTask 2 = .ok (.aload_n 0, 1) := dk_42 (dk_at dksX8_tellTask_0 2 rfl rfl)
theorem dX8_tellTask_3 : decode cX8_tellTask 3 = .ok (.getfield 281, 3) := dk_180 1 25 (dk_at dksX8_tellTask_0 3 rfl rfl)
theorem dX8_tellTask_6 : decode cX8_tellTask 6 = .ok (.imul, 1) := dk_104 (dk_at dksX8_tellTask_0 6 rfl rfl)
theorem dX8_tellTask_7 : decode cX8_tellTask 7 = .ok (.aload_n 0, 1) := dk_42 (dk_at dksX8_tellTask_0 7 rfl rfl)
theorem dX8_tellTask_8 : decode cX8_tellTask 8 = .ok (.getfield 74, 3) := dk_180 0 74 (dk_at dksX8_tellTask_0 8 rfl rfl)
theorem dX8_tellTask_11 : decode cX8_tellTask 11 = .ok (.aload_n 0, 1) := dk_42 (dk_at dksX8_tellTask_0 11 rfl rfl)
theorem dX8_tellTask_12 : decode cX8_tellTask 12 = .ok (.getfield 281, 3) := dk_180 1 25 (dk_at dksX8_tellTask_0 12 rfl rfl)
theorem dX8_tellTask_15 : decode cX8_tellTask 15 = .ok (.iaload, 1) := dk_46 (dk_at dksX8_tellTask_0 15 rfl rfl)
theorem dX8_tellTask_16 : decode cX8_tellTask 16 = .ok (.iadd, 1) := dk_96 (dk_at dksX8_tellTask_0 16 rfl rfl)
theorem dX8_tellTask_17 : decode cX8_tellTask 17 = .ok (.istore_n 1, 1) := dk_60 (dk_at dksX8_tellTask_0 17 rfl rfl)
theorem dX8_tellTask_18 : decode cX8_tellTask 18 = .ok (.aload_n 0, 1) := dk_42 (dk_at dksX8_tellTask_0 18 rfl rfl)
theorem dX8_tellTask_19 : decode cX8_tellTask 19 = .ok (.invokevirtual 340, 3) := dk_182 1 84 (dk_at dksX8_tellTask_0 19 rfl rfl)
theorem dX8_tellTask_22 : decode cX8_tellTask 22 = .ok (.istore_n 2, 1) := dk_61 (dk_at dksX8_tellTask_0 22 rfl rfl)
theorem dX8_tellTask_23 : decode cX8_tellTask 23 = .ok (.aload_n 0, 1) := dk_42 (dk_at dksX8_tellTask_0 23 rfl rfl)
theorem dX8_tellTask_24 : decode cX8_tellTask 24 = .ok (.getfield 77, 3) := dk_180 0 77 (dk_at dksX8_tellTask_1 0 rfl rfl)
theorem dX8_tellTask_27 : decode cX8_tellTask 27 = .ok (.iload_n 1, 1) := dk_27 (dk_at dksX8_tellTask_1 3 rfl rfl)
theorem dX8_tellTask_28 : decode cX8_tellTask 28 = .ok (.aload_n 0, 1) := dk_42 (dk_at dksX8_tellTask_1 4 rfl rfl)
theorem dX8_tellTask_29 : decode cX8_tellTask 29 = .ok (.iconst 0, 1) := dk_3 (dk_at dksX8_tellTask_1 5 rfl rfl)
theorem dX8_tellTask_30 : decode cX8_tellTask 30 = .ok (.invokevirtual 348, 3) := dk_182 1 92 (dk_at dksX8_tellTask_1 6 rfl rfl)
theorem dX8_tellTask_33 : decode cX8_tellTask 33 = .ok (.iastore, 1) := dk_79 (dk_at dksX8_tellTask_1 9 rfl rfl)
theorem dX8_tellTask_34 : decode cX8_tellTask 34 = .ok (.aload_n 0, 1) := dk_42 (dk_at dksX8_tellTask_1 10 rfl rfl)
theorem dX8_tellTask_35 : decode cX8_tellTask 35 = .ok (.getfield 80, 3) := dk_180 0 80 (dk_at dksX8_tellTask_1 11 rfl rfl)
theorem dX8_tellTask_38 : decode cX8_tellTask 38 = .ok (.iload_n 1, 1) := dk_27 (dk_at dksX8_tellTask_1 14 rfl rfl)
theorem dX8_tellTask_39 : decode cX8_tellTask 39 = .ok (.aload_n 0, 1) := dk_42 (dk_at dksX8_tellTask_1 15 rfl rfl)
theorem dX8_tellTask_40 : decode cX8_tellTask 40 = .ok (.iconst 0, 1) := dk_3 (dk_at dksX8_tellTask_1 16 rfl rfl)
theorem dX8_tellTask_41 : decode cX8_tellTask 41 = .ok (.sipush 999, 3) := dk_17 3 231 (dk_at dksX8_tellTask_1 17 rfl rfl)
theorem dX8_tellTask_44 : decode cX8_tellTask 44 = .ok (.invokevirtual 330, 3) := dk_182 1 74 (dk_at dksX8_tellTask_1 20 rfl rfl)
theorem dX8_tellTask_47 : decode cX8_tellTask 47 = .ok (.iastore, 1) := dk_79 (dk_at dksX8_tellTask_1 23 rfl rfl)
theorem dX8_tellTask_48 : decode cX8_tellTask 48 = .ok (.aload_n 0, 1) := dk_42 (dk_at dksX8_tellTask_2 0 rfl rfl)
theorem dX8_tellTask_49 : decode cX8_tellTask 49 = .ok (.getfield 83, 3) := dk_180 0 83 (dk_at dksX8_tellTask_2 1 rfl rfl)
theorem dX8_tellTask_52 : decode cX8_tellTask 52 = .ok (.iload_n 1, 1) := dk_27 (dk_at dksX8_tellTask_2 4 rfl rfl)
theorem dX8_tellTask_53 : decode cX8_tellTask 53 = .ok (.iconst 0, 1) := dk_3 (dk_at dksX8_tellTask_2 5 rfl rfl)
theorem dX8_tellTask_54 : decode cX8_tellTask 54 = .ok (.iastore, 1) := dk_79 (dk_at dksX8_tellTask_2 6 rfl rfl)
theorem dX8_tellTask_55 : decode cX8_tellTask 55 = .ok (.aload_n 0, 1) := dk_42 (dk_at dksX8_tellTask_2 7 rfl rfl)
theorem dX8_tellTask_56 : decode cX8_tellTask 56 = .ok (.iconst 4, 1) := dk_7 (dk_at dksX8_tellTask_2 8 rfl rfl)
theorem dX8_tellTask_57 : decode cX8_tellTask 57 = .ok (.invokevirtual 334, 3) := dk_182 1 78 (dk_at dksX8_tellTask_2 9 rfl rfl)
theorem dX8_tellTask_60 : decode cX8_tellTask 60 = .ok (.aload_n 0, 1) := dk_42 (dk_at dksX8_tellTask_2 12 rfl rfl)
theorem dX8_tellTask_61 : decode cX8_tellTask 61 = .ok (.getfield 248, 3) := dk_180 0 248 (dk_at dksX8_tellTask_2 13 rfl rfl)
theorem dX8_tellTask_64 : decode cX8_tellTask 64 = .ok (.ifCond .le 4, 3) := dk_158 0 4 (dk_at dksX8_tellTask_2 16 rfl rfl)
theorem dX8_tellTask_67 : decode cX8_tellTask 67 = .ok (.return_, 1) := dk_177 (dk_at dksX8_tellTask_2 19 rfl rfl)
theorem dX8_tellTask_68 : decode cX8_tellTask 68 = .ok (.aload_n 0, 1) := dk_42 (dk_at dksX8_tellTask_2 20 rfl rfl)
theorem dX8_tellTask_69 : decode cX8_tellTask 69 = .ok (.iload_n 2, 1) := dk_28 (dk_at dksX8_tellTask_2 21 rfl rfl)
theorem dX8_tellTask_70 : decode cX8_tellTask 70 = .ok (.iconst 2, 1) := dk_5 (dk_at dksX8_tellTask_2 22 rfl rfl)
theorem dX8_tellTask_71 : decode cX8_tellTask 71 = .ok (.aload_n 0, 1) := dk_42 (dk_at dksX8_tellTask_2 23 rfl rfl)
theorem dX8_tellTask_72 : decode cX8_tellTask 72 = .ok (.getfield 74, 3) := dk_180 0 74 (dk_at dksX8_tellTask_3 0 rfl rfl)
theorem dX8_tellTask_75 : decode cX8_tellTask 75 = .ok (.aload_n 0, 1) := dk_42 (dk_at dksX8_tellTask_3 3 rfl rfl)
theorem dX8_tellTask_76 : decode cX8_tellTask 76 = .ok (.getfield 281, 3) := dk_180 1 25 (dk_at dksX8_tellTask_3 4 rfl rfl)
theorem dX8_tellTask_79 : decode cX8_tellTask 79 = .ok (.iaload, 1) := dk_46 (dk_at dksX8_tellTask_3 7 rfl rfl)
theorem dX8_tellTask_80 : decode cX8_tellTask 80 = .ok (.invokevirtual 344, 3) := dk_182 1 88 (dk_at dksX8_tellTask_3 8 rfl rfl)
theorem dX8_tellTask_83 : decode cX8_tellTask 83 = .ok (.aload_n 0, 1) := dk_42 (dk_at dksX8_tellTask_3 11 rfl rfl)
theorem dX8_tellTask_84 : decode cX8_tellTask 84 = .ok (.getfield 74, 3) := dk_180 0 74 (dk_at dksX8_tellTask_3 12 rfl rfl)
theorem dX8_tellTask_87 : decode cX8_tellTask 87 = .ok (.aload_n 0, 1) := dk_42 (dk_at dksX8_tellTask_3 15 rfl rfl)
theorem dX8_tellTask_88 : decode cX8_tellTask 88 = .ok (.getfield 281, 3) := dk_180 1 25 (dk_at dksX8_tellTask_3 16 rfl rfl)
theorem dX8_tellTask_91 : decode cX8_tellTask 91 = .ok (.dup2, 1) := dk_92 (dk_at dksX8_tellTask_3 19 rfl rfl)
theorem dX8_tellTask_92 : decode cX8_tellTask 92 = .ok (.iaload, 1) := dk_46 (dk_at dksX8_tellTask_3 20 rfl rfl)
theorem dX8_tellTask_93 : decode cX8_tellTask 93 = .ok (.iconst 1, 1) := dk_4 (dk_at dksX8_tellTask_3 21 rfl rfl)
theorem dX8_tellTask_94 : decode cX8_tellTask 94 = .ok (.iadd, 1) := dk_96 (dk_at dksX8_tellTask_3 22 rfl rfl)
theorem dX8_tellTask_95 : decode cX8_tellTask 95 = .ok (.iastore, 1) := dk_79 (dk_at dksX8_tellTask_3 23 rfl rfl)
theorem dX8_tellTask_96 : decode cX8_tellTask 96 = .ok (.return_, 1) := dk_177 (dk_at dksX8_tellTask_4 0 rfl rfl)
abbrev cX8_tellStep : ByteArray := prog_22_method_32_code
def yX8_tellStep : MethodName := ⟨RX8, "tellStep", "(I)V"⟩
def dkwX8_tellStep_11 : List UInt8 := [96, 92, 46, 4, 96, 79, 177]
abbrev dktX8_tellStep_11 : List UInt8 := dkwX8_tellStep_11 ++ []
def dkwX8_tellStep_10 : List UInt8 := [21, 9, 79, 42, 180, 0, 101, 21, 4, 21, 10, 79, 42, 180, 0, 83, 16, 6, 42, 180, 1, 25, 104, 28]
abbrev dktX8_tellStep_10 : List UInt8 := dkwX8_tellStep_10 ++ dktX8_tellStep_11
def dkwX8_tellStep_9 : List UInt8 := [180, 0, 92, 21, 4, 21, 7, 79, 42, 180, 0, 95, 21, 4, 21, 8, 79, 42, 180, 0, 98, 21, 4]
abbrev dktX8_tellStep_9 : List UInt8 := dkwX8_tellStep_9 ++ dktX8_tellStep_10
def dkwX8_tellStep_8 : List UInt8 := [156, 0, 4, 177, 42, 180, 0, 86, 21, 4, 21, 5, 79, 42, 180, 0, 89, 21, 4, 21, 6, 79, 42]
abbrev dktX8_tellStep_8 : List UInt8 := dkwX8_tellStep_8 ++ dktX8_tellStep_9
def dkwX8_tellStep_7 : List UInt8 := [167, 0, 6, 29, 4, 100, 182, 1, 74, 54, 10, 42, 7, 182, 1, 78, 42, 180, 0, 248, 157, 0, 7, 28]
abbrev dktX8_tellStep_7 : List UInt8 := dkwX8_tellStep_7 ++ dktX8_tellStep_8
def dkwX8_tellStep_6 : List UInt8 := [42, 16, 27, 182, 1, 10, 153, 0, 27, 42, 182, 1, 13, 42, 3, 28, 156, 0, 9, 17, 39, 15]
abbrev dktX8_tellStep_6 : List UInt8 := dkwX8_tellStep_6 ++ dktX8_tellStep_7
def dkwX8_tellStep_5 : List UInt8 := [182, 1, 10, 153, 0, 14, 42, 182, 1, 13, 42, 4, 182, 1, 92, 54, 9, 42, 180, 0, 248, 154, 0, 36]
abbrev dktX8_tellStep_5 : List UInt8 := dkwX8_tellStep_5 ++ dktX8_tellStep_6
def dkwX8_tellStep_4 : List UInt8 := [3, 16, 99, 182, 1, 74, 54, 8, 2, 54, 9, 2, 54, 10, 42, 180, 0, 248, 154, 0, 23, 42, 16, 26]
abbrev dktX8_tellStep_4 : List UInt8 := dkwX8_tellStep_4 ++ dktX8_tellStep_5
def dkwX8_tellStep_3 : List UInt8 := [182, 1, 74, 54, 5, 42, 3, 16, 99, 182, 1, 74, 54, 6, 42, 3, 16, 99, 182, 1, 74, 54, 7, 42]
abbrev dktX8_tellStep_3 : List UInt8 := dkwX8_tellStep_3 ++ dktX8_tellStep_4
def dkwX8_tellStep_2 : List UInt8 := [180, 1, 25, 104, 28, 156, 0, 7, 3, 167, 0, 4, 28, 96, 104, 29, 96, 54, 4, 42, 4, 16, 120]
abbrev dktX8_tellStep_2 : List UInt8 := dkwX8_tellStep_2 ++ dktX8_tellStep_3
def dkwX8_tellStep_1 : List UInt8 := [104, 28, 96, 46, 62, 29, 16, 6, 160, 0, 9, 42, 5, 27, 182, 1, 95, 16, 6, 16, 6, 42]
abbrev dktX8_tellStep_1 : List UInt8 := dkwX8_tellStep_1 ++ dktX8_tellStep_2
def dkwX8_tellStep_0 : List UInt8 := [42, 5, 182, 1, 92, 61, 28, 156, 0, 7, 3, 167, 0, 17, 42, 180, 0, 83, 16, 6, 42, 180, 1, 25]
abbrev dktX8_tellStep_0 : List UInt8 := dkwX8_tellStep_0 ++ dktX8_tellStep_1
theorem dksX8_tellStep_0 : cX8_tellStep.data.toList.drop 0 = dktX8_tellStep_0 := by decide +kernel
theorem dksX8_tellStep_1 : cX8_tellStep.data.toList.drop 24 = dktX8_tellStep_1 := dk_seg dksX8_tellStep_0 24 rfl rfl
theorem dksX8_tellStep_2 : cX8_tellStep.data.toList.drop 46 = dktX8_tellStep_2 := dk_seg dksX8_tellStep_1 22 rfl rfl
theorem dksX8_tellStep_3 : cX8_tellStep.data.toList.drop 69 = dktX8_tellStep_3 := dk_seg dksX8_tellStep_2 23 rfl rfl
theorem dksX8_tellStep_4 : cX8_tellStep.data.toList.drop 93 = dktX8_tellStep_4 := dk_seg dksX8_tellStep_3 24 rfl rfl
theorem dksX8_tellStep_5 : cX8_tellStep.data.toList.drop 117 = dktX8_tellStep_5 := dk_seg dksX8_tellStep_4 24 rfl rfl
theorem dksX8_tellStep_6 : cX8_tellStep.data.toList.drop 141 = dktX8_tellStep_6 := dk_seg dksX8_tellStep_5 24 rfl rfl
theorem dksX8_tellStep_7 : cX8_tellStep.data.toList.drop 163 = dktX8_tellStep_7 := dk_seg dksX8_tellStep_6 22 rfl rfl
theorem dksX8_tellStep_8 : cX8_tellStep.data.toList.drop 187 = dktX8_tellStep_8 := dk_seg dksX8_tellStep_7 24 rfl rfl
theorem dksX8_tellStep_9 : cX8_tellStep.data.toList.drop 210 = dktX8_tellStep_9 := dk_seg dksX8_tellStep_8 23 rfl rfl
theorem dksX8_tellStep_10 : cX8_tellStep.data.toList.drop 233 = dktX8_tellStep_10 := dk_seg dksX8_tellStep_9 23 rfl rfl
theorem dksX8_tellStep_11 : cX8_tellStep.data.toList.drop 257 = dktX8_tellStep_11 := dk_seg dksX8_tellStep_10 24 rfl rfl
theorem dX8_tellStep_0 : decode cX8_tellStep 0 = .ok (.aload_n 0, 1) := dk_42 (dk_at dksX8_tellStep_0 0 rfl rfl)
theorem dX8_tellStep_1 : decode cX8_tellStep 1 = .ok (.iconst 2, 1) := dk_5 (dk_at dksX8_tellStep_0 1 rfl rfl)
theorem dX8_tellStep_2 : decode cX8_tellStep 2 = .ok (.invokevirtual 348, 3) := dk_182 1 92 (dk_at dksX8_tellStep_0 2 rfl rfl)
theorem dX8_tellStep_5 : decode cX8_tellStep 5 = .ok (.istore_n 2, 1) := dk_61 (dk_at dksX8_tellStep_0 5 rfl rfl)
theorem dX8_tellStep_6 : decode cX8_tellStep 6 = .ok (.iload_n 2, 1) := dk_28 (dk_at dksX8_tellStep_0 6 rfl rfl)
theorem dX8_tellStep_7 : decode cX8_tellStep 7 = .ok (.ifCond .ge 7, 3) := dk_156 0 7 (dk_at dksX8_tellStep_0 7 rfl rfl)
theorem dX8_tellStep_10 : decode cX8_tellStep 10 = .ok (.iconst 0, 1) := dk_3 (dk_at dksX8_tellStep_0 10 rfl rfl)
theorem dX8_tellStep_11 : decode cX8_tellStep 11 = .ok (.goto 17, 3) := dk_167 0 17 (dk_at dksX8_tellStep_0 11 rfl rfl)
theorem dX8_tellStep_14 : decode cX8_tellStep 14 = .ok (.aload_n 0, 1) := dk_42 (dk_at dksX8_tellStep_0 14 rfl rfl)
theorem dX8_tellStep_15 : decode cX8_tellStep 15 = .ok (.getfield 83, 3) := dk_180 0 83 (dk_at dksX8_tellStep_0 15 rfl rfl)
theorem dX8_tellStep_18 : decode cX8_tellStep 18 = .ok (.bipush 6, 2) := dk_16 6 (dk_at dksX8_tellStep_0 18 rfl rfl)
theorem dX8_tellStep_20 : decode cX8_tellStep 20 = .ok (.aload_n 0, 1) := dk_42 (dk_at dksX8_tellStep_0 20 rfl rfl)
theorem dX8_tellStep_21 : decode cX8_tellStep 21 = .ok (.getfield 281, 3) := dk_180 1 25 (dk_at dksX8_tellStep_0 21 rfl rfl)
theorem dX8_tellStep_24 : decode cX8_tellStep 24 = .ok (.imul, 1) := dk_104 (dk_at dksX8_tellStep_1 0 rfl rfl)
theorem dX8_tellStep_25 : decode cX8_tellStep 25 = .ok (.iload_n 2, 1) := dk_28 (dk_at dksX8_tellStep_1 1 rfl rfl)
theorem dX8_tellStep_26 : decode cX8_tellStep 26 = .ok (.iadd, 1) := dk_96 (dk_at dksX8_tellStep_1 2 rfl rfl)
theorem dX8_tellStep_27 : decode cX8_tellStep 27 = .ok (.iaload, 1) := dk_46 (dk_at dksX8_tellStep_1 3 rfl rfl)
theorem dX8_tellStep_28 : decode cX8_tellStep 28 = .ok (.istore_n 3, 1) := dk_62 (dk_at dksX8_tellStep_1 4 rfl rfl)
theorem dX8_tellStep_29 : decode cX8_tellStep 29 = .ok (.iload_n 3, 1) := dk_29 (dk_at dksX8_tellStep_1 5 rfl rfl)
theorem dX8_tellStep_30 : decode cX8_tellStep 30 = .ok (.bipush 6, 2) := dk_16 6 (dk_at dksX8_tellStep_1 6 rfl rfl)
theorem dX8_tellStep_32 : decode cX8_tellStep 32 = .ok (.if_icmp .ne 9, 3) := dk_160 0 9 (dk_at dksX8_tellStep_1 8 rfl rfl)
theorem dX8_tellStep_35 : decode cX8_tellStep 35 = .ok (.aload_n 0, 1) := dk_42 (dk_at dksX8_tellStep_1 11 rfl rfl)
theorem dX8_tellStep_36 : decode cX8_tellStep 36 = .ok (.iconst 2, 1) := dk_5 (dk_at dksX8_tellStep_1 12 rfl rfl)
theorem dX8_tellStep_37 : decode cX8_tellStep 37 = .ok (.iload_n 1, 1) := dk_27 (dk_at dksX8_tellStep_1 13 rfl rfl)
theorem dX8_tellStep_38 : decode cX8_tellStep 38 = .ok (.invokevirtual 351, 3) := dk_182 1 95 (dk_at dksX8_tellStep_1 14 rfl rfl)
theorem dX8_tellStep_41 : decode cX8_tellStep 41 = .ok (.bipush 6, 2) := dk_16 6 (dk_at dksX8_tellStep_1 17 rfl rfl)
theorem dX8_tellStep_43 : decode cX8_tellStep 43 = .ok (.bipush 6, 2) := dk_16 6 (dk_at dksX8_tellStep_1 19 rfl rfl)
theorem dX8_tellStep_45 : decode cX8_tellStep 45 = .ok (.aload_n 0, 1) := dk_42 (dk_at dksX8_tellStep_1 21 rfl rfl)
theorem dX8_tellStep_46 : decode cX8_tellStep 46 = .ok (.getfield 281, 3) := dk_180 1 25 (dk_at dksX8_tellStep_2 0 rfl rfl)
theorem dX8_tellStep_49 : decode cX8_tellStep 49 = .ok (.imul, 1) := dk_104 (dk_at dksX8_tellStep_2 3 rfl rfl)
theorem dX8_tellStep_50 : decode cX8_tellStep 50 = .ok (.iload_n 2, 1) := dk_28 (dk_at dksX8_tellStep_2 4 rfl rfl)
theorem dX8_tellStep_51 : decode cX8_tellStep 51 = .ok (.ifCond .ge 7, 3) := dk_156 0 7 (dk_at dksX8_tellStep_2 5 rfl rfl)
theorem dX8_tellStep_54 : decode cX8_tellStep 54 = .ok (.iconst 0, 1) := dk_3 (dk_at dksX8_tellStep_2 8 rfl rfl)
theorem dX8_tellStep_55 : decode cX8_tellStep 55 = .ok (.goto 4, 3) := dk_167 0 4 (dk_at dksX8_tellStep_2 9 rfl rfl)
theorem dX8_tellStep_58 : decode cX8_tellStep 58 = .ok (.iload_n 2, 1) := dk_28 (dk_at dksX8_tellStep_2 12 rfl rfl)
theorem dX8_tellStep_59 : decode cX8_tellStep 59 = .ok (.iadd, 1) := dk_96 (dk_at dksX8_tellStep_2 13 rfl rfl)
theorem dX8_tellStep_60 : decode cX8_tellStep 60 = .ok (.imul, 1) := dk_104 (dk_at dksX8_tellStep_2 14 rfl rfl)
theorem dX8_tellStep_61 : decode cX8_tellStep 61 = .ok (.iload_n 3, 1) := dk_29 (dk_at dksX8_tellStep_2 15 rfl rfl)
theorem dX8_tellStep_62 : decode cX8_tellStep 62 = .ok (.iadd, 1) := dk_96 (dk_at dksX8_tellStep_2 16 rfl rfl)
theorem dX8_tellStep_63 : decode cX8_tellStep 63 = .ok (.istore 4, 2) := dk_54 4 (dk_at dksX8_tellStep_2 17 rfl rfl)
theorem dX8_tellStep_65 : decode cX8_tellStep 65 = .ok (.aload_n 0, 1) := dk_42 (dk_at dksX8_tellStep_2 19 rfl rfl)
theorem dX8_tellStep_66 : decode cX8_tellStep 66 = .ok (.iconst 1, 1) := dk_4 (dk_at dksX8_tellStep_2 20 rfl rfl)
theorem dX8_tellStep_67 : decode cX8_tellStep 67 = .ok (.bipush 120, 2) := dk_16 120 (dk_at dksX8_tellStep_2 21 rfl rfl)
theorem dX8_tellStep_69 : decode cX8_tellStep 69 = .ok (.invokevirtual 330, 3) := dk_182 1 74 (dk_at dksX8_tellStep_3 0 rfl rfl)
theorem dX8_tellStep_72 : decode cX8_tellStep 72 = .ok (.istore 5, 2) := dk_54 5 (dk_at dksX8_tellStep_3 3 rfl rfl)
theorem dX8_tellStep_74 : decode cX8_tellStep 74 = .ok (.aload_n 0, 1) := dk_42 (dk_at dksX8_tellStep_3 5 rfl rfl)
theorem dX8_tellStep_75 : decode cX8_tellStep 75 = .ok (.iconst 0, 1) := dk_3 (dk_at dksX8_tellStep_3 6 rfl rfl)
theorem dX8_tellStep_76 : decode cX8_tellStep 76 = .ok (.bipush 99, 2) := dk_16 99 (dk_at dksX8_tellStep_3 7 rfl rfl)
theorem dX8_tellStep_78 : decode cX8_tellStep 78 = .ok (.invokevirtual 330, 3) := dk_182 1 74 (dk_at dksX8_tellStep_3 9 rfl rfl)
theorem dX8_tellStep_81 : decode cX8_tellStep 81 = .ok (.istore 6, 2) := dk_54 6 (dk_at dksX8_tellStep_3 12 rfl rfl)
theorem dX8_tellStep_83 : decode cX8_tellStep 83 = .ok (.aload_n 0, 1) := dk_42 (dk_at dksX8_tellStep_3 14 rfl rfl)
theorem dX8_tellStep_84 : decode cX8_tellStep 84 = .ok (.iconst 0, 1) := dk_3 (dk_at dksX8_tellStep_3 15 rfl rfl)
theorem dX8_tellStep_85 : decode cX8_tellStep 85 = .ok (.bipush 99, 2) := dk_16 99 (dk_at dksX8_tellStep_3 16 rfl rfl)
theorem dX8_tellStep_87 : decode cX8_tellStep 87 = .ok (.invokevirtual 330, 3) := dk_182 1 74 (dk_at dksX8_tellStep_3 18 rfl rfl)
theorem dX8_tellStep_90 : decode cX8_tellStep 90 = .ok (.istore 7, 2) := dk_54 7 (dk_at dksX8_tellStep_3 21 rfl rfl)
theorem dX8_tellStep_92 : decode cX8_tellStep 92 = .ok (.aload_n 0, 1) := dk_42 (dk_at dksX8_tellStep_3 23 rfl rfl)
theorem dX8_tellStep_93 : decode cX8_tellStep 93 = .ok (.iconst 0, 1) := dk_3 (dk_at dksX8_tellStep_4 0 rfl rfl)
theorem dX8_tellStep_94 : decode cX8_tellStep 94 = .ok (.bipush 99, 2) := dk_16 99 (dk_at dksX8_tellStep_4 1 rfl rfl)
theorem dX8_tellStep_96 : decode cX8_tellStep 96 = .ok (.invokevirtual 330, 3) := dk_182 1 74 (dk_at dksX8_tellStep_4 3 rfl rfl)
theorem dX8_tellStep_99 : decode cX8_tellStep 99 = .ok (.istore 8, 2) := dk_54 8 (dk_at dksX8_tellStep_4 6 rfl rfl)
theorem dX8_tellStep_101 : decode cX8_tellStep 101 = .ok (.iconst (-1), 1) := dk_2 (dk_at dksX8_tellStep_4 8 rfl rfl)
theorem dX8_tellStep_102 : decode cX8_tellStep 102 = .ok (.istore 9, 2) := dk_54 9 (dk_at dksX8_tellStep_4 9 rfl rfl)
theorem dX8_tellStep_104 : decode cX8_tellStep 104 = .ok (.iconst (-1), 1) := dk_2 (dk_at dksX8_tellStep_4 11 rfl rfl)
theorem dX8_tellStep_105 : decode cX8_tellStep 105 = .ok (.istore 10, 2) := dk_54 10 (dk_at dksX8_tellStep_4 12 rfl rfl)
theorem dX8_tellStep_107 : decode cX8_tellStep 107 = .ok (.aload_n 0, 1) := dk_42 (dk_at dksX8_tellStep_4 14 rfl rfl)
theorem dX8_tellStep_108 : decode cX8_tellStep 108 = .ok (.getfield 248, 3) := dk_180 0 248 (dk_at dksX8_tellStep_4 15 rfl rfl)
theorem dX8_tellStep_111 : decode cX8_tellStep 111 = .ok (.ifCond .ne 23, 3) := dk_154 0 23 (dk_at dksX8_tellStep_4 18 rfl rfl)
theorem dX8_tellStep_114 : decode cX8_tellStep 114 = .ok (.aload_n 0, 1) := dk_42 (dk_at dksX8_tellStep_4 21 rfl rfl)
theorem dX8_tellStep_115 : decode cX8_tellStep 115 = .ok (.bipush 26, 2) := dk_16 26 (dk_at dksX8_tellStep_4 22 rfl rfl)
theorem dX8_tellStep_117 : decode cX8_tellStep 117 = .ok (.invokevirtual 266, 3) := dk_182 1 10 (dk_at dksX8_tellStep_5 0 rfl rfl)
theorem dX8_tellStep_120 : decode cX8_tellStep 120 = .ok (.ifCond .eq 14, 3) := dk_153 0 14 (dk_at dksX8_tellStep_5 3 rfl rfl)
theorem dX8_tellStep_123 : decode cX8_tellStep 123 = .ok (.aload_n 0, 1) := dk_42 (dk_at dksX8_tellStep_5 6 rfl rfl)
theorem dX8_tellStep_124 : decode cX8_tellStep 124 = .ok (.invokevirtual 269, 3) := dk_182 1 13 (dk_at dksX8_tellStep_5 7 rfl rfl)
theorem dX8_tellStep_127 : decode cX8_tellStep 127 = .ok (.aload_n 0, 1) := dk_42 (dk_at dksX8_tellStep_5 10 rfl rfl)
theorem dX8_tellStep_128 : decode cX8_tellStep 128 = .ok (.iconst 1, 1) := dk_4 (dk_at dksX8_tellStep_5 11 rfl rfl)
theorem dX8_tellStep_129 : decode cX8_tellStep 129 = .ok (.invokevirtual 348, 3) := dk_182 1 92 (dk_at dksX8_tellStep_5 12 rfl rfl)
theorem dX8_tellStep_132 : decode cX8_tellStep 132 = .ok (.istore 9, 2) := dk_54 9 (dk_at dksX8_tellStep_5 15 rfl rfl)
theorem dX8_tellStep_134 : decode cX8_tellStep 134 = .ok (.aload_n 0, 1) := dk_42 (dk_at dksX8_tellStep_5 17 rfl rfl)
theorem dX8_tellStep_135 : decode cX8_tellStep 135 = .ok (.getfield 248, 3) := dk_180 0 248 (dk_at dksX8_tellStep_5 18 rfl rfl)
theorem dX8_tellStep_138 : decode cX8_tellStep 138 = .ok (.ifCond .ne 36, 3) := dk_154 0 36 (dk_at dksX8_tellStep_5 21 rfl rfl)
theorem dX8_tellStep_141 : decode cX8_tellStep 141 = .ok (.aload_n 0, 1) := dk_42 (dk_at dksX8_tellStep_6 0 rfl rfl)
theorem dX8_tellStep_142 : decode cX8_tellStep 142 = .ok (.bipush 27, 2) := dk_16 27 (dk_at dksX8_tellStep_6 1 rfl rfl)
theorem dX8_tellStep_144 : decode cX8_tellStep 144 = .ok (.invokevirtual 266, 3) := dk_182 1 10 (dk_at dksX8_tellStep_6 3 rfl rfl)
theorem dX8_tellStep_147 : decode cX8_tellStep 147 = .ok (.ifCond .eq 27, 3) := dk_153 0 27 (dk_at dksX8_tellStep_6 6 rfl rfl)
theorem dX8_tellStep_150 : decode cX8_tellStep 150 = .ok (.aload_n 0, 1) := dk_42 (dk_at dksX8_tellStep_6 9 rfl rfl)
theorem dX8_tellStep_151 : decode cX8_tellStep 151 = .ok (.invokevirtual 269, 3) := dk_182 1 13 (dk_at dksX8_tellStep_6 10 rfl rfl)
theorem dX8_tellStep_154 : decode cX8_tellStep 154 = .ok (.aload_n 0, 1) := dk_42 (dk_at dksX8_tellStep_6 13 rfl rfl)
theorem dX8_tellStep_155 : decode cX8_tellStep 155 = .ok (.iconst 0, 1) := dk_3 (dk_at dksX8_tellStep_6 14 rfl rfl)
theorem dX8_tellStep_156 : decode cX8_tellStep 156 = .ok (.iload_n 2, 1) := dk_28 (dk_at dksX8_tellStep_6 15 rfl rfl)
theorem dX8_tellStep_157 : decode cX8_tellStep 157 = .ok (.ifCond .ge 9, 3) := dk_156 0 9 (dk_at dksX8_tellStep_6 16 rfl rfl)
theorem dX8_tellStep_160 : decode cX8_tellStep 160 = .ok (.sipush 9999, 3) := dk_17 39 15 (dk_at dksX8_tellStep_6 19 rfl rfl)
theorem dX8_tellStep_163 : decode cX8_tellStep 163 = .ok (.goto 6, 3) := dk_167 0 6 (dk_at dksX8_tellStep_7 0 rfl rfl)
theorem dX8_tellStep_166 : decode cX8_tellStep 166 = .ok (.iload_n 3, 1) := dk_29 (dk_at dksX8_tellStep_7 3 rfl rfl)
theorem dX8_tellStep_167 : decode cX8_tellStep 167 = .ok (.iconst 1, 1) := dk_4 (dk_at dksX8_tellStep_7 4 rfl rfl)
theorem dX8_tellStep_168 : decode cX8_tellStep 168 = .ok (.isub, 1) := dk_100 (dk_at dksX8_tellStep_7 5 rfl rfl)
theorem dX8_tellStep_169 : decode cX8_tellStep 169 = .ok (.invokevirtual 330, 3) := dk_182 1 74 (dk_at dksX8_tellStep_7 6 rfl rfl)
theorem dX8_tellStep_172 : decode cX8_tellStep 172 = .ok (.istore 10, 2) := dk_54 10 (dk_at dksX8_tellStep_7 9 rfl rfl)
theorem dX8_tellStep_174 : decode cX8_tellStep 174 = .ok (.aload_n 0, 1) := dk_42 (dk_at dksX8_tellStep_7 11 rfl rfl)
theorem dX8_tellStep_175 : decode cX8_tellStep 175 = .ok (.iconst 4, 1) := dk_7 (dk_at dksX8_tellStep_7 12 rfl rfl)
theorem dX8_tellStep_176 : decode cX8_tellStep 176 = .ok (.invokevirtual 334, 3) := dk_182 1 78 (dk_at dksX8_tellStep_7 13 rfl rfl)
theorem dX8_tellStep_179 : decode cX8_tellStep 179 = .ok (.aload_n 0, 1) := dk_42 (dk_at dksX8_tellStep_7 16 rfl rfl)
theorem dX8_tellStep_180 : decode cX8_tellStep 180 = .ok (.getfield 248, 3) := dk_180 0 248 (dk_at dksX8_tellStep_7 17 rfl rfl)
theorem dX8_tellStep_183 : decode cX8_tellStep 183 = .ok (.ifCond .gt 7, 3) := dk_157 0 7 (dk_at dksX8_tellStep_7 20 rfl rfl)
theorem dX8_tellStep_186 : decode cX8_tellStep 186 = .ok (.iload_n 2, 1) := dk_28 (dk_at dksX8_tellStep_7 23 rfl rfl)
theorem dX8_tellStep_187 : decode cX8_tellStep 187 = .ok (.ifCond .ge 4, 3) := dk_156 0 4 (dk_at dksX8_tellStep_8 0 rfl rfl)
theorem dX8_tellStep_190 : decode cX8_tellStep 190 = .ok (.return_, 1) := dk_177 (dk_at dksX8_tellStep_8 3 rfl rfl)
theorem dX8_tellStep_191 : decode cX8_tellStep 191 = .ok (.aload_n 0, 1) := dk_42 (dk_at dksX8_tellStep_8 4 rfl rfl)
theorem dX8_tellStep_192 : decode cX8_tellStep 192 = .ok (.getfield 86, 3) := dk_180 0 86 (dk_at dksX8_tellStep_8 5 rfl rfl)
theorem dX8_tellStep_195 : decode cX8_tellStep 195 = .ok (.iload 4, 2) := dk_21 4 (dk_at dksX8_tellStep_8 8 rfl rfl)
theorem dX8_tellStep_197 : decode cX8_tellStep 197 = .ok (.iload 5, 2) := dk_21 5 (dk_at dksX8_tellStep_8 10 rfl rfl)
theorem dX8_tellStep_199 : decode cX8_tellStep 199 = .ok (.iastore, 1) := dk_79 (dk_at dksX8_tellStep_8 12 rfl rfl)
theorem dX8_tellStep_200 : decode cX8_tellStep 200 = .ok (.aload_n 0, 1) := dk_42 (dk_at dksX8_tellStep_8 13 rfl rfl)
theorem dX8_tellStep_201 : decode cX8_tellStep 201 = .ok (.getfield 89, 3) := dk_180 0 89 (dk_at dksX8_tellStep_8 14 rfl rfl)
theorem dX8_tellStep_204 : decode cX8_tellStep 204 = .ok (.iload 4, 2) := dk_21 4 (dk_at dksX8_tellStep_8 17 rfl rfl)
theorem dX8_tellStep_206 : decode cX8_tellStep 206 = .ok (.iload 6, 2) := dk_21 6 (dk_at dksX8_tellStep_8 19 rfl rfl)
theorem dX8_tellStep_208 : decode cX8_tellStep 208 = .ok (.iastore, 1) := dk_79 (dk_at dksX8_tellStep_8 21 rfl rfl)
theorem dX8_tellStep_209 : decode cX8_tellStep 209 = .ok (.aload_n 0, 1) := dk_42 (dk_at dksX8_tellStep_8 22 rfl rfl)
theorem dX8_tellStep_210 : decode cX8_tellStep 210 = .ok (.getfield 92, 3) := dk_180 0 92 (dk_at dksX8_tellStep_9 0 rfl rfl)
theorem dX8_tellStep_213 : decode cX8_tellStep 213 = .ok (.iload 4, 2) := dk_21 4 (dk_at dksX8_tellStep_9 3 rfl rfl)
theorem dX8_tellStep_215 : decode cX8_tellStep 215 = .ok (.iload 7, 2) := dk_21 7 (dk_at dksX8_tellStep_9 5 rfl rfl)
theorem dX8_tellStep_217 : decode cX8_tellStep 217 = .ok (.iastore, 1) := dk_79 (dk_at dksX8_tellStep_9 7 rfl rfl)
theorem dX8_tellStep_218 : decode cX8_tellStep 218 = .ok (.aload_n 0, 1) := dk_42 (dk_at dksX8_tellStep_9 8 rfl rfl)
theorem dX8_tellStep_219 : decode cX8_tellStep 219 = .ok (.getfield 95, 3) := dk_180 0 95 (dk_at dksX8_tellStep_9 9 rfl rfl)
theorem dX8_tellStep_222 : decode cX8_tellStep 222 = .ok (.iload 4, 2) := dk_21 4 (dk_at dksX8_tellStep_9 12 rfl rfl)
theorem dX8_tellStep_224 : decode cX8_tellStep 224 = .ok (.iload 8, 2) := dk_21 8 (dk_at dksX8_tellStep_9 14 rfl rfl)
theorem dX8_tellStep_226 : decode cX8_tellStep 226 = .ok (.iastore, 1) := dk_79 (dk_at dksX8_tellStep_9 16 rfl rfl)
theorem dX8_tellStep_227 : decode cX8_tellStep 227 = .ok (.aload_n 0, 1) := dk_42 (dk_at dksX8_tellStep_9 17 rfl rfl)
theorem dX8_tellStep_228 : decode cX8_tellStep 228 = .ok (.getfield 98, 3) := dk_180 0 98 (dk_at dksX8_tellStep_9 18 rfl rfl)
theorem dX8_tellStep_231 : decode cX8_tellStep 231 = .ok (.iload 4, 2) := dk_21 4 (dk_at dksX8_tellStep_9 21 rfl rfl)
theorem dX8_tellStep_233 : decode cX8_tellStep 233 = .ok (.iload 9, 2) := dk_21 9 (dk_at dksX8_tellStep_10 0 rfl rfl)
theorem dX8_tellStep_235 : decode cX8_tellStep 235 = .ok (.iastore, 1) := dk_79 (dk_at dksX8_tellStep_10 2 rfl rfl)
theorem dX8_tellStep_236 : decode cX8_tellStep 236 = .ok (.aload_n 0, 1) := dk_42 (dk_at dksX8_tellStep_10 3 rfl rfl)
theorem dX8_tellStep_237 : decode cX8_tellStep 237 = .ok (.getfield 101, 3) := dk_180 0 101 (dk_at dksX8_tellStep_10 4 rfl rfl)
theorem dX8_tellStep_240 : decode cX8_tellStep 240 = .ok (.iload 4, 2) := dk_21 4 (dk_at dksX8_tellStep_10 7 rfl rfl)
theorem dX8_tellStep_242 : decode cX8_tellStep 242 = .ok (.iload 10, 2) := dk_21 10 (dk_at dksX8_tellStep_10 9 rfl rfl)
theorem dX8_tellStep_244 : decode cX8_tellStep 244 = .ok (.iastore, 1) := dk_79 (dk_at dksX8_tellStep_10 11 rfl rfl)
theorem dX8_tellStep_245 : decode cX8_tellStep 245 = .ok (.aload_n 0, 1) := dk_42 (dk_at dksX8_tellStep_10 12 rfl rfl)
theorem dX8_tellStep_246 : decode cX8_tellStep 246 = .ok (.getfield 83, 3) := dk_180 0 83 (dk_at dksX8_tellStep_10 13 rfl rfl)
theorem dX8_tellStep_249 : decode cX8_tellStep 249 = .ok (.bipush 6, 2) := dk_16 6 (dk_at dksX8_tellStep_10 16 rfl rfl)
theorem dX8_tellStep_251 : decode cX8_tellStep 251 = .ok (.aload_n 0, 1) := dk_42 (dk_at dksX8_tellStep_10 18 rfl rfl)
theorem dX8_tellStep_252 : decode cX8_tellStep 252 = .ok (.getfield 281, 3) := dk_180 1 25 (dk_at dksX8_tellStep_10 19 rfl rfl)
theorem dX8_tellStep_255 : decode cX8_tellStep 255 = .ok (.imul, 1) := dk_104 (dk_at dksX8_tellStep_10 22 rfl rfl)
theorem dX8_tellStep_256 : decode cX8_tellStep 256 = .ok (.iload_n 2, 1) := dk_28 (dk_at dksX8_tellStep_10 23 rfl rfl)
theorem dX8_tellStep_257 : decode cX8_tellStep 257 = .ok (.iadd, 1) := dk_96 (dk_at dksX8_tellStep_11 0 rfl rfl)
theorem dX8_tellStep_258 : decode cX8_tellStep 258 = .ok (.dup2, 1) := dk_92 (dk_at dksX8_tellStep_11 1 rfl rfl)
theorem dX8_tellStep_259 : decode cX8_tellStep 259 = .ok (.iaload, 1) := dk_46 (dk_at dksX8_tellStep_11 2 rfl rfl)
theorem dX8_tellStep_260 : decode cX8_tellStep 260 = .ok (.iconst 1, 1) := dk_4 (dk_at dksX8_tellStep_11 3 rfl rfl)
theorem dX8_tellStep_261 : decode cX8_tellStep 261 = .ok (.iadd, 1) := dk_96 (dk_at dksX8_tellStep_11 4 rfl rfl)
theorem dX8_tellStep_262 : decode cX8_tellStep 262 = .ok (.iastore, 1) := dk_79 (dk_at dksX8_tellStep_11 5 rfl rfl)
theorem dX8_tellStep_263 : decode cX8_tellStep 263 = .ok (.return_, 1) := dk_177 (dk_at dksX8_tellStep_11 6 rfl rfl)
abbrev cX8_failAt : ByteArray := prog_22_method_21_code
def yX8_failAt : MethodName := ⟨RX8, "failAt", "(II)V"⟩
def dkwX8_failAt_0 : List UInt8 := [42, 180, 0, 248, 158, 0, 4, 177, 42, 27, 181, 0, 248, 42, 42, 180, 0, 24, 28, 46, 181, 0, 254, 177]
abbrev dktX8_failAt_0 : List UInt8 := dkwX8_failAt_0 ++ []
theorem dksX8_failAt_0 : cX8_failAt.data.toList.drop 0 = dktX8_failAt_0 := by decide +kernel
theorem dX8_failAt_0 : decode cX8_failAt 0 = .ok (.aload_n 0, 1) := dk_42 (dk_at dksX8_failAt_0 0 rfl rfl)
theorem dX8_failAt_1 : decode cX8_failAt 1 = .ok (.getfield 248, 3) := dk_180 0 248 (dk_at dksX8_failAt_0 1 rfl rfl)
theorem dX8_failAt_4 : decode cX8_failAt 4 = .ok (.ifCond .le 4, 3) := dk_158 0 4 (dk_at dksX8_failAt_0 4 rfl rfl)
theorem dX8_failAt_7 : decode cX8_failAt 7 = .ok (.return_, 1) := dk_177 (dk_at dksX8_failAt_0 7 rfl rfl)
theorem dX8_failAt_8 : decode cX8_failAt 8 = .ok (.aload_n 0, 1) := dk_42 (dk_at dksX8_failAt_0 8 rfl rfl)
theorem dX8_failAt_9 : decode cX8_failAt 9 = .ok (.iload_n 1, 1) := dk_27 (dk_at dksX8_failAt_0 9 rfl rfl)
theorem dX8_failAt_10 : decode cX8_failAt 10 = .ok (.putfield 248, 3) := dk_181 0 248 (dk_at dksX8_failAt_0 10 rfl rfl)
theorem dX8_failAt_13 : decode cX8_failAt 13 = .ok (.aload_n 0, 1) := dk_42 (dk_at dksX8_failAt_0 13 rfl rfl)
theorem dX8_failAt_14 : decode cX8_failAt 14 = .ok (.aload_n 0, 1) := dk_42 (dk_at dksX8_failAt_0 14 rfl rfl)
theorem dX8_failAt_15 : decode cX8_failAt 15 = .ok (.getfield 24, 3) := dk_180 0 24 (dk_at dksX8_failAt_0 15 rfl rfl)
theorem dX8_failAt_18 : decode cX8_failAt 18 = .ok (.iload_n 2, 1) := dk_28 (dk_at dksX8_failAt_0 18 rfl rfl)
theorem dX8_failAt_19 : decode cX8_failAt 19 = .ok (.iaload, 1) := dk_46 (dk_at dksX8_failAt_0 19 rfl rfl)
theorem dX8_failAt_20 : decode cX8_failAt 20 = .ok (.putfield 254, 3) := dk_181 0 254 (dk_at dksX8_failAt_0 20 rfl rfl)
theorem dX8_failAt_23 : decode cX8_failAt 23 = .ok (.return_, 1) := dk_177 (dk_at dksX8_failAt_0 23 rfl rfl)
abbrev cX8_tellMan : ByteArray := prog_22_method_33_code
def yX8_tellMan : MethodName := ⟨RX8, "tellMan", "()V"⟩
def dkwX8_tellMan_6 : List UInt8 := [42, 180, 1, 25, 46, 182, 1, 88, 42, 180, 0, 104, 42, 180, 1, 25, 92, 46, 4, 96, 79, 177]
abbrev dktX8_tellMan_6 : List UInt8 := dkwX8_tellMan_6 ++ []
def dkwX8_tellMan_5 : List UInt8 := [182, 1, 74, 79, 42, 7, 182, 1, 78, 42, 180, 0, 248, 158, 0, 4, 177, 42, 28, 6, 42, 180, 0, 104]
abbrev dktX8_tellMan_5 : List UInt8 := dkwX8_tellMan_5 ++ dktX8_tellMan_6
def dkwX8_tellMan_4 : List UInt8 := [17, 39, 15, 167, 0, 19, 42, 180, 0, 83, 16, 6, 42, 180, 1, 25, 104, 29, 96, 46, 4, 100]
abbrev dktX8_tellMan_4 : List UInt8 := dkwX8_tellMan_4 ++ dktX8_tellMan_5
def dkwX8_tellMan_3 : List UInt8 := [182, 1, 92, 62, 42, 180, 0, 110, 27, 29, 79, 42, 180, 0, 113, 27, 42, 3, 29, 156, 0, 9]
abbrev dktX8_tellMan_3 : List UInt8 := dkwX8_tellMan_3 ++ dktX8_tellMan_4
def dkwX8_tellMan_2 : List UInt8 := [42, 180, 0, 248, 154, 0, 66, 42, 16, 29, 182, 1, 10, 153, 0, 57, 42, 182, 1, 13, 42, 5]
abbrev dktX8_tellMan_2 : List UInt8 := dkwX8_tellMan_2 ++ dktX8_tellMan_3
def dkwX8_tellMan_1 : List UInt8 := [180, 0, 107, 27, 42, 3, 182, 1, 92, 79, 42, 180, 0, 110, 27, 2, 79, 42, 180, 0, 113, 27, 2, 79]
abbrev dktX8_tellMan_1 : List UInt8 := dkwX8_tellMan_1 ++ dktX8_tellMan_2
def dkwX8_tellMan_0 : List UInt8 := [16, 6, 42, 180, 1, 25, 104, 42, 180, 0, 104, 42, 180, 1, 25, 46, 96, 60, 42, 182, 1, 84, 61, 42]
abbrev dktX8_tellMan_0 : List UInt8 := dkwX8_tellMan_0 ++ dktX8_tellMan_1
theorem dksX8_tellMan_0 : cX8_tellMan.data.toList.drop 0 = dktX8_tellMan_0 := by decide +kernel
theorem dksX8_tellMan_1 : cX8_tellMan.data.toList.drop 24 = dktX8_tellMan_1 := dk_seg dksX8_tellMan_0 24 rfl rfl
theorem dksX8_tellMan_2 : cX8_tellMan.data.toList.drop 48 = dktX8_tellMan_2 := dk_seg dksX8_tellMan_1 24 rfl rfl
theorem dksX8_tellMan_3 : cX8_tellMan.data.toList.drop 70 = dktX8_tellMan_3 := dk_seg dksX8_tellMan_2 22 rfl rfl
theorem dksX8_tellMan_4 : cX8_tellMan.data.toList.drop 92 = dktX8_tellMan_4 := dk_seg dksX8_tellMan_3 22 rfl rfl
theorem dksX8_tellMan_5 : cX8_tellMan.data.toList.drop 114 = dktX8_tellMan_5 := dk_seg dksX8_tellMan_4 22 rfl rfl
theorem dksX8_tellMan_6 : cX8_tellMan.data.toList.drop 138 = dktX8_tellMan_6 := dk_seg dksX8_tellMan_5 24 rfl rfl
theorem dX8_tellMan_0 : decode cX8_tellMan 0 = .ok (.bipush 6, 2) := dk_16 6 (dk_at dksX8_tellMan_0 0 rfl rfl)
theorem dX8_tellMan_2 : decode cX8_tellMan 2 = .ok (.aload_n 0, 1) := dk_42 (dk_at dksX8_tellMan_0 2 rfl rfl)
theorem dX8_tellMan_3 : decode cX8_tellMan 3 = .ok (.getfield 281, 3) := dk_180 1 25 (dk_at dksX8_tellMan_0 3 rfl rfl)
theorem dX8_tellMan_6 : decode cX8_tellMan 6 = .ok (.imul, 1) := dk_104 (dk_at dksX8_tellMan_0 6 rfl rfl)
theorem dX8_tellMan_7 : decode cX8_tellMan 7 = .ok (.aload_n 0, 1) := dk_42 (dk_at dksX8_tellMan_0 7 rfl rfl)
theorem dX8_tellMan_8 : decode cX8_tellMan 8 = .ok (.getfield 104, 3) := dk_180 0 104 (dk_at dksX8_tellMan_0 8 rfl rfl)
theorem dX8_tellMan_11 : decode cX8_tellMan 11 = .ok (.aload_n 0, 1) := dk_42 (dk_at dksX8_tellMan_0 11 rfl rfl)
theorem dX8_tellMan_12 : decode cX8_tellMan 12 = .ok (.getfield 281, 3) := dk_180 1 25 (dk_at dksX8_tellMan_0 12 rfl rfl)
theorem dX8_tellMan_15 : decode cX8_tellMan 15 = .ok (.iaload, 1) := dk_46 (dk_at dksX8_tellMan_0 15 rfl rfl)
theorem dX8_tellMan_16 : decode cX8_tellMan 16 = .ok (.iadd, 1) := dk_96 (dk_at dksX8_tellMan_0 16 rfl rfl)
theorem dX8_tellMan_17 : decode cX8_tellMan 17 = .ok (.istore_n 1, 1) := dk_60 (dk_at dksX8_tellMan_0 17 rfl rfl)
theorem dX8_tellMan_18 : decode cX8_tellMan 18 = .ok (.aload_n 0, 1) := dk_42 (dk_at dksX8_tellMan_0 18 rfl rfl)
theorem dX8_tellMan_19 : decode cX8_tellMan 19 = .ok (.invokevirtual 340, 3) := dk_182 1 84 (dk_at dksX8_tellMan_0 19 rfl rfl)
theorem dX8_tellMan_22 : decode cX8_tellMan 22 = .ok (.istore_n 2, 1) := dk_61 (dk_at dksX8_tellMan_0 22 rfl rfl)
theorem dX8_tellMan_23 : decode cX8_tellMan 23 = .ok (.aload_n 0, 1) := dk_42 (dk_at dksX8_tellMan_0 23 rfl rfl)
theorem dX8_tellMan_24 : decode cX8_tellMan 24 = .ok (.getfield 107, 3) := dk_180 0 107 (dk_at dksX8_tellMan_1 0 rfl rfl)
theorem dX8_tellMan_27 : decode cX8_tellMan 27 = .ok (.iload_n 1, 1) := dk_27 (dk_at dksX8_tellMan_1 3 rfl rfl)
theorem dX8_tellMan_28 : decode cX8_tellMan 28 = .ok (.aload_n 0, 1) := dk_42 (dk_at dksX8_tellMan_1 4 rfl rfl)
theorem dX8_tellMan_29 : decode cX8_tellMan 29 = .ok (.iconst 0, 1) := dk_3 (dk_at dksX8_tellMan_1 5 rfl rfl)
theorem dX8_tellMan_30 : decode cX8_tellMan 30 = .ok (.invokevirtual 348, 3) := dk_182 1 92 (dk_at dksX8_tellMan_1 6 rfl rfl)
theorem dX8_tellMan_33 : decode cX8_tellMan 33 = .ok (.iastore, 1) := dk_79 (dk_at dksX8_tellMan_1 9 rfl rfl)
theorem dX8_tellMan_34 : decode cX8_tellMan 34 = .ok (.aload_n 0, 1) := dk_42 (dk_at dksX8_tellMan_1 10 rfl rfl)
theorem dX8_tellMan_35 : decode cX8_tellMan 35 = .ok (.getfield 110, 3) := dk_180 0 110 (dk_at dksX8_tellMan_1 11 rfl rfl)
theorem dX8_tellMan_38 : decode cX8_tellMan 38 = .ok (.iload_n 1, 1) := dk_27 (dk_at dksX8_tellMan_1 14 rfl rfl)
theorem dX8_tellMan_39 : decode cX8_tellMan 39 = .ok (.iconst (-1), 1) := dk_2 (dk_at dksX8_tellMan_1 15 rfl rfl)
theorem dX8_tellMan_40 : decode cX8_tellMan 40 = .ok (.iastore, 1) := dk_79 (dk_at dksX8_tellMan_1 16 rfl rfl)
theorem dX8_tellMan_41 : decode cX8_tellMan 41 = .ok (.aload_n 0, 1) := dk_42 (dk_at dksX8_tellMan_1 17 rfl rfl)
theorem dX8_tellMan_42 : decode cX8_tellMan 42 = .ok (.getfield 113, 3) := dk_180 0 113 (dk_at dksX8_tellMan_1 18 rfl rfl)
theorem dX8_tellMan_45 : decode cX8_tellMan 45 = .ok (.iload_n 1, 1) := dk_27 (dk_at dksX8_tellMan_1 21 rfl rfl)
theorem dX8_tellMan_46 : decode cX8_tellMan 46 = .ok (.iconst (-1), 1) := dk_2 (dk_at dksX8_tellMan_1 22 rfl rfl)
theorem dX8_tellMan_47 : decode cX8_tellMan 47 = .ok (.iastore, 1) := dk_79 (dk_at dksX8_tellMan_1 23 rfl rfl)
theorem dX8_tellMan_48 : decode cX8_tellMan 48 = .ok (.aload_n 0, 1) := dk_42 (dk_at dksX8_tellMan_2 0 rfl rfl)
theorem dX8_tellMan_49 : decode cX8_tellMan 49 = .ok (.getfield 248, 3) := dk_180 0 248 (dk_at dksX8_tellMan_2 1 rfl rfl)
theorem dX8_tellMan_52 : decode cX8_tellMan 52 = .ok (.ifCond .ne 66, 3) := dk_154 0 66 (dk_at dksX8_tellMan_2 4 rfl rfl)
theorem dX8_tellMan_55 : decode cX8_tellMan 55 = .ok (.aload_n 0, 1) := dk_42 (dk_at dksX8_tellMan_2 7 rfl rfl)
theorem dX8_tellMan_56 : decode cX8_tellMan 56 = .ok (.bipush 29, 2) := dk_16 29 (dk_at dksX8_tellMan_2 8 rfl rfl)
theorem dX8_tellMan_58 : decode cX8_tellMan 58 = .ok (.invokevirtual 266, 3) := dk_182 1 10 (dk_at dksX8_tellMan_2 10 rfl rfl)
theorem dX8_tellMan_61 : decode cX8_tellMan 61 = .ok (.ifCond .eq 57, 3) := dk_153 0 57 (dk_at dksX8_tellMan_2 13 rfl rfl)
theorem dX8_tellMan_64 : decode cX8_tellMan 64 = .ok (.aload_n 0, 1) := dk_42 (dk_at dksX8_tellMan_2 16 rfl rfl)
theorem dX8_tellMan_65 : decode cX8_tellMan 65 = .ok (.invokevirtual 269, 3) := dk_182 1 13 (dk_at dksX8_tellMan_2 17 rfl rfl)
theorem dX8_tellMan_68 : decode cX8_tellMan 68 = .ok (.aload_n 0, 1) := dk_42 (dk_at dksX8_tellMan_2 20 rfl rfl)
theorem dX8_tellMan_69 : decode cX8_tellMan 69 = .ok (.iconst 2, 1) := dk_5 (dk_at dksX8_tellMan_2 21 rfl rfl)
theorem dX8_tellMan_70 : decode cX8_tellMan 70 = .ok (.invokevirtual 348, 3) := dk_182 1 92 (dk_at dksX8_tellMan_3 0 rfl rfl)
theorem dX8_tellMan_73 : decode cX8_tellMan 73 = .ok (.istore_n 3, 1) := dk_62 (dk_at dksX8_tellMan_3 3 rfl rfl)
theorem dX8_tellMan_74 : decode cX8_tellMan 74 = .ok (.aload_n 0, 1) := dk_42 (dk_at dksX8_tellMan_3 4 rfl rfl)
theorem dX8_tellMan_75 : decode cX8_tellMan 75 = .ok (.getfield 110, 3) := dk_180 0 110 (dk_at dksX8_tellMan_3 5 rfl rfl)
theorem dX8_tellMan_78 : decode cX8_tellMan 78 = .ok (.iload_n 1, 1) := dk_27 (dk_at dksX8_tellMan_3 8 rfl rfl)
theorem dX8_tellMan_79 : decode cX8_tellMan 79 = .ok (.iload_n 3, 1) := dk_29 (dk_at dksX8_tellMan_3 9 rfl rfl)
theorem dX8_tellMan_80 : decode cX8_tellMan 80 = .ok (.iastore, 1) := dk_79 (dk_at dksX8_tellMan_3 10 rfl rfl)
theorem dX8_tellMan_81 : decode cX8_tellMan 81 = .ok (.aload_n 0, 1) := dk_42 (dk_at dksX8_tellMan_3 11 rfl rfl)
theorem dX8_tellMan_82 : decode cX8_tellMan 82 = .ok (.getfield 113, 3) := dk_180 0 113 (dk_at dksX8_tellMan_3 12 rfl rfl)
theorem dX8_tellMan_85 : decode cX8_tellMan 85 = .ok (.iload_n 1, 1) := dk_27 (dk_at dksX8_tellMan_3 15 rfl rfl)
theorem dX8_tellMan_86 : decode cX8_tellMan 86 = .ok (.aload_n 0, 1) := dk_42 (dk_at dksX8_tellMan_3 16 rfl rfl)
theorem dX8_tellMan_87 : decode cX8_tellMan 87 = .ok (.iconst 0, 1) := dk_3 (dk_at dksX8_tellMan_3 17 rfl rfl)
theorem dX8_tellMan_88 : decode cX8_tellMan 88 = .ok (.iload_n 3, 1) := dk_29 (dk_at dksX8_tellMan_3 18 rfl rfl)
theorem dX8_tellMan_89 : decode cX8_tellMan 89 = .ok (.ifCond .ge 9, 3) := dk_156 0 9 (dk_at dksX8_tellMan_3 19 rfl rfl)
theorem dX8_tellMan_92 : decode cX8_tellMan 92 = .ok (.sipush 9999, 3) := dk_17 39 15 (dk_at dksX8_tellMan_4 0 rfl rfl)
theorem dX8_tellMan_95 : decode cX8_tellMan 95 = .ok (.goto 19, 3) := dk_167 0 19 (dk_at dksX8_tellMan_4 3 rfl rfl)
theorem dX8_tellMan_98 : decode cX8_tellMan 98 = .ok (.aload_n 0, 1) := dk_42 (dk_at dksX8_tellMan_4 6 rfl rfl)
theorem dX8_tellMan_99 : decode cX8_tellMan 99 = .ok (.getfield 83, 3) := dk_180 0 83 (dk_at dksX8_tellMan_4 7 rfl rfl)
theorem dX8_tellMan_102 : decode cX8_tellMan 102 = .ok (.bipush 6, 2) := dk_16 6 (dk_at dksX8_tellMan_4 10 rfl rfl)
theorem dX8_tellMan_104 : decode cX8_tellMan 104 = .ok (.aload_n 0, 1) := dk_42 (dk_at dksX8_tellMan_4 12 rfl rfl)
theorem dX8_tellMan_105 : decode cX8_tellMan 105 = .ok (.getfield 281, 3) := dk_180 1 25 (dk_at dksX8_tellMan_4 13 rfl rfl)
theorem dX8_tellMan_108 : decode cX8_tellMan 108 = .ok (.imul, 1) := dk_104 (dk_at dksX8_tellMan_4 16 rfl rfl)
theorem dX8_tellMan_109 : decode cX8_tellMan 109 = .ok (.iload_n 3, 1) := dk_29 (dk_at dksX8_tellMan_4 17 rfl rfl)
theorem dX8_tellMan_110 : decode cX8_tellMan 110 = .ok (.iadd, 1) := dk_96 (dk_at dksX8_tellMan_4 18 rfl rfl)
theorem dX8_tellMan_111 : decode cX8_tellMan 111 = .ok (.iaload, 1) := dk_46 (dk_at dksX8_tellMan_4 19 rfl rfl)
theorem dX8_tellMan_112 : decode cX8_tellMan 112 = .ok (.iconst 1, 1) := dk_4 (dk_at dksX8_tellMan_4 20 rfl rfl)
theorem dX8_tellMan_113 : decode cX8_tellMan 113 = .ok (.isub, 1) := dk_100 (dk_at dksX8_tellMan_4 21 rfl rfl)
theorem dX8_tellMan_114 : decode cX8_tellMan 114 = .ok (.invokevirtual 330, 3) := dk_182 1 74 (dk_at dksX8_tellMan_5 0 rfl rfl)
theorem dX8_tellMan_117 : decode cX8_tellMan 117 = .ok (.iastore, 1) := dk_79 (dk_at dksX8_tellMan_5 3 rfl rfl)
theorem dX8_tellMan_118 : decode cX8_tellMan 118 = .ok (.aload_n 0, 1) := dk_42 (dk_at dksX8_tellMan_5 4 rfl rfl)
theorem dX8_tellMan_119 : decode cX8_tellMan 119 = .ok (.iconst 4, 1) := dk_7 (dk_at dksX8_tellMan_5 5 rfl rfl)
theorem dX8_tellMan_120 : decode cX8_tellMan 120 = .ok (.invokevirtual 334, 3) := dk_182 1 78 (dk_at dksX8_tellMan_5 6 rfl rfl)
theorem dX8_tellMan_123 : decode cX8_tellMan 123 = .ok (.aload_n 0, 1) := dk_42 (dk_at dksX8_tellMan_5 9 rfl rfl)
theorem dX8_tellMan_124 : decode cX8_tellMan 124 = .ok (.getfield 248, 3) := dk_180 0 248 (dk_at dksX8_tellMan_5 10 rfl rfl)
theorem dX8_tellMan_127 : decode cX8_tellMan 127 = .ok (.ifCond .le 4, 3) := dk_158 0 4 (dk_at dksX8_tellMan_5 13 rfl rfl)
theorem dX8_tellMan_130 : decode cX8_tellMan 130 = .ok (.return_, 1) := dk_177 (dk_at dksX8_tellMan_5 16 rfl rfl)
theorem dX8_tellMan_131 : decode cX8_tellMan 131 = .ok (.aload_n 0, 1) := dk_42 (dk_at dksX8_tellMan_5 17 rfl rfl)
theorem dX8_tellMan_132 : decode cX8_tellMan 132 = .ok (.iload_n 2, 1) := dk_28 (dk_at dksX8_tellMan_5 18 rfl rfl)
theorem dX8_tellMan_133 : decode cX8_tellMan 133 = .ok (.iconst 3, 1) := dk_6 (dk_at dksX8_tellMan_5 19 rfl rfl)
theorem dX8_tellMan_134 : decode cX8_tellMan 134 = .ok (.aload_n 0, 1) := dk_42 (dk_at dksX8_tellMan_5 20 rfl rfl)
theorem dX8_tellMan_135 : decode cX8_tellMan 135 = .ok (.getfield 104, 3) := dk_180 0 104 (dk_at dksX8_tellMan_5 21 rfl rfl)
theorem dX8_tellMan_138 : decode cX8_tellMan 138 = .ok (.aload_n 0, 1) := dk_42 (dk_at dksX8_tellMan_6 0 rfl rfl)
theorem dX8_tellMan_139 : decode cX8_tellMan 139 = .ok (.getfield 281, 3) := dk_180 1 25 (dk_at dksX8_tellMan_6 1 rfl rfl)
theorem dX8_tellMan_142 : decode cX8_tellMan 142 = .ok (.iaload, 1) := dk_46 (dk_at dksX8_tellMan_6 4 rfl rfl)
theorem dX8_tellMan_143 : decode cX8_tellMan 143 = .ok (.invokevirtual 344, 3) := dk_182 1 88 (dk_at dksX8_tellMan_6 5 rfl rfl)
theorem dX8_tellMan_146 : decode cX8_tellMan 146 = .ok (.aload_n 0, 1) := dk_42 (dk_at dksX8_tellMan_6 8 rfl rfl)
theorem dX8_tellMan_147 : decode cX8_tellMan 147 = .ok (.getfield 104, 3) := dk_180 0 104 (dk_at dksX8_tellMan_6 9 rfl rfl)
theorem dX8_tellMan_150 : decode cX8_tellMan 150 = .ok (.aload_n 0, 1) := dk_42 (dk_at dksX8_tellMan_6 12 rfl rfl)
theorem dX8_tellMan_151 : decode cX8_tellMan 151 = .ok (.getfield 281, 3) := dk_180 1 25 (dk_at dksX8_tellMan_6 13 rfl rfl)
theorem dX8_tellMan_154 : decode cX8_tellMan 154 = .ok (.dup2, 1) := dk_92 (dk_at dksX8_tellMan_6 16 rfl rfl)
theorem dX8_tellMan_155 : decode cX8_tellMan 155 = .ok (.iaload, 1) := dk_46 (dk_at dksX8_tellMan_6 17 rfl rfl)
theorem dX8_tellMan_156 : decode cX8_tellMan 156 = .ok (.iconst 1, 1) := dk_4 (dk_at dksX8_tellMan_6 18 rfl rfl)
theorem dX8_tellMan_157 : decode cX8_tellMan 157 = .ok (.iadd, 1) := dk_96 (dk_at dksX8_tellMan_6 19 rfl rfl)
theorem dX8_tellMan_158 : decode cX8_tellMan 158 = .ok (.iastore, 1) := dk_79 (dk_at dksX8_tellMan_6 20 rfl rfl)
theorem dX8_tellMan_159 : decode cX8_tellMan 159 = .ok (.return_, 1) := dk_177 (dk_at dksX8_tellMan_6 21 rfl rfl)
abbrev cX8_tellLaw : ByteArray := prog_22_method_34_code
def yX8_tellLaw : MethodName := ⟨RX8, "tellLaw", "()V"⟩
def dkwX8_tellLaw_9 : List UInt8 := [180, 1, 31, 79, 177]
abbrev dktX8_tellLaw_9 : List UInt8 := dkwX8_tellLaw_9 ++ []
def dkwX8_tellLaw_8 : List UInt8 := [180, 1, 25, 104, 27, 96, 28, 79, 42, 180, 0, 122, 16, 6, 42, 180, 1, 25, 104, 27, 96, 42]
abbrev dktX8_tellLaw_8 : List UInt8 := dkwX8_tellLaw_8 ++ dktX8_tellLaw_9
def dkwX8_tellLaw_7 : List UInt8 := [180, 0, 116, 42, 180, 1, 25, 92, 46, 4, 96, 79, 27, 156, 0, 4, 177, 42, 180, 0, 119, 16, 6, 42]
abbrev dktX8_tellLaw_7 : List UInt8 := dkwX8_tellLaw_7 ++ dktX8_tellLaw_8
def dkwX8_tellLaw_6 : List UInt8 := [180, 1, 31, 3, 84, 42, 182, 1, 101, 42, 7, 182, 1, 78, 42, 180, 0, 248, 158, 0, 4, 177, 42]
abbrev dktX8_tellLaw_6 : List UInt8 := dkwX8_tellLaw_6 ++ dktX8_tellLaw_7
def dkwX8_tellLaw_5 : List UInt8 := [16, 32, 182, 1, 78, 42, 182, 1, 101, 42, 16, 33, 182, 1, 78, 167, 255, 142, 42, 180, 0, 125, 42]
abbrev dktX8_tellLaw_5 : List UInt8 := dkwX8_tellLaw_5 ++ dktX8_tellLaw_6
def dkwX8_tellLaw_4 : List UInt8 := [180, 0, 131, 42, 180, 1, 31, 42, 180, 1, 34, 79, 42, 180, 0, 248, 154, 0, 7, 42, 182, 1, 98, 42]
abbrev dktX8_tellLaw_4 : List UInt8 := dkwX8_tellLaw_4 ++ dktX8_tellLaw_5
def dkwX8_tellLaw_3 : List UInt8 := [42, 180, 0, 128, 42, 180, 1, 31, 42, 180, 1, 34, 79, 42, 182, 1, 98, 42, 16, 13, 182, 1, 78, 42]
abbrev dktX8_tellLaw_3 : List UInt8 := dkwX8_tellLaw_3 ++ dktX8_tellLaw_4
def dkwX8_tellLaw_2 : List UInt8 := [180, 0, 248, 158, 0, 4, 177, 132, 3, 1, 42, 182, 1, 13, 42, 180, 0, 125, 42, 180, 1, 31, 4, 84]
abbrev dktX8_tellLaw_2 : List UInt8 := dkwX8_tellLaw_2 ++ dktX8_tellLaw_3
def dkwX8_tellLaw_1 : List UInt8 := [154, 0, 113, 42, 16, 31, 182, 1, 10, 153, 0, 104, 29, 7, 160, 0, 8, 42, 5, 182, 1, 7, 42]
abbrev dktX8_tellLaw_1 : List UInt8 := dkwX8_tellLaw_1 ++ dktX8_tellLaw_2
def dkwX8_tellLaw_0 : List UInt8 := [42, 6, 182, 1, 92, 60, 42, 8, 182, 1, 78, 42, 180, 1, 31, 61, 3, 62, 42, 180, 0, 248]
abbrev dktX8_tellLaw_0 : List UInt8 := dkwX8_tellLaw_0 ++ dktX8_tellLaw_1
theorem dksX8_tellLaw_0 : cX8_tellLaw.data.toList.drop 0 = dktX8_tellLaw_0 := by decide +kernel
theorem dksX8_tellLaw_1 : cX8_tellLaw.data.toList.drop 22 = dktX8_tellLaw_1 := dk_seg dksX8_tellLaw_0 22 rfl rfl
theorem dksX8_tellLaw_2 : cX8_tellLaw.data.toList.drop 45 = dktX8_tellLaw_2 := dk_seg dksX8_tellLaw_1 23 rfl rfl
theorem dksX8_tellLaw_3 : cX8_tellLaw.data.toList.drop 69 = dktX8_tellLaw_3 := dk_seg dksX8_tellLaw_2 24 rfl rfl
theorem dksX8_tellLaw_4 : cX8_tellLaw.data.toList.drop 93 = dktX8_tellLaw_4 := dk_seg dksX8_tellLaw_3 24 rfl rfl
theorem dksX8_tellLaw_5 : cX8_tellLaw.data.toList.drop 117 = dktX8_tellLaw_5 := dk_seg dksX8_tellLaw_4 24 rfl rfl
theorem dksX8_tellLaw_6 : cX8_tellLaw.data.toList.drop 140 = dktX8_tellLaw_6 := dk_seg dksX8_tellLaw_5 23 rfl rfl
theorem dksX8_tellLaw_7 : cX8_tellLaw.data.toList.drop 163 = dktX8_tellLaw_7 := dk_seg dksX8_tellLaw_6 23 rfl rfl
theorem dksX8_tellLaw_8 : cX8_tellLaw.data.toList.drop 187 = dktX8_tellLaw_8 := dk_seg dksX8_tellLaw_7 24 rfl rfl
theorem dksX8_tellLaw_9 : cX8_tellLaw.data.toList.drop 209 = dktX8_tellLaw_9 := dk_seg dksX8_tellLaw_8 22 rfl rfl
theorem dX8_tellLaw_0 : decode cX8_tellLaw 0 = .ok (.aload_n 0, 1) := dk_42 (dk_at dksX8_tellLaw_0 0 rfl rfl)
theorem dX8_tellLaw_1 : decode cX8_tellLaw 1 = .ok (.iconst 3, 1) := dk_6 (dk_at dksX8_tellLaw_0 1 rfl rfl)
theorem dX8_tellLaw_2 : decode cX8_tellLaw 2 = .ok (.invokevirtual 348, 3) := dk_182 1 92 (dk_at dksX8_tellLaw_0 2 rfl rfl)
theorem dX8_tellLaw_5 : decode cX8_tellLaw 5 = .ok (.istore_n 1, 1) := dk_60 (dk_at dksX8_tellLaw_0 5 rfl rfl)
theorem dX8_tellLaw_6 : decode cX8_tellLaw 6 = .ok (.aload_n 0, 1) := dk_42 (dk_at dksX8_tellLaw_0 6 rfl rfl)
theorem dX8_tellLaw_7 : decode cX8_tellLaw 7 = .ok (.iconst 5, 1) := dk_8 (dk_at dksX8_tellLaw_0 7 rfl rfl)
theorem dX8_tellLaw_8 : decode cX8_tellLaw 8 = .ok (.invokevirtual 334, 3) := dk_182 1 78 (dk_at dksX8_tellLaw_0 8 rfl rfl)
theorem dX8_tellLaw_11 : decode cX8_tellLaw 11 = .ok (.aload_n 0, 1) := dk_42 (dk_at dksX8_tellLaw_0 11 rfl rfl)
theorem dX8_tellLaw_12 : decode cX8_tellLaw 12 = .ok (.getfield 287, 3) := dk_180 1 31 (dk_at dksX8_tellLaw_0 12 rfl rfl)
theorem dX8_tellLaw_15 : decode cX8_tellLaw 15 = .ok (.istore_n 2, 1) := dk_61 (dk_at dksX8_tellLaw_0 15 rfl rfl)
theorem dX8_tellLaw_16 : decode cX8_tellLaw 16 = .ok (.iconst 0, 1) := dk_3 (dk_at dksX8_tellLaw_0 16 rfl rfl)
theorem dX8_tellLaw_17 : decode cX8_tellLaw 17 = .ok (.istore_n 3, 1) := dk_62 (dk_at dksX8_tellLaw_0 17 rfl rfl)
theorem dX8_tellLaw_18 : decode cX8_tellLaw 18 = .ok (.aload_n 0, 1) := dk_42 (dk_at dksX8_tellLaw_0 18 rfl rfl)
theorem dX8_tellLaw_19 : decode cX8_tellLaw 19 = .ok (.getfield 248, 3) := dk_180 0 248 (dk_at dksX8_tellLaw_0 19 rfl rfl)
theorem dX8_tellLaw_22 : decode cX8_tellLaw 22 = .ok (.ifCond .ne 113, 3) := dk_154 0 113 (dk_at dksX8_tellLaw_1 0 rfl rfl)
theorem dX8_tellLaw_25 : decode cX8_tellLaw 25 = .ok (.aload_n 0, 1) := dk_42 (dk_at dksX8_tellLaw_1 3 rfl rfl)
theorem dX8_tellLaw_26 : decode cX8_tellLaw 26 = .ok (.bipush 31, 2) := dk_16 31 (dk_at dksX8_tellLaw_1 4 rfl rfl)
theorem dX8_tellLaw_28 : decode cX8_tellLaw 28 = .ok (.invokevirtual 266, 3) := dk_182 1 10 (dk_at dksX8_tellLaw_1 6 rfl rfl)
theorem dX8_tellLaw_31 : decode cX8_tellLaw 31 = .ok (.ifCond .eq 104, 3) := dk_153 0 104 (dk_at dksX8_tellLaw_1 9 rfl rfl)
theorem dX8_tellLaw_34 : decode cX8_tellLaw 34 = .ok (.iload_n 3, 1) := dk_29 (dk_at dksX8_tellLaw_1 12 rfl rfl)
theorem dX8_tellLaw_35 : decode cX8_tellLaw 35 = .ok (.iconst 4, 1) := dk_7 (dk_at dksX8_tellLaw_1 13 rfl rfl)
theorem dX8_tellLaw_36 : decode cX8_tellLaw 36 = .ok (.if_icmp .ne 8, 3) := dk_160 0 8 (dk_at dksX8_tellLaw_1 14 rfl rfl)
theorem dX8_tellLaw_39 : decode cX8_tellLaw 39 = .ok (.aload_n 0, 1) := dk_42 (dk_at dksX8_tellLaw_1 17 rfl rfl)
theorem dX8_tellLaw_40 : decode cX8_tellLaw 40 = .ok (.iconst 2, 1) := dk_5 (dk_at dksX8_tellLaw_1 18 rfl rfl)
theorem dX8_tellLaw_41 : decode cX8_tellLaw 41 = .ok (.invokevirtual 263, 3) := dk_182 1 7 (dk_at dksX8_tellLaw_1 19 rfl rfl)
theorem dX8_tellLaw_44 : decode cX8_tellLaw 44 = .ok (.aload_n 0, 1) := dk_42 (dk_at dksX8_tellLaw_1 22 rfl rfl)
theorem dX8_tellLaw_45 : decode cX8_tellLaw 45 = .ok (.getfield 248, 3) := dk_180 0 248 (dk_at dksX8_tellLaw_2 0 rfl rfl)
theorem dX8_tellLaw_48 : decode cX8_tellLaw 48 = .ok (.ifCond .le 4, 3) := dk_158 0 4 (dk_at dksX8_tellLaw_2 3 rfl rfl)
theorem dX8_tellLaw_51 : decode cX8_tellLaw 51 = .ok (.return_, 1) := dk_177 (dk_at dksX8_tellLaw_2 6 rfl rfl)
theorem dX8_tellLaw_52 : decode cX8_tellLaw 52 = .ok (.iinc 3 1, 3) := dk_132 3 1 (dk_at dksX8_tellLaw_2 7 rfl rfl)
theorem dX8_tellLaw_55 : decode cX8_tellLaw 55 = .ok (.aload_n 0, 1) := dk_42 (dk_at dksX8_tellLaw_2 10 rfl rfl)
theorem dX8_tellLaw_56 : decode cX8_tellLaw 56 = .ok (.invokevirtual 269, 3) := dk_182 1 13 (dk_at dksX8_tellLaw_2 11 rfl rfl)
theorem dX8_tellLaw_59 : decode cX8_tellLaw 59 = .ok (.aload_n 0, 1) := dk_42 (dk_at dksX8_tellLaw_2 14 rfl rfl)
theorem dX8_tellLaw_60 : decode cX8_tellLaw 60 = .ok (.getfield 125, 3) := dk_180 0 125 (dk_at dksX8_tellLaw_2 15 rfl rfl)
theorem dX8_tellLaw_63 : decode cX8_tellLaw 63 = .ok (.aload_n 0, 1) := dk_42 (dk_at dksX8_tellLaw_2 18 rfl rfl)
theorem dX8_tellLaw_64 : decode cX8_tellLaw 64 = .ok (.getfield 287, 3) := dk_180 1 31 (dk_at dksX8_tellLaw_2 19 rfl rfl)
theorem dX8_tellLaw_67 : decode cX8_tellLaw 67 = .ok (.iconst 1, 1) := dk_4 (dk_at dksX8_tellLaw_2 22 rfl rfl)
theorem dX8_tellLaw_68 : decode cX8_tellLaw 68 = .ok (.bastore, 1) := dk_84 (dk_at dksX8_tellLaw_2 23 rfl rfl)
theorem dX8_tellLaw_69 : decode cX8_tellLaw 69 = .ok (.aload_n 0, 1) := dk_42 (dk_at dksX8_tellLaw_3 0 rfl rfl)
theorem dX8_tellLaw_70 : decode cX8_tellLaw 70 = .ok (.getfield 128, 3) := dk_180 0 128 (dk_at dksX8_tellLaw_3 1 rfl rfl)
theorem dX8_tellLaw_73 : decode cX8_tellLaw 73 = .ok (.aload_n 0, 1) := dk_42 (dk_at dksX8_tellLaw_3 4 rfl rfl)
theorem dX8_tellLaw_74 : decode cX8_tellLaw 74 = .ok (.getfield 287, 3) := dk_180 1 31 (dk_at dksX8_tellLaw_3 5 rfl rfl)
theorem dX8_tellLaw_77 : decode cX8_tellLaw 77 = .ok (.aload_n 0, 1) := dk_42 (dk_at dksX8_tellLaw_3 8 rfl rfl)
theorem dX8_tellLaw_78 : decode cX8_tellLaw 78 = .ok (.getfield 290, 3) := dk_180 1 34 (dk_at dksX8_tellLaw_3 9 rfl rfl)
theorem dX8_tellLaw_81 : decode cX8_tellLaw 81 = .ok (.iastore, 1) := dk_79 (dk_at dksX8_tellLaw_3 12 rfl rfl)
theorem dX8_tellLaw_82 : decode cX8_tellLaw 82 = .ok (.aload_n 0, 1) := dk_42 (dk_at dksX8_tellLaw_3 13 rfl rfl)
theorem dX8_tellLaw_83 : decode cX8_tellLaw 83 = .ok (.invokevirtual 354, 3) := dk_182 1 98 (dk_at dksX8_tellLaw_3 14 rfl rfl)
theorem dX8_tellLaw_86 : decode cX8_tellLaw 86 = .ok (.aload_n 0, 1) := dk_42 (dk_at dksX8_tellLaw_3 17 rfl rfl)
theorem dX8_tellLaw_87 : decode cX8_tellLaw 87 = .ok (.bipush 13, 2) := dk_16 13 (dk_at dksX8_tellLaw_3 18 rfl rfl)
theorem dX8_tellLaw_89 : decode cX8_tellLaw 89 = .ok (.invokevirtual 334, 3) := dk_182 1 78 (dk_at dksX8_tellLaw_3 20 rfl rfl)
theorem dX8_tellLaw_92 : decode cX8_tellLaw 92 = .ok (.aload_n 0, 1) := dk_42 (dk_at dksX8_tellLaw_3 23 rfl rfl)
theorem dX8_tellLaw_93 : decode cX8_tellLaw 93 = .ok (.getfield 131, 3) := dk_180 0 131 (dk_at dksX8_tellLaw_4 0 rfl rfl)
theorem dX8_tellLaw_96 : decode cX8_tellLaw 96 = .ok (.aload_n 0, 1) := dk_42 (dk_at dksX8_tellLaw_4 3 rfl rfl)
theorem dX8_tellLaw_97 : decode cX8_tellLaw 97 = .ok (.getfield 287, 3) := dk_180 1 31 (dk_at dksX8_tellLaw_4 4 rfl rfl)
theorem dX8_tellLaw_100 : decode cX8_tellLaw 100 = .ok (.aload_n 0, 1) := dk_42 (dk_at dksX8_tellLaw_4 7 rfl rfl)
theorem dX8_tellLaw_101 : decode cX8_tellLaw 101 = .ok (.getfield 290, 3) := dk_180 1 34 (dk_at dksX8_tellLaw_4 8 rfl rfl)
theorem dX8_tellLaw_104 : decode cX8_tellLaw 104 = .ok (.iastore, 1) := dk_79 (dk_at dksX8_tellLaw_4 11 rfl rfl)
theorem dX8_tellLaw_105 : decode cX8_tellLaw 105 = .ok (.aload_n 0, 1) := dk_42 (dk_at dksX8_tellLaw_4 12 rfl rfl)
theorem dX8_tellLaw_106 : decode cX8_tellLaw 106 = .ok (.getfield 248, 3) := dk_180 0 248 (dk_at dksX8_tellLaw_4 13 rfl rfl)
theorem dX8_tellLaw_109 : decode cX8_tellLaw 109 = .ok (.ifCond .ne 7, 3) := dk_154 0 7 (dk_at dksX8_tellLaw_4 16 rfl rfl)
theorem dX8_tellLaw_112 : decode cX8_tellLaw 112 = .ok (.aload_n 0, 1) := dk_42 (dk_at dksX8_tellLaw_4 19 rfl rfl)
theorem dX8_tellLaw_113 : decode cX8_tellLaw 113 = .ok (.invokevirtual 354, 3) := dk_182 1 98 (dk_at dksX8_tellLaw_4 20 rfl rfl)
theorem dX8_tellLaw_116 : decode cX8_tellLaw 116 = .ok (.aload_n 0, 1) := dk_42 (dk_at dksX8_tellLaw_4 23 rfl rfl)
theorem dX8_tellLaw_117 : decode cX8_tellLaw 117 = .ok (.bipush 32, 2) := dk_16 32 (dk_at dksX8_tellLaw_5 0 rfl rfl)
theorem dX8_tellLaw_119 : decode cX8_tellLaw 119 = .ok (.invokevirtual 334, 3) := dk_182 1 78 (dk_at dksX8_tellLaw_5 2 rfl rfl)
theorem dX8_tellLaw_122 : decode cX8_tellLaw 122 = .ok (.aload_n 0, 1) := dk_42 (dk_at dksX8_tellLaw_5 5 rfl rfl)
theorem dX8_tellLaw_123 : decode cX8_tellLaw 123 = .ok (.invokevirtual 357, 3) := dk_182 1 101 (dk_at dksX8_tellLaw_5 6 rfl rfl)
theorem dX8_tellLaw_126 : decode cX8_tellLaw 126 = .ok (.aload_n 0, 1) := dk_42 (dk_at dksX8_tellLaw_5 9 rfl rfl)
theorem dX8_tellLaw_127 : decode cX8_tellLaw 127 = .ok (.bipush 33, 2) := dk_16 33 (dk_at dksX8_tellLaw_5 10 rfl rfl)
theorem dX8_tellLaw_129 : decode cX8_tellLaw 129 = .ok (.invokevirtual 334, 3) := dk_182 1 78 (dk_at dksX8_tellLaw_5 12 rfl rfl)
theorem dX8_tellLaw_132 : decode cX8_tellLaw 132 = .ok (.goto (-114), 3) := dk_167 255 142 (dk_at dksX8_tellLaw_5 15 rfl rfl)
theorem dX8_tellLaw_135 : decode cX8_tellLaw 135 = .ok (.aload_n 0, 1) := dk_42 (dk_at dksX8_tellLaw_5 18 rfl rfl)
theorem dX8_tellLaw_136 : decode cX8_tellLaw 136 = .ok (.getfield 125, 3) := dk_180 0 125 (dk_at dksX8_tellLaw_5 19 rfl rfl)
theorem dX8_tellLaw_139 : decode cX8_tellLaw 139 = .ok (.aload_n 0, 1) := dk_42 (dk_at dksX8_tellLaw_5 22 rfl rfl)
theorem dX8_tellLaw_140 : decode cX8_tellLaw 140 = .ok (.getfield 287, 3) := dk_180 1 31 (dk_at dksX8_tellLaw_6 0 rfl rfl)
theorem dX8_tellLaw_143 : decode cX8_tellLaw 143 = .ok (.iconst 0, 1) := dk_3 (dk_at dksX8_tellLaw_6 3 rfl rfl)
theorem dX8_tellLaw_144 : decode cX8_tellLaw 144 = .ok (.bastore, 1) := dk_84 (dk_at dksX8_tellLaw_6 4 rfl rfl)
theorem dX8_tellLaw_145 : decode cX8_tellLaw 145 = .ok (.aload_n 0, 1) := dk_42 (dk_at dksX8_tellLaw_6 5 rfl rfl)
theorem dX8_tellLaw_146 : decode cX8_tellLaw 146 = .ok (.invokevirtual 357, 3) := dk_182 1 101 (dk_at dksX8_tellLaw_6 6 rfl rfl)
theorem dX8_tellLaw_149 : decode cX8_tellLaw 149 = .ok (.aload_n 0, 1) := dk_42 (dk_at dksX8_tellLaw_6 9 rfl rfl)
theorem dX8_tellLaw_150 : decode cX8_tellLaw 150 = .ok (.iconst 4, 1) := dk_7 (dk_at dksX8_tellLaw_6 10 rfl rfl)
theorem dX8_tellLaw_151 : decode cX8_tellLaw 151 = .ok (.invokevirtual 334, 3) := dk_182 1 78 (dk_at dksX8_tellLaw_6 11 rfl rfl)
theorem dX8_tellLaw_154 : decode cX8_tellLaw 154 = .ok (.aload_n 0, 1) := dk_42 (dk_at dksX8_tellLaw_6 14 rfl rfl)
theorem dX8_tellLaw_155 : decode cX8_tellLaw 155 = .ok (.getfield 248, 3) := dk_180 0 248 (dk_at dksX8_tellLaw_6 15 rfl rfl)
theorem dX8_tellLaw_158 : decode cX8_tellLaw 158 = .ok (.ifCond .le 4, 3) := dk_158 0 4 (dk_at dksX8_tellLaw_6 18 rfl rfl)
theorem dX8_tellLaw_161 : decode cX8_tellLaw 161 = .ok (.return_, 1) := dk_177 (dk_at dksX8_tellLaw_6 21 rfl rfl)
theorem dX8_tellLaw_162 : decode cX8_tellLaw 162 = .ok (.aload_n 0, 1) := dk_42 (dk_at dksX8_tellLaw_6 22 rfl rfl)
theorem dX8_tellLaw_163 : decode cX8_tellLaw 163 = .ok (.getfield 116, 3) := dk_180 0 116 (dk_at dksX8_tellLaw_7 0 rfl rfl)
theorem dX8_tellLaw_166 : decode cX8_tellLaw 166 = .ok (.aload_n 0, 1) := dk_42 (dk_at dksX8_tellLaw_7 3 rfl rfl)
theorem dX8_tellLaw_167 : decode cX8_tellLaw 167 = .ok (.getfield 281, 3) := dk_180 1 25 (dk_at dksX8_tellLaw_7 4 rfl rfl)
theorem dX8_tellLaw_170 : decode cX8_tellLaw 170 = .ok (.dup2, 1) := dk_92 (dk_at dksX8_tellLaw_7 7 rfl rfl)
theorem dX8_tellLaw_171 : decode cX8_tellLaw 171 = .ok (.iaload, 1) := dk_46 (dk_at dksX8_tellLaw_7 8 rfl rfl)
theorem dX8_tellLaw_172 : decode cX8_tellLaw 172 = .ok (.iconst 1, 1) := dk_4 (dk_at dksX8_tellLaw_7 9 rfl rfl)
theorem dX8_tellLaw_173 : decode cX8_tellLaw 173 = .ok (.iadd, 1) := dk_96 (dk_at dksX8_tellLaw_7 10 rfl rfl)
theorem dX8_tellLaw_174 : decode cX8_tellLaw 174 = .ok (.iastore, 1) := dk_79 (dk_at dksX8_tellLaw_7 11 rfl rfl)
theorem dX8_tellLaw_175 : decode cX8_tellLaw 175 = .ok (.iload_n 1, 1) := dk_27 (dk_at dksX8_tellLaw_7 12 rfl rfl)
theorem dX8_tellLaw_176 : decode cX8_tellLaw 176 = .ok (.ifCond .ge 4, 3) := dk_156 0 4 (dk_at dksX8_tellLaw_7 13 rfl rfl)
theorem dX8_tellLaw_179 : decode cX8_tellLaw 179 = .ok (.return_, 1) := dk_177 (dk_at dksX8_tellLaw_7 16 rfl rfl)
theorem dX8_tellLaw_180 : decode cX8_tellLaw 180 = .ok (.aload_n 0, 1) := dk_42 (dk_at dksX8_tellLaw_7 17 rfl rfl)
theorem dX8_tellLaw_181 : decode cX8_tellLaw 181 = .ok (.getfield 119, 3) := dk_180 0 119 (dk_at dksX8_tellLaw_7 18 rfl rfl)
theorem dX8_tellLaw_184 : decode cX8_tellLaw 184 = .ok (.bipush 6, 2) := dk_16 6 (dk_at dksX8_tellLaw_7 21 rfl rfl)
theorem dX8_tellLaw_186 : decode cX8_tellLaw 186 = .ok (.aload_n 0, 1) := dk_42 (dk_at dksX8_tellLaw_7 23 rfl rfl)
theorem dX8_tellLaw_187 : decode cX8_tellLaw 187 = .ok (.getfield 281, 3) := dk_180 1 25 (dk_at dksX8_tellLaw_8 0 rfl rfl)
theorem dX8_tellLaw_190 : decode cX8_tellLaw 190 = .ok (.imul, 1) := dk_104 (dk_at dksX8_tellLaw_8 3 rfl rfl)
theorem dX8_tellLaw_191 : decode cX8_tellLaw 191 = .ok (.iload_n 1, 1) := dk_27 (dk_at dksX8_tellLaw_8 4 rfl rfl)
theorem dX8_tellLaw_192 : decode cX8_tellLaw 192 = .ok (.iadd, 1) := dk_96 (dk_at dksX8_tellLaw_8 5 rfl rfl)
theorem dX8_tellLaw_193 : decode cX8_tellLaw 193 = .ok (.iload_n 2, 1) := dk_28 (dk_at dksX8_tellLaw_8 6 rfl rfl)
theorem dX8_tellLaw_194 : decode cX8_tellLaw 194 = .ok (.iastore, 1) := dk_79 (dk_at dksX8_tellLaw_8 7 rfl rfl)
theorem dX8_tellLaw_195 : decode cX8_tellLaw 195 = .ok (.aload_n 0, 1) := dk_42 (dk_at dksX8_tellLaw_8 8 rfl rfl)
theorem dX8_tellLaw_196 : decode cX8_tellLaw 196 = .ok (.getfield 122, 3) := dk_180 0 122 (dk_at dksX8_tellLaw_8 9 rfl rfl)
theorem dX8_tellLaw_199 : decode cX8_tellLaw 199 = .ok (.bipush 6, 2) := dk_16 6 (dk_at dksX8_tellLaw_8 12 rfl rfl)
theorem dX8_tellLaw_201 : decode cX8_tellLaw 201 = .ok (.aload_n 0, 1) := dk_42 (dk_at dksX8_tellLaw_8 14 rfl rfl)
theorem dX8_tellLaw_202 : decode cX8_tellLaw 202 = .ok (.getfield 281, 3) := dk_180 1 25 (dk_at dksX8_tellLaw_8 15 rfl rfl)
theorem dX8_tellLaw_205 : decode cX8_tellLaw 205 = .ok (.imul, 1) := dk_104 (dk_at dksX8_tellLaw_8 18 rfl rfl)
theorem dX8_tellLaw_206 : decode cX8_tellLaw 206 = .ok (.iload_n 1, 1) := dk_27 (dk_at dksX8_tellLaw_8 19 rfl rfl)
theorem dX8_tellLaw_207 : decode cX8_tellLaw 207 = .ok (.iadd, 1) := dk_96 (dk_at dksX8_tellLaw_8 20 rfl rfl)
theorem dX8_tellLaw_208 : decode cX8_tellLaw 208 = .ok (.aload_n 0, 1) := dk_42 (dk_at dksX8_tellLaw_8 21 rfl rfl)
theorem dX8_tellLaw_209 : decode cX8_tellLaw 209 = .ok (.getfield 287, 3) := dk_180 1 31 (dk_at dksX8_tellLaw_9 0 rfl rfl)
theorem dX8_tellLaw_212 : decode cX8_tellLaw 212 = .ok (.iastore, 1) := dk_79 (dk_at dksX8_tellLaw_9 3 rfl rfl)
theorem dX8_tellLaw_213 : decode cX8_tellLaw 213 = .ok (.return_, 1) := dk_177 (dk_at dksX8_tellLaw_9 4 rfl rfl)
abbrev cX8_expression : ByteArray := prog_22_method_38_code
def yX8_expression : MethodName := ⟨RX8, "expression", "()V"⟩
def dkwX8_expression_11 : List UInt8 := [180, 1, 104, 4, 96, 181, 1, 104, 42, 182, 1, 13, 167, 254, 255, 177]
abbrev dktX8_expression_11 : List UInt8 := dkwX8_expression_11 ++ []
def dkwX8_expression_10 : List UInt8 := [182, 1, 113, 42, 180, 0, 149, 42, 180, 1, 104, 42, 180, 0, 20, 42, 180, 0, 251, 46, 79, 42, 89]
abbrev dktX8_expression_10 : List UInt8 := dkwX8_expression_10 ++ dktX8_expression_11
def dkwX8_expression_9 : List UInt8 := [16, 10, 182, 1, 10, 154, 0, 12, 42, 16, 15, 182, 1, 10, 153, 0, 7, 4, 167, 0, 4, 3]
abbrev dktX8_expression_9 : List UInt8 := dkwX8_expression_9 ++ dktX8_expression_10
def dkwX8_expression_8 : List UInt8 := [154, 0, 22, 42, 180, 1, 19, 27, 164, 0, 8, 42, 4, 182, 1, 7, 42, 3, 182, 1, 113, 177, 42, 42]
abbrev dktX8_expression_8 : List UInt8 := dkwX8_expression_8 ++ dktX8_expression_9
def dkwX8_expression_7 : List UInt8 := [182, 1, 10, 154, 0, 12, 42, 16, 15, 182, 1, 10, 153, 0, 7, 4, 167, 0, 4, 3, 61, 28]
abbrev dktX8_expression_7 : List UInt8 := dkwX8_expression_7 ++ dktX8_expression_8
def dkwX8_expression_6 : List UInt8 := [167, 255, 210, 42, 16, 8, 182, 1, 10, 154, 0, 30, 42, 16, 9, 182, 1, 10, 154, 0, 21, 42, 16, 10]
abbrev dktX8_expression_6 : List UInt8 := dkwX8_expression_6 ++ dktX8_expression_7
def dkwX8_expression_5 : List UInt8 := [180, 1, 104, 4, 100, 181, 1, 104, 42, 89, 180, 1, 19, 4, 100, 181, 1, 19, 42, 182, 1, 13]
abbrev dktX8_expression_5 : List UInt8 := dkwX8_expression_5 ++ dktX8_expression_6
def dkwX8_expression_4 : List UInt8 := [42, 16, 7, 182, 1, 10, 153, 0, 43, 42, 180, 1, 19, 27, 164, 0, 35, 42, 3, 182, 1, 113, 42, 89]
abbrev dktX8_expression_4 : List UInt8 := dkwX8_expression_4 ++ dktX8_expression_5
def dkwX8_expression_3 : List UInt8 := [89, 180, 1, 104, 4, 96, 181, 1, 104, 167, 255, 198, 42, 182, 1, 110, 42, 180, 0, 248, 158, 0, 4, 177]
abbrev dktX8_expression_3 : List UInt8 := dkwX8_expression_3 ++ dktX8_expression_4
def dkwX8_expression_2 : List UInt8 := [180, 1, 19, 4, 96, 181, 1, 19, 42, 182, 1, 13, 42, 180, 0, 149, 42, 180, 1, 104, 16, 6, 79, 42]
abbrev dktX8_expression_2 : List UInt8 := dkwX8_expression_2 ++ dktX8_expression_3
def dkwX8_expression_1 : List UInt8 := [16, 6, 182, 1, 10, 153, 0, 55, 42, 180, 1, 19, 16, 6, 160, 0, 8, 42, 5, 182, 1, 7, 42, 89]
abbrev dktX8_expression_1 : List UInt8 := dkwX8_expression_1 ++ dktX8_expression_2
def dkwX8_expression_0 : List UInt8 := [42, 3, 181, 1, 104, 42, 180, 1, 19, 60, 4, 61, 28, 153, 1, 3, 42, 180, 0, 248, 154, 0, 252, 42]
abbrev dktX8_expression_0 : List UInt8 := dkwX8_expression_0 ++ dktX8_expression_1
theorem dksX8_expression_0 : cX8_expression.data.toList.drop 0 = dktX8_expression_0 := by decide +kernel
theorem dksX8_expression_1 : cX8_expression.data.toList.drop 24 = dktX8_expression_1 := dk_seg dksX8_expression_0 24 rfl rfl
theorem dksX8_expression_2 : cX8_expression.data.toList.drop 48 = dktX8_expression_2 := dk_seg dksX8_expression_1 24 rfl rfl
theorem dksX8_expression_3 : cX8_expression.data.toList.drop 72 = dktX8_expression_3 := dk_seg dksX8_expression_2 24 rfl rfl
theorem dksX8_expression_4 : cX8_expression.data.toList.drop 96 = dktX8_expression_4 := dk_seg dksX8_expression_3 24 rfl rfl
theorem dksX8_expression_5 : cX8_expression.data.toList.drop 120 = dktX8_expression_5 := dk_seg dksX8_expression_4 24 rfl rfl
theorem dksX8_expression_6 : cX8_expression.data.toList.drop 142 = dktX8_expression_6 := dk_seg dksX8_expression_5 22 rfl rfl
theorem dksX8_expression_7 : cX8_expression.data.toList.drop 166 = dktX8_expression_7 := dk_seg dksX8_expression_6 24 rfl rfl
theorem dksX8_expression_8 : cX8_expression.data.toList.drop 188 = dktX8_expression_8 := dk_seg dksX8_expression_7 22 rfl rfl
theorem dksX8_expression_9 : cX8_expression.data.toList.drop 212 = dktX8_expression_9 := dk_seg dksX8_expression_8 24 rfl rfl
theorem dksX8_expression_10 : cX8_expression.data.toList.drop 234 = dktX8_expression_10 := dk_seg dksX8_expression_9 22 rfl rfl
theorem dksX8_expression_11 : cX8_expression.data.toList.drop 257 = dktX8_expression_11 := dk_seg dksX8_expression_10 23 rfl rfl
theorem dX8_expression_0 : decode cX8_expression 0 = .ok (.aload_n 0, 1) := dk_42 (dk_at dksX8_expression_0 0 rfl rfl)
theorem dX8_expression_1 : decode cX8_expression 1 = .ok (.iconst 0, 1) := dk_3 (dk_at dksX8_expression_0 1 rfl rfl)
theorem dX8_expression_2 : decode cX8_expression 2 = .ok (.putfield 360, 3) := dk_181 1 104 (dk_at dksX8_expression_0 2 rfl rfl)
theorem dX8_expression_5 : decode cX8_expression 5 = .ok (.aload_n 0, 1) := dk_42 (dk_at dksX8_expression_0 5 rfl rfl)
theorem dX8_expression_6 : decode cX8_expression 6 = .ok (.getfield 275, 3) := dk_180 1 19 (dk_at dksX8_expression_0 6 rfl rfl)
theorem dX8_expression_9 : decode cX8_expression 9 = .ok (.istore_n 1, 1) := dk_60 (dk_at dksX8_expression_0 9 rfl rfl)
theorem dX8_expression_10 : decode cX8_expression 10 = .ok (.iconst 1, 1) := dk_4 (dk_at dksX8_expression_0 10 rfl rfl)
theorem dX8_expression_11 : decode cX8_expression 11 = .ok (.istore_n 2, 1) := dk_61 (dk_at dksX8_expression_0 11 rfl rfl)
theorem dX8_expression_12 : decode cX8_expression 12 = .ok (.iload_n 2, 1) := dk_28 (dk_at dksX8_expression_0 12 rfl rfl)
theorem dX8_expression_13 : decode cX8_expression 13 = .ok (.ifCond .eq 259, 3) := dk_153 1 3 (dk_at dksX8_expression_0 13 rfl rfl)
theorem dX8_expression_16 : decode cX8_expression 16 = .ok (.aload_n 0, 1) := dk_42 (dk_at dksX8_expression_0 16 rfl rfl)
theorem dX8_expression_17 : decode cX8_expression 17 = .ok (.getfield 248, 3) := dk_180 0 248 (dk_at dksX8_expression_0 17 rfl rfl)
theorem dX8_expression_20 : decode cX8_expression 20 = .ok (.ifCond .ne 252, 3) := dk_154 0 252 (dk_at dksX8_expression_0 20 rfl rfl)
theorem dX8_expression_23 : decode cX8_expression 23 = .ok (.aload_n 0, 1) := dk_42 (dk_at dksX8_expression_0 23 rfl rfl)
theorem dX8_expression_24 : decode cX8_expression 24 = .ok (.bipush 6, 2) := dk_16 6 (dk_at dksX8_expression_1 0 rfl rfl)
theorem dX8_expression_26 : decode cX8_expression 26 = .ok (.invokevirtual 266, 3) := dk_182 1 10 (dk_at dksX8_expression_1 2 rfl rfl)
theorem dX8_expression_29 : decode cX8_expression 29 = .ok (.ifCond .eq 55, 3) := dk_153 0 55 (dk_at dksX8_expression_1 5 rfl rfl)
theorem dX8_expression_32 : decode cX8_expression 32 = .ok (.aload_n 0, 1) := dk_42 (dk_at dksX8_expression_1 8 rfl rfl)
theorem dX8_expression_33 : decode cX8_expression 33 = .ok (.getfield 275, 3) := dk_180 1 19 (dk_at dksX8_expression_1 9 rfl rfl)
theorem dX8_expression_36 : decode cX8_expression 36 = .ok (.bipush 6, 2) := dk_16 6 (dk_at dksX8_expression_1 12 rfl rfl)
theorem dX8_expression_38 : decode cX8_expression 38 = .ok (.if_icmp .ne 8, 3) := dk_160 0 8 (dk_at dksX8_expression_1 14 rfl rfl)
theorem dX8_expression_41 : decode cX8_expression 41 = .ok (.aload_n 0, 1) := dk_42 (dk_at dksX8_expression_1 17 rfl rfl)
theorem dX8_expression_42 : decode cX8_expression 42 = .ok (.iconst 2, 1) := dk_5 (dk_at dksX8_expression_1 18 rfl rfl)
theorem dX8_expression_43 : decode cX8_expression 43 = .ok (.invokevirtual 263, 3) := dk_182 1 7 (dk_at dksX8_expression_1 19 rfl rfl)
theorem dX8_expression_46 : decode cX8_expression 46 = .ok (.aload_n 0, 1) := dk_42 (dk_at dksX8_expression_1 22 rfl rfl)
theorem dX8_expression_47 : decode cX8_expression 47 = .ok (.dup, 1) := dk_89 (dk_at dksX8_expression_1 23 rfl rfl)
theorem dX8_expression_48 : decode cX8_expression 48 = .ok (.getfield 275, 3) := dk_180 1 19 (dk_at dksX8_expression_2 0 rfl rfl)
theorem dX8_expression_51 : decode cX8_expression 51 = .ok (.iconst 1, 1) := dk_4 (dk_at dksX8_expression_2 3 rfl rfl)
theorem dX8_expression_52 : decode cX8_expression 52 = .ok (.iadd, 1) := dk_96 (dk_at dksX8_expression_2 4 rfl rfl)
theorem dX8_expression_53 : decode cX8_expression 53 = .ok (.putfield 275, 3) := dk_181 1 19 (dk_at dksX8_expression_2 5 rfl rfl)
theorem dX8_expression_56 : decode cX8_expression 56 = .ok (.aload_n 0, 1) := dk_42 (dk_at dksX8_expression_2 8 rfl rfl)
theorem dX8_expression_57 : decode cX8_expression 57 = .ok (.invokevirtual 269, 3) := dk_182 1 13 (dk_at dksX8_expression_2 9 rfl rfl)
theorem dX8_expression_60 : decode cX8_expression 60 = .ok (.aload_n 0, 1) := dk_42 (dk_at dksX8_expression_2 12 rfl rfl)
theorem dX8_expression_61 : decode cX8_expression 61 = .ok (.getfield 149, 3) := dk_180 0 149 (dk_at dksX8_expression_2 13 rfl rfl)
theorem dX8_expression_64 : decode cX8_expression 64 = .ok (.aload_n 0, 1) := dk_42 (dk_at dksX8_expression_2 16 rfl rfl)
theorem dX8_expression_65 : decode cX8_expression 65 = .ok (.getfield 360, 3) := dk_180 1 104 (dk_at dksX8_expression_2 17 rfl rfl)
theorem dX8_expression_68 : decode cX8_expression 68 = .ok (.bipush 6, 2) := dk_16 6 (dk_at dksX8_expression_2 20 rfl rfl)
theorem dX8_expression_70 : decode cX8_expression 70 = .ok (.iastore, 1) := dk_79 (dk_at dksX8_expression_2 22 rfl rfl)
theorem dX8_expression_71 : decode cX8_expression 71 = .ok (.aload_n 0, 1) := dk_42 (dk_at dksX8_expression_2 23 rfl rfl)
theorem dX8_expression_72 : decode cX8_expression 72 = .ok (.dup, 1) := dk_89 (dk_at dksX8_expression_3 0 rfl rfl)
theorem dX8_expression_73 : decode cX8_expression 73 = .ok (.getfield 360, 3) := dk_180 1 104 (dk_at dksX8_expression_3 1 rfl rfl)
theorem dX8_expression_76 : decode cX8_expression 76 = .ok (.iconst 1, 1) := dk_4 (dk_at dksX8_expression_3 4 rfl rfl)
theorem dX8_expression_77 : decode cX8_expression 77 = .ok (.iadd, 1) := dk_96 (dk_at dksX8_expression_3 5 rfl rfl)
theorem dX8_expression_78 : decode cX8_expression 78 = .ok (.putfield 360, 3) := dk_181 1 104 (dk_at dksX8_expression_3 6 rfl rfl)
theorem dX8_expression_81 : decode cX8_expression 81 = .ok (.goto (-58), 3) := dk_167 255 198 (dk_at dksX8_expression_3 9 rfl rfl)
theorem dX8_expression_84 : decode cX8_expression 84 = .ok (.aload_n 0, 1) := dk_42 (dk_at dksX8_expression_3 12 rfl rfl)
theorem dX8_expression_85 : decode cX8_expression 85 = .ok (.invokevirtual 366, 3) := dk_182 1 110 (dk_at dksX8_expression_3 13 rfl rfl)
theorem dX8_expression_88 : decode cX8_expression 88 = .ok (.aload_n 0, 1) := dk_42 (dk_at dksX8_expression_3 16 rfl rfl)
theorem dX8_expression_89 : decode cX8_expression 89 = .ok (.getfield 248, 3) := dk_180 0 248 (dk_at dksX8_expression_3 17 rfl rfl)
theorem dX8_expression_92 : decode cX8_expression 92 = .ok (.ifCond .le 4, 3) := dk_158 0 4 (dk_at dksX8_expression_3 20 rfl rfl)
theorem dX8_expression_95 : decode cX8_expression 95 = .ok (.return_, 1) := dk_177 (dk_at dksX8_expression_3 23 rfl rfl)
theorem dX8_expression_96 : decode cX8_expression 96 = .ok (.aload_n 0, 1) := dk_42 (dk_at dksX8_expression_4 0 rfl rfl)
theorem dX8_expression_97 : decode cX8_expression 97 = .ok (.bipush 7, 2) := dk_16 7 (dk_at dksX8_expression_4 1 rfl rfl)
theorem dX8_expression_99 : decode cX8_expression 99 = .ok (.invokevirtual 266, 3) := dk_182 1 10 (dk_at dksX8_expression_4 3 rfl rfl)
theorem dX8_expression_102 : decode cX8_expression 102 = .ok (.ifCond .eq 43, 3) := dk_153 0 43 (dk_at dksX8_expression_4 6 rfl rfl)
theorem dX8_expression_105 : decode cX8_expression 105 = .ok (.aload_n 0, 1) := dk_42 (dk_at dksX8_expression_4 9 rfl rfl)
theorem dX8_expression_106 : decode cX8_expression 106 = .ok (.getfield 275, 3) := dk_180 1 19 (dk_at dksX8_expression_4 10 rfl rfl)
theorem dX8_expression_109 : decode cX8_expression 109 = .ok (.iload_n 1, 1) := dk_27 (dk_at dksX8_expression_4 13 rfl rfl)
theorem dX8_expression_110 : decode cX8_expression 110 = .ok (.if_icmp .le 35, 3) := dk_164 0 35 (dk_at dksX8_expression_4 14 rfl rfl)
theorem dX8_expression_113 : decode cX8_expression 113 = .ok (.aload_n 0, 1) := dk_42 (dk_at dksX8_expression_4 17 rfl rfl)
theorem dX8_expression_114 : decode cX8_expression 114 = .ok (.iconst 0, 1) := dk_3 (dk_at dksX8_expression_4 18 rfl rfl)
theorem dX8_expression_115 : decode cX8_expression 115 = .ok (.invokevirtual 369, 3) := dk_182 1 113 (dk_at dksX8_expression_4 19 rfl rfl)
theorem dX8_expression_118 : decode cX8_expression 118 = .ok (.aload_n 0, 1) := dk_42 (dk_at dksX8_expression_4 22 rfl rfl)
theorem dX8_expression_119 : decode cX8_expression 119 = .ok (.dup, 1) := dk_89 (dk_at dksX8_expression_4 23 rfl rfl)
theorem dX8_expression_120 : decode cX8_expression 120 = .ok (.getfield 360, 3) := dk_180 1 104 (dk_at dksX8_expression_5 0 rfl rfl)
theorem dX8_expression_123 : decode cX8_expression 123 = .ok (.iconst 1, 1) := dk_4 (dk_at dksX8_expression_5 3 rfl rfl)
theorem dX8_expression_124 : decode cX8_expression 124 = .ok (.isub, 1) := dk_100 (dk_at dksX8_expression_5 4 rfl rfl)
theorem dX8_expression_125 : decode cX8_expression 125 = .ok (.putfield 360, 3) := dk_181 1 104 (dk_at dksX8_expression_5 5 rfl rfl)
theorem dX8_expression_128 : decode cX8_expression 128 = .ok (.aload_n 0, 1) := dk_42 (dk_at dksX8_expression_5 8 rfl rfl)
theorem dX8_expression_129 : decode cX8_expression 129 = .ok (.dup, 1) := dk_89 (dk_at dksX8_expression_5 9 rfl rfl)
theorem dX8_expression_130 : decode cX8_expression 130 = .ok (.getfield 275, 3) := dk_180 1 19 (dk_at dksX8_expression_5 10 rfl rfl)
theorem dX8_expression_133 : decode cX8_expression 133 = .ok (.iconst 1, 1) := dk_4 (dk_at dksX8_expression_5 13 rfl rfl)
theorem dX8_expression_134 : decode cX8_expression 134 = .ok (.isub, 1) := dk_100 (dk_at dksX8_expression_5 14 rfl rfl)
theorem dX8_expression_135 : decode cX8_expression 135 = .ok (.putfield 275, 3) := dk_181 1 19 (dk_at dksX8_expression_5 15 rfl rfl)
theorem dX8_expression_138 : decode cX8_expression 138 = .ok (.aload_n 0, 1) := dk_42 (dk_at dksX8_expression_5 18 rfl rfl)
theorem dX8_expression_139 : decode cX8_expression 139 = .ok (.invokevirtual 269, 3) := dk_182 1 13 (dk_at dksX8_expression_5 19 rfl rfl)
theorem dX8_expression_142 : decode cX8_expression 142 = .ok (.goto (-46), 3) := dk_167 255 210 (dk_at dksX8_expression_6 0 rfl rfl)
theorem dX8_expression_145 : decode cX8_expression 145 = .ok (.aload_n 0, 1) := dk_42 (dk_at dksX8_expression_6 3 rfl rfl)
theorem dX8_expression_146 : decode cX8_expression 146 = .ok (.bipush 8, 2) := dk_16 8 (dk_at dksX8_expression_6 4 rfl rfl)
theorem dX8_expression_148 : decode cX8_expression 148 = .ok (.invokevirtual 266, 3) := dk_182 1 10 (dk_at dksX8_expression_6 6 rfl rfl)
theorem dX8_expression_151 : decode cX8_expression 151 = .ok (.ifCond .ne 30, 3) := dk_154 0 30 (dk_at dksX8_expression_6 9 rfl rfl)
theorem dX8_expression_154 : decode cX8_expression 154 = .ok (.aload_n 0, 1) := dk_42 (dk_at dksX8_expression_6 12 rfl rfl)
theorem dX8_expression_155 : decode cX8_expression 155 = .ok (.bipush 9, 2) := dk_16 9 (dk_at dksX8_expression_6 13 rfl rfl)
theorem dX8_expression_157 : decode cX8_expression 157 = .ok (.invokevirtual 266, 3) := dk_182 1 10 (dk_at dksX8_expression_6 15 rfl rfl)
theorem dX8_expression_160 : decode cX8_expression 160 = .ok (.ifCond .ne 21, 3) := dk_154 0 21 (dk_at dksX8_expression_6 18 rfl rfl)
theorem dX8_expression_163 : decode cX8_expression 163 = .ok (.aload_n 0, 1) := dk_42 (dk_at dksX8_expression_6 21 rfl rfl)
theorem dX8_expression_164 : decode cX8_expression 164 = .ok (.bipush 10, 2) := dk_16 10 (dk_at dksX8_expression_6 22 rfl rfl)
theorem dX8_expression_166 : decode cX8_expression 166 = .ok (.invokevirtual 266, 3) := dk_182 1 10 (dk_at dksX8_expression_7 0 rfl rfl)
theorem dX8_expression_169 : decode cX8_expression 169 = .ok (.ifCond .ne 12, 3) := dk_154 0 12 (dk_at dksX8_expression_7 3 rfl rfl)
theorem dX8_expression_172 : decode cX8_expression 172 = .ok (.aload_n 0, 1) := dk_42 (dk_at dksX8_expression_7 6 rfl rfl)
theorem dX8_expression_173 : decode cX8_expression 173 = .ok (.bipush 15, 2) := dk_16 15 (dk_at dksX8_expression_7 7 rfl rfl)
theorem dX8_expression_175 : decode cX8_expression 175 = .ok (.invokevirtual 266, 3) := dk_182 1 10 (dk_at dksX8_expression_7 9 rfl rfl)
theorem dX8_expression_178 : decode cX8_expression 178 = .ok (.ifCond .eq 7, 3) := dk_153 0 7 (dk_at dksX8_expression_7 12 rfl rfl)
theorem dX8_expression_181 : decode cX8_expression 181 = .ok (.iconst 1, 1) := dk_4 (dk_at dksX8_expression_7 15 rfl rfl)
theorem dX8_expression_182 : decode cX8_expression 182 = .ok (.goto 4, 3) := dk_167 0 4 (dk_at dksX8_expression_7 16 rfl rfl)
theorem dX8_expression_185 : decode cX8_expression 185 = .ok (.iconst 0, 1) := dk_3 (dk_at dksX8_expression_7 19 rfl rfl)
theorem dX8_expression_186 : decode cX8_expression 186 = .ok (.istore_n 2, 1) := dk_61 (dk_at dksX8_expression_7 20 rfl rfl)
theorem dX8_expression_187 : decode cX8_expression 187 = .ok (.iload_n 2, 1) := dk_28 (dk_at dksX8_expression_7 21 rfl rfl)
theorem dX8_expression_188 : decode cX8_expression 188 = .ok (.ifCond .ne 22, 3) := dk_154 0 22 (dk_at dksX8_expression_8 0 rfl rfl)
theorem dX8_expression_191 : decode cX8_expression 191 = .ok (.aload_n 0, 1) := dk_42 (dk_at dksX8_expression_8 3 rfl rfl)
theorem dX8_expression_192 : decode cX8_expression 192 = .ok (.getfield 275, 3) := dk_180 1 19 (dk_at dksX8_expression_8 4 rfl rfl)
theorem dX8_expression_195 : decode cX8_expression 195 = .ok (.iload_n 1, 1) := dk_27 (dk_at dksX8_expression_8 7 rfl rfl)
theorem dX8_expression_196 : decode cX8_expression 196 = .ok (.if_icmp .le 8, 3) := dk_164 0 8 (dk_at dksX8_expression_8 8 rfl rfl)
theorem dX8_expression_199 : decode cX8_expression 199 = .ok (.aload_n 0, 1) := dk_42 (dk_at dksX8_expression_8 11 rfl rfl)
theorem dX8_expression_200 : decode cX8_expression 200 = .ok (.iconst 1, 1) := dk_4 (dk_at dksX8_expression_8 12 rfl rfl)
theorem dX8_expression_201 : decode cX8_expression 201 = .ok (.invokevirtual 263, 3) := dk_182 1 7 (dk_at dksX8_expression_8 13 rfl rfl)
theorem dX8_expression_204 : decode cX8_expression 204 = .ok (.aload_n 0, 1) := dk_42 (dk_at dksX8_expression_8 16 rfl rfl)
theorem dX8_expression_205 : decode cX8_expression 205 = .ok (.iconst 0, 1) := dk_3 (dk_at dksX8_expression_8 17 rfl rfl)
theorem dX8_expression_206 : decode cX8_expression 206 = .ok (.invokevirtual 369, 3) := dk_182 1 113 (dk_at dksX8_expression_8 18 rfl rfl)
theorem dX8_expression_209 : decode cX8_expression 209 = .ok (.return_, 1) := dk_177 (dk_at dksX8_expression_8 21 rfl rfl)
theorem dX8_expression_210 : decode cX8_expression 210 = .ok (.aload_n 0, 1) := dk_42 (dk_at dksX8_expression_8 22 rfl rfl)
theorem dX8_expression_211 : decode cX8_expression 211 = .ok (.aload_n 0, 1) := dk_42 (dk_at dksX8_expression_8 23 rfl rfl)
theorem dX8_expression_212 : decode cX8_expression 212 = .ok (.bipush 10, 2) := dk_16 10 (dk_at dksX8_expression_9 0 rfl rfl)
theorem dX8_expression_214 : decode cX8_expression 214 = .ok (.invokevirtual 266, 3) := dk_182 1 10 (dk_at dksX8_expression_9 2 rfl rfl)
theorem dX8_expression_217 : decode cX8_expression 217 = .ok (.ifCond .ne 12, 3) := dk_154 0 12 (dk_at dksX8_expression_9 5 rfl rfl)
theorem dX8_expression_220 : decode cX8_expression 220 = .ok (.aload_n 0, 1) := dk_42 (dk_at dksX8_expression_9 8 rfl rfl)
theorem dX8_expression_221 : decode cX8_expression 221 = .ok (.bipush 15, 2) := dk_16 15 (dk_at dksX8_expression_9 9 rfl rfl)
theorem dX8_expression_223 : decode cX8_expression 223 = .ok (.invokevirtual 266, 3) := dk_182 1 10 (dk_at dksX8_expression_9 11 rfl rfl)
theorem dX8_expression_226 : decode cX8_expression 226 = .ok (.ifCond .eq 7, 3) := dk_153 0 7 (dk_at dksX8_expression_9 14 rfl rfl)
theorem dX8_expression_229 : decode cX8_expression 229 = .ok (.iconst 1, 1) := dk_4 (dk_at dksX8_expression_9 17 rfl rfl)
theorem dX8_expression_230 : decode cX8_expression 230 = .ok (.goto 4, 3) := dk_167 0 4 (dk_at dksX8_expression_9 18 rfl rfl)
theorem dX8_expression_233 : decode cX8_expression 233 = .ok (.iconst 0, 1) := dk_3 (dk_at dksX8_expression_9 21 rfl rfl)
theorem dX8_expression_234 : decode cX8_expression 234 = .ok (.invokevirtual 369, 3) := dk_182 1 113 (dk_at dksX8_expression_10 0 rfl rfl)
theorem dX8_expression_237 : decode cX8_expression 237 = .ok (.aload_n 0, 1) := dk_42 (dk_at dksX8_expression_10 3 rfl rfl)
theorem dX8_expression_238 : decode cX8_expression 238 = .ok (.getfield 149, 3) := dk_180 0 149 (dk_at dksX8_expression_10 4 rfl rfl)
theorem dX8_expression_241 : decode cX8_expression 241 = .ok (.aload_n 0, 1) := dk_42 (dk_at dksX8_expression_10 7 rfl rfl)
theorem dX8_expression_242 : decode cX8_expression 242 = .ok (.getfield 360, 3) := dk_180 1 104 (dk_at dksX8_expression_10 8 rfl rfl)
theorem dX8_expression_245 : decode cX8_expression 245 = .ok (.aload_n 0, 1) := dk_42 (dk_at dksX8_expression_10 11 rfl rfl)
theorem dX8_expression_246 : decode cX8_expression 246 = .ok (.getfield 20, 3) := dk_180 0 20 (dk_at dksX8_expression_10 12 rfl rfl)
theorem dX8_expression_249 : decode cX8_expression 249 = .ok (.aload_n 0, 1) := dk_42 (dk_at dksX8_expression_10 15 rfl rfl)
theorem dX8_expression_250 : decode cX8_expression 250 = .ok (.getfield 251, 3) := dk_180 0 251 (dk_at dksX8_expression_10 16 rfl rfl)
theorem dX8_expression_253 : decode cX8_expression 253 = .ok (.iaload, 1) := dk_46 (dk_at dksX8_expression_10 19 rfl rfl)
theorem dX8_expression_254 : decode cX8_expression 254 = .ok (.iastore, 1) := dk_79 (dk_at dksX8_expression_10 20 rfl rfl)
theorem dX8_expression_255 : decode cX8_expression 255 = .ok (.aload_n 0, 1) := dk_42 (dk_at dksX8_expression_10 21 rfl rfl)
theorem dX8_expression_256 : decode cX8_expression 256 = .ok (.dup, 1) := dk_89 (dk_at dksX8_expression_10 22 rfl rfl)
theorem dX8_expression_257 : decode cX8_expression 257 = .ok (.getfield 360, 3) := dk_180 1 104 (dk_at dksX8_expression_11 0 rfl rfl)
theorem dX8_expression_260 : decode cX8_expression 260 = .ok (.iconst 1, 1) := dk_4 (dk_at dksX8_expression_11 3 rfl rfl)
theorem dX8_expression_261 : decode cX8_expression 261 = .ok (.iadd, 1) := dk_96 (dk_at dksX8_expression_11 4 rfl rfl)
theorem dX8_expression_262 : decode cX8_expression 262 = .ok (.putfield 360, 3) := dk_181 1 104 (dk_at dksX8_expression_11 5 rfl rfl)
theorem dX8_expression_265 : decode cX8_expression 265 = .ok (.aload_n 0, 1) := dk_42 (dk_at dksX8_expression_11 8 rfl rfl)
theorem dX8_expression_266 : decode cX8_expression 266 = .ok (.invokevirtual 269, 3) := dk_182 1 13 (dk_at dksX8_expression_11 9 rfl rfl)
theorem dX8_expression_269 : decode cX8_expression 269 = .ok (.goto (-257), 3) := dk_167 254 255 (dk_at dksX8_expression_11 12 rfl rfl)
theorem dX8_expression_272 : decode cX8_expression 272 = .ok (.return_, 1) := dk_177 (dk_at dksX8_expression_11 15 rfl rfl)
abbrev cX8_unit : ByteArray := prog_22_method_39_code
def yX8_unit : MethodName := ⟨RX8, "unit", "()V"⟩
def dkwX8_unit_3 : List UInt8 := [180, 0, 251, 46, 16, 35, 100, 182, 1, 107, 42, 182, 1, 13, 167, 0, 8, 42, 4, 182, 1, 7, 177]
abbrev dktX8_unit_3 : List UInt8 := dkwX8_unit_3 ++ []
def dkwX8_unit_2 : List UInt8 := [161, 0, 41, 42, 180, 0, 20, 42, 180, 0, 251, 46, 16, 40, 163, 0, 27, 42, 4, 42, 180, 0, 20, 42]
abbrev dktX8_unit_2 : List UInt8 := dkwX8_unit_2 ++ dktX8_unit_3
def dkwX8_unit_1 : List UInt8 := [182, 1, 13, 167, 0, 67, 42, 180, 0, 248, 154, 0, 55, 42, 180, 0, 20, 42, 180, 0, 251, 46, 16, 35]
abbrev dktX8_unit_1 : List UInt8 := dkwX8_unit_1 ++ dktX8_unit_2
def dkwX8_unit_0 : List UInt8 := [42, 5, 182, 1, 10, 153, 0, 24, 42, 3, 42, 180, 0, 27, 42, 180, 0, 251, 46, 182, 1, 107, 42]
abbrev dktX8_unit_0 : List UInt8 := dkwX8_unit_0 ++ dktX8_unit_1
theorem dksX8_unit_0 : cX8_unit.data.toList.drop 0 = dktX8_unit_0 := by decide +kernel
theorem dksX8_unit_1 : cX8_unit.data.toList.drop 23 = dktX8_unit_1 := dk_seg dksX8_unit_0 23 rfl rfl
theorem dksX8_unit_2 : cX8_unit.data.toList.drop 47 = dktX8_unit_2 := dk_seg dksX8_unit_1 24 rfl rfl
theorem dksX8_unit_3 : cX8_unit.data.toList.drop 71 = dktX8_unit_3 := dk_seg dksX8_unit_2 24 rfl rfl
theorem dX8_unit_0 : decode cX8_unit 0 = .ok (.aload_n 0, 1) := dk_42 (dk_at dksX8_unit_0 0 rfl rfl)
theorem dX8_unit_1 : decode cX8_unit 1 = .ok (.iconst 2, 1) := dk_5 (dk_at dksX8_unit_0 1 rfl rfl)
theorem dX8_unit_2 : decode cX8_unit 2 = .ok (.invokevirtual 266, 3) := dk_182 1 10 (dk_at dksX8_unit_0 2 rfl rfl)
theorem dX8_unit_5 : decode cX8_unit 5 = .ok (.ifCond .eq 24, 3) := dk_153 0 24 (dk_at dksX8_unit_0 5 rfl rfl)
theorem dX8_unit_8 : decode cX8_unit 8 = .ok (.aload_n 0, 1) := dk_42 (dk_at dksX8_unit_0 8 rfl rfl)
theorem dX8_unit_9 : decode cX8_unit 9 = .ok (.iconst 0, 1) := dk_3 (dk_at dksX8_unit_0 9 rfl rfl)
theorem dX8_unit_10 : decode cX8_unit 10 = .ok (.aload_n 0, 1) := dk_42 (dk_at dksX8_unit_0 10 rfl rfl)
theorem dX8_unit_11 : decode cX8_unit 11 = .ok (.getfield 27, 3) := dk_180 0 27 (dk_at dksX8_unit_0 11 rfl rfl)
theorem dX8_unit_14 : decode cX8_unit 14 = .ok (.aload_n 0, 1) := dk_42 (dk_at dksX8_unit_0 14 rfl rfl)
theorem dX8_unit_15 : decode cX8_unit 15 = .ok (.getfield 251, 3) := dk_180 0 251 (dk_at dksX8_unit_0 15 rfl rfl)
theorem dX8_unit_18 : decode cX8_unit 18 = .ok (.iaload, 1) := dk_46 (dk_at dksX8_unit_0 18 rfl rfl)
theorem dX8_unit_19 : decode cX8_unit 19 = .ok (.invokevirtual 363, 3) := dk_182 1 107 (dk_at dksX8_unit_0 19 rfl rfl)
theorem dX8_unit_22 : decode cX8_unit 22 = .ok (.aload_n 0, 1) := dk_42 (dk_at dksX8_unit_0 22 rfl rfl)
theorem dX8_unit_23 : decode cX8_unit 23 = .ok (.invokevirtual 269, 3) := dk_182 1 13 (dk_at dksX8_unit_1 0 rfl rfl)
theorem dX8_unit_26 : decode cX8_unit 26 = .ok (.goto 67, 3) := dk_167 0 67 (dk_at dksX8_unit_1 3 rfl rfl)
theorem dX8_unit_29 : decode cX8_unit 29 = .ok (.aload_n 0, 1) := dk_42 (dk_at dksX8_unit_1 6 rfl rfl)
theorem dX8_unit_30 : decode cX8_unit 30 = .ok (.getfield 248, 3) := dk_180 0 248 (dk_at dksX8_unit_1 7 rfl rfl)
theorem dX8_unit_33 : decode cX8_unit 33 = .ok (.ifCond .ne 55, 3) := dk_154 0 55 (dk_at dksX8_unit_1 10 rfl rfl)
theorem dX8_unit_36 : decode cX8_unit 36 = .ok (.aload_n 0, 1) := dk_42 (dk_at dksX8_unit_1 13 rfl rfl)
theorem dX8_unit_37 : decode cX8_unit 37 = .ok (.getfield 20, 3) := dk_180 0 20 (dk_at dksX8_unit_1 14 rfl rfl)
theorem dX8_unit_40 : decode cX8_unit 40 = .ok (.aload_n 0, 1) := dk_42 (dk_at dksX8_unit_1 17 rfl rfl)
theorem dX8_unit_41 : decode cX8_unit 41 = .ok (.getfield 251, 3) := dk_180 0 251 (dk_at dksX8_unit_1 18 rfl rfl)
theorem dX8_unit_44 : decode cX8_unit 44 = .ok (.iaload, 1) := dk_46 (dk_at dksX8_unit_1 21 rfl rfl)
theorem dX8_unit_45 : decode cX8_unit 45 = .ok (.bipush 35, 2) := dk_16 35 (dk_at dksX8_unit_1 22 rfl rfl)
theorem dX8_unit_47 : decode cX8_unit 47 = .ok (.if_icmp .lt 41, 3) := dk_161 0 41 (dk_at dksX8_unit_2 0 rfl rfl)
theorem dX8_unit_50 : decode cX8_unit 50 = .ok (.aload_n 0, 1) := dk_42 (dk_at dksX8_unit_2 3 rfl rfl)
theorem dX8_unit_51 : decode cX8_unit 51 = .ok (.getfield 20, 3) := dk_180 0 20 (dk_at dksX8_unit_2 4 rfl rfl)
theorem dX8_unit_54 : decode cX8_unit 54 = .ok (.aload_n 0, 1) := dk_42 (dk_at dksX8_unit_2 7 rfl rfl)
theorem dX8_unit_55 : decode cX8_unit 55 = .ok (.getfield 251, 3) := dk_180 0 251 (dk_at dksX8_unit_2 8 rfl rfl)
theorem dX8_unit_58 : decode cX8_unit 58 = .ok (.iaload, 1) := dk_46 (dk_at dksX8_unit_2 11 rfl rfl)
theorem dX8_unit_59 : decode cX8_unit 59 = .ok (.bipush 40, 2) := dk_16 40 (dk_at dksX8_unit_2 12 rfl rfl)
theorem dX8_unit_61 : decode cX8_unit 61 = .ok (.if_icmp .gt 27, 3) := dk_163 0 27 (dk_at dksX8_unit_2 14 rfl rfl)
theorem dX8_unit_64 : decode cX8_unit 64 = .ok (.aload_n 0, 1) := dk_42 (dk_at dksX8_unit_2 17 rfl rfl)
theorem dX8_unit_65 : decode cX8_unit 65 = .ok (.iconst 1, 1) := dk_4 (dk_at dksX8_unit_2 18 rfl rfl)
theorem dX8_unit_66 : decode cX8_unit 66 = .ok (.aload_n 0, 1) := dk_42 (dk_at dksX8_unit_2 19 rfl rfl)
theorem dX8_unit_67 : decode cX8_unit 67 = .ok (.getfield 20, 3) := dk_180 0 20 (dk_at dksX8_unit_2 20 rfl rfl)
theorem dX8_unit_70 : decode cX8_unit 70 = .ok (.aload_n 0, 1) := dk_42 (dk_at dksX8_unit_2 23 rfl rfl)
theorem dX8_unit_71 : decode cX8_unit 71 = .ok (.getfield 251, 3) := dk_180 0 251 (dk_at dksX8_unit_3 0 rfl rfl)
theorem dX8_unit_74 : decode cX8_unit 74 = .ok (.iaload, 1) := dk_46 (dk_at dksX8_unit_3 3 rfl rfl)
theorem dX8_unit_75 : decode cX8_unit 75 = .ok (.bipush 35, 2) := dk_16 35 (dk_at dksX8_unit_3 4 rfl rfl)
theorem dX8_unit_77 : decode cX8_unit 77 = .ok (.isub, 1) := dk_100 (dk_at dksX8_unit_3 6 rfl rfl)
theorem dX8_unit_78 : decode cX8_unit 78 = .ok (.invokevirtual 363, 3) := dk_182 1 107 (dk_at dksX8_unit_3 7 rfl rfl)
theorem dX8_unit_81 : decode cX8_unit 81 = .ok (.aload_n 0, 1) := dk_42 (dk_at dksX8_unit_3 10 rfl rfl)
theorem dX8_unit_82 : decode cX8_unit 82 = .ok (.invokevirtual 269, 3) := dk_182 1 13 (dk_at dksX8_unit_3 11 rfl rfl)
theorem dX8_unit_85 : decode cX8_unit 85 = .ok (.goto 8, 3) := dk_167 0 8 (dk_at dksX8_unit_3 14 rfl rfl)
theorem dX8_unit_88 : decode cX8_unit 88 = .ok (.aload_n 0, 1) := dk_42 (dk_at dksX8_unit_3 17 rfl rfl)
theorem dX8_unit_89 : decode cX8_unit 89 = .ok (.iconst 1, 1) := dk_4 (dk_at dksX8_unit_3 18 rfl rfl)
theorem dX8_unit_90 : decode cX8_unit 90 = .ok (.invokevirtual 263, 3) := dk_182 1 7 (dk_at dksX8_unit_3 19 rfl rfl)
theorem dX8_unit_93 : decode cX8_unit 93 = .ok (.return_, 1) := dk_177 (dk_at dksX8_unit_3 22 rfl rfl)
abbrev cX8_emit : ByteArray := prog_22_method_36_code
def yX8_emit : MethodName := ⟨RX8, "emit", "(II)V"⟩
def dkwX8_emit_1 : List UInt8 := [180, 1, 34, 4, 96, 181, 1, 34, 177]
abbrev dktX8_emit_1 : List UInt8 := dkwX8_emit_1 ++ []
def dkwX8_emit_0 : List UInt8 := [42, 180, 0, 143, 42, 180, 1, 34, 27, 79, 42, 180, 0, 146, 42, 180, 1, 34, 28, 79, 42, 89]
abbrev dktX8_emit_0 : List UInt8 := dkwX8_emit_0 ++ dktX8_emit_1
theorem dksX8_emit_0 : cX8_emit.data.toList.drop 0 = dktX8_emit_0 := by decide +kernel
theorem dksX8_emit_1 : cX8_emit.data.toList.drop 22 = dktX8_emit_1 := dk_seg dksX8_emit_0 22 rfl rfl
theorem dX8_emit_0 : decode cX8_emit 0 = .ok (.aload_n 0, 1) := dk_42 (dk_at dksX8_emit_0 0 rfl rfl)
theorem dX8_emit_1 : decode cX8_emit 1 = .ok (.getfield 143, 3) := dk_180 0 143 (dk_at dksX8_emit_0 1 rfl rfl)
theorem dX8_emit_4 : decode cX8_emit 4 = .ok (.aload_n 0, 1) := dk_42 (dk_at dksX8_emit_0 4 rfl rfl)
theorem dX8_emit_5 : decode cX8_emit 5 = .ok (.getfield 290, 3) := dk_180 1 34 (dk_at dksX8_emit_0 5 rfl rfl)
theorem dX8_emit_8 : decode cX8_emit 8 = .ok (.iload_n 1, 1) := dk_27 (dk_at dksX8_emit_0 8 rfl rfl)
theorem dX8_emit_9 : decode cX8_emit 9 = .ok (.iastore, 1) := dk_79 (dk_at dksX8_emit_0 9 rfl rfl)
theorem dX8_emit_10 : decode cX8_emit 10 = .ok (.aload_n 0, 1) := dk_42 (dk_at dksX8_emit_0 10 rfl rfl)
theorem dX8_emit_11 : decode cX8_emit 11 = .ok (.getfield 146, 3) := dk_180 0 146 (dk_at dksX8_emit_0 11 rfl rfl)
theorem dX8_emit_14 : decode cX8_emit 14 = .ok (.aload_n 0, 1) := dk_42 (dk_at dksX8_emit_0 14 rfl rfl)
theorem dX8_emit_15 : decode cX8_emit 15 = .ok (.getfield 290, 3) := dk_180 1 34 (dk_at dksX8_emit_0 15 rfl rfl)
theorem dX8_emit_18 : decode cX8_emit 18 = .ok (.iload_n 2, 1) := dk_28 (dk_at dksX8_emit_0 18 rfl rfl)
theorem dX8_emit_19 : decode cX8_emit 19 = .ok (.iastore, 1) := dk_79 (dk_at dksX8_emit_0 19 rfl rfl)
theorem dX8_emit_20 : decode cX8_emit 20 = .ok (.aload_n 0, 1) := dk_42 (dk_at dksX8_emit_0 20 rfl rfl)
theorem dX8_emit_21 : decode cX8_emit 21 = .ok (.dup, 1) := dk_89 (dk_at dksX8_emit_0 21 rfl rfl)
theorem dX8_emit_22 : decode cX8_emit 22 = .ok (.getfield 290, 3) := dk_180 1 34 (dk_at dksX8_emit_1 0 rfl rfl)
theorem dX8_emit_25 : decode cX8_emit 25 = .ok (.iconst 1, 1) := dk_4 (dk_at dksX8_emit_1 3 rfl rfl)
theorem dX8_emit_26 : decode cX8_emit 26 = .ok (.iadd, 1) := dk_96 (dk_at dksX8_emit_1 4 rfl rfl)
theorem dX8_emit_27 : decode cX8_emit 27 = .ok (.putfield 290, 3) := dk_181 1 34 (dk_at dksX8_emit_1 5 rfl rfl)
theorem dX8_emit_30 : decode cX8_emit 30 = .ok (.return_, 1) := dk_177 (dk_at dksX8_emit_1 8 rfl rfl)
abbrev cX8_comesOut : ByteArray := prog_22_method_37_code
def yX8_comesOut : MethodName := ⟨RX8, "comesOut", "(Z)V"⟩
def dkwX8_comesOut_4 : List UInt8 := [167, 255, 168, 177]
abbrev dktX8_comesOut_4 : List UInt8 := dkwX8_comesOut_4 ++ []
def dkwX8_comesOut_3 : List UInt8 := [160, 0, 7, 6, 167, 0, 14, 28, 16, 10, 160, 0, 7, 7, 167, 0, 4, 8, 3, 182, 1, 107]
abbrev dktX8_comesOut_3 : List UInt8 := dkwX8_comesOut_3 ++ dktX8_comesOut_4
def dkwX8_comesOut_2 : List UInt8 := [180, 1, 104, 4, 100, 181, 1, 104, 42, 28, 16, 8, 160, 0, 7, 5, 167, 0, 24, 28, 16, 9]
abbrev dktX8_comesOut_2 : List UInt8 := dkwX8_comesOut_2 ++ dktX8_comesOut_3
def dkwX8_comesOut_1 : List UInt8 := [159, 0, 19, 27, 153, 0, 16, 28, 16, 8, 159, 0, 9, 28, 16, 9, 160, 0, 4, 177, 42, 89]
abbrev dktX8_comesOut_1 : List UInt8 := dkwX8_comesOut_1 ++ dktX8_comesOut_2
def dkwX8_comesOut_0 : List UInt8 := [42, 180, 1, 104, 158, 0, 87, 42, 180, 0, 149, 42, 180, 1, 104, 4, 100, 46, 61, 28, 16, 6]
abbrev dktX8_comesOut_0 : List UInt8 := dkwX8_comesOut_0 ++ dktX8_comesOut_1
theorem dksX8_comesOut_0 : cX8_comesOut.data.toList.drop 0 = dktX8_comesOut_0 := by decide +kernel
theorem dksX8_comesOut_1 : cX8_comesOut.data.toList.drop 22 = dktX8_comesOut_1 := dk_seg dksX8_comesOut_0 22 rfl rfl
theorem dksX8_comesOut_2 : cX8_comesOut.data.toList.drop 44 = dktX8_comesOut_2 := dk_seg dksX8_comesOut_1 22 rfl rfl
theorem dksX8_comesOut_3 : cX8_comesOut.data.toList.drop 66 = dktX8_comesOut_3 := dk_seg dksX8_comesOut_2 22 rfl rfl
theorem dksX8_comesOut_4 : cX8_comesOut.data.toList.drop 88 = dktX8_comesOut_4 := dk_seg dksX8_comesOut_3 22 rfl rfl
theorem dX8_comesOut_0 : decode cX8_comesOut 0 = .ok (.aload_n 0, 1) := dk_42 (dk_at dksX8_comesOut_0 0 rfl rfl)
theorem dX8_comesOut_1 : decode cX8_comesOut 1 = .ok (.getfield 360, 3) := dk_180 1 104 (dk_at dksX8_comesOut_0 1 rfl rfl)
theorem dX8_comesOut_4 : decode cX8_comesOut 4 = .ok (.ifCond .le 87, 3) := dk_158 0 87 (dk_at dksX8_comesOut_0 4 rfl rfl)
theorem dX8_comesOut_7 : decode cX8_comesOut 7 = .ok (.aload_n 0, 1) := dk_42 (dk_at dksX8_comesOut_0 7 rfl rfl)
theorem dX8_comesOut_8 : decode cX8_comesOut 8 = .ok (.getfield 149, 3) := dk_180 0 149 (dk_at dksX8_comesOut_0 8 rfl rfl)
theorem dX8_comesOut_11 : decode cX8_comesOut 11 = .ok (.aload_n 0, 1) := dk_42 (dk_at dksX8_comesOut_0 11 rfl rfl)
theorem dX8_comesOut_12 : decode cX8_comesOut 12 = .ok (.getfield 360, 3) := dk_180 1 104 (dk_at dksX8_comesOut_0 12 rfl rfl)
theorem dX8_comesOut_15 : decode cX8_comesOut 15 = .ok (.iconst 1, 1) := dk_4 (dk_at dksX8_comesOut_0 15 rfl rfl)
theorem dX8_comesOut_16 : decode cX8_comesOut 16 = .ok (.isub, 1) := dk_100 (dk_at dksX8_comesOut_0 16 rfl rfl)
theorem dX8_comesOut_17 : decode cX8_comesOut 17 = .ok (.iaload, 1) := dk_46 (dk_at dksX8_comesOut_0 17 rfl rfl)
theorem dX8_comesOut_18 : decode cX8_comesOut 18 = .ok (.istore_n 2, 1) := dk_61 (dk_at dksX8_comesOut_0 18 rfl rfl)
theorem dX8_comesOut_19 : decode cX8_comesOut 19 = .ok (.iload_n 2, 1) := dk_28 (dk_at dksX8_comesOut_0 19 rfl rfl)
theorem dX8_comesOut_20 : decode cX8_comesOut 20 = .ok (.bipush 6, 2) := dk_16 6 (dk_at dksX8_comesOut_0 20 rfl rfl)
theorem dX8_comesOut_22 : decode cX8_comesOut 22 = .ok (.if_icmp .eq 19, 3) := dk_159 0 19 (dk_at dksX8_comesOut_1 0 rfl rfl)
theorem dX8_comesOut_25 : decode cX8_comesOut 25 = .ok (.iload_n 1, 1) := dk_27 (dk_at dksX8_comesOut_1 3 rfl rfl)
theorem dX8_comesOut_26 : decode cX8_comesOut 26 = .ok (.ifCond .eq 16, 3) := dk_153 0 16 (dk_at dksX8_comesOut_1 4 rfl rfl)
theorem dX8_comesOut_29 : decode cX8_comesOut 29 = .ok (.iload_n 2, 1) := dk_28 (dk_at dksX8_comesOut_1 7 rfl rfl)
theorem dX8_comesOut_30 : decode cX8_comesOut 30 = .ok (.bipush 8, 2) := dk_16 8 (dk_at dksX8_comesOut_1 8 rfl rfl)
theorem dX8_comesOut_32 : decode cX8_comesOut 32 = .ok (.if_icmp .eq 9, 3) := dk_159 0 9 (dk_at dksX8_comesOut_1 10 rfl rfl)
theorem dX8_comesOut_35 : decode cX8_comesOut 35 = .ok (.iload_n 2, 1) := dk_28 (dk_at dksX8_comesOut_1 13 rfl rfl)
theorem dX8_comesOut_36 : decode cX8_comesOut 36 = .ok (.bipush 9, 2) := dk_16 9 (dk_at dksX8_comesOut_1 14 rfl rfl)
theorem dX8_comesOut_38 : decode cX8_comesOut 38 = .ok (.if_icmp .ne 4, 3) := dk_160 0 4 (dk_at dksX8_comesOut_1 16 rfl rfl)
theorem dX8_comesOut_41 : decode cX8_comesOut 41 = .ok (.return_, 1) := dk_177 (dk_at dksX8_comesOut_1 19 rfl rfl)
theorem dX8_comesOut_42 : decode cX8_comesOut 42 = .ok (.aload_n 0, 1) := dk_42 (dk_at dksX8_comesOut_1 20 rfl rfl)
theorem dX8_comesOut_43 : decode cX8_comesOut 43 = .ok (.dup, 1) := dk_89 (dk_at dksX8_comesOut_1 21 rfl rfl)
theorem dX8_comesOut_44 : decode cX8_comesOut 44 = .ok (.getfield 360, 3) := dk_180 1 104 (dk_at dksX8_comesOut_2 0 rfl rfl)
theorem dX8_comesOut_47 : decode cX8_comesOut 47 = .ok (.iconst 1, 1) := dk_4 (dk_at dksX8_comesOut_2 3 rfl rfl)
theorem dX8_comesOut_48 : decode cX8_comesOut 48 = .ok (.isub, 1) := dk_100 (dk_at dksX8_comesOut_2 4 rfl rfl)
theorem dX8_comesOut_49 : decode cX8_comesOut 49 = .ok (.putfield 360, 3) := dk_181 1 104 (dk_at dksX8_comesOut_2 5 rfl rfl)
theorem dX8_comesOut_52 : decode cX8_comesOut 52 = .ok (.aload_n 0, 1) := dk_42 (dk_at dksX8_comesOut_2 8 rfl rfl)
theorem dX8_comesOut_53 : decode cX8_comesOut 53 = .ok (.iload_n 2, 1) := dk_28 (dk_at dksX8_comesOut_2 9 rfl rfl)
theorem dX8_comesOut_54 : decode cX8_comesOut 54 = .ok (.bipush 8, 2) := dk_16 8 (dk_at dksX8_comesOut_2 10 rfl rfl)
theorem dX8_comesOut_56 : decode cX8_comesOut 56 = .ok (.if_icmp .ne 7, 3) := dk_160 0 7 (dk_at dksX8_comesOut_2 12 rfl rfl)
theorem dX8_comesOut_59 : decode cX8_comesOut 59 = .ok (.iconst 2, 1) := dk_5 (dk_at dksX8_comesOut_2 15 rfl rfl)
theorem dX8_comesOut_60 : decode cX8_comesOut 60 = .ok (.goto 24, 3) := dk_167 0 24 (dk_at dksX8_comesOut_2 16 rfl rfl)
theorem dX8_comesOut_63 : decode cX8_comesOut 63 = .ok (.iload_n 2, 1) := dk_28 (dk_at dksX8_comesOut_2 19 rfl rfl)
theorem dX8_comesOut_64 : decode cX8_comesOut 64 = .ok (.bipush 9, 2) := dk_16 9 (dk_at dksX8_comesOut_2 20 rfl rfl)
theorem dX8_comesOut_66 : decode cX8_comesOut 66 = .ok (.if_icmp .ne 7, 3) := dk_160 0 7 (dk_at dksX8_comesOut_3 0 rfl rfl)
theorem dX8_comesOut_69 : decode cX8_comesOut 69 = .ok (.iconst 3, 1) := dk_6 (dk_at dksX8_comesOut_3 3 rfl rfl)
theorem dX8_comesOut_70 : decode cX8_comesOut 70 = .ok (.goto 14, 3) := dk_167 0 14 (dk_at dksX8_comesOut_3 4 rfl rfl)
theorem dX8_comesOut_73 : decode cX8_comesOut 73 = .ok (.iload_n 2, 1) := dk_28 (dk_at dksX8_comesOut_3 7 rfl rfl)
theorem dX8_comesOut_74 : decode cX8_comesOut 74 = .ok (.bipush 10, 2) := dk_16 10 (dk_at dksX8_comesOut_3 8 rfl rfl)
theorem dX8_comesOut_76 : decode cX8_comesOut 76 = .ok (.if_icmp .ne 7, 3) := dk_160 0 7 (dk_at dksX8_comesOut_3 10 rfl rfl)
theorem dX8_comesOut_79 : decode cX8_comesOut 79 = .ok (.iconst 4, 1) := dk_7 (dk_at dksX8_comesOut_3 13 rfl rfl)
theorem dX8_comesOut_80 : decode cX8_comesOut 80 = .ok (.goto 4, 3) := dk_167 0 4 (dk_at dksX8_comesOut_3 14 rfl rfl)
theorem dX8_comesOut_83 : decode cX8_comesOut 83 = .ok (.iconst 5, 1) := dk_8 (dk_at dksX8_comesOut_3 17 rfl rfl)
theorem dX8_comesOut_84 : decode cX8_comesOut 84 = .ok (.iconst 0, 1) := dk_3 (dk_at dksX8_comesOut_3 18 rfl rfl)
theorem dX8_comesOut_85 : decode cX8_comesOut 85 = .ok (.invokevirtual 363, 3) := dk_182 1 107 (dk_at dksX8_comesOut_3 19 rfl rfl)
theorem dX8_comesOut_88 : decode cX8_comesOut 88 = .ok (.goto (-88), 3) := dk_167 255 168 (dk_at dksX8_comesOut_4 0 rfl rfl)
theorem dX8_comesOut_91 : decode cX8_comesOut 91 = .ok (.return_, 1) := dk_177 (dk_at dksX8_comesOut_4 3 rfl rfl)
abbrev cX8_term : ByteArray := prog_22_method_35_code
def yX8_term : MethodName := ⟨RX8, "term", "()V"⟩
def dkwX8_term_1 : List UInt8 := [42, 180, 0, 137, 42, 180, 1, 31, 42, 180, 1, 34, 79, 42, 89, 180, 1, 31, 4, 96, 181, 1, 31, 177]
abbrev dktX8_term_1 : List UInt8 := dkwX8_term_1 ++ []
def dkwX8_term_0 : List UInt8 := [42, 180, 0, 134, 42, 180, 1, 31, 42, 180, 1, 34, 79, 42, 180, 0, 248, 154, 0, 7, 42, 182, 1, 98]
abbrev dktX8_term_0 : List UInt8 := dkwX8_term_0 ++ dktX8_term_1
theorem dksX8_term_0 : cX8_term.data.toList.drop 0 = dktX8_term_0 := by decide +kernel
theorem dksX8_term_1 : cX8_term.data.toList.drop 24 = dktX8_term_1 := dk_seg dksX8_term_0 24 rfl rfl
theorem dX8_term_0 : decode cX8_term 0 = .ok (.aload_n 0, 1) := dk_42 (dk_at dksX8_term_0 0 rfl rfl)
theorem dX8_term_1 : decode cX8_term 1 = .ok (.getfield 134, 3) := dk_180 0 134 (dk_at dksX8_term_0 1 rfl rfl)
theorem dX8_term_4 : decode cX8_term 4 = .ok (.aload_n 0, 1) := dk_42 (dk_at dksX8_term_0 4 rfl rfl)
theorem dX8_term_5 : decode cX8_term 5 = .ok (.getfield 287, 3) := dk_180 1 31 (dk_at dksX8_term_0 5 rfl rfl)
theorem dX8_term_8 : decode cX8_term 8 = .ok (.aload_n 0, 1) := dk_42 (dk_at dksX8_term_0 8 rfl rfl)
theorem dX8_term_9 : decode cX8_term 9 = .ok (.getfield 290, 3) := dk_180 1 34 (dk_at dksX8_term_0 9 rfl rfl)
theorem dX8_term_12 : decode cX8_term 12 = .ok (.iastore, 1) := dk_79 (dk_at dksX8_term_0 12 rfl rfl)
theorem dX8_term_13 : decode cX8_term 13 = .ok (.aload_n 0, 1) := dk_42 (dk_at dksX8_term_0 13 rfl rfl)
theorem dX8_term_14 : decode cX8_term 14 = .ok (.getfield 248, 3) := dk_180 0 248 (dk_at dksX8_term_0 14 rfl rfl)
theorem dX8_term_17 : decode cX8_term 17 = .ok (.ifCond .ne 7, 3) := dk_154 0 7 (dk_at dksX8_term_0 17 rfl rfl)
theorem dX8_term_20 : decode cX8_term 20 = .ok (.aload_n 0, 1) := dk_42 (dk_at dksX8_term_0 20 rfl rfl)
theorem dX8_term_21 : decode cX8_term 21 = .ok (.invokevirtual 354, 3) := dk_182 1 98 (dk_at dksX8_term_0 21 rfl rfl)
theorem dX8_term_24 : decode cX8_term 24 = .ok (.aload_n 0, 1) := dk_42 (dk_at dksX8_term_1 0 rfl rfl)
theorem dX8_term_25 : decode cX8_term 25 = .ok (.getfield 137, 3) := dk_180 0 137 (dk_at dksX8_term_1 1 rfl rfl)
theorem dX8_term_28 : decode cX8_term 28 = .ok (.aload_n 0, 1) := dk_42 (dk_at dksX8_term_1 4 rfl rfl)
theorem dX8_term_29 : decode cX8_term 29 = .ok (.getfield 287, 3) := dk_180 1 31 (dk_at dksX8_term_1 5 rfl rfl)
theorem dX8_term_32 : decode cX8_term 32 = .ok (.aload_n 0, 1) := dk_42 (dk_at dksX8_term_1 8 rfl rfl)
theorem dX8_term_33 : decode cX8_term 33 = .ok (.getfield 290, 3) := dk_180 1 34 (dk_at dksX8_term_1 9 rfl rfl)
theorem dX8_term_36 : decode cX8_term 36 = .ok (.iastore, 1) := dk_79 (dk_at dksX8_term_1 12 rfl rfl)
theorem dX8_term_37 : decode cX8_term 37 = .ok (.aload_n 0, 1) := dk_42 (dk_at dksX8_term_1 13 rfl rfl)
theorem dX8_term_38 : decode cX8_term 38 = .ok (.dup, 1) := dk_89 (dk_at dksX8_term_1 14 rfl rfl)
theorem dX8_term_39 : decode cX8_term 39 = .ok (.getfield 287, 3) := dk_180 1 31 (dk_at dksX8_term_1 15 rfl rfl)
theorem dX8_term_42 : decode cX8_term 42 = .ok (.iconst 1, 1) := dk_4 (dk_at dksX8_term_1 18 rfl rfl)
theorem dX8_term_43 : decode cX8_term 43 = .ok (.iadd, 1) := dk_96 (dk_at dksX8_term_1 19 rfl rfl)
theorem dX8_term_44 : decode cX8_term 44 = .ok (.putfield 287, 3) := dk_181 1 31 (dk_at dksX8_term_1 20 rfl rfl)
theorem dX8_term_47 : decode cX8_term 47 = .ok (.return_, 1) := dk_177 (dk_at dksX8_term_1 23 rfl rfl)
abbrev cX8_begins : ByteArray := prog_22_method_51_code
def yX8_begins : MethodName := ⟨RX8, "begins", "()V"⟩
def dkwX8_begins_9 : List UInt8 := [46, 4, 27, 120, 128, 79, 132, 1, 1, 167, 255, 210, 177]
abbrev dktX8_begins_9 : List UInt8 := dkwX8_begins_9 ++ []
def dkwX8_begins_8 : List UInt8 := [42, 180, 0, 64, 16, 12, 42, 180, 1, 22, 104, 27, 96, 51, 153, 0, 16, 42, 180, 0, 158, 16, 78, 92]
abbrev dktX8_begins_8 : List UInt8 := dkwX8_begins_8 ++ dktX8_begins_9
def dkwX8_begins_7 : List UInt8 := [96, 46, 79, 132, 1, 1, 167, 255, 217, 3, 60, 27, 42, 180, 0, 52, 42, 180, 1, 22, 46, 162, 0, 39]
abbrev dktX8_begins_7 : List UInt8 := dkwX8_begins_7 ++ dktX8_begins_8
def dkwX8_begins_6 : List UInt8 := [46, 162, 0, 32, 42, 180, 0, 158, 16, 72, 27, 96, 42, 180, 0, 71, 16, 6, 42, 180, 1, 22, 104, 27]
abbrev dktX8_begins_6 : List UInt8 := dkwX8_begins_6 ++ dktX8_begins_7
def dkwX8_begins_5 : List UInt8 := [16, 66, 27, 96, 16, 254, 79, 132, 1, 1, 167, 255, 188, 3, 60, 27, 42, 180, 0, 68, 42, 180, 1, 22]
abbrev dktX8_begins_5 : List UInt8 := dkwX8_begins_5 ++ dktX8_begins_6
def dkwX8_begins_4 : List UInt8 := [16, 48, 27, 96, 42, 180, 0, 113, 16, 6, 42, 180, 1, 22, 104, 27, 96, 46, 79, 42, 180, 0, 158]
abbrev dktX8_begins_4 : List UInt8 := dkwX8_begins_4 ++ dktX8_begins_5
def dkwX8_begins_3 : List UInt8 := [16, 42, 27, 96, 42, 180, 0, 110, 16, 6, 42, 180, 1, 22, 104, 27, 96, 46, 79, 42, 180, 0, 158]
abbrev dktX8_begins_3 : List UInt8 := dkwX8_begins_3 ++ dktX8_begins_4
def dkwX8_begins_2 : List UInt8 := [96, 46, 79, 132, 1, 1, 167, 255, 225, 3, 60, 27, 42, 182, 1, 134, 162, 0, 66, 42, 180, 0, 158]
abbrev dktX8_begins_2 : List UInt8 := dkwX8_begins_2 ++ dktX8_begins_3
def dkwX8_begins_1 : List UInt8 := [42, 182, 1, 121, 162, 0, 29, 42, 180, 0, 158, 27, 42, 180, 0, 80, 16, 6, 42, 180, 1, 22, 104, 27]
abbrev dktX8_begins_1 : List UInt8 := dkwX8_begins_1 ++ dktX8_begins_2
def dkwX8_begins_0 : List UInt8 := [3, 60, 27, 16, 100, 162, 0, 16, 42, 180, 0, 158, 27, 3, 79, 132, 1, 1, 167, 255, 240, 3, 60, 27]
abbrev dktX8_begins_0 : List UInt8 := dkwX8_begins_0 ++ dktX8_begins_1
theorem dksX8_begins_0 : cX8_begins.data.toList.drop 0 = dktX8_begins_0 := by decide +kernel
theorem dksX8_begins_1 : cX8_begins.data.toList.drop 24 = dktX8_begins_1 := dk_seg dksX8_begins_0 24 rfl rfl
theorem dksX8_begins_2 : cX8_begins.data.toList.drop 48 = dktX8_begins_2 := dk_seg dksX8_begins_1 24 rfl rfl
theorem dksX8_begins_3 : cX8_begins.data.toList.drop 71 = dktX8_begins_3 := dk_seg dksX8_begins_2 23 rfl rfl
theorem dksX8_begins_4 : cX8_begins.data.toList.drop 94 = dktX8_begins_4 := dk_seg dksX8_begins_3 23 rfl rfl
theorem dksX8_begins_5 : cX8_begins.data.toList.drop 117 = dktX8_begins_5 := dk_seg dksX8_begins_4 23 rfl rfl
theorem dksX8_begins_6 : cX8_begins.data.toList.drop 141 = dktX8_begins_6 := dk_seg dksX8_begins_5 24 rfl rfl
theorem dksX8_begins_7 : cX8_begins.data.toList.drop 165 = dktX8_begins_7 := dk_seg dksX8_begins_6 24 rfl rfl
theorem dksX8_begins_8 : cX8_begins.data.toList.drop 189 = dktX8_begins_8 := dk_seg dksX8_begins_7 24 rfl rfl
theorem dksX8_begins_9 : cX8_begins.data.toList.drop 213 = dktX8_begins_9 := dk_seg dksX8_begins_8 24 rfl rfl
theorem dX8_begins_0 : decode cX8_begins 0 = .ok (.iconst 0, 1) := dk_3 (dk_at dksX8_begins_0 0 rfl rfl)
theorem dX8_begins_1 : decode cX8_begins 1 = .ok (.istore_n 1, 1) := dk_60 (dk_at dksX8_begins_0 1 rfl rfl)
theorem dX8_begins_2 : decode cX8_begins 2 = .ok (.iload_n 1, 1) := dk_27 (dk_at dksX8_begins_0 2 rfl rfl)
theorem dX8_begins_3 : decode cX8_begins 3 = .ok (.bipush 100, 2) := dk_16 100 (dk_at dksX8_begins_0 3 rfl rfl)
theorem dX8_begins_5 : decode cX8_begins 5 = .ok (.if_icmp .ge 16, 3) := dk_162 0 16 (dk_at dksX8_begins_0 5 rfl rfl)
theorem dX8_begins_8 : decode cX8_begins 8 = .ok (.aload_n 0, 1) := dk_42 (dk_at dksX8_begins_0 8 rfl rfl)
theorem dX8_begins_9 : decode cX8_begins 9 = .ok (.getfield 158, 3) := dk_180 0 158 (dk_at dksX8_begins_0 9 rfl rfl)
theorem dX8_begins_12 : decode cX8_begins 12 = .ok (.iload_n 1, 1) := dk_27 (dk_at dksX8_begins_0 12 rfl rfl)
theorem dX8_begins_13 : decode cX8_begins 13 = .ok (.iconst 0, 1) := dk_3 (dk_at dksX8_begins_0 13 rfl rfl)
theorem dX8_begins_14 : decode cX8_begins 14 = .ok (.iastore, 1) := dk_79 (dk_at dksX8_begins_0 14 rfl rfl)
theorem dX8_begins_15 : decode cX8_begins 15 = .ok (.iinc 1 1, 3) := dk_132 1 1 (dk_at dksX8_begins_0 15 rfl rfl)
theorem dX8_begins_18 : decode cX8_begins 18 = .ok (.goto (-16), 3) := dk_167 255 240 (dk_at dksX8_begins_0 18 rfl rfl)
theorem dX8_begins_21 : decode cX8_begins 21 = .ok (.iconst 0, 1) := dk_3 (dk_at dksX8_begins_0 21 rfl rfl)
theorem dX8_begins_22 : decode cX8_begins 22 = .ok (.istore_n 1, 1) := dk_60 (dk_at dksX8_begins_0 22 rfl rfl)
theorem dX8_begins_23 : decode cX8_begins 23 = .ok (.iload_n 1, 1) := dk_27 (dk_at dksX8_begins_0 23 rfl rfl)
theorem dX8_begins_24 : decode cX8_begins 24 = .ok (.aload_n 0, 1) := dk_42 (dk_at dksX8_begins_1 0 rfl rfl)
theorem dX8_begins_25 : decode cX8_begins 25 = .ok (.invokevirtual 377, 3) := dk_182 1 121 (dk_at dksX8_begins_1 1 rfl rfl)
theorem dX8_begins_28 : decode cX8_begins 28 = .ok (.if_icmp .ge 29, 3) := dk_162 0 29 (dk_at dksX8_begins_1 4 rfl rfl)
theorem dX8_begins_31 : decode cX8_begins 31 = .ok (.aload_n 0, 1) := dk_42 (dk_at dksX8_begins_1 7 rfl rfl)
theorem dX8_begins_32 : decode cX8_begins 32 = .ok (.getfield 158, 3) := dk_180 0 158 (dk_at dksX8_begins_1 8 rfl rfl)
theorem dX8_begins_35 : decode cX8_begins 35 = .ok (.iload_n 1, 1) := dk_27 (dk_at dksX8_begins_1 11 rfl rfl)
theorem dX8_begins_36 : decode cX8_begins 36 = .ok (.aload_n 0, 1) := dk_42 (dk_at dksX8_begins_1 12 rfl rfl)
theorem dX8_begins_37 : decode cX8_begins 37 = .ok (.getfield 80, 3) := dk_180 0 80 (dk_at dksX8_begins_1 13 rfl rfl)
theorem dX8_begins_40 : decode cX8_begins 40 = .ok (.bipush 6, 2) := dk_16 6 (dk_at dksX8_begins_1 16 rfl rfl)
theorem dX8_begins_42 : decode cX8_begins 42 = .ok (.aload_n 0, 1) := dk_42 (dk_at dksX8_begins_1 18 rfl rfl)
theorem dX8_begins_43 : decode cX8_begins 43 = .ok (.getfield 278, 3) := dk_180 1 22 (dk_at dksX8_begins_1 19 rfl rfl)
theorem dX8_begins_46 : decode cX8_begins 46 = .ok (.imul, 1) := dk_104 (dk_at dksX8_begins_1 22 rfl rfl)
theorem dX8_begins_47 : decode cX8_begins 47 = .ok (.iload_n 1, 1) := dk_27 (dk_at dksX8_begins_1 23 rfl rfl)
theorem dX8_begins_48 : decode cX8_begins 48 = .ok (.iadd, 1) := dk_96 (dk_at dksX8_begins_2 0 rfl rfl)
theorem dX8_begins_49 : decode cX8_begins 49 = .ok (.iaload, 1) := dk_46 (dk_at dksX8_begins_2 1 rfl rfl)
theorem dX8_begins_50 : decode cX8_begins 50 = .ok (.iastore, 1) := dk_79 (dk_at dksX8_begins_2 2 rfl rfl)
theorem dX8_begins_51 : decode cX8_begins 51 = .ok (.iinc 1 1, 3) := dk_132 1 1 (dk_at dksX8_begins_2 3 rfl rfl)
theorem dX8_begins_54 : decode cX8_begins 54 = .ok (.goto (-31), 3) := dk_167 255 225 (dk_at dksX8_begins_2 6 rfl rfl)
theorem dX8_begins_57 : decode cX8_begins 57 = .ok (.iconst 0, 1) := dk_3 (dk_at dksX8_begins_2 9 rfl rfl)
theorem dX8_begins_58 : decode cX8_begins 58 = .ok (.istore_n 1, 1) := dk_60 (dk_at dksX8_begins_2 10 rfl rfl)
theorem dX8_begins_59 : decode cX8_begins 59 = .ok (.iload_n 1, 1) := dk_27 (dk_at dksX8_begins_2 11 rfl rfl)
theorem dX8_begins_60 : decode cX8_begins 60 = .ok (.aload_n 0, 1) := dk_42 (dk_at dksX8_begins_2 12 rfl rfl)
theorem dX8_begins_61 : decode cX8_begins 61 = .ok (.invokevirtual 390, 3) := dk_182 1 134 (dk_at dksX8_begins_2 13 rfl rfl)
theorem dX8_begins_64 : decode cX8_begins 64 = .ok (.if_icmp .ge 66, 3) := dk_162 0 66 (dk_at dksX8_begins_2 16 rfl rfl)
theorem dX8_begins_67 : decode cX8_begins 67 = .ok (.aload_n 0, 1) := dk_42 (dk_at dksX8_begins_2 19 rfl rfl)
theorem dX8_begins_68 : decode cX8_begins 68 = .ok (.getfield 158, 3) := dk_180 0 158 (dk_at dksX8_begins_2 20 rfl rfl)
theorem dX8_begins_71 : decode cX8_begins 71 = .ok (.bipush 42, 2) := dk_16 42 (dk_at dksX8_begins_3 0 rfl rfl)
theorem dX8_begins_73 : decode cX8_begins 73 = .ok (.iload_n 1, 1) := dk_27 (dk_at dksX8_begins_3 2 rfl rfl)
theorem dX8_begins_74 : decode cX8_begins 74 = .ok (.iadd, 1) := dk_96 (dk_at dksX8_begins_3 3 rfl rfl)
theorem dX8_begins_75 : decode cX8_begins 75 = .ok (.aload_n 0, 1) := dk_42 (dk_at dksX8_begins_3 4 rfl rfl)
theorem dX8_begins_76 : decode cX8_begins 76 = .ok (.getfield 110, 3) := dk_180 0 110 (dk_at dksX8_begins_3 5 rfl rfl)
theorem dX8_begins_79 : decode cX8_begins 79 = .ok (.bipush 6, 2) := dk_16 6 (dk_at dksX8_begins_3 8 rfl rfl)
theorem dX8_begins_81 : decode cX8_begins 81 = .ok (.aload_n 0, 1) := dk_42 (dk_at dksX8_begins_3 10 rfl rfl)
theorem dX8_begins_82 : decode cX8_begins 82 = .ok (.getfield 278, 3) := dk_180 1 22 (dk_at dksX8_begins_3 11 rfl rfl)
theorem dX8_begins_85 : decode cX8_begins 85 = .ok (.imul, 1) := dk_104 (dk_at dksX8_begins_3 14 rfl rfl)
theorem dX8_begins_86 : decode cX8_begins 86 = .ok (.iload_n 1, 1) := dk_27 (dk_at dksX8_begins_3 15 rfl rfl)
theorem dX8_begins_87 : decode cX8_begins 87 = .ok (.iadd, 1) := dk_96 (dk_at dksX8_begins_3 16 rfl rfl)
theorem dX8_begins_88 : decode cX8_begins 88 = .ok (.iaload, 1) := dk_46 (dk_at dksX8_begins_3 17 rfl rfl)
theorem dX8_begins_89 : decode cX8_begins 89 = .ok (.iastore, 1) := dk_79 (dk_at dksX8_begins_3 18 rfl rfl)
theorem dX8_begins_90 : decode cX8_begins 90 = .ok (.aload_n 0, 1) := dk_42 (dk_at dksX8_begins_3 19 rfl rfl)
theorem dX8_begins_91 : decode cX8_begins 91 = .ok (.getfield 158, 3) := dk_180 0 158 (dk_at dksX8_begins_3 20 rfl rfl)
theorem dX8_begins_94 : decode cX8_begins 94 = .ok (.bipush 48, 2) := dk_16 48 (dk_at dksX8_begins_4 0 rfl rfl)
theorem dX8_begins_96 : decode cX8_begins 96 = .ok (.iload_n 1, 1) := dk_27 (dk_at dksX8_begins_4 2 rfl rfl)
theorem dX8_begins_97 : decode cX8_begins 97 = .ok (.iadd, 1) := dk_96 (dk_at dksX8_begins_4 3 rfl rfl)
theorem dX8_begins_98 : decode cX8_begins 98 = .ok (.aload_n 0, 1) := dk_42 (dk_at dksX8_begins_4 4 rfl rfl)
theorem dX8_begins_99 : decode cX8_begins 99 = .ok (.getfield 113, 3) := dk_180 0 113 (dk_at dksX8_begins_4 5 rfl rfl)
theorem dX8_begins_102 : decode cX8_begins 102 = .ok (.bipush 6, 2) := dk_16 6 (dk_at dksX8_begins_4 8 rfl rfl)
theorem dX8_begins_104 : decode cX8_begins 104 = .ok (.aload_n 0, 1) := dk_42 (dk_at dksX8_begins_4 10 rfl rfl)
theorem dX8_begins_105 : decode cX8_begins 105 = .ok (.getfield 278, 3) := dk_180 1 22 (dk_at dksX8_begins_4 11 rfl rfl)
theorem dX8_begins_108 : decode cX8_begins 108 = .ok (.imul, 1) := dk_104 (dk_at dksX8_begins_4 14 rfl rfl)
theorem dX8_begins_109 : decode cX8_begins 109 = .ok (.iload_n 1, 1) := dk_27 (dk_at dksX8_begins_4 15 rfl rfl)
theorem dX8_begins_110 : decode cX8_begins 110 = .ok (.iadd, 1) := dk_96 (dk_at dksX8_begins_4 16 rfl rfl)
theorem dX8_begins_111 : decode cX8_begins 111 = .ok (.iaload, 1) := dk_46 (dk_at dksX8_begins_4 17 rfl rfl)
theorem dX8_begins_112 : decode cX8_begins 112 = .ok (.iastore, 1) := dk_79 (dk_at dksX8_begins_4 18 rfl rfl)
theorem dX8_begins_113 : decode cX8_begins 113 = .ok (.aload_n 0, 1) := dk_42 (dk_at dksX8_begins_4 19 rfl rfl)
theorem dX8_begins_114 : decode cX8_begins 114 = .ok (.getfield 158, 3) := dk_180 0 158 (dk_at dksX8_begins_4 20 rfl rfl)
theorem dX8_begins_117 : decode cX8_begins 117 = .ok (.bipush 66, 2) := dk_16 66 (dk_at dksX8_begins_5 0 rfl rfl)
theorem dX8_begins_119 : decode cX8_begins 119 = .ok (.iload_n 1, 1) := dk_27 (dk_at dksX8_begins_5 2 rfl rfl)
theorem dX8_begins_120 : decode cX8_begins 120 = .ok (.iadd, 1) := dk_96 (dk_at dksX8_begins_5 3 rfl rfl)
theorem dX8_begins_121 : decode cX8_begins 121 = .ok (.bipush (-2), 2) := dk_16 254 (dk_at dksX8_begins_5 4 rfl rfl)
theorem dX8_begins_123 : decode cX8_begins 123 = .ok (.iastore, 1) := dk_79 (dk_at dksX8_begins_5 6 rfl rfl)
theorem dX8_begins_124 : decode cX8_begins 124 = .ok (.iinc 1 1, 3) := dk_132 1 1 (dk_at dksX8_begins_5 7 rfl rfl)
theorem dX8_begins_127 : decode cX8_begins 127 = .ok (.goto (-68), 3) := dk_167 255 188 (dk_at dksX8_begins_5 10 rfl rfl)
theorem dX8_begins_130 : decode cX8_begins 130 = .ok (.iconst 0, 1) := dk_3 (dk_at dksX8_begins_5 13 rfl rfl)
theorem dX8_begins_131 : decode cX8_begins 131 = .ok (.istore_n 1, 1) := dk_60 (dk_at dksX8_begins_5 14 rfl rfl)
theorem dX8_begins_132 : decode cX8_begins 132 = .ok (.iload_n 1, 1) := dk_27 (dk_at dksX8_begins_5 15 rfl rfl)
theorem dX8_begins_133 : decode cX8_begins 133 = .ok (.aload_n 0, 1) := dk_42 (dk_at dksX8_begins_5 16 rfl rfl)
theorem dX8_begins_134 : decode cX8_begins 134 = .ok (.getfield 68, 3) := dk_180 0 68 (dk_at dksX8_begins_5 17 rfl rfl)
theorem dX8_begins_137 : decode cX8_begins 137 = .ok (.aload_n 0, 1) := dk_42 (dk_at dksX8_begins_5 20 rfl rfl)
theorem dX8_begins_138 : decode cX8_begins 138 = .ok (.getfield 278, 3) := dk_180 1 22 (dk_at dksX8_begins_5 21 rfl rfl)
theorem dX8_begins_141 : decode cX8_begins 141 = .ok (.iaload, 1) := dk_46 (dk_at dksX8_begins_6 0 rfl rfl)
theorem dX8_begins_142 : decode cX8_begins 142 = .ok (.if_icmp .ge 32, 3) := dk_162 0 32 (dk_at dksX8_begins_6 1 rfl rfl)
theorem dX8_begins_145 : decode cX8_begins 145 = .ok (.aload_n 0, 1) := dk_42 (dk_at dksX8_begins_6 4 rfl rfl)
theorem dX8_begins_146 : decode cX8_begins 146 = .ok (.getfield 158, 3) := dk_180 0 158 (dk_at dksX8_begins_6 5 rfl rfl)
theorem dX8_begins_149 : decode cX8_begins 149 = .ok (.bipush 72, 2) := dk_16 72 (dk_at dksX8_begins_6 8 rfl rfl)
theorem dX8_begins_151 : decode cX8_begins 151 = .ok (.iload_n 1, 1) := dk_27 (dk_at dksX8_begins_6 10 rfl rfl)
theorem dX8_begins_152 : decode cX8_begins 152 = .ok (.iadd, 1) := dk_96 (dk_at dksX8_begins_6 11 rfl rfl)
theorem dX8_begins_153 : decode cX8_begins 153 = .ok (.aload_n 0, 1) := dk_42 (dk_at dksX8_begins_6 12 rfl rfl)
theorem dX8_begins_154 : decode cX8_begins 154 = .ok (.getfield 71, 3) := dk_180 0 71 (dk_at dksX8_begins_6 13 rfl rfl)
theorem dX8_begins_157 : decode cX8_begins 157 = .ok (.bipush 6, 2) := dk_16 6 (dk_at dksX8_begins_6 16 rfl rfl)
theorem dX8_begins_159 : decode cX8_begins 159 = .ok (.aload_n 0, 1) := dk_42 (dk_at dksX8_begins_6 18 rfl rfl)
theorem dX8_begins_160 : decode cX8_begins 160 = .ok (.getfield 278, 3) := dk_180 1 22 (dk_at dksX8_begins_6 19 rfl rfl)
theorem dX8_begins_163 : decode cX8_begins 163 = .ok (.imul, 1) := dk_104 (dk_at dksX8_begins_6 22 rfl rfl)
theorem dX8_begins_164 : decode cX8_begins 164 = .ok (.iload_n 1, 1) := dk_27 (dk_at dksX8_begins_6 23 rfl rfl)
theorem dX8_begins_165 : decode cX8_begins 165 = .ok (.iadd, 1) := dk_96 (dk_at dksX8_begins_7 0 rfl rfl)
theorem dX8_begins_166 : decode cX8_begins 166 = .ok (.iaload, 1) := dk_46 (dk_at dksX8_begins_7 1 rfl rfl)
theorem dX8_begins_167 : decode cX8_begins 167 = .ok (.iastore, 1) := dk_79 (dk_at dksX8_begins_7 2 rfl rfl)
theorem dX8_begins_168 : decode cX8_begins 168 = .ok (.iinc 1 1, 3) := dk_132 1 1 (dk_at dksX8_begins_7 3 rfl rfl)
theorem dX8_begins_171 : decode cX8_begins 171 = .ok (.goto (-39), 3) := dk_167 255 217 (dk_at dksX8_begins_7 6 rfl rfl)
theorem dX8_begins_174 : decode cX8_begins 174 = .ok (.iconst 0, 1) := dk_3 (dk_at dksX8_begins_7 9 rfl rfl)
theorem dX8_begins_175 : decode cX8_begins 175 = .ok (.istore_n 1, 1) := dk_60 (dk_at dksX8_begins_7 10 rfl rfl)
theorem dX8_begins_176 : decode cX8_begins 176 = .ok (.iload_n 1, 1) := dk_27 (dk_at dksX8_begins_7 11 rfl rfl)
theorem dX8_begins_177 : decode cX8_begins 177 = .ok (.aload_n 0, 1) := dk_42 (dk_at dksX8_begins_7 12 rfl rfl)
theorem dX8_begins_178 : decode cX8_begins 178 = .ok (.getfield 52, 3) := dk_180 0 52 (dk_at dksX8_begins_7 13 rfl rfl)
theorem dX8_begins_181 : decode cX8_begins 181 = .ok (.aload_n 0, 1) := dk_42 (dk_at dksX8_begins_7 16 rfl rfl)
theorem dX8_begins_182 : decode cX8_begins 182 = .ok (.getfield 278, 3) := dk_180 1 22 (dk_at dksX8_begins_7 17 rfl rfl)
theorem dX8_begins_185 : decode cX8_begins 185 = .ok (.iaload, 1) := dk_46 (dk_at dksX8_begins_7 20 rfl rfl)
theorem dX8_begins_186 : decode cX8_begins 186 = .ok (.if_icmp .ge 39, 3) := dk_162 0 39 (dk_at dksX8_begins_7 21 rfl rfl)
theorem dX8_begins_189 : decode cX8_begins 189 = .ok (.aload_n 0, 1) := dk_42 (dk_at dksX8_begins_8 0 rfl rfl)
theorem dX8_begins_190 : decode cX8_begins 190 = .ok (.getfield 64, 3) := dk_180 0 64 (dk_at dksX8_begins_8 1 rfl rfl)
theorem dX8_begins_193 : decode cX8_begins 193 = .ok (.bipush 12, 2) := dk_16 12 (dk_at dksX8_begins_8 4 rfl rfl)
theorem dX8_begins_195 : decode cX8_begins 195 = .ok (.aload_n 0, 1) := dk_42 (dk_at dksX8_begins_8 6 rfl rfl)
theorem dX8_begins_196 : decode cX8_begins 196 = .ok (.getfield 278, 3) := dk_180 1 22 (dk_at dksX8_begins_8 7 rfl rfl)
theorem dX8_begins_199 : decode cX8_begins 199 = .ok (.imul, 1) := dk_104 (dk_at dksX8_begins_8 10 rfl rfl)
theorem dX8_begins_200 : decode cX8_begins 200 = .ok (.iload_n 1, 1) := dk_27 (dk_at dksX8_begins_8 11 rfl rfl)
theorem dX8_begins_201 : decode cX8_begins 201 = .ok (.iadd, 1) := dk_96 (dk_at dksX8_begins_8 12 rfl rfl)
theorem dX8_begins_202 : decode cX8_begins 202 = .ok (.baload, 1) := dk_51 (dk_at dksX8_begins_8 13 rfl rfl)
theorem dX8_begins_203 : decode cX8_begins 203 = .ok (.ifCond .eq 16, 3) := dk_153 0 16 (dk_at dksX8_begins_8 14 rfl rfl)
theorem dX8_begins_206 : decode cX8_begins 206 = .ok (.aload_n 0, 1) := dk_42 (dk_at dksX8_begins_8 17 rfl rfl)
theorem dX8_begins_207 : decode cX8_begins 207 = .ok (.getfield 158, 3) := dk_180 0 158 (dk_at dksX8_begins_8 18 rfl rfl)
theorem dX8_begins_210 : decode cX8_begins 210 = .ok (.bipush 78, 2) := dk_16 78 (dk_at dksX8_begins_8 21 rfl rfl)
theorem dX8_begins_212 : decode cX8_begins 212 = .ok (.dup2, 1) := dk_92 (dk_at dksX8_begins_8 23 rfl rfl)
theorem dX8_begins_213 : decode cX8_begins 213 = .ok (.iaload, 1) := dk_46 (dk_at dksX8_begins_9 0 rfl rfl)
theorem dX8_begins_214 : decode cX8_begins 214 = .ok (.iconst 1, 1) := dk_4 (dk_at dksX8_begins_9 1 rfl rfl)
theorem dX8_begins_215 : decode cX8_begins 215 = .ok (.iload_n 1, 1) := dk_27 (dk_at dksX8_begins_9 2 rfl rfl)
theorem dX8_begins_216 : decode cX8_begins 216 = .ok (.ishl, 1) := dk_120 (dk_at dksX8_begins_9 3 rfl rfl)
theorem dX8_begins_217 : decode cX8_begins 217 = .ok (.ior, 1) := dk_128 (dk_at dksX8_begins_9 4 rfl rfl)
theorem dX8_begins_218 : decode cX8_begins 218 = .ok (.iastore, 1) := dk_79 (dk_at dksX8_begins_9 5 rfl rfl)
theorem dX8_begins_219 : decode cX8_begins 219 = .ok (.iinc 1 1, 3) := dk_132 1 1 (dk_at dksX8_begins_9 6 rfl rfl)
theorem dX8_begins_222 : decode cX8_begins 222 = .ok (.goto (-46), 3) := dk_167 255 210 (dk_at dksX8_begins_9 9 rfl rfl)
theorem dX8_begins_225 : decode cX8_begins 225 = .ok (.return_, 1) := dk_177 (dk_at dksX8_begins_9 12 rfl rfl)
abbrev cX8_tasksNow : ByteArray := prog_22_method_42_code
def yX8_tasksNow : MethodName := ⟨RX8, "tasksNow", "()I"⟩
def dkwX8_tasksNow_0 : List UInt8 := [42, 180, 0, 74, 42, 180, 1, 22, 46, 172]
abbrev dktX8_tasksNow_0 : List UInt8 := dkwX8_tasksNow_0 ++ []
theorem dksX8_tasksNow_0 : cX8_tasksNow.data.toList.drop 0 = dktX8_tasksNow_0 := by decide +kernel
theorem dX8_tasksNow_0 : decode cX8_tasksNow 0 = .ok (.aload_n 0, 1) := dk_42 (dk_at dksX8_tasksNow_0 0 rfl rfl)
theorem dX8_tasksNow_1 : decode cX8_tasksNow 1 = .ok (.getfield 74, 3) := dk_180 0 74 (dk_at dksX8_tasksNow_0 1 rfl rfl)
theorem dX8_tasksNow_4 : decode cX8_tasksNow 4 = .ok (.aload_n 0, 1) := dk_42 (dk_at dksX8_tasksNow_0 4 rfl rfl)
theorem dX8_tasksNow_5 : decode cX8_tasksNow 5 = .ok (.getfield 278, 3) := dk_180 1 22 (dk_at dksX8_tasksNow_0 5 rfl rfl)
theorem dX8_tasksNow_8 : decode cX8_tasksNow 8 = .ok (.iaload, 1) := dk_46 (dk_at dksX8_tasksNow_0 8 rfl rfl)
theorem dX8_tasksNow_9 : decode cX8_tasksNow 9 = .ok (.ireturn, 1) := dk_172 (dk_at dksX8_tasksNow_0 9 rfl rfl)
abbrev cX8_menNow : ByteArray := prog_22_method_43_code
def yX8_menNow : MethodName := ⟨RX8, "menNow", "()I"⟩
def dkwX8_menNow_0 : List UInt8 := [42, 180, 0, 104, 42, 180, 1, 22, 46, 172]
abbrev dktX8_menNow_0 : List UInt8 := dkwX8_menNow_0 ++ []
theorem dksX8_menNow_0 : cX8_menNow.data.toList.drop 0 = dktX8_menNow_0 := by decide +kernel
theorem dX8_menNow_0 : decode cX8_menNow 0 = .ok (.aload_n 0, 1) := dk_42 (dk_at dksX8_menNow_0 0 rfl rfl)
theorem dX8_menNow_1 : decode cX8_menNow 1 = .ok (.getfield 104, 3) := dk_180 0 104 (dk_at dksX8_menNow_0 1 rfl rfl)
theorem dX8_menNow_4 : decode cX8_menNow 4 = .ok (.aload_n 0, 1) := dk_42 (dk_at dksX8_menNow_0 4 rfl rfl)
theorem dX8_menNow_5 : decode cX8_menNow 5 = .ok (.getfield 278, 3) := dk_180 1 22 (dk_at dksX8_menNow_0 5 rfl rfl)
theorem dX8_menNow_8 : decode cX8_menNow 8 = .ok (.iaload, 1) := dk_46 (dk_at dksX8_menNow_0 8 rfl rfl)
theorem dX8_menNow_9 : decode cX8_menNow 9 = .ok (.ireturn, 1) := dk_172 (dk_at dksX8_menNow_0 9 rfl rfl)
abbrev cX8_place : ByteArray := prog_22_method_20_code
def yX8_place : MethodName := ⟨RX8, "place", "()I"⟩
theorem dX8_place_0 : decode cX8_place 0 = .ok (.aload_n 0, 1) := by decide +kernel
theorem dX8_place_1 : decode cX8_place 1 = .ok (.getfield 37, 3) := by decide +kernel
theorem dX8_place_4 : decode cX8_place 4 = .ok (.ireturn, 1) := by decide +kernel
abbrev cX8_task : ByteArray := prog_22_method_66_code
def yX8_task : MethodName := ⟨RX8, "task", "(II)I"⟩
def dkwX8_task_4 : List UInt8 := [3, 172, 2, 172]
abbrev dktX8_task_4 : List UInt8 := dkwX8_task_4 ++ []
def dkwX8_task_3 : List UInt8 := [180, 0, 161, 27, 46, 172, 42, 27, 182, 1, 140, 172, 42, 27, 182, 1, 150, 153, 0, 7, 4, 167, 0, 4]
abbrev dktX8_task_3 : List UInt8 := dkwX8_task_3 ++ dktX8_task_4
def dkwX8_task_2 : List UInt8 := [42, 180, 0, 77, 16, 6, 42, 180, 1, 22, 104, 27, 96, 46, 172, 42, 27, 182, 1, 131, 172, 42]
abbrev dktX8_task_2 : List UInt8 := dkwX8_task_2 ++ dktX8_task_3
def dkwX8_task_1 : List UInt8 := [170, 0, 0, 0, 81, 0, 0, 0, 0, 0, 0, 0, 4, 0, 0, 0, 33, 0, 0, 0, 48, 0, 0, 0, 54, 0, 0, 0, 61, 0, 0, 0, 67]
abbrev dktX8_task_1 : List UInt8 := dkwX8_task_1 ++ dktX8_task_2
def dkwX8_task_0 : List UInt8 := [42, 27, 182, 1, 128, 154, 0, 5, 2, 172, 42, 182, 1, 181, 28]
abbrev dktX8_task_0 : List UInt8 := dkwX8_task_0 ++ dktX8_task_1
theorem dksX8_task_0 : cX8_task.data.toList.drop 0 = dktX8_task_0 := by decide +kernel
theorem dksX8_task_1 : cX8_task.data.toList.drop 15 = dktX8_task_1 := dk_seg dksX8_task_0 15 rfl rfl
theorem dksX8_task_2 : cX8_task.data.toList.drop 48 = dktX8_task_2 := dk_seg dksX8_task_1 33 rfl rfl
theorem dksX8_task_3 : cX8_task.data.toList.drop 70 = dktX8_task_3 := dk_seg dksX8_task_2 22 rfl rfl
theorem dksX8_task_4 : cX8_task.data.toList.drop 94 = dktX8_task_4 := dk_seg dksX8_task_3 24 rfl rfl
theorem dX8_task_0 : decode cX8_task 0 = .ok (.aload_n 0, 1) := dk_42 (dk_at dksX8_task_0 0 rfl rfl)
theorem dX8_task_1 : decode cX8_task 1 = .ok (.iload_n 1, 1) := dk_27 (dk_at dksX8_task_0 1 rfl rfl)
theorem dX8_task_2 : decode cX8_task 2 = .ok (.invokevirtual 384, 3) := dk_182 1 128 (dk_at dksX8_task_0 2 rfl rfl)
theorem dX8_task_5 : decode cX8_task 5 = .ok (.ifCond .ne 5, 3) := dk_154 0 5 (dk_at dksX8_task_0 5 rfl rfl)
theorem dX8_task_8 : decode cX8_task 8 = .ok (.iconst (-1), 1) := dk_2 (dk_at dksX8_task_0 8 rfl rfl)
theorem dX8_task_9 : decode cX8_task 9 = .ok (.ireturn, 1) := dk_172 (dk_at dksX8_task_0 9 rfl rfl)
theorem dX8_task_10 : decode cX8_task 10 = .ok (.aload_n 0, 1) := dk_42 (dk_at dksX8_task_0 10 rfl rfl)
theorem dX8_task_11 : decode cX8_task 11 = .ok (.invokevirtual 437, 3) := dk_182 1 181 (dk_at dksX8_task_0 11 rfl rfl)
theorem dX8_task_14 : decode cX8_task 14 = .ok (.iload_n 2, 1) := dk_28 (dk_at dksX8_task_0 14 rfl rfl)
theorem dX8_task_15 : decode cX8_task 15 = .ok (.tableswitch 81 0 4 #[33, 48, 54, 61, 67], 33) := by decide +kernel
theorem dX8_task_48 : decode cX8_task 48 = .ok (.aload_n 0, 1) := dk_42 (dk_at dksX8_task_2 0 rfl rfl)
theorem dX8_task_49 : decode cX8_task 49 = .ok (.getfield 77, 3) := dk_180 0 77 (dk_at dksX8_task_2 1 rfl rfl)
theorem dX8_task_52 : decode cX8_task 52 = .ok (.bipush 6, 2) := dk_16 6 (dk_at dksX8_task_2 4 rfl rfl)
theorem dX8_task_54 : decode cX8_task 54 = .ok (.aload_n 0, 1) := dk_42 (dk_at dksX8_task_2 6 rfl rfl)
theorem dX8_task_55 : decode cX8_task 55 = .ok (.getfield 278, 3) := dk_180 1 22 (dk_at dksX8_task_2 7 rfl rfl)
theorem dX8_task_58 : decode cX8_task 58 = .ok (.imul, 1) := dk_104 (dk_at dksX8_task_2 10 rfl rfl)
theorem dX8_task_59 : decode cX8_task 59 = .ok (.iload_n 1, 1) := dk_27 (dk_at dksX8_task_2 11 rfl rfl)
theorem dX8_task_60 : decode cX8_task 60 = .ok (.iadd, 1) := dk_96 (dk_at dksX8_task_2 12 rfl rfl)
theorem dX8_task_61 : decode cX8_task 61 = .ok (.iaload, 1) := dk_46 (dk_at dksX8_task_2 13 rfl rfl)
theorem dX8_task_62 : decode cX8_task 62 = .ok (.ireturn, 1) := dk_172 (dk_at dksX8_task_2 14 rfl rfl)
theorem dX8_task_63 : decode cX8_task 63 = .ok (.aload_n 0, 1) := dk_42 (dk_at dksX8_task_2 15 rfl rfl)
theorem dX8_task_64 : decode cX8_task 64 = .ok (.iload_n 1, 1) := dk_27 (dk_at dksX8_task_2 16 rfl rfl)
theorem dX8_task_65 : decode cX8_task 65 = .ok (.invokevirtual 387, 3) := dk_182 1 131 (dk_at dksX8_task_2 17 rfl rfl)
theorem dX8_task_68 : decode cX8_task 68 = .ok (.ireturn, 1) := dk_172 (dk_at dksX8_task_2 20 rfl rfl)
theorem dX8_task_69 : decode cX8_task 69 = .ok (.aload_n 0, 1) := dk_42 (dk_at dksX8_task_2 21 rfl rfl)
theorem dX8_task_70 : decode cX8_task 70 = .ok (.getfield 161, 3) := dk_180 0 161 (dk_at dksX8_task_3 0 rfl rfl)
theorem dX8_task_73 : decode cX8_task 73 = .ok (.iload_n 1, 1) := dk_27 (dk_at dksX8_task_3 3 rfl rfl)
theorem dX8_task_74 : decode cX8_task 74 = .ok (.iaload, 1) := dk_46 (dk_at dksX8_task_3 4 rfl rfl)
theorem dX8_task_75 : decode cX8_task 75 = .ok (.ireturn, 1) := dk_172 (dk_at dksX8_task_3 5 rfl rfl)
theorem dX8_task_76 : decode cX8_task 76 = .ok (.aload_n 0, 1) := dk_42 (dk_at dksX8_task_3 6 rfl rfl)
theorem dX8_task_77 : decode cX8_task 77 = .ok (.iload_n 1, 1) := dk_27 (dk_at dksX8_task_3 7 rfl rfl)
theorem dX8_task_78 : decode cX8_task 78 = .ok (.invokevirtual 396, 3) := dk_182 1 140 (dk_at dksX8_task_3 8 rfl rfl)
theorem dX8_task_81 : decode cX8_task 81 = .ok (.ireturn, 1) := dk_172 (dk_at dksX8_task_3 11 rfl rfl)
theorem dX8_task_82 : decode cX8_task 82 = .ok (.aload_n 0, 1) := dk_42 (dk_at dksX8_task_3 12 rfl rfl)
theorem dX8_task_83 : decode cX8_task 83 = .ok (.iload_n 1, 1) := dk_27 (dk_at dksX8_task_3 13 rfl rfl)
theorem dX8_task_84 : decode cX8_task 84 = .ok (.invokevirtual 406, 3) := dk_182 1 150 (dk_at dksX8_task_3 14 rfl rfl)
theorem dX8_task_87 : decode cX8_task 87 = .ok (.ifCond .eq 7, 3) := dk_153 0 7 (dk_at dksX8_task_3 17 rfl rfl)
theorem dX8_task_90 : decode cX8_task 90 = .ok (.iconst 1, 1) := dk_4 (dk_at dksX8_task_3 20 rfl rfl)
theorem dX8_task_91 : decode cX8_task 91 = .ok (.goto 4, 3) := dk_167 0 4 (dk_at dksX8_task_3 21 rfl rfl)
theorem dX8_task_94 : decode cX8_task 94 = .ok (.iconst 0, 1) := dk_3 (dk_at dksX8_task_4 0 rfl rfl)
theorem dX8_task_95 : decode cX8_task 95 = .ok (.ireturn, 1) := dk_172 (dk_at dksX8_task_4 1 rfl rfl)
theorem dX8_task_96 : decode cX8_task 96 = .ok (.iconst (-1), 1) := dk_2 (dk_at dksX8_task_4 2 rfl rfl)
theorem dX8_task_97 : decode cX8_task 97 = .ok (.ireturn, 1) := dk_172 (dk_at dksX8_task_4 3 rfl rfl)
abbrev cX8_isTask : ByteArray := prog_22_method_46_code
def yX8_isTask : MethodName := ⟨RX8, "isTask", "(I)Z"⟩
def dkwX8_isTask_0 : List UInt8 := [27, 3, 42, 182, 1, 121, 4, 100, 184, 1, 124, 172]
abbrev dktX8_isTask_0 : List UInt8 := dkwX8_isTask_0 ++ []
theorem dksX8_isTask_0 : cX8_isTask.data.toList.drop 0 = dktX8_isTask_0 := by decide +kernel
theorem dX8_isTask_0 : decode cX8_isTask 0 = .ok (.iload_n 1, 1) := dk_27 (dk_at dksX8_isTask_0 0 rfl rfl)
theorem dX8_isTask_1 : decode cX8_isTask 1 = .ok (.iconst 0, 1) := dk_3 (dk_at dksX8_isTask_0 1 rfl rfl)
theorem dX8_isTask_2 : decode cX8_isTask 2 = .ok (.aload_n 0, 1) := dk_42 (dk_at dksX8_isTask_0 2 rfl rfl)
theorem dX8_isTask_3 : decode cX8_isTask 3 = .ok (.invokevirtual 377, 3) := dk_182 1 121 (dk_at dksX8_isTask_0 3 rfl rfl)
theorem dX8_isTask_6 : decode cX8_isTask 6 = .ok (.iconst 1, 1) := dk_4 (dk_at dksX8_isTask_0 6 rfl rfl)
theorem dX8_isTask_7 : decode cX8_isTask 7 = .ok (.isub, 1) := dk_100 (dk_at dksX8_isTask_0 7 rfl rfl)
theorem dX8_isTask_8 : decode cX8_isTask 8 = .ok (.invokestatic 380, 3) := dk_184 1 124 (dk_at dksX8_isTask_0 8 rfl rfl)
theorem dX8_isTask_11 : decode cX8_isTask 11 = .ok (.ireturn, 1) := dk_172 (dk_at dksX8_isTask_0 11 rfl rfl)
abbrev cX8_in : ByteArray := prog_22_method_41_code
def yX8_in : MethodName := ⟨RX8, "in", "(III)Z"⟩
def dkwX8_in_0 : List UInt8 := [26, 27, 161, 0, 12, 26, 28, 163, 0, 7, 4, 167, 0, 4, 3, 172]
abbrev dktX8_in_0 : List UInt8 := dkwX8_in_0 ++ []
theorem dksX8_in_0 : cX8_in.data.toList.drop 0 = dktX8_in_0 := by decide +kernel
theorem dX8_in_0 : decode cX8_in 0 = .ok (.iload_n 0, 1) := dk_26 (dk_at dksX8_in_0 0 rfl rfl)
theorem dX8_in_1 : decode cX8_in 1 = .ok (.iload_n 1, 1) := dk_27 (dk_at dksX8_in_0 1 rfl rfl)
theorem dX8_in_2 : decode cX8_in 2 = .ok (.if_icmp .lt 12, 3) := dk_161 0 12 (dk_at dksX8_in_0 2 rfl rfl)
theorem dX8_in_5 : decode cX8_in 5 = .ok (.iload_n 0, 1) := dk_26 (dk_at dksX8_in_0 5 rfl rfl)
theorem dX8_in_6 : decode cX8_in 6 = .ok (.iload_n 2, 1) := dk_28 (dk_at dksX8_in_0 6 rfl rfl)
theorem dX8_in_7 : decode cX8_in 7 = .ok (.if_icmp .gt 7, 3) := dk_163 0 7 (dk_at dksX8_in_0 7 rfl rfl)
theorem dX8_in_10 : decode cX8_in 10 = .ok (.iconst 1, 1) := dk_4 (dk_at dksX8_in_0 10 rfl rfl)
theorem dX8_in_11 : decode cX8_in 11 = .ok (.goto 4, 3) := dk_167 0 4 (dk_at dksX8_in_0 11 rfl rfl)
theorem dX8_in_14 : decode cX8_in 14 = .ok (.iconst 0, 1) := dk_3 (dk_at dksX8_in_0 14 rfl rfl)
theorem dX8_in_15 : decode cX8_in 15 = .ok (.ireturn, 1) := dk_172 (dk_at dksX8_in_0 15 rfl rfl)
abbrev cX8_takes : ByteArray := prog_22_method_52_code
def yX8_takes : MethodName := ⟨RX8, "takes", "()V"⟩
def dkwX8_takes_1 : List UInt8 := [167, 255, 235, 177]
abbrev dktX8_takes_1 : List UInt8 := dkwX8_takes_1 ++ []
def dkwX8_takes_0 : List UInt8 := [3, 60, 27, 16, 100, 162, 0, 21, 42, 180, 0, 161, 27, 42, 180, 0, 158, 27, 46, 79, 132, 1, 1]
abbrev dktX8_takes_0 : List UInt8 := dkwX8_takes_0 ++ dktX8_takes_1
theorem dksX8_takes_0 : cX8_takes.data.toList.drop 0 = dktX8_takes_0 := by decide +kernel
theorem dksX8_takes_1 : cX8_takes.data.toList.drop 23 = dktX8_takes_1 := dk_seg dksX8_takes_0 23 rfl rfl
theorem dX8_takes_0 : decode cX8_takes 0 = .ok (.iconst 0, 1) := dk_3 (dk_at dksX8_takes_0 0 rfl rfl)
theorem dX8_takes_1 : decode cX8_takes 1 = .ok (.istore_n 1, 1) := dk_60 (dk_at dksX8_takes_0 1 rfl rfl)
theorem dX8_takes_2 : decode cX8_takes 2 = .ok (.iload_n 1, 1) := dk_27 (dk_at dksX8_takes_0 2 rfl rfl)
theorem dX8_takes_3 : decode cX8_takes 3 = .ok (.bipush 100, 2) := dk_16 100 (dk_at dksX8_takes_0 3 rfl rfl)
theorem dX8_takes_5 : decode cX8_takes 5 = .ok (.if_icmp .ge 21, 3) := dk_162 0 21 (dk_at dksX8_takes_0 5 rfl rfl)
theorem dX8_takes_8 : decode cX8_takes 8 = .ok (.aload_n 0, 1) := dk_42 (dk_at dksX8_takes_0 8 rfl rfl)
theorem dX8_takes_9 : decode cX8_takes 9 = .ok (.getfield 161, 3) := dk_180 0 161 (dk_at dksX8_takes_0 9 rfl rfl)
theorem dX8_takes_12 : decode cX8_takes 12 = .ok (.iload_n 1, 1) := dk_27 (dk_at dksX8_takes_0 12 rfl rfl)
theorem dX8_takes_13 : decode cX8_takes 13 = .ok (.aload_n 0, 1) := dk_42 (dk_at dksX8_takes_0 13 rfl rfl)
theorem dX8_takes_14 : decode cX8_takes 14 = .ok (.getfield 158, 3) := dk_180 0 158 (dk_at dksX8_takes_0 14 rfl rfl)
theorem dX8_takes_17 : decode cX8_takes 17 = .ok (.iload_n 1, 1) := dk_27 (dk_at dksX8_takes_0 17 rfl rfl)
theorem dX8_takes_18 : decode cX8_takes 18 = .ok (.iaload, 1) := dk_46 (dk_at dksX8_takes_0 18 rfl rfl)
theorem dX8_takes_19 : decode cX8_takes 19 = .ok (.iastore, 1) := dk_79 (dk_at dksX8_takes_0 19 rfl rfl)
theorem dX8_takes_20 : decode cX8_takes 20 = .ok (.iinc 1 1, 3) := dk_132 1 1 (dk_at dksX8_takes_0 20 rfl rfl)
theorem dX8_takes_23 : decode cX8_takes 23 = .ok (.goto (-21), 3) := dk_167 255 235 (dk_at dksX8_takes_1 0 rfl rfl)
theorem dX8_takes_26 : decode cX8_takes 26 = .ok (.return_, 1) := dk_177 (dk_at dksX8_takes_1 3 rfl rfl)
abbrev cX8_stepsOf : ByteArray := prog_22_method_44_code
def yX8_stepsOf : MethodName := ⟨RX8, "stepsOf", "(I)I"⟩
def dkwX8_stepsOf_0 : List UInt8 := [42, 180, 0, 83, 16, 6, 42, 180, 1, 22, 104, 27, 96, 46, 172]
abbrev dktX8_stepsOf_0 : List UInt8 := dkwX8_stepsOf_0 ++ []
theorem dksX8_stepsOf_0 : cX8_stepsOf.data.toList.drop 0 = dktX8_stepsOf_0 := by decide +kernel
theorem dX8_stepsOf_0 : decode cX8_stepsOf 0 = .ok (.aload_n 0, 1) := dk_42 (dk_at dksX8_stepsOf_0 0 rfl rfl)
theorem dX8_stepsOf_1 : decode cX8_stepsOf 1 = .ok (.getfield 83, 3) := dk_180 0 83 (dk_at dksX8_stepsOf_0 1 rfl rfl)
theorem dX8_stepsOf_4 : decode cX8_stepsOf 4 = .ok (.bipush 6, 2) := dk_16 6 (dk_at dksX8_stepsOf_0 4 rfl rfl)
theorem dX8_stepsOf_6 : decode cX8_stepsOf 6 = .ok (.aload_n 0, 1) := dk_42 (dk_at dksX8_stepsOf_0 6 rfl rfl)
theorem dX8_stepsOf_7 : decode cX8_stepsOf 7 = .ok (.getfield 278, 3) := dk_180 1 22 (dk_at dksX8_stepsOf_0 7 rfl rfl)
theorem dX8_stepsOf_10 : decode cX8_stepsOf 10 = .ok (.imul, 1) := dk_104 (dk_at dksX8_stepsOf_0 10 rfl rfl)
theorem dX8_stepsOf_11 : decode cX8_stepsOf 11 = .ok (.iload_n 1, 1) := dk_27 (dk_at dksX8_stepsOf_0 11 rfl rfl)
theorem dX8_stepsOf_12 : decode cX8_stepsOf 12 = .ok (.iadd, 1) := dk_96 (dk_at dksX8_stepsOf_0 12 rfl rfl)
theorem dX8_stepsOf_13 : decode cX8_stepsOf 13 = .ok (.iaload, 1) := dk_46 (dk_at dksX8_stepsOf_0 13 rfl rfl)
theorem dX8_stepsOf_14 : decode cX8_stepsOf 14 = .ok (.ireturn, 1) := dk_172 (dk_at dksX8_stepsOf_0 14 rfl rfl)
abbrev cX8_worthOf : ByteArray := prog_22_method_54_code
def yX8_worthOf : MethodName := ⟨RX8, "worthOf", "(I)I"⟩
def dkwX8_worthOf_4 : List UInt8 := [100, 96, 61, 132, 3, 1, 167, 255, 161, 28, 172]
abbrev dktX8_worthOf_4 : List UInt8 := dkwX8_worthOf_4 ++ []
def dkwX8_worthOf_3 : List UInt8 := [21, 5, 21, 6, 164, 0, 11, 21, 5, 21, 6, 100, 167, 0, 4, 3, 42, 180, 0, 95, 21, 4, 46, 104]
abbrev dktX8_worthOf_3 : List UInt8 := dkwX8_worthOf_3 ++ dktX8_worthOf_4
def dkwX8_worthOf_2 : List UInt8 := [28, 21, 5, 21, 6, 162, 0, 8, 21, 5, 167, 0, 5, 21, 6, 42, 180, 0, 92, 21, 4, 46, 104]
abbrev dktX8_worthOf_2 : List UInt8 := dkwX8_worthOf_2 ++ dktX8_worthOf_3
def dkwX8_worthOf_1 : List UInt8 := [180, 0, 161, 16, 6, 16, 6, 27, 104, 96, 29, 96, 46, 54, 5, 42, 180, 0, 89, 21, 4, 46, 54, 6]
abbrev dktX8_worthOf_1 : List UInt8 := dkwX8_worthOf_1 ++ dktX8_worthOf_2
def dkwX8_worthOf_0 : List UInt8 := [3, 61, 3, 62, 29, 42, 27, 182, 1, 131, 162, 0, 92, 42, 27, 29, 182, 1, 137, 54, 4, 42]
abbrev dktX8_worthOf_0 : List UInt8 := dkwX8_worthOf_0 ++ dktX8_worthOf_1
theorem dksX8_worthOf_0 : cX8_worthOf.data.toList.drop 0 = dktX8_worthOf_0 := by decide +kernel
theorem dksX8_worthOf_1 : cX8_worthOf.data.toList.drop 22 = dktX8_worthOf_1 := dk_seg dksX8_worthOf_0 22 rfl rfl
theorem dksX8_worthOf_2 : cX8_worthOf.data.toList.drop 46 = dktX8_worthOf_2 := dk_seg dksX8_worthOf_1 24 rfl rfl
theorem dksX8_worthOf_3 : cX8_worthOf.data.toList.drop 69 = dktX8_worthOf_3 := dk_seg dksX8_worthOf_2 23 rfl rfl
theorem dksX8_worthOf_4 : cX8_worthOf.data.toList.drop 93 = dktX8_worthOf_4 := dk_seg dksX8_worthOf_3 24 rfl rfl
theorem dX8_worthOf_0 : decode cX8_worthOf 0 = .ok (.iconst 0, 1) := dk_3 (dk_at dksX8_worthOf_0 0 rfl rfl)
theorem dX8_worthOf_1 : decode cX8_worthOf 1 = .ok (.istore_n 2, 1) := dk_61 (dk_at dksX8_worthOf_0 1 rfl rfl)
theorem dX8_worthOf_2 : decode cX8_worthOf 2 = .ok (.iconst 0, 1) := dk_3 (dk_at dksX8_worthOf_0 2 rfl rfl)
theorem dX8_worthOf_3 : decode cX8_worthOf 3 = .ok (.istore_n 3, 1) := dk_62 (dk_at dksX8_worthOf_0 3 rfl rfl)
theorem dX8_worthOf_4 : decode cX8_worthOf 4 = .ok (.iload_n 3, 1) := dk_29 (dk_at dksX8_worthOf_0 4 rfl rfl)
theorem dX8_worthOf_5 : decode cX8_worthOf 5 = .ok (.aload_n 0, 1) := dk_42 (dk_at dksX8_worthOf_0 5 rfl rfl)
theorem dX8_worthOf_6 : decode cX8_worthOf 6 = .ok (.iload_n 1, 1) := dk_27 (dk_at dksX8_worthOf_0 6 rfl rfl)
theorem dX8_worthOf_7 : decode cX8_worthOf 7 = .ok (.invokevirtual 387, 3) := dk_182 1 131 (dk_at dksX8_worthOf_0 7 rfl rfl)
theorem dX8_worthOf_10 : decode cX8_worthOf 10 = .ok (.if_icmp .ge 92, 3) := dk_162 0 92 (dk_at dksX8_worthOf_0 10 rfl rfl)
theorem dX8_worthOf_13 : decode cX8_worthOf 13 = .ok (.aload_n 0, 1) := dk_42 (dk_at dksX8_worthOf_0 13 rfl rfl)
theorem dX8_worthOf_14 : decode cX8_worthOf 14 = .ok (.iload_n 1, 1) := dk_27 (dk_at dksX8_worthOf_0 14 rfl rfl)
theorem dX8_worthOf_15 : decode cX8_worthOf 15 = .ok (.iload_n 3, 1) := dk_29 (dk_at dksX8_worthOf_0 15 rfl rfl)
theorem dX8_worthOf_16 : decode cX8_worthOf 16 = .ok (.invokevirtual 393, 3) := dk_182 1 137 (dk_at dksX8_worthOf_0 16 rfl rfl)
theorem dX8_worthOf_19 : decode cX8_worthOf 19 = .ok (.istore 4, 2) := dk_54 4 (dk_at dksX8_worthOf_0 19 rfl rfl)
theorem dX8_worthOf_21 : decode cX8_worthOf 21 = .ok (.aload_n 0, 1) := dk_42 (dk_at dksX8_worthOf_0 21 rfl rfl)
theorem dX8_worthOf_22 : decode cX8_worthOf 22 = .ok (.getfield 161, 3) := dk_180 0 161 (dk_at dksX8_worthOf_1 0 rfl rfl)
theorem dX8_worthOf_25 : decode cX8_worthOf 25 = .ok (.bipush 6, 2) := dk_16 6 (dk_at dksX8_worthOf_1 3 rfl rfl)
theorem dX8_worthOf_27 : decode cX8_worthOf 27 = .ok (.bipush 6, 2) := dk_16 6 (dk_at dksX8_worthOf_1 5 rfl rfl)
theorem dX8_worthOf_29 : decode cX8_worthOf 29 = .ok (.iload_n 1, 1) := dk_27 (dk_at dksX8_worthOf_1 7 rfl rfl)
theorem dX8_worthOf_30 : decode cX8_worthOf 30 = .ok (.imul, 1) := dk_104 (dk_at dksX8_worthOf_1 8 rfl rfl)
theorem dX8_worthOf_31 : decode cX8_worthOf 31 = .ok (.iadd, 1) := dk_96 (dk_at dksX8_worthOf_1 9 rfl rfl)
theorem dX8_worthOf_32 : decode cX8_worthOf 32 = .ok (.iload_n 3, 1) := dk_29 (dk_at dksX8_worthOf_1 10 rfl rfl)
theorem dX8_worthOf_33 : decode cX8_worthOf 33 = .ok (.iadd, 1) := dk_96 (dk_at dksX8_worthOf_1 11 rfl rfl)
theorem dX8_worthOf_34 : decode cX8_worthOf 34 = .ok (.iaload, 1) := dk_46 (dk_at dksX8_worthOf_1 12 rfl rfl)
theorem dX8_worthOf_35 : decode cX8_worthOf 35 = .ok (.istore 5, 2) := dk_54 5 (dk_at dksX8_worthOf_1 13 rfl rfl)
theorem dX8_worthOf_37 : decode cX8_worthOf 37 = .ok (.aload_n 0, 1) := dk_42 (dk_at dksX8_worthOf_1 15 rfl rfl)
theorem dX8_worthOf_38 : decode cX8_worthOf 38 = .ok (.getfield 89, 3) := dk_180 0 89 (dk_at dksX8_worthOf_1 16 rfl rfl)
theorem dX8_worthOf_41 : decode cX8_worthOf 41 = .ok (.iload 4, 2) := dk_21 4 (dk_at dksX8_worthOf_1 19 rfl rfl)
theorem dX8_worthOf_43 : decode cX8_worthOf 43 = .ok (.iaload, 1) := dk_46 (dk_at dksX8_worthOf_1 21 rfl rfl)
theorem dX8_worthOf_44 : decode cX8_worthOf 44 = .ok (.istore 6, 2) := dk_54 6 (dk_at dksX8_worthOf_1 22 rfl rfl)
theorem dX8_worthOf_46 : decode cX8_worthOf 46 = .ok (.iload_n 2, 1) := dk_28 (dk_at dksX8_worthOf_2 0 rfl rfl)
theorem dX8_worthOf_47 : decode cX8_worthOf 47 = .ok (.iload 5, 2) := dk_21 5 (dk_at dksX8_worthOf_2 1 rfl rfl)
theorem dX8_worthOf_49 : decode cX8_worthOf 49 = .ok (.iload 6, 2) := dk_21 6 (dk_at dksX8_worthOf_2 3 rfl rfl)
theorem dX8_worthOf_51 : decode cX8_worthOf 51 = .ok (.if_icmp .ge 8, 3) := dk_162 0 8 (dk_at dksX8_worthOf_2 5 rfl rfl)
theorem dX8_worthOf_54 : decode cX8_worthOf 54 = .ok (.iload 5, 2) := dk_21 5 (dk_at dksX8_worthOf_2 8 rfl rfl)
theorem dX8_worthOf_56 : decode cX8_worthOf 56 = .ok (.goto 5, 3) := dk_167 0 5 (dk_at dksX8_worthOf_2 10 rfl rfl)
theorem dX8_worthOf_59 : decode cX8_worthOf 59 = .ok (.iload 6, 2) := dk_21 6 (dk_at dksX8_worthOf_2 13 rfl rfl)
theorem dX8_worthOf_61 : decode cX8_worthOf 61 = .ok (.aload_n 0, 1) := dk_42 (dk_at dksX8_worthOf_2 15 rfl rfl)
theorem dX8_worthOf_62 : decode cX8_worthOf 62 = .ok (.getfield 92, 3) := dk_180 0 92 (dk_at dksX8_worthOf_2 16 rfl rfl)
theorem dX8_worthOf_65 : decode cX8_worthOf 65 = .ok (.iload 4, 2) := dk_21 4 (dk_at dksX8_worthOf_2 19 rfl rfl)
theorem dX8_worthOf_67 : decode cX8_worthOf 67 = .ok (.iaload, 1) := dk_46 (dk_at dksX8_worthOf_2 21 rfl rfl)
theorem dX8_worthOf_68 : decode cX8_worthOf 68 = .ok (.imul, 1) := dk_104 (dk_at dksX8_worthOf_2 22 rfl rfl)
theorem dX8_worthOf_69 : decode cX8_worthOf 69 = .ok (.iload 5, 2) := dk_21 5 (dk_at dksX8_worthOf_3 0 rfl rfl)
theorem dX8_worthOf_71 : decode cX8_worthOf 71 = .ok (.iload 6, 2) := dk_21 6 (dk_at dksX8_worthOf_3 2 rfl rfl)
theorem dX8_worthOf_73 : decode cX8_worthOf 73 = .ok (.if_icmp .le 11, 3) := dk_164 0 11 (dk_at dksX8_worthOf_3 4 rfl rfl)
theorem dX8_worthOf_76 : decode cX8_worthOf 76 = .ok (.iload 5, 2) := dk_21 5 (dk_at dksX8_worthOf_3 7 rfl rfl)
theorem dX8_worthOf_78 : decode cX8_worthOf 78 = .ok (.iload 6, 2) := dk_21 6 (dk_at dksX8_worthOf_3 9 rfl rfl)
theorem dX8_worthOf_80 : decode cX8_worthOf 80 = .ok (.isub, 1) := dk_100 (dk_at dksX8_worthOf_3 11 rfl rfl)
theorem dX8_worthOf_81 : decode cX8_worthOf 81 = .ok (.goto 4, 3) := dk_167 0 4 (dk_at dksX8_worthOf_3 12 rfl rfl)
theorem dX8_worthOf_84 : decode cX8_worthOf 84 = .ok (.iconst 0, 1) := dk_3 (dk_at dksX8_worthOf_3 15 rfl rfl)
theorem dX8_worthOf_85 : decode cX8_worthOf 85 = .ok (.aload_n 0, 1) := dk_42 (dk_at dksX8_worthOf_3 16 rfl rfl)
theorem dX8_worthOf_86 : decode cX8_worthOf 86 = .ok (.getfield 95, 3) := dk_180 0 95 (dk_at dksX8_worthOf_3 17 rfl rfl)
theorem dX8_worthOf_89 : decode cX8_worthOf 89 = .ok (.iload 4, 2) := dk_21 4 (dk_at dksX8_worthOf_3 20 rfl rfl)
theorem dX8_worthOf_91 : decode cX8_worthOf 91 = .ok (.iaload, 1) := dk_46 (dk_at dksX8_worthOf_3 22 rfl rfl)
theorem dX8_worthOf_92 : decode cX8_worthOf 92 = .ok (.imul, 1) := dk_104 (dk_at dksX8_worthOf_3 23 rfl rfl)
theorem dX8_worthOf_93 : decode cX8_worthOf 93 = .ok (.isub, 1) := dk_100 (dk_at dksX8_worthOf_4 0 rfl rfl)
theorem dX8_worthOf_94 : decode cX8_worthOf 94 = .ok (.iadd, 1) := dk_96 (dk_at dksX8_worthOf_4 1 rfl rfl)
theorem dX8_worthOf_95 : decode cX8_worthOf 95 = .ok (.istore_n 2, 1) := dk_61 (dk_at dksX8_worthOf_4 2 rfl rfl)
theorem dX8_worthOf_96 : decode cX8_worthOf 96 = .ok (.iinc 3 1, 3) := dk_132 3 1 (dk_at dksX8_worthOf_4 3 rfl rfl)
theorem dX8_worthOf_99 : decode cX8_worthOf 99 = .ok (.goto (-95), 3) := dk_167 255 161 (dk_at dksX8_worthOf_4 6 rfl rfl)
theorem dX8_worthOf_102 : decode cX8_worthOf 102 = .ok (.iload_n 2, 1) := dk_28 (dk_at dksX8_worthOf_4 9 rfl rfl)
theorem dX8_worthOf_103 : decode cX8_worthOf 103 = .ok (.ireturn, 1) := dk_172 (dk_at dksX8_worthOf_4 10 rfl rfl)
abbrev cX8_stepAt : ByteArray := prog_22_method_45_code
def yX8_stepAt : MethodName := ⟨RX8, "stepAt", "(II)I"⟩
def dkwX8_stepAt_0 : List UInt8 := [16, 6, 16, 6, 42, 180, 1, 22, 104, 27, 96, 104, 28, 96, 172]
abbrev dktX8_stepAt_0 : List UInt8 := dkwX8_stepAt_0 ++ []
theorem dksX8_stepAt_0 : cX8_stepAt.data.toList.drop 0 = dktX8_stepAt_0 := by decide +kernel
theorem dX8_stepAt_0 : decode cX8_stepAt 0 = .ok (.bipush 6, 2) := dk_16 6 (dk_at dksX8_stepAt_0 0 rfl rfl)
theorem dX8_stepAt_2 : decode cX8_stepAt 2 = .ok (.bipush 6, 2) := dk_16 6 (dk_at dksX8_stepAt_0 2 rfl rfl)
theorem dX8_stepAt_4 : decode cX8_stepAt 4 = .ok (.aload_n 0, 1) := dk_42 (dk_at dksX8_stepAt_0 4 rfl rfl)
theorem dX8_stepAt_5 : decode cX8_stepAt 5 = .ok (.getfield 278, 3) := dk_180 1 22 (dk_at dksX8_stepAt_0 5 rfl rfl)
theorem dX8_stepAt_8 : decode cX8_stepAt 8 = .ok (.imul, 1) := dk_104 (dk_at dksX8_stepAt_0 8 rfl rfl)
theorem dX8_stepAt_9 : decode cX8_stepAt 9 = .ok (.iload_n 1, 1) := dk_27 (dk_at dksX8_stepAt_0 9 rfl rfl)
theorem dX8_stepAt_10 : decode cX8_stepAt 10 = .ok (.iadd, 1) := dk_96 (dk_at dksX8_stepAt_0 10 rfl rfl)
theorem dX8_stepAt_11 : decode cX8_stepAt 11 = .ok (.imul, 1) := dk_104 (dk_at dksX8_stepAt_0 11 rfl rfl)
theorem dX8_stepAt_12 : decode cX8_stepAt 12 = .ok (.iload_n 2, 1) := dk_28 (dk_at dksX8_stepAt_0 12 rfl rfl)
theorem dX8_stepAt_13 : decode cX8_stepAt 13 = .ok (.iadd, 1) := dk_96 (dk_at dksX8_stepAt_0 13 rfl rfl)
theorem dX8_stepAt_14 : decode cX8_stepAt 14 = .ok (.ireturn, 1) := dk_172 (dk_at dksX8_stepAt_0 14 rfl rfl)
abbrev cX8_isEnded : ByteArray := prog_22_method_53_code
def yX8_isEnded : MethodName := ⟨RX8, "isEnded", "(I)Z"⟩
def dkwX8_isEnded_2 : List UInt8 := [172]
abbrev dktX8_isEnded_2 : List UInt8 := dkwX8_isEnded_2 ++ []
def dkwX8_isEnded_1 : List UInt8 := [46, 42, 180, 0, 89, 42, 27, 28, 182, 1, 137, 46, 162, 0, 5, 3, 172, 132, 2, 1, 167, 255, 214, 4]
abbrev dktX8_isEnded_1 : List UInt8 := dkwX8_isEnded_1 ++ dktX8_isEnded_2
def dkwX8_isEnded_0 : List UInt8 := [3, 61, 28, 42, 27, 182, 1, 131, 162, 0, 39, 42, 180, 0, 161, 16, 6, 16, 6, 27, 104, 96, 28, 96]
abbrev dktX8_isEnded_0 : List UInt8 := dkwX8_isEnded_0 ++ dktX8_isEnded_1
theorem dksX8_isEnded_0 : cX8_isEnded.data.toList.drop 0 = dktX8_isEnded_0 := by decide +kernel
theorem dksX8_isEnded_1 : cX8_isEnded.data.toList.drop 24 = dktX8_isEnded_1 := dk_seg dksX8_isEnded_0 24 rfl rfl
theorem dksX8_isEnded_2 : cX8_isEnded.data.toList.drop 48 = dktX8_isEnded_2 := dk_seg dksX8_isEnded_1 24 rfl rfl
theorem dX8_isEnded_0 : decode cX8_isEnded 0 = .ok (.iconst 0, 1) := dk_3 (dk_at dksX8_isEnded_0 0 rfl rfl)
theorem dX8_isEnded_1 : decode cX8_isEnded 1 = .ok (.istore_n 2, 1) := dk_61 (dk_at dksX8_isEnded_0 1 rfl rfl)
theorem dX8_isEnded_2 : decode cX8_isEnded 2 = .ok (.iload_n 2, 1) := dk_28 (dk_at dksX8_isEnded_0 2 rfl rfl)
theorem dX8_isEnded_3 : decode cX8_isEnded 3 = .ok (.aload_n 0, 1) := dk_42 (dk_at dksX8_isEnded_0 3 rfl rfl)
theorem dX8_isEnded_4 : decode cX8_isEnded 4 = .ok (.iload_n 1, 1) := dk_27 (dk_at dksX8_isEnded_0 4 rfl rfl)
theorem dX8_isEnded_5 : decode cX8_isEnded 5 = .ok (.invokevirtual 387, 3) := dk_182 1 131 (dk_at dksX8_isEnded_0 5 rfl rfl)
theorem dX8_isEnded_8 : decode cX8_isEnded 8 = .ok (.if_icmp .ge 39, 3) := dk_162 0 39 (dk_at dksX8_isEnded_0 8 rfl rfl)
theorem dX8_isEnded_11 : decode cX8_isEnded 11 = .ok (.aload_n 0, 1) := dk_42 (dk_at dksX8_isEnded_0 11 rfl rfl)
theorem dX8_isEnded_12 : decode cX8_isEnded 12 = .ok (.getfield 161, 3) := dk_180 0 161 (dk_at dksX8_isEnded_0 12 rfl rfl)
theorem dX8_isEnded_15 : decode cX8_isEnded 15 = .ok (.bipush 6, 2) := dk_16 6 (dk_at dksX8_isEnded_0 15 rfl rfl)
theorem dX8_isEnded_17 : decode cX8_isEnded 17 = .ok (.bipush 6, 2) := dk_16 6 (dk_at dksX8_isEnded_0 17 rfl rfl)
theorem dX8_isEnded_19 : decode cX8_isEnded 19 = .ok (.iload_n 1, 1) := dk_27 (dk_at dksX8_isEnded_0 19 rfl rfl)
theorem dX8_isEnded_20 : decode cX8_isEnded 20 = .ok (.imul, 1) := dk_104 (dk_at dksX8_isEnded_0 20 rfl rfl)
theorem dX8_isEnded_21 : decode cX8_isEnded 21 = .ok (.iadd, 1) := dk_96 (dk_at dksX8_isEnded_0 21 rfl rfl)
theorem dX8_isEnded_22 : decode cX8_isEnded 22 = .ok (.iload_n 2, 1) := dk_28 (dk_at dksX8_isEnded_0 22 rfl rfl)
theorem dX8_isEnded_23 : decode cX8_isEnded 23 = .ok (.iadd, 1) := dk_96 (dk_at dksX8_isEnded_0 23 rfl rfl)
theorem dX8_isEnded_24 : decode cX8_isEnded 24 = .ok (.iaload, 1) := dk_46 (dk_at dksX8_isEnded_1 0 rfl rfl)
theorem dX8_isEnded_25 : decode cX8_isEnded 25 = .ok (.aload_n 0, 1) := dk_42 (dk_at dksX8_isEnded_1 1 rfl rfl)
theorem dX8_isEnded_26 : decode cX8_isEnded 26 = .ok (.getfield 89, 3) := dk_180 0 89 (dk_at dksX8_isEnded_1 2 rfl rfl)
theorem dX8_isEnded_29 : decode cX8_isEnded 29 = .ok (.aload_n 0, 1) := dk_42 (dk_at dksX8_isEnded_1 5 rfl rfl)
theorem dX8_isEnded_30 : decode cX8_isEnded 30 = .ok (.iload_n 1, 1) := dk_27 (dk_at dksX8_isEnded_1 6 rfl rfl)
theorem dX8_isEnded_31 : decode cX8_isEnded 31 = .ok (.iload_n 2, 1) := dk_28 (dk_at dksX8_isEnded_1 7 rfl rfl)
theorem dX8_isEnded_32 : decode cX8_isEnded 32 = .ok (.invokevirtual 393, 3) := dk_182 1 137 (dk_at dksX8_isEnded_1 8 rfl rfl)
theorem dX8_isEnded_35 : decode cX8_isEnded 35 = .ok (.iaload, 1) := dk_46 (dk_at dksX8_isEnded_1 11 rfl rfl)
theorem dX8_isEnded_36 : decode cX8_isEnded 36 = .ok (.if_icmp .ge 5, 3) := dk_162 0 5 (dk_at dksX8_isEnded_1 12 rfl rfl)
theorem dX8_isEnded_39 : decode cX8_isEnded 39 = .ok (.iconst 0, 1) := dk_3 (dk_at dksX8_isEnded_1 15 rfl rfl)
theorem dX8_isEnded_40 : decode cX8_isEnded 40 = .ok (.ireturn, 1) := dk_172 (dk_at dksX8_isEnded_1 16 rfl rfl)
theorem dX8_isEnded_41 : decode cX8_isEnded 41 = .ok (.iinc 2 1, 3) := dk_132 2 1 (dk_at dksX8_isEnded_1 17 rfl rfl)
theorem dX8_isEnded_44 : decode cX8_isEnded 44 = .ok (.goto (-42), 3) := dk_167 255 214 (dk_at dksX8_isEnded_1 20 rfl rfl)
theorem dX8_isEnded_47 : decode cX8_isEnded 47 = .ok (.iconst 1, 1) := dk_4 (dk_at dksX8_isEnded_1 23 rfl rfl)
theorem dX8_isEnded_48 : decode cX8_isEnded 48 = .ok (.ireturn, 1) := dk_172 (dk_at dksX8_isEnded_2 0 rfl rfl)
abbrev cX8_step : ByteArray := prog_22_method_68_code
def yX8_step : MethodName := ⟨RX8, "step", "(III)I"⟩
def dkwX8_step_4 : List UInt8 := [180, 0, 98, 21, 4, 46, 184, 1, 187, 172, 42, 180, 0, 101, 21, 4, 46, 184, 1, 187, 172, 2, 172]
abbrev dktX8_step_4 : List UInt8 := dkwX8_step_4 ++ []
def dkwX8_step_3 : List UInt8 := [180, 0, 89, 21, 4, 46, 172, 42, 180, 0, 92, 21, 4, 46, 172, 42, 180, 0, 95, 21, 4, 46, 172, 42]
abbrev dktX8_step_3 : List UInt8 := dkwX8_step_3 ++ dktX8_step_4
def dkwX8_step_2 : List UInt8 := [42, 180, 0, 158, 16, 6, 16, 6, 27, 104, 96, 28, 96, 46, 172, 42, 180, 0, 86, 21, 4, 46, 172, 42]
abbrev dktX8_step_2 : List UInt8 := dkwX8_step_2 ++ dktX8_step_3
def dkwX8_step_1 : List UInt8 := [170, 0, 0, 0, 0, 0, 0, 113, 0, 0, 0, 0, 0, 0, 0, 6, 0, 0, 0, 44, 0, 0, 0, 59, 0, 0, 0, 67, 0, 0, 0, 75, 0, 0, 0, 83, 0, 0, 0, 91, 0, 0, 0, 102]
abbrev dktX8_step_1 : List UInt8 := dkwX8_step_1 ++ dktX8_step_2
def dkwX8_step_0 : List UInt8 := [42, 27, 28, 182, 1, 184, 154, 0, 5, 2, 172, 42, 27, 28, 182, 1, 137, 54, 4, 29]
abbrev dktX8_step_0 : List UInt8 := dkwX8_step_0 ++ dktX8_step_1
theorem dksX8_step_0 : cX8_step.data.toList.drop 0 = dktX8_step_0 := by decide +kernel
theorem dksX8_step_1 : cX8_step.data.toList.drop 20 = dktX8_step_1 := dk_seg dksX8_step_0 20 rfl rfl
theorem dksX8_step_2 : cX8_step.data.toList.drop 64 = dktX8_step_2 := dk_seg dksX8_step_1 44 rfl rfl
theorem dksX8_step_3 : cX8_step.data.toList.drop 88 = dktX8_step_3 := dk_seg dksX8_step_2 24 rfl rfl
theorem dksX8_step_4 : cX8_step.data.toList.drop 112 = dktX8_step_4 := dk_seg dksX8_step_3 24 rfl rfl
theorem dX8_step_0 : decode cX8_step 0 = .ok (.aload_n 0, 1) := dk_42 (dk_at dksX8_step_0 0 rfl rfl)
theorem dX8_step_1 : decode cX8_step 1 = .ok (.iload_n 1, 1) := dk_27 (dk_at dksX8_step_0 1 rfl rfl)
theorem dX8_step_2 : decode cX8_step 2 = .ok (.iload_n 2, 1) := dk_28 (dk_at dksX8_step_0 2 rfl rfl)
theorem dX8_step_3 : decode cX8_step 3 = .ok (.invokevirtual 440, 3) := dk_182 1 184 (dk_at dksX8_step_0 3 rfl rfl)
theorem dX8_step_6 : decode cX8_step 6 = .ok (.ifCond .ne 5, 3) := dk_154 0 5 (dk_at dksX8_step_0 6 rfl rfl)
theorem dX8_step_9 : decode cX8_step 9 = .ok (.iconst (-1), 1) := dk_2 (dk_at dksX8_step_0 9 rfl rfl)
theorem dX8_step_10 : decode cX8_step 10 = .ok (.ireturn, 1) := dk_172 (dk_at dksX8_step_0 10 rfl rfl)
theorem dX8_step_11 : decode cX8_step 11 = .ok (.aload_n 0, 1) := dk_42 (dk_at dksX8_step_0 11 rfl rfl)
theorem dX8_step_12 : decode cX8_step 12 = .ok (.iload_n 1, 1) := dk_27 (dk_at dksX8_step_0 12 rfl rfl)
theorem dX8_step_13 : decode cX8_step 13 = .ok (.iload_n 2, 1) := dk_28 (dk_at dksX8_step_0 13 rfl rfl)
theorem dX8_step_14 : decode cX8_step 14 = .ok (.invokevirtual 393, 3) := dk_182 1 137 (dk_at dksX8_step_0 14 rfl rfl)
theorem dX8_step_17 : decode cX8_step 17 = .ok (.istore 4, 2) := dk_54 4 (dk_at dksX8_step_0 17 rfl rfl)
theorem dX8_step_19 : decode cX8_step 19 = .ok (.iload_n 3, 1) := dk_29 (dk_at dksX8_step_0 19 rfl rfl)
theorem dX8_step_20 : decode cX8_step 20 = .ok (.tableswitch 113 0 6 #[44, 59, 67, 75, 83, 91, 102], 44) := by decide +kernel
theorem dX8_step_64 : decode cX8_step 64 = .ok (.aload_n 0, 1) := dk_42 (dk_at dksX8_step_2 0 rfl rfl)
theorem dX8_step_65 : decode cX8_step 65 = .ok (.getfield 158, 3) := dk_180 0 158 (dk_at dksX8_step_2 1 rfl rfl)
theorem dX8_step_68 : decode cX8_step 68 = .ok (.bipush 6, 2) := dk_16 6 (dk_at dksX8_step_2 4 rfl rfl)
theorem dX8_step_70 : decode cX8_step 70 = .ok (.bipush 6, 2) := dk_16 6 (dk_at dksX8_step_2 6 rfl rfl)
theorem dX8_step_72 : decode cX8_step 72 = .ok (.iload_n 1, 1) := dk_27 (dk_at dksX8_step_2 8 rfl rfl)
theorem dX8_step_73 : decode cX8_step 73 = .ok (.imul, 1) := dk_104 (dk_at dksX8_step_2 9 rfl rfl)
theorem dX8_step_74 : decode cX8_step 74 = .ok (.iadd, 1) := dk_96 (dk_at dksX8_step_2 10 rfl rfl)
theorem dX8_step_75 : decode cX8_step 75 = .ok (.iload_n 2, 1) := dk_28 (dk_at dksX8_step_2 11 rfl rfl)
theorem dX8_step_76 : decode cX8_step 76 = .ok (.iadd, 1) := dk_96 (dk_at dksX8_step_2 12 rfl rfl)
theorem dX8_step_77 : decode cX8_step 77 = .ok (.iaload, 1) := dk_46 (dk_at dksX8_step_2 13 rfl rfl)
theorem dX8_step_78 : decode cX8_step 78 = .ok (.ireturn, 1) := dk_172 (dk_at dksX8_step_2 14 rfl rfl)
theorem dX8_step_79 : decode cX8_step 79 = .ok (.aload_n 0, 1) := dk_42 (dk_at dksX8_step_2 15 rfl rfl)
theorem dX8_step_80 : decode cX8_step 80 = .ok (.getfield 86, 3) := dk_180 0 86 (dk_at dksX8_step_2 16 rfl rfl)
theorem dX8_step_83 : decode cX8_step 83 = .ok (.iload 4, 2) := dk_21 4 (dk_at dksX8_step_2 19 rfl rfl)
theorem dX8_step_85 : decode cX8_step 85 = .ok (.iaload, 1) := dk_46 (dk_at dksX8_step_2 21 rfl rfl)
theorem dX8_step_86 : decode cX8_step 86 = .ok (.ireturn, 1) := dk_172 (dk_at dksX8_step_2 22 rfl rfl)
theorem dX8_step_87 : decode cX8_step 87 = .ok (.aload_n 0, 1) := dk_42 (dk_at dksX8_step_2 23 rfl rfl)
theorem dX8_step_88 : decode cX8_step 88 = .ok (.getfield 89, 3) := dk_180 0 89 (dk_at dksX8_step_3 0 rfl rfl)
theorem dX8_step_91 : decode cX8_step 91 = .ok (.iload 4, 2) := dk_21 4 (dk_at dksX8_step_3 3 rfl rfl)
theorem dX8_step_93 : decode cX8_step 93 = .ok (.iaload, 1) := dk_46 (dk_at dksX8_step_3 5 rfl rfl)
theorem dX8_step_94 : decode cX8_step 94 = .ok (.ireturn, 1) := dk_172 (dk_at dksX8_step_3 6 rfl rfl)
theorem dX8_step_95 : decode cX8_step 95 = .ok (.aload_n 0, 1) := dk_42 (dk_at dksX8_step_3 7 rfl rfl)
theorem dX8_step_96 : decode cX8_step 96 = .ok (.getfield 92, 3) := dk_180 0 92 (dk_at dksX8_step_3 8 rfl rfl)
theorem dX8_step_99 : decode cX8_step 99 = .ok (.iload 4, 2) := dk_21 4 (dk_at dksX8_step_3 11 rfl rfl)
theorem dX8_step_101 : decode cX8_step 101 = .ok (.iaload, 1) := dk_46 (dk_at dksX8_step_3 13 rfl rfl)
theorem dX8_step_102 : decode cX8_step 102 = .ok (.ireturn, 1) := dk_172 (dk_at dksX8_step_3 14 rfl rfl)
theorem dX8_step_103 : decode cX8_step 103 = .ok (.aload_n 0, 1) := dk_42 (dk_at dksX8_step_3 15 rfl rfl)
theorem dX8_step_104 : decode cX8_step 104 = .ok (.getfield 95, 3) := dk_180 0 95 (dk_at dksX8_step_3 16 rfl rfl)
theorem dX8_step_107 : decode cX8_step 107 = .ok (.iload 4, 2) := dk_21 4 (dk_at dksX8_step_3 19 rfl rfl)
theorem dX8_step_109 : decode cX8_step 109 = .ok (.iaload, 1) := dk_46 (dk_at dksX8_step_3 21 rfl rfl)
theorem dX8_step_110 : decode cX8_step 110 = .ok (.ireturn, 1) := dk_172 (dk_at dksX8_step_3 22 rfl rfl)
theorem dX8_step_111 : decode cX8_step 111 = .ok (.aload_n 0, 1) := dk_42 (dk_at dksX8_step_3 23 rfl rfl)
theorem dX8_step_112 : decode cX8_step 112 = .ok (.getfield 98, 3) := dk_180 0 98 (dk_at dksX8_step_4 0 rfl rfl)
theorem dX8_step_115 : decode cX8_step 115 = .ok (.iload 4, 2) := dk_21 4 (dk_at dksX8_step_4 3 rfl rfl)
theorem dX8_step_117 : decode cX8_step 117 = .ok (.iaload, 1) := dk_46 (dk_at dksX8_step_4 5 rfl rfl)
theorem dX8_step_118 : decode cX8_step 118 = .ok (.invokestatic 443, 3) := dk_184 1 187 (dk_at dksX8_step_4 6 rfl rfl)
theorem dX8_step_121 : decode cX8_step 121 = .ok (.ireturn, 1) := dk_172 (dk_at dksX8_step_4 9 rfl rfl)
theorem dX8_step_122 : decode cX8_step 122 = .ok (.aload_n 0, 1) := dk_42 (dk_at dksX8_step_4 10 rfl rfl)
theorem dX8_step_123 : decode cX8_step 123 = .ok (.getfield 101, 3) := dk_180 0 101 (dk_at dksX8_step_4 11 rfl rfl)
theorem dX8_step_126 : decode cX8_step 126 = .ok (.iload 4, 2) := dk_21 4 (dk_at dksX8_step_4 14 rfl rfl)
theorem dX8_step_128 : decode cX8_step 128 = .ok (.iaload, 1) := dk_46 (dk_at dksX8_step_4 16 rfl rfl)
theorem dX8_step_129 : decode cX8_step 129 = .ok (.invokestatic 443, 3) := dk_184 1 187 (dk_at dksX8_step_4 17 rfl rfl)
theorem dX8_step_132 : decode cX8_step 132 = .ok (.ireturn, 1) := dk_172 (dk_at dksX8_step_4 20 rfl rfl)
theorem dX8_step_133 : decode cX8_step 133 = .ok (.iconst (-1), 1) := dk_2 (dk_at dksX8_step_4 21 rfl rfl)
theorem dX8_step_134 : decode cX8_step 134 = .ok (.ireturn, 1) := dk_172 (dk_at dksX8_step_4 22 rfl rfl)
abbrev cX8_isStep : ByteArray := prog_22_method_47_code
def yX8_isStep : MethodName := ⟨RX8, "isStep", "(II)Z"⟩
def dkwX8_isStep_1 : List UInt8 := [167, 0, 4, 3, 172]
abbrev dktX8_isStep_1 : List UInt8 := dkwX8_isStep_1 ++ []
def dkwX8_isStep_0 : List UInt8 := [42, 27, 182, 1, 128, 153, 0, 22, 28, 3, 42, 27, 182, 1, 131, 4, 100, 184, 1, 124, 153, 0, 7, 4]
abbrev dktX8_isStep_0 : List UInt8 := dkwX8_isStep_0 ++ dktX8_isStep_1
theorem dksX8_isStep_0 : cX8_isStep.data.toList.drop 0 = dktX8_isStep_0 := by decide +kernel
theorem dksX8_isStep_1 : cX8_isStep.data.toList.drop 24 = dktX8_isStep_1 := dk_seg dksX8_isStep_0 24 rfl rfl
theorem dX8_isStep_0 : decode cX8_isStep 0 = .ok (.aload_n 0, 1) := dk_42 (dk_at dksX8_isStep_0 0 rfl rfl)
theorem dX8_isStep_1 : decode cX8_isStep 1 = .ok (.iload_n 1, 1) := dk_27 (dk_at dksX8_isStep_0 1 rfl rfl)
theorem dX8_isStep_2 : decode cX8_isStep 2 = .ok (.invokevirtual 384, 3) := dk_182 1 128 (dk_at dksX8_isStep_0 2 rfl rfl)
theorem dX8_isStep_5 : decode cX8_isStep 5 = .ok (.ifCond .eq 22, 3) := dk_153 0 22 (dk_at dksX8_isStep_0 5 rfl rfl)
theorem dX8_isStep_8 : decode cX8_isStep 8 = .ok (.iload_n 2, 1) := dk_28 (dk_at dksX8_isStep_0 8 rfl rfl)
theorem dX8_isStep_9 : decode cX8_isStep 9 = .ok (.iconst 0, 1) := dk_3 (dk_at dksX8_isStep_0 9 rfl rfl)
theorem dX8_isStep_10 : decode cX8_isStep 10 = .ok (.aload_n 0, 1) := dk_42 (dk_at dksX8_isStep_0 10 rfl rfl)
theorem dX8_isStep_11 : decode cX8_isStep 11 = .ok (.iload_n 1, 1) := dk_27 (dk_at dksX8_isStep_0 11 rfl rfl)
theorem dX8_isStep_12 : decode cX8_isStep 12 = .ok (.invokevirtual 387, 3) := dk_182 1 131 (dk_at dksX8_isStep_0 12 rfl rfl)
theorem dX8_isStep_15 : decode cX8_isStep 15 = .ok (.iconst 1, 1) := dk_4 (dk_at dksX8_isStep_0 15 rfl rfl)
theorem dX8_isStep_16 : decode cX8_isStep 16 = .ok (.isub, 1) := dk_100 (dk_at dksX8_isStep_0 16 rfl rfl)
theorem dX8_isStep_17 : decode cX8_isStep 17 = .ok (.invokestatic 380, 3) := dk_184 1 124 (dk_at dksX8_isStep_0 17 rfl rfl)
theorem dX8_isStep_20 : decode cX8_isStep 20 = .ok (.ifCond .eq 7, 3) := dk_153 0 7 (dk_at dksX8_isStep_0 20 rfl rfl)
theorem dX8_isStep_23 : decode cX8_isStep 23 = .ok (.iconst 1, 1) := dk_4 (dk_at dksX8_isStep_0 23 rfl rfl)
theorem dX8_isStep_24 : decode cX8_isStep 24 = .ok (.goto 4, 3) := dk_167 0 4 (dk_at dksX8_isStep_1 0 rfl rfl)
theorem dX8_isStep_27 : decode cX8_isStep 27 = .ok (.iconst 0, 1) := dk_3 (dk_at dksX8_isStep_1 3 rfl rfl)
theorem dX8_isStep_28 : decode cX8_isStep 28 = .ok (.ireturn, 1) := dk_172 (dk_at dksX8_isStep_1 4 rfl rfl)
abbrev cX8_orNone : ByteArray := prog_22_method_67_code
def yX8_orNone : MethodName := ⟨RX8, "orNone", "(I)I"⟩
def dkwX8_orNone_0 : List UInt8 := [26, 156, 0, 8, 16, 254, 167, 0, 4, 26, 172]
abbrev dktX8_orNone_0 : List UInt8 := dkwX8_orNone_0 ++ []
theorem dksX8_orNone_0 : cX8_orNone.data.toList.drop 0 = dktX8_orNone_0 := by decide +kernel
theorem dX8_orNone_0 : decode cX8_orNone 0 = .ok (.iload_n 0, 1) := dk_26 (dk_at dksX8_orNone_0 0 rfl rfl)
theorem dX8_orNone_1 : decode cX8_orNone 1 = .ok (.ifCond .ge 8, 3) := dk_156 0 8 (dk_at dksX8_orNone_0 1 rfl rfl)
theorem dX8_orNone_4 : decode cX8_orNone 4 = .ok (.bipush (-2), 2) := dk_16 254 (dk_at dksX8_orNone_0 4 rfl rfl)
theorem dX8_orNone_6 : decode cX8_orNone 6 = .ok (.goto 4, 3) := dk_167 0 4 (dk_at dksX8_orNone_0 6 rfl rfl)
theorem dX8_orNone_9 : decode cX8_orNone 9 = .ok (.iload_n 0, 1) := dk_26 (dk_at dksX8_orNone_0 9 rfl rfl)
theorem dX8_orNone_10 : decode cX8_orNone 10 = .ok (.ireturn, 1) := dk_172 (dk_at dksX8_orNone_0 10 rfl rfl)
abbrev cX8_man : ByteArray := prog_22_method_69_code
def yX8_man : MethodName := ⟨RX8, "man", "(II)I"⟩
def dkwX8_man_5 : List UInt8 := [172]
abbrev dktX8_man_5 : List UInt8 := dkwX8_man_5 ++ []
def dkwX8_man_4 : List UInt8 := [96, 46, 172, 42, 180, 0, 158, 16, 60, 27, 96, 46, 172, 42, 180, 0, 158, 16, 66, 27, 96, 46, 172, 2]
abbrev dktX8_man_4 : List UInt8 := dkwX8_man_4 ++ dktX8_man_5
def dkwX8_man_3 : List UInt8 := [184, 1, 187, 172, 42, 180, 0, 158, 16, 48, 27, 96, 46, 184, 1, 187, 172, 42, 180, 0, 158, 16, 54, 27]
abbrev dktX8_man_3 : List UInt8 := dkwX8_man_3 ++ dktX8_man_4
def dkwX8_man_2 : List UInt8 := [42, 180, 0, 107, 16, 6, 42, 180, 1, 22, 104, 27, 96, 46, 172, 42, 180, 0, 158, 16, 42, 27, 96, 46]
abbrev dktX8_man_2 : List UInt8 := dkwX8_man_2 ++ dktX8_man_3
def dkwX8_man_1 : List UInt8 := [170, 0, 0, 0, 108, 0, 0, 0, 0, 0, 0, 0, 5, 0, 0, 0, 37, 0, 0, 0, 52, 0, 0, 0, 65, 0, 0, 0, 78, 0, 0, 0, 88, 0, 0, 0, 98]
abbrev dktX8_man_1 : List UInt8 := dkwX8_man_1 ++ dktX8_man_2
def dkwX8_man_0 : List UInt8 := [42, 27, 182, 1, 190, 154, 0, 5, 2, 172, 28]
abbrev dktX8_man_0 : List UInt8 := dkwX8_man_0 ++ dktX8_man_1
theorem dksX8_man_0 : cX8_man.data.toList.drop 0 = dktX8_man_0 := by decide +kernel
theorem dksX8_man_1 : cX8_man.data.toList.drop 11 = dktX8_man_1 := dk_seg dksX8_man_0 11 rfl rfl
theorem dksX8_man_2 : cX8_man.data.toList.drop 48 = dktX8_man_2 := dk_seg dksX8_man_1 37 rfl rfl
theorem dksX8_man_3 : cX8_man.data.toList.drop 72 = dktX8_man_3 := dk_seg dksX8_man_2 24 rfl rfl
theorem dksX8_man_4 : cX8_man.data.toList.drop 96 = dktX8_man_4 := dk_seg dksX8_man_3 24 rfl rfl
theorem dksX8_man_5 : cX8_man.data.toList.drop 120 = dktX8_man_5 := dk_seg dksX8_man_4 24 rfl rfl
theorem dX8_man_0 : decode cX8_man 0 = .ok (.aload_n 0, 1) := dk_42 (dk_at dksX8_man_0 0 rfl rfl)
theorem dX8_man_1 : decode cX8_man 1 = .ok (.iload_n 1, 1) := dk_27 (dk_at dksX8_man_0 1 rfl rfl)
theorem dX8_man_2 : decode cX8_man 2 = .ok (.invokevirtual 446, 3) := dk_182 1 190 (dk_at dksX8_man_0 2 rfl rfl)
theorem dX8_man_5 : decode cX8_man 5 = .ok (.ifCond .ne 5, 3) := dk_154 0 5 (dk_at dksX8_man_0 5 rfl rfl)
theorem dX8_man_8 : decode cX8_man 8 = .ok (.iconst (-1), 1) := dk_2 (dk_at dksX8_man_0 8 rfl rfl)
theorem dX8_man_9 : decode cX8_man 9 = .ok (.ireturn, 1) := dk_172 (dk_at dksX8_man_0 9 rfl rfl)
theorem dX8_man_10 : decode cX8_man 10 = .ok (.iload_n 2, 1) := dk_28 (dk_at dksX8_man_0 10 rfl rfl)
theorem dX8_man_11 : decode cX8_man 11 = .ok (.tableswitch 108 0 5 #[37, 52, 65, 78, 88, 98], 37) := by decide +kernel
theorem dX8_man_48 : decode cX8_man 48 = .ok (.aload_n 0, 1) := dk_42 (dk_at dksX8_man_2 0 rfl rfl)
theorem dX8_man_49 : decode cX8_man 49 = .ok (.getfield 107, 3) := dk_180 0 107 (dk_at dksX8_man_2 1 rfl rfl)
theorem dX8_man_52 : decode cX8_man 52 = .ok (.bipush 6, 2) := dk_16 6 (dk_at dksX8_man_2 4 rfl rfl)
theorem dX8_man_54 : decode cX8_man 54 = .ok (.aload_n 0, 1) := dk_42 (dk_at dksX8_man_2 6 rfl rfl)
theorem dX8_man_55 : decode cX8_man 55 = .ok (.getfield 278, 3) := dk_180 1 22 (dk_at dksX8_man_2 7 rfl rfl)
theorem dX8_man_58 : decode cX8_man 58 = .ok (.imul, 1) := dk_104 (dk_at dksX8_man_2 10 rfl rfl)
theorem dX8_man_59 : decode cX8_man 59 = .ok (.iload_n 1, 1) := dk_27 (dk_at dksX8_man_2 11 rfl rfl)
theorem dX8_man_60 : decode cX8_man 60 = .ok (.iadd, 1) := dk_96 (dk_at dksX8_man_2 12 rfl rfl)
theorem dX8_man_61 : decode cX8_man 61 = .ok (.iaload, 1) := dk_46 (dk_at dksX8_man_2 13 rfl rfl)
theorem dX8_man_62 : decode cX8_man 62 = .ok (.ireturn, 1) := dk_172 (dk_at dksX8_man_2 14 rfl rfl)
theorem dX8_man_63 : decode cX8_man 63 = .ok (.aload_n 0, 1) := dk_42 (dk_at dksX8_man_2 15 rfl rfl)
theorem dX8_man_64 : decode cX8_man 64 = .ok (.getfield 158, 3) := dk_180 0 158 (dk_at dksX8_man_2 16 rfl rfl)
theorem dX8_man_67 : decode cX8_man 67 = .ok (.bipush 42, 2) := dk_16 42 (dk_at dksX8_man_2 19 rfl rfl)
theorem dX8_man_69 : decode cX8_man 69 = .ok (.iload_n 1, 1) := dk_27 (dk_at dksX8_man_2 21 rfl rfl)
theorem dX8_man_70 : decode cX8_man 70 = .ok (.iadd, 1) := dk_96 (dk_at dksX8_man_2 22 rfl rfl)
theorem dX8_man_71 : decode cX8_man 71 = .ok (.iaload, 1) := dk_46 (dk_at dksX8_man_2 23 rfl rfl)
theorem dX8_man_72 : decode cX8_man 72 = .ok (.invokestatic 443, 3) := dk_184 1 187 (dk_at dksX8_man_3 0 rfl rfl)
theorem dX8_man_75 : decode cX8_man 75 = .ok (.ireturn, 1) := dk_172 (dk_at dksX8_man_3 3 rfl rfl)
theorem dX8_man_76 : decode cX8_man 76 = .ok (.aload_n 0, 1) := dk_42 (dk_at dksX8_man_3 4 rfl rfl)
theorem dX8_man_77 : decode cX8_man 77 = .ok (.getfield 158, 3) := dk_180 0 158 (dk_at dksX8_man_3 5 rfl rfl)
theorem dX8_man_80 : decode cX8_man 80 = .ok (.bipush 48, 2) := dk_16 48 (dk_at dksX8_man_3 8 rfl rfl)
theorem dX8_man_82 : decode cX8_man 82 = .ok (.iload_n 1, 1) := dk_27 (dk_at dksX8_man_3 10 rfl rfl)
theorem dX8_man_83 : decode cX8_man 83 = .ok (.iadd, 1) := dk_96 (dk_at dksX8_man_3 11 rfl rfl)
theorem dX8_man_84 : decode cX8_man 84 = .ok (.iaload, 1) := dk_46 (dk_at dksX8_man_3 12 rfl rfl)
theorem dX8_man_85 : decode cX8_man 85 = .ok (.invokestatic 443, 3) := dk_184 1 187 (dk_at dksX8_man_3 13 rfl rfl)
theorem dX8_man_88 : decode cX8_man 88 = .ok (.ireturn, 1) := dk_172 (dk_at dksX8_man_3 16 rfl rfl)
theorem dX8_man_89 : decode cX8_man 89 = .ok (.aload_n 0, 1) := dk_42 (dk_at dksX8_man_3 17 rfl rfl)
theorem dX8_man_90 : decode cX8_man 90 = .ok (.getfield 158, 3) := dk_180 0 158 (dk_at dksX8_man_3 18 rfl rfl)
theorem dX8_man_93 : decode cX8_man 93 = .ok (.bipush 54, 2) := dk_16 54 (dk_at dksX8_man_3 21 rfl rfl)
theorem dX8_man_95 : decode cX8_man 95 = .ok (.iload_n 1, 1) := dk_27 (dk_at dksX8_man_3 23 rfl rfl)
theorem dX8_man_96 : decode cX8_man 96 = .ok (.iadd, 1) := dk_96 (dk_at dksX8_man_4 0 rfl rfl)
theorem dX8_man_97 : decode cX8_man 97 = .ok (.iaload, 1) := dk_46 (dk_at dksX8_man_4 1 rfl rfl)
theorem dX8_man_98 : decode cX8_man 98 = .ok (.ireturn, 1) := dk_172 (dk_at dksX8_man_4 2 rfl rfl)
theorem dX8_man_99 : decode cX8_man 99 = .ok (.aload_n 0, 1) := dk_42 (dk_at dksX8_man_4 3 rfl rfl)
theorem dX8_man_100 : decode cX8_man 100 = .ok (.getfield 158, 3) := dk_180 0 158 (dk_at dksX8_man_4 4 rfl rfl)
theorem dX8_man_103 : decode cX8_man 103 = .ok (.bipush 60, 2) := dk_16 60 (dk_at dksX8_man_4 7 rfl rfl)
theorem dX8_man_105 : decode cX8_man 105 = .ok (.iload_n 1, 1) := dk_27 (dk_at dksX8_man_4 9 rfl rfl)
theorem dX8_man_106 : decode cX8_man 106 = .ok (.iadd, 1) := dk_96 (dk_at dksX8_man_4 10 rfl rfl)
theorem dX8_man_107 : decode cX8_man 107 = .ok (.iaload, 1) := dk_46 (dk_at dksX8_man_4 11 rfl rfl)
theorem dX8_man_108 : decode cX8_man 108 = .ok (.ireturn, 1) := dk_172 (dk_at dksX8_man_4 12 rfl rfl)
theorem dX8_man_109 : decode cX8_man 109 = .ok (.aload_n 0, 1) := dk_42 (dk_at dksX8_man_4 13 rfl rfl)
theorem dX8_man_110 : decode cX8_man 110 = .ok (.getfield 158, 3) := dk_180 0 158 (dk_at dksX8_man_4 14 rfl rfl)
theorem dX8_man_113 : decode cX8_man 113 = .ok (.bipush 66, 2) := dk_16 66 (dk_at dksX8_man_4 17 rfl rfl)
theorem dX8_man_115 : decode cX8_man 115 = .ok (.iload_n 1, 1) := dk_27 (dk_at dksX8_man_4 19 rfl rfl)
theorem dX8_man_116 : decode cX8_man 116 = .ok (.iadd, 1) := dk_96 (dk_at dksX8_man_4 20 rfl rfl)
theorem dX8_man_117 : decode cX8_man 117 = .ok (.iaload, 1) := dk_46 (dk_at dksX8_man_4 21 rfl rfl)
theorem dX8_man_118 : decode cX8_man 118 = .ok (.ireturn, 1) := dk_172 (dk_at dksX8_man_4 22 rfl rfl)
theorem dX8_man_119 : decode cX8_man 119 = .ok (.iconst (-1), 1) := dk_2 (dk_at dksX8_man_4 23 rfl rfl)
theorem dX8_man_120 : decode cX8_man 120 = .ok (.ireturn, 1) := dk_172 (dk_at dksX8_man_5 0 rfl rfl)
abbrev cX8_isMan : ByteArray := prog_22_method_48_code
def yX8_isMan : MethodName := ⟨RX8, "isMan", "(I)Z"⟩
def dkwX8_isMan_0 : List UInt8 := [27, 3, 42, 182, 1, 134, 4, 100, 184, 1, 124, 172]
abbrev dktX8_isMan_0 : List UInt8 := dkwX8_isMan_0 ++ []
theorem dksX8_isMan_0 : cX8_isMan.data.toList.drop 0 = dktX8_isMan_0 := by decide +kernel
theorem dX8_isMan_0 : decode cX8_isMan 0 = .ok (.iload_n 1, 1) := dk_27 (dk_at dksX8_isMan_0 0 rfl rfl)
theorem dX8_isMan_1 : decode cX8_isMan 1 = .ok (.iconst 0, 1) := dk_3 (dk_at dksX8_isMan_0 1 rfl rfl)
theorem dX8_isMan_2 : decode cX8_isMan 2 = .ok (.aload_n 0, 1) := dk_42 (dk_at dksX8_isMan_0 2 rfl rfl)
theorem dX8_isMan_3 : decode cX8_isMan 3 = .ok (.invokevirtual 390, 3) := dk_182 1 134 (dk_at dksX8_isMan_0 3 rfl rfl)
theorem dX8_isMan_6 : decode cX8_isMan 6 = .ok (.iconst 1, 1) := dk_4 (dk_at dksX8_isMan_0 6 rfl rfl)
theorem dX8_isMan_7 : decode cX8_isMan 7 = .ok (.isub, 1) := dk_100 (dk_at dksX8_isMan_0 7 rfl rfl)
theorem dX8_isMan_8 : decode cX8_isMan 8 = .ok (.invokestatic 380, 3) := dk_184 1 124 (dk_at dksX8_isMan_0 8 rfl rfl)
theorem dX8_isMan_11 : decode cX8_isMan 11 = .ok (.ireturn, 1) := dk_172 (dk_at dksX8_isMan_0 11 rfl rfl)
abbrev cX8_tool : ByteArray := prog_22_method_70_code
def yX8_tool : MethodName := ⟨RX8, "tool", "(I)I"⟩
def dkwX8_tool_0 : List UInt8 := [42, 27, 182, 1, 193, 153, 0, 15, 42, 180, 0, 158, 16, 72, 27, 96, 46, 167, 0, 4, 2, 172]
abbrev dktX8_tool_0 : List UInt8 := dkwX8_tool_0 ++ []
theorem dksX8_tool_0 : cX8_tool.data.toList.drop 0 = dktX8_tool_0 := by decide +kernel
theorem dX8_tool_0 : decode cX8_tool 0 = .ok (.aload_n 0, 1) := dk_42 (dk_at dksX8_tool_0 0 rfl rfl)
theorem dX8_tool_1 : decode cX8_tool 1 = .ok (.iload_n 1, 1) := dk_27 (dk_at dksX8_tool_0 1 rfl rfl)
theorem dX8_tool_2 : decode cX8_tool 2 = .ok (.invokevirtual 449, 3) := dk_182 1 193 (dk_at dksX8_tool_0 2 rfl rfl)
theorem dX8_tool_5 : decode cX8_tool 5 = .ok (.ifCond .eq 15, 3) := dk_153 0 15 (dk_at dksX8_tool_0 5 rfl rfl)
theorem dX8_tool_8 : decode cX8_tool 8 = .ok (.aload_n 0, 1) := dk_42 (dk_at dksX8_tool_0 8 rfl rfl)
theorem dX8_tool_9 : decode cX8_tool 9 = .ok (.getfield 158, 3) := dk_180 0 158 (dk_at dksX8_tool_0 9 rfl rfl)
theorem dX8_tool_12 : decode cX8_tool 12 = .ok (.bipush 72, 2) := dk_16 72 (dk_at dksX8_tool_0 12 rfl rfl)
theorem dX8_tool_14 : decode cX8_tool 14 = .ok (.iload_n 1, 1) := dk_27 (dk_at dksX8_tool_0 14 rfl rfl)
theorem dX8_tool_15 : decode cX8_tool 15 = .ok (.iadd, 1) := dk_96 (dk_at dksX8_tool_0 15 rfl rfl)
theorem dX8_tool_16 : decode cX8_tool 16 = .ok (.iaload, 1) := dk_46 (dk_at dksX8_tool_0 16 rfl rfl)
theorem dX8_tool_17 : decode cX8_tool 17 = .ok (.goto 4, 3) := dk_167 0 4 (dk_at dksX8_tool_0 17 rfl rfl)
theorem dX8_tool_20 : decode cX8_tool 20 = .ok (.iconst (-1), 1) := dk_2 (dk_at dksX8_tool_0 20 rfl rfl)
theorem dX8_tool_21 : decode cX8_tool 21 = .ok (.ireturn, 1) := dk_172 (dk_at dksX8_tool_0 21 rfl rfl)
abbrev cX8_isTool : ByteArray := prog_22_method_50_code
def yX8_isTool : MethodName := ⟨RX8, "isTool", "(I)Z"⟩
def dkwX8_isTool_0 : List UInt8 := [27, 3, 42, 180, 0, 68, 42, 180, 1, 22, 46, 4, 100, 184, 1, 124, 172]
abbrev dktX8_isTool_0 : List UInt8 := dkwX8_isTool_0 ++ []
theorem dksX8_isTool_0 : cX8_isTool.data.toList.drop 0 = dktX8_isTool_0 := by decide +kernel
theorem dX8_isTool_0 : decode cX8_isTool 0 = .ok (.iload_n 1, 1) := dk_27 (dk_at dksX8_isTool_0 0 rfl rfl)
theorem dX8_isTool_1 : decode cX8_isTool 1 = .ok (.iconst 0, 1) := dk_3 (dk_at dksX8_isTool_0 1 rfl rfl)
theorem dX8_isTool_2 : decode cX8_isTool 2 = .ok (.aload_n 0, 1) := dk_42 (dk_at dksX8_isTool_0 2 rfl rfl)
theorem dX8_isTool_3 : decode cX8_isTool 3 = .ok (.getfield 68, 3) := dk_180 0 68 (dk_at dksX8_isTool_0 3 rfl rfl)
theorem dX8_isTool_6 : decode cX8_isTool 6 = .ok (.aload_n 0, 1) := dk_42 (dk_at dksX8_isTool_0 6 rfl rfl)
theorem dX8_isTool_7 : decode cX8_isTool 7 = .ok (.getfield 278, 3) := dk_180 1 22 (dk_at dksX8_isTool_0 7 rfl rfl)
theorem dX8_isTool_10 : decode cX8_isTool 10 = .ok (.iaload, 1) := dk_46 (dk_at dksX8_isTool_0 10 rfl rfl)
theorem dX8_isTool_11 : decode cX8_isTool 11 = .ok (.iconst 1, 1) := dk_4 (dk_at dksX8_isTool_0 11 rfl rfl)
theorem dX8_isTool_12 : decode cX8_isTool 12 = .ok (.isub, 1) := dk_100 (dk_at dksX8_isTool_0 12 rfl rfl)
theorem dX8_isTool_13 : decode cX8_isTool 13 = .ok (.invokestatic 380, 3) := dk_184 1 124 (dk_at dksX8_isTool_0 13 rfl rfl)
theorem dX8_isTool_16 : decode cX8_isTool 16 = .ok (.ireturn, 1) := dk_172 (dk_at dksX8_isTool_0 16 rfl rfl)
abbrev cX8_way : ByteArray := prog_22_method_71_code
def yX8_way : MethodName := ⟨RX8, "way", "(II)I"⟩
def dkwX8_way_2 : List UInt8 := [167, 0, 14, 42, 180, 0, 164, 16, 8, 27, 104, 28, 96, 46, 172]
abbrev dktX8_way_2 : List UInt8 := dkwX8_way_2 ++ []
def dkwX8_way_1 : List UInt8 := [182, 1, 163, 42, 180, 0, 164, 16, 8, 27, 104, 28, 96, 46, 19, 1, 143, 160, 0, 8, 16, 254]
abbrev dktX8_way_1 : List UInt8 := dkwX8_way_1 ++ dktX8_way_2
def dkwX8_way_0 : List UInt8 := [42, 27, 182, 1, 196, 153, 0, 11, 42, 28, 182, 1, 196, 154, 0, 5, 2, 172, 42, 182, 1, 181, 42]
abbrev dktX8_way_0 : List UInt8 := dkwX8_way_0 ++ dktX8_way_1
theorem dksX8_way_0 : cX8_way.data.toList.drop 0 = dktX8_way_0 := by decide +kernel
theorem dksX8_way_1 : cX8_way.data.toList.drop 23 = dktX8_way_1 := dk_seg dksX8_way_0 23 rfl rfl
theorem dksX8_way_2 : cX8_way.data.toList.drop 45 = dktX8_way_2 := dk_seg dksX8_way_1 22 rfl rfl
theorem dX8_way_0 : decode cX8_way 0 = .ok (.aload_n 0, 1) := dk_42 (dk_at dksX8_way_0 0 rfl rfl)
theorem dX8_way_1 : decode cX8_way 1 = .ok (.iload_n 1, 1) := dk_27 (dk_at dksX8_way_0 1 rfl rfl)
theorem dX8_way_2 : decode cX8_way 2 = .ok (.invokevirtual 452, 3) := dk_182 1 196 (dk_at dksX8_way_0 2 rfl rfl)
theorem dX8_way_5 : decode cX8_way 5 = .ok (.ifCond .eq 11, 3) := dk_153 0 11 (dk_at dksX8_way_0 5 rfl rfl)
theorem dX8_way_8 : decode cX8_way 8 = .ok (.aload_n 0, 1) := dk_42 (dk_at dksX8_way_0 8 rfl rfl)
theorem dX8_way_9 : decode cX8_way 9 = .ok (.iload_n 2, 1) := dk_28 (dk_at dksX8_way_0 9 rfl rfl)
theorem dX8_way_10 : decode cX8_way 10 = .ok (.invokevirtual 452, 3) := dk_182 1 196 (dk_at dksX8_way_0 10 rfl rfl)
theorem dX8_way_13 : decode cX8_way 13 = .ok (.ifCond .ne 5, 3) := dk_154 0 5 (dk_at dksX8_way_0 13 rfl rfl)
theorem dX8_way_16 : decode cX8_way 16 = .ok (.iconst (-1), 1) := dk_2 (dk_at dksX8_way_0 16 rfl rfl)
theorem dX8_way_17 : decode cX8_way 17 = .ok (.ireturn, 1) := dk_172 (dk_at dksX8_way_0 17 rfl rfl)
theorem dX8_way_18 : decode cX8_way 18 = .ok (.aload_n 0, 1) := dk_42 (dk_at dksX8_way_0 18 rfl rfl)
theorem dX8_way_19 : decode cX8_way 19 = .ok (.invokevirtual 437, 3) := dk_182 1 181 (dk_at dksX8_way_0 19 rfl rfl)
theorem dX8_way_22 : decode cX8_way 22 = .ok (.aload_n 0, 1) := dk_42 (dk_at dksX8_way_0 22 rfl rfl)
theorem dX8_way_23 : decode cX8_way 23 = .ok (.invokevirtual 419, 3) := dk_182 1 163 (dk_at dksX8_way_1 0 rfl rfl)
theorem dX8_way_26 : decode cX8_way 26 = .ok (.aload_n 0, 1) := dk_42 (dk_at dksX8_way_1 3 rfl rfl)
theorem dX8_way_27 : decode cX8_way 27 = .ok (.getfield 164, 3) := dk_180 0 164 (dk_at dksX8_way_1 4 rfl rfl)
theorem dX8_way_30 : decode cX8_way 30 = .ok (.bipush 8, 2) := dk_16 8 (dk_at dksX8_way_1 7 rfl rfl)
theorem dX8_way_32 : decode cX8_way 32 = .ok (.iload_n 1, 1) := dk_27 (dk_at dksX8_way_1 9 rfl rfl)
theorem dX8_way_33 : decode cX8_way 33 = .ok (.imul, 1) := dk_104 (dk_at dksX8_way_1 10 rfl rfl)
theorem dX8_way_34 : decode cX8_way 34 = .ok (.iload_n 2, 1) := dk_28 (dk_at dksX8_way_1 11 rfl rfl)
theorem dX8_way_35 : decode cX8_way 35 = .ok (.iadd, 1) := dk_96 (dk_at dksX8_way_1 12 rfl rfl)
theorem dX8_way_36 : decode cX8_way 36 = .ok (.iaload, 1) := dk_46 (dk_at dksX8_way_1 13 rfl rfl)
theorem dX8_way_37 : decode cX8_way 37 = .ok (.ldc_w 399, 3) := dk_19 1 143 (dk_at dksX8_way_1 14 rfl rfl)
theorem dX8_way_40 : decode cX8_way 40 = .ok (.if_icmp .ne 8, 3) := dk_160 0 8 (dk_at dksX8_way_1 17 rfl rfl)
theorem dX8_way_43 : decode cX8_way 43 = .ok (.bipush (-2), 2) := dk_16 254 (dk_at dksX8_way_1 20 rfl rfl)
theorem dX8_way_45 : decode cX8_way 45 = .ok (.goto 14, 3) := dk_167 0 14 (dk_at dksX8_way_2 0 rfl rfl)
theorem dX8_way_48 : decode cX8_way 48 = .ok (.aload_n 0, 1) := dk_42 (dk_at dksX8_way_2 3 rfl rfl)
theorem dX8_way_49 : decode cX8_way 49 = .ok (.getfield 164, 3) := dk_180 0 164 (dk_at dksX8_way_2 4 rfl rfl)
theorem dX8_way_52 : decode cX8_way 52 = .ok (.bipush 8, 2) := dk_16 8 (dk_at dksX8_way_2 7 rfl rfl)
theorem dX8_way_54 : decode cX8_way 54 = .ok (.iload_n 1, 1) := dk_27 (dk_at dksX8_way_2 9 rfl rfl)
theorem dX8_way_55 : decode cX8_way 55 = .ok (.imul, 1) := dk_104 (dk_at dksX8_way_2 10 rfl rfl)
theorem dX8_way_56 : decode cX8_way 56 = .ok (.iload_n 2, 1) := dk_28 (dk_at dksX8_way_2 11 rfl rfl)
theorem dX8_way_57 : decode cX8_way 57 = .ok (.iadd, 1) := dk_96 (dk_at dksX8_way_2 12 rfl rfl)
theorem dX8_way_58 : decode cX8_way 58 = .ok (.iaload, 1) := dk_46 (dk_at dksX8_way_2 13 rfl rfl)
theorem dX8_way_59 : decode cX8_way 59 = .ok (.ireturn, 1) := dk_172 (dk_at dksX8_way_2 14 rfl rfl)
abbrev cX8_isRoom : ByteArray := prog_22_method_49_code
def yX8_isRoom : MethodName := ⟨RX8, "isRoom", "(I)Z"⟩
def dkwX8_isRoom_0 : List UInt8 := [27, 3, 42, 180, 0, 49, 42, 180, 1, 22, 46, 4, 100, 184, 1, 124, 172]
abbrev dktX8_isRoom_0 : List UInt8 := dkwX8_isRoom_0 ++ []
theorem dksX8_isRoom_0 : cX8_isRoom.data.toList.drop 0 = dktX8_isRoom_0 := by decide +kernel
theorem dX8_isRoom_0 : decode cX8_isRoom 0 = .ok (.iload_n 1, 1) := dk_27 (dk_at dksX8_isRoom_0 0 rfl rfl)
theorem dX8_isRoom_1 : decode cX8_isRoom 1 = .ok (.iconst 0, 1) := dk_3 (dk_at dksX8_isRoom_0 1 rfl rfl)
theorem dX8_isRoom_2 : decode cX8_isRoom 2 = .ok (.aload_n 0, 1) := dk_42 (dk_at dksX8_isRoom_0 2 rfl rfl)
theorem dX8_isRoom_3 : decode cX8_isRoom 3 = .ok (.getfield 49, 3) := dk_180 0 49 (dk_at dksX8_isRoom_0 3 rfl rfl)
theorem dX8_isRoom_6 : decode cX8_isRoom 6 = .ok (.aload_n 0, 1) := dk_42 (dk_at dksX8_isRoom_0 6 rfl rfl)
theorem dX8_isRoom_7 : decode cX8_isRoom 7 = .ok (.getfield 278, 3) := dk_180 1 22 (dk_at dksX8_isRoom_0 7 rfl rfl)
theorem dX8_isRoom_10 : decode cX8_isRoom 10 = .ok (.iaload, 1) := dk_46 (dk_at dksX8_isRoom_0 10 rfl rfl)
theorem dX8_isRoom_11 : decode cX8_isRoom 11 = .ok (.iconst 1, 1) := dk_4 (dk_at dksX8_isRoom_0 11 rfl rfl)
theorem dX8_isRoom_12 : decode cX8_isRoom 12 = .ok (.isub, 1) := dk_100 (dk_at dksX8_isRoom_0 12 rfl rfl)
theorem dX8_isRoom_13 : decode cX8_isRoom 13 = .ok (.invokestatic 380, 3) := dk_184 1 124 (dk_at dksX8_isRoom_0 13 rfl rfl)
theorem dX8_isRoom_16 : decode cX8_isRoom 16 = .ok (.ireturn, 1) := dk_172 (dk_at dksX8_isRoom_0 16 rfl rfl)
abbrev cX8_fillsWays : ByteArray := prog_22_method_56_code
def yX8_fillsWays : MethodName := ⟨RX8, "fillsWays", "()V"⟩
def dkwX8_fillsWays_12 : List UInt8 := [177]
abbrev dktX8_fillsWays_12 : List UInt8 := dkwX8_fillsWays_12 ++ []
def dkwX8_fillsWays_11 : List UInt8 := [104, 29, 96, 46, 96, 79, 132, 3, 1, 167, 255, 176, 132, 2, 1, 167, 255, 162, 132, 1, 1, 167, 255, 148]
abbrev dktX8_fillsWays_11 : List UInt8 := dkwX8_fillsWays_11 ++ dktX8_fillsWays_12
def dkwX8_fillsWays_10 : List UInt8 := [16, 8, 28, 104, 29, 96, 42, 180, 0, 164, 16, 8, 28, 104, 27, 96, 46, 42, 180, 0, 164, 16, 8, 27]
abbrev dktX8_fillsWays_10 : List UInt8 := dkwX8_fillsWays_10 ++ dktX8_fillsWays_11
def dkwX8_fillsWays_9 : List UInt8 := [27, 104, 29, 96, 46, 96, 42, 180, 0, 164, 16, 8, 28, 104, 29, 96, 46, 162, 0, 37, 42, 180, 0, 164]
abbrev dktX8_fillsWays_9 : List UInt8 := dkwX8_fillsWays_9 ++ dktX8_fillsWays_10
def dkwX8_fillsWays_8 : List UInt8 := [62, 29, 16, 8, 162, 0, 80, 42, 180, 0, 164, 16, 8, 28, 104, 27, 96, 46, 42, 180, 0, 164, 16, 8]
abbrev dktX8_fillsWays_8 : List UInt8 := dkwX8_fillsWays_8 ++ dktX8_fillsWays_9
def dkwX8_fillsWays_7 : List UInt8 := [79, 132, 1, 1, 167, 255, 131, 3, 60, 27, 16, 8, 162, 0, 108, 3, 61, 28, 16, 8, 162, 0, 94, 3]
abbrev dktX8_fillsWays_7 : List UInt8 := dkwX8_fillsWays_7 ++ dktX8_fillsWays_8
def dkwX8_fillsWays_6 : List UInt8 := [180, 0, 164, 16, 8, 28, 104, 29, 96, 21, 4, 79, 42, 180, 0, 164, 16, 8, 29, 104, 28, 96, 21, 4]
abbrev dktX8_fillsWays_6 : List UInt8 := dkwX8_fillsWays_6 ++ dktX8_fillsWays_7
def dkwX8_fillsWays_5 : List UInt8 := [54, 4, 21, 4, 42, 180, 0, 164, 16, 8, 28, 104, 29, 96, 46, 161, 0, 6, 167, 0, 29, 42]
abbrev dktX8_fillsWays_5 : List UInt8 := dkwX8_fillsWays_5 ++ dktX8_fillsWays_6
def dkwX8_fillsWays_4 : List UInt8 := [42, 180, 1, 22, 104, 27, 96, 46, 62, 42, 180, 0, 61, 16, 12, 42, 180, 1, 22, 104, 27, 96, 46]
abbrev dktX8_fillsWays_4 : List UInt8 := dkwX8_fillsWays_4 ++ dktX8_fillsWays_5
def dkwX8_fillsWays_3 : List UInt8 := [167, 0, 94, 42, 180, 0, 55, 16, 12, 42, 180, 1, 22, 104, 27, 96, 46, 61, 42, 180, 0, 58, 16, 12]
abbrev dktX8_fillsWays_3 : List UInt8 := dkwX8_fillsWays_3 ++ dktX8_fillsWays_4
def dkwX8_fillsWays_2 : List UInt8 := [180, 1, 22, 46, 162, 0, 118, 42, 180, 0, 161, 16, 78, 46, 27, 122, 4, 126, 4, 160, 0, 6]
abbrev dktX8_fillsWays_2 : List UInt8 := dkwX8_fillsWays_2 ++ dktX8_fillsWays_3
def dkwX8_fillsWays_1 : List UInt8 := [3, 167, 0, 6, 19, 1, 143, 79, 132, 1, 1, 167, 255, 223, 3, 60, 27, 42, 180, 0, 52, 42]
abbrev dktX8_fillsWays_1 : List UInt8 := dkwX8_fillsWays_1 ++ dktX8_fillsWays_2
def dkwX8_fillsWays_0 : List UInt8 := [3, 60, 27, 16, 64, 162, 0, 33, 42, 180, 0, 164, 27, 27, 16, 8, 108, 27, 16, 8, 112, 160, 0, 7]
abbrev dktX8_fillsWays_0 : List UInt8 := dkwX8_fillsWays_0 ++ dktX8_fillsWays_1
theorem dksX8_fillsWays_0 : cX8_fillsWays.data.toList.drop 0 = dktX8_fillsWays_0 := by decide +kernel
theorem dksX8_fillsWays_1 : cX8_fillsWays.data.toList.drop 24 = dktX8_fillsWays_1 := dk_seg dksX8_fillsWays_0 24 rfl rfl
theorem dksX8_fillsWays_2 : cX8_fillsWays.data.toList.drop 46 = dktX8_fillsWays_2 := dk_seg dksX8_fillsWays_1 22 rfl rfl
theorem dksX8_fillsWays_3 : cX8_fillsWays.data.toList.drop 68 = dktX8_fillsWays_3 := dk_seg dksX8_fillsWays_2 22 rfl rfl
theorem dksX8_fillsWays_4 : cX8_fillsWays.data.toList.drop 92 = dktX8_fillsWays_4 := dk_seg dksX8_fillsWays_3 24 rfl rfl
theorem dksX8_fillsWays_5 : cX8_fillsWays.data.toList.drop 115 = dktX8_fillsWays_5 := dk_seg dksX8_fillsWays_4 23 rfl rfl
theorem dksX8_fillsWays_6 : cX8_fillsWays.data.toList.drop 137 = dktX8_fillsWays_6 := dk_seg dksX8_fillsWays_5 22 rfl rfl
theorem dksX8_fillsWays_7 : cX8_fillsWays.data.toList.drop 161 = dktX8_fillsWays_7 := dk_seg dksX8_fillsWays_6 24 rfl rfl
theorem dksX8_fillsWays_8 : cX8_fillsWays.data.toList.drop 185 = dktX8_fillsWays_8 := dk_seg dksX8_fillsWays_7 24 rfl rfl
theorem dksX8_fillsWays_9 : cX8_fillsWays.data.toList.drop 209 = dktX8_fillsWays_9 := dk_seg dksX8_fillsWays_8 24 rfl rfl
theorem dksX8_fillsWays_10 : cX8_fillsWays.data.toList.drop 233 = dktX8_fillsWays_10 := dk_seg dksX8_fillsWays_9 24 rfl rfl
theorem dksX8_fillsWays_11 : cX8_fillsWays.data.toList.drop 257 = dktX8_fillsWays_11 := dk_seg dksX8_fillsWays_10 24 rfl rfl
theorem dksX8_fillsWays_12 : cX8_fillsWays.data.toList.drop 281 = dktX8_fillsWays_12 := dk_seg dksX8_fillsWays_11 24 rfl rfl
theorem dX8_fillsWays_0 : decode cX8_fillsWays 0 = .ok (.iconst 0, 1) := dk_3 (dk_at dksX8_fillsWays_0 0 rfl rfl)
theorem dX8_fillsWays_1 : decode cX8_fillsWays 1 = .ok (.istore_n 1, 1) := dk_60 (dk_at dksX8_fillsWays_0 1 rfl rfl)
theorem dX8_fillsWays_2 : decode cX8_fillsWays 2 = .ok (.iload_n 1, 1) := dk_27 (dk_at dksX8_fillsWays_0 2 rfl rfl)
theorem dX8_fillsWays_3 : decode cX8_fillsWays 3 = .ok (.bipush 64, 2) := dk_16 64 (dk_at dksX8_fillsWays_0 3 rfl rfl)
theorem dX8_fillsWays_5 : decode cX8_fillsWays 5 = .ok (.if_icmp .ge 33, 3) := dk_162 0 33 (dk_at dksX8_fillsWays_0 5 rfl rfl)
theorem dX8_fillsWays_8 : decode cX8_fillsWays 8 = .ok (.aload_n 0, 1) := dk_42 (dk_at dksX8_fillsWays_0 8 rfl rfl)
theorem dX8_fillsWays_9 : decode cX8_fillsWays 9 = .ok (.getfield 164, 3) := dk_180 0 164 (dk_at dksX8_fillsWays_0 9 rfl rfl)
theorem dX8_fillsWays_12 : decode cX8_fillsWays 12 = .ok (.iload_n 1, 1) := dk_27 (dk_at dksX8_fillsWays_0 12 rfl rfl)
theorem dX8_fillsWays_13 : decode cX8_fillsWays 13 = .ok (.iload_n 1, 1) := dk_27 (dk_at dksX8_fillsWays_0 13 rfl rfl)
theorem dX8_fillsWays_14 : decode cX8_fillsWays 14 = .ok (.bipush 8, 2) := dk_16 8 (dk_at dksX8_fillsWays_0 14 rfl rfl)
theorem dX8_fillsWays_16 : decode cX8_fillsWays 16 = .ok (.idiv, 1) := dk_108 (dk_at dksX8_fillsWays_0 16 rfl rfl)
theorem dX8_fillsWays_17 : decode cX8_fillsWays 17 = .ok (.iload_n 1, 1) := dk_27 (dk_at dksX8_fillsWays_0 17 rfl rfl)
theorem dX8_fillsWays_18 : decode cX8_fillsWays 18 = .ok (.bipush 8, 2) := dk_16 8 (dk_at dksX8_fillsWays_0 18 rfl rfl)
theorem dX8_fillsWays_20 : decode cX8_fillsWays 20 = .ok (.irem, 1) := dk_112 (dk_at dksX8_fillsWays_0 20 rfl rfl)
theorem dX8_fillsWays_21 : decode cX8_fillsWays 21 = .ok (.if_icmp .ne 7, 3) := dk_160 0 7 (dk_at dksX8_fillsWays_0 21 rfl rfl)
theorem dX8_fillsWays_24 : decode cX8_fillsWays 24 = .ok (.iconst 0, 1) := dk_3 (dk_at dksX8_fillsWays_1 0 rfl rfl)
theorem dX8_fillsWays_25 : decode cX8_fillsWays 25 = .ok (.goto 6, 3) := dk_167 0 6 (dk_at dksX8_fillsWays_1 1 rfl rfl)
theorem dX8_fillsWays_28 : decode cX8_fillsWays 28 = .ok (.ldc_w 399, 3) := dk_19 1 143 (dk_at dksX8_fillsWays_1 4 rfl rfl)
theorem dX8_fillsWays_31 : decode cX8_fillsWays 31 = .ok (.iastore, 1) := dk_79 (dk_at dksX8_fillsWays_1 7 rfl rfl)
theorem dX8_fillsWays_32 : decode cX8_fillsWays 32 = .ok (.iinc 1 1, 3) := dk_132 1 1 (dk_at dksX8_fillsWays_1 8 rfl rfl)
theorem dX8_fillsWays_35 : decode cX8_fillsWays 35 = .ok (.goto (-33), 3) := dk_167 255 223 (dk_at dksX8_fillsWays_1 11 rfl rfl)
theorem dX8_fillsWays_38 : decode cX8_fillsWays 38 = .ok (.iconst 0, 1) := dk_3 (dk_at dksX8_fillsWays_1 14 rfl rfl)
theorem dX8_fillsWays_39 : decode cX8_fillsWays 39 = .ok (.istore_n 1, 1) := dk_60 (dk_at dksX8_fillsWays_1 15 rfl rfl)
theorem dX8_fillsWays_40 : decode cX8_fillsWays 40 = .ok (.iload_n 1, 1) := dk_27 (dk_at dksX8_fillsWays_1 16 rfl rfl)
theorem dX8_fillsWays_41 : decode cX8_fillsWays 41 = .ok (.aload_n 0, 1) := dk_42 (dk_at dksX8_fillsWays_1 17 rfl rfl)
theorem dX8_fillsWays_42 : decode cX8_fillsWays 42 = .ok (.getfield 52, 3) := dk_180 0 52 (dk_at dksX8_fillsWays_1 18 rfl rfl)
theorem dX8_fillsWays_45 : decode cX8_fillsWays 45 = .ok (.aload_n 0, 1) := dk_42 (dk_at dksX8_fillsWays_1 21 rfl rfl)
theorem dX8_fillsWays_46 : decode cX8_fillsWays 46 = .ok (.getfield 278, 3) := dk_180 1 22 (dk_at dksX8_fillsWays_2 0 rfl rfl)
theorem dX8_fillsWays_49 : decode cX8_fillsWays 49 = .ok (.iaload, 1) := dk_46 (dk_at dksX8_fillsWays_2 3 rfl rfl)
theorem dX8_fillsWays_50 : decode cX8_fillsWays 50 = .ok (.if_icmp .ge 118, 3) := dk_162 0 118 (dk_at dksX8_fillsWays_2 4 rfl rfl)
theorem dX8_fillsWays_53 : decode cX8_fillsWays 53 = .ok (.aload_n 0, 1) := dk_42 (dk_at dksX8_fillsWays_2 7 rfl rfl)
theorem dX8_fillsWays_54 : decode cX8_fillsWays 54 = .ok (.getfield 161, 3) := dk_180 0 161 (dk_at dksX8_fillsWays_2 8 rfl rfl)
theorem dX8_fillsWays_57 : decode cX8_fillsWays 57 = .ok (.bipush 78, 2) := dk_16 78 (dk_at dksX8_fillsWays_2 11 rfl rfl)
theorem dX8_fillsWays_59 : decode cX8_fillsWays 59 = .ok (.iaload, 1) := dk_46 (dk_at dksX8_fillsWays_2 13 rfl rfl)
theorem dX8_fillsWays_60 : decode cX8_fillsWays 60 = .ok (.iload_n 1, 1) := dk_27 (dk_at dksX8_fillsWays_2 14 rfl rfl)
theorem dX8_fillsWays_61 : decode cX8_fillsWays 61 = .ok (.ishr, 1) := dk_122 (dk_at dksX8_fillsWays_2 15 rfl rfl)
theorem dX8_fillsWays_62 : decode cX8_fillsWays 62 = .ok (.iconst 1, 1) := dk_4 (dk_at dksX8_fillsWays_2 16 rfl rfl)
theorem dX8_fillsWays_63 : decode cX8_fillsWays 63 = .ok (.iand, 1) := dk_126 (dk_at dksX8_fillsWays_2 17 rfl rfl)
theorem dX8_fillsWays_64 : decode cX8_fillsWays 64 = .ok (.iconst 1, 1) := dk_4 (dk_at dksX8_fillsWays_2 18 rfl rfl)
theorem dX8_fillsWays_65 : decode cX8_fillsWays 65 = .ok (.if_icmp .ne 6, 3) := dk_160 0 6 (dk_at dksX8_fillsWays_2 19 rfl rfl)
theorem dX8_fillsWays_68 : decode cX8_fillsWays 68 = .ok (.goto 94, 3) := dk_167 0 94 (dk_at dksX8_fillsWays_3 0 rfl rfl)
theorem dX8_fillsWays_71 : decode cX8_fillsWays 71 = .ok (.aload_n 0, 1) := dk_42 (dk_at dksX8_fillsWays_3 3 rfl rfl)
theorem dX8_fillsWays_72 : decode cX8_fillsWays 72 = .ok (.getfield 55, 3) := dk_180 0 55 (dk_at dksX8_fillsWays_3 4 rfl rfl)
theorem dX8_fillsWays_75 : decode cX8_fillsWays 75 = .ok (.bipush 12, 2) := dk_16 12 (dk_at dksX8_fillsWays_3 7 rfl rfl)
theorem dX8_fillsWays_77 : decode cX8_fillsWays 77 = .ok (.aload_n 0, 1) := dk_42 (dk_at dksX8_fillsWays_3 9 rfl rfl)
theorem dX8_fillsWays_78 : decode cX8_fillsWays 78 = .ok (.getfield 278, 3) := dk_180 1 22 (dk_at dksX8_fillsWays_3 10 rfl rfl)
theorem dX8_fillsWays_81 : decode cX8_fillsWays 81 = .ok (.imul, 1) := dk_104 (dk_at dksX8_fillsWays_3 13 rfl rfl)
theorem dX8_fillsWays_82 : decode cX8_fillsWays 82 = .ok (.iload_n 1, 1) := dk_27 (dk_at dksX8_fillsWays_3 14 rfl rfl)
theorem dX8_fillsWays_83 : decode cX8_fillsWays 83 = .ok (.iadd, 1) := dk_96 (dk_at dksX8_fillsWays_3 15 rfl rfl)
theorem dX8_fillsWays_84 : decode cX8_fillsWays 84 = .ok (.iaload, 1) := dk_46 (dk_at dksX8_fillsWays_3 16 rfl rfl)
theorem dX8_fillsWays_85 : decode cX8_fillsWays 85 = .ok (.istore_n 2, 1) := dk_61 (dk_at dksX8_fillsWays_3 17 rfl rfl)
theorem dX8_fillsWays_86 : decode cX8_fillsWays 86 = .ok (.aload_n 0, 1) := dk_42 (dk_at dksX8_fillsWays_3 18 rfl rfl)
theorem dX8_fillsWays_87 : decode cX8_fillsWays 87 = .ok (.getfield 58, 3) := dk_180 0 58 (dk_at dksX8_fillsWays_3 19 rfl rfl)
theorem dX8_fillsWays_90 : decode cX8_fillsWays 90 = .ok (.bipush 12, 2) := dk_16 12 (dk_at dksX8_fillsWays_3 22 rfl rfl)
theorem dX8_fillsWays_92 : decode cX8_fillsWays 92 = .ok (.aload_n 0, 1) := dk_42 (dk_at dksX8_fillsWays_4 0 rfl rfl)
theorem dX8_fillsWays_93 : decode cX8_fillsWays 93 = .ok (.getfield 278, 3) := dk_180 1 22 (dk_at dksX8_fillsWays_4 1 rfl rfl)
theorem dX8_fillsWays_96 : decode cX8_fillsWays 96 = .ok (.imul, 1) := dk_104 (dk_at dksX8_fillsWays_4 4 rfl rfl)
theorem dX8_fillsWays_97 : decode cX8_fillsWays 97 = .ok (.iload_n 1, 1) := dk_27 (dk_at dksX8_fillsWays_4 5 rfl rfl)
theorem dX8_fillsWays_98 : decode cX8_fillsWays 98 = .ok (.iadd, 1) := dk_96 (dk_at dksX8_fillsWays_4 6 rfl rfl)
theorem dX8_fillsWays_99 : decode cX8_fillsWays 99 = .ok (.iaload, 1) := dk_46 (dk_at dksX8_fillsWays_4 7 rfl rfl)
theorem dX8_fillsWays_100 : decode cX8_fillsWays 100 = .ok (.istore_n 3, 1) := dk_62 (dk_at dksX8_fillsWays_4 8 rfl rfl)
theorem dX8_fillsWays_101 : decode cX8_fillsWays 101 = .ok (.aload_n 0, 1) := dk_42 (dk_at dksX8_fillsWays_4 9 rfl rfl)
theorem dX8_fillsWays_102 : decode cX8_fillsWays 102 = .ok (.getfield 61, 3) := dk_180 0 61 (dk_at dksX8_fillsWays_4 10 rfl rfl)
theorem dX8_fillsWays_105 : decode cX8_fillsWays 105 = .ok (.bipush 12, 2) := dk_16 12 (dk_at dksX8_fillsWays_4 13 rfl rfl)
theorem dX8_fillsWays_107 : decode cX8_fillsWays 107 = .ok (.aload_n 0, 1) := dk_42 (dk_at dksX8_fillsWays_4 15 rfl rfl)
theorem dX8_fillsWays_108 : decode cX8_fillsWays 108 = .ok (.getfield 278, 3) := dk_180 1 22 (dk_at dksX8_fillsWays_4 16 rfl rfl)
theorem dX8_fillsWays_111 : decode cX8_fillsWays 111 = .ok (.imul, 1) := dk_104 (dk_at dksX8_fillsWays_4 19 rfl rfl)
theorem dX8_fillsWays_112 : decode cX8_fillsWays 112 = .ok (.iload_n 1, 1) := dk_27 (dk_at dksX8_fillsWays_4 20 rfl rfl)
theorem dX8_fillsWays_113 : decode cX8_fillsWays 113 = .ok (.iadd, 1) := dk_96 (dk_at dksX8_fillsWays_4 21 rfl rfl)
theorem dX8_fillsWays_114 : decode cX8_fillsWays 114 = .ok (.iaload, 1) := dk_46 (dk_at dksX8_fillsWays_4 22 rfl rfl)
theorem dX8_fillsWays_115 : decode cX8_fillsWays 115 = .ok (.istore 4, 2) := dk_54 4 (dk_at dksX8_fillsWays_5 0 rfl rfl)
theorem dX8_fillsWays_117 : decode cX8_fillsWays 117 = .ok (.iload 4, 2) := dk_21 4 (dk_at dksX8_fillsWays_5 2 rfl rfl)
theorem dX8_fillsWays_119 : decode cX8_fillsWays 119 = .ok (.aload_n 0, 1) := dk_42 (dk_at dksX8_fillsWays_5 4 rfl rfl)
theorem dX8_fillsWays_120 : decode cX8_fillsWays 120 = .ok (.getfield 164, 3) := dk_180 0 164 (dk_at dksX8_fillsWays_5 5 rfl rfl)
theorem dX8_fillsWays_123 : decode cX8_fillsWays 123 = .ok (.bipush 8, 2) := dk_16 8 (dk_at dksX8_fillsWays_5 8 rfl rfl)
theorem dX8_fillsWays_125 : decode cX8_fillsWays 125 = .ok (.iload_n 2, 1) := dk_28 (dk_at dksX8_fillsWays_5 10 rfl rfl)
theorem dX8_fillsWays_126 : decode cX8_fillsWays 126 = .ok (.imul, 1) := dk_104 (dk_at dksX8_fillsWays_5 11 rfl rfl)
theorem dX8_fillsWays_127 : decode cX8_fillsWays 127 = .ok (.iload_n 3, 1) := dk_29 (dk_at dksX8_fillsWays_5 12 rfl rfl)
theorem dX8_fillsWays_128 : decode cX8_fillsWays 128 = .ok (.iadd, 1) := dk_96 (dk_at dksX8_fillsWays_5 13 rfl rfl)
theorem dX8_fillsWays_129 : decode cX8_fillsWays 129 = .ok (.iaload, 1) := dk_46 (dk_at dksX8_fillsWays_5 14 rfl rfl)
theorem dX8_fillsWays_130 : decode cX8_fillsWays 130 = .ok (.if_icmp .lt 6, 3) := dk_161 0 6 (dk_at dksX8_fillsWays_5 15 rfl rfl)
theorem dX8_fillsWays_133 : decode cX8_fillsWays 133 = .ok (.goto 29, 3) := dk_167 0 29 (dk_at dksX8_fillsWays_5 18 rfl rfl)
theorem dX8_fillsWays_136 : decode cX8_fillsWays 136 = .ok (.aload_n 0, 1) := dk_42 (dk_at dksX8_fillsWays_5 21 rfl rfl)
theorem dX8_fillsWays_137 : decode cX8_fillsWays 137 = .ok (.getfield 164, 3) := dk_180 0 164 (dk_at dksX8_fillsWays_6 0 rfl rfl)
theorem dX8_fillsWays_140 : decode cX8_fillsWays 140 = .ok (.bipush 8, 2) := dk_16 8 (dk_at dksX8_fillsWays_6 3 rfl rfl)
theorem dX8_fillsWays_142 : decode cX8_fillsWays 142 = .ok (.iload_n 2, 1) := dk_28 (dk_at dksX8_fillsWays_6 5 rfl rfl)
theorem dX8_fillsWays_143 : decode cX8_fillsWays 143 = .ok (.imul, 1) := dk_104 (dk_at dksX8_fillsWays_6 6 rfl rfl)
theorem dX8_fillsWays_144 : decode cX8_fillsWays 144 = .ok (.iload_n 3, 1) := dk_29 (dk_at dksX8_fillsWays_6 7 rfl rfl)
theorem dX8_fillsWays_145 : decode cX8_fillsWays 145 = .ok (.iadd, 1) := dk_96 (dk_at dksX8_fillsWays_6 8 rfl rfl)
theorem dX8_fillsWays_146 : decode cX8_fillsWays 146 = .ok (.iload 4, 2) := dk_21 4 (dk_at dksX8_fillsWays_6 9 rfl rfl)
theorem dX8_fillsWays_148 : decode cX8_fillsWays 148 = .ok (.iastore, 1) := dk_79 (dk_at dksX8_fillsWays_6 11 rfl rfl)
theorem dX8_fillsWays_149 : decode cX8_fillsWays 149 = .ok (.aload_n 0, 1) := dk_42 (dk_at dksX8_fillsWays_6 12 rfl rfl)
theorem dX8_fillsWays_150 : decode cX8_fillsWays 150 = .ok (.getfield 164, 3) := dk_180 0 164 (dk_at dksX8_fillsWays_6 13 rfl rfl)
theorem dX8_fillsWays_153 : decode cX8_fillsWays 153 = .ok (.bipush 8, 2) := dk_16 8 (dk_at dksX8_fillsWays_6 16 rfl rfl)
theorem dX8_fillsWays_155 : decode cX8_fillsWays 155 = .ok (.iload_n 3, 1) := dk_29 (dk_at dksX8_fillsWays_6 18 rfl rfl)
theorem dX8_fillsWays_156 : decode cX8_fillsWays 156 = .ok (.imul, 1) := dk_104 (dk_at dksX8_fillsWays_6 19 rfl rfl)
theorem dX8_fillsWays_157 : decode cX8_fillsWays 157 = .ok (.iload_n 2, 1) := dk_28 (dk_at dksX8_fillsWays_6 20 rfl rfl)
theorem dX8_fillsWays_158 : decode cX8_fillsWays 158 = .ok (.iadd, 1) := dk_96 (dk_at dksX8_fillsWays_6 21 rfl rfl)
theorem dX8_fillsWays_159 : decode cX8_fillsWays 159 = .ok (.iload 4, 2) := dk_21 4 (dk_at dksX8_fillsWays_6 22 rfl rfl)
theorem dX8_fillsWays_161 : decode cX8_fillsWays 161 = .ok (.iastore, 1) := dk_79 (dk_at dksX8_fillsWays_7 0 rfl rfl)
theorem dX8_fillsWays_162 : decode cX8_fillsWays 162 = .ok (.iinc 1 1, 3) := dk_132 1 1 (dk_at dksX8_fillsWays_7 1 rfl rfl)
theorem dX8_fillsWays_165 : decode cX8_fillsWays 165 = .ok (.goto (-125), 3) := dk_167 255 131 (dk_at dksX8_fillsWays_7 4 rfl rfl)
theorem dX8_fillsWays_168 : decode cX8_fillsWays 168 = .ok (.iconst 0, 1) := dk_3 (dk_at dksX8_fillsWays_7 7 rfl rfl)
theorem dX8_fillsWays_169 : decode cX8_fillsWays 169 = .ok (.istore_n 1, 1) := dk_60 (dk_at dksX8_fillsWays_7 8 rfl rfl)
theorem dX8_fillsWays_170 : decode cX8_fillsWays 170 = .ok (.iload_n 1, 1) := dk_27 (dk_at dksX8_fillsWays_7 9 rfl rfl)
theorem dX8_fillsWays_171 : decode cX8_fillsWays 171 = .ok (.bipush 8, 2) := dk_16 8 (dk_at dksX8_fillsWays_7 10 rfl rfl)
theorem dX8_fillsWays_173 : decode cX8_fillsWays 173 = .ok (.if_icmp .ge 108, 3) := dk_162 0 108 (dk_at dksX8_fillsWays_7 12 rfl rfl)
theorem dX8_fillsWays_176 : decode cX8_fillsWays 176 = .ok (.iconst 0, 1) := dk_3 (dk_at dksX8_fillsWays_7 15 rfl rfl)
theorem dX8_fillsWays_177 : decode cX8_fillsWays 177 = .ok (.istore_n 2, 1) := dk_61 (dk_at dksX8_fillsWays_7 16 rfl rfl)
theorem dX8_fillsWays_178 : decode cX8_fillsWays 178 = .ok (.iload_n 2, 1) := dk_28 (dk_at dksX8_fillsWays_7 17 rfl rfl)
theorem dX8_fillsWays_179 : decode cX8_fillsWays 179 = .ok (.bipush 8, 2) := dk_16 8 (dk_at dksX8_fillsWays_7 18 rfl rfl)
theorem dX8_fillsWays_181 : decode cX8_fillsWays 181 = .ok (.if_icmp .ge 94, 3) := dk_162 0 94 (dk_at dksX8_fillsWays_7 20 rfl rfl)
theorem dX8_fillsWays_184 : decode cX8_fillsWays 184 = .ok (.iconst 0, 1) := dk_3 (dk_at dksX8_fillsWays_7 23 rfl rfl)
theorem dX8_fillsWays_185 : decode cX8_fillsWays 185 = .ok (.istore_n 3, 1) := dk_62 (dk_at dksX8_fillsWays_8 0 rfl rfl)
theorem dX8_fillsWays_186 : decode cX8_fillsWays 186 = .ok (.iload_n 3, 1) := dk_29 (dk_at dksX8_fillsWays_8 1 rfl rfl)
theorem dX8_fillsWays_187 : decode cX8_fillsWays 187 = .ok (.bipush 8, 2) := dk_16 8 (dk_at dksX8_fillsWays_8 2 rfl rfl)
theorem dX8_fillsWays_189 : decode cX8_fillsWays 189 = .ok (.if_icmp .ge 80, 3) := dk_162 0 80 (dk_at dksX8_fillsWays_8 4 rfl rfl)
theorem dX8_fillsWays_192 : decode cX8_fillsWays 192 = .ok (.aload_n 0, 1) := dk_42 (dk_at dksX8_fillsWays_8 7 rfl rfl)
theorem dX8_fillsWays_193 : decode cX8_fillsWays 193 = .ok (.getfield 164, 3) := dk_180 0 164 (dk_at dksX8_fillsWays_8 8 rfl rfl)
theorem dX8_fillsWays_196 : decode cX8_fillsWays 196 = .ok (.bipush 8, 2) := dk_16 8 (dk_at dksX8_fillsWays_8 11 rfl rfl)
theorem dX8_fillsWays_198 : decode cX8_fillsWays 198 = .ok (.iload_n 2, 1) := dk_28 (dk_at dksX8_fillsWays_8 13 rfl rfl)
theorem dX8_fillsWays_199 : decode cX8_fillsWays 199 = .ok (.imul, 1) := dk_104 (dk_at dksX8_fillsWays_8 14 rfl rfl)
theorem dX8_fillsWays_200 : decode cX8_fillsWays 200 = .ok (.iload_n 1, 1) := dk_27 (dk_at dksX8_fillsWays_8 15 rfl rfl)
theorem dX8_fillsWays_201 : decode cX8_fillsWays 201 = .ok (.iadd, 1) := dk_96 (dk_at dksX8_fillsWays_8 16 rfl rfl)
theorem dX8_fillsWays_202 : decode cX8_fillsWays 202 = .ok (.iaload, 1) := dk_46 (dk_at dksX8_fillsWays_8 17 rfl rfl)
theorem dX8_fillsWays_203 : decode cX8_fillsWays 203 = .ok (.aload_n 0, 1) := dk_42 (dk_at dksX8_fillsWays_8 18 rfl rfl)
theorem dX8_fillsWays_204 : decode cX8_fillsWays 204 = .ok (.getfield 164, 3) := dk_180 0 164 (dk_at dksX8_fillsWays_8 19 rfl rfl)
theorem dX8_fillsWays_207 : decode cX8_fillsWays 207 = .ok (.bipush 8, 2) := dk_16 8 (dk_at dksX8_fillsWays_8 22 rfl rfl)
theorem dX8_fillsWays_209 : decode cX8_fillsWays 209 = .ok (.iload_n 1, 1) := dk_27 (dk_at dksX8_fillsWays_9 0 rfl rfl)
theorem dX8_fillsWays_210 : decode cX8_fillsWays 210 = .ok (.imul, 1) := dk_104 (dk_at dksX8_fillsWays_9 1 rfl rfl)
theorem dX8_fillsWays_211 : decode cX8_fillsWays 211 = .ok (.iload_n 3, 1) := dk_29 (dk_at dksX8_fillsWays_9 2 rfl rfl)
theorem dX8_fillsWays_212 : decode cX8_fillsWays 212 = .ok (.iadd, 1) := dk_96 (dk_at dksX8_fillsWays_9 3 rfl rfl)
theorem dX8_fillsWays_213 : decode cX8_fillsWays 213 = .ok (.iaload, 1) := dk_46 (dk_at dksX8_fillsWays_9 4 rfl rfl)
theorem dX8_fillsWays_214 : decode cX8_fillsWays 214 = .ok (.iadd, 1) := dk_96 (dk_at dksX8_fillsWays_9 5 rfl rfl)
theorem dX8_fillsWays_215 : decode cX8_fillsWays 215 = .ok (.aload_n 0, 1) := dk_42 (dk_at dksX8_fillsWays_9 6 rfl rfl)
theorem dX8_fillsWays_216 : decode cX8_fillsWays 216 = .ok (.getfield 164, 3) := dk_180 0 164 (dk_at dksX8_fillsWays_9 7 rfl rfl)
theorem dX8_fillsWays_219 : decode cX8_fillsWays 219 = .ok (.bipush 8, 2) := dk_16 8 (dk_at dksX8_fillsWays_9 10 rfl rfl)
theorem dX8_fillsWays_221 : decode cX8_fillsWays 221 = .ok (.iload_n 2, 1) := dk_28 (dk_at dksX8_fillsWays_9 12 rfl rfl)
theorem dX8_fillsWays_222 : decode cX8_fillsWays 222 = .ok (.imul, 1) := dk_104 (dk_at dksX8_fillsWays_9 13 rfl rfl)
theorem dX8_fillsWays_223 : decode cX8_fillsWays 223 = .ok (.iload_n 3, 1) := dk_29 (dk_at dksX8_fillsWays_9 14 rfl rfl)
theorem dX8_fillsWays_224 : decode cX8_fillsWays 224 = .ok (.iadd, 1) := dk_96 (dk_at dksX8_fillsWays_9 15 rfl rfl)
theorem dX8_fillsWays_225 : decode cX8_fillsWays 225 = .ok (.iaload, 1) := dk_46 (dk_at dksX8_fillsWays_9 16 rfl rfl)
theorem dX8_fillsWays_226 : decode cX8_fillsWays 226 = .ok (.if_icmp .ge 37, 3) := dk_162 0 37 (dk_at dksX8_fillsWays_9 17 rfl rfl)
theorem dX8_fillsWays_229 : decode cX8_fillsWays 229 = .ok (.aload_n 0, 1) := dk_42 (dk_at dksX8_fillsWays_9 20 rfl rfl)
theorem dX8_fillsWays_230 : decode cX8_fillsWays 230 = .ok (.getfield 164, 3) := dk_180 0 164 (dk_at dksX8_fillsWays_9 21 rfl rfl)
theorem dX8_fillsWays_233 : decode cX8_fillsWays 233 = .ok (.bipush 8, 2) := dk_16 8 (dk_at dksX8_fillsWays_10 0 rfl rfl)
theorem dX8_fillsWays_235 : decode cX8_fillsWays 235 = .ok (.iload_n 2, 1) := dk_28 (dk_at dksX8_fillsWays_10 2 rfl rfl)
theorem dX8_fillsWays_236 : decode cX8_fillsWays 236 = .ok (.imul, 1) := dk_104 (dk_at dksX8_fillsWays_10 3 rfl rfl)
theorem dX8_fillsWays_237 : decode cX8_fillsWays 237 = .ok (.iload_n 3, 1) := dk_29 (dk_at dksX8_fillsWays_10 4 rfl rfl)
theorem dX8_fillsWays_238 : decode cX8_fillsWays 238 = .ok (.iadd, 1) := dk_96 (dk_at dksX8_fillsWays_10 5 rfl rfl)
theorem dX8_fillsWays_239 : decode cX8_fillsWays 239 = .ok (.aload_n 0, 1) := dk_42 (dk_at dksX8_fillsWays_10 6 rfl rfl)
theorem dX8_fillsWays_240 : decode cX8_fillsWays 240 = .ok (.getfield 164, 3) := dk_180 0 164 (dk_at dksX8_fillsWays_10 7 rfl rfl)
theorem dX8_fillsWays_243 : decode cX8_fillsWays 243 = .ok (.bipush 8, 2) := dk_16 8 (dk_at dksX8_fillsWays_10 10 rfl rfl)
theorem dX8_fillsWays_245 : decode cX8_fillsWays 245 = .ok (.iload_n 2, 1) := dk_28 (dk_at dksX8_fillsWays_10 12 rfl rfl)
theorem dX8_fillsWays_246 : decode cX8_fillsWays 246 = .ok (.imul, 1) := dk_104 (dk_at dksX8_fillsWays_10 13 rfl rfl)
theorem dX8_fillsWays_247 : decode cX8_fillsWays 247 = .ok (.iload_n 1, 1) := dk_27 (dk_at dksX8_fillsWays_10 14 rfl rfl)
theorem dX8_fillsWays_248 : decode cX8_fillsWays 248 = .ok (.iadd, 1) := dk_96 (dk_at dksX8_fillsWays_10 15 rfl rfl)
theorem dX8_fillsWays_249 : decode cX8_fillsWays 249 = .ok (.iaload, 1) := dk_46 (dk_at dksX8_fillsWays_10 16 rfl rfl)
theorem dX8_fillsWays_250 : decode cX8_fillsWays 250 = .ok (.aload_n 0, 1) := dk_42 (dk_at dksX8_fillsWays_10 17 rfl rfl)
theorem dX8_fillsWays_251 : decode cX8_fillsWays 251 = .ok (.getfield 164, 3) := dk_180 0 164 (dk_at dksX8_fillsWays_10 18 rfl rfl)
theorem dX8_fillsWays_254 : decode cX8_fillsWays 254 = .ok (.bipush 8, 2) := dk_16 8 (dk_at dksX8_fillsWays_10 21 rfl rfl)
theorem dX8_fillsWays_256 : decode cX8_fillsWays 256 = .ok (.iload_n 1, 1) := dk_27 (dk_at dksX8_fillsWays_10 23 rfl rfl)
theorem dX8_fillsWays_257 : decode cX8_fillsWays 257 = .ok (.imul, 1) := dk_104 (dk_at dksX8_fillsWays_11 0 rfl rfl)
theorem dX8_fillsWays_258 : decode cX8_fillsWays 258 = .ok (.iload_n 3, 1) := dk_29 (dk_at dksX8_fillsWays_11 1 rfl rfl)
theorem dX8_fillsWays_259 : decode cX8_fillsWays 259 = .ok (.iadd, 1) := dk_96 (dk_at dksX8_fillsWays_11 2 rfl rfl)
theorem dX8_fillsWays_260 : decode cX8_fillsWays 260 = .ok (.iaload, 1) := dk_46 (dk_at dksX8_fillsWays_11 3 rfl rfl)
theorem dX8_fillsWays_261 : decode cX8_fillsWays 261 = .ok (.iadd, 1) := dk_96 (dk_at dksX8_fillsWays_11 4 rfl rfl)
theorem dX8_fillsWays_262 : decode cX8_fillsWays 262 = .ok (.iastore, 1) := dk_79 (dk_at dksX8_fillsWays_11 5 rfl rfl)
theorem dX8_fillsWays_263 : decode cX8_fillsWays 263 = .ok (.iinc 3 1, 3) := dk_132 3 1 (dk_at dksX8_fillsWays_11 6 rfl rfl)
theorem dX8_fillsWays_266 : decode cX8_fillsWays 266 = .ok (.goto (-80), 3) := dk_167 255 176 (dk_at dksX8_fillsWays_11 9 rfl rfl)
theorem dX8_fillsWays_269 : decode cX8_fillsWays 269 = .ok (.iinc 2 1, 3) := dk_132 2 1 (dk_at dksX8_fillsWays_11 12 rfl rfl)
theorem dX8_fillsWays_272 : decode cX8_fillsWays 272 = .ok (.goto (-94), 3) := dk_167 255 162 (dk_at dksX8_fillsWays_11 15 rfl rfl)
theorem dX8_fillsWays_275 : decode cX8_fillsWays 275 = .ok (.iinc 1 1, 3) := dk_132 1 1 (dk_at dksX8_fillsWays_11 18 rfl rfl)
theorem dX8_fillsWays_278 : decode cX8_fillsWays 278 = .ok (.goto (-108), 3) := dk_167 255 148 (dk_at dksX8_fillsWays_11 21 rfl rfl)
theorem dX8_fillsWays_281 : decode cX8_fillsWays 281 = .ok (.return_, 1) := dk_177 (dk_at dksX8_fillsWays_12 0 rfl rfl)
abbrev cX8_leave : ByteArray := prog_22_method_73_code
def yX8_leave : MethodName := ⟨RX8, "leave", "(III)Z"⟩
def dkwX8_leave_1 : List UInt8 := [16, 42, 27, 96, 28, 79, 42, 180, 0, 158, 16, 48, 27, 96, 29, 79, 4, 172]
abbrev dktX8_leave_1 : List UInt8 := dkwX8_leave_1 ++ []
def dkwX8_leave_0 : List UInt8 := [42, 27, 182, 1, 190, 153, 0, 12, 42, 28, 29, 182, 1, 199, 154, 0, 5, 3, 172, 42, 180, 0, 158]
abbrev dktX8_leave_0 : List UInt8 := dkwX8_leave_0 ++ dktX8_leave_1
theorem dksX8_leave_0 : cX8_leave.data.toList.drop 0 = dktX8_leave_0 := by decide +kernel
theorem dksX8_leave_1 : cX8_leave.data.toList.drop 23 = dktX8_leave_1 := dk_seg dksX8_leave_0 23 rfl rfl
theorem dX8_leave_0 : decode cX8_leave 0 = .ok (.aload_n 0, 1) := dk_42 (dk_at dksX8_leave_0 0 rfl rfl)
theorem dX8_leave_1 : decode cX8_leave 1 = .ok (.iload_n 1, 1) := dk_27 (dk_at dksX8_leave_0 1 rfl rfl)
theorem dX8_leave_2 : decode cX8_leave 2 = .ok (.invokevirtual 446, 3) := dk_182 1 190 (dk_at dksX8_leave_0 2 rfl rfl)
theorem dX8_leave_5 : decode cX8_leave 5 = .ok (.ifCond .eq 12, 3) := dk_153 0 12 (dk_at dksX8_leave_0 5 rfl rfl)
theorem dX8_leave_8 : decode cX8_leave 8 = .ok (.aload_n 0, 1) := dk_42 (dk_at dksX8_leave_0 8 rfl rfl)
theorem dX8_leave_9 : decode cX8_leave 9 = .ok (.iload_n 2, 1) := dk_28 (dk_at dksX8_leave_0 9 rfl rfl)
theorem dX8_leave_10 : decode cX8_leave 10 = .ok (.iload_n 3, 1) := dk_29 (dk_at dksX8_leave_0 10 rfl rfl)
theorem dX8_leave_11 : decode cX8_leave 11 = .ok (.invokevirtual 455, 3) := dk_182 1 199 (dk_at dksX8_leave_0 11 rfl rfl)
theorem dX8_leave_14 : decode cX8_leave 14 = .ok (.ifCond .ne 5, 3) := dk_154 0 5 (dk_at dksX8_leave_0 14 rfl rfl)
theorem dX8_leave_17 : decode cX8_leave 17 = .ok (.iconst 0, 1) := dk_3 (dk_at dksX8_leave_0 17 rfl rfl)
theorem dX8_leave_18 : decode cX8_leave 18 = .ok (.ireturn, 1) := dk_172 (dk_at dksX8_leave_0 18 rfl rfl)
theorem dX8_leave_19 : decode cX8_leave 19 = .ok (.aload_n 0, 1) := dk_42 (dk_at dksX8_leave_0 19 rfl rfl)
theorem dX8_leave_20 : decode cX8_leave 20 = .ok (.getfield 158, 3) := dk_180 0 158 (dk_at dksX8_leave_0 20 rfl rfl)
theorem dX8_leave_23 : decode cX8_leave 23 = .ok (.bipush 42, 2) := dk_16 42 (dk_at dksX8_leave_1 0 rfl rfl)
theorem dX8_leave_25 : decode cX8_leave 25 = .ok (.iload_n 1, 1) := dk_27 (dk_at dksX8_leave_1 2 rfl rfl)
theorem dX8_leave_26 : decode cX8_leave 26 = .ok (.iadd, 1) := dk_96 (dk_at dksX8_leave_1 3 rfl rfl)
theorem dX8_leave_27 : decode cX8_leave 27 = .ok (.iload_n 2, 1) := dk_28 (dk_at dksX8_leave_1 4 rfl rfl)
theorem dX8_leave_28 : decode cX8_leave 28 = .ok (.iastore, 1) := dk_79 (dk_at dksX8_leave_1 5 rfl rfl)
theorem dX8_leave_29 : decode cX8_leave 29 = .ok (.aload_n 0, 1) := dk_42 (dk_at dksX8_leave_1 6 rfl rfl)
theorem dX8_leave_30 : decode cX8_leave 30 = .ok (.getfield 158, 3) := dk_180 0 158 (dk_at dksX8_leave_1 7 rfl rfl)
theorem dX8_leave_33 : decode cX8_leave 33 = .ok (.bipush 48, 2) := dk_16 48 (dk_at dksX8_leave_1 10 rfl rfl)
theorem dX8_leave_35 : decode cX8_leave 35 = .ok (.iload_n 1, 1) := dk_27 (dk_at dksX8_leave_1 12 rfl rfl)
theorem dX8_leave_36 : decode cX8_leave 36 = .ok (.iadd, 1) := dk_96 (dk_at dksX8_leave_1 13 rfl rfl)
theorem dX8_leave_37 : decode cX8_leave 37 = .ok (.iload_n 3, 1) := dk_29 (dk_at dksX8_leave_1 14 rfl rfl)
theorem dX8_leave_38 : decode cX8_leave 38 = .ok (.iastore, 1) := dk_79 (dk_at dksX8_leave_1 15 rfl rfl)
theorem dX8_leave_39 : decode cX8_leave 39 = .ok (.iconst 1, 1) := dk_4 (dk_at dksX8_leave_1 16 rfl rfl)
theorem dX8_leave_40 : decode cX8_leave 40 = .ok (.ireturn, 1) := dk_172 (dk_at dksX8_leave_1 17 rfl rfl)
abbrev cX8_isLeft : ByteArray := prog_22_method_72_code
def yX8_isLeft : MethodName := ⟨RX8, "isLeft", "(II)Z"⟩
def dkwX8_isLeft_1 : List UInt8 := [172]
abbrev dktX8_isLeft_1 : List UInt8 := dkwX8_isLeft_1 ++ []
def dkwX8_isLeft_0 : List UInt8 := [27, 2, 160, 0, 8, 28, 2, 159, 0, 12, 42, 27, 28, 182, 1, 184, 153, 0, 7, 4, 167, 0, 4, 3]
abbrev dktX8_isLeft_0 : List UInt8 := dkwX8_isLeft_0 ++ dktX8_isLeft_1
theorem dksX8_isLeft_0 : cX8_isLeft.data.toList.drop 0 = dktX8_isLeft_0 := by decide +kernel
theorem dksX8_isLeft_1 : cX8_isLeft.data.toList.drop 24 = dktX8_isLeft_1 := dk_seg dksX8_isLeft_0 24 rfl rfl
theorem dX8_isLeft_0 : decode cX8_isLeft 0 = .ok (.iload_n 1, 1) := dk_27 (dk_at dksX8_isLeft_0 0 rfl rfl)
theorem dX8_isLeft_1 : decode cX8_isLeft 1 = .ok (.iconst (-1), 1) := dk_2 (dk_at dksX8_isLeft_0 1 rfl rfl)
theorem dX8_isLeft_2 : decode cX8_isLeft 2 = .ok (.if_icmp .ne 8, 3) := dk_160 0 8 (dk_at dksX8_isLeft_0 2 rfl rfl)
theorem dX8_isLeft_5 : decode cX8_isLeft 5 = .ok (.iload_n 2, 1) := dk_28 (dk_at dksX8_isLeft_0 5 rfl rfl)
theorem dX8_isLeft_6 : decode cX8_isLeft 6 = .ok (.iconst (-1), 1) := dk_2 (dk_at dksX8_isLeft_0 6 rfl rfl)
theorem dX8_isLeft_7 : decode cX8_isLeft 7 = .ok (.if_icmp .eq 12, 3) := dk_159 0 12 (dk_at dksX8_isLeft_0 7 rfl rfl)
theorem dX8_isLeft_10 : decode cX8_isLeft 10 = .ok (.aload_n 0, 1) := dk_42 (dk_at dksX8_isLeft_0 10 rfl rfl)
theorem dX8_isLeft_11 : decode cX8_isLeft 11 = .ok (.iload_n 1, 1) := dk_27 (dk_at dksX8_isLeft_0 11 rfl rfl)
theorem dX8_isLeft_12 : decode cX8_isLeft 12 = .ok (.iload_n 2, 1) := dk_28 (dk_at dksX8_isLeft_0 12 rfl rfl)
theorem dX8_isLeft_13 : decode cX8_isLeft 13 = .ok (.invokevirtual 440, 3) := dk_182 1 184 (dk_at dksX8_isLeft_0 13 rfl rfl)
theorem dX8_isLeft_16 : decode cX8_isLeft 16 = .ok (.ifCond .eq 7, 3) := dk_153 0 7 (dk_at dksX8_isLeft_0 16 rfl rfl)
theorem dX8_isLeft_19 : decode cX8_isLeft 19 = .ok (.iconst 1, 1) := dk_4 (dk_at dksX8_isLeft_0 19 rfl rfl)
theorem dX8_isLeft_20 : decode cX8_isLeft 20 = .ok (.goto 4, 3) := dk_167 0 4 (dk_at dksX8_isLeft_0 20 rfl rfl)
theorem dX8_isLeft_23 : decode cX8_isLeft 23 = .ok (.iconst 0, 1) := dk_3 (dk_at dksX8_isLeft_0 23 rfl rfl)
theorem dX8_isLeft_24 : decode cX8_isLeft 24 = .ok (.ireturn, 1) := dk_172 (dk_at dksX8_isLeft_1 0 rfl rfl)
abbrev cX8_work : ByteArray := prog_22_method_74_code
def yX8_work : MethodName := ⟨RX8, "work", "(II)Z"⟩
def dkwX8_work_2 : List UInt8 := [42, 180, 0, 158, 29, 42, 180, 0, 161, 29, 46, 79, 132, 3, 1, 167, 255, 235, 4, 172]
abbrev dktX8_work_2 : List UInt8 := dkwX8_work_2 ++ []
def dkwX8_work_1 : List UInt8 := [42, 180, 0, 161, 27, 92, 46, 4, 100, 79, 42, 27, 28, 182, 1, 147, 3, 62, 29, 16, 100, 162, 0, 21]
abbrev dktX8_work_1 : List UInt8 := dkwX8_work_1 ++ dktX8_work_2
def dkwX8_work_0 : List UInt8 := [42, 27, 28, 182, 1, 184, 153, 0, 12, 42, 180, 0, 158, 27, 46, 154, 0, 5, 3, 172, 42, 182, 1, 181]
abbrev dktX8_work_0 : List UInt8 := dkwX8_work_0 ++ dktX8_work_1
theorem dksX8_work_0 : cX8_work.data.toList.drop 0 = dktX8_work_0 := by decide +kernel
theorem dksX8_work_1 : cX8_work.data.toList.drop 24 = dktX8_work_1 := dk_seg dksX8_work_0 24 rfl rfl
theorem dksX8_work_2 : cX8_work.data.toList.drop 48 = dktX8_work_2 := dk_seg dksX8_work_1 24 rfl rfl
theorem dX8_work_0 : decode cX8_work 0 = .ok (.aload_n 0, 1) := dk_42 (dk_at dksX8_work_0 0 rfl rfl)
theorem dX8_work_1 : decode cX8_work 1 = .ok (.iload_n 1, 1) := dk_27 (dk_at dksX8_work_0 1 rfl rfl)
theorem dX8_work_2 : decode cX8_work 2 = .ok (.iload_n 2, 1) := dk_28 (dk_at dksX8_work_0 2 rfl rfl)
theorem dX8_work_3 : decode cX8_work 3 = .ok (.invokevirtual 440, 3) := dk_182 1 184 (dk_at dksX8_work_0 3 rfl rfl)
theorem dX8_work_6 : decode cX8_work 6 = .ok (.ifCond .eq 12, 3) := dk_153 0 12 (dk_at dksX8_work_0 6 rfl rfl)
theorem dX8_work_9 : decode cX8_work 9 = .ok (.aload_n 0, 1) := dk_42 (dk_at dksX8_work_0 9 rfl rfl)
theorem dX8_work_10 : decode cX8_work 10 = .ok (.getfield 158, 3) := dk_180 0 158 (dk_at dksX8_work_0 10 rfl rfl)
theorem dX8_work_13 : decode cX8_work 13 = .ok (.iload_n 1, 1) := dk_27 (dk_at dksX8_work_0 13 rfl rfl)
theorem dX8_work_14 : decode cX8_work 14 = .ok (.iaload, 1) := dk_46 (dk_at dksX8_work_0 14 rfl rfl)
theorem dX8_work_15 : decode cX8_work 15 = .ok (.ifCond .ne 5, 3) := dk_154 0 5 (dk_at dksX8_work_0 15 rfl rfl)
theorem dX8_work_18 : decode cX8_work 18 = .ok (.iconst 0, 1) := dk_3 (dk_at dksX8_work_0 18 rfl rfl)
theorem dX8_work_19 : decode cX8_work 19 = .ok (.ireturn, 1) := dk_172 (dk_at dksX8_work_0 19 rfl rfl)
theorem dX8_work_20 : decode cX8_work 20 = .ok (.aload_n 0, 1) := dk_42 (dk_at dksX8_work_0 20 rfl rfl)
theorem dX8_work_21 : decode cX8_work 21 = .ok (.invokevirtual 437, 3) := dk_182 1 181 (dk_at dksX8_work_0 21 rfl rfl)
theorem dX8_work_24 : decode cX8_work 24 = .ok (.aload_n 0, 1) := dk_42 (dk_at dksX8_work_1 0 rfl rfl)
theorem dX8_work_25 : decode cX8_work 25 = .ok (.getfield 161, 3) := dk_180 0 161 (dk_at dksX8_work_1 1 rfl rfl)
theorem dX8_work_28 : decode cX8_work 28 = .ok (.iload_n 1, 1) := dk_27 (dk_at dksX8_work_1 4 rfl rfl)
theorem dX8_work_29 : decode cX8_work 29 = .ok (.dup2, 1) := dk_92 (dk_at dksX8_work_1 5 rfl rfl)
theorem dX8_work_30 : decode cX8_work 30 = .ok (.iaload, 1) := dk_46 (dk_at dksX8_work_1 6 rfl rfl)
theorem dX8_work_31 : decode cX8_work 31 = .ok (.iconst 1, 1) := dk_4 (dk_at dksX8_work_1 7 rfl rfl)
theorem dX8_work_32 : decode cX8_work 32 = .ok (.isub, 1) := dk_100 (dk_at dksX8_work_1 8 rfl rfl)
theorem dX8_work_33 : decode cX8_work 33 = .ok (.iastore, 1) := dk_79 (dk_at dksX8_work_1 9 rfl rfl)
theorem dX8_work_34 : decode cX8_work 34 = .ok (.aload_n 0, 1) := dk_42 (dk_at dksX8_work_1 10 rfl rfl)
theorem dX8_work_35 : decode cX8_work 35 = .ok (.iload_n 1, 1) := dk_27 (dk_at dksX8_work_1 11 rfl rfl)
theorem dX8_work_36 : decode cX8_work 36 = .ok (.iload_n 2, 1) := dk_28 (dk_at dksX8_work_1 12 rfl rfl)
theorem dX8_work_37 : decode cX8_work 37 = .ok (.invokevirtual 403, 3) := dk_182 1 147 (dk_at dksX8_work_1 13 rfl rfl)
theorem dX8_work_40 : decode cX8_work 40 = .ok (.iconst 0, 1) := dk_3 (dk_at dksX8_work_1 16 rfl rfl)
theorem dX8_work_41 : decode cX8_work 41 = .ok (.istore_n 3, 1) := dk_62 (dk_at dksX8_work_1 17 rfl rfl)
theorem dX8_work_42 : decode cX8_work 42 = .ok (.iload_n 3, 1) := dk_29 (dk_at dksX8_work_1 18 rfl rfl)
theorem dX8_work_43 : decode cX8_work 43 = .ok (.bipush 100, 2) := dk_16 100 (dk_at dksX8_work_1 19 rfl rfl)
theorem dX8_work_45 : decode cX8_work 45 = .ok (.if_icmp .ge 21, 3) := dk_162 0 21 (dk_at dksX8_work_1 21 rfl rfl)
theorem dX8_work_48 : decode cX8_work 48 = .ok (.aload_n 0, 1) := dk_42 (dk_at dksX8_work_2 0 rfl rfl)
theorem dX8_work_49 : decode cX8_work 49 = .ok (.getfield 158, 3) := dk_180 0 158 (dk_at dksX8_work_2 1 rfl rfl)
theorem dX8_work_52 : decode cX8_work 52 = .ok (.iload_n 3, 1) := dk_29 (dk_at dksX8_work_2 4 rfl rfl)
theorem dX8_work_53 : decode cX8_work 53 = .ok (.aload_n 0, 1) := dk_42 (dk_at dksX8_work_2 5 rfl rfl)
theorem dX8_work_54 : decode cX8_work 54 = .ok (.getfield 161, 3) := dk_180 0 161 (dk_at dksX8_work_2 6 rfl rfl)
theorem dX8_work_57 : decode cX8_work 57 = .ok (.iload_n 3, 1) := dk_29 (dk_at dksX8_work_2 9 rfl rfl)
theorem dX8_work_58 : decode cX8_work 58 = .ok (.iaload, 1) := dk_46 (dk_at dksX8_work_2 10 rfl rfl)
theorem dX8_work_59 : decode cX8_work 59 = .ok (.iastore, 1) := dk_79 (dk_at dksX8_work_2 11 rfl rfl)
theorem dX8_work_60 : decode cX8_work 60 = .ok (.iinc 3 1, 3) := dk_132 3 1 (dk_at dksX8_work_2 12 rfl rfl)
theorem dX8_work_63 : decode cX8_work 63 = .ok (.goto (-21), 3) := dk_167 255 235 (dk_at dksX8_work_2 15 rfl rfl)
theorem dX8_work_66 : decode cX8_work 66 = .ok (.iconst 1, 1) := dk_4 (dk_at dksX8_work_2 18 rfl rfl)
theorem dX8_work_67 : decode cX8_work 67 = .ok (.ireturn, 1) := dk_172 (dk_at dksX8_work_2 19 rfl rfl)
abbrev cX8_does : ByteArray := prog_22_method_59_code
def yX8_does : MethodName := ⟨RX8, "does", "(II)V"⟩
def dkwX8_does_2 : List UInt8 := [158, 0, 21, 42, 180, 0, 161, 16, 6, 16, 6, 27, 104, 96, 29, 96, 92, 46, 4, 100, 79, 177]
abbrev dktX8_does_2 : List UInt8 := dkwX8_does_2 ++ []
def dkwX8_does_1 : List UInt8 := [28, 182, 1, 137, 46, 62, 29, 155, 0, 38, 42, 180, 0, 161, 16, 6, 16, 6, 27, 104, 96, 29, 96, 46]
abbrev dktX8_does_1 : List UInt8 := dkwX8_does_1 ++ dktX8_does_2
def dkwX8_does_0 : List UInt8 := [42, 180, 0, 161, 16, 6, 16, 6, 27, 104, 96, 28, 96, 92, 46, 4, 96, 79, 42, 180, 0, 101, 42, 27]
abbrev dktX8_does_0 : List UInt8 := dkwX8_does_0 ++ dktX8_does_1
theorem dksX8_does_0 : cX8_does.data.toList.drop 0 = dktX8_does_0 := by decide +kernel
theorem dksX8_does_1 : cX8_does.data.toList.drop 24 = dktX8_does_1 := dk_seg dksX8_does_0 24 rfl rfl
theorem dksX8_does_2 : cX8_does.data.toList.drop 48 = dktX8_does_2 := dk_seg dksX8_does_1 24 rfl rfl
theorem dX8_does_0 : decode cX8_does 0 = .ok (.aload_n 0, 1) := dk_42 (dk_at dksX8_does_0 0 rfl rfl)
theorem dX8_does_1 : decode cX8_does 1 = .ok (.getfield 161, 3) := dk_180 0 161 (dk_at dksX8_does_0 1 rfl rfl)
theorem dX8_does_4 : decode cX8_does 4 = .ok (.bipush 6, 2) := dk_16 6 (dk_at dksX8_does_0 4 rfl rfl)
theorem dX8_does_6 : decode cX8_does 6 = .ok (.bipush 6, 2) := dk_16 6 (dk_at dksX8_does_0 6 rfl rfl)
theorem dX8_does_8 : decode cX8_does 8 = .ok (.iload_n 1, 1) := dk_27 (dk_at dksX8_does_0 8 rfl rfl)
theorem dX8_does_9 : decode cX8_does 9 = .ok (.imul, 1) := dk_104 (dk_at dksX8_does_0 9 rfl rfl)
theorem dX8_does_10 : decode cX8_does 10 = .ok (.iadd, 1) := dk_96 (dk_at dksX8_does_0 10 rfl rfl)
theorem dX8_does_11 : decode cX8_does 11 = .ok (.iload_n 2, 1) := dk_28 (dk_at dksX8_does_0 11 rfl rfl)
theorem dX8_does_12 : decode cX8_does 12 = .ok (.iadd, 1) := dk_96 (dk_at dksX8_does_0 12 rfl rfl)
theorem dX8_does_13 : decode cX8_does 13 = .ok (.dup2, 1) := dk_92 (dk_at dksX8_does_0 13 rfl rfl)
theorem dX8_does_14 : decode cX8_does 14 = .ok (.iaload, 1) := dk_46 (dk_at dksX8_does_0 14 rfl rfl)
theorem dX8_does_15 : decode cX8_does 15 = .ok (.iconst 1, 1) := dk_4 (dk_at dksX8_does_0 15 rfl rfl)
theorem dX8_does_16 : decode cX8_does 16 = .ok (.iadd, 1) := dk_96 (dk_at dksX8_does_0 16 rfl rfl)
theorem dX8_does_17 : decode cX8_does 17 = .ok (.iastore, 1) := dk_79 (dk_at dksX8_does_0 17 rfl rfl)
theorem dX8_does_18 : decode cX8_does 18 = .ok (.aload_n 0, 1) := dk_42 (dk_at dksX8_does_0 18 rfl rfl)
theorem dX8_does_19 : decode cX8_does 19 = .ok (.getfield 101, 3) := dk_180 0 101 (dk_at dksX8_does_0 19 rfl rfl)
theorem dX8_does_22 : decode cX8_does 22 = .ok (.aload_n 0, 1) := dk_42 (dk_at dksX8_does_0 22 rfl rfl)
theorem dX8_does_23 : decode cX8_does 23 = .ok (.iload_n 1, 1) := dk_27 (dk_at dksX8_does_0 23 rfl rfl)
theorem dX8_does_24 : decode cX8_does 24 = .ok (.iload_n 2, 1) := dk_28 (dk_at dksX8_does_1 0 rfl rfl)
theorem dX8_does_25 : decode cX8_does 25 = .ok (.invokevirtual 393, 3) := dk_182 1 137 (dk_at dksX8_does_1 1 rfl rfl)
theorem dX8_does_28 : decode cX8_does 28 = .ok (.iaload, 1) := dk_46 (dk_at dksX8_does_1 4 rfl rfl)
theorem dX8_does_29 : decode cX8_does 29 = .ok (.istore_n 3, 1) := dk_62 (dk_at dksX8_does_1 5 rfl rfl)
theorem dX8_does_30 : decode cX8_does 30 = .ok (.iload_n 3, 1) := dk_29 (dk_at dksX8_does_1 6 rfl rfl)
theorem dX8_does_31 : decode cX8_does 31 = .ok (.ifCond .lt 38, 3) := dk_155 0 38 (dk_at dksX8_does_1 7 rfl rfl)
theorem dX8_does_34 : decode cX8_does 34 = .ok (.aload_n 0, 1) := dk_42 (dk_at dksX8_does_1 10 rfl rfl)
theorem dX8_does_35 : decode cX8_does 35 = .ok (.getfield 161, 3) := dk_180 0 161 (dk_at dksX8_does_1 11 rfl rfl)
theorem dX8_does_38 : decode cX8_does 38 = .ok (.bipush 6, 2) := dk_16 6 (dk_at dksX8_does_1 14 rfl rfl)
theorem dX8_does_40 : decode cX8_does 40 = .ok (.bipush 6, 2) := dk_16 6 (dk_at dksX8_does_1 16 rfl rfl)
theorem dX8_does_42 : decode cX8_does 42 = .ok (.iload_n 1, 1) := dk_27 (dk_at dksX8_does_1 18 rfl rfl)
theorem dX8_does_43 : decode cX8_does 43 = .ok (.imul, 1) := dk_104 (dk_at dksX8_does_1 19 rfl rfl)
theorem dX8_does_44 : decode cX8_does 44 = .ok (.iadd, 1) := dk_96 (dk_at dksX8_does_1 20 rfl rfl)
theorem dX8_does_45 : decode cX8_does 45 = .ok (.iload_n 3, 1) := dk_29 (dk_at dksX8_does_1 21 rfl rfl)
theorem dX8_does_46 : decode cX8_does 46 = .ok (.iadd, 1) := dk_96 (dk_at dksX8_does_1 22 rfl rfl)
theorem dX8_does_47 : decode cX8_does 47 = .ok (.iaload, 1) := dk_46 (dk_at dksX8_does_1 23 rfl rfl)
theorem dX8_does_48 : decode cX8_does 48 = .ok (.ifCond .le 21, 3) := dk_158 0 21 (dk_at dksX8_does_2 0 rfl rfl)
theorem dX8_does_51 : decode cX8_does 51 = .ok (.aload_n 0, 1) := dk_42 (dk_at dksX8_does_2 3 rfl rfl)
theorem dX8_does_52 : decode cX8_does 52 = .ok (.getfield 161, 3) := dk_180 0 161 (dk_at dksX8_does_2 4 rfl rfl)
theorem dX8_does_55 : decode cX8_does 55 = .ok (.bipush 6, 2) := dk_16 6 (dk_at dksX8_does_2 7 rfl rfl)
theorem dX8_does_57 : decode cX8_does 57 = .ok (.bipush 6, 2) := dk_16 6 (dk_at dksX8_does_2 9 rfl rfl)
theorem dX8_does_59 : decode cX8_does 59 = .ok (.iload_n 1, 1) := dk_27 (dk_at dksX8_does_2 11 rfl rfl)
theorem dX8_does_60 : decode cX8_does 60 = .ok (.imul, 1) := dk_104 (dk_at dksX8_does_2 12 rfl rfl)
theorem dX8_does_61 : decode cX8_does 61 = .ok (.iadd, 1) := dk_96 (dk_at dksX8_does_2 13 rfl rfl)
theorem dX8_does_62 : decode cX8_does 62 = .ok (.iload_n 3, 1) := dk_29 (dk_at dksX8_does_2 14 rfl rfl)
theorem dX8_does_63 : decode cX8_does 63 = .ok (.iadd, 1) := dk_96 (dk_at dksX8_does_2 15 rfl rfl)
theorem dX8_does_64 : decode cX8_does 64 = .ok (.dup2, 1) := dk_92 (dk_at dksX8_does_2 16 rfl rfl)
theorem dX8_does_65 : decode cX8_does 65 = .ok (.iaload, 1) := dk_46 (dk_at dksX8_does_2 17 rfl rfl)
theorem dX8_does_66 : decode cX8_does 66 = .ok (.iconst 1, 1) := dk_4 (dk_at dksX8_does_2 18 rfl rfl)
theorem dX8_does_67 : decode cX8_does 67 = .ok (.isub, 1) := dk_100 (dk_at dksX8_does_2 19 rfl rfl)
theorem dX8_does_68 : decode cX8_does 68 = .ok (.iastore, 1) := dk_79 (dk_at dksX8_does_2 20 rfl rfl)
theorem dX8_does_69 : decode cX8_does 69 = .ok (.return_, 1) := dk_177 (dk_at dksX8_does_2 21 rfl rfl)
abbrev cX8_lay : ByteArray := prog_22_method_75_code
def yX8_lay : MethodName := ⟨RX8, "lay", "(II)Z"⟩
def dkwX8_lay_1 : List UInt8 := [27, 96, 28, 79, 4, 172]
abbrev dktX8_lay_1 : List UInt8 := dkwX8_lay_1 ++ []
def dkwX8_lay_0 : List UInt8 := [42, 27, 182, 1, 193, 153, 0, 11, 42, 28, 182, 1, 196, 154, 0, 5, 3, 172, 42, 180, 0, 158, 16, 72]
abbrev dktX8_lay_0 : List UInt8 := dkwX8_lay_0 ++ dktX8_lay_1
theorem dksX8_lay_0 : cX8_lay.data.toList.drop 0 = dktX8_lay_0 := by decide +kernel
theorem dksX8_lay_1 : cX8_lay.data.toList.drop 24 = dktX8_lay_1 := dk_seg dksX8_lay_0 24 rfl rfl
theorem dX8_lay_0 : decode cX8_lay 0 = .ok (.aload_n 0, 1) := dk_42 (dk_at dksX8_lay_0 0 rfl rfl)
theorem dX8_lay_1 : decode cX8_lay 1 = .ok (.iload_n 1, 1) := dk_27 (dk_at dksX8_lay_0 1 rfl rfl)
theorem dX8_lay_2 : decode cX8_lay 2 = .ok (.invokevirtual 449, 3) := dk_182 1 193 (dk_at dksX8_lay_0 2 rfl rfl)
theorem dX8_lay_5 : decode cX8_lay 5 = .ok (.ifCond .eq 11, 3) := dk_153 0 11 (dk_at dksX8_lay_0 5 rfl rfl)
theorem dX8_lay_8 : decode cX8_lay 8 = .ok (.aload_n 0, 1) := dk_42 (dk_at dksX8_lay_0 8 rfl rfl)
theorem dX8_lay_9 : decode cX8_lay 9 = .ok (.iload_n 2, 1) := dk_28 (dk_at dksX8_lay_0 9 rfl rfl)
theorem dX8_lay_10 : decode cX8_lay 10 = .ok (.invokevirtual 452, 3) := dk_182 1 196 (dk_at dksX8_lay_0 10 rfl rfl)
theorem dX8_lay_13 : decode cX8_lay 13 = .ok (.ifCond .ne 5, 3) := dk_154 0 5 (dk_at dksX8_lay_0 13 rfl rfl)
theorem dX8_lay_16 : decode cX8_lay 16 = .ok (.iconst 0, 1) := dk_3 (dk_at dksX8_lay_0 16 rfl rfl)
theorem dX8_lay_17 : decode cX8_lay 17 = .ok (.ireturn, 1) := dk_172 (dk_at dksX8_lay_0 17 rfl rfl)
theorem dX8_lay_18 : decode cX8_lay 18 = .ok (.aload_n 0, 1) := dk_42 (dk_at dksX8_lay_0 18 rfl rfl)
theorem dX8_lay_19 : decode cX8_lay 19 = .ok (.getfield 158, 3) := dk_180 0 158 (dk_at dksX8_lay_0 19 rfl rfl)
theorem dX8_lay_22 : decode cX8_lay 22 = .ok (.bipush 72, 2) := dk_16 72 (dk_at dksX8_lay_0 22 rfl rfl)
theorem dX8_lay_24 : decode cX8_lay 24 = .ok (.iload_n 1, 1) := dk_27 (dk_at dksX8_lay_1 0 rfl rfl)
theorem dX8_lay_25 : decode cX8_lay 25 = .ok (.iadd, 1) := dk_96 (dk_at dksX8_lay_1 1 rfl rfl)
theorem dX8_lay_26 : decode cX8_lay 26 = .ok (.iload_n 2, 1) := dk_28 (dk_at dksX8_lay_1 2 rfl rfl)
theorem dX8_lay_27 : decode cX8_lay 27 = .ok (.iastore, 1) := dk_79 (dk_at dksX8_lay_1 3 rfl rfl)
theorem dX8_lay_28 : decode cX8_lay 28 = .ok (.iconst 1, 1) := dk_4 (dk_at dksX8_lay_1 4 rfl rfl)
theorem dX8_lay_29 : decode cX8_lay 29 = .ok (.ireturn, 1) := dk_172 (dk_at dksX8_lay_1 5 rfl rfl)
abbrev cX8_give : ByteArray := prog_22_method_76_code
def yX8_give : MethodName := ⟨RX8, "give", "(II)Z"⟩
def dkwX8_give_1 : List UInt8 := [27, 96, 16, 100, 28, 96, 79, 4, 172]
abbrev dktX8_give_1 : List UInt8 := dkwX8_give_1 ++ []
def dkwX8_give_0 : List UInt8 := [42, 27, 182, 1, 193, 153, 0, 11, 42, 28, 182, 1, 190, 154, 0, 5, 3, 172, 42, 180, 0, 158, 16, 72]
abbrev dktX8_give_0 : List UInt8 := dkwX8_give_0 ++ dktX8_give_1
theorem dksX8_give_0 : cX8_give.data.toList.drop 0 = dktX8_give_0 := by decide +kernel
theorem dksX8_give_1 : cX8_give.data.toList.drop 24 = dktX8_give_1 := dk_seg dksX8_give_0 24 rfl rfl
theorem dX8_give_0 : decode cX8_give 0 = .ok (.aload_n 0, 1) := dk_42 (dk_at dksX8_give_0 0 rfl rfl)
theorem dX8_give_1 : decode cX8_give 1 = .ok (.iload_n 1, 1) := dk_27 (dk_at dksX8_give_0 1 rfl rfl)
theorem dX8_give_2 : decode cX8_give 2 = .ok (.invokevirtual 449, 3) := dk_182 1 193 (dk_at dksX8_give_0 2 rfl rfl)
theorem dX8_give_5 : decode cX8_give 5 = .ok (.ifCond .eq 11, 3) := dk_153 0 11 (dk_at dksX8_give_0 5 rfl rfl)
theorem dX8_give_8 : decode cX8_give 8 = .ok (.aload_n 0, 1) := dk_42 (dk_at dksX8_give_0 8 rfl rfl)
theorem dX8_give_9 : decode cX8_give 9 = .ok (.iload_n 2, 1) := dk_28 (dk_at dksX8_give_0 9 rfl rfl)
theorem dX8_give_10 : decode cX8_give 10 = .ok (.invokevirtual 446, 3) := dk_182 1 190 (dk_at dksX8_give_0 10 rfl rfl)
theorem dX8_give_13 : decode cX8_give 13 = .ok (.ifCond .ne 5, 3) := dk_154 0 5 (dk_at dksX8_give_0 13 rfl rfl)
theorem dX8_give_16 : decode cX8_give 16 = .ok (.iconst 0, 1) := dk_3 (dk_at dksX8_give_0 16 rfl rfl)
theorem dX8_give_17 : decode cX8_give 17 = .ok (.ireturn, 1) := dk_172 (dk_at dksX8_give_0 17 rfl rfl)
theorem dX8_give_18 : decode cX8_give 18 = .ok (.aload_n 0, 1) := dk_42 (dk_at dksX8_give_0 18 rfl rfl)
theorem dX8_give_19 : decode cX8_give 19 = .ok (.getfield 158, 3) := dk_180 0 158 (dk_at dksX8_give_0 19 rfl rfl)
theorem dX8_give_22 : decode cX8_give 22 = .ok (.bipush 72, 2) := dk_16 72 (dk_at dksX8_give_0 22 rfl rfl)
theorem dX8_give_24 : decode cX8_give 24 = .ok (.iload_n 1, 1) := dk_27 (dk_at dksX8_give_1 0 rfl rfl)
theorem dX8_give_25 : decode cX8_give 25 = .ok (.iadd, 1) := dk_96 (dk_at dksX8_give_1 1 rfl rfl)
theorem dX8_give_26 : decode cX8_give 26 = .ok (.bipush 100, 2) := dk_16 100 (dk_at dksX8_give_1 2 rfl rfl)
theorem dX8_give_28 : decode cX8_give 28 = .ok (.iload_n 2, 1) := dk_28 (dk_at dksX8_give_1 4 rfl rfl)
theorem dX8_give_29 : decode cX8_give 29 = .ok (.iadd, 1) := dk_96 (dk_at dksX8_give_1 5 rfl rfl)
theorem dX8_give_30 : decode cX8_give 30 = .ok (.iastore, 1) := dk_79 (dk_at dksX8_give_1 6 rfl rfl)
theorem dX8_give_31 : decode cX8_give 31 = .ok (.iconst 1, 1) := dk_4 (dk_at dksX8_give_1 7 rfl rfl)
theorem dX8_give_32 : decode cX8_give 32 = .ok (.ireturn, 1) := dk_172 (dk_at dksX8_give_1 8 rfl rfl)
abbrev cX8_bar : ByteArray := prog_22_method_77_code
def yX8_bar : MethodName := ⟨RX8, "bar", "(IZ)Z"⟩
def dkwX8_bar_2 : List UInt8 := [180, 0, 158, 16, 78, 46, 4, 27, 120, 2, 130, 126, 79, 4, 172]
abbrev dktX8_bar_2 : List UInt8 := dkwX8_bar_2 ++ []
def dkwX8_bar_1 : List UInt8 := [180, 0, 158, 16, 78, 28, 153, 0, 17, 42, 180, 0, 158, 16, 78, 46, 4, 27, 120, 128, 167, 0, 16, 42]
abbrev dktX8_bar_1 : List UInt8 := dkwX8_bar_1 ++ dktX8_bar_2
def dkwX8_bar_0 : List UInt8 := [27, 3, 42, 180, 0, 52, 42, 180, 1, 22, 46, 4, 100, 184, 1, 124, 154, 0, 5, 3, 172, 42]
abbrev dktX8_bar_0 : List UInt8 := dkwX8_bar_0 ++ dktX8_bar_1
theorem dksX8_bar_0 : cX8_bar.data.toList.drop 0 = dktX8_bar_0 := by decide +kernel
theorem dksX8_bar_1 : cX8_bar.data.toList.drop 22 = dktX8_bar_1 := dk_seg dksX8_bar_0 22 rfl rfl
theorem dksX8_bar_2 : cX8_bar.data.toList.drop 46 = dktX8_bar_2 := dk_seg dksX8_bar_1 24 rfl rfl
theorem dX8_bar_0 : decode cX8_bar 0 = .ok (.iload_n 1, 1) := dk_27 (dk_at dksX8_bar_0 0 rfl rfl)
theorem dX8_bar_1 : decode cX8_bar 1 = .ok (.iconst 0, 1) := dk_3 (dk_at dksX8_bar_0 1 rfl rfl)
theorem dX8_bar_2 : decode cX8_bar 2 = .ok (.aload_n 0, 1) := dk_42 (dk_at dksX8_bar_0 2 rfl rfl)
theorem dX8_bar_3 : decode cX8_bar 3 = .ok (.getfield 52, 3) := dk_180 0 52 (dk_at dksX8_bar_0 3 rfl rfl)
theorem dX8_bar_6 : decode cX8_bar 6 = .ok (.aload_n 0, 1) := dk_42 (dk_at dksX8_bar_0 6 rfl rfl)
theorem dX8_bar_7 : decode cX8_bar 7 = .ok (.getfield 278, 3) := dk_180 1 22 (dk_at dksX8_bar_0 7 rfl rfl)
theorem dX8_bar_10 : decode cX8_bar 10 = .ok (.iaload, 1) := dk_46 (dk_at dksX8_bar_0 10 rfl rfl)
theorem dX8_bar_11 : decode cX8_bar 11 = .ok (.iconst 1, 1) := dk_4 (dk_at dksX8_bar_0 11 rfl rfl)
theorem dX8_bar_12 : decode cX8_bar 12 = .ok (.isub, 1) := dk_100 (dk_at dksX8_bar_0 12 rfl rfl)
theorem dX8_bar_13 : decode cX8_bar 13 = .ok (.invokestatic 380, 3) := dk_184 1 124 (dk_at dksX8_bar_0 13 rfl rfl)
theorem dX8_bar_16 : decode cX8_bar 16 = .ok (.ifCond .ne 5, 3) := dk_154 0 5 (dk_at dksX8_bar_0 16 rfl rfl)
theorem dX8_bar_19 : decode cX8_bar 19 = .ok (.iconst 0, 1) := dk_3 (dk_at dksX8_bar_0 19 rfl rfl)
theorem dX8_bar_20 : decode cX8_bar 20 = .ok (.ireturn, 1) := dk_172 (dk_at dksX8_bar_0 20 rfl rfl)
theorem dX8_bar_21 : decode cX8_bar 21 = .ok (.aload_n 0, 1) := dk_42 (dk_at dksX8_bar_0 21 rfl rfl)
theorem dX8_bar_22 : decode cX8_bar 22 = .ok (.getfield 158, 3) := dk_180 0 158 (dk_at dksX8_bar_1 0 rfl rfl)
theorem dX8_bar_25 : decode cX8_bar 25 = .ok (.bipush 78, 2) := dk_16 78 (dk_at dksX8_bar_1 3 rfl rfl)
theorem dX8_bar_27 : decode cX8_bar 27 = .ok (.iload_n 2, 1) := dk_28 (dk_at dksX8_bar_1 5 rfl rfl)
theorem dX8_bar_28 : decode cX8_bar 28 = .ok (.ifCond .eq 17, 3) := dk_153 0 17 (dk_at dksX8_bar_1 6 rfl rfl)
theorem dX8_bar_31 : decode cX8_bar 31 = .ok (.aload_n 0, 1) := dk_42 (dk_at dksX8_bar_1 9 rfl rfl)
theorem dX8_bar_32 : decode cX8_bar 32 = .ok (.getfield 158, 3) := dk_180 0 158 (dk_at dksX8_bar_1 10 rfl rfl)
theorem dX8_bar_35 : decode cX8_bar 35 = .ok (.bipush 78, 2) := dk_16 78 (dk_at dksX8_bar_1 13 rfl rfl)
theorem dX8_bar_37 : decode cX8_bar 37 = .ok (.iaload, 1) := dk_46 (dk_at dksX8_bar_1 15 rfl rfl)
theorem dX8_bar_38 : decode cX8_bar 38 = .ok (.iconst 1, 1) := dk_4 (dk_at dksX8_bar_1 16 rfl rfl)
theorem dX8_bar_39 : decode cX8_bar 39 = .ok (.iload_n 1, 1) := dk_27 (dk_at dksX8_bar_1 17 rfl rfl)
theorem dX8_bar_40 : decode cX8_bar 40 = .ok (.ishl, 1) := dk_120 (dk_at dksX8_bar_1 18 rfl rfl)
theorem dX8_bar_41 : decode cX8_bar 41 = .ok (.ior, 1) := dk_128 (dk_at dksX8_bar_1 19 rfl rfl)
theorem dX8_bar_42 : decode cX8_bar 42 = .ok (.goto 16, 3) := dk_167 0 16 (dk_at dksX8_bar_1 20 rfl rfl)
theorem dX8_bar_45 : decode cX8_bar 45 = .ok (.aload_n 0, 1) := dk_42 (dk_at dksX8_bar_1 23 rfl rfl)
theorem dX8_bar_46 : decode cX8_bar 46 = .ok (.getfield 158, 3) := dk_180 0 158 (dk_at dksX8_bar_2 0 rfl rfl)
theorem dX8_bar_49 : decode cX8_bar 49 = .ok (.bipush 78, 2) := dk_16 78 (dk_at dksX8_bar_2 3 rfl rfl)
theorem dX8_bar_51 : decode cX8_bar 51 = .ok (.iaload, 1) := dk_46 (dk_at dksX8_bar_2 5 rfl rfl)
theorem dX8_bar_52 : decode cX8_bar 52 = .ok (.iconst 1, 1) := dk_4 (dk_at dksX8_bar_2 6 rfl rfl)
theorem dX8_bar_53 : decode cX8_bar 53 = .ok (.iload_n 1, 1) := dk_27 (dk_at dksX8_bar_2 7 rfl rfl)
theorem dX8_bar_54 : decode cX8_bar 54 = .ok (.ishl, 1) := dk_120 (dk_at dksX8_bar_2 8 rfl rfl)
theorem dX8_bar_55 : decode cX8_bar 55 = .ok (.iconst (-1), 1) := dk_2 (dk_at dksX8_bar_2 9 rfl rfl)
theorem dX8_bar_56 : decode cX8_bar 56 = .ok (.ixor, 1) := dk_130 (dk_at dksX8_bar_2 10 rfl rfl)
theorem dX8_bar_57 : decode cX8_bar 57 = .ok (.iand, 1) := dk_126 (dk_at dksX8_bar_2 11 rfl rfl)
theorem dX8_bar_58 : decode cX8_bar 58 = .ok (.iastore, 1) := dk_79 (dk_at dksX8_bar_2 12 rfl rfl)
theorem dX8_bar_59 : decode cX8_bar 59 = .ok (.iconst 1, 1) := dk_4 (dk_at dksX8_bar_2 13 rfl rfl)
theorem dX8_bar_60 : decode cX8_bar 60 = .ok (.ireturn, 1) := dk_172 (dk_at dksX8_bar_2 14 rfl rfl)
abbrev cX8_night : ByteArray := prog_22_method_78_code
def yX8_night : MethodName := ⟨RX8, "night", "()I"⟩
def dkwX8_night_5 : List UInt8 := [180, 0, 161, 28, 46, 79, 132, 2, 1, 167, 255, 235, 27, 172]
abbrev dktX8_night_5 : List UInt8 := dkwX8_night_5 ++ []
def dkwX8_night_4 : List UInt8 := [182, 1, 181, 42, 182, 1, 202, 60, 3, 61, 28, 16, 100, 162, 0, 21, 42, 180, 0, 158, 28, 42]
abbrev dktX8_night_4 : List UInt8 := dkwX8_night_4 ++ dktX8_night_5
def dkwX8_night_3 : List UInt8 := [42, 180, 0, 158, 27, 46, 79, 132, 1, 1, 167, 255, 227, 42, 89, 180, 1, 43, 4, 96, 181, 1, 43, 42]
abbrev dktX8_night_3 : List UInt8 := dkwX8_night_3 ++ dktX8_night_4
def dkwX8_night_2 : List UInt8 := [181, 1, 43, 3, 60, 27, 16, 100, 162, 0, 29, 42, 180, 0, 188, 16, 100, 42, 180, 1, 43, 104, 27, 96]
abbrev dktX8_night_2 : List UInt8 := dkwX8_night_2 ++ dktX8_night_3
def dkwX8_night_1 : List UInt8 := [180, 0, 188, 27, 16, 100, 96, 46, 79, 132, 1, 1, 167, 255, 231, 42, 89, 180, 1, 43, 4, 100]
abbrev dktX8_night_1 : List UInt8 := dkwX8_night_1 ++ dktX8_night_2
def dkwX8_night_0 : List UInt8 := [42, 180, 1, 43, 16, 20, 160, 0, 43, 3, 60, 27, 17, 7, 108, 162, 0, 24, 42, 180, 0, 188, 27, 42]
abbrev dktX8_night_0 : List UInt8 := dkwX8_night_0 ++ dktX8_night_1
theorem dksX8_night_0 : cX8_night.data.toList.drop 0 = dktX8_night_0 := by decide +kernel
theorem dksX8_night_1 : cX8_night.data.toList.drop 24 = dktX8_night_1 := dk_seg dksX8_night_0 24 rfl rfl
theorem dksX8_night_2 : cX8_night.data.toList.drop 46 = dktX8_night_2 := dk_seg dksX8_night_1 22 rfl rfl
theorem dksX8_night_3 : cX8_night.data.toList.drop 70 = dktX8_night_3 := dk_seg dksX8_night_2 24 rfl rfl
theorem dksX8_night_4 : cX8_night.data.toList.drop 94 = dktX8_night_4 := dk_seg dksX8_night_3 24 rfl rfl
theorem dksX8_night_5 : cX8_night.data.toList.drop 116 = dktX8_night_5 := dk_seg dksX8_night_4 22 rfl rfl
theorem dX8_night_0 : decode cX8_night 0 = .ok (.aload_n 0, 1) := dk_42 (dk_at dksX8_night_0 0 rfl rfl)
theorem dX8_night_1 : decode cX8_night 1 = .ok (.getfield 299, 3) := dk_180 1 43 (dk_at dksX8_night_0 1 rfl rfl)
theorem dX8_night_4 : decode cX8_night 4 = .ok (.bipush 20, 2) := dk_16 20 (dk_at dksX8_night_0 4 rfl rfl)
theorem dX8_night_6 : decode cX8_night 6 = .ok (.if_icmp .ne 43, 3) := dk_160 0 43 (dk_at dksX8_night_0 6 rfl rfl)
theorem dX8_night_9 : decode cX8_night 9 = .ok (.iconst 0, 1) := dk_3 (dk_at dksX8_night_0 9 rfl rfl)
theorem dX8_night_10 : decode cX8_night 10 = .ok (.istore_n 1, 1) := dk_60 (dk_at dksX8_night_0 10 rfl rfl)
theorem dX8_night_11 : decode cX8_night 11 = .ok (.iload_n 1, 1) := dk_27 (dk_at dksX8_night_0 11 rfl rfl)
theorem dX8_night_12 : decode cX8_night 12 = .ok (.sipush 1900, 3) := dk_17 7 108 (dk_at dksX8_night_0 12 rfl rfl)
theorem dX8_night_15 : decode cX8_night 15 = .ok (.if_icmp .ge 24, 3) := dk_162 0 24 (dk_at dksX8_night_0 15 rfl rfl)
theorem dX8_night_18 : decode cX8_night 18 = .ok (.aload_n 0, 1) := dk_42 (dk_at dksX8_night_0 18 rfl rfl)
theorem dX8_night_19 : decode cX8_night 19 = .ok (.getfield 188, 3) := dk_180 0 188 (dk_at dksX8_night_0 19 rfl rfl)
theorem dX8_night_22 : decode cX8_night 22 = .ok (.iload_n 1, 1) := dk_27 (dk_at dksX8_night_0 22 rfl rfl)
theorem dX8_night_23 : decode cX8_night 23 = .ok (.aload_n 0, 1) := dk_42 (dk_at dksX8_night_0 23 rfl rfl)
theorem dX8_night_24 : decode cX8_night 24 = .ok (.getfield 188, 3) := dk_180 0 188 (dk_at dksX8_night_1 0 rfl rfl)
theorem dX8_night_27 : decode cX8_night 27 = .ok (.iload_n 1, 1) := dk_27 (dk_at dksX8_night_1 3 rfl rfl)
theorem dX8_night_28 : decode cX8_night 28 = .ok (.bipush 100, 2) := dk_16 100 (dk_at dksX8_night_1 4 rfl rfl)
theorem dX8_night_30 : decode cX8_night 30 = .ok (.iadd, 1) := dk_96 (dk_at dksX8_night_1 6 rfl rfl)
theorem dX8_night_31 : decode cX8_night 31 = .ok (.iaload, 1) := dk_46 (dk_at dksX8_night_1 7 rfl rfl)
theorem dX8_night_32 : decode cX8_night 32 = .ok (.iastore, 1) := dk_79 (dk_at dksX8_night_1 8 rfl rfl)
theorem dX8_night_33 : decode cX8_night 33 = .ok (.iinc 1 1, 3) := dk_132 1 1 (dk_at dksX8_night_1 9 rfl rfl)
theorem dX8_night_36 : decode cX8_night 36 = .ok (.goto (-25), 3) := dk_167 255 231 (dk_at dksX8_night_1 12 rfl rfl)
theorem dX8_night_39 : decode cX8_night 39 = .ok (.aload_n 0, 1) := dk_42 (dk_at dksX8_night_1 15 rfl rfl)
theorem dX8_night_40 : decode cX8_night 40 = .ok (.dup, 1) := dk_89 (dk_at dksX8_night_1 16 rfl rfl)
theorem dX8_night_41 : decode cX8_night 41 = .ok (.getfield 299, 3) := dk_180 1 43 (dk_at dksX8_night_1 17 rfl rfl)
theorem dX8_night_44 : decode cX8_night 44 = .ok (.iconst 1, 1) := dk_4 (dk_at dksX8_night_1 20 rfl rfl)
theorem dX8_night_45 : decode cX8_night 45 = .ok (.isub, 1) := dk_100 (dk_at dksX8_night_1 21 rfl rfl)
theorem dX8_night_46 : decode cX8_night 46 = .ok (.putfield 299, 3) := dk_181 1 43 (dk_at dksX8_night_2 0 rfl rfl)
theorem dX8_night_49 : decode cX8_night 49 = .ok (.iconst 0, 1) := dk_3 (dk_at dksX8_night_2 3 rfl rfl)
theorem dX8_night_50 : decode cX8_night 50 = .ok (.istore_n 1, 1) := dk_60 (dk_at dksX8_night_2 4 rfl rfl)
theorem dX8_night_51 : decode cX8_night 51 = .ok (.iload_n 1, 1) := dk_27 (dk_at dksX8_night_2 5 rfl rfl)
theorem dX8_night_52 : decode cX8_night 52 = .ok (.bipush 100, 2) := dk_16 100 (dk_at dksX8_night_2 6 rfl rfl)
theorem dX8_night_54 : decode cX8_night 54 = .ok (.if_icmp .ge 29, 3) := dk_162 0 29 (dk_at dksX8_night_2 8 rfl rfl)
theorem dX8_night_57 : decode cX8_night 57 = .ok (.aload_n 0, 1) := dk_42 (dk_at dksX8_night_2 11 rfl rfl)
theorem dX8_night_58 : decode cX8_night 58 = .ok (.getfield 188, 3) := dk_180 0 188 (dk_at dksX8_night_2 12 rfl rfl)
theorem dX8_night_61 : decode cX8_night 61 = .ok (.bipush 100, 2) := dk_16 100 (dk_at dksX8_night_2 15 rfl rfl)
theorem dX8_night_63 : decode cX8_night 63 = .ok (.aload_n 0, 1) := dk_42 (dk_at dksX8_night_2 17 rfl rfl)
theorem dX8_night_64 : decode cX8_night 64 = .ok (.getfield 299, 3) := dk_180 1 43 (dk_at dksX8_night_2 18 rfl rfl)
theorem dX8_night_67 : decode cX8_night 67 = .ok (.imul, 1) := dk_104 (dk_at dksX8_night_2 21 rfl rfl)
theorem dX8_night_68 : decode cX8_night 68 = .ok (.iload_n 1, 1) := dk_27 (dk_at dksX8_night_2 22 rfl rfl)
theorem dX8_night_69 : decode cX8_night 69 = .ok (.iadd, 1) := dk_96 (dk_at dksX8_night_2 23 rfl rfl)
theorem dX8_night_70 : decode cX8_night 70 = .ok (.aload_n 0, 1) := dk_42 (dk_at dksX8_night_3 0 rfl rfl)
theorem dX8_night_71 : decode cX8_night 71 = .ok (.getfield 158, 3) := dk_180 0 158 (dk_at dksX8_night_3 1 rfl rfl)
theorem dX8_night_74 : decode cX8_night 74 = .ok (.iload_n 1, 1) := dk_27 (dk_at dksX8_night_3 4 rfl rfl)
theorem dX8_night_75 : decode cX8_night 75 = .ok (.iaload, 1) := dk_46 (dk_at dksX8_night_3 5 rfl rfl)
theorem dX8_night_76 : decode cX8_night 76 = .ok (.iastore, 1) := dk_79 (dk_at dksX8_night_3 6 rfl rfl)
theorem dX8_night_77 : decode cX8_night 77 = .ok (.iinc 1 1, 3) := dk_132 1 1 (dk_at dksX8_night_3 7 rfl rfl)
theorem dX8_night_80 : decode cX8_night 80 = .ok (.goto (-29), 3) := dk_167 255 227 (dk_at dksX8_night_3 10 rfl rfl)
theorem dX8_night_83 : decode cX8_night 83 = .ok (.aload_n 0, 1) := dk_42 (dk_at dksX8_night_3 13 rfl rfl)
theorem dX8_night_84 : decode cX8_night 84 = .ok (.dup, 1) := dk_89 (dk_at dksX8_night_3 14 rfl rfl)
theorem dX8_night_85 : decode cX8_night 85 = .ok (.getfield 299, 3) := dk_180 1 43 (dk_at dksX8_night_3 15 rfl rfl)
theorem dX8_night_88 : decode cX8_night 88 = .ok (.iconst 1, 1) := dk_4 (dk_at dksX8_night_3 18 rfl rfl)
theorem dX8_night_89 : decode cX8_night 89 = .ok (.iadd, 1) := dk_96 (dk_at dksX8_night_3 19 rfl rfl)
theorem dX8_night_90 : decode cX8_night 90 = .ok (.putfield 299, 3) := dk_181 1 43 (dk_at dksX8_night_3 20 rfl rfl)
theorem dX8_night_93 : decode cX8_night 93 = .ok (.aload_n 0, 1) := dk_42 (dk_at dksX8_night_3 23 rfl rfl)
theorem dX8_night_94 : decode cX8_night 94 = .ok (.invokevirtual 437, 3) := dk_182 1 181 (dk_at dksX8_night_4 0 rfl rfl)
theorem dX8_night_97 : decode cX8_night 97 = .ok (.aload_n 0, 1) := dk_42 (dk_at dksX8_night_4 3 rfl rfl)
theorem dX8_night_98 : decode cX8_night 98 = .ok (.invokevirtual 458, 3) := dk_182 1 202 (dk_at dksX8_night_4 4 rfl rfl)
theorem dX8_night_101 : decode cX8_night 101 = .ok (.istore_n 1, 1) := dk_60 (dk_at dksX8_night_4 7 rfl rfl)
theorem dX8_night_102 : decode cX8_night 102 = .ok (.iconst 0, 1) := dk_3 (dk_at dksX8_night_4 8 rfl rfl)
theorem dX8_night_103 : decode cX8_night 103 = .ok (.istore_n 2, 1) := dk_61 (dk_at dksX8_night_4 9 rfl rfl)
theorem dX8_night_104 : decode cX8_night 104 = .ok (.iload_n 2, 1) := dk_28 (dk_at dksX8_night_4 10 rfl rfl)
theorem dX8_night_105 : decode cX8_night 105 = .ok (.bipush 100, 2) := dk_16 100 (dk_at dksX8_night_4 11 rfl rfl)
theorem dX8_night_107 : decode cX8_night 107 = .ok (.if_icmp .ge 21, 3) := dk_162 0 21 (dk_at dksX8_night_4 13 rfl rfl)
theorem dX8_night_110 : decode cX8_night 110 = .ok (.aload_n 0, 1) := dk_42 (dk_at dksX8_night_4 16 rfl rfl)
theorem dX8_night_111 : decode cX8_night 111 = .ok (.getfield 158, 3) := dk_180 0 158 (dk_at dksX8_night_4 17 rfl rfl)
theorem dX8_night_114 : decode cX8_night 114 = .ok (.iload_n 2, 1) := dk_28 (dk_at dksX8_night_4 20 rfl rfl)
theorem dX8_night_115 : decode cX8_night 115 = .ok (.aload_n 0, 1) := dk_42 (dk_at dksX8_night_4 21 rfl rfl)
theorem dX8_night_116 : decode cX8_night 116 = .ok (.getfield 161, 3) := dk_180 0 161 (dk_at dksX8_night_5 0 rfl rfl)
theorem dX8_night_119 : decode cX8_night 119 = .ok (.iload_n 2, 1) := dk_28 (dk_at dksX8_night_5 3 rfl rfl)
theorem dX8_night_120 : decode cX8_night 120 = .ok (.iaload, 1) := dk_46 (dk_at dksX8_night_5 4 rfl rfl)
theorem dX8_night_121 : decode cX8_night 121 = .ok (.iastore, 1) := dk_79 (dk_at dksX8_night_5 5 rfl rfl)
theorem dX8_night_122 : decode cX8_night 122 = .ok (.iinc 2 1, 3) := dk_132 2 1 (dk_at dksX8_night_5 6 rfl rfl)
theorem dX8_night_125 : decode cX8_night 125 = .ok (.goto (-21), 3) := dk_167 255 235 (dk_at dksX8_night_5 9 rfl rfl)
theorem dX8_night_128 : decode cX8_night 128 = .ok (.iload_n 1, 1) := dk_27 (dk_at dksX8_night_5 12 rfl rfl)
theorem dX8_night_129 : decode cX8_night 129 = .ok (.ireturn, 1) := dk_172 (dk_at dksX8_night_5 13 rfl rfl)
abbrev cX8_wholeNight : ByteArray := prog_22_method_65_code
def yX8_wholeNight : MethodName := ⟨RX8, "wholeNight", "()I"⟩
def dkwX8_wholeNight_5 : List UInt8 := [180, 0, 161, 16, 79, 92, 46, 4, 96, 79, 42, 182, 1, 175, 27, 100, 172]
abbrev dktX8_wholeNight_5 : List UInt8 := dkwX8_wholeNight_5 ++ []
def dkwX8_wholeNight_4 : List UInt8 := [16, 42, 28, 96, 2, 79, 42, 180, 0, 161, 16, 48, 28, 96, 2, 79, 132, 2, 1, 167, 255, 165, 42]
abbrev dktX8_wholeNight_4 : List UInt8 := dkwX8_wholeNight_4 ++ dktX8_wholeNight_5
def dkwX8_wholeNight_3 : List UInt8 := [96, 42, 180, 0, 179, 28, 46, 79, 42, 180, 0, 185, 28, 51, 154, 0, 6, 167, 0, 23, 42, 180, 0, 161]
abbrev dktX8_wholeNight_3 : List UInt8 := dkwX8_wholeNight_3 ++ dktX8_wholeNight_4
def dkwX8_wholeNight_2 : List UInt8 := [180, 0, 161, 16, 60, 28, 96, 92, 46, 42, 180, 0, 182, 28, 46, 96, 79, 42, 180, 0, 161, 16, 48, 28]
abbrev dktX8_wholeNight_2 : List UInt8 := dkwX8_wholeNight_2 ++ dktX8_wholeNight_3
def dkwX8_wholeNight_1 : List UInt8 := [182, 1, 134, 162, 0, 89, 42, 180, 0, 161, 16, 54, 28, 96, 42, 180, 0, 182, 28, 46, 79, 42]
abbrev dktX8_wholeNight_1 : List UInt8 := dkwX8_wholeNight_1 ++ dktX8_wholeNight_2
def dkwX8_wholeNight_0 : List UInt8 := [42, 182, 1, 175, 60, 42, 42, 180, 0, 140, 42, 180, 1, 22, 46, 182, 1, 178, 3, 61, 28, 42]
abbrev dktX8_wholeNight_0 : List UInt8 := dkwX8_wholeNight_0 ++ dktX8_wholeNight_1
theorem dksX8_wholeNight_0 : cX8_wholeNight.data.toList.drop 0 = dktX8_wholeNight_0 := by decide +kernel
theorem dksX8_wholeNight_1 : cX8_wholeNight.data.toList.drop 22 = dktX8_wholeNight_1 := dk_seg dksX8_wholeNight_0 22 rfl rfl
theorem dksX8_wholeNight_2 : cX8_wholeNight.data.toList.drop 44 = dktX8_wholeNight_2 := dk_seg dksX8_wholeNight_1 22 rfl rfl
theorem dksX8_wholeNight_3 : cX8_wholeNight.data.toList.drop 68 = dktX8_wholeNight_3 := dk_seg dksX8_wholeNight_2 24 rfl rfl
theorem dksX8_wholeNight_4 : cX8_wholeNight.data.toList.drop 92 = dktX8_wholeNight_4 := dk_seg dksX8_wholeNight_3 24 rfl rfl
theorem dksX8_wholeNight_5 : cX8_wholeNight.data.toList.drop 115 = dktX8_wholeNight_5 := dk_seg dksX8_wholeNight_4 23 rfl rfl
theorem dX8_wholeNight_0 : decode cX8_wholeNight 0 = .ok (.aload_n 0, 1) := dk_42 (dk_at dksX8_wholeNight_0 0 rfl rfl)
theorem dX8_wholeNight_1 : decode cX8_wholeNight 1 = .ok (.invokevirtual 431, 3) := dk_182 1 175 (dk_at dksX8_wholeNight_0 1 rfl rfl)
theorem dX8_wholeNight_4 : decode cX8_wholeNight 4 = .ok (.istore_n 1, 1) := dk_60 (dk_at dksX8_wholeNight_0 4 rfl rfl)
theorem dX8_wholeNight_5 : decode cX8_wholeNight 5 = .ok (.aload_n 0, 1) := dk_42 (dk_at dksX8_wholeNight_0 5 rfl rfl)
theorem dX8_wholeNight_6 : decode cX8_wholeNight 6 = .ok (.aload_n 0, 1) := dk_42 (dk_at dksX8_wholeNight_0 6 rfl rfl)
theorem dX8_wholeNight_7 : decode cX8_wholeNight 7 = .ok (.getfield 140, 3) := dk_180 0 140 (dk_at dksX8_wholeNight_0 7 rfl rfl)
theorem dX8_wholeNight_10 : decode cX8_wholeNight 10 = .ok (.aload_n 0, 1) := dk_42 (dk_at dksX8_wholeNight_0 10 rfl rfl)
theorem dX8_wholeNight_11 : decode cX8_wholeNight 11 = .ok (.getfield 278, 3) := dk_180 1 22 (dk_at dksX8_wholeNight_0 11 rfl rfl)
theorem dX8_wholeNight_14 : decode cX8_wholeNight 14 = .ok (.iaload, 1) := dk_46 (dk_at dksX8_wholeNight_0 14 rfl rfl)
theorem dX8_wholeNight_15 : decode cX8_wholeNight 15 = .ok (.invokevirtual 434, 3) := dk_182 1 178 (dk_at dksX8_wholeNight_0 15 rfl rfl)
theorem dX8_wholeNight_18 : decode cX8_wholeNight 18 = .ok (.iconst 0, 1) := dk_3 (dk_at dksX8_wholeNight_0 18 rfl rfl)
theorem dX8_wholeNight_19 : decode cX8_wholeNight 19 = .ok (.istore_n 2, 1) := dk_61 (dk_at dksX8_wholeNight_0 19 rfl rfl)
theorem dX8_wholeNight_20 : decode cX8_wholeNight 20 = .ok (.iload_n 2, 1) := dk_28 (dk_at dksX8_wholeNight_0 20 rfl rfl)
theorem dX8_wholeNight_21 : decode cX8_wholeNight 21 = .ok (.aload_n 0, 1) := dk_42 (dk_at dksX8_wholeNight_0 21 rfl rfl)
theorem dX8_wholeNight_22 : decode cX8_wholeNight 22 = .ok (.invokevirtual 390, 3) := dk_182 1 134 (dk_at dksX8_wholeNight_1 0 rfl rfl)
theorem dX8_wholeNight_25 : decode cX8_wholeNight 25 = .ok (.if_icmp .ge 89, 3) := dk_162 0 89 (dk_at dksX8_wholeNight_1 3 rfl rfl)
theorem dX8_wholeNight_28 : decode cX8_wholeNight 28 = .ok (.aload_n 0, 1) := dk_42 (dk_at dksX8_wholeNight_1 6 rfl rfl)
theorem dX8_wholeNight_29 : decode cX8_wholeNight 29 = .ok (.getfield 161, 3) := dk_180 0 161 (dk_at dksX8_wholeNight_1 7 rfl rfl)
theorem dX8_wholeNight_32 : decode cX8_wholeNight 32 = .ok (.bipush 54, 2) := dk_16 54 (dk_at dksX8_wholeNight_1 10 rfl rfl)
theorem dX8_wholeNight_34 : decode cX8_wholeNight 34 = .ok (.iload_n 2, 1) := dk_28 (dk_at dksX8_wholeNight_1 12 rfl rfl)
theorem dX8_wholeNight_35 : decode cX8_wholeNight 35 = .ok (.iadd, 1) := dk_96 (dk_at dksX8_wholeNight_1 13 rfl rfl)
theorem dX8_wholeNight_36 : decode cX8_wholeNight 36 = .ok (.aload_n 0, 1) := dk_42 (dk_at dksX8_wholeNight_1 14 rfl rfl)
theorem dX8_wholeNight_37 : decode cX8_wholeNight 37 = .ok (.getfield 182, 3) := dk_180 0 182 (dk_at dksX8_wholeNight_1 15 rfl rfl)
theorem dX8_wholeNight_40 : decode cX8_wholeNight 40 = .ok (.iload_n 2, 1) := dk_28 (dk_at dksX8_wholeNight_1 18 rfl rfl)
theorem dX8_wholeNight_41 : decode cX8_wholeNight 41 = .ok (.iaload, 1) := dk_46 (dk_at dksX8_wholeNight_1 19 rfl rfl)
theorem dX8_wholeNight_42 : decode cX8_wholeNight 42 = .ok (.iastore, 1) := dk_79 (dk_at dksX8_wholeNight_1 20 rfl rfl)
theorem dX8_wholeNight_43 : decode cX8_wholeNight 43 = .ok (.aload_n 0, 1) := dk_42 (dk_at dksX8_wholeNight_1 21 rfl rfl)
theorem dX8_wholeNight_44 : decode cX8_wholeNight 44 = .ok (.getfield 161, 3) := dk_180 0 161 (dk_at dksX8_wholeNight_2 0 rfl rfl)
theorem dX8_wholeNight_47 : decode cX8_wholeNight 47 = .ok (.bipush 60, 2) := dk_16 60 (dk_at dksX8_wholeNight_2 3 rfl rfl)
theorem dX8_wholeNight_49 : decode cX8_wholeNight 49 = .ok (.iload_n 2, 1) := dk_28 (dk_at dksX8_wholeNight_2 5 rfl rfl)
theorem dX8_wholeNight_50 : decode cX8_wholeNight 50 = .ok (.iadd, 1) := dk_96 (dk_at dksX8_wholeNight_2 6 rfl rfl)
theorem dX8_wholeNight_51 : decode cX8_wholeNight 51 = .ok (.dup2, 1) := dk_92 (dk_at dksX8_wholeNight_2 7 rfl rfl)
theorem dX8_wholeNight_52 : decode cX8_wholeNight 52 = .ok (.iaload, 1) := dk_46 (dk_at dksX8_wholeNight_2 8 rfl rfl)
theorem dX8_wholeNight_53 : decode cX8_wholeNight 53 = .ok (.aload_n 0, 1) := dk_42 (dk_at dksX8_wholeNight_2 9 rfl rfl)
theorem dX8_wholeNight_54 : decode cX8_wholeNight 54 = .ok (.getfield 182, 3) := dk_180 0 182 (dk_at dksX8_wholeNight_2 10 rfl rfl)
theorem dX8_wholeNight_57 : decode cX8_wholeNight 57 = .ok (.iload_n 2, 1) := dk_28 (dk_at dksX8_wholeNight_2 13 rfl rfl)
theorem dX8_wholeNight_58 : decode cX8_wholeNight 58 = .ok (.iaload, 1) := dk_46 (dk_at dksX8_wholeNight_2 14 rfl rfl)
theorem dX8_wholeNight_59 : decode cX8_wholeNight 59 = .ok (.iadd, 1) := dk_96 (dk_at dksX8_wholeNight_2 15 rfl rfl)
theorem dX8_wholeNight_60 : decode cX8_wholeNight 60 = .ok (.iastore, 1) := dk_79 (dk_at dksX8_wholeNight_2 16 rfl rfl)
theorem dX8_wholeNight_61 : decode cX8_wholeNight 61 = .ok (.aload_n 0, 1) := dk_42 (dk_at dksX8_wholeNight_2 17 rfl rfl)
theorem dX8_wholeNight_62 : decode cX8_wholeNight 62 = .ok (.getfield 161, 3) := dk_180 0 161 (dk_at dksX8_wholeNight_2 18 rfl rfl)
theorem dX8_wholeNight_65 : decode cX8_wholeNight 65 = .ok (.bipush 48, 2) := dk_16 48 (dk_at dksX8_wholeNight_2 21 rfl rfl)
theorem dX8_wholeNight_67 : decode cX8_wholeNight 67 = .ok (.iload_n 2, 1) := dk_28 (dk_at dksX8_wholeNight_2 23 rfl rfl)
theorem dX8_wholeNight_68 : decode cX8_wholeNight 68 = .ok (.iadd, 1) := dk_96 (dk_at dksX8_wholeNight_3 0 rfl rfl)
theorem dX8_wholeNight_69 : decode cX8_wholeNight 69 = .ok (.aload_n 0, 1) := dk_42 (dk_at dksX8_wholeNight_3 1 rfl rfl)
theorem dX8_wholeNight_70 : decode cX8_wholeNight 70 = .ok (.getfield 179, 3) := dk_180 0 179 (dk_at dksX8_wholeNight_3 2 rfl rfl)
theorem dX8_wholeNight_73 : decode cX8_wholeNight 73 = .ok (.iload_n 2, 1) := dk_28 (dk_at dksX8_wholeNight_3 5 rfl rfl)
theorem dX8_wholeNight_74 : decode cX8_wholeNight 74 = .ok (.iaload, 1) := dk_46 (dk_at dksX8_wholeNight_3 6 rfl rfl)
theorem dX8_wholeNight_75 : decode cX8_wholeNight 75 = .ok (.iastore, 1) := dk_79 (dk_at dksX8_wholeNight_3 7 rfl rfl)
theorem dX8_wholeNight_76 : decode cX8_wholeNight 76 = .ok (.aload_n 0, 1) := dk_42 (dk_at dksX8_wholeNight_3 8 rfl rfl)
theorem dX8_wholeNight_77 : decode cX8_wholeNight 77 = .ok (.getfield 185, 3) := dk_180 0 185 (dk_at dksX8_wholeNight_3 9 rfl rfl)
theorem dX8_wholeNight_80 : decode cX8_wholeNight 80 = .ok (.iload_n 2, 1) := dk_28 (dk_at dksX8_wholeNight_3 12 rfl rfl)
theorem dX8_wholeNight_81 : decode cX8_wholeNight 81 = .ok (.baload, 1) := dk_51 (dk_at dksX8_wholeNight_3 13 rfl rfl)
theorem dX8_wholeNight_82 : decode cX8_wholeNight 82 = .ok (.ifCond .ne 6, 3) := dk_154 0 6 (dk_at dksX8_wholeNight_3 14 rfl rfl)
theorem dX8_wholeNight_85 : decode cX8_wholeNight 85 = .ok (.goto 23, 3) := dk_167 0 23 (dk_at dksX8_wholeNight_3 17 rfl rfl)
theorem dX8_wholeNight_88 : decode cX8_wholeNight 88 = .ok (.aload_n 0, 1) := dk_42 (dk_at dksX8_wholeNight_3 20 rfl rfl)
theorem dX8_wholeNight_89 : decode cX8_wholeNight 89 = .ok (.getfield 161, 3) := dk_180 0 161 (dk_at dksX8_wholeNight_3 21 rfl rfl)
theorem dX8_wholeNight_92 : decode cX8_wholeNight 92 = .ok (.bipush 42, 2) := dk_16 42 (dk_at dksX8_wholeNight_4 0 rfl rfl)
theorem dX8_wholeNight_94 : decode cX8_wholeNight 94 = .ok (.iload_n 2, 1) := dk_28 (dk_at dksX8_wholeNight_4 2 rfl rfl)
theorem dX8_wholeNight_95 : decode cX8_wholeNight 95 = .ok (.iadd, 1) := dk_96 (dk_at dksX8_wholeNight_4 3 rfl rfl)
theorem dX8_wholeNight_96 : decode cX8_wholeNight 96 = .ok (.iconst (-1), 1) := dk_2 (dk_at dksX8_wholeNight_4 4 rfl rfl)
theorem dX8_wholeNight_97 : decode cX8_wholeNight 97 = .ok (.iastore, 1) := dk_79 (dk_at dksX8_wholeNight_4 5 rfl rfl)
theorem dX8_wholeNight_98 : decode cX8_wholeNight 98 = .ok (.aload_n 0, 1) := dk_42 (dk_at dksX8_wholeNight_4 6 rfl rfl)
theorem dX8_wholeNight_99 : decode cX8_wholeNight 99 = .ok (.getfield 161, 3) := dk_180 0 161 (dk_at dksX8_wholeNight_4 7 rfl rfl)
theorem dX8_wholeNight_102 : decode cX8_wholeNight 102 = .ok (.bipush 48, 2) := dk_16 48 (dk_at dksX8_wholeNight_4 10 rfl rfl)
theorem dX8_wholeNight_104 : decode cX8_wholeNight 104 = .ok (.iload_n 2, 1) := dk_28 (dk_at dksX8_wholeNight_4 12 rfl rfl)
theorem dX8_wholeNight_105 : decode cX8_wholeNight 105 = .ok (.iadd, 1) := dk_96 (dk_at dksX8_wholeNight_4 13 rfl rfl)
theorem dX8_wholeNight_106 : decode cX8_wholeNight 106 = .ok (.iconst (-1), 1) := dk_2 (dk_at dksX8_wholeNight_4 14 rfl rfl)
theorem dX8_wholeNight_107 : decode cX8_wholeNight 107 = .ok (.iastore, 1) := dk_79 (dk_at dksX8_wholeNight_4 15 rfl rfl)
theorem dX8_wholeNight_108 : decode cX8_wholeNight 108 = .ok (.iinc 2 1, 3) := dk_132 2 1 (dk_at dksX8_wholeNight_4 16 rfl rfl)
theorem dX8_wholeNight_111 : decode cX8_wholeNight 111 = .ok (.goto (-91), 3) := dk_167 255 165 (dk_at dksX8_wholeNight_4 19 rfl rfl)
theorem dX8_wholeNight_114 : decode cX8_wholeNight 114 = .ok (.aload_n 0, 1) := dk_42 (dk_at dksX8_wholeNight_4 22 rfl rfl)
theorem dX8_wholeNight_115 : decode cX8_wholeNight 115 = .ok (.getfield 161, 3) := dk_180 0 161 (dk_at dksX8_wholeNight_5 0 rfl rfl)
theorem dX8_wholeNight_118 : decode cX8_wholeNight 118 = .ok (.bipush 79, 2) := dk_16 79 (dk_at dksX8_wholeNight_5 3 rfl rfl)
theorem dX8_wholeNight_120 : decode cX8_wholeNight 120 = .ok (.dup2, 1) := dk_92 (dk_at dksX8_wholeNight_5 5 rfl rfl)
theorem dX8_wholeNight_121 : decode cX8_wholeNight 121 = .ok (.iaload, 1) := dk_46 (dk_at dksX8_wholeNight_5 6 rfl rfl)
theorem dX8_wholeNight_122 : decode cX8_wholeNight 122 = .ok (.iconst 1, 1) := dk_4 (dk_at dksX8_wholeNight_5 7 rfl rfl)
theorem dX8_wholeNight_123 : decode cX8_wholeNight 123 = .ok (.iadd, 1) := dk_96 (dk_at dksX8_wholeNight_5 8 rfl rfl)
theorem dX8_wholeNight_124 : decode cX8_wholeNight 124 = .ok (.iastore, 1) := dk_79 (dk_at dksX8_wholeNight_5 9 rfl rfl)
theorem dX8_wholeNight_125 : decode cX8_wholeNight 125 = .ok (.aload_n 0, 1) := dk_42 (dk_at dksX8_wholeNight_5 10 rfl rfl)
theorem dX8_wholeNight_126 : decode cX8_wholeNight 126 = .ok (.invokevirtual 431, 3) := dk_182 1 175 (dk_at dksX8_wholeNight_5 11 rfl rfl)
theorem dX8_wholeNight_129 : decode cX8_wholeNight 129 = .ok (.iload_n 1, 1) := dk_27 (dk_at dksX8_wholeNight_5 14 rfl rfl)
theorem dX8_wholeNight_130 : decode cX8_wholeNight 130 = .ok (.isub, 1) := dk_100 (dk_at dksX8_wholeNight_5 15 rfl rfl)
theorem dX8_wholeNight_131 : decode cX8_wholeNight 131 = .ok (.ireturn, 1) := dk_172 (dk_at dksX8_wholeNight_5 16 rfl rfl)
abbrev cX8_worthNow : ByteArray := prog_22_method_55_code
def yX8_worthNow : MethodName := ⟨RX8, "worthNow", "()I"⟩
def dkwX8_worthNow_1 : List UInt8 := [167, 255, 237, 27, 172]
abbrev dktX8_worthNow_1 : List UInt8 := dkwX8_worthNow_1 ++ []
def dkwX8_worthNow_0 : List UInt8 := [3, 60, 3, 61, 28, 42, 182, 1, 121, 162, 0, 17, 27, 42, 28, 182, 1, 140, 96, 60, 132, 2, 1]
abbrev dktX8_worthNow_0 : List UInt8 := dkwX8_worthNow_0 ++ dktX8_worthNow_1
theorem dksX8_worthNow_0 : cX8_worthNow.data.toList.drop 0 = dktX8_worthNow_0 := by decide +kernel
theorem dksX8_worthNow_1 : cX8_worthNow.data.toList.drop 23 = dktX8_worthNow_1 := dk_seg dksX8_worthNow_0 23 rfl rfl
theorem dX8_worthNow_0 : decode cX8_worthNow 0 = .ok (.iconst 0, 1) := dk_3 (dk_at dksX8_worthNow_0 0 rfl rfl)
theorem dX8_worthNow_1 : decode cX8_worthNow 1 = .ok (.istore_n 1, 1) := dk_60 (dk_at dksX8_worthNow_0 1 rfl rfl)
theorem dX8_worthNow_2 : decode cX8_worthNow 2 = .ok (.iconst 0, 1) := dk_3 (dk_at dksX8_worthNow_0 2 rfl rfl)
theorem dX8_worthNow_3 : decode cX8_worthNow 3 = .ok (.istore_n 2, 1) := dk_61 (dk_at dksX8_worthNow_0 3 rfl rfl)
theorem dX8_worthNow_4 : decode cX8_worthNow 4 = .ok (.iload_n 2, 1) := dk_28 (dk_at dksX8_worthNow_0 4 rfl rfl)
theorem dX8_worthNow_5 : decode cX8_worthNow 5 = .ok (.aload_n 0, 1) := dk_42 (dk_at dksX8_worthNow_0 5 rfl rfl)
theorem dX8_worthNow_6 : decode cX8_worthNow 6 = .ok (.invokevirtual 377, 3) := dk_182 1 121 (dk_at dksX8_worthNow_0 6 rfl rfl)
theorem dX8_worthNow_9 : decode cX8_worthNow 9 = .ok (.if_icmp .ge 17, 3) := dk_162 0 17 (dk_at dksX8_worthNow_0 9 rfl rfl)
theorem dX8_worthNow_12 : decode cX8_worthNow 12 = .ok (.iload_n 1, 1) := dk_27 (dk_at dksX8_worthNow_0 12 rfl rfl)
theorem dX8_worthNow_13 : decode cX8_worthNow 13 = .ok (.aload_n 0, 1) := dk_42 (dk_at dksX8_worthNow_0 13 rfl rfl)
theorem dX8_worthNow_14 : decode cX8_worthNow 14 = .ok (.iload_n 2, 1) := dk_28 (dk_at dksX8_worthNow_0 14 rfl rfl)
theorem dX8_worthNow_15 : decode cX8_worthNow 15 = .ok (.invokevirtual 396, 3) := dk_182 1 140 (dk_at dksX8_worthNow_0 15 rfl rfl)
theorem dX8_worthNow_18 : decode cX8_worthNow 18 = .ok (.iadd, 1) := dk_96 (dk_at dksX8_worthNow_0 18 rfl rfl)
theorem dX8_worthNow_19 : decode cX8_worthNow 19 = .ok (.istore_n 1, 1) := dk_60 (dk_at dksX8_worthNow_0 19 rfl rfl)
theorem dX8_worthNow_20 : decode cX8_worthNow 20 = .ok (.iinc 2 1, 3) := dk_132 2 1 (dk_at dksX8_worthNow_0 20 rfl rfl)
theorem dX8_worthNow_23 : decode cX8_worthNow 23 = .ok (.goto (-19), 3) := dk_167 255 237 (dk_at dksX8_worthNow_1 0 rfl rfl)
theorem dX8_worthNow_26 : decode cX8_worthNow 26 = .ok (.iload_n 1, 1) := dk_27 (dk_at dksX8_worthNow_1 3 rfl rfl)
theorem dX8_worthNow_27 : decode cX8_worthNow 27 = .ok (.ireturn, 1) := dk_172 (dk_at dksX8_worthNow_1 4 rfl rfl)
abbrev cX8_goesTill : ByteArray := prog_22_method_64_code
def yX8_goesTill : MethodName := ⟨RX8, "goesTill", "(I)V"⟩
def dkwX8_goesTill_5 : List UInt8 := [29, 28, 182, 1, 172, 132, 3, 1, 167, 255, 206, 132, 2, 1, 167, 255, 152, 177]
abbrev dktX8_goesTill_5 : List UInt8 := dkwX8_goesTill_5 ++ []
def dkwX8_goesTill_4 : List UInt8 := [162, 0, 35, 42, 180, 0, 167, 29, 46, 4, 160, 0, 19, 42, 180, 0, 170, 29, 46, 28, 163, 0, 9, 42]
abbrev dktX8_goesTill_4 : List UInt8 := dkwX8_goesTill_4 ++ dktX8_goesTill_5
def dkwX8_goesTill_3 : List UInt8 := [167, 255, 220, 3, 62, 29, 42, 182, 1, 134, 162, 0, 48, 28, 42, 180, 0, 140, 42, 180, 1, 22, 46]
abbrev dktX8_goesTill_3 : List UInt8 := dkwX8_goesTill_3 ++ dktX8_goesTill_4
def dkwX8_goesTill_2 : List UInt8 := [29, 46, 5, 160, 0, 18, 42, 180, 0, 173, 29, 46, 28, 160, 0, 8, 42, 29, 182, 1, 169, 132, 3, 1]
abbrev dktX8_goesTill_2 : List UInt8 := dkwX8_goesTill_2 ++ dktX8_goesTill_3
def dkwX8_goesTill_1 : List UInt8 := [167, 255, 240, 3, 61, 28, 27, 163, 0, 105, 3, 62, 29, 42, 182, 1, 134, 162, 0, 34, 42, 180, 0, 167]
abbrev dktX8_goesTill_1 : List UInt8 := dkwX8_goesTill_1 ++ dktX8_goesTill_2
def dkwX8_goesTill_0 : List UInt8 := [42, 182, 1, 163, 3, 61, 28, 42, 182, 1, 134, 162, 0, 14, 42, 28, 182, 1, 166, 132, 2, 1]
abbrev dktX8_goesTill_0 : List UInt8 := dkwX8_goesTill_0 ++ dktX8_goesTill_1
theorem dksX8_goesTill_0 : cX8_goesTill.data.toList.drop 0 = dktX8_goesTill_0 := by decide +kernel
theorem dksX8_goesTill_1 : cX8_goesTill.data.toList.drop 22 = dktX8_goesTill_1 := dk_seg dksX8_goesTill_0 22 rfl rfl
theorem dksX8_goesTill_2 : cX8_goesTill.data.toList.drop 46 = dktX8_goesTill_2 := dk_seg dksX8_goesTill_1 24 rfl rfl
theorem dksX8_goesTill_3 : cX8_goesTill.data.toList.drop 70 = dktX8_goesTill_3 := dk_seg dksX8_goesTill_2 24 rfl rfl
theorem dksX8_goesTill_4 : cX8_goesTill.data.toList.drop 93 = dktX8_goesTill_4 := dk_seg dksX8_goesTill_3 23 rfl rfl
theorem dksX8_goesTill_5 : cX8_goesTill.data.toList.drop 117 = dktX8_goesTill_5 := dk_seg dksX8_goesTill_4 24 rfl rfl
theorem dX8_goesTill_0 : decode cX8_goesTill 0 = .ok (.aload_n 0, 1) := dk_42 (dk_at dksX8_goesTill_0 0 rfl rfl)
theorem dX8_goesTill_1 : decode cX8_goesTill 1 = .ok (.invokevirtual 419, 3) := dk_182 1 163 (dk_at dksX8_goesTill_0 1 rfl rfl)
theorem dX8_goesTill_4 : decode cX8_goesTill 4 = .ok (.iconst 0, 1) := dk_3 (dk_at dksX8_goesTill_0 4 rfl rfl)
theorem dX8_goesTill_5 : decode cX8_goesTill 5 = .ok (.istore_n 2, 1) := dk_61 (dk_at dksX8_goesTill_0 5 rfl rfl)
theorem dX8_goesTill_6 : decode cX8_goesTill 6 = .ok (.iload_n 2, 1) := dk_28 (dk_at dksX8_goesTill_0 6 rfl rfl)
theorem dX8_goesTill_7 : decode cX8_goesTill 7 = .ok (.aload_n 0, 1) := dk_42 (dk_at dksX8_goesTill_0 7 rfl rfl)
theorem dX8_goesTill_8 : decode cX8_goesTill 8 = .ok (.invokevirtual 390, 3) := dk_182 1 134 (dk_at dksX8_goesTill_0 8 rfl rfl)
theorem dX8_goesTill_11 : decode cX8_goesTill 11 = .ok (.if_icmp .ge 14, 3) := dk_162 0 14 (dk_at dksX8_goesTill_0 11 rfl rfl)
theorem dX8_goesTill_14 : decode cX8_goesTill 14 = .ok (.aload_n 0, 1) := dk_42 (dk_at dksX8_goesTill_0 14 rfl rfl)
theorem dX8_goesTill_15 : decode cX8_goesTill 15 = .ok (.iload_n 2, 1) := dk_28 (dk_at dksX8_goesTill_0 15 rfl rfl)
theorem dX8_goesTill_16 : decode cX8_goesTill 16 = .ok (.invokevirtual 422, 3) := dk_182 1 166 (dk_at dksX8_goesTill_0 16 rfl rfl)
theorem dX8_goesTill_19 : decode cX8_goesTill 19 = .ok (.iinc 2 1, 3) := dk_132 2 1 (dk_at dksX8_goesTill_0 19 rfl rfl)
theorem dX8_goesTill_22 : decode cX8_goesTill 22 = .ok (.goto (-16), 3) := dk_167 255 240 (dk_at dksX8_goesTill_1 0 rfl rfl)
theorem dX8_goesTill_25 : decode cX8_goesTill 25 = .ok (.iconst 0, 1) := dk_3 (dk_at dksX8_goesTill_1 3 rfl rfl)
theorem dX8_goesTill_26 : decode cX8_goesTill 26 = .ok (.istore_n 2, 1) := dk_61 (dk_at dksX8_goesTill_1 4 rfl rfl)
theorem dX8_goesTill_27 : decode cX8_goesTill 27 = .ok (.iload_n 2, 1) := dk_28 (dk_at dksX8_goesTill_1 5 rfl rfl)
theorem dX8_goesTill_28 : decode cX8_goesTill 28 = .ok (.iload_n 1, 1) := dk_27 (dk_at dksX8_goesTill_1 6 rfl rfl)
theorem dX8_goesTill_29 : decode cX8_goesTill 29 = .ok (.if_icmp .gt 105, 3) := dk_163 0 105 (dk_at dksX8_goesTill_1 7 rfl rfl)
theorem dX8_goesTill_32 : decode cX8_goesTill 32 = .ok (.iconst 0, 1) := dk_3 (dk_at dksX8_goesTill_1 10 rfl rfl)
theorem dX8_goesTill_33 : decode cX8_goesTill 33 = .ok (.istore_n 3, 1) := dk_62 (dk_at dksX8_goesTill_1 11 rfl rfl)
theorem dX8_goesTill_34 : decode cX8_goesTill 34 = .ok (.iload_n 3, 1) := dk_29 (dk_at dksX8_goesTill_1 12 rfl rfl)
theorem dX8_goesTill_35 : decode cX8_goesTill 35 = .ok (.aload_n 0, 1) := dk_42 (dk_at dksX8_goesTill_1 13 rfl rfl)
theorem dX8_goesTill_36 : decode cX8_goesTill 36 = .ok (.invokevirtual 390, 3) := dk_182 1 134 (dk_at dksX8_goesTill_1 14 rfl rfl)
theorem dX8_goesTill_39 : decode cX8_goesTill 39 = .ok (.if_icmp .ge 34, 3) := dk_162 0 34 (dk_at dksX8_goesTill_1 17 rfl rfl)
theorem dX8_goesTill_42 : decode cX8_goesTill 42 = .ok (.aload_n 0, 1) := dk_42 (dk_at dksX8_goesTill_1 20 rfl rfl)
theorem dX8_goesTill_43 : decode cX8_goesTill 43 = .ok (.getfield 167, 3) := dk_180 0 167 (dk_at dksX8_goesTill_1 21 rfl rfl)
theorem dX8_goesTill_46 : decode cX8_goesTill 46 = .ok (.iload_n 3, 1) := dk_29 (dk_at dksX8_goesTill_2 0 rfl rfl)
theorem dX8_goesTill_47 : decode cX8_goesTill 47 = .ok (.iaload, 1) := dk_46 (dk_at dksX8_goesTill_2 1 rfl rfl)
theorem dX8_goesTill_48 : decode cX8_goesTill 48 = .ok (.iconst 2, 1) := dk_5 (dk_at dksX8_goesTill_2 2 rfl rfl)
theorem dX8_goesTill_49 : decode cX8_goesTill 49 = .ok (.if_icmp .ne 18, 3) := dk_160 0 18 (dk_at dksX8_goesTill_2 3 rfl rfl)
theorem dX8_goesTill_52 : decode cX8_goesTill 52 = .ok (.aload_n 0, 1) := dk_42 (dk_at dksX8_goesTill_2 6 rfl rfl)
theorem dX8_goesTill_53 : decode cX8_goesTill 53 = .ok (.getfield 173, 3) := dk_180 0 173 (dk_at dksX8_goesTill_2 7 rfl rfl)
theorem dX8_goesTill_56 : decode cX8_goesTill 56 = .ok (.iload_n 3, 1) := dk_29 (dk_at dksX8_goesTill_2 10 rfl rfl)
theorem dX8_goesTill_57 : decode cX8_goesTill 57 = .ok (.iaload, 1) := dk_46 (dk_at dksX8_goesTill_2 11 rfl rfl)
theorem dX8_goesTill_58 : decode cX8_goesTill 58 = .ok (.iload_n 2, 1) := dk_28 (dk_at dksX8_goesTill_2 12 rfl rfl)
theorem dX8_goesTill_59 : decode cX8_goesTill 59 = .ok (.if_icmp .ne 8, 3) := dk_160 0 8 (dk_at dksX8_goesTill_2 13 rfl rfl)
theorem dX8_goesTill_62 : decode cX8_goesTill 62 = .ok (.aload_n 0, 1) := dk_42 (dk_at dksX8_goesTill_2 16 rfl rfl)
theorem dX8_goesTill_63 : decode cX8_goesTill 63 = .ok (.iload_n 3, 1) := dk_29 (dk_at dksX8_goesTill_2 17 rfl rfl)
theorem dX8_goesTill_64 : decode cX8_goesTill 64 = .ok (.invokevirtual 425, 3) := dk_182 1 169 (dk_at dksX8_goesTill_2 18 rfl rfl)
theorem dX8_goesTill_67 : decode cX8_goesTill 67 = .ok (.iinc 3 1, 3) := dk_132 3 1 (dk_at dksX8_goesTill_2 21 rfl rfl)
theorem dX8_goesTill_70 : decode cX8_goesTill 70 = .ok (.goto (-36), 3) := dk_167 255 220 (dk_at dksX8_goesTill_3 0 rfl rfl)
theorem dX8_goesTill_73 : decode cX8_goesTill 73 = .ok (.iconst 0, 1) := dk_3 (dk_at dksX8_goesTill_3 3 rfl rfl)
theorem dX8_goesTill_74 : decode cX8_goesTill 74 = .ok (.istore_n 3, 1) := dk_62 (dk_at dksX8_goesTill_3 4 rfl rfl)
theorem dX8_goesTill_75 : decode cX8_goesTill 75 = .ok (.iload_n 3, 1) := dk_29 (dk_at dksX8_goesTill_3 5 rfl rfl)
theorem dX8_goesTill_76 : decode cX8_goesTill 76 = .ok (.aload_n 0, 1) := dk_42 (dk_at dksX8_goesTill_3 6 rfl rfl)
theorem dX8_goesTill_77 : decode cX8_goesTill 77 = .ok (.invokevirtual 390, 3) := dk_182 1 134 (dk_at dksX8_goesTill_3 7 rfl rfl)
theorem dX8_goesTill_80 : decode cX8_goesTill 80 = .ok (.if_icmp .ge 48, 3) := dk_162 0 48 (dk_at dksX8_goesTill_3 10 rfl rfl)
theorem dX8_goesTill_83 : decode cX8_goesTill 83 = .ok (.iload_n 2, 1) := dk_28 (dk_at dksX8_goesTill_3 13 rfl rfl)
theorem dX8_goesTill_84 : decode cX8_goesTill 84 = .ok (.aload_n 0, 1) := dk_42 (dk_at dksX8_goesTill_3 14 rfl rfl)
theorem dX8_goesTill_85 : decode cX8_goesTill 85 = .ok (.getfield 140, 3) := dk_180 0 140 (dk_at dksX8_goesTill_3 15 rfl rfl)
theorem dX8_goesTill_88 : decode cX8_goesTill 88 = .ok (.aload_n 0, 1) := dk_42 (dk_at dksX8_goesTill_3 18 rfl rfl)
theorem dX8_goesTill_89 : decode cX8_goesTill 89 = .ok (.getfield 278, 3) := dk_180 1 22 (dk_at dksX8_goesTill_3 19 rfl rfl)
theorem dX8_goesTill_92 : decode cX8_goesTill 92 = .ok (.iaload, 1) := dk_46 (dk_at dksX8_goesTill_3 22 rfl rfl)
theorem dX8_goesTill_93 : decode cX8_goesTill 93 = .ok (.if_icmp .ge 35, 3) := dk_162 0 35 (dk_at dksX8_goesTill_4 0 rfl rfl)
theorem dX8_goesTill_96 : decode cX8_goesTill 96 = .ok (.aload_n 0, 1) := dk_42 (dk_at dksX8_goesTill_4 3 rfl rfl)
theorem dX8_goesTill_97 : decode cX8_goesTill 97 = .ok (.getfield 167, 3) := dk_180 0 167 (dk_at dksX8_goesTill_4 4 rfl rfl)
theorem dX8_goesTill_100 : decode cX8_goesTill 100 = .ok (.iload_n 3, 1) := dk_29 (dk_at dksX8_goesTill_4 7 rfl rfl)
theorem dX8_goesTill_101 : decode cX8_goesTill 101 = .ok (.iaload, 1) := dk_46 (dk_at dksX8_goesTill_4 8 rfl rfl)
theorem dX8_goesTill_102 : decode cX8_goesTill 102 = .ok (.iconst 1, 1) := dk_4 (dk_at dksX8_goesTill_4 9 rfl rfl)
theorem dX8_goesTill_103 : decode cX8_goesTill 103 = .ok (.if_icmp .ne 19, 3) := dk_160 0 19 (dk_at dksX8_goesTill_4 10 rfl rfl)
theorem dX8_goesTill_106 : decode cX8_goesTill 106 = .ok (.aload_n 0, 1) := dk_42 (dk_at dksX8_goesTill_4 13 rfl rfl)
theorem dX8_goesTill_107 : decode cX8_goesTill 107 = .ok (.getfield 170, 3) := dk_180 0 170 (dk_at dksX8_goesTill_4 14 rfl rfl)
theorem dX8_goesTill_110 : decode cX8_goesTill 110 = .ok (.iload_n 3, 1) := dk_29 (dk_at dksX8_goesTill_4 17 rfl rfl)
theorem dX8_goesTill_111 : decode cX8_goesTill 111 = .ok (.iaload, 1) := dk_46 (dk_at dksX8_goesTill_4 18 rfl rfl)
theorem dX8_goesTill_112 : decode cX8_goesTill 112 = .ok (.iload_n 2, 1) := dk_28 (dk_at dksX8_goesTill_4 19 rfl rfl)
theorem dX8_goesTill_113 : decode cX8_goesTill 113 = .ok (.if_icmp .gt 9, 3) := dk_163 0 9 (dk_at dksX8_goesTill_4 20 rfl rfl)
theorem dX8_goesTill_116 : decode cX8_goesTill 116 = .ok (.aload_n 0, 1) := dk_42 (dk_at dksX8_goesTill_4 23 rfl rfl)
theorem dX8_goesTill_117 : decode cX8_goesTill 117 = .ok (.iload_n 3, 1) := dk_29 (dk_at dksX8_goesTill_5 0 rfl rfl)
theorem dX8_goesTill_118 : decode cX8_goesTill 118 = .ok (.iload_n 2, 1) := dk_28 (dk_at dksX8_goesTill_5 1 rfl rfl)
theorem dX8_goesTill_119 : decode cX8_goesTill 119 = .ok (.invokevirtual 428, 3) := dk_182 1 172 (dk_at dksX8_goesTill_5 2 rfl rfl)
theorem dX8_goesTill_122 : decode cX8_goesTill 122 = .ok (.iinc 3 1, 3) := dk_132 3 1 (dk_at dksX8_goesTill_5 5 rfl rfl)
theorem dX8_goesTill_125 : decode cX8_goesTill 125 = .ok (.goto (-50), 3) := dk_167 255 206 (dk_at dksX8_goesTill_5 8 rfl rfl)
theorem dX8_goesTill_128 : decode cX8_goesTill 128 = .ok (.iinc 2 1, 3) := dk_132 2 1 (dk_at dksX8_goesTill_5 11 rfl rfl)
theorem dX8_goesTill_131 : decode cX8_goesTill 131 = .ok (.goto (-104), 3) := dk_167 255 152 (dk_at dksX8_goesTill_5 14 rfl rfl)
theorem dX8_goesTill_134 : decode cX8_goesTill 134 = .ok (.return_, 1) := dk_177 (dk_at dksX8_goesTill_5 17 rfl rfl)
abbrev cX8_getsUp : ByteArray := prog_22_method_57_code
def yX8_getsUp : MethodName := ⟨RX8, "getsUp", "(I)V"⟩
def dkwX8_getsUp_5 : List UInt8 := [180, 0, 170, 27, 29, 79, 29, 19, 1, 143, 160, 0, 13, 42, 180, 0, 161, 16, 66, 27, 96, 3, 79, 177]
abbrev dktX8_getsUp_5 : List UInt8 := dkwX8_getsUp_5 ++ []
def dkwX8_getsUp_4 : List UInt8 := [46, 96, 46, 62, 42, 180, 0, 167, 27, 29, 19, 1, 143, 160, 0, 7, 6, 167, 0, 4, 4, 79, 42]
abbrev dktX8_getsUp_4 : List UInt8 := dkwX8_getsUp_4 ++ dktX8_getsUp_5
def dkwX8_getsUp_3 : List UInt8 := [16, 6, 42, 180, 1, 22, 104, 27, 96, 46, 104, 42, 180, 0, 77, 16, 6, 42, 180, 1, 22, 104, 28, 96]
abbrev dktX8_getsUp_3 : List UInt8 := dkwX8_getsUp_3 ++ dktX8_getsUp_4
def dkwX8_getsUp_2 : List UInt8 := [180, 0, 161, 16, 48, 27, 96, 46, 79, 28, 156, 0, 4, 177, 42, 180, 0, 164, 16, 8, 42, 180, 0, 107]
abbrev dktX8_getsUp_2 : List UInt8 := dkwX8_getsUp_2 ++ dktX8_getsUp_3
def dkwX8_getsUp_1 : List UInt8 := [42, 180, 0, 185, 27, 3, 84, 42, 180, 0, 161, 16, 66, 27, 96, 16, 254, 79, 42, 180, 0, 179, 27, 42]
abbrev dktX8_getsUp_1 : List UInt8 := dkwX8_getsUp_1 ++ dktX8_getsUp_2
def dkwX8_getsUp_0 : List UInt8 := [42, 180, 0, 161, 16, 42, 27, 96, 46, 61, 42, 180, 0, 167, 27, 3, 79, 42, 180, 0, 182, 27, 3, 79]
abbrev dktX8_getsUp_0 : List UInt8 := dkwX8_getsUp_0 ++ dktX8_getsUp_1
theorem dksX8_getsUp_0 : cX8_getsUp.data.toList.drop 0 = dktX8_getsUp_0 := by decide +kernel
theorem dksX8_getsUp_1 : cX8_getsUp.data.toList.drop 24 = dktX8_getsUp_1 := dk_seg dksX8_getsUp_0 24 rfl rfl
theorem dksX8_getsUp_2 : cX8_getsUp.data.toList.drop 48 = dktX8_getsUp_2 := dk_seg dksX8_getsUp_1 24 rfl rfl
theorem dksX8_getsUp_3 : cX8_getsUp.data.toList.drop 72 = dktX8_getsUp_3 := dk_seg dksX8_getsUp_2 24 rfl rfl
theorem dksX8_getsUp_4 : cX8_getsUp.data.toList.drop 96 = dktX8_getsUp_4 := dk_seg dksX8_getsUp_3 24 rfl rfl
theorem dksX8_getsUp_5 : cX8_getsUp.data.toList.drop 119 = dktX8_getsUp_5 := dk_seg dksX8_getsUp_4 23 rfl rfl
theorem dX8_getsUp_0 : decode cX8_getsUp 0 = .ok (.aload_n 0, 1) := dk_42 (dk_at dksX8_getsUp_0 0 rfl rfl)
theorem dX8_getsUp_1 : decode cX8_getsUp 1 = .ok (.getfield 161, 3) := dk_180 0 161 (dk_at dksX8_getsUp_0 1 rfl rfl)
theorem dX8_getsUp_4 : decode cX8_getsUp 4 = .ok (.bipush 42, 2) := dk_16 42 (dk_at dksX8_getsUp_0 4 rfl rfl)
theorem dX8_getsUp_6 : decode cX8_getsUp 6 = .ok (.iload_n 1, 1) := dk_27 (dk_at dksX8_getsUp_0 6 rfl rfl)
theorem dX8_getsUp_7 : decode cX8_getsUp 7 = .ok (.iadd, 1) := dk_96 (dk_at dksX8_getsUp_0 7 rfl rfl)
theorem dX8_getsUp_8 : decode cX8_getsUp 8 = .ok (.iaload, 1) := dk_46 (dk_at dksX8_getsUp_0 8 rfl rfl)
theorem dX8_getsUp_9 : decode cX8_getsUp 9 = .ok (.istore_n 2, 1) := dk_61 (dk_at dksX8_getsUp_0 9 rfl rfl)
theorem dX8_getsUp_10 : decode cX8_getsUp 10 = .ok (.aload_n 0, 1) := dk_42 (dk_at dksX8_getsUp_0 10 rfl rfl)
theorem dX8_getsUp_11 : decode cX8_getsUp 11 = .ok (.getfield 167, 3) := dk_180 0 167 (dk_at dksX8_getsUp_0 11 rfl rfl)
theorem dX8_getsUp_14 : decode cX8_getsUp 14 = .ok (.iload_n 1, 1) := dk_27 (dk_at dksX8_getsUp_0 14 rfl rfl)
theorem dX8_getsUp_15 : decode cX8_getsUp 15 = .ok (.iconst 0, 1) := dk_3 (dk_at dksX8_getsUp_0 15 rfl rfl)
theorem dX8_getsUp_16 : decode cX8_getsUp 16 = .ok (.iastore, 1) := dk_79 (dk_at dksX8_getsUp_0 16 rfl rfl)
theorem dX8_getsUp_17 : decode cX8_getsUp 17 = .ok (.aload_n 0, 1) := dk_42 (dk_at dksX8_getsUp_0 17 rfl rfl)
theorem dX8_getsUp_18 : decode cX8_getsUp 18 = .ok (.getfield 182, 3) := dk_180 0 182 (dk_at dksX8_getsUp_0 18 rfl rfl)
theorem dX8_getsUp_21 : decode cX8_getsUp 21 = .ok (.iload_n 1, 1) := dk_27 (dk_at dksX8_getsUp_0 21 rfl rfl)
theorem dX8_getsUp_22 : decode cX8_getsUp 22 = .ok (.iconst 0, 1) := dk_3 (dk_at dksX8_getsUp_0 22 rfl rfl)
theorem dX8_getsUp_23 : decode cX8_getsUp 23 = .ok (.iastore, 1) := dk_79 (dk_at dksX8_getsUp_0 23 rfl rfl)
theorem dX8_getsUp_24 : decode cX8_getsUp 24 = .ok (.aload_n 0, 1) := dk_42 (dk_at dksX8_getsUp_1 0 rfl rfl)
theorem dX8_getsUp_25 : decode cX8_getsUp 25 = .ok (.getfield 185, 3) := dk_180 0 185 (dk_at dksX8_getsUp_1 1 rfl rfl)
theorem dX8_getsUp_28 : decode cX8_getsUp 28 = .ok (.iload_n 1, 1) := dk_27 (dk_at dksX8_getsUp_1 4 rfl rfl)
theorem dX8_getsUp_29 : decode cX8_getsUp 29 = .ok (.iconst 0, 1) := dk_3 (dk_at dksX8_getsUp_1 5 rfl rfl)
theorem dX8_getsUp_30 : decode cX8_getsUp 30 = .ok (.bastore, 1) := dk_84 (dk_at dksX8_getsUp_1 6 rfl rfl)
theorem dX8_getsUp_31 : decode cX8_getsUp 31 = .ok (.aload_n 0, 1) := dk_42 (dk_at dksX8_getsUp_1 7 rfl rfl)
theorem dX8_getsUp_32 : decode cX8_getsUp 32 = .ok (.getfield 161, 3) := dk_180 0 161 (dk_at dksX8_getsUp_1 8 rfl rfl)
theorem dX8_getsUp_35 : decode cX8_getsUp 35 = .ok (.bipush 66, 2) := dk_16 66 (dk_at dksX8_getsUp_1 11 rfl rfl)
theorem dX8_getsUp_37 : decode cX8_getsUp 37 = .ok (.iload_n 1, 1) := dk_27 (dk_at dksX8_getsUp_1 13 rfl rfl)
theorem dX8_getsUp_38 : decode cX8_getsUp 38 = .ok (.iadd, 1) := dk_96 (dk_at dksX8_getsUp_1 14 rfl rfl)
theorem dX8_getsUp_39 : decode cX8_getsUp 39 = .ok (.bipush (-2), 2) := dk_16 254 (dk_at dksX8_getsUp_1 15 rfl rfl)
theorem dX8_getsUp_41 : decode cX8_getsUp 41 = .ok (.iastore, 1) := dk_79 (dk_at dksX8_getsUp_1 17 rfl rfl)
theorem dX8_getsUp_42 : decode cX8_getsUp 42 = .ok (.aload_n 0, 1) := dk_42 (dk_at dksX8_getsUp_1 18 rfl rfl)
theorem dX8_getsUp_43 : decode cX8_getsUp 43 = .ok (.getfield 179, 3) := dk_180 0 179 (dk_at dksX8_getsUp_1 19 rfl rfl)
theorem dX8_getsUp_46 : decode cX8_getsUp 46 = .ok (.iload_n 1, 1) := dk_27 (dk_at dksX8_getsUp_1 22 rfl rfl)
theorem dX8_getsUp_47 : decode cX8_getsUp 47 = .ok (.aload_n 0, 1) := dk_42 (dk_at dksX8_getsUp_1 23 rfl rfl)
theorem dX8_getsUp_48 : decode cX8_getsUp 48 = .ok (.getfield 161, 3) := dk_180 0 161 (dk_at dksX8_getsUp_2 0 rfl rfl)
theorem dX8_getsUp_51 : decode cX8_getsUp 51 = .ok (.bipush 48, 2) := dk_16 48 (dk_at dksX8_getsUp_2 3 rfl rfl)
theorem dX8_getsUp_53 : decode cX8_getsUp 53 = .ok (.iload_n 1, 1) := dk_27 (dk_at dksX8_getsUp_2 5 rfl rfl)
theorem dX8_getsUp_54 : decode cX8_getsUp 54 = .ok (.iadd, 1) := dk_96 (dk_at dksX8_getsUp_2 6 rfl rfl)
theorem dX8_getsUp_55 : decode cX8_getsUp 55 = .ok (.iaload, 1) := dk_46 (dk_at dksX8_getsUp_2 7 rfl rfl)
theorem dX8_getsUp_56 : decode cX8_getsUp 56 = .ok (.iastore, 1) := dk_79 (dk_at dksX8_getsUp_2 8 rfl rfl)
theorem dX8_getsUp_57 : decode cX8_getsUp 57 = .ok (.iload_n 2, 1) := dk_28 (dk_at dksX8_getsUp_2 9 rfl rfl)
theorem dX8_getsUp_58 : decode cX8_getsUp 58 = .ok (.ifCond .ge 4, 3) := dk_156 0 4 (dk_at dksX8_getsUp_2 10 rfl rfl)
theorem dX8_getsUp_61 : decode cX8_getsUp 61 = .ok (.return_, 1) := dk_177 (dk_at dksX8_getsUp_2 13 rfl rfl)
theorem dX8_getsUp_62 : decode cX8_getsUp 62 = .ok (.aload_n 0, 1) := dk_42 (dk_at dksX8_getsUp_2 14 rfl rfl)
theorem dX8_getsUp_63 : decode cX8_getsUp 63 = .ok (.getfield 164, 3) := dk_180 0 164 (dk_at dksX8_getsUp_2 15 rfl rfl)
theorem dX8_getsUp_66 : decode cX8_getsUp 66 = .ok (.bipush 8, 2) := dk_16 8 (dk_at dksX8_getsUp_2 18 rfl rfl)
theorem dX8_getsUp_68 : decode cX8_getsUp 68 = .ok (.aload_n 0, 1) := dk_42 (dk_at dksX8_getsUp_2 20 rfl rfl)
theorem dX8_getsUp_69 : decode cX8_getsUp 69 = .ok (.getfield 107, 3) := dk_180 0 107 (dk_at dksX8_getsUp_2 21 rfl rfl)
theorem dX8_getsUp_72 : decode cX8_getsUp 72 = .ok (.bipush 6, 2) := dk_16 6 (dk_at dksX8_getsUp_3 0 rfl rfl)
theorem dX8_getsUp_74 : decode cX8_getsUp 74 = .ok (.aload_n 0, 1) := dk_42 (dk_at dksX8_getsUp_3 2 rfl rfl)
theorem dX8_getsUp_75 : decode cX8_getsUp 75 = .ok (.getfield 278, 3) := dk_180 1 22 (dk_at dksX8_getsUp_3 3 rfl rfl)
theorem dX8_getsUp_78 : decode cX8_getsUp 78 = .ok (.imul, 1) := dk_104 (dk_at dksX8_getsUp_3 6 rfl rfl)
theorem dX8_getsUp_79 : decode cX8_getsUp 79 = .ok (.iload_n 1, 1) := dk_27 (dk_at dksX8_getsUp_3 7 rfl rfl)
theorem dX8_getsUp_80 : decode cX8_getsUp 80 = .ok (.iadd, 1) := dk_96 (dk_at dksX8_getsUp_3 8 rfl rfl)
theorem dX8_getsUp_81 : decode cX8_getsUp 81 = .ok (.iaload, 1) := dk_46 (dk_at dksX8_getsUp_3 9 rfl rfl)
theorem dX8_getsUp_82 : decode cX8_getsUp 82 = .ok (.imul, 1) := dk_104 (dk_at dksX8_getsUp_3 10 rfl rfl)
theorem dX8_getsUp_83 : decode cX8_getsUp 83 = .ok (.aload_n 0, 1) := dk_42 (dk_at dksX8_getsUp_3 11 rfl rfl)
theorem dX8_getsUp_84 : decode cX8_getsUp 84 = .ok (.getfield 77, 3) := dk_180 0 77 (dk_at dksX8_getsUp_3 12 rfl rfl)
theorem dX8_getsUp_87 : decode cX8_getsUp 87 = .ok (.bipush 6, 2) := dk_16 6 (dk_at dksX8_getsUp_3 15 rfl rfl)
theorem dX8_getsUp_89 : decode cX8_getsUp 89 = .ok (.aload_n 0, 1) := dk_42 (dk_at dksX8_getsUp_3 17 rfl rfl)
theorem dX8_getsUp_90 : decode cX8_getsUp 90 = .ok (.getfield 278, 3) := dk_180 1 22 (dk_at dksX8_getsUp_3 18 rfl rfl)
theorem dX8_getsUp_93 : decode cX8_getsUp 93 = .ok (.imul, 1) := dk_104 (dk_at dksX8_getsUp_3 21 rfl rfl)
theorem dX8_getsUp_94 : decode cX8_getsUp 94 = .ok (.iload_n 2, 1) := dk_28 (dk_at dksX8_getsUp_3 22 rfl rfl)
theorem dX8_getsUp_95 : decode cX8_getsUp 95 = .ok (.iadd, 1) := dk_96 (dk_at dksX8_getsUp_3 23 rfl rfl)
theorem dX8_getsUp_96 : decode cX8_getsUp 96 = .ok (.iaload, 1) := dk_46 (dk_at dksX8_getsUp_4 0 rfl rfl)
theorem dX8_getsUp_97 : decode cX8_getsUp 97 = .ok (.iadd, 1) := dk_96 (dk_at dksX8_getsUp_4 1 rfl rfl)
theorem dX8_getsUp_98 : decode cX8_getsUp 98 = .ok (.iaload, 1) := dk_46 (dk_at dksX8_getsUp_4 2 rfl rfl)
theorem dX8_getsUp_99 : decode cX8_getsUp 99 = .ok (.istore_n 3, 1) := dk_62 (dk_at dksX8_getsUp_4 3 rfl rfl)
theorem dX8_getsUp_100 : decode cX8_getsUp 100 = .ok (.aload_n 0, 1) := dk_42 (dk_at dksX8_getsUp_4 4 rfl rfl)
theorem dX8_getsUp_101 : decode cX8_getsUp 101 = .ok (.getfield 167, 3) := dk_180 0 167 (dk_at dksX8_getsUp_4 5 rfl rfl)
theorem dX8_getsUp_104 : decode cX8_getsUp 104 = .ok (.iload_n 1, 1) := dk_27 (dk_at dksX8_getsUp_4 8 rfl rfl)
theorem dX8_getsUp_105 : decode cX8_getsUp 105 = .ok (.iload_n 3, 1) := dk_29 (dk_at dksX8_getsUp_4 9 rfl rfl)
theorem dX8_getsUp_106 : decode cX8_getsUp 106 = .ok (.ldc_w 399, 3) := dk_19 1 143 (dk_at dksX8_getsUp_4 10 rfl rfl)
theorem dX8_getsUp_109 : decode cX8_getsUp 109 = .ok (.if_icmp .ne 7, 3) := dk_160 0 7 (dk_at dksX8_getsUp_4 13 rfl rfl)
theorem dX8_getsUp_112 : decode cX8_getsUp 112 = .ok (.iconst 3, 1) := dk_6 (dk_at dksX8_getsUp_4 16 rfl rfl)
theorem dX8_getsUp_113 : decode cX8_getsUp 113 = .ok (.goto 4, 3) := dk_167 0 4 (dk_at dksX8_getsUp_4 17 rfl rfl)
theorem dX8_getsUp_116 : decode cX8_getsUp 116 = .ok (.iconst 1, 1) := dk_4 (dk_at dksX8_getsUp_4 20 rfl rfl)
theorem dX8_getsUp_117 : decode cX8_getsUp 117 = .ok (.iastore, 1) := dk_79 (dk_at dksX8_getsUp_4 21 rfl rfl)
theorem dX8_getsUp_118 : decode cX8_getsUp 118 = .ok (.aload_n 0, 1) := dk_42 (dk_at dksX8_getsUp_4 22 rfl rfl)
theorem dX8_getsUp_119 : decode cX8_getsUp 119 = .ok (.getfield 170, 3) := dk_180 0 170 (dk_at dksX8_getsUp_5 0 rfl rfl)
theorem dX8_getsUp_122 : decode cX8_getsUp 122 = .ok (.iload_n 1, 1) := dk_27 (dk_at dksX8_getsUp_5 3 rfl rfl)
theorem dX8_getsUp_123 : decode cX8_getsUp 123 = .ok (.iload_n 3, 1) := dk_29 (dk_at dksX8_getsUp_5 4 rfl rfl)
theorem dX8_getsUp_124 : decode cX8_getsUp 124 = .ok (.iastore, 1) := dk_79 (dk_at dksX8_getsUp_5 5 rfl rfl)
theorem dX8_getsUp_125 : decode cX8_getsUp 125 = .ok (.iload_n 3, 1) := dk_29 (dk_at dksX8_getsUp_5 6 rfl rfl)
theorem dX8_getsUp_126 : decode cX8_getsUp 126 = .ok (.ldc_w 399, 3) := dk_19 1 143 (dk_at dksX8_getsUp_5 7 rfl rfl)
theorem dX8_getsUp_129 : decode cX8_getsUp 129 = .ok (.if_icmp .ne 13, 3) := dk_160 0 13 (dk_at dksX8_getsUp_5 10 rfl rfl)
theorem dX8_getsUp_132 : decode cX8_getsUp 132 = .ok (.aload_n 0, 1) := dk_42 (dk_at dksX8_getsUp_5 13 rfl rfl)
theorem dX8_getsUp_133 : decode cX8_getsUp 133 = .ok (.getfield 161, 3) := dk_180 0 161 (dk_at dksX8_getsUp_5 14 rfl rfl)
theorem dX8_getsUp_136 : decode cX8_getsUp 136 = .ok (.bipush 66, 2) := dk_16 66 (dk_at dksX8_getsUp_5 17 rfl rfl)
theorem dX8_getsUp_138 : decode cX8_getsUp 138 = .ok (.iload_n 1, 1) := dk_27 (dk_at dksX8_getsUp_5 19 rfl rfl)
theorem dX8_getsUp_139 : decode cX8_getsUp 139 = .ok (.iadd, 1) := dk_96 (dk_at dksX8_getsUp_5 20 rfl rfl)
theorem dX8_getsUp_140 : decode cX8_getsUp 140 = .ok (.iconst 0, 1) := dk_3 (dk_at dksX8_getsUp_5 21 rfl rfl)
theorem dX8_getsUp_141 : decode cX8_getsUp 141 = .ok (.iastore, 1) := dk_79 (dk_at dksX8_getsUp_5 22 rfl rfl)
theorem dX8_getsUp_142 : decode cX8_getsUp 142 = .ok (.return_, 1) := dk_177 (dk_at dksX8_getsUp_5 23 rfl rfl)
abbrev cX8_isOver : ByteArray := prog_22_method_60_code
def yX8_isOver : MethodName := ⟨RX8, "isOver", "(I)V"⟩
def dkwX8_isOver_2 : List UInt8 := [177]
abbrev dktX8_isOver_2 : List UInt8 := dkwX8_isOver_2 ++ []
def dkwX8_isOver_1 : List UInt8 := [4, 79, 42, 180, 0, 179, 27, 42, 180, 0, 176, 27, 46, 79, 42, 180, 0, 182, 27, 92, 46, 4, 96, 79]
abbrev dktX8_isOver_1 : List UInt8 := dkwX8_isOver_1 ++ dktX8_isOver_2
def dkwX8_isOver_0 : List UInt8 := [42, 42, 180, 0, 161, 16, 42, 27, 96, 46, 42, 180, 0, 176, 27, 46, 182, 1, 147, 42, 180, 0, 167, 27]
abbrev dktX8_isOver_0 : List UInt8 := dkwX8_isOver_0 ++ dktX8_isOver_1
theorem dksX8_isOver_0 : cX8_isOver.data.toList.drop 0 = dktX8_isOver_0 := by decide +kernel
theorem dksX8_isOver_1 : cX8_isOver.data.toList.drop 24 = dktX8_isOver_1 := dk_seg dksX8_isOver_0 24 rfl rfl
theorem dksX8_isOver_2 : cX8_isOver.data.toList.drop 48 = dktX8_isOver_2 := dk_seg dksX8_isOver_1 24 rfl rfl
theorem dX8_isOver_0 : decode cX8_isOver 0 = .ok (.aload_n 0, 1) := dk_42 (dk_at dksX8_isOver_0 0 rfl rfl)
theorem dX8_isOver_1 : decode cX8_isOver 1 = .ok (.aload_n 0, 1) := dk_42 (dk_at dksX8_isOver_0 1 rfl rfl)
theorem dX8_isOver_2 : decode cX8_isOver 2 = .ok (.getfield 161, 3) := dk_180 0 161 (dk_at dksX8_isOver_0 2 rfl rfl)
theorem dX8_isOver_5 : decode cX8_isOver 5 = .ok (.bipush 42, 2) := dk_16 42 (dk_at dksX8_isOver_0 5 rfl rfl)
theorem dX8_isOver_7 : decode cX8_isOver 7 = .ok (.iload_n 1, 1) := dk_27 (dk_at dksX8_isOver_0 7 rfl rfl)
theorem dX8_isOver_8 : decode cX8_isOver 8 = .ok (.iadd, 1) := dk_96 (dk_at dksX8_isOver_0 8 rfl rfl)
theorem dX8_isOver_9 : decode cX8_isOver 9 = .ok (.iaload, 1) := dk_46 (dk_at dksX8_isOver_0 9 rfl rfl)
theorem dX8_isOver_10 : decode cX8_isOver 10 = .ok (.aload_n 0, 1) := dk_42 (dk_at dksX8_isOver_0 10 rfl rfl)
theorem dX8_isOver_11 : decode cX8_isOver 11 = .ok (.getfield 176, 3) := dk_180 0 176 (dk_at dksX8_isOver_0 11 rfl rfl)
theorem dX8_isOver_14 : decode cX8_isOver 14 = .ok (.iload_n 1, 1) := dk_27 (dk_at dksX8_isOver_0 14 rfl rfl)
theorem dX8_isOver_15 : decode cX8_isOver 15 = .ok (.iaload, 1) := dk_46 (dk_at dksX8_isOver_0 15 rfl rfl)
theorem dX8_isOver_16 : decode cX8_isOver 16 = .ok (.invokevirtual 403, 3) := dk_182 1 147 (dk_at dksX8_isOver_0 16 rfl rfl)
theorem dX8_isOver_19 : decode cX8_isOver 19 = .ok (.aload_n 0, 1) := dk_42 (dk_at dksX8_isOver_0 19 rfl rfl)
theorem dX8_isOver_20 : decode cX8_isOver 20 = .ok (.getfield 167, 3) := dk_180 0 167 (dk_at dksX8_isOver_0 20 rfl rfl)
theorem dX8_isOver_23 : decode cX8_isOver 23 = .ok (.iload_n 1, 1) := dk_27 (dk_at dksX8_isOver_0 23 rfl rfl)
theorem dX8_isOver_24 : decode cX8_isOver 24 = .ok (.iconst 1, 1) := dk_4 (dk_at dksX8_isOver_1 0 rfl rfl)
theorem dX8_isOver_25 : decode cX8_isOver 25 = .ok (.iastore, 1) := dk_79 (dk_at dksX8_isOver_1 1 rfl rfl)
theorem dX8_isOver_26 : decode cX8_isOver 26 = .ok (.aload_n 0, 1) := dk_42 (dk_at dksX8_isOver_1 2 rfl rfl)
theorem dX8_isOver_27 : decode cX8_isOver 27 = .ok (.getfield 179, 3) := dk_180 0 179 (dk_at dksX8_isOver_1 3 rfl rfl)
theorem dX8_isOver_30 : decode cX8_isOver 30 = .ok (.iload_n 1, 1) := dk_27 (dk_at dksX8_isOver_1 6 rfl rfl)
theorem dX8_isOver_31 : decode cX8_isOver 31 = .ok (.aload_n 0, 1) := dk_42 (dk_at dksX8_isOver_1 7 rfl rfl)
theorem dX8_isOver_32 : decode cX8_isOver 32 = .ok (.getfield 176, 3) := dk_180 0 176 (dk_at dksX8_isOver_1 8 rfl rfl)
theorem dX8_isOver_35 : decode cX8_isOver 35 = .ok (.iload_n 1, 1) := dk_27 (dk_at dksX8_isOver_1 11 rfl rfl)
theorem dX8_isOver_36 : decode cX8_isOver 36 = .ok (.iaload, 1) := dk_46 (dk_at dksX8_isOver_1 12 rfl rfl)
theorem dX8_isOver_37 : decode cX8_isOver 37 = .ok (.iastore, 1) := dk_79 (dk_at dksX8_isOver_1 13 rfl rfl)
theorem dX8_isOver_38 : decode cX8_isOver 38 = .ok (.aload_n 0, 1) := dk_42 (dk_at dksX8_isOver_1 14 rfl rfl)
theorem dX8_isOver_39 : decode cX8_isOver 39 = .ok (.getfield 182, 3) := dk_180 0 182 (dk_at dksX8_isOver_1 15 rfl rfl)
theorem dX8_isOver_42 : decode cX8_isOver 42 = .ok (.iload_n 1, 1) := dk_27 (dk_at dksX8_isOver_1 18 rfl rfl)
theorem dX8_isOver_43 : decode cX8_isOver 43 = .ok (.dup2, 1) := dk_92 (dk_at dksX8_isOver_1 19 rfl rfl)
theorem dX8_isOver_44 : decode cX8_isOver 44 = .ok (.iaload, 1) := dk_46 (dk_at dksX8_isOver_1 20 rfl rfl)
theorem dX8_isOver_45 : decode cX8_isOver 45 = .ok (.iconst 1, 1) := dk_4 (dk_at dksX8_isOver_1 21 rfl rfl)
theorem dX8_isOver_46 : decode cX8_isOver 46 = .ok (.iadd, 1) := dk_96 (dk_at dksX8_isOver_1 22 rfl rfl)
theorem dX8_isOver_47 : decode cX8_isOver 47 = .ok (.iastore, 1) := dk_79 (dk_at dksX8_isOver_1 23 rfl rfl)
theorem dX8_isOver_48 : decode cX8_isOver 48 = .ok (.return_, 1) := dk_177 (dk_at dksX8_isOver_2 0 rfl rfl)
abbrev cX8_begins1 : ByteArray := prog_22_method_63_code
def yX8_begins1 : MethodName := ⟨RX8, "begins1", "(II)V"⟩
def dkwX8_begins1_8 : List UInt8 := [182, 1, 137, 46, 96, 79, 177]
abbrev dktX8_begins1_8 : List UInt8 := dkwX8_begins1_8 ++ []
def dkwX8_begins1_7 : List UInt8 := [79, 42, 180, 0, 167, 27, 5, 79, 42, 180, 0, 173, 27, 28, 42, 180, 0, 86, 42, 29, 21, 4]
abbrev dktX8_begins1_7 : List UInt8 := dkwX8_begins1_7 ++ dktX8_begins1_8
def dkwX8_begins1_6 : List UInt8 := [182, 1, 159, 153, 0, 4, 177, 42, 180, 0, 161, 29, 92, 46, 4, 100, 79, 42, 180, 0, 176, 27, 21, 4]
abbrev dktX8_begins1_6 : List UInt8 := dkwX8_begins1_6 ++ dktX8_begins1_7
def dkwX8_begins1_5 : List UInt8 := [29, 96, 46, 159, 0, 10, 42, 27, 28, 182, 1, 153, 177, 21, 6, 154, 0, 14, 42, 21, 5, 27]
abbrev dktX8_begins1_5 : List UInt8 := dkwX8_begins1_5 ++ dktX8_begins1_6
def dkwX8_begins1_4 : List UInt8 := [154, 0, 37, 42, 180, 0, 161, 16, 72, 21, 5, 96, 46, 42, 180, 0, 77, 16, 6, 42, 180, 1, 22, 104]
abbrev dktX8_begins1_4 : List UInt8 := dkwX8_begins1_4 ++ dktX8_begins1_5
def dkwX8_begins1_3 : List UInt8 := [96, 160, 0, 7, 4, 167, 0, 4, 3, 54, 6, 42, 180, 0, 161, 29, 46, 153, 0, 35, 21, 6]
abbrev dktX8_begins1_3 : List UInt8 := dkwX8_begins1_3 ++ dktX8_begins1_4
def dkwX8_begins1_2 : List UInt8 := [182, 1, 137, 46, 54, 5, 21, 5, 155, 0, 20, 42, 180, 0, 161, 16, 72, 21, 5, 96, 46, 16, 100, 27]
abbrev dktX8_begins1_2 : List UInt8 := dkwX8_begins1_2 ++ dktX8_begins1_3
def dkwX8_begins1_1 : List UInt8 := [84, 42, 27, 28, 182, 1, 153, 177, 42, 27, 28, 182, 1, 156, 54, 4, 42, 180, 0, 98, 42, 29, 21, 4]
abbrev dktX8_begins1_1 : List UInt8 := dkwX8_begins1_1 ++ dktX8_begins1_2
def dkwX8_begins1_0 : List UInt8 := [42, 180, 0, 161, 16, 42, 27, 96, 46, 62, 42, 29, 182, 1, 150, 153, 0, 17, 42, 180, 0, 185, 27, 4]
abbrev dktX8_begins1_0 : List UInt8 := dkwX8_begins1_0 ++ dktX8_begins1_1
theorem dksX8_begins1_0 : cX8_begins1.data.toList.drop 0 = dktX8_begins1_0 := by decide +kernel
theorem dksX8_begins1_1 : cX8_begins1.data.toList.drop 24 = dktX8_begins1_1 := dk_seg dksX8_begins1_0 24 rfl rfl
theorem dksX8_begins1_2 : cX8_begins1.data.toList.drop 48 = dktX8_begins1_2 := dk_seg dksX8_begins1_1 24 rfl rfl
theorem dksX8_begins1_3 : cX8_begins1.data.toList.drop 72 = dktX8_begins1_3 := dk_seg dksX8_begins1_2 24 rfl rfl
theorem dksX8_begins1_4 : cX8_begins1.data.toList.drop 94 = dktX8_begins1_4 := dk_seg dksX8_begins1_3 22 rfl rfl
theorem dksX8_begins1_5 : cX8_begins1.data.toList.drop 118 = dktX8_begins1_5 := dk_seg dksX8_begins1_4 24 rfl rfl
theorem dksX8_begins1_6 : cX8_begins1.data.toList.drop 140 = dktX8_begins1_6 := dk_seg dksX8_begins1_5 22 rfl rfl
theorem dksX8_begins1_7 : cX8_begins1.data.toList.drop 164 = dktX8_begins1_7 := dk_seg dksX8_begins1_6 24 rfl rfl
theorem dksX8_begins1_8 : cX8_begins1.data.toList.drop 186 = dktX8_begins1_8 := dk_seg dksX8_begins1_7 22 rfl rfl
theorem dX8_begins1_0 : decode cX8_begins1 0 = .ok (.aload_n 0, 1) := dk_42 (dk_at dksX8_begins1_0 0 rfl rfl)
theorem dX8_begins1_1 : decode cX8_begins1 1 = .ok (.getfield 161, 3) := dk_180 0 161 (dk_at dksX8_begins1_0 1 rfl rfl)
theorem dX8_begins1_4 : decode cX8_begins1 4 = .ok (.bipush 42, 2) := dk_16 42 (dk_at dksX8_begins1_0 4 rfl rfl)
theorem dX8_begins1_6 : decode cX8_begins1 6 = .ok (.iload_n 1, 1) := dk_27 (dk_at dksX8_begins1_0 6 rfl rfl)
theorem dX8_begins1_7 : decode cX8_begins1 7 = .ok (.iadd, 1) := dk_96 (dk_at dksX8_begins1_0 7 rfl rfl)
theorem dX8_begins1_8 : decode cX8_begins1 8 = .ok (.iaload, 1) := dk_46 (dk_at dksX8_begins1_0 8 rfl rfl)
theorem dX8_begins1_9 : decode cX8_begins1 9 = .ok (.istore_n 3, 1) := dk_62 (dk_at dksX8_begins1_0 9 rfl rfl)
theorem dX8_begins1_10 : decode cX8_begins1 10 = .ok (.aload_n 0, 1) := dk_42 (dk_at dksX8_begins1_0 10 rfl rfl)
theorem dX8_begins1_11 : decode cX8_begins1 11 = .ok (.iload_n 3, 1) := dk_29 (dk_at dksX8_begins1_0 11 rfl rfl)
theorem dX8_begins1_12 : decode cX8_begins1 12 = .ok (.invokevirtual 406, 3) := dk_182 1 150 (dk_at dksX8_begins1_0 12 rfl rfl)
theorem dX8_begins1_15 : decode cX8_begins1 15 = .ok (.ifCond .eq 17, 3) := dk_153 0 17 (dk_at dksX8_begins1_0 15 rfl rfl)
theorem dX8_begins1_18 : decode cX8_begins1 18 = .ok (.aload_n 0, 1) := dk_42 (dk_at dksX8_begins1_0 18 rfl rfl)
theorem dX8_begins1_19 : decode cX8_begins1 19 = .ok (.getfield 185, 3) := dk_180 0 185 (dk_at dksX8_begins1_0 19 rfl rfl)
theorem dX8_begins1_22 : decode cX8_begins1 22 = .ok (.iload_n 1, 1) := dk_27 (dk_at dksX8_begins1_0 22 rfl rfl)
theorem dX8_begins1_23 : decode cX8_begins1 23 = .ok (.iconst 1, 1) := dk_4 (dk_at dksX8_begins1_0 23 rfl rfl)
theorem dX8_begins1_24 : decode cX8_begins1 24 = .ok (.bastore, 1) := dk_84 (dk_at dksX8_begins1_1 0 rfl rfl)
theorem dX8_begins1_25 : decode cX8_begins1 25 = .ok (.aload_n 0, 1) := dk_42 (dk_at dksX8_begins1_1 1 rfl rfl)
theorem dX8_begins1_26 : decode cX8_begins1 26 = .ok (.iload_n 1, 1) := dk_27 (dk_at dksX8_begins1_1 2 rfl rfl)
theorem dX8_begins1_27 : decode cX8_begins1 27 = .ok (.iload_n 2, 1) := dk_28 (dk_at dksX8_begins1_1 3 rfl rfl)
theorem dX8_begins1_28 : decode cX8_begins1 28 = .ok (.invokevirtual 409, 3) := dk_182 1 153 (dk_at dksX8_begins1_1 4 rfl rfl)
theorem dX8_begins1_31 : decode cX8_begins1 31 = .ok (.return_, 1) := dk_177 (dk_at dksX8_begins1_1 7 rfl rfl)
theorem dX8_begins1_32 : decode cX8_begins1 32 = .ok (.aload_n 0, 1) := dk_42 (dk_at dksX8_begins1_1 8 rfl rfl)
theorem dX8_begins1_33 : decode cX8_begins1 33 = .ok (.iload_n 1, 1) := dk_27 (dk_at dksX8_begins1_1 9 rfl rfl)
theorem dX8_begins1_34 : decode cX8_begins1 34 = .ok (.iload_n 2, 1) := dk_28 (dk_at dksX8_begins1_1 10 rfl rfl)
theorem dX8_begins1_35 : decode cX8_begins1 35 = .ok (.invokevirtual 412, 3) := dk_182 1 156 (dk_at dksX8_begins1_1 11 rfl rfl)
theorem dX8_begins1_38 : decode cX8_begins1 38 = .ok (.istore 4, 2) := dk_54 4 (dk_at dksX8_begins1_1 14 rfl rfl)
theorem dX8_begins1_40 : decode cX8_begins1 40 = .ok (.aload_n 0, 1) := dk_42 (dk_at dksX8_begins1_1 16 rfl rfl)
theorem dX8_begins1_41 : decode cX8_begins1 41 = .ok (.getfield 98, 3) := dk_180 0 98 (dk_at dksX8_begins1_1 17 rfl rfl)
theorem dX8_begins1_44 : decode cX8_begins1 44 = .ok (.aload_n 0, 1) := dk_42 (dk_at dksX8_begins1_1 20 rfl rfl)
theorem dX8_begins1_45 : decode cX8_begins1 45 = .ok (.iload_n 3, 1) := dk_29 (dk_at dksX8_begins1_1 21 rfl rfl)
theorem dX8_begins1_46 : decode cX8_begins1 46 = .ok (.iload 4, 2) := dk_21 4 (dk_at dksX8_begins1_1 22 rfl rfl)
theorem dX8_begins1_48 : decode cX8_begins1 48 = .ok (.invokevirtual 393, 3) := dk_182 1 137 (dk_at dksX8_begins1_2 0 rfl rfl)
theorem dX8_begins1_51 : decode cX8_begins1 51 = .ok (.iaload, 1) := dk_46 (dk_at dksX8_begins1_2 3 rfl rfl)
theorem dX8_begins1_52 : decode cX8_begins1 52 = .ok (.istore 5, 2) := dk_54 5 (dk_at dksX8_begins1_2 4 rfl rfl)
theorem dX8_begins1_54 : decode cX8_begins1 54 = .ok (.iload 5, 2) := dk_21 5 (dk_at dksX8_begins1_2 6 rfl rfl)
theorem dX8_begins1_56 : decode cX8_begins1 56 = .ok (.ifCond .lt 20, 3) := dk_155 0 20 (dk_at dksX8_begins1_2 8 rfl rfl)
theorem dX8_begins1_59 : decode cX8_begins1 59 = .ok (.aload_n 0, 1) := dk_42 (dk_at dksX8_begins1_2 11 rfl rfl)
theorem dX8_begins1_60 : decode cX8_begins1 60 = .ok (.getfield 161, 3) := dk_180 0 161 (dk_at dksX8_begins1_2 12 rfl rfl)
theorem dX8_begins1_63 : decode cX8_begins1 63 = .ok (.bipush 72, 2) := dk_16 72 (dk_at dksX8_begins1_2 15 rfl rfl)
theorem dX8_begins1_65 : decode cX8_begins1 65 = .ok (.iload 5, 2) := dk_21 5 (dk_at dksX8_begins1_2 17 rfl rfl)
theorem dX8_begins1_67 : decode cX8_begins1 67 = .ok (.iadd, 1) := dk_96 (dk_at dksX8_begins1_2 19 rfl rfl)
theorem dX8_begins1_68 : decode cX8_begins1 68 = .ok (.iaload, 1) := dk_46 (dk_at dksX8_begins1_2 20 rfl rfl)
theorem dX8_begins1_69 : decode cX8_begins1 69 = .ok (.bipush 100, 2) := dk_16 100 (dk_at dksX8_begins1_2 21 rfl rfl)
theorem dX8_begins1_71 : decode cX8_begins1 71 = .ok (.iload_n 1, 1) := dk_27 (dk_at dksX8_begins1_2 23 rfl rfl)
theorem dX8_begins1_72 : decode cX8_begins1 72 = .ok (.iadd, 1) := dk_96 (dk_at dksX8_begins1_3 0 rfl rfl)
theorem dX8_begins1_73 : decode cX8_begins1 73 = .ok (.if_icmp .ne 7, 3) := dk_160 0 7 (dk_at dksX8_begins1_3 1 rfl rfl)
theorem dX8_begins1_76 : decode cX8_begins1 76 = .ok (.iconst 1, 1) := dk_4 (dk_at dksX8_begins1_3 4 rfl rfl)
theorem dX8_begins1_77 : decode cX8_begins1 77 = .ok (.goto 4, 3) := dk_167 0 4 (dk_at dksX8_begins1_3 5 rfl rfl)
theorem dX8_begins1_80 : decode cX8_begins1 80 = .ok (.iconst 0, 1) := dk_3 (dk_at dksX8_begins1_3 8 rfl rfl)
theorem dX8_begins1_81 : decode cX8_begins1 81 = .ok (.istore 6, 2) := dk_54 6 (dk_at dksX8_begins1_3 9 rfl rfl)
theorem dX8_begins1_83 : decode cX8_begins1 83 = .ok (.aload_n 0, 1) := dk_42 (dk_at dksX8_begins1_3 11 rfl rfl)
theorem dX8_begins1_84 : decode cX8_begins1 84 = .ok (.getfield 161, 3) := dk_180 0 161 (dk_at dksX8_begins1_3 12 rfl rfl)
theorem dX8_begins1_87 : decode cX8_begins1 87 = .ok (.iload_n 3, 1) := dk_29 (dk_at dksX8_begins1_3 15 rfl rfl)
theorem dX8_begins1_88 : decode cX8_begins1 88 = .ok (.iaload, 1) := dk_46 (dk_at dksX8_begins1_3 16 rfl rfl)
theorem dX8_begins1_89 : decode cX8_begins1 89 = .ok (.ifCond .eq 35, 3) := dk_153 0 35 (dk_at dksX8_begins1_3 17 rfl rfl)
theorem dX8_begins1_92 : decode cX8_begins1 92 = .ok (.iload 6, 2) := dk_21 6 (dk_at dksX8_begins1_3 20 rfl rfl)
theorem dX8_begins1_94 : decode cX8_begins1 94 = .ok (.ifCond .ne 37, 3) := dk_154 0 37 (dk_at dksX8_begins1_4 0 rfl rfl)
theorem dX8_begins1_97 : decode cX8_begins1 97 = .ok (.aload_n 0, 1) := dk_42 (dk_at dksX8_begins1_4 3 rfl rfl)
theorem dX8_begins1_98 : decode cX8_begins1 98 = .ok (.getfield 161, 3) := dk_180 0 161 (dk_at dksX8_begins1_4 4 rfl rfl)
theorem dX8_begins1_101 : decode cX8_begins1 101 = .ok (.bipush 72, 2) := dk_16 72 (dk_at dksX8_begins1_4 7 rfl rfl)
theorem dX8_begins1_103 : decode cX8_begins1 103 = .ok (.iload 5, 2) := dk_21 5 (dk_at dksX8_begins1_4 9 rfl rfl)
theorem dX8_begins1_105 : decode cX8_begins1 105 = .ok (.iadd, 1) := dk_96 (dk_at dksX8_begins1_4 11 rfl rfl)
theorem dX8_begins1_106 : decode cX8_begins1 106 = .ok (.iaload, 1) := dk_46 (dk_at dksX8_begins1_4 12 rfl rfl)
theorem dX8_begins1_107 : decode cX8_begins1 107 = .ok (.aload_n 0, 1) := dk_42 (dk_at dksX8_begins1_4 13 rfl rfl)
theorem dX8_begins1_108 : decode cX8_begins1 108 = .ok (.getfield 77, 3) := dk_180 0 77 (dk_at dksX8_begins1_4 14 rfl rfl)
theorem dX8_begins1_111 : decode cX8_begins1 111 = .ok (.bipush 6, 2) := dk_16 6 (dk_at dksX8_begins1_4 17 rfl rfl)
theorem dX8_begins1_113 : decode cX8_begins1 113 = .ok (.aload_n 0, 1) := dk_42 (dk_at dksX8_begins1_4 19 rfl rfl)
theorem dX8_begins1_114 : decode cX8_begins1 114 = .ok (.getfield 278, 3) := dk_180 1 22 (dk_at dksX8_begins1_4 20 rfl rfl)
theorem dX8_begins1_117 : decode cX8_begins1 117 = .ok (.imul, 1) := dk_104 (dk_at dksX8_begins1_4 23 rfl rfl)
theorem dX8_begins1_118 : decode cX8_begins1 118 = .ok (.iload_n 3, 1) := dk_29 (dk_at dksX8_begins1_5 0 rfl rfl)
theorem dX8_begins1_119 : decode cX8_begins1 119 = .ok (.iadd, 1) := dk_96 (dk_at dksX8_begins1_5 1 rfl rfl)
theorem dX8_begins1_120 : decode cX8_begins1 120 = .ok (.iaload, 1) := dk_46 (dk_at dksX8_begins1_5 2 rfl rfl)
theorem dX8_begins1_121 : decode cX8_begins1 121 = .ok (.if_icmp .eq 10, 3) := dk_159 0 10 (dk_at dksX8_begins1_5 3 rfl rfl)
theorem dX8_begins1_124 : decode cX8_begins1 124 = .ok (.aload_n 0, 1) := dk_42 (dk_at dksX8_begins1_5 6 rfl rfl)
theorem dX8_begins1_125 : decode cX8_begins1 125 = .ok (.iload_n 1, 1) := dk_27 (dk_at dksX8_begins1_5 7 rfl rfl)
theorem dX8_begins1_126 : decode cX8_begins1 126 = .ok (.iload_n 2, 1) := dk_28 (dk_at dksX8_begins1_5 8 rfl rfl)
theorem dX8_begins1_127 : decode cX8_begins1 127 = .ok (.invokevirtual 409, 3) := dk_182 1 153 (dk_at dksX8_begins1_5 9 rfl rfl)
theorem dX8_begins1_130 : decode cX8_begins1 130 = .ok (.return_, 1) := dk_177 (dk_at dksX8_begins1_5 12 rfl rfl)
theorem dX8_begins1_131 : decode cX8_begins1 131 = .ok (.iload 6, 2) := dk_21 6 (dk_at dksX8_begins1_5 13 rfl rfl)
theorem dX8_begins1_133 : decode cX8_begins1 133 = .ok (.ifCond .ne 14, 3) := dk_154 0 14 (dk_at dksX8_begins1_5 15 rfl rfl)
theorem dX8_begins1_136 : decode cX8_begins1 136 = .ok (.aload_n 0, 1) := dk_42 (dk_at dksX8_begins1_5 18 rfl rfl)
theorem dX8_begins1_137 : decode cX8_begins1 137 = .ok (.iload 5, 2) := dk_21 5 (dk_at dksX8_begins1_5 19 rfl rfl)
theorem dX8_begins1_139 : decode cX8_begins1 139 = .ok (.iload_n 1, 1) := dk_27 (dk_at dksX8_begins1_5 21 rfl rfl)
theorem dX8_begins1_140 : decode cX8_begins1 140 = .ok (.invokevirtual 415, 3) := dk_182 1 159 (dk_at dksX8_begins1_6 0 rfl rfl)
theorem dX8_begins1_143 : decode cX8_begins1 143 = .ok (.ifCond .eq 4, 3) := dk_153 0 4 (dk_at dksX8_begins1_6 3 rfl rfl)
theorem dX8_begins1_146 : decode cX8_begins1 146 = .ok (.return_, 1) := dk_177 (dk_at dksX8_begins1_6 6 rfl rfl)
theorem dX8_begins1_147 : decode cX8_begins1 147 = .ok (.aload_n 0, 1) := dk_42 (dk_at dksX8_begins1_6 7 rfl rfl)
theorem dX8_begins1_148 : decode cX8_begins1 148 = .ok (.getfield 161, 3) := dk_180 0 161 (dk_at dksX8_begins1_6 8 rfl rfl)
theorem dX8_begins1_151 : decode cX8_begins1 151 = .ok (.iload_n 3, 1) := dk_29 (dk_at dksX8_begins1_6 11 rfl rfl)
theorem dX8_begins1_152 : decode cX8_begins1 152 = .ok (.dup2, 1) := dk_92 (dk_at dksX8_begins1_6 12 rfl rfl)
theorem dX8_begins1_153 : decode cX8_begins1 153 = .ok (.iaload, 1) := dk_46 (dk_at dksX8_begins1_6 13 rfl rfl)
theorem dX8_begins1_154 : decode cX8_begins1 154 = .ok (.iconst 1, 1) := dk_4 (dk_at dksX8_begins1_6 14 rfl rfl)
theorem dX8_begins1_155 : decode cX8_begins1 155 = .ok (.isub, 1) := dk_100 (dk_at dksX8_begins1_6 15 rfl rfl)
theorem dX8_begins1_156 : decode cX8_begins1 156 = .ok (.iastore, 1) := dk_79 (dk_at dksX8_begins1_6 16 rfl rfl)
theorem dX8_begins1_157 : decode cX8_begins1 157 = .ok (.aload_n 0, 1) := dk_42 (dk_at dksX8_begins1_6 17 rfl rfl)
theorem dX8_begins1_158 : decode cX8_begins1 158 = .ok (.getfield 176, 3) := dk_180 0 176 (dk_at dksX8_begins1_6 18 rfl rfl)
theorem dX8_begins1_161 : decode cX8_begins1 161 = .ok (.iload_n 1, 1) := dk_27 (dk_at dksX8_begins1_6 21 rfl rfl)
theorem dX8_begins1_162 : decode cX8_begins1 162 = .ok (.iload 4, 2) := dk_21 4 (dk_at dksX8_begins1_6 22 rfl rfl)
theorem dX8_begins1_164 : decode cX8_begins1 164 = .ok (.iastore, 1) := dk_79 (dk_at dksX8_begins1_7 0 rfl rfl)
theorem dX8_begins1_165 : decode cX8_begins1 165 = .ok (.aload_n 0, 1) := dk_42 (dk_at dksX8_begins1_7 1 rfl rfl)
theorem dX8_begins1_166 : decode cX8_begins1 166 = .ok (.getfield 167, 3) := dk_180 0 167 (dk_at dksX8_begins1_7 2 rfl rfl)
theorem dX8_begins1_169 : decode cX8_begins1 169 = .ok (.iload_n 1, 1) := dk_27 (dk_at dksX8_begins1_7 5 rfl rfl)
theorem dX8_begins1_170 : decode cX8_begins1 170 = .ok (.iconst 2, 1) := dk_5 (dk_at dksX8_begins1_7 6 rfl rfl)
theorem dX8_begins1_171 : decode cX8_begins1 171 = .ok (.iastore, 1) := dk_79 (dk_at dksX8_begins1_7 7 rfl rfl)
theorem dX8_begins1_172 : decode cX8_begins1 172 = .ok (.aload_n 0, 1) := dk_42 (dk_at dksX8_begins1_7 8 rfl rfl)
theorem dX8_begins1_173 : decode cX8_begins1 173 = .ok (.getfield 173, 3) := dk_180 0 173 (dk_at dksX8_begins1_7 9 rfl rfl)
theorem dX8_begins1_176 : decode cX8_begins1 176 = .ok (.iload_n 1, 1) := dk_27 (dk_at dksX8_begins1_7 12 rfl rfl)
theorem dX8_begins1_177 : decode cX8_begins1 177 = .ok (.iload_n 2, 1) := dk_28 (dk_at dksX8_begins1_7 13 rfl rfl)
theorem dX8_begins1_178 : decode cX8_begins1 178 = .ok (.aload_n 0, 1) := dk_42 (dk_at dksX8_begins1_7 14 rfl rfl)
theorem dX8_begins1_179 : decode cX8_begins1 179 = .ok (.getfield 86, 3) := dk_180 0 86 (dk_at dksX8_begins1_7 15 rfl rfl)
theorem dX8_begins1_182 : decode cX8_begins1 182 = .ok (.aload_n 0, 1) := dk_42 (dk_at dksX8_begins1_7 18 rfl rfl)
theorem dX8_begins1_183 : decode cX8_begins1 183 = .ok (.iload_n 3, 1) := dk_29 (dk_at dksX8_begins1_7 19 rfl rfl)
theorem dX8_begins1_184 : decode cX8_begins1 184 = .ok (.iload 4, 2) := dk_21 4 (dk_at dksX8_begins1_7 20 rfl rfl)
theorem dX8_begins1_186 : decode cX8_begins1 186 = .ok (.invokevirtual 393, 3) := dk_182 1 137 (dk_at dksX8_begins1_8 0 rfl rfl)
theorem dX8_begins1_189 : decode cX8_begins1 189 = .ok (.iaload, 1) := dk_46 (dk_at dksX8_begins1_8 3 rfl rfl)
theorem dX8_begins1_190 : decode cX8_begins1 190 = .ok (.iadd, 1) := dk_96 (dk_at dksX8_begins1_8 4 rfl rfl)
theorem dX8_begins1_191 : decode cX8_begins1 191 = .ok (.iastore, 1) := dk_79 (dk_at dksX8_begins1_8 5 rfl rfl)
theorem dX8_begins1_192 : decode cX8_begins1 192 = .ok (.return_, 1) := dk_177 (dk_at dksX8_begins1_8 6 rfl rfl)
abbrev cX8_lies : ByteArray := prog_22_method_61_code
def yX8_lies : MethodName := ⟨RX8, "lies", "(II)V"⟩
def dkwX8_lies_0 : List UInt8 := [42, 180, 0, 167, 27, 6, 79, 42, 180, 0, 161, 16, 66, 27, 96, 28, 79, 177]
abbrev dktX8_lies_0 : List UInt8 := dkwX8_lies_0 ++ []
theorem dksX8_lies_0 : cX8_lies.data.toList.drop 0 = dktX8_lies_0 := by decide +kernel
theorem dX8_lies_0 : decode cX8_lies 0 = .ok (.aload_n 0, 1) := dk_42 (dk_at dksX8_lies_0 0 rfl rfl)
theorem dX8_lies_1 : decode cX8_lies 1 = .ok (.getfield 167, 3) := dk_180 0 167 (dk_at dksX8_lies_0 1 rfl rfl)
theorem dX8_lies_4 : decode cX8_lies 4 = .ok (.iload_n 1, 1) := dk_27 (dk_at dksX8_lies_0 4 rfl rfl)
theorem dX8_lies_5 : decode cX8_lies 5 = .ok (.iconst 3, 1) := dk_6 (dk_at dksX8_lies_0 5 rfl rfl)
theorem dX8_lies_6 : decode cX8_lies 6 = .ok (.iastore, 1) := dk_79 (dk_at dksX8_lies_0 6 rfl rfl)
theorem dX8_lies_7 : decode cX8_lies 7 = .ok (.aload_n 0, 1) := dk_42 (dk_at dksX8_lies_0 7 rfl rfl)
theorem dX8_lies_8 : decode cX8_lies 8 = .ok (.getfield 161, 3) := dk_180 0 161 (dk_at dksX8_lies_0 8 rfl rfl)
theorem dX8_lies_11 : decode cX8_lies 11 = .ok (.bipush 66, 2) := dk_16 66 (dk_at dksX8_lies_0 11 rfl rfl)
theorem dX8_lies_13 : decode cX8_lies 13 = .ok (.iload_n 1, 1) := dk_27 (dk_at dksX8_lies_0 13 rfl rfl)
theorem dX8_lies_14 : decode cX8_lies 14 = .ok (.iadd, 1) := dk_96 (dk_at dksX8_lies_0 14 rfl rfl)
theorem dX8_lies_15 : decode cX8_lies 15 = .ok (.iload_n 2, 1) := dk_28 (dk_at dksX8_lies_0 15 rfl rfl)
theorem dX8_lies_16 : decode cX8_lies 16 = .ok (.iastore, 1) := dk_79 (dk_at dksX8_lies_0 16 rfl rfl)
theorem dX8_lies_17 : decode cX8_lies 17 = .ok (.return_, 1) := dk_177 (dk_at dksX8_lies_0 17 rfl rfl)
abbrev cX8_tells : ByteArray := prog_22_method_58_code
def yX8_tells : MethodName := ⟨RX8, "tells", "(II)I"⟩
def dkwX8_tells_12 : List UInt8 := [167, 255, 106, 42, 180, 0, 179, 27, 46, 172]
abbrev dktX8_tells_12 : List UInt8 := dkwX8_tells_12 ++ []
def dkwX8_tells_11 : List UInt8 := [182, 1, 131, 161, 0, 13, 42, 29, 182, 1, 131, 4, 100, 167, 0, 5, 21, 7, 172, 132, 6, 1]
abbrev dktX8_tells_11 : List UInt8 := dkwX8_tells_11 ++ dktX8_tells_12
def dkwX8_tells_10 : List UInt8 := [153, 0, 10, 42, 180, 0, 179, 27, 46, 172, 21, 7, 156, 0, 7, 3, 167, 0, 25, 21, 7, 42, 29]
abbrev dktX8_tells_10 : List UInt8 := dkwX8_tells_10 ++ dktX8_tells_11
def dkwX8_tells_9 : List UInt8 := [180, 0, 134, 21, 6, 46, 42, 180, 0, 137, 21, 6, 46, 182, 1, 144, 54, 7, 42, 180, 1, 117]
abbrev dktX8_tells_9 : List UInt8 := dkwX8_tells_9 ++ dktX8_tells_10
def dkwX8_tells_8 : List UInt8 := [153, 0, 10, 42, 180, 0, 179, 27, 46, 172, 21, 7, 21, 8, 161, 0, 6, 167, 0, 69, 42, 42]
abbrev dktX8_tells_8 : List UInt8 := dkwX8_tells_8 ++ dktX8_tells_9
def dkwX8_tells_7 : List UInt8 := [42, 42, 180, 0, 131, 21, 6, 46, 42, 180, 0, 134, 21, 6, 46, 182, 1, 144, 54, 8, 42, 180, 1, 117]
abbrev dktX8_tells_7 : List UInt8 := dkwX8_tells_7 ++ dktX8_tells_8
def dkwX8_tells_6 : List UInt8 := [51, 153, 0, 67, 42, 42, 180, 0, 128, 21, 6, 46, 42, 180, 0, 131, 21, 6, 46, 182, 1, 144, 54, 7]
abbrev dktX8_tells_6 : List UInt8 := dkwX8_tells_6 ++ dktX8_tells_7
def dkwX8_tells_5 : List UInt8 := [46, 79, 42, 3, 181, 1, 117, 21, 4, 54, 6, 21, 6, 21, 5, 162, 0, 149, 42, 180, 0, 125, 21, 6]
abbrev dktX8_tells_5 : List UInt8 := dkwX8_tells_5 ++ dktX8_tells_6
def dkwX8_tells_4 : List UInt8 := [28, 79, 42, 180, 0, 152, 7, 42, 180, 0, 161, 29, 46, 79, 42, 180, 0, 152, 8, 42, 180, 0, 182, 27]
abbrev dktX8_tells_4 : List UInt8 := dkwX8_tells_4 ++ dktX8_tells_5
def dkwX8_tells_3 : List UInt8 := [180, 0, 179, 27, 46, 96, 46, 79, 42, 180, 0, 152, 5, 42, 29, 182, 1, 131, 79, 42, 180, 0, 152, 6]
abbrev dktX8_tells_3 : List UInt8 := dkwX8_tells_3 ++ dktX8_tells_4
def dkwX8_tells_2 : List UInt8 := [180, 0, 179, 27, 46, 79, 42, 180, 0, 152, 4, 42, 180, 0, 161, 16, 6, 16, 6, 29, 104, 96, 42]
abbrev dktX8_tells_2 : List UInt8 := dkwX8_tells_2 ++ dktX8_tells_3
def dkwX8_tells_1 : List UInt8 := [54, 4, 42, 180, 0, 122, 16, 6, 42, 180, 1, 22, 104, 27, 96, 46, 54, 5, 42, 180, 0, 152, 3, 42]
abbrev dktX8_tells_1 : List UInt8 := dkwX8_tells_1 ++ dktX8_tells_2
def dkwX8_tells_0 : List UInt8 := [42, 180, 0, 161, 16, 42, 27, 96, 46, 62, 42, 180, 0, 119, 16, 6, 42, 180, 1, 22, 104, 27, 96, 46]
abbrev dktX8_tells_0 : List UInt8 := dkwX8_tells_0 ++ dktX8_tells_1
theorem dksX8_tells_0 : cX8_tells.data.toList.drop 0 = dktX8_tells_0 := by decide +kernel
theorem dksX8_tells_1 : cX8_tells.data.toList.drop 24 = dktX8_tells_1 := dk_seg dksX8_tells_0 24 rfl rfl
theorem dksX8_tells_2 : cX8_tells.data.toList.drop 48 = dktX8_tells_2 := dk_seg dksX8_tells_1 24 rfl rfl
theorem dksX8_tells_3 : cX8_tells.data.toList.drop 71 = dktX8_tells_3 := dk_seg dksX8_tells_2 23 rfl rfl
theorem dksX8_tells_4 : cX8_tells.data.toList.drop 95 = dktX8_tells_4 := dk_seg dksX8_tells_3 24 rfl rfl
theorem dksX8_tells_5 : cX8_tells.data.toList.drop 119 = dktX8_tells_5 := dk_seg dksX8_tells_4 24 rfl rfl
theorem dksX8_tells_6 : cX8_tells.data.toList.drop 143 = dktX8_tells_6 := dk_seg dksX8_tells_5 24 rfl rfl
theorem dksX8_tells_7 : cX8_tells.data.toList.drop 167 = dktX8_tells_7 := dk_seg dksX8_tells_6 24 rfl rfl
theorem dksX8_tells_8 : cX8_tells.data.toList.drop 191 = dktX8_tells_8 := dk_seg dksX8_tells_7 24 rfl rfl
theorem dksX8_tells_9 : cX8_tells.data.toList.drop 213 = dktX8_tells_9 := dk_seg dksX8_tells_8 22 rfl rfl
theorem dksX8_tells_10 : cX8_tells.data.toList.drop 235 = dktX8_tells_10 := dk_seg dksX8_tells_9 22 rfl rfl
theorem dksX8_tells_11 : cX8_tells.data.toList.drop 258 = dktX8_tells_11 := dk_seg dksX8_tells_10 23 rfl rfl
theorem dksX8_tells_12 : cX8_tells.data.toList.drop 280 = dktX8_tells_12 := dk_seg dksX8_tells_11 22 rfl rfl
theorem dX8_tells_0 : decode cX8_tells 0 = .ok (.aload_n 0, 1) := dk_42 (dk_at dksX8_tells_0 0 rfl rfl)
theorem dX8_tells_1 : decode cX8_tells 1 = .ok (.getfield 161, 3) := dk_180 0 161 (dk_at dksX8_tells_0 1 rfl rfl)
theorem dX8_tells_4 : decode cX8_tells 4 = .ok (.bipush 42, 2) := dk_16 42 (dk_at dksX8_tells_0 4 rfl rfl)
theorem dX8_tells_6 : decode cX8_tells 6 = .ok (.iload_n 1, 1) := dk_27 (dk_at dksX8_tells_0 6 rfl rfl)
theorem dX8_tells_7 : decode cX8_tells 7 = .ok (.iadd, 1) := dk_96 (dk_at dksX8_tells_0 7 rfl rfl)
theorem dX8_tells_8 : decode cX8_tells 8 = .ok (.iaload, 1) := dk_46 (dk_at dksX8_tells_0 8 rfl rfl)
theorem dX8_tells_9 : decode cX8_tells 9 = .ok (.istore_n 3, 1) := dk_62 (dk_at dksX8_tells_0 9 rfl rfl)
theorem dX8_tells_10 : decode cX8_tells 10 = .ok (.aload_n 0, 1) := dk_42 (dk_at dksX8_tells_0 10 rfl rfl)
theorem dX8_tells_11 : decode cX8_tells 11 = .ok (.getfield 119, 3) := dk_180 0 119 (dk_at dksX8_tells_0 11 rfl rfl)
theorem dX8_tells_14 : decode cX8_tells 14 = .ok (.bipush 6, 2) := dk_16 6 (dk_at dksX8_tells_0 14 rfl rfl)
theorem dX8_tells_16 : decode cX8_tells 16 = .ok (.aload_n 0, 1) := dk_42 (dk_at dksX8_tells_0 16 rfl rfl)
theorem dX8_tells_17 : decode cX8_tells 17 = .ok (.getfield 278, 3) := dk_180 1 22 (dk_at dksX8_tells_0 17 rfl rfl)
theorem dX8_tells_20 : decode cX8_tells 20 = .ok (.imul, 1) := dk_104 (dk_at dksX8_tells_0 20 rfl rfl)
theorem dX8_tells_21 : decode cX8_tells 21 = .ok (.iload_n 1, 1) := dk_27 (dk_at dksX8_tells_0 21 rfl rfl)
theorem dX8_tells_22 : decode cX8_tells 22 = .ok (.iadd, 1) := dk_96 (dk_at dksX8_tells_0 22 rfl rfl)
theorem dX8_tells_23 : decode cX8_tells 23 = .ok (.iaload, 1) := dk_46 (dk_at dksX8_tells_0 23 rfl rfl)
theorem dX8_tells_24 : decode cX8_tells 24 = .ok (.istore 4, 2) := dk_54 4 (dk_at dksX8_tells_1 0 rfl rfl)
theorem dX8_tells_26 : decode cX8_tells 26 = .ok (.aload_n 0, 1) := dk_42 (dk_at dksX8_tells_1 2 rfl rfl)
theorem dX8_tells_27 : decode cX8_tells 27 = .ok (.getfield 122, 3) := dk_180 0 122 (dk_at dksX8_tells_1 3 rfl rfl)
theorem dX8_tells_30 : decode cX8_tells 30 = .ok (.bipush 6, 2) := dk_16 6 (dk_at dksX8_tells_1 6 rfl rfl)
theorem dX8_tells_32 : decode cX8_tells 32 = .ok (.aload_n 0, 1) := dk_42 (dk_at dksX8_tells_1 8 rfl rfl)
theorem dX8_tells_33 : decode cX8_tells 33 = .ok (.getfield 278, 3) := dk_180 1 22 (dk_at dksX8_tells_1 9 rfl rfl)
theorem dX8_tells_36 : decode cX8_tells 36 = .ok (.imul, 1) := dk_104 (dk_at dksX8_tells_1 12 rfl rfl)
theorem dX8_tells_37 : decode cX8_tells 37 = .ok (.iload_n 1, 1) := dk_27 (dk_at dksX8_tells_1 13 rfl rfl)
theorem dX8_tells_38 : decode cX8_tells 38 = .ok (.iadd, 1) := dk_96 (dk_at dksX8_tells_1 14 rfl rfl)
theorem dX8_tells_39 : decode cX8_tells 39 = .ok (.iaload, 1) := dk_46 (dk_at dksX8_tells_1 15 rfl rfl)
theorem dX8_tells_40 : decode cX8_tells 40 = .ok (.istore 5, 2) := dk_54 5 (dk_at dksX8_tells_1 16 rfl rfl)
theorem dX8_tells_42 : decode cX8_tells 42 = .ok (.aload_n 0, 1) := dk_42 (dk_at dksX8_tells_1 18 rfl rfl)
theorem dX8_tells_43 : decode cX8_tells 43 = .ok (.getfield 152, 3) := dk_180 0 152 (dk_at dksX8_tells_1 19 rfl rfl)
theorem dX8_tells_46 : decode cX8_tells 46 = .ok (.iconst 0, 1) := dk_3 (dk_at dksX8_tells_1 22 rfl rfl)
theorem dX8_tells_47 : decode cX8_tells 47 = .ok (.aload_n 0, 1) := dk_42 (dk_at dksX8_tells_1 23 rfl rfl)
theorem dX8_tells_48 : decode cX8_tells 48 = .ok (.getfield 179, 3) := dk_180 0 179 (dk_at dksX8_tells_2 0 rfl rfl)
theorem dX8_tells_51 : decode cX8_tells 51 = .ok (.iload_n 1, 1) := dk_27 (dk_at dksX8_tells_2 3 rfl rfl)
theorem dX8_tells_52 : decode cX8_tells 52 = .ok (.iaload, 1) := dk_46 (dk_at dksX8_tells_2 4 rfl rfl)
theorem dX8_tells_53 : decode cX8_tells 53 = .ok (.iastore, 1) := dk_79 (dk_at dksX8_tells_2 5 rfl rfl)
theorem dX8_tells_54 : decode cX8_tells 54 = .ok (.aload_n 0, 1) := dk_42 (dk_at dksX8_tells_2 6 rfl rfl)
theorem dX8_tells_55 : decode cX8_tells 55 = .ok (.getfield 152, 3) := dk_180 0 152 (dk_at dksX8_tells_2 7 rfl rfl)
theorem dX8_tells_58 : decode cX8_tells 58 = .ok (.iconst 1, 1) := dk_4 (dk_at dksX8_tells_2 10 rfl rfl)
theorem dX8_tells_59 : decode cX8_tells 59 = .ok (.aload_n 0, 1) := dk_42 (dk_at dksX8_tells_2 11 rfl rfl)
theorem dX8_tells_60 : decode cX8_tells 60 = .ok (.getfield 161, 3) := dk_180 0 161 (dk_at dksX8_tells_2 12 rfl rfl)
theorem dX8_tells_63 : decode cX8_tells 63 = .ok (.bipush 6, 2) := dk_16 6 (dk_at dksX8_tells_2 15 rfl rfl)
theorem dX8_tells_65 : decode cX8_tells 65 = .ok (.bipush 6, 2) := dk_16 6 (dk_at dksX8_tells_2 17 rfl rfl)
theorem dX8_tells_67 : decode cX8_tells 67 = .ok (.iload_n 3, 1) := dk_29 (dk_at dksX8_tells_2 19 rfl rfl)
theorem dX8_tells_68 : decode cX8_tells 68 = .ok (.imul, 1) := dk_104 (dk_at dksX8_tells_2 20 rfl rfl)
theorem dX8_tells_69 : decode cX8_tells 69 = .ok (.iadd, 1) := dk_96 (dk_at dksX8_tells_2 21 rfl rfl)
theorem dX8_tells_70 : decode cX8_tells 70 = .ok (.aload_n 0, 1) := dk_42 (dk_at dksX8_tells_2 22 rfl rfl)
theorem dX8_tells_71 : decode cX8_tells 71 = .ok (.getfield 179, 3) := dk_180 0 179 (dk_at dksX8_tells_3 0 rfl rfl)
theorem dX8_tells_74 : decode cX8_tells 74 = .ok (.iload_n 1, 1) := dk_27 (dk_at dksX8_tells_3 3 rfl rfl)
theorem dX8_tells_75 : decode cX8_tells 75 = .ok (.iaload, 1) := dk_46 (dk_at dksX8_tells_3 4 rfl rfl)
theorem dX8_tells_76 : decode cX8_tells 76 = .ok (.iadd, 1) := dk_96 (dk_at dksX8_tells_3 5 rfl rfl)
theorem dX8_tells_77 : decode cX8_tells 77 = .ok (.iaload, 1) := dk_46 (dk_at dksX8_tells_3 6 rfl rfl)
theorem dX8_tells_78 : decode cX8_tells 78 = .ok (.iastore, 1) := dk_79 (dk_at dksX8_tells_3 7 rfl rfl)
theorem dX8_tells_79 : decode cX8_tells 79 = .ok (.aload_n 0, 1) := dk_42 (dk_at dksX8_tells_3 8 rfl rfl)
theorem dX8_tells_80 : decode cX8_tells 80 = .ok (.getfield 152, 3) := dk_180 0 152 (dk_at dksX8_tells_3 9 rfl rfl)
theorem dX8_tells_83 : decode cX8_tells 83 = .ok (.iconst 2, 1) := dk_5 (dk_at dksX8_tells_3 12 rfl rfl)
theorem dX8_tells_84 : decode cX8_tells 84 = .ok (.aload_n 0, 1) := dk_42 (dk_at dksX8_tells_3 13 rfl rfl)
theorem dX8_tells_85 : decode cX8_tells 85 = .ok (.iload_n 3, 1) := dk_29 (dk_at dksX8_tells_3 14 rfl rfl)
theorem dX8_tells_86 : decode cX8_tells 86 = .ok (.invokevirtual 387, 3) := dk_182 1 131 (dk_at dksX8_tells_3 15 rfl rfl)
theorem dX8_tells_89 : decode cX8_tells 89 = .ok (.iastore, 1) := dk_79 (dk_at dksX8_tells_3 18 rfl rfl)
theorem dX8_tells_90 : decode cX8_tells 90 = .ok (.aload_n 0, 1) := dk_42 (dk_at dksX8_tells_3 19 rfl rfl)
theorem dX8_tells_91 : decode cX8_tells 91 = .ok (.getfield 152, 3) := dk_180 0 152 (dk_at dksX8_tells_3 20 rfl rfl)
theorem dX8_tells_94 : decode cX8_tells 94 = .ok (.iconst 3, 1) := dk_6 (dk_at dksX8_tells_3 23 rfl rfl)
theorem dX8_tells_95 : decode cX8_tells 95 = .ok (.iload_n 2, 1) := dk_28 (dk_at dksX8_tells_4 0 rfl rfl)
theorem dX8_tells_96 : decode cX8_tells 96 = .ok (.iastore, 1) := dk_79 (dk_at dksX8_tells_4 1 rfl rfl)
theorem dX8_tells_97 : decode cX8_tells 97 = .ok (.aload_n 0, 1) := dk_42 (dk_at dksX8_tells_4 2 rfl rfl)
theorem dX8_tells_98 : decode cX8_tells 98 = .ok (.getfield 152, 3) := dk_180 0 152 (dk_at dksX8_tells_4 3 rfl rfl)
theorem dX8_tells_101 : decode cX8_tells 101 = .ok (.iconst 4, 1) := dk_7 (dk_at dksX8_tells_4 6 rfl rfl)
theorem dX8_tells_102 : decode cX8_tells 102 = .ok (.aload_n 0, 1) := dk_42 (dk_at dksX8_tells_4 7 rfl rfl)
theorem dX8_tells_103 : decode cX8_tells 103 = .ok (.getfield 161, 3) := dk_180 0 161 (dk_at dksX8_tells_4 8 rfl rfl)
theorem dX8_tells_106 : decode cX8_tells 106 = .ok (.iload_n 3, 1) := dk_29 (dk_at dksX8_tells_4 11 rfl rfl)
theorem dX8_tells_107 : decode cX8_tells 107 = .ok (.iaload, 1) := dk_46 (dk_at dksX8_tells_4 12 rfl rfl)
theorem dX8_tells_108 : decode cX8_tells 108 = .ok (.iastore, 1) := dk_79 (dk_at dksX8_tells_4 13 rfl rfl)
theorem dX8_tells_109 : decode cX8_tells 109 = .ok (.aload_n 0, 1) := dk_42 (dk_at dksX8_tells_4 14 rfl rfl)
theorem dX8_tells_110 : decode cX8_tells 110 = .ok (.getfield 152, 3) := dk_180 0 152 (dk_at dksX8_tells_4 15 rfl rfl)
theorem dX8_tells_113 : decode cX8_tells 113 = .ok (.iconst 5, 1) := dk_8 (dk_at dksX8_tells_4 18 rfl rfl)
theorem dX8_tells_114 : decode cX8_tells 114 = .ok (.aload_n 0, 1) := dk_42 (dk_at dksX8_tells_4 19 rfl rfl)
theorem dX8_tells_115 : decode cX8_tells 115 = .ok (.getfield 182, 3) := dk_180 0 182 (dk_at dksX8_tells_4 20 rfl rfl)
theorem dX8_tells_118 : decode cX8_tells 118 = .ok (.iload_n 1, 1) := dk_27 (dk_at dksX8_tells_4 23 rfl rfl)
theorem dX8_tells_119 : decode cX8_tells 119 = .ok (.iaload, 1) := dk_46 (dk_at dksX8_tells_5 0 rfl rfl)
theorem dX8_tells_120 : decode cX8_tells 120 = .ok (.iastore, 1) := dk_79 (dk_at dksX8_tells_5 1 rfl rfl)
theorem dX8_tells_121 : decode cX8_tells 121 = .ok (.aload_n 0, 1) := dk_42 (dk_at dksX8_tells_5 2 rfl rfl)
theorem dX8_tells_122 : decode cX8_tells 122 = .ok (.iconst 0, 1) := dk_3 (dk_at dksX8_tells_5 3 rfl rfl)
theorem dX8_tells_123 : decode cX8_tells 123 = .ok (.putfield 373, 3) := dk_181 1 117 (dk_at dksX8_tells_5 4 rfl rfl)
theorem dX8_tells_126 : decode cX8_tells 126 = .ok (.iload 4, 2) := dk_21 4 (dk_at dksX8_tells_5 7 rfl rfl)
theorem dX8_tells_128 : decode cX8_tells 128 = .ok (.istore 6, 2) := dk_54 6 (dk_at dksX8_tells_5 9 rfl rfl)
theorem dX8_tells_130 : decode cX8_tells 130 = .ok (.iload 6, 2) := dk_21 6 (dk_at dksX8_tells_5 11 rfl rfl)
theorem dX8_tells_132 : decode cX8_tells 132 = .ok (.iload 5, 2) := dk_21 5 (dk_at dksX8_tells_5 13 rfl rfl)
theorem dX8_tells_134 : decode cX8_tells 134 = .ok (.if_icmp .ge 149, 3) := dk_162 0 149 (dk_at dksX8_tells_5 15 rfl rfl)
theorem dX8_tells_137 : decode cX8_tells 137 = .ok (.aload_n 0, 1) := dk_42 (dk_at dksX8_tells_5 18 rfl rfl)
theorem dX8_tells_138 : decode cX8_tells 138 = .ok (.getfield 125, 3) := dk_180 0 125 (dk_at dksX8_tells_5 19 rfl rfl)
theorem dX8_tells_141 : decode cX8_tells 141 = .ok (.iload 6, 2) := dk_21 6 (dk_at dksX8_tells_5 22 rfl rfl)
theorem dX8_tells_143 : decode cX8_tells 143 = .ok (.baload, 1) := dk_51 (dk_at dksX8_tells_6 0 rfl rfl)
theorem dX8_tells_144 : decode cX8_tells 144 = .ok (.ifCond .eq 67, 3) := dk_153 0 67 (dk_at dksX8_tells_6 1 rfl rfl)
theorem dX8_tells_147 : decode cX8_tells 147 = .ok (.aload_n 0, 1) := dk_42 (dk_at dksX8_tells_6 4 rfl rfl)
theorem dX8_tells_148 : decode cX8_tells 148 = .ok (.aload_n 0, 1) := dk_42 (dk_at dksX8_tells_6 5 rfl rfl)
theorem dX8_tells_149 : decode cX8_tells 149 = .ok (.getfield 128, 3) := dk_180 0 128 (dk_at dksX8_tells_6 6 rfl rfl)
theorem dX8_tells_152 : decode cX8_tells 152 = .ok (.iload 6, 2) := dk_21 6 (dk_at dksX8_tells_6 9 rfl rfl)
theorem dX8_tells_154 : decode cX8_tells 154 = .ok (.iaload, 1) := dk_46 (dk_at dksX8_tells_6 11 rfl rfl)
theorem dX8_tells_155 : decode cX8_tells 155 = .ok (.aload_n 0, 1) := dk_42 (dk_at dksX8_tells_6 12 rfl rfl)
theorem dX8_tells_156 : decode cX8_tells 156 = .ok (.getfield 131, 3) := dk_180 0 131 (dk_at dksX8_tells_6 13 rfl rfl)
theorem dX8_tells_159 : decode cX8_tells 159 = .ok (.iload 6, 2) := dk_21 6 (dk_at dksX8_tells_6 16 rfl rfl)
theorem dX8_tells_161 : decode cX8_tells 161 = .ok (.iaload, 1) := dk_46 (dk_at dksX8_tells_6 18 rfl rfl)
theorem dX8_tells_162 : decode cX8_tells 162 = .ok (.invokevirtual 400, 3) := dk_182 1 144 (dk_at dksX8_tells_6 19 rfl rfl)
theorem dX8_tells_165 : decode cX8_tells 165 = .ok (.istore 7, 2) := dk_54 7 (dk_at dksX8_tells_6 22 rfl rfl)
theorem dX8_tells_167 : decode cX8_tells 167 = .ok (.aload_n 0, 1) := dk_42 (dk_at dksX8_tells_7 0 rfl rfl)
theorem dX8_tells_168 : decode cX8_tells 168 = .ok (.aload_n 0, 1) := dk_42 (dk_at dksX8_tells_7 1 rfl rfl)
theorem dX8_tells_169 : decode cX8_tells 169 = .ok (.getfield 131, 3) := dk_180 0 131 (dk_at dksX8_tells_7 2 rfl rfl)
theorem dX8_tells_172 : decode cX8_tells 172 = .ok (.iload 6, 2) := dk_21 6 (dk_at dksX8_tells_7 5 rfl rfl)
theorem dX8_tells_174 : decode cX8_tells 174 = .ok (.iaload, 1) := dk_46 (dk_at dksX8_tells_7 7 rfl rfl)
theorem dX8_tells_175 : decode cX8_tells 175 = .ok (.aload_n 0, 1) := dk_42 (dk_at dksX8_tells_7 8 rfl rfl)
theorem dX8_tells_176 : decode cX8_tells 176 = .ok (.getfield 134, 3) := dk_180 0 134 (dk_at dksX8_tells_7 9 rfl rfl)
theorem dX8_tells_179 : decode cX8_tells 179 = .ok (.iload 6, 2) := dk_21 6 (dk_at dksX8_tells_7 12 rfl rfl)
theorem dX8_tells_181 : decode cX8_tells 181 = .ok (.iaload, 1) := dk_46 (dk_at dksX8_tells_7 14 rfl rfl)
theorem dX8_tells_182 : decode cX8_tells 182 = .ok (.invokevirtual 400, 3) := dk_182 1 144 (dk_at dksX8_tells_7 15 rfl rfl)
theorem dX8_tells_185 : decode cX8_tells 185 = .ok (.istore 8, 2) := dk_54 8 (dk_at dksX8_tells_7 18 rfl rfl)
theorem dX8_tells_187 : decode cX8_tells 187 = .ok (.aload_n 0, 1) := dk_42 (dk_at dksX8_tells_7 20 rfl rfl)
theorem dX8_tells_188 : decode cX8_tells 188 = .ok (.getfield 373, 3) := dk_180 1 117 (dk_at dksX8_tells_7 21 rfl rfl)
theorem dX8_tells_191 : decode cX8_tells 191 = .ok (.ifCond .eq 10, 3) := dk_153 0 10 (dk_at dksX8_tells_8 0 rfl rfl)
theorem dX8_tells_194 : decode cX8_tells 194 = .ok (.aload_n 0, 1) := dk_42 (dk_at dksX8_tells_8 3 rfl rfl)
theorem dX8_tells_195 : decode cX8_tells 195 = .ok (.getfield 179, 3) := dk_180 0 179 (dk_at dksX8_tells_8 4 rfl rfl)
theorem dX8_tells_198 : decode cX8_tells 198 = .ok (.iload_n 1, 1) := dk_27 (dk_at dksX8_tells_8 7 rfl rfl)
theorem dX8_tells_199 : decode cX8_tells 199 = .ok (.iaload, 1) := dk_46 (dk_at dksX8_tells_8 8 rfl rfl)
theorem dX8_tells_200 : decode cX8_tells 200 = .ok (.ireturn, 1) := dk_172 (dk_at dksX8_tells_8 9 rfl rfl)
theorem dX8_tells_201 : decode cX8_tells 201 = .ok (.iload 7, 2) := dk_21 7 (dk_at dksX8_tells_8 10 rfl rfl)
theorem dX8_tells_203 : decode cX8_tells 203 = .ok (.iload 8, 2) := dk_21 8 (dk_at dksX8_tells_8 12 rfl rfl)
theorem dX8_tells_205 : decode cX8_tells 205 = .ok (.if_icmp .lt 6, 3) := dk_161 0 6 (dk_at dksX8_tells_8 14 rfl rfl)
theorem dX8_tells_208 : decode cX8_tells 208 = .ok (.goto 69, 3) := dk_167 0 69 (dk_at dksX8_tells_8 17 rfl rfl)
theorem dX8_tells_211 : decode cX8_tells 211 = .ok (.aload_n 0, 1) := dk_42 (dk_at dksX8_tells_8 20 rfl rfl)
theorem dX8_tells_212 : decode cX8_tells 212 = .ok (.aload_n 0, 1) := dk_42 (dk_at dksX8_tells_8 21 rfl rfl)
theorem dX8_tells_213 : decode cX8_tells 213 = .ok (.getfield 134, 3) := dk_180 0 134 (dk_at dksX8_tells_9 0 rfl rfl)
theorem dX8_tells_216 : decode cX8_tells 216 = .ok (.iload 6, 2) := dk_21 6 (dk_at dksX8_tells_9 3 rfl rfl)
theorem dX8_tells_218 : decode cX8_tells 218 = .ok (.iaload, 1) := dk_46 (dk_at dksX8_tells_9 5 rfl rfl)
theorem dX8_tells_219 : decode cX8_tells 219 = .ok (.aload_n 0, 1) := dk_42 (dk_at dksX8_tells_9 6 rfl rfl)
theorem dX8_tells_220 : decode cX8_tells 220 = .ok (.getfield 137, 3) := dk_180 0 137 (dk_at dksX8_tells_9 7 rfl rfl)
theorem dX8_tells_223 : decode cX8_tells 223 = .ok (.iload 6, 2) := dk_21 6 (dk_at dksX8_tells_9 10 rfl rfl)
theorem dX8_tells_225 : decode cX8_tells 225 = .ok (.iaload, 1) := dk_46 (dk_at dksX8_tells_9 12 rfl rfl)
theorem dX8_tells_226 : decode cX8_tells 226 = .ok (.invokevirtual 400, 3) := dk_182 1 144 (dk_at dksX8_tells_9 13 rfl rfl)
theorem dX8_tells_229 : decode cX8_tells 229 = .ok (.istore 7, 2) := dk_54 7 (dk_at dksX8_tells_9 16 rfl rfl)
theorem dX8_tells_231 : decode cX8_tells 231 = .ok (.aload_n 0, 1) := dk_42 (dk_at dksX8_tells_9 18 rfl rfl)
theorem dX8_tells_232 : decode cX8_tells 232 = .ok (.getfield 373, 3) := dk_180 1 117 (dk_at dksX8_tells_9 19 rfl rfl)
theorem dX8_tells_235 : decode cX8_tells 235 = .ok (.ifCond .eq 10, 3) := dk_153 0 10 (dk_at dksX8_tells_10 0 rfl rfl)
theorem dX8_tells_238 : decode cX8_tells 238 = .ok (.aload_n 0, 1) := dk_42 (dk_at dksX8_tells_10 3 rfl rfl)
theorem dX8_tells_239 : decode cX8_tells 239 = .ok (.getfield 179, 3) := dk_180 0 179 (dk_at dksX8_tells_10 4 rfl rfl)
theorem dX8_tells_242 : decode cX8_tells 242 = .ok (.iload_n 1, 1) := dk_27 (dk_at dksX8_tells_10 7 rfl rfl)
theorem dX8_tells_243 : decode cX8_tells 243 = .ok (.iaload, 1) := dk_46 (dk_at dksX8_tells_10 8 rfl rfl)
theorem dX8_tells_244 : decode cX8_tells 244 = .ok (.ireturn, 1) := dk_172 (dk_at dksX8_tells_10 9 rfl rfl)
theorem dX8_tells_245 : decode cX8_tells 245 = .ok (.iload 7, 2) := dk_21 7 (dk_at dksX8_tells_10 10 rfl rfl)
theorem dX8_tells_247 : decode cX8_tells 247 = .ok (.ifCond .ge 7, 3) := dk_156 0 7 (dk_at dksX8_tells_10 12 rfl rfl)
theorem dX8_tells_250 : decode cX8_tells 250 = .ok (.iconst 0, 1) := dk_3 (dk_at dksX8_tells_10 15 rfl rfl)
theorem dX8_tells_251 : decode cX8_tells 251 = .ok (.goto 25, 3) := dk_167 0 25 (dk_at dksX8_tells_10 16 rfl rfl)
theorem dX8_tells_254 : decode cX8_tells 254 = .ok (.iload 7, 2) := dk_21 7 (dk_at dksX8_tells_10 19 rfl rfl)
theorem dX8_tells_256 : decode cX8_tells 256 = .ok (.aload_n 0, 1) := dk_42 (dk_at dksX8_tells_10 21 rfl rfl)
theorem dX8_tells_257 : decode cX8_tells 257 = .ok (.iload_n 3, 1) := dk_29 (dk_at dksX8_tells_10 22 rfl rfl)
theorem dX8_tells_258 : decode cX8_tells 258 = .ok (.invokevirtual 387, 3) := dk_182 1 131 (dk_at dksX8_tells_11 0 rfl rfl)
theorem dX8_tells_261 : decode cX8_tells 261 = .ok (.if_icmp .lt 13, 3) := dk_161 0 13 (dk_at dksX8_tells_11 3 rfl rfl)
theorem dX8_tells_264 : decode cX8_tells 264 = .ok (.aload_n 0, 1) := dk_42 (dk_at dksX8_tells_11 6 rfl rfl)
theorem dX8_tells_265 : decode cX8_tells 265 = .ok (.iload_n 3, 1) := dk_29 (dk_at dksX8_tells_11 7 rfl rfl)
theorem dX8_tells_266 : decode cX8_tells 266 = .ok (.invokevirtual 387, 3) := dk_182 1 131 (dk_at dksX8_tells_11 8 rfl rfl)
theorem dX8_tells_269 : decode cX8_tells 269 = .ok (.iconst 1, 1) := dk_4 (dk_at dksX8_tells_11 11 rfl rfl)
theorem dX8_tells_270 : decode cX8_tells 270 = .ok (.isub, 1) := dk_100 (dk_at dksX8_tells_11 12 rfl rfl)
theorem dX8_tells_271 : decode cX8_tells 271 = .ok (.goto 5, 3) := dk_167 0 5 (dk_at dksX8_tells_11 13 rfl rfl)
theorem dX8_tells_274 : decode cX8_tells 274 = .ok (.iload 7, 2) := dk_21 7 (dk_at dksX8_tells_11 16 rfl rfl)
theorem dX8_tells_276 : decode cX8_tells 276 = .ok (.ireturn, 1) := dk_172 (dk_at dksX8_tells_11 18 rfl rfl)
theorem dX8_tells_277 : decode cX8_tells 277 = .ok (.iinc 6 1, 3) := dk_132 6 1 (dk_at dksX8_tells_11 19 rfl rfl)
theorem dX8_tells_280 : decode cX8_tells 280 = .ok (.goto (-150), 3) := dk_167 255 106 (dk_at dksX8_tells_12 0 rfl rfl)
theorem dX8_tells_283 : decode cX8_tells 283 = .ok (.aload_n 0, 1) := dk_42 (dk_at dksX8_tells_12 3 rfl rfl)
theorem dX8_tells_284 : decode cX8_tells 284 = .ok (.getfield 179, 3) := dk_180 0 179 (dk_at dksX8_tells_12 4 rfl rfl)
theorem dX8_tells_287 : decode cX8_tells 287 = .ok (.iload_n 1, 1) := dk_27 (dk_at dksX8_tells_12 7 rfl rfl)
theorem dX8_tells_288 : decode cX8_tells 288 = .ok (.iaload, 1) := dk_46 (dk_at dksX8_tells_12 8 rfl rfl)
theorem dX8_tells_289 : decode cX8_tells 289 = .ok (.ireturn, 1) := dk_172 (dk_at dksX8_tells_12 9 rfl rfl)
abbrev cX8_termOf : ByteArray := prog_22_method_40_code
def yX8_termOf : MethodName := ⟨RX8, "termOf", "(II)I"⟩
def dkwX8_termOf_7 : List UInt8 := [132, 4, 1, 167, 255, 99, 42, 180, 0, 155, 3, 46, 172]
abbrev dktX8_termOf_7 : List UInt8 := dkwX8_termOf_7 ++ []
def dkwX8_termOf_6 : List UInt8 := [167, 0, 22, 21, 5, 7, 160, 0, 11, 21, 6, 21, 7, 104, 167, 0, 8, 21, 6, 21, 7, 108, 79]
abbrev dktX8_termOf_6 : List UInt8 := dkwX8_termOf_6 ++ dktX8_termOf_7
def dkwX8_termOf_5 : List UInt8 := [160, 0, 11, 21, 6, 21, 7, 96, 167, 0, 36, 21, 5, 6, 160, 0, 11, 21, 6, 21, 7, 100]
abbrev dktX8_termOf_5 : List UInt8 := dkwX8_termOf_5 ++ dktX8_termOf_6
def dkwX8_termOf_4 : List UInt8 := [21, 7, 154, 0, 10, 42, 4, 181, 1, 117, 3, 172, 42, 180, 0, 155, 29, 4, 100, 21, 5, 5]
abbrev dktX8_termOf_4 : List UInt8 := dkwX8_termOf_4 ++ dktX8_termOf_5
def dkwX8_termOf_3 : List UInt8 := [180, 0, 155, 29, 4, 100, 46, 54, 6, 42, 180, 0, 155, 29, 46, 54, 7, 21, 5, 8, 160, 0, 15]
abbrev dktX8_termOf_3 : List UInt8 := dkwX8_termOf_3 ++ dktX8_termOf_4
def dkwX8_termOf_2 : List UInt8 := [180, 0, 152, 42, 180, 0, 146, 21, 4, 46, 46, 79, 132, 3, 1, 167, 0, 97, 132, 3, 255, 42]
abbrev dktX8_termOf_2 : List UInt8 := dkwX8_termOf_2 ++ dktX8_termOf_3
def dkwX8_termOf_1 : List UInt8 := [162, 0, 42, 42, 180, 0, 155, 29, 21, 5, 154, 0, 13, 42, 180, 0, 146, 21, 4, 46, 167, 0, 15, 42]
abbrev dktX8_termOf_1 : List UInt8 := dkwX8_termOf_1 ++ dktX8_termOf_2
def dkwX8_termOf_0 : List UInt8 := [3, 62, 27, 54, 4, 21, 4, 28, 162, 0, 157, 42, 180, 0, 143, 21, 4, 46, 54, 5, 21, 5, 5]
abbrev dktX8_termOf_0 : List UInt8 := dkwX8_termOf_0 ++ dktX8_termOf_1
theorem dksX8_termOf_0 : cX8_termOf.data.toList.drop 0 = dktX8_termOf_0 := by decide +kernel
theorem dksX8_termOf_1 : cX8_termOf.data.toList.drop 23 = dktX8_termOf_1 := dk_seg dksX8_termOf_0 23 rfl rfl
theorem dksX8_termOf_2 : cX8_termOf.data.toList.drop 47 = dktX8_termOf_2 := dk_seg dksX8_termOf_1 24 rfl rfl
theorem dksX8_termOf_3 : cX8_termOf.data.toList.drop 69 = dktX8_termOf_3 := dk_seg dksX8_termOf_2 22 rfl rfl
theorem dksX8_termOf_4 : cX8_termOf.data.toList.drop 92 = dktX8_termOf_4 := dk_seg dksX8_termOf_3 23 rfl rfl
theorem dksX8_termOf_5 : cX8_termOf.data.toList.drop 114 = dktX8_termOf_5 := dk_seg dksX8_termOf_4 22 rfl rfl
theorem dksX8_termOf_6 : cX8_termOf.data.toList.drop 136 = dktX8_termOf_6 := dk_seg dksX8_termOf_5 22 rfl rfl
theorem dksX8_termOf_7 : cX8_termOf.data.toList.drop 159 = dktX8_termOf_7 := dk_seg dksX8_termOf_6 23 rfl rfl
theorem dX8_termOf_0 : decode cX8_termOf 0 = .ok (.iconst 0, 1) := dk_3 (dk_at dksX8_termOf_0 0 rfl rfl)
theorem dX8_termOf_1 : decode cX8_termOf 1 = .ok (.istore_n 3, 1) := dk_62 (dk_at dksX8_termOf_0 1 rfl rfl)
theorem dX8_termOf_2 : decode cX8_termOf 2 = .ok (.iload_n 1, 1) := dk_27 (dk_at dksX8_termOf_0 2 rfl rfl)
theorem dX8_termOf_3 : decode cX8_termOf 3 = .ok (.istore 4, 2) := dk_54 4 (dk_at dksX8_termOf_0 3 rfl rfl)
theorem dX8_termOf_5 : decode cX8_termOf 5 = .ok (.iload 4, 2) := dk_21 4 (dk_at dksX8_termOf_0 5 rfl rfl)
theorem dX8_termOf_7 : decode cX8_termOf 7 = .ok (.iload_n 2, 1) := dk_28 (dk_at dksX8_termOf_0 7 rfl rfl)
theorem dX8_termOf_8 : decode cX8_termOf 8 = .ok (.if_icmp .ge 157, 3) := dk_162 0 157 (dk_at dksX8_termOf_0 8 rfl rfl)
theorem dX8_termOf_11 : decode cX8_termOf 11 = .ok (.aload_n 0, 1) := dk_42 (dk_at dksX8_termOf_0 11 rfl rfl)
theorem dX8_termOf_12 : decode cX8_termOf 12 = .ok (.getfield 143, 3) := dk_180 0 143 (dk_at dksX8_termOf_0 12 rfl rfl)
theorem dX8_termOf_15 : decode cX8_termOf 15 = .ok (.iload 4, 2) := dk_21 4 (dk_at dksX8_termOf_0 15 rfl rfl)
theorem dX8_termOf_17 : decode cX8_termOf 17 = .ok (.iaload, 1) := dk_46 (dk_at dksX8_termOf_0 17 rfl rfl)
theorem dX8_termOf_18 : decode cX8_termOf 18 = .ok (.istore 5, 2) := dk_54 5 (dk_at dksX8_termOf_0 18 rfl rfl)
theorem dX8_termOf_20 : decode cX8_termOf 20 = .ok (.iload 5, 2) := dk_21 5 (dk_at dksX8_termOf_0 20 rfl rfl)
theorem dX8_termOf_22 : decode cX8_termOf 22 = .ok (.iconst 2, 1) := dk_5 (dk_at dksX8_termOf_0 22 rfl rfl)
theorem dX8_termOf_23 : decode cX8_termOf 23 = .ok (.if_icmp .ge 42, 3) := dk_162 0 42 (dk_at dksX8_termOf_1 0 rfl rfl)
theorem dX8_termOf_26 : decode cX8_termOf 26 = .ok (.aload_n 0, 1) := dk_42 (dk_at dksX8_termOf_1 3 rfl rfl)
theorem dX8_termOf_27 : decode cX8_termOf 27 = .ok (.getfield 155, 3) := dk_180 0 155 (dk_at dksX8_termOf_1 4 rfl rfl)
theorem dX8_termOf_30 : decode cX8_termOf 30 = .ok (.iload_n 3, 1) := dk_29 (dk_at dksX8_termOf_1 7 rfl rfl)
theorem dX8_termOf_31 : decode cX8_termOf 31 = .ok (.iload 5, 2) := dk_21 5 (dk_at dksX8_termOf_1 8 rfl rfl)
theorem dX8_termOf_33 : decode cX8_termOf 33 = .ok (.ifCond .ne 13, 3) := dk_154 0 13 (dk_at dksX8_termOf_1 10 rfl rfl)
theorem dX8_termOf_36 : decode cX8_termOf 36 = .ok (.aload_n 0, 1) := dk_42 (dk_at dksX8_termOf_1 13 rfl rfl)
theorem dX8_termOf_37 : decode cX8_termOf 37 = .ok (.getfield 146, 3) := dk_180 0 146 (dk_at dksX8_termOf_1 14 rfl rfl)
theorem dX8_termOf_40 : decode cX8_termOf 40 = .ok (.iload 4, 2) := dk_21 4 (dk_at dksX8_termOf_1 17 rfl rfl)
theorem dX8_termOf_42 : decode cX8_termOf 42 = .ok (.iaload, 1) := dk_46 (dk_at dksX8_termOf_1 19 rfl rfl)
theorem dX8_termOf_43 : decode cX8_termOf 43 = .ok (.goto 15, 3) := dk_167 0 15 (dk_at dksX8_termOf_1 20 rfl rfl)
theorem dX8_termOf_46 : decode cX8_termOf 46 = .ok (.aload_n 0, 1) := dk_42 (dk_at dksX8_termOf_1 23 rfl rfl)
theorem dX8_termOf_47 : decode cX8_termOf 47 = .ok (.getfield 152, 3) := dk_180 0 152 (dk_at dksX8_termOf_2 0 rfl rfl)
theorem dX8_termOf_50 : decode cX8_termOf 50 = .ok (.aload_n 0, 1) := dk_42 (dk_at dksX8_termOf_2 3 rfl rfl)
theorem dX8_termOf_51 : decode cX8_termOf 51 = .ok (.getfield 146, 3) := dk_180 0 146 (dk_at dksX8_termOf_2 4 rfl rfl)
theorem dX8_termOf_54 : decode cX8_termOf 54 = .ok (.iload 4, 2) := dk_21 4 (dk_at dksX8_termOf_2 7 rfl rfl)
theorem dX8_termOf_56 : decode cX8_termOf 56 = .ok (.iaload, 1) := dk_46 (dk_at dksX8_termOf_2 9 rfl rfl)
theorem dX8_termOf_57 : decode cX8_termOf 57 = .ok (.iaload, 1) := dk_46 (dk_at dksX8_termOf_2 10 rfl rfl)
theorem dX8_termOf_58 : decode cX8_termOf 58 = .ok (.iastore, 1) := dk_79 (dk_at dksX8_termOf_2 11 rfl rfl)
theorem dX8_termOf_59 : decode cX8_termOf 59 = .ok (.iinc 3 1, 3) := dk_132 3 1 (dk_at dksX8_termOf_2 12 rfl rfl)
theorem dX8_termOf_62 : decode cX8_termOf 62 = .ok (.goto 97, 3) := dk_167 0 97 (dk_at dksX8_termOf_2 15 rfl rfl)
theorem dX8_termOf_65 : decode cX8_termOf 65 = .ok (.iinc 3 (-1), 3) := dk_132 3 255 (dk_at dksX8_termOf_2 18 rfl rfl)
theorem dX8_termOf_68 : decode cX8_termOf 68 = .ok (.aload_n 0, 1) := dk_42 (dk_at dksX8_termOf_2 21 rfl rfl)
theorem dX8_termOf_69 : decode cX8_termOf 69 = .ok (.getfield 155, 3) := dk_180 0 155 (dk_at dksX8_termOf_3 0 rfl rfl)
theorem dX8_termOf_72 : decode cX8_termOf 72 = .ok (.iload_n 3, 1) := dk_29 (dk_at dksX8_termOf_3 3 rfl rfl)
theorem dX8_termOf_73 : decode cX8_termOf 73 = .ok (.iconst 1, 1) := dk_4 (dk_at dksX8_termOf_3 4 rfl rfl)
theorem dX8_termOf_74 : decode cX8_termOf 74 = .ok (.isub, 1) := dk_100 (dk_at dksX8_termOf_3 5 rfl rfl)
theorem dX8_termOf_75 : decode cX8_termOf 75 = .ok (.iaload, 1) := dk_46 (dk_at dksX8_termOf_3 6 rfl rfl)
theorem dX8_termOf_76 : decode cX8_termOf 76 = .ok (.istore 6, 2) := dk_54 6 (dk_at dksX8_termOf_3 7 rfl rfl)
theorem dX8_termOf_78 : decode cX8_termOf 78 = .ok (.aload_n 0, 1) := dk_42 (dk_at dksX8_termOf_3 9 rfl rfl)
theorem dX8_termOf_79 : decode cX8_termOf 79 = .ok (.getfield 155, 3) := dk_180 0 155 (dk_at dksX8_termOf_3 10 rfl rfl)
theorem dX8_termOf_82 : decode cX8_termOf 82 = .ok (.iload_n 3, 1) := dk_29 (dk_at dksX8_termOf_3 13 rfl rfl)
theorem dX8_termOf_83 : decode cX8_termOf 83 = .ok (.iaload, 1) := dk_46 (dk_at dksX8_termOf_3 14 rfl rfl)
theorem dX8_termOf_84 : decode cX8_termOf 84 = .ok (.istore 7, 2) := dk_54 7 (dk_at dksX8_termOf_3 15 rfl rfl)
theorem dX8_termOf_86 : decode cX8_termOf 86 = .ok (.iload 5, 2) := dk_21 5 (dk_at dksX8_termOf_3 17 rfl rfl)
theorem dX8_termOf_88 : decode cX8_termOf 88 = .ok (.iconst 5, 1) := dk_8 (dk_at dksX8_termOf_3 19 rfl rfl)
theorem dX8_termOf_89 : decode cX8_termOf 89 = .ok (.if_icmp .ne 15, 3) := dk_160 0 15 (dk_at dksX8_termOf_3 20 rfl rfl)
theorem dX8_termOf_92 : decode cX8_termOf 92 = .ok (.iload 7, 2) := dk_21 7 (dk_at dksX8_termOf_4 0 rfl rfl)
theorem dX8_termOf_94 : decode cX8_termOf 94 = .ok (.ifCond .ne 10, 3) := dk_154 0 10 (dk_at dksX8_termOf_4 2 rfl rfl)
theorem dX8_termOf_97 : decode cX8_termOf 97 = .ok (.aload_n 0, 1) := dk_42 (dk_at dksX8_termOf_4 5 rfl rfl)
theorem dX8_termOf_98 : decode cX8_termOf 98 = .ok (.iconst 1, 1) := dk_4 (dk_at dksX8_termOf_4 6 rfl rfl)
theorem dX8_termOf_99 : decode cX8_termOf 99 = .ok (.putfield 373, 3) := dk_181 1 117 (dk_at dksX8_termOf_4 7 rfl rfl)
theorem dX8_termOf_102 : decode cX8_termOf 102 = .ok (.iconst 0, 1) := dk_3 (dk_at dksX8_termOf_4 10 rfl rfl)
theorem dX8_termOf_103 : decode cX8_termOf 103 = .ok (.ireturn, 1) := dk_172 (dk_at dksX8_termOf_4 11 rfl rfl)
theorem dX8_termOf_104 : decode cX8_termOf 104 = .ok (.aload_n 0, 1) := dk_42 (dk_at dksX8_termOf_4 12 rfl rfl)
theorem dX8_termOf_105 : decode cX8_termOf 105 = .ok (.getfield 155, 3) := dk_180 0 155 (dk_at dksX8_termOf_4 13 rfl rfl)
theorem dX8_termOf_108 : decode cX8_termOf 108 = .ok (.iload_n 3, 1) := dk_29 (dk_at dksX8_termOf_4 16 rfl rfl)
theorem dX8_termOf_109 : decode cX8_termOf 109 = .ok (.iconst 1, 1) := dk_4 (dk_at dksX8_termOf_4 17 rfl rfl)
theorem dX8_termOf_110 : decode cX8_termOf 110 = .ok (.isub, 1) := dk_100 (dk_at dksX8_termOf_4 18 rfl rfl)
theorem dX8_termOf_111 : decode cX8_termOf 111 = .ok (.iload 5, 2) := dk_21 5 (dk_at dksX8_termOf_4 19 rfl rfl)
theorem dX8_termOf_113 : decode cX8_termOf 113 = .ok (.iconst 2, 1) := dk_5 (dk_at dksX8_termOf_4 21 rfl rfl)
theorem dX8_termOf_114 : decode cX8_termOf 114 = .ok (.if_icmp .ne 11, 3) := dk_160 0 11 (dk_at dksX8_termOf_5 0 rfl rfl)
theorem dX8_termOf_117 : decode cX8_termOf 117 = .ok (.iload 6, 2) := dk_21 6 (dk_at dksX8_termOf_5 3 rfl rfl)
theorem dX8_termOf_119 : decode cX8_termOf 119 = .ok (.iload 7, 2) := dk_21 7 (dk_at dksX8_termOf_5 5 rfl rfl)
theorem dX8_termOf_121 : decode cX8_termOf 121 = .ok (.iadd, 1) := dk_96 (dk_at dksX8_termOf_5 7 rfl rfl)
theorem dX8_termOf_122 : decode cX8_termOf 122 = .ok (.goto 36, 3) := dk_167 0 36 (dk_at dksX8_termOf_5 8 rfl rfl)
theorem dX8_termOf_125 : decode cX8_termOf 125 = .ok (.iload 5, 2) := dk_21 5 (dk_at dksX8_termOf_5 11 rfl rfl)
theorem dX8_termOf_127 : decode cX8_termOf 127 = .ok (.iconst 3, 1) := dk_6 (dk_at dksX8_termOf_5 13 rfl rfl)
theorem dX8_termOf_128 : decode cX8_termOf 128 = .ok (.if_icmp .ne 11, 3) := dk_160 0 11 (dk_at dksX8_termOf_5 14 rfl rfl)
theorem dX8_termOf_131 : decode cX8_termOf 131 = .ok (.iload 6, 2) := dk_21 6 (dk_at dksX8_termOf_5 17 rfl rfl)
theorem dX8_termOf_133 : decode cX8_termOf 133 = .ok (.iload 7, 2) := dk_21 7 (dk_at dksX8_termOf_5 19 rfl rfl)
theorem dX8_termOf_135 : decode cX8_termOf 135 = .ok (.isub, 1) := dk_100 (dk_at dksX8_termOf_5 21 rfl rfl)
theorem dX8_termOf_136 : decode cX8_termOf 136 = .ok (.goto 22, 3) := dk_167 0 22 (dk_at dksX8_termOf_6 0 rfl rfl)
theorem dX8_termOf_139 : decode cX8_termOf 139 = .ok (.iload 5, 2) := dk_21 5 (dk_at dksX8_termOf_6 3 rfl rfl)
theorem dX8_termOf_141 : decode cX8_termOf 141 = .ok (.iconst 4, 1) := dk_7 (dk_at dksX8_termOf_6 5 rfl rfl)
theorem dX8_termOf_142 : decode cX8_termOf 142 = .ok (.if_icmp .ne 11, 3) := dk_160 0 11 (dk_at dksX8_termOf_6 6 rfl rfl)
theorem dX8_termOf_145 : decode cX8_termOf 145 = .ok (.iload 6, 2) := dk_21 6 (dk_at dksX8_termOf_6 9 rfl rfl)
theorem dX8_termOf_147 : decode cX8_termOf 147 = .ok (.iload 7, 2) := dk_21 7 (dk_at dksX8_termOf_6 11 rfl rfl)
theorem dX8_termOf_149 : decode cX8_termOf 149 = .ok (.imul, 1) := dk_104 (dk_at dksX8_termOf_6 13 rfl rfl)
theorem dX8_termOf_150 : decode cX8_termOf 150 = .ok (.goto 8, 3) := dk_167 0 8 (dk_at dksX8_termOf_6 14 rfl rfl)
theorem dX8_termOf_153 : decode cX8_termOf 153 = .ok (.iload 6, 2) := dk_21 6 (dk_at dksX8_termOf_6 17 rfl rfl)
theorem dX8_termOf_155 : decode cX8_termOf 155 = .ok (.iload 7, 2) := dk_21 7 (dk_at dksX8_termOf_6 19 rfl rfl)
theorem dX8_termOf_157 : decode cX8_termOf 157 = .ok (.idiv, 1) := dk_108 (dk_at dksX8_termOf_6 21 rfl rfl)
theorem dX8_termOf_158 : decode cX8_termOf 158 = .ok (.iastore, 1) := dk_79 (dk_at dksX8_termOf_6 22 rfl rfl)
theorem dX8_termOf_159 : decode cX8_termOf 159 = .ok (.iinc 4 1, 3) := dk_132 4 1 (dk_at dksX8_termOf_7 0 rfl rfl)
theorem dX8_termOf_162 : decode cX8_termOf 162 = .ok (.goto (-157), 3) := dk_167 255 99 (dk_at dksX8_termOf_7 3 rfl rfl)
theorem dX8_termOf_165 : decode cX8_termOf 165 = .ok (.aload_n 0, 1) := dk_42 (dk_at dksX8_termOf_7 6 rfl rfl)
theorem dX8_termOf_166 : decode cX8_termOf 166 = .ok (.getfield 155, 3) := dk_180 0 155 (dk_at dksX8_termOf_7 7 rfl rfl)
theorem dX8_termOf_169 : decode cX8_termOf 169 = .ok (.iconst 0, 1) := dk_3 (dk_at dksX8_termOf_7 10 rfl rfl)
theorem dX8_termOf_170 : decode cX8_termOf 170 = .ok (.iaload, 1) := dk_46 (dk_at dksX8_termOf_7 11 rfl rfl)
theorem dX8_termOf_171 : decode cX8_termOf 171 = .ok (.ireturn, 1) := dk_172 (dk_at dksX8_termOf_7 12 rfl rfl)
abbrev cX8_isInUse : ByteArray := prog_22_method_62_code
def yX8_isInUse : MethodName := ⟨RX8, "isInUse", "(II)Z"⟩
def dkwX8_isInUse_2 : List UInt8 := [182, 1, 137, 46, 27, 160, 0, 5, 4, 172, 132, 3, 1, 167, 255, 200, 3, 172]
abbrev dktX8_isInUse_2 : List UInt8 := dkwX8_isInUse_2 ++ []
def dkwX8_isInUse_1 : List UInt8 := [160, 0, 33, 42, 180, 0, 98, 42, 42, 180, 0, 161, 16, 42, 29, 96, 46, 42, 180, 0, 176, 29, 46]
abbrev dktX8_isInUse_1 : List UInt8 := dkwX8_isInUse_1 ++ dktX8_isInUse_2
def dkwX8_isInUse_0 : List UInt8 := [3, 62, 29, 42, 182, 1, 134, 162, 0, 54, 29, 28, 159, 0, 43, 42, 180, 0, 167, 29, 46, 5]
abbrev dktX8_isInUse_0 : List UInt8 := dkwX8_isInUse_0 ++ dktX8_isInUse_1
theorem dksX8_isInUse_0 : cX8_isInUse.data.toList.drop 0 = dktX8_isInUse_0 := by decide +kernel
theorem dksX8_isInUse_1 : cX8_isInUse.data.toList.drop 22 = dktX8_isInUse_1 := dk_seg dksX8_isInUse_0 22 rfl rfl
theorem dksX8_isInUse_2 : cX8_isInUse.data.toList.drop 45 = dktX8_isInUse_2 := dk_seg dksX8_isInUse_1 23 rfl rfl
theorem dX8_isInUse_0 : decode cX8_isInUse 0 = .ok (.iconst 0, 1) := dk_3 (dk_at dksX8_isInUse_0 0 rfl rfl)
theorem dX8_isInUse_1 : decode cX8_isInUse 1 = .ok (.istore_n 3, 1) := dk_62 (dk_at dksX8_isInUse_0 1 rfl rfl)
theorem dX8_isInUse_2 : decode cX8_isInUse 2 = .ok (.iload_n 3, 1) := dk_29 (dk_at dksX8_isInUse_0 2 rfl rfl)
theorem dX8_isInUse_3 : decode cX8_isInUse 3 = .ok (.aload_n 0, 1) := dk_42 (dk_at dksX8_isInUse_0 3 rfl rfl)
theorem dX8_isInUse_4 : decode cX8_isInUse 4 = .ok (.invokevirtual 390, 3) := dk_182 1 134 (dk_at dksX8_isInUse_0 4 rfl rfl)
theorem dX8_isInUse_7 : decode cX8_isInUse 7 = .ok (.if_icmp .ge 54, 3) := dk_162 0 54 (dk_at dksX8_isInUse_0 7 rfl rfl)
theorem dX8_isInUse_10 : decode cX8_isInUse 10 = .ok (.iload_n 3, 1) := dk_29 (dk_at dksX8_isInUse_0 10 rfl rfl)
theorem dX8_isInUse_11 : decode cX8_isInUse 11 = .ok (.iload_n 2, 1) := dk_28 (dk_at dksX8_isInUse_0 11 rfl rfl)
theorem dX8_isInUse_12 : decode cX8_isInUse 12 = .ok (.if_icmp .eq 43, 3) := dk_159 0 43 (dk_at dksX8_isInUse_0 12 rfl rfl)
theorem dX8_isInUse_15 : decode cX8_isInUse 15 = .ok (.aload_n 0, 1) := dk_42 (dk_at dksX8_isInUse_0 15 rfl rfl)
theorem dX8_isInUse_16 : decode cX8_isInUse 16 = .ok (.getfield 167, 3) := dk_180 0 167 (dk_at dksX8_isInUse_0 16 rfl rfl)
theorem dX8_isInUse_19 : decode cX8_isInUse 19 = .ok (.iload_n 3, 1) := dk_29 (dk_at dksX8_isInUse_0 19 rfl rfl)
theorem dX8_isInUse_20 : decode cX8_isInUse 20 = .ok (.iaload, 1) := dk_46 (dk_at dksX8_isInUse_0 20 rfl rfl)
theorem dX8_isInUse_21 : decode cX8_isInUse 21 = .ok (.iconst 2, 1) := dk_5 (dk_at dksX8_isInUse_0 21 rfl rfl)
theorem dX8_isInUse_22 : decode cX8_isInUse 22 = .ok (.if_icmp .ne 33, 3) := dk_160 0 33 (dk_at dksX8_isInUse_1 0 rfl rfl)
theorem dX8_isInUse_25 : decode cX8_isInUse 25 = .ok (.aload_n 0, 1) := dk_42 (dk_at dksX8_isInUse_1 3 rfl rfl)
theorem dX8_isInUse_26 : decode cX8_isInUse 26 = .ok (.getfield 98, 3) := dk_180 0 98 (dk_at dksX8_isInUse_1 4 rfl rfl)
theorem dX8_isInUse_29 : decode cX8_isInUse 29 = .ok (.aload_n 0, 1) := dk_42 (dk_at dksX8_isInUse_1 7 rfl rfl)
theorem dX8_isInUse_30 : decode cX8_isInUse 30 = .ok (.aload_n 0, 1) := dk_42 (dk_at dksX8_isInUse_1 8 rfl rfl)
theorem dX8_isInUse_31 : decode cX8_isInUse 31 = .ok (.getfield 161, 3) := dk_180 0 161 (dk_at dksX8_isInUse_1 9 rfl rfl)
theorem dX8_isInUse_34 : decode cX8_isInUse 34 = .ok (.bipush 42, 2) := dk_16 42 (dk_at dksX8_isInUse_1 12 rfl rfl)
theorem dX8_isInUse_36 : decode cX8_isInUse 36 = .ok (.iload_n 3, 1) := dk_29 (dk_at dksX8_isInUse_1 14 rfl rfl)
theorem dX8_isInUse_37 : decode cX8_isInUse 37 = .ok (.iadd, 1) := dk_96 (dk_at dksX8_isInUse_1 15 rfl rfl)
theorem dX8_isInUse_38 : decode cX8_isInUse 38 = .ok (.iaload, 1) := dk_46 (dk_at dksX8_isInUse_1 16 rfl rfl)
theorem dX8_isInUse_39 : decode cX8_isInUse 39 = .ok (.aload_n 0, 1) := dk_42 (dk_at dksX8_isInUse_1 17 rfl rfl)
theorem dX8_isInUse_40 : decode cX8_isInUse 40 = .ok (.getfield 176, 3) := dk_180 0 176 (dk_at dksX8_isInUse_1 18 rfl rfl)
theorem dX8_isInUse_43 : decode cX8_isInUse 43 = .ok (.iload_n 3, 1) := dk_29 (dk_at dksX8_isInUse_1 21 rfl rfl)
theorem dX8_isInUse_44 : decode cX8_isInUse 44 = .ok (.iaload, 1) := dk_46 (dk_at dksX8_isInUse_1 22 rfl rfl)
theorem dX8_isInUse_45 : decode cX8_isInUse 45 = .ok (.invokevirtual 393, 3) := dk_182 1 137 (dk_at dksX8_isInUse_2 0 rfl rfl)
theorem dX8_isInUse_48 : decode cX8_isInUse 48 = .ok (.iaload, 1) := dk_46 (dk_at dksX8_isInUse_2 3 rfl rfl)
theorem dX8_isInUse_49 : decode cX8_isInUse 49 = .ok (.iload_n 1, 1) := dk_27 (dk_at dksX8_isInUse_2 4 rfl rfl)
theorem dX8_isInUse_50 : decode cX8_isInUse 50 = .ok (.if_icmp .ne 5, 3) := dk_160 0 5 (dk_at dksX8_isInUse_2 5 rfl rfl)
theorem dX8_isInUse_53 : decode cX8_isInUse 53 = .ok (.iconst 1, 1) := dk_4 (dk_at dksX8_isInUse_2 8 rfl rfl)
theorem dX8_isInUse_54 : decode cX8_isInUse 54 = .ok (.ireturn, 1) := dk_172 (dk_at dksX8_isInUse_2 9 rfl rfl)
theorem dX8_isInUse_55 : decode cX8_isInUse 55 = .ok (.iinc 3 1, 3) := dk_132 3 1 (dk_at dksX8_isInUse_2 10 rfl rfl)
theorem dX8_isInUse_58 : decode cX8_isInUse 58 = .ok (.goto (-56), 3) := dk_167 255 200 (dk_at dksX8_isInUse_2 13 rfl rfl)
theorem dX8_isInUse_61 : decode cX8_isInUse 61 = .ok (.iconst 0, 1) := dk_3 (dk_at dksX8_isInUse_2 16 rfl rfl)
theorem dX8_isInUse_62 : decode cX8_isInUse 62 = .ok (.ireturn, 1) := dk_172 (dk_at dksX8_isInUse_2 17 rfl rfl)
abbrev cX8_undo : ByteArray := prog_22_method_79_code
def yX8_undo : MethodName := ⟨RX8, "undo", "()Z"⟩
def dkwX8_undo_2 : List UInt8 := [132, 1, 1, 167, 255, 227, 4, 172]
abbrev dktX8_undo_2 : List UInt8 := dkwX8_undo_2 ++ []
def dkwX8_undo_1 : List UInt8 := [162, 0, 29, 42, 180, 0, 158, 27, 42, 180, 0, 188, 16, 100, 42, 180, 1, 43, 104, 27, 96, 46, 79]
abbrev dktX8_undo_1 : List UInt8 := dkwX8_undo_1 ++ dktX8_undo_2
def dkwX8_undo_0 : List UInt8 := [42, 180, 1, 43, 154, 0, 5, 3, 172, 42, 89, 180, 1, 43, 4, 100, 181, 1, 43, 3, 60, 27, 16, 100]
abbrev dktX8_undo_0 : List UInt8 := dkwX8_undo_0 ++ dktX8_undo_1
theorem dksX8_undo_0 : cX8_undo.data.toList.drop 0 = dktX8_undo_0 := by decide +kernel
theorem dksX8_undo_1 : cX8_undo.data.toList.drop 24 = dktX8_undo_1 := dk_seg dksX8_undo_0 24 rfl rfl
theorem dksX8_undo_2 : cX8_undo.data.toList.drop 47 = dktX8_undo_2 := dk_seg dksX8_undo_1 23 rfl rfl
theorem dX8_undo_0 : decode cX8_undo 0 = .ok (.aload_n 0, 1) := dk_42 (dk_at dksX8_undo_0 0 rfl rfl)
theorem dX8_undo_1 : decode cX8_undo 1 = .ok (.getfield 299, 3) := dk_180 1 43 (dk_at dksX8_undo_0 1 rfl rfl)
theorem dX8_undo_4 : decode cX8_undo 4 = .ok (.ifCond .ne 5, 3) := dk_154 0 5 (dk_at dksX8_undo_0 4 rfl rfl)
theorem dX8_undo_7 : decode cX8_undo 7 = .ok (.iconst 0, 1) := dk_3 (dk_at dksX8_undo_0 7 rfl rfl)
theorem dX8_undo_8 : decode cX8_undo 8 = .ok (.ireturn, 1) := dk_172 (dk_at dksX8_undo_0 8 rfl rfl)
theorem dX8_undo_9 : decode cX8_undo 9 = .ok (.aload_n 0, 1) := dk_42 (dk_at dksX8_undo_0 9 rfl rfl)
theorem dX8_undo_10 : decode cX8_undo 10 = .ok (.dup, 1) := dk_89 (dk_at dksX8_undo_0 10 rfl rfl)
theorem dX8_undo_11 : decode cX8_undo 11 = .ok (.getfield 299, 3) := dk_180 1 43 (dk_at dksX8_undo_0 11 rfl rfl)
theorem dX8_undo_14 : decode cX8_undo 14 = .ok (.iconst 1, 1) := dk_4 (dk_at dksX8_undo_0 14 rfl rfl)
theorem dX8_undo_15 : decode cX8_undo 15 = .ok (.isub, 1) := dk_100 (dk_at dksX8_undo_0 15 rfl rfl)
theorem dX8_undo_16 : decode cX8_undo 16 = .ok (.putfield 299, 3) := dk_181 1 43 (dk_at dksX8_undo_0 16 rfl rfl)
theorem dX8_undo_19 : decode cX8_undo 19 = .ok (.iconst 0, 1) := dk_3 (dk_at dksX8_undo_0 19 rfl rfl)
theorem dX8_undo_20 : decode cX8_undo 20 = .ok (.istore_n 1, 1) := dk_60 (dk_at dksX8_undo_0 20 rfl rfl)
theorem dX8_undo_21 : decode cX8_undo 21 = .ok (.iload_n 1, 1) := dk_27 (dk_at dksX8_undo_0 21 rfl rfl)
theorem dX8_undo_22 : decode cX8_undo 22 = .ok (.bipush 100, 2) := dk_16 100 (dk_at dksX8_undo_0 22 rfl rfl)
theorem dX8_undo_24 : decode cX8_undo 24 = .ok (.if_icmp .ge 29, 3) := dk_162 0 29 (dk_at dksX8_undo_1 0 rfl rfl)
theorem dX8_undo_27 : decode cX8_undo 27 = .ok (.aload_n 0, 1) := dk_42 (dk_at dksX8_undo_1 3 rfl rfl)
theorem dX8_undo_28 : decode cX8_undo 28 = .ok (.getfield 158, 3) := dk_180 0 158 (dk_at dksX8_undo_1 4 rfl rfl)
theorem dX8_undo_31 : decode cX8_undo 31 = .ok (.iload_n 1, 1) := dk_27 (dk_at dksX8_undo_1 7 rfl rfl)
theorem dX8_undo_32 : decode cX8_undo 32 = .ok (.aload_n 0, 1) := dk_42 (dk_at dksX8_undo_1 8 rfl rfl)
theorem dX8_undo_33 : decode cX8_undo 33 = .ok (.getfield 188, 3) := dk_180 0 188 (dk_at dksX8_undo_1 9 rfl rfl)
theorem dX8_undo_36 : decode cX8_undo 36 = .ok (.bipush 100, 2) := dk_16 100 (dk_at dksX8_undo_1 12 rfl rfl)
theorem dX8_undo_38 : decode cX8_undo 38 = .ok (.aload_n 0, 1) := dk_42 (dk_at dksX8_undo_1 14 rfl rfl)
theorem dX8_undo_39 : decode cX8_undo 39 = .ok (.getfield 299, 3) := dk_180 1 43 (dk_at dksX8_undo_1 15 rfl rfl)
theorem dX8_undo_42 : decode cX8_undo 42 = .ok (.imul, 1) := dk_104 (dk_at dksX8_undo_1 18 rfl rfl)
theorem dX8_undo_43 : decode cX8_undo 43 = .ok (.iload_n 1, 1) := dk_27 (dk_at dksX8_undo_1 19 rfl rfl)
theorem dX8_undo_44 : decode cX8_undo 44 = .ok (.iadd, 1) := dk_96 (dk_at dksX8_undo_1 20 rfl rfl)
theorem dX8_undo_45 : decode cX8_undo 45 = .ok (.iaload, 1) := dk_46 (dk_at dksX8_undo_1 21 rfl rfl)
theorem dX8_undo_46 : decode cX8_undo 46 = .ok (.iastore, 1) := dk_79 (dk_at dksX8_undo_1 22 rfl rfl)
theorem dX8_undo_47 : decode cX8_undo 47 = .ok (.iinc 1 1, 3) := dk_132 1 1 (dk_at dksX8_undo_2 0 rfl rfl)
theorem dX8_undo_50 : decode cX8_undo 50 = .ok (.goto (-29), 3) := dk_167 255 227 (dk_at dksX8_undo_2 3 rfl rfl)
theorem dX8_undo_53 : decode cX8_undo 53 = .ok (.iconst 1, 1) := dk_4 (dk_at dksX8_undo_2 6 rfl rfl)
theorem dX8_undo_54 : decode cX8_undo 54 = .ok (.ireturn, 1) := dk_172 (dk_at dksX8_undo_2 7 rfl rfl)
abbrev cX8_gain : ByteArray := prog_22_method_80_code
def yX8_gain : MethodName := ⟨RX8, "gain", "()I"⟩
def dkwX8_gain_0 : List UInt8 := [42, 182, 1, 181, 42, 182, 1, 202, 172]
abbrev dktX8_gain_0 : List UInt8 := dkwX8_gain_0 ++ []
theorem dksX8_gain_0 : cX8_gain.data.toList.drop 0 = dktX8_gain_0 := by decide +kernel
theorem dX8_gain_0 : decode cX8_gain 0 = .ok (.aload_n 0, 1) := dk_42 (dk_at dksX8_gain_0 0 rfl rfl)
theorem dX8_gain_1 : decode cX8_gain 1 = .ok (.invokevirtual 437, 3) := dk_182 1 181 (dk_at dksX8_gain_0 1 rfl rfl)
theorem dX8_gain_4 : decode cX8_gain 4 = .ok (.aload_n 0, 1) := dk_42 (dk_at dksX8_gain_0 4 rfl rfl)
theorem dX8_gain_5 : decode cX8_gain 5 = .ok (.invokevirtual 458, 3) := dk_182 1 202 (dk_at dksX8_gain_0 5 rfl rfl)
theorem dX8_gain_8 : decode cX8_gain 8 = .ok (.ireturn, 1) := dk_172 (dk_at dksX8_gain_0 8 rfl rfl)
abbrev cX8_best : ByteArray := prog_22_method_86_code
def yX8_best : MethodName := ⟨RX8, "best", "(II)I"⟩
def dkwX8_best_1 : List UInt8 := [62, 28, 154, 0, 10, 42, 180, 1, 211, 167, 0, 9, 42, 27, 29, 182, 1, 220, 172]
abbrev dktX8_best_1 : List UInt8 := dkwX8_best_1 ++ []
def dkwX8_best_0 : List UInt8 := [42, 27, 182, 1, 190, 153, 0, 12, 28, 3, 4, 184, 1, 124, 154, 0, 5, 2, 172, 42, 27, 182, 1, 217]
abbrev dktX8_best_0 : List UInt8 := dkwX8_best_0 ++ dktX8_best_1
theorem dksX8_best_0 : cX8_best.data.toList.drop 0 = dktX8_best_0 := by decide +kernel
theorem dksX8_best_1 : cX8_best.data.toList.drop 24 = dktX8_best_1 := dk_seg dksX8_best_0 24 rfl rfl
theorem dX8_best_0 : decode cX8_best 0 = .ok (.aload_n 0, 1) := dk_42 (dk_at dksX8_best_0 0 rfl rfl)
theorem dX8_best_1 : decode cX8_best 1 = .ok (.iload_n 1, 1) := dk_27 (dk_at dksX8_best_0 1 rfl rfl)
theorem dX8_best_2 : decode cX8_best 2 = .ok (.invokevirtual 446, 3) := dk_182 1 190 (dk_at dksX8_best_0 2 rfl rfl)
theorem dX8_best_5 : decode cX8_best 5 = .ok (.ifCond .eq 12, 3) := dk_153 0 12 (dk_at dksX8_best_0 5 rfl rfl)
theorem dX8_best_8 : decode cX8_best 8 = .ok (.iload_n 2, 1) := dk_28 (dk_at dksX8_best_0 8 rfl rfl)
theorem dX8_best_9 : decode cX8_best 9 = .ok (.iconst 0, 1) := dk_3 (dk_at dksX8_best_0 9 rfl rfl)
theorem dX8_best_10 : decode cX8_best 10 = .ok (.iconst 1, 1) := dk_4 (dk_at dksX8_best_0 10 rfl rfl)
theorem dX8_best_11 : decode cX8_best 11 = .ok (.invokestatic 380, 3) := dk_184 1 124 (dk_at dksX8_best_0 11 rfl rfl)
theorem dX8_best_14 : decode cX8_best 14 = .ok (.ifCond .ne 5, 3) := dk_154 0 5 (dk_at dksX8_best_0 14 rfl rfl)
theorem dX8_best_17 : decode cX8_best 17 = .ok (.iconst (-1), 1) := dk_2 (dk_at dksX8_best_0 17 rfl rfl)
theorem dX8_best_18 : decode cX8_best 18 = .ok (.ireturn, 1) := dk_172 (dk_at dksX8_best_0 18 rfl rfl)
theorem dX8_best_19 : decode cX8_best 19 = .ok (.aload_n 0, 1) := dk_42 (dk_at dksX8_best_0 19 rfl rfl)
theorem dX8_best_20 : decode cX8_best 20 = .ok (.iload_n 1, 1) := dk_27 (dk_at dksX8_best_0 20 rfl rfl)
theorem dX8_best_21 : decode cX8_best 21 = .ok (.invokevirtual 473, 3) := dk_182 1 217 (dk_at dksX8_best_0 21 rfl rfl)
theorem dX8_best_24 : decode cX8_best 24 = .ok (.istore_n 3, 1) := dk_62 (dk_at dksX8_best_1 0 rfl rfl)
theorem dX8_best_25 : decode cX8_best 25 = .ok (.iload_n 2, 1) := dk_28 (dk_at dksX8_best_1 1 rfl rfl)
theorem dX8_best_26 : decode cX8_best 26 = .ok (.ifCond .ne 10, 3) := dk_154 0 10 (dk_at dksX8_best_1 2 rfl rfl)
theorem dX8_best_29 : decode cX8_best 29 = .ok (.aload_n 0, 1) := dk_42 (dk_at dksX8_best_1 5 rfl rfl)
theorem dX8_best_30 : decode cX8_best 30 = .ok (.getfield 467, 3) := dk_180 1 211 (dk_at dksX8_best_1 6 rfl rfl)
theorem dX8_best_33 : decode cX8_best 33 = .ok (.goto 9, 3) := dk_167 0 9 (dk_at dksX8_best_1 9 rfl rfl)
theorem dX8_best_36 : decode cX8_best 36 = .ok (.aload_n 0, 1) := dk_42 (dk_at dksX8_best_1 12 rfl rfl)
theorem dX8_best_37 : decode cX8_best 37 = .ok (.iload_n 1, 1) := dk_27 (dk_at dksX8_best_1 13 rfl rfl)
theorem dX8_best_38 : decode cX8_best 38 = .ok (.iload_n 3, 1) := dk_29 (dk_at dksX8_best_1 14 rfl rfl)
theorem dX8_best_39 : decode cX8_best 39 = .ok (.invokevirtual 476, 3) := dk_182 1 220 (dk_at dksX8_best_1 15 rfl rfl)
theorem dX8_best_42 : decode cX8_best 42 = .ok (.ireturn, 1) := dk_172 (dk_at dksX8_best_1 18 rfl rfl)
abbrev cX8_bestOption : ByteArray := prog_22_method_85_code
def yX8_bestOption : MethodName := ⟨RX8, "bestOption", "(I)I"⟩
def dkwX8_bestOption_2 : List UInt8 := [181, 1, 211, 132, 3, 1, 167, 255, 217, 28, 172]
abbrev dktX8_bestOption_2 : List UInt8 := dkwX8_bestOption_2 ++ []
def dkwX8_bestOption_1 : List UInt8 := [29, 182, 1, 208, 54, 4, 21, 4, 42, 180, 1, 211, 163, 0, 6, 167, 0, 11, 29, 61, 42, 21, 4]
abbrev dktX8_bestOption_1 : List UInt8 := dkwX8_bestOption_1 ++ dktX8_bestOption_2
def dkwX8_bestOption_0 : List UInt8 := [3, 61, 42, 42, 27, 3, 182, 1, 208, 181, 1, 211, 4, 62, 29, 42, 182, 1, 214, 162, 0, 37, 42, 27]
abbrev dktX8_bestOption_0 : List UInt8 := dkwX8_bestOption_0 ++ dktX8_bestOption_1
theorem dksX8_bestOption_0 : cX8_bestOption.data.toList.drop 0 = dktX8_bestOption_0 := by decide +kernel
theorem dksX8_bestOption_1 : cX8_bestOption.data.toList.drop 24 = dktX8_bestOption_1 := dk_seg dksX8_bestOption_0 24 rfl rfl
theorem dksX8_bestOption_2 : cX8_bestOption.data.toList.drop 47 = dktX8_bestOption_2 := dk_seg dksX8_bestOption_1 23 rfl rfl
theorem dX8_bestOption_0 : decode cX8_bestOption 0 = .ok (.iconst 0, 1) := dk_3 (dk_at dksX8_bestOption_0 0 rfl rfl)
theorem dX8_bestOption_1 : decode cX8_bestOption 1 = .ok (.istore_n 2, 1) := dk_61 (dk_at dksX8_bestOption_0 1 rfl rfl)
theorem dX8_bestOption_2 : decode cX8_bestOption 2 = .ok (.aload_n 0, 1) := dk_42 (dk_at dksX8_bestOption_0 2 rfl rfl)
theorem dX8_bestOption_3 : decode cX8_bestOption 3 = .ok (.aload_n 0, 1) := dk_42 (dk_at dksX8_bestOption_0 3 rfl rfl)
theorem dX8_bestOption_4 : decode cX8_bestOption 4 = .ok (.iload_n 1, 1) := dk_27 (dk_at dksX8_bestOption_0 4 rfl rfl)
theorem dX8_bestOption_5 : decode cX8_bestOption 5 = .ok (.iconst 0, 1) := dk_3 (dk_at dksX8_bestOption_0 5 rfl rfl)
theorem dX8_bestOption_6 : decode cX8_bestOption 6 = .ok (.invokevirtual 464, 3) := dk_182 1 208 (dk_at dksX8_bestOption_0 6 rfl rfl)
theorem dX8_bestOption_9 : decode cX8_bestOption 9 = .ok (.putfield 467, 3) := dk_181 1 211 (dk_at dksX8_bestOption_0 9 rfl rfl)
theorem dX8_bestOption_12 : decode cX8_bestOption 12 = .ok (.iconst 1, 1) := dk_4 (dk_at dksX8_bestOption_0 12 rfl rfl)
theorem dX8_bestOption_13 : decode cX8_bestOption 13 = .ok (.istore_n 3, 1) := dk_62 (dk_at dksX8_bestOption_0 13 rfl rfl)
theorem dX8_bestOption_14 : decode cX8_bestOption 14 = .ok (.iload_n 3, 1) := dk_29 (dk_at dksX8_bestOption_0 14 rfl rfl)
theorem dX8_bestOption_15 : decode cX8_bestOption 15 = .ok (.aload_n 0, 1) := dk_42 (dk_at dksX8_bestOption_0 15 rfl rfl)
theorem dX8_bestOption_16 : decode cX8_bestOption 16 = .ok (.invokevirtual 470, 3) := dk_182 1 214 (dk_at dksX8_bestOption_0 16 rfl rfl)
theorem dX8_bestOption_19 : decode cX8_bestOption 19 = .ok (.if_icmp .ge 37, 3) := dk_162 0 37 (dk_at dksX8_bestOption_0 19 rfl rfl)
theorem dX8_bestOption_22 : decode cX8_bestOption 22 = .ok (.aload_n 0, 1) := dk_42 (dk_at dksX8_bestOption_0 22 rfl rfl)
theorem dX8_bestOption_23 : decode cX8_bestOption 23 = .ok (.iload_n 1, 1) := dk_27 (dk_at dksX8_bestOption_0 23 rfl rfl)
theorem dX8_bestOption_24 : decode cX8_bestOption 24 = .ok (.iload_n 3, 1) := dk_29 (dk_at dksX8_bestOption_1 0 rfl rfl)
theorem dX8_bestOption_25 : decode cX8_bestOption 25 = .ok (.invokevirtual 464, 3) := dk_182 1 208 (dk_at dksX8_bestOption_1 1 rfl rfl)
theorem dX8_bestOption_28 : decode cX8_bestOption 28 = .ok (.istore 4, 2) := dk_54 4 (dk_at dksX8_bestOption_1 4 rfl rfl)
theorem dX8_bestOption_30 : decode cX8_bestOption 30 = .ok (.iload 4, 2) := dk_21 4 (dk_at dksX8_bestOption_1 6 rfl rfl)
theorem dX8_bestOption_32 : decode cX8_bestOption 32 = .ok (.aload_n 0, 1) := dk_42 (dk_at dksX8_bestOption_1 8 rfl rfl)
theorem dX8_bestOption_33 : decode cX8_bestOption 33 = .ok (.getfield 467, 3) := dk_180 1 211 (dk_at dksX8_bestOption_1 9 rfl rfl)
theorem dX8_bestOption_36 : decode cX8_bestOption 36 = .ok (.if_icmp .gt 6, 3) := dk_163 0 6 (dk_at dksX8_bestOption_1 12 rfl rfl)
theorem dX8_bestOption_39 : decode cX8_bestOption 39 = .ok (.goto 11, 3) := dk_167 0 11 (dk_at dksX8_bestOption_1 15 rfl rfl)
theorem dX8_bestOption_42 : decode cX8_bestOption 42 = .ok (.iload_n 3, 1) := dk_29 (dk_at dksX8_bestOption_1 18 rfl rfl)
theorem dX8_bestOption_43 : decode cX8_bestOption 43 = .ok (.istore_n 2, 1) := dk_61 (dk_at dksX8_bestOption_1 19 rfl rfl)
theorem dX8_bestOption_44 : decode cX8_bestOption 44 = .ok (.aload_n 0, 1) := dk_42 (dk_at dksX8_bestOption_1 20 rfl rfl)
theorem dX8_bestOption_45 : decode cX8_bestOption 45 = .ok (.iload 4, 2) := dk_21 4 (dk_at dksX8_bestOption_1 21 rfl rfl)
theorem dX8_bestOption_47 : decode cX8_bestOption 47 = .ok (.putfield 467, 3) := dk_181 1 211 (dk_at dksX8_bestOption_2 0 rfl rfl)
theorem dX8_bestOption_50 : decode cX8_bestOption 50 = .ok (.iinc 3 1, 3) := dk_132 3 1 (dk_at dksX8_bestOption_2 3 rfl rfl)
theorem dX8_bestOption_53 : decode cX8_bestOption 53 = .ok (.goto (-39), 3) := dk_167 255 217 (dk_at dksX8_bestOption_2 6 rfl rfl)
theorem dX8_bestOption_56 : decode cX8_bestOption 56 = .ok (.iload_n 2, 1) := dk_28 (dk_at dksX8_bestOption_2 9 rfl rfl)
theorem dX8_bestOption_57 : decode cX8_bestOption 57 = .ok (.ireturn, 1) := dk_172 (dk_at dksX8_bestOption_2 10 rfl rfl)
abbrev cX8_gainBy : ByteArray := prog_22_method_84_code
def yX8_gainBy : MethodName := ⟨RX8, "gainBy", "(II)I"⟩
def dkwX8_gainBy_0 : List UInt8 := [42, 182, 1, 181, 42, 27, 28, 182, 1, 205, 87, 42, 182, 1, 202, 172]
abbrev dktX8_gainBy_0 : List UInt8 := dkwX8_gainBy_0 ++ []
theorem dksX8_gainBy_0 : cX8_gainBy.data.toList.drop 0 = dktX8_gainBy_0 := by decide +kernel
theorem dX8_gainBy_0 : decode cX8_gainBy 0 = .ok (.aload_n 0, 1) := dk_42 (dk_at dksX8_gainBy_0 0 rfl rfl)
theorem dX8_gainBy_1 : decode cX8_gainBy 1 = .ok (.invokevirtual 437, 3) := dk_182 1 181 (dk_at dksX8_gainBy_0 1 rfl rfl)
theorem dX8_gainBy_4 : decode cX8_gainBy 4 = .ok (.aload_n 0, 1) := dk_42 (dk_at dksX8_gainBy_0 4 rfl rfl)
theorem dX8_gainBy_5 : decode cX8_gainBy 5 = .ok (.iload_n 1, 1) := dk_27 (dk_at dksX8_gainBy_0 5 rfl rfl)
theorem dX8_gainBy_6 : decode cX8_gainBy 6 = .ok (.iload_n 2, 1) := dk_28 (dk_at dksX8_gainBy_0 6 rfl rfl)
theorem dX8_gainBy_7 : decode cX8_gainBy 7 = .ok (.invokevirtual 461, 3) := dk_182 1 205 (dk_at dksX8_gainBy_0 7 rfl rfl)
theorem dX8_gainBy_10 : decode cX8_gainBy 10 = .ok (.pop, 1) := dk_87 (dk_at dksX8_gainBy_0 10 rfl rfl)
theorem dX8_gainBy_11 : decode cX8_gainBy 11 = .ok (.aload_n 0, 1) := dk_42 (dk_at dksX8_gainBy_0 11 rfl rfl)
theorem dX8_gainBy_12 : decode cX8_gainBy 12 = .ok (.invokevirtual 458, 3) := dk_182 1 202 (dk_at dksX8_gainBy_0 12 rfl rfl)
theorem dX8_gainBy_15 : decode cX8_gainBy 15 = .ok (.ireturn, 1) := dk_172 (dk_at dksX8_gainBy_0 15 rfl rfl)
abbrev cX8_leaves : ByteArray := prog_22_method_81_code
def yX8_leaves : MethodName := ⟨RX8, "leaves", "(II)Z"⟩
def dkwX8_leaves_4 : List UInt8 := [79, 4, 172]
abbrev dktX8_leaves_4 : List UInt8 := dkwX8_leaves_4 ++ []
def dkwX8_leaves_3 : List UInt8 := [2, 167, 0, 5, 21, 4, 79, 42, 180, 0, 161, 16, 48, 27, 96, 29, 156, 0, 7, 2, 167, 0, 4, 29]
abbrev dktX8_leaves_3 : List UInt8 := dkwX8_leaves_3 ++ dktX8_leaves_4
def dkwX8_leaves_2 : List UInt8 := [182, 1, 121, 160, 0, 9, 29, 155, 0, 5, 3, 172, 42, 180, 0, 161, 16, 42, 27, 96, 29, 156, 0, 7]
abbrev dktX8_leaves_2 : List UInt8 := dkwX8_leaves_2 ++ dktX8_leaves_3
def dkwX8_leaves_1 : List UInt8 := [182, 1, 131, 161, 0, 18, 29, 42, 21, 4, 182, 1, 131, 100, 62, 132, 4, 1, 167, 255, 221, 21, 4, 42]
abbrev dktX8_leaves_1 : List UInt8 := dkwX8_leaves_1 ++ dktX8_leaves_2
def dkwX8_leaves_0 : List UInt8 := [28, 4, 100, 62, 3, 54, 4, 29, 155, 0, 37, 21, 4, 42, 182, 1, 121, 162, 0, 28, 29, 42, 21, 4]
abbrev dktX8_leaves_0 : List UInt8 := dkwX8_leaves_0 ++ dktX8_leaves_1
theorem dksX8_leaves_0 : cX8_leaves.data.toList.drop 0 = dktX8_leaves_0 := by decide +kernel
theorem dksX8_leaves_1 : cX8_leaves.data.toList.drop 24 = dktX8_leaves_1 := dk_seg dksX8_leaves_0 24 rfl rfl
theorem dksX8_leaves_2 : cX8_leaves.data.toList.drop 48 = dktX8_leaves_2 := dk_seg dksX8_leaves_1 24 rfl rfl
theorem dksX8_leaves_3 : cX8_leaves.data.toList.drop 72 = dktX8_leaves_3 := dk_seg dksX8_leaves_2 24 rfl rfl
theorem dksX8_leaves_4 : cX8_leaves.data.toList.drop 96 = dktX8_leaves_4 := dk_seg dksX8_leaves_3 24 rfl rfl
theorem dX8_leaves_0 : decode cX8_leaves 0 = .ok (.iload_n 2, 1) := dk_28 (dk_at dksX8_leaves_0 0 rfl rfl)
theorem dX8_leaves_1 : decode cX8_leaves 1 = .ok (.iconst 1, 1) := dk_4 (dk_at dksX8_leaves_0 1 rfl rfl)
theorem dX8_leaves_2 : decode cX8_leaves 2 = .ok (.isub, 1) := dk_100 (dk_at dksX8_leaves_0 2 rfl rfl)
theorem dX8_leaves_3 : decode cX8_leaves 3 = .ok (.istore_n 3, 1) := dk_62 (dk_at dksX8_leaves_0 3 rfl rfl)
theorem dX8_leaves_4 : decode cX8_leaves 4 = .ok (.iconst 0, 1) := dk_3 (dk_at dksX8_leaves_0 4 rfl rfl)
theorem dX8_leaves_5 : decode cX8_leaves 5 = .ok (.istore 4, 2) := dk_54 4 (dk_at dksX8_leaves_0 5 rfl rfl)
theorem dX8_leaves_7 : decode cX8_leaves 7 = .ok (.iload_n 3, 1) := dk_29 (dk_at dksX8_leaves_0 7 rfl rfl)
theorem dX8_leaves_8 : decode cX8_leaves 8 = .ok (.ifCond .lt 37, 3) := dk_155 0 37 (dk_at dksX8_leaves_0 8 rfl rfl)
theorem dX8_leaves_11 : decode cX8_leaves 11 = .ok (.iload 4, 2) := dk_21 4 (dk_at dksX8_leaves_0 11 rfl rfl)
theorem dX8_leaves_13 : decode cX8_leaves 13 = .ok (.aload_n 0, 1) := dk_42 (dk_at dksX8_leaves_0 13 rfl rfl)
theorem dX8_leaves_14 : decode cX8_leaves 14 = .ok (.invokevirtual 377, 3) := dk_182 1 121 (dk_at dksX8_leaves_0 14 rfl rfl)
theorem dX8_leaves_17 : decode cX8_leaves 17 = .ok (.if_icmp .ge 28, 3) := dk_162 0 28 (dk_at dksX8_leaves_0 17 rfl rfl)
theorem dX8_leaves_20 : decode cX8_leaves 20 = .ok (.iload_n 3, 1) := dk_29 (dk_at dksX8_leaves_0 20 rfl rfl)
theorem dX8_leaves_21 : decode cX8_leaves 21 = .ok (.aload_n 0, 1) := dk_42 (dk_at dksX8_leaves_0 21 rfl rfl)
theorem dX8_leaves_22 : decode cX8_leaves 22 = .ok (.iload 4, 2) := dk_21 4 (dk_at dksX8_leaves_0 22 rfl rfl)
theorem dX8_leaves_24 : decode cX8_leaves 24 = .ok (.invokevirtual 387, 3) := dk_182 1 131 (dk_at dksX8_leaves_1 0 rfl rfl)
theorem dX8_leaves_27 : decode cX8_leaves 27 = .ok (.if_icmp .lt 18, 3) := dk_161 0 18 (dk_at dksX8_leaves_1 3 rfl rfl)
theorem dX8_leaves_30 : decode cX8_leaves 30 = .ok (.iload_n 3, 1) := dk_29 (dk_at dksX8_leaves_1 6 rfl rfl)
theorem dX8_leaves_31 : decode cX8_leaves 31 = .ok (.aload_n 0, 1) := dk_42 (dk_at dksX8_leaves_1 7 rfl rfl)
theorem dX8_leaves_32 : decode cX8_leaves 32 = .ok (.iload 4, 2) := dk_21 4 (dk_at dksX8_leaves_1 8 rfl rfl)
theorem dX8_leaves_34 : decode cX8_leaves 34 = .ok (.invokevirtual 387, 3) := dk_182 1 131 (dk_at dksX8_leaves_1 10 rfl rfl)
theorem dX8_leaves_37 : decode cX8_leaves 37 = .ok (.isub, 1) := dk_100 (dk_at dksX8_leaves_1 13 rfl rfl)
theorem dX8_leaves_38 : decode cX8_leaves 38 = .ok (.istore_n 3, 1) := dk_62 (dk_at dksX8_leaves_1 14 rfl rfl)
theorem dX8_leaves_39 : decode cX8_leaves 39 = .ok (.iinc 4 1, 3) := dk_132 4 1 (dk_at dksX8_leaves_1 15 rfl rfl)
theorem dX8_leaves_42 : decode cX8_leaves 42 = .ok (.goto (-35), 3) := dk_167 255 221 (dk_at dksX8_leaves_1 18 rfl rfl)
theorem dX8_leaves_45 : decode cX8_leaves 45 = .ok (.iload 4, 2) := dk_21 4 (dk_at dksX8_leaves_1 21 rfl rfl)
theorem dX8_leaves_47 : decode cX8_leaves 47 = .ok (.aload_n 0, 1) := dk_42 (dk_at dksX8_leaves_1 23 rfl rfl)
theorem dX8_leaves_48 : decode cX8_leaves 48 = .ok (.invokevirtual 377, 3) := dk_182 1 121 (dk_at dksX8_leaves_2 0 rfl rfl)
theorem dX8_leaves_51 : decode cX8_leaves 51 = .ok (.if_icmp .ne 9, 3) := dk_160 0 9 (dk_at dksX8_leaves_2 3 rfl rfl)
theorem dX8_leaves_54 : decode cX8_leaves 54 = .ok (.iload_n 3, 1) := dk_29 (dk_at dksX8_leaves_2 6 rfl rfl)
theorem dX8_leaves_55 : decode cX8_leaves 55 = .ok (.ifCond .lt 5, 3) := dk_155 0 5 (dk_at dksX8_leaves_2 7 rfl rfl)
theorem dX8_leaves_58 : decode cX8_leaves 58 = .ok (.iconst 0, 1) := dk_3 (dk_at dksX8_leaves_2 10 rfl rfl)
theorem dX8_leaves_59 : decode cX8_leaves 59 = .ok (.ireturn, 1) := dk_172 (dk_at dksX8_leaves_2 11 rfl rfl)
theorem dX8_leaves_60 : decode cX8_leaves 60 = .ok (.aload_n 0, 1) := dk_42 (dk_at dksX8_leaves_2 12 rfl rfl)
theorem dX8_leaves_61 : decode cX8_leaves 61 = .ok (.getfield 161, 3) := dk_180 0 161 (dk_at dksX8_leaves_2 13 rfl rfl)
theorem dX8_leaves_64 : decode cX8_leaves 64 = .ok (.bipush 42, 2) := dk_16 42 (dk_at dksX8_leaves_2 16 rfl rfl)
theorem dX8_leaves_66 : decode cX8_leaves 66 = .ok (.iload_n 1, 1) := dk_27 (dk_at dksX8_leaves_2 18 rfl rfl)
theorem dX8_leaves_67 : decode cX8_leaves 67 = .ok (.iadd, 1) := dk_96 (dk_at dksX8_leaves_2 19 rfl rfl)
theorem dX8_leaves_68 : decode cX8_leaves 68 = .ok (.iload_n 3, 1) := dk_29 (dk_at dksX8_leaves_2 20 rfl rfl)
theorem dX8_leaves_69 : decode cX8_leaves 69 = .ok (.ifCond .ge 7, 3) := dk_156 0 7 (dk_at dksX8_leaves_2 21 rfl rfl)
theorem dX8_leaves_72 : decode cX8_leaves 72 = .ok (.iconst (-1), 1) := dk_2 (dk_at dksX8_leaves_3 0 rfl rfl)
theorem dX8_leaves_73 : decode cX8_leaves 73 = .ok (.goto 5, 3) := dk_167 0 5 (dk_at dksX8_leaves_3 1 rfl rfl)
theorem dX8_leaves_76 : decode cX8_leaves 76 = .ok (.iload 4, 2) := dk_21 4 (dk_at dksX8_leaves_3 4 rfl rfl)
theorem dX8_leaves_78 : decode cX8_leaves 78 = .ok (.iastore, 1) := dk_79 (dk_at dksX8_leaves_3 6 rfl rfl)
theorem dX8_leaves_79 : decode cX8_leaves 79 = .ok (.aload_n 0, 1) := dk_42 (dk_at dksX8_leaves_3 7 rfl rfl)
theorem dX8_leaves_80 : decode cX8_leaves 80 = .ok (.getfield 161, 3) := dk_180 0 161 (dk_at dksX8_leaves_3 8 rfl rfl)
theorem dX8_leaves_83 : decode cX8_leaves 83 = .ok (.bipush 48, 2) := dk_16 48 (dk_at dksX8_leaves_3 11 rfl rfl)
theorem dX8_leaves_85 : decode cX8_leaves 85 = .ok (.iload_n 1, 1) := dk_27 (dk_at dksX8_leaves_3 13 rfl rfl)
theorem dX8_leaves_86 : decode cX8_leaves 86 = .ok (.iadd, 1) := dk_96 (dk_at dksX8_leaves_3 14 rfl rfl)
theorem dX8_leaves_87 : decode cX8_leaves 87 = .ok (.iload_n 3, 1) := dk_29 (dk_at dksX8_leaves_3 15 rfl rfl)
theorem dX8_leaves_88 : decode cX8_leaves 88 = .ok (.ifCond .ge 7, 3) := dk_156 0 7 (dk_at dksX8_leaves_3 16 rfl rfl)
theorem dX8_leaves_91 : decode cX8_leaves 91 = .ok (.iconst (-1), 1) := dk_2 (dk_at dksX8_leaves_3 19 rfl rfl)
theorem dX8_leaves_92 : decode cX8_leaves 92 = .ok (.goto 4, 3) := dk_167 0 4 (dk_at dksX8_leaves_3 20 rfl rfl)
theorem dX8_leaves_95 : decode cX8_leaves 95 = .ok (.iload_n 3, 1) := dk_29 (dk_at dksX8_leaves_3 23 rfl rfl)
theorem dX8_leaves_96 : decode cX8_leaves 96 = .ok (.iastore, 1) := dk_79 (dk_at dksX8_leaves_4 0 rfl rfl)
theorem dX8_leaves_97 : decode cX8_leaves 97 = .ok (.iconst 1, 1) := dk_4 (dk_at dksX8_leaves_4 1 rfl rfl)
theorem dX8_leaves_98 : decode cX8_leaves 98 = .ok (.ireturn, 1) := dk_172 (dk_at dksX8_leaves_4 2 rfl rfl)
abbrev cX8_options : ByteArray := prog_22_method_82_code
def yX8_options : MethodName := ⟨RX8, "options", "()I"⟩
def dkwX8_options_1 : List UInt8 := [167, 255, 237, 27, 172]
abbrev dktX8_options_1 : List UInt8 := dkwX8_options_1 ++ []
def dkwX8_options_0 : List UInt8 := [4, 60, 3, 61, 28, 42, 182, 1, 121, 162, 0, 17, 27, 42, 28, 182, 1, 131, 96, 60, 132, 2, 1]
abbrev dktX8_options_0 : List UInt8 := dkwX8_options_0 ++ dktX8_options_1
theorem dksX8_options_0 : cX8_options.data.toList.drop 0 = dktX8_options_0 := by decide +kernel
theorem dksX8_options_1 : cX8_options.data.toList.drop 23 = dktX8_options_1 := dk_seg dksX8_options_0 23 rfl rfl
theorem dX8_options_0 : decode cX8_options 0 = .ok (.iconst 1, 1) := dk_4 (dk_at dksX8_options_0 0 rfl rfl)
theorem dX8_options_1 : decode cX8_options 1 = .ok (.istore_n 1, 1) := dk_60 (dk_at dksX8_options_0 1 rfl rfl)
theorem dX8_options_2 : decode cX8_options 2 = .ok (.iconst 0, 1) := dk_3 (dk_at dksX8_options_0 2 rfl rfl)
theorem dX8_options_3 : decode cX8_options 3 = .ok (.istore_n 2, 1) := dk_61 (dk_at dksX8_options_0 3 rfl rfl)
theorem dX8_options_4 : decode cX8_options 4 = .ok (.iload_n 2, 1) := dk_28 (dk_at dksX8_options_0 4 rfl rfl)
theorem dX8_options_5 : decode cX8_options 5 = .ok (.aload_n 0, 1) := dk_42 (dk_at dksX8_options_0 5 rfl rfl)
theorem dX8_options_6 : decode cX8_options 6 = .ok (.invokevirtual 377, 3) := dk_182 1 121 (dk_at dksX8_options_0 6 rfl rfl)
theorem dX8_options_9 : decode cX8_options 9 = .ok (.if_icmp .ge 17, 3) := dk_162 0 17 (dk_at dksX8_options_0 9 rfl rfl)
theorem dX8_options_12 : decode cX8_options 12 = .ok (.iload_n 1, 1) := dk_27 (dk_at dksX8_options_0 12 rfl rfl)
theorem dX8_options_13 : decode cX8_options 13 = .ok (.aload_n 0, 1) := dk_42 (dk_at dksX8_options_0 13 rfl rfl)
theorem dX8_options_14 : decode cX8_options 14 = .ok (.iload_n 2, 1) := dk_28 (dk_at dksX8_options_0 14 rfl rfl)
theorem dX8_options_15 : decode cX8_options 15 = .ok (.invokevirtual 387, 3) := dk_182 1 131 (dk_at dksX8_options_0 15 rfl rfl)
theorem dX8_options_18 : decode cX8_options 18 = .ok (.iadd, 1) := dk_96 (dk_at dksX8_options_0 18 rfl rfl)
theorem dX8_options_19 : decode cX8_options 19 = .ok (.istore_n 1, 1) := dk_60 (dk_at dksX8_options_0 19 rfl rfl)
theorem dX8_options_20 : decode cX8_options 20 = .ok (.iinc 2 1, 3) := dk_132 2 1 (dk_at dksX8_options_0 20 rfl rfl)
theorem dX8_options_23 : decode cX8_options 23 = .ok (.goto (-19), 3) := dk_167 255 237 (dk_at dksX8_options_1 0 rfl rfl)
theorem dX8_options_26 : decode cX8_options 26 = .ok (.iload_n 1, 1) := dk_27 (dk_at dksX8_options_1 3 rfl rfl)
theorem dX8_options_27 : decode cX8_options 27 = .ok (.ireturn, 1) := dk_172 (dk_at dksX8_options_1 4 rfl rfl)
abbrev cX8_codeOf : ByteArray := prog_22_method_83_code
def yX8_codeOf : MethodName := ⟨RX8, "codeOf", "(II)I"⟩
def dkwX8_codeOf_2 : List UInt8 := [172]
abbrev dktX8_codeOf_2 : List UInt8 := dkwX8_codeOf_2 ++ []
def dkwX8_codeOf_1 : List UInt8 := [180, 0, 161, 16, 42, 27, 96, 46, 104, 42, 180, 0, 161, 16, 48, 27, 96, 46, 96, 167, 0, 5, 16, 254]
abbrev dktX8_codeOf_1 : List UInt8 := dkwX8_codeOf_1 ++ dktX8_codeOf_2
def dkwX8_codeOf_0 : List UInt8 := [42, 27, 28, 182, 1, 205, 153, 0, 40, 42, 180, 0, 161, 16, 42, 27, 96, 46, 155, 0, 28, 16, 10, 42]
abbrev dktX8_codeOf_0 : List UInt8 := dkwX8_codeOf_0 ++ dktX8_codeOf_1
theorem dksX8_codeOf_0 : cX8_codeOf.data.toList.drop 0 = dktX8_codeOf_0 := by decide +kernel
theorem dksX8_codeOf_1 : cX8_codeOf.data.toList.drop 24 = dktX8_codeOf_1 := dk_seg dksX8_codeOf_0 24 rfl rfl
theorem dksX8_codeOf_2 : cX8_codeOf.data.toList.drop 48 = dktX8_codeOf_2 := dk_seg dksX8_codeOf_1 24 rfl rfl
theorem dX8_codeOf_0 : decode cX8_codeOf 0 = .ok (.aload_n 0, 1) := dk_42 (dk_at dksX8_codeOf_0 0 rfl rfl)
theorem dX8_codeOf_1 : decode cX8_codeOf 1 = .ok (.iload_n 1, 1) := dk_27 (dk_at dksX8_codeOf_0 1 rfl rfl)
theorem dX8_codeOf_2 : decode cX8_codeOf 2 = .ok (.iload_n 2, 1) := dk_28 (dk_at dksX8_codeOf_0 2 rfl rfl)
theorem dX8_codeOf_3 : decode cX8_codeOf 3 = .ok (.invokevirtual 461, 3) := dk_182 1 205 (dk_at dksX8_codeOf_0 3 rfl rfl)
theorem dX8_codeOf_6 : decode cX8_codeOf 6 = .ok (.ifCond .eq 40, 3) := dk_153 0 40 (dk_at dksX8_codeOf_0 6 rfl rfl)
theorem dX8_codeOf_9 : decode cX8_codeOf 9 = .ok (.aload_n 0, 1) := dk_42 (dk_at dksX8_codeOf_0 9 rfl rfl)
theorem dX8_codeOf_10 : decode cX8_codeOf 10 = .ok (.getfield 161, 3) := dk_180 0 161 (dk_at dksX8_codeOf_0 10 rfl rfl)
theorem dX8_codeOf_13 : decode cX8_codeOf 13 = .ok (.bipush 42, 2) := dk_16 42 (dk_at dksX8_codeOf_0 13 rfl rfl)
theorem dX8_codeOf_15 : decode cX8_codeOf 15 = .ok (.iload_n 1, 1) := dk_27 (dk_at dksX8_codeOf_0 15 rfl rfl)
theorem dX8_codeOf_16 : decode cX8_codeOf 16 = .ok (.iadd, 1) := dk_96 (dk_at dksX8_codeOf_0 16 rfl rfl)
theorem dX8_codeOf_17 : decode cX8_codeOf 17 = .ok (.iaload, 1) := dk_46 (dk_at dksX8_codeOf_0 17 rfl rfl)
theorem dX8_codeOf_18 : decode cX8_codeOf 18 = .ok (.ifCond .lt 28, 3) := dk_155 0 28 (dk_at dksX8_codeOf_0 18 rfl rfl)
theorem dX8_codeOf_21 : decode cX8_codeOf 21 = .ok (.bipush 10, 2) := dk_16 10 (dk_at dksX8_codeOf_0 21 rfl rfl)
theorem dX8_codeOf_23 : decode cX8_codeOf 23 = .ok (.aload_n 0, 1) := dk_42 (dk_at dksX8_codeOf_0 23 rfl rfl)
theorem dX8_codeOf_24 : decode cX8_codeOf 24 = .ok (.getfield 161, 3) := dk_180 0 161 (dk_at dksX8_codeOf_1 0 rfl rfl)
theorem dX8_codeOf_27 : decode cX8_codeOf 27 = .ok (.bipush 42, 2) := dk_16 42 (dk_at dksX8_codeOf_1 3 rfl rfl)
theorem dX8_codeOf_29 : decode cX8_codeOf 29 = .ok (.iload_n 1, 1) := dk_27 (dk_at dksX8_codeOf_1 5 rfl rfl)
theorem dX8_codeOf_30 : decode cX8_codeOf 30 = .ok (.iadd, 1) := dk_96 (dk_at dksX8_codeOf_1 6 rfl rfl)
theorem dX8_codeOf_31 : decode cX8_codeOf 31 = .ok (.iaload, 1) := dk_46 (dk_at dksX8_codeOf_1 7 rfl rfl)
theorem dX8_codeOf_32 : decode cX8_codeOf 32 = .ok (.imul, 1) := dk_104 (dk_at dksX8_codeOf_1 8 rfl rfl)
theorem dX8_codeOf_33 : decode cX8_codeOf 33 = .ok (.aload_n 0, 1) := dk_42 (dk_at dksX8_codeOf_1 9 rfl rfl)
theorem dX8_codeOf_34 : decode cX8_codeOf 34 = .ok (.getfield 161, 3) := dk_180 0 161 (dk_at dksX8_codeOf_1 10 rfl rfl)
theorem dX8_codeOf_37 : decode cX8_codeOf 37 = .ok (.bipush 48, 2) := dk_16 48 (dk_at dksX8_codeOf_1 13 rfl rfl)
theorem dX8_codeOf_39 : decode cX8_codeOf 39 = .ok (.iload_n 1, 1) := dk_27 (dk_at dksX8_codeOf_1 15 rfl rfl)
theorem dX8_codeOf_40 : decode cX8_codeOf 40 = .ok (.iadd, 1) := dk_96 (dk_at dksX8_codeOf_1 16 rfl rfl)
theorem dX8_codeOf_41 : decode cX8_codeOf 41 = .ok (.iaload, 1) := dk_46 (dk_at dksX8_codeOf_1 17 rfl rfl)
theorem dX8_codeOf_42 : decode cX8_codeOf 42 = .ok (.iadd, 1) := dk_96 (dk_at dksX8_codeOf_1 18 rfl rfl)
theorem dX8_codeOf_43 : decode cX8_codeOf 43 = .ok (.goto 5, 3) := dk_167 0 5 (dk_at dksX8_codeOf_1 19 rfl rfl)
theorem dX8_codeOf_46 : decode cX8_codeOf 46 = .ok (.bipush (-2), 2) := dk_16 254 (dk_at dksX8_codeOf_1 22 rfl rfl)
theorem dX8_codeOf_48 : decode cX8_codeOf 48 = .ok (.ireturn, 1) := dk_172 (dk_at dksX8_codeOf_2 0 rfl rfl)
abbrev cX8_bestOfTwo : ByteArray := prog_22_method_87_code
def yX8_bestOfTwo : MethodName := ⟨RX8, "bestOfTwo", "(III)I"⟩
def dkwX8_bestOfTwo_6 : List UInt8 := [4, 160, 0, 13, 42, 27, 21, 4, 182, 1, 220, 167, 0, 10, 42, 28, 21, 5, 182, 1, 220, 172]
abbrev dktX8_bestOfTwo_6 : List UInt8 := dkwX8_bestOfTwo_6 ++ []
def dkwX8_bestOfTwo_5 : List UInt8 := [54, 6, 132, 8, 1, 167, 255, 191, 132, 7, 1, 167, 255, 173, 29, 154, 0, 8, 21, 6, 167, 0, 25, 29]
abbrev dktX8_bestOfTwo_5 : List UInt8 := dkwX8_bestOfTwo_5 ++ dktX8_bestOfTwo_6
def dkwX8_bestOfTwo_4 : List UInt8 := [155, 0, 13, 21, 9, 21, 6, 163, 0, 6, 167, 0, 15, 21, 7, 54, 4, 21, 8, 54, 5, 21, 9]
abbrev dktX8_bestOfTwo_4 : List UInt8 := dkwX8_bestOfTwo_4 ++ dktX8_bestOfTwo_5
def dkwX8_bestOfTwo_3 : List UInt8 := [21, 7, 182, 1, 205, 87, 42, 28, 21, 8, 182, 1, 205, 87, 42, 182, 1, 202, 54, 9, 21, 4]
abbrev dktX8_bestOfTwo_3 : List UInt8 := dkwX8_bestOfTwo_3 ++ dktX8_bestOfTwo_4
def dkwX8_bestOfTwo_2 : List UInt8 := [182, 1, 214, 162, 0, 80, 3, 54, 8, 21, 8, 42, 182, 1, 214, 162, 0, 62, 42, 182, 1, 181, 42, 27]
abbrev dktX8_bestOfTwo_2 : List UInt8 := dkwX8_bestOfTwo_2 ++ dktX8_bestOfTwo_3
def dkwX8_bestOfTwo_1 : List UInt8 := [184, 1, 124, 154, 0, 5, 2, 172, 2, 54, 4, 3, 54, 5, 3, 54, 6, 3, 54, 7, 21, 7, 42]
abbrev dktX8_bestOfTwo_1 : List UInt8 := dkwX8_bestOfTwo_1 ++ dktX8_bestOfTwo_2
def dkwX8_bestOfTwo_0 : List UInt8 := [42, 27, 182, 1, 190, 153, 0, 25, 42, 28, 182, 1, 190, 153, 0, 17, 27, 28, 159, 0, 12, 29, 3, 5]
abbrev dktX8_bestOfTwo_0 : List UInt8 := dkwX8_bestOfTwo_0 ++ dktX8_bestOfTwo_1
theorem dksX8_bestOfTwo_0 : cX8_bestOfTwo.data.toList.drop 0 = dktX8_bestOfTwo_0 := by decide +kernel
theorem dksX8_bestOfTwo_1 : cX8_bestOfTwo.data.toList.drop 24 = dktX8_bestOfTwo_1 := dk_seg dksX8_bestOfTwo_0 24 rfl rfl
theorem dksX8_bestOfTwo_2 : cX8_bestOfTwo.data.toList.drop 47 = dktX8_bestOfTwo_2 := dk_seg dksX8_bestOfTwo_1 23 rfl rfl
theorem dksX8_bestOfTwo_3 : cX8_bestOfTwo.data.toList.drop 71 = dktX8_bestOfTwo_3 := dk_seg dksX8_bestOfTwo_2 24 rfl rfl
theorem dksX8_bestOfTwo_4 : cX8_bestOfTwo.data.toList.drop 93 = dktX8_bestOfTwo_4 := dk_seg dksX8_bestOfTwo_3 22 rfl rfl
theorem dksX8_bestOfTwo_5 : cX8_bestOfTwo.data.toList.drop 116 = dktX8_bestOfTwo_5 := dk_seg dksX8_bestOfTwo_4 23 rfl rfl
theorem dksX8_bestOfTwo_6 : cX8_bestOfTwo.data.toList.drop 140 = dktX8_bestOfTwo_6 := dk_seg dksX8_bestOfTwo_5 24 rfl rfl
theorem dX8_bestOfTwo_0 : decode cX8_bestOfTwo 0 = .ok (.aload_n 0, 1) := dk_42 (dk_at dksX8_bestOfTwo_0 0 rfl rfl)
theorem dX8_bestOfTwo_1 : decode cX8_bestOfTwo 1 = .ok (.iload_n 1, 1) := dk_27 (dk_at dksX8_bestOfTwo_0 1 rfl rfl)
theorem dX8_bestOfTwo_2 : decode cX8_bestOfTwo 2 = .ok (.invokevirtual 446, 3) := dk_182 1 190 (dk_at dksX8_bestOfTwo_0 2 rfl rfl)
theorem dX8_bestOfTwo_5 : decode cX8_bestOfTwo 5 = .ok (.ifCond .eq 25, 3) := dk_153 0 25 (dk_at dksX8_bestOfTwo_0 5 rfl rfl)
theorem dX8_bestOfTwo_8 : decode cX8_bestOfTwo 8 = .ok (.aload_n 0, 1) := dk_42 (dk_at dksX8_bestOfTwo_0 8 rfl rfl)
theorem dX8_bestOfTwo_9 : decode cX8_bestOfTwo 9 = .ok (.iload_n 2, 1) := dk_28 (dk_at dksX8_bestOfTwo_0 9 rfl rfl)
theorem dX8_bestOfTwo_10 : decode cX8_bestOfTwo 10 = .ok (.invokevirtual 446, 3) := dk_182 1 190 (dk_at dksX8_bestOfTwo_0 10 rfl rfl)
theorem dX8_bestOfTwo_13 : decode cX8_bestOfTwo 13 = .ok (.ifCond .eq 17, 3) := dk_153 0 17 (dk_at dksX8_bestOfTwo_0 13 rfl rfl)
theorem dX8_bestOfTwo_16 : decode cX8_bestOfTwo 16 = .ok (.iload_n 1, 1) := dk_27 (dk_at dksX8_bestOfTwo_0 16 rfl rfl)
theorem dX8_bestOfTwo_17 : decode cX8_bestOfTwo 17 = .ok (.iload_n 2, 1) := dk_28 (dk_at dksX8_bestOfTwo_0 17 rfl rfl)
theorem dX8_bestOfTwo_18 : decode cX8_bestOfTwo 18 = .ok (.if_icmp .eq 12, 3) := dk_159 0 12 (dk_at dksX8_bestOfTwo_0 18 rfl rfl)
theorem dX8_bestOfTwo_21 : decode cX8_bestOfTwo 21 = .ok (.iload_n 3, 1) := dk_29 (dk_at dksX8_bestOfTwo_0 21 rfl rfl)
theorem dX8_bestOfTwo_22 : decode cX8_bestOfTwo 22 = .ok (.iconst 0, 1) := dk_3 (dk_at dksX8_bestOfTwo_0 22 rfl rfl)
theorem dX8_bestOfTwo_23 : decode cX8_bestOfTwo 23 = .ok (.iconst 2, 1) := dk_5 (dk_at dksX8_bestOfTwo_0 23 rfl rfl)
theorem dX8_bestOfTwo_24 : decode cX8_bestOfTwo 24 = .ok (.invokestatic 380, 3) := dk_184 1 124 (dk_at dksX8_bestOfTwo_1 0 rfl rfl)
theorem dX8_bestOfTwo_27 : decode cX8_bestOfTwo 27 = .ok (.ifCond .ne 5, 3) := dk_154 0 5 (dk_at dksX8_bestOfTwo_1 3 rfl rfl)
theorem dX8_bestOfTwo_30 : decode cX8_bestOfTwo 30 = .ok (.iconst (-1), 1) := dk_2 (dk_at dksX8_bestOfTwo_1 6 rfl rfl)
theorem dX8_bestOfTwo_31 : decode cX8_bestOfTwo 31 = .ok (.ireturn, 1) := dk_172 (dk_at dksX8_bestOfTwo_1 7 rfl rfl)
theorem dX8_bestOfTwo_32 : decode cX8_bestOfTwo 32 = .ok (.iconst (-1), 1) := dk_2 (dk_at dksX8_bestOfTwo_1 8 rfl rfl)
theorem dX8_bestOfTwo_33 : decode cX8_bestOfTwo 33 = .ok (.istore 4, 2) := dk_54 4 (dk_at dksX8_bestOfTwo_1 9 rfl rfl)
theorem dX8_bestOfTwo_35 : decode cX8_bestOfTwo 35 = .ok (.iconst 0, 1) := dk_3 (dk_at dksX8_bestOfTwo_1 11 rfl rfl)
theorem dX8_bestOfTwo_36 : decode cX8_bestOfTwo 36 = .ok (.istore 5, 2) := dk_54 5 (dk_at dksX8_bestOfTwo_1 12 rfl rfl)
theorem dX8_bestOfTwo_38 : decode cX8_bestOfTwo 38 = .ok (.iconst 0, 1) := dk_3 (dk_at dksX8_bestOfTwo_1 14 rfl rfl)
theorem dX8_bestOfTwo_39 : decode cX8_bestOfTwo 39 = .ok (.istore 6, 2) := dk_54 6 (dk_at dksX8_bestOfTwo_1 15 rfl rfl)
theorem dX8_bestOfTwo_41 : decode cX8_bestOfTwo 41 = .ok (.iconst 0, 1) := dk_3 (dk_at dksX8_bestOfTwo_1 17 rfl rfl)
theorem dX8_bestOfTwo_42 : decode cX8_bestOfTwo 42 = .ok (.istore 7, 2) := dk_54 7 (dk_at dksX8_bestOfTwo_1 18 rfl rfl)
theorem dX8_bestOfTwo_44 : decode cX8_bestOfTwo 44 = .ok (.iload 7, 2) := dk_21 7 (dk_at dksX8_bestOfTwo_1 20 rfl rfl)
theorem dX8_bestOfTwo_46 : decode cX8_bestOfTwo 46 = .ok (.aload_n 0, 1) := dk_42 (dk_at dksX8_bestOfTwo_1 22 rfl rfl)
theorem dX8_bestOfTwo_47 : decode cX8_bestOfTwo 47 = .ok (.invokevirtual 470, 3) := dk_182 1 214 (dk_at dksX8_bestOfTwo_2 0 rfl rfl)
theorem dX8_bestOfTwo_50 : decode cX8_bestOfTwo 50 = .ok (.if_icmp .ge 80, 3) := dk_162 0 80 (dk_at dksX8_bestOfTwo_2 3 rfl rfl)
theorem dX8_bestOfTwo_53 : decode cX8_bestOfTwo 53 = .ok (.iconst 0, 1) := dk_3 (dk_at dksX8_bestOfTwo_2 6 rfl rfl)
theorem dX8_bestOfTwo_54 : decode cX8_bestOfTwo 54 = .ok (.istore 8, 2) := dk_54 8 (dk_at dksX8_bestOfTwo_2 7 rfl rfl)
theorem dX8_bestOfTwo_56 : decode cX8_bestOfTwo 56 = .ok (.iload 8, 2) := dk_21 8 (dk_at dksX8_bestOfTwo_2 9 rfl rfl)
theorem dX8_bestOfTwo_58 : decode cX8_bestOfTwo 58 = .ok (.aload_n 0, 1) := dk_42 (dk_at dksX8_bestOfTwo_2 11 rfl rfl)
theorem dX8_bestOfTwo_59 : decode cX8_bestOfTwo 59 = .ok (.invokevirtual 470, 3) := dk_182 1 214 (dk_at dksX8_bestOfTwo_2 12 rfl rfl)
theorem dX8_bestOfTwo_62 : decode cX8_bestOfTwo 62 = .ok (.if_icmp .ge 62, 3) := dk_162 0 62 (dk_at dksX8_bestOfTwo_2 15 rfl rfl)
theorem dX8_bestOfTwo_65 : decode cX8_bestOfTwo 65 = .ok (.aload_n 0, 1) := dk_42 (dk_at dksX8_bestOfTwo_2 18 rfl rfl)
theorem dX8_bestOfTwo_66 : decode cX8_bestOfTwo 66 = .ok (.invokevirtual 437, 3) := dk_182 1 181 (dk_at dksX8_bestOfTwo_2 19 rfl rfl)
theorem dX8_bestOfTwo_69 : decode cX8_bestOfTwo 69 = .ok (.aload_n 0, 1) := dk_42 (dk_at dksX8_bestOfTwo_2 22 rfl rfl)
theorem dX8_bestOfTwo_70 : decode cX8_bestOfTwo 70 = .ok (.iload_n 1, 1) := dk_27 (dk_at dksX8_bestOfTwo_2 23 rfl rfl)
theorem dX8_bestOfTwo_71 : decode cX8_bestOfTwo 71 = .ok (.iload 7, 2) := dk_21 7 (dk_at dksX8_bestOfTwo_3 0 rfl rfl)
theorem dX8_bestOfTwo_73 : decode cX8_bestOfTwo 73 = .ok (.invokevirtual 461, 3) := dk_182 1 205 (dk_at dksX8_bestOfTwo_3 2 rfl rfl)
theorem dX8_bestOfTwo_76 : decode cX8_bestOfTwo 76 = .ok (.pop, 1) := dk_87 (dk_at dksX8_bestOfTwo_3 5 rfl rfl)
theorem dX8_bestOfTwo_77 : decode cX8_bestOfTwo 77 = .ok (.aload_n 0, 1) := dk_42 (dk_at dksX8_bestOfTwo_3 6 rfl rfl)
theorem dX8_bestOfTwo_78 : decode cX8_bestOfTwo 78 = .ok (.iload_n 2, 1) := dk_28 (dk_at dksX8_bestOfTwo_3 7 rfl rfl)
theorem dX8_bestOfTwo_79 : decode cX8_bestOfTwo 79 = .ok (.iload 8, 2) := dk_21 8 (dk_at dksX8_bestOfTwo_3 8 rfl rfl)
theorem dX8_bestOfTwo_81 : decode cX8_bestOfTwo 81 = .ok (.invokevirtual 461, 3) := dk_182 1 205 (dk_at dksX8_bestOfTwo_3 10 rfl rfl)
theorem dX8_bestOfTwo_84 : decode cX8_bestOfTwo 84 = .ok (.pop, 1) := dk_87 (dk_at dksX8_bestOfTwo_3 13 rfl rfl)
theorem dX8_bestOfTwo_85 : decode cX8_bestOfTwo 85 = .ok (.aload_n 0, 1) := dk_42 (dk_at dksX8_bestOfTwo_3 14 rfl rfl)
theorem dX8_bestOfTwo_86 : decode cX8_bestOfTwo 86 = .ok (.invokevirtual 458, 3) := dk_182 1 202 (dk_at dksX8_bestOfTwo_3 15 rfl rfl)
theorem dX8_bestOfTwo_89 : decode cX8_bestOfTwo 89 = .ok (.istore 9, 2) := dk_54 9 (dk_at dksX8_bestOfTwo_3 18 rfl rfl)
theorem dX8_bestOfTwo_91 : decode cX8_bestOfTwo 91 = .ok (.iload 4, 2) := dk_21 4 (dk_at dksX8_bestOfTwo_3 20 rfl rfl)
theorem dX8_bestOfTwo_93 : decode cX8_bestOfTwo 93 = .ok (.ifCond .lt 13, 3) := dk_155 0 13 (dk_at dksX8_bestOfTwo_4 0 rfl rfl)
theorem dX8_bestOfTwo_96 : decode cX8_bestOfTwo 96 = .ok (.iload 9, 2) := dk_21 9 (dk_at dksX8_bestOfTwo_4 3 rfl rfl)
theorem dX8_bestOfTwo_98 : decode cX8_bestOfTwo 98 = .ok (.iload 6, 2) := dk_21 6 (dk_at dksX8_bestOfTwo_4 5 rfl rfl)
theorem dX8_bestOfTwo_100 : decode cX8_bestOfTwo 100 = .ok (.if_icmp .gt 6, 3) := dk_163 0 6 (dk_at dksX8_bestOfTwo_4 7 rfl rfl)
theorem dX8_bestOfTwo_103 : decode cX8_bestOfTwo 103 = .ok (.goto 15, 3) := dk_167 0 15 (dk_at dksX8_bestOfTwo_4 10 rfl rfl)
theorem dX8_bestOfTwo_106 : decode cX8_bestOfTwo 106 = .ok (.iload 7, 2) := dk_21 7 (dk_at dksX8_bestOfTwo_4 13 rfl rfl)
theorem dX8_bestOfTwo_108 : decode cX8_bestOfTwo 108 = .ok (.istore 4, 2) := dk_54 4 (dk_at dksX8_bestOfTwo_4 15 rfl rfl)
theorem dX8_bestOfTwo_110 : decode cX8_bestOfTwo 110 = .ok (.iload 8, 2) := dk_21 8 (dk_at dksX8_bestOfTwo_4 17 rfl rfl)
theorem dX8_bestOfTwo_112 : decode cX8_bestOfTwo 112 = .ok (.istore 5, 2) := dk_54 5 (dk_at dksX8_bestOfTwo_4 19 rfl rfl)
theorem dX8_bestOfTwo_114 : decode cX8_bestOfTwo 114 = .ok (.iload 9, 2) := dk_21 9 (dk_at dksX8_bestOfTwo_4 21 rfl rfl)
theorem dX8_bestOfTwo_116 : decode cX8_bestOfTwo 116 = .ok (.istore 6, 2) := dk_54 6 (dk_at dksX8_bestOfTwo_5 0 rfl rfl)
theorem dX8_bestOfTwo_118 : decode cX8_bestOfTwo 118 = .ok (.iinc 8 1, 3) := dk_132 8 1 (dk_at dksX8_bestOfTwo_5 2 rfl rfl)
theorem dX8_bestOfTwo_121 : decode cX8_bestOfTwo 121 = .ok (.goto (-65), 3) := dk_167 255 191 (dk_at dksX8_bestOfTwo_5 5 rfl rfl)
theorem dX8_bestOfTwo_124 : decode cX8_bestOfTwo 124 = .ok (.iinc 7 1, 3) := dk_132 7 1 (dk_at dksX8_bestOfTwo_5 8 rfl rfl)
theorem dX8_bestOfTwo_127 : decode cX8_bestOfTwo 127 = .ok (.goto (-83), 3) := dk_167 255 173 (dk_at dksX8_bestOfTwo_5 11 rfl rfl)
theorem dX8_bestOfTwo_130 : decode cX8_bestOfTwo 130 = .ok (.iload_n 3, 1) := dk_29 (dk_at dksX8_bestOfTwo_5 14 rfl rfl)
theorem dX8_bestOfTwo_131 : decode cX8_bestOfTwo 131 = .ok (.ifCond .ne 8, 3) := dk_154 0 8 (dk_at dksX8_bestOfTwo_5 15 rfl rfl)
theorem dX8_bestOfTwo_134 : decode cX8_bestOfTwo 134 = .ok (.iload 6, 2) := dk_21 6 (dk_at dksX8_bestOfTwo_5 18 rfl rfl)
theorem dX8_bestOfTwo_136 : decode cX8_bestOfTwo 136 = .ok (.goto 25, 3) := dk_167 0 25 (dk_at dksX8_bestOfTwo_5 20 rfl rfl)
theorem dX8_bestOfTwo_139 : decode cX8_bestOfTwo 139 = .ok (.iload_n 3, 1) := dk_29 (dk_at dksX8_bestOfTwo_5 23 rfl rfl)
theorem dX8_bestOfTwo_140 : decode cX8_bestOfTwo 140 = .ok (.iconst 1, 1) := dk_4 (dk_at dksX8_bestOfTwo_6 0 rfl rfl)
theorem dX8_bestOfTwo_141 : decode cX8_bestOfTwo 141 = .ok (.if_icmp .ne 13, 3) := dk_160 0 13 (dk_at dksX8_bestOfTwo_6 1 rfl rfl)
theorem dX8_bestOfTwo_144 : decode cX8_bestOfTwo 144 = .ok (.aload_n 0, 1) := dk_42 (dk_at dksX8_bestOfTwo_6 4 rfl rfl)
theorem dX8_bestOfTwo_145 : decode cX8_bestOfTwo 145 = .ok (.iload_n 1, 1) := dk_27 (dk_at dksX8_bestOfTwo_6 5 rfl rfl)
theorem dX8_bestOfTwo_146 : decode cX8_bestOfTwo 146 = .ok (.iload 4, 2) := dk_21 4 (dk_at dksX8_bestOfTwo_6 6 rfl rfl)
theorem dX8_bestOfTwo_148 : decode cX8_bestOfTwo 148 = .ok (.invokevirtual 476, 3) := dk_182 1 220 (dk_at dksX8_bestOfTwo_6 8 rfl rfl)
theorem dX8_bestOfTwo_151 : decode cX8_bestOfTwo 151 = .ok (.goto 10, 3) := dk_167 0 10 (dk_at dksX8_bestOfTwo_6 11 rfl rfl)
theorem dX8_bestOfTwo_154 : decode cX8_bestOfTwo 154 = .ok (.aload_n 0, 1) := dk_42 (dk_at dksX8_bestOfTwo_6 14 rfl rfl)
theorem dX8_bestOfTwo_155 : decode cX8_bestOfTwo 155 = .ok (.iload_n 2, 1) := dk_28 (dk_at dksX8_bestOfTwo_6 15 rfl rfl)
theorem dX8_bestOfTwo_156 : decode cX8_bestOfTwo 156 = .ok (.iload 5, 2) := dk_21 5 (dk_at dksX8_bestOfTwo_6 16 rfl rfl)
theorem dX8_bestOfTwo_158 : decode cX8_bestOfTwo 158 = .ok (.invokevirtual 476, 3) := dk_182 1 220 (dk_at dksX8_bestOfTwo_6 18 rfl rfl)
theorem dX8_bestOfTwo_161 : decode cX8_bestOfTwo 161 = .ok (.ireturn, 1) := dk_172 (dk_at dksX8_bestOfTwo_6 21 rfl rfl)
abbrev cX8_hire : ByteArray := prog_22_method_88_code
def yX8_hire : MethodName := ⟨RX8, "hire", "(I)I"⟩
def dkwX8_hire_1 : List UInt8 := [3, 182, 1, 208, 100, 172]
abbrev dktX8_hire_1 : List UInt8 := dkwX8_hire_1 ++ []
def dkwX8_hire_0 : List UInt8 := [42, 27, 182, 1, 190, 154, 0, 7, 19, 1, 223, 172, 42, 27, 182, 1, 217, 87, 42, 180, 1, 211, 42, 27]
abbrev dktX8_hire_0 : List UInt8 := dkwX8_hire_0 ++ dktX8_hire_1
theorem dksX8_hire_0 : cX8_hire.data.toList.drop 0 = dktX8_hire_0 := by decide +kernel
theorem dksX8_hire_1 : cX8_hire.data.toList.drop 24 = dktX8_hire_1 := dk_seg dksX8_hire_0 24 rfl rfl
theorem dX8_hire_0 : decode cX8_hire 0 = .ok (.aload_n 0, 1) := dk_42 (dk_at dksX8_hire_0 0 rfl rfl)
theorem dX8_hire_1 : decode cX8_hire 1 = .ok (.iload_n 1, 1) := dk_27 (dk_at dksX8_hire_0 1 rfl rfl)
theorem dX8_hire_2 : decode cX8_hire 2 = .ok (.invokevirtual 446, 3) := dk_182 1 190 (dk_at dksX8_hire_0 2 rfl rfl)
theorem dX8_hire_5 : decode cX8_hire 5 = .ok (.ifCond .ne 7, 3) := dk_154 0 7 (dk_at dksX8_hire_0 5 rfl rfl)
theorem dX8_hire_8 : decode cX8_hire 8 = .ok (.ldc_w 479, 3) := dk_19 1 223 (dk_at dksX8_hire_0 8 rfl rfl)
theorem dX8_hire_11 : decode cX8_hire 11 = .ok (.ireturn, 1) := dk_172 (dk_at dksX8_hire_0 11 rfl rfl)
theorem dX8_hire_12 : decode cX8_hire 12 = .ok (.aload_n 0, 1) := dk_42 (dk_at dksX8_hire_0 12 rfl rfl)
theorem dX8_hire_13 : decode cX8_hire 13 = .ok (.iload_n 1, 1) := dk_27 (dk_at dksX8_hire_0 13 rfl rfl)
theorem dX8_hire_14 : decode cX8_hire 14 = .ok (.invokevirtual 473, 3) := dk_182 1 217 (dk_at dksX8_hire_0 14 rfl rfl)
theorem dX8_hire_17 : decode cX8_hire 17 = .ok (.pop, 1) := dk_87 (dk_at dksX8_hire_0 17 rfl rfl)
theorem dX8_hire_18 : decode cX8_hire 18 = .ok (.aload_n 0, 1) := dk_42 (dk_at dksX8_hire_0 18 rfl rfl)
theorem dX8_hire_19 : decode cX8_hire 19 = .ok (.getfield 467, 3) := dk_180 1 211 (dk_at dksX8_hire_0 19 rfl rfl)
theorem dX8_hire_22 : decode cX8_hire 22 = .ok (.aload_n 0, 1) := dk_42 (dk_at dksX8_hire_0 22 rfl rfl)
theorem dX8_hire_23 : decode cX8_hire 23 = .ok (.iload_n 1, 1) := dk_27 (dk_at dksX8_hire_0 23 rfl rfl)
theorem dX8_hire_24 : decode cX8_hire 24 = .ok (.iconst 0, 1) := dk_3 (dk_at dksX8_hire_1 0 rfl rfl)
theorem dX8_hire_25 : decode cX8_hire 25 = .ok (.invokevirtual 464, 3) := dk_182 1 208 (dk_at dksX8_hire_1 1 rfl rfl)
theorem dX8_hire_28 : decode cX8_hire 28 = .ok (.isub, 1) := dk_100 (dk_at dksX8_hire_1 4 rfl rfl)
theorem dX8_hire_29 : decode cX8_hire 29 = .ok (.ireturn, 1) := dk_172 (dk_at dksX8_hire_1 5 rfl rfl)
abbrev cX8_hide : ByteArray := prog_22_method_89_code
def yX8_hide : MethodName := ⟨RX8, "hide", "(II)I"⟩
def dkwX8_hide_6 : List UInt8 := [167, 255, 156, 28, 154, 0, 8, 21, 4, 167, 0, 4, 29, 172]
abbrev dktX8_hide_6 : List UInt8 := dkwX8_hide_6 ++ []
def dkwX8_hide_5 : List UInt8 := [155, 0, 13, 21, 7, 21, 4, 163, 0, 6, 167, 0, 10, 21, 6, 62, 21, 7, 54, 4, 132, 5, 1]
abbrev dktX8_hide_5 : List UInt8 := dkwX8_hide_5 ++ dktX8_hide_6
def dkwX8_hide_4 : List UInt8 := [54, 6, 42, 182, 1, 181, 42, 180, 0, 161, 16, 72, 27, 96, 21, 6, 79, 42, 182, 1, 202, 54, 7, 29]
abbrev dktX8_hide_4 : List UInt8 := dkwX8_hide_4 ++ dktX8_hide_5
def dkwX8_hide_3 : List UInt8 := [162, 0, 8, 21, 5, 167, 0, 18, 16, 100, 21, 5, 96, 42, 180, 0, 49, 42, 180, 1, 22, 46, 100]
abbrev dktX8_hide_3 : List UInt8 := dkwX8_hide_3 ++ dktX8_hide_4
def dkwX8_hide_2 : List UInt8 := [180, 1, 22, 46, 42, 182, 1, 134, 96, 162, 0, 87, 21, 5, 42, 180, 0, 49, 42, 180, 1, 22, 46]
abbrev dktX8_hide_2 : List UInt8 := dkwX8_hide_2 ++ dktX8_hide_3
def dkwX8_hide_1 : List UInt8 := [180, 1, 22, 46, 154, 0, 5, 2, 172, 2, 62, 3, 54, 4, 3, 54, 5, 21, 5, 42, 180, 0, 49, 42]
abbrev dktX8_hide_1 : List UInt8 := dkwX8_hide_1 ++ dktX8_hide_2
def dkwX8_hide_0 : List UInt8 := [42, 27, 182, 1, 193, 153, 0, 24, 28, 3, 4, 184, 1, 124, 153, 0, 15, 42, 180, 0, 49, 42]
abbrev dktX8_hide_0 : List UInt8 := dkwX8_hide_0 ++ dktX8_hide_1
theorem dksX8_hide_0 : cX8_hide.data.toList.drop 0 = dktX8_hide_0 := by decide +kernel
theorem dksX8_hide_1 : cX8_hide.data.toList.drop 22 = dktX8_hide_1 := dk_seg dksX8_hide_0 22 rfl rfl
theorem dksX8_hide_2 : cX8_hide.data.toList.drop 46 = dktX8_hide_2 := dk_seg dksX8_hide_1 24 rfl rfl
theorem dksX8_hide_3 : cX8_hide.data.toList.drop 69 = dktX8_hide_3 := dk_seg dksX8_hide_2 23 rfl rfl
theorem dksX8_hide_4 : cX8_hide.data.toList.drop 92 = dktX8_hide_4 := dk_seg dksX8_hide_3 23 rfl rfl
theorem dksX8_hide_5 : cX8_hide.data.toList.drop 116 = dktX8_hide_5 := dk_seg dksX8_hide_4 24 rfl rfl
theorem dksX8_hide_6 : cX8_hide.data.toList.drop 139 = dktX8_hide_6 := dk_seg dksX8_hide_5 23 rfl rfl
theorem dX8_hide_0 : decode cX8_hide 0 = .ok (.aload_n 0, 1) := dk_42 (dk_at dksX8_hide_0 0 rfl rfl)
theorem dX8_hide_1 : decode cX8_hide 1 = .ok (.iload_n 1, 1) := dk_27 (dk_at dksX8_hide_0 1 rfl rfl)
theorem dX8_hide_2 : decode cX8_hide 2 = .ok (.invokevirtual 449, 3) := dk_182 1 193 (dk_at dksX8_hide_0 2 rfl rfl)
theorem dX8_hide_5 : decode cX8_hide 5 = .ok (.ifCond .eq 24, 3) := dk_153 0 24 (dk_at dksX8_hide_0 5 rfl rfl)
theorem dX8_hide_8 : decode cX8_hide 8 = .ok (.iload_n 2, 1) := dk_28 (dk_at dksX8_hide_0 8 rfl rfl)
theorem dX8_hide_9 : decode cX8_hide 9 = .ok (.iconst 0, 1) := dk_3 (dk_at dksX8_hide_0 9 rfl rfl)
theorem dX8_hide_10 : decode cX8_hide 10 = .ok (.iconst 1, 1) := dk_4 (dk_at dksX8_hide_0 10 rfl rfl)
theorem dX8_hide_11 : decode cX8_hide 11 = .ok (.invokestatic 380, 3) := dk_184 1 124 (dk_at dksX8_hide_0 11 rfl rfl)
theorem dX8_hide_14 : decode cX8_hide 14 = .ok (.ifCond .eq 15, 3) := dk_153 0 15 (dk_at dksX8_hide_0 14 rfl rfl)
theorem dX8_hide_17 : decode cX8_hide 17 = .ok (.aload_n 0, 1) := dk_42 (dk_at dksX8_hide_0 17 rfl rfl)
theorem dX8_hide_18 : decode cX8_hide 18 = .ok (.getfield 49, 3) := dk_180 0 49 (dk_at dksX8_hide_0 18 rfl rfl)
theorem dX8_hide_21 : decode cX8_hide 21 = .ok (.aload_n 0, 1) := dk_42 (dk_at dksX8_hide_0 21 rfl rfl)
theorem dX8_hide_22 : decode cX8_hide 22 = .ok (.getfield 278, 3) := dk_180 1 22 (dk_at dksX8_hide_1 0 rfl rfl)
theorem dX8_hide_25 : decode cX8_hide 25 = .ok (.iaload, 1) := dk_46 (dk_at dksX8_hide_1 3 rfl rfl)
theorem dX8_hide_26 : decode cX8_hide 26 = .ok (.ifCond .ne 5, 3) := dk_154 0 5 (dk_at dksX8_hide_1 4 rfl rfl)
theorem dX8_hide_29 : decode cX8_hide 29 = .ok (.iconst (-1), 1) := dk_2 (dk_at dksX8_hide_1 7 rfl rfl)
theorem dX8_hide_30 : decode cX8_hide 30 = .ok (.ireturn, 1) := dk_172 (dk_at dksX8_hide_1 8 rfl rfl)
theorem dX8_hide_31 : decode cX8_hide 31 = .ok (.iconst (-1), 1) := dk_2 (dk_at dksX8_hide_1 9 rfl rfl)
theorem dX8_hide_32 : decode cX8_hide 32 = .ok (.istore_n 3, 1) := dk_62 (dk_at dksX8_hide_1 10 rfl rfl)
theorem dX8_hide_33 : decode cX8_hide 33 = .ok (.iconst 0, 1) := dk_3 (dk_at dksX8_hide_1 11 rfl rfl)
theorem dX8_hide_34 : decode cX8_hide 34 = .ok (.istore 4, 2) := dk_54 4 (dk_at dksX8_hide_1 12 rfl rfl)
theorem dX8_hide_36 : decode cX8_hide 36 = .ok (.iconst 0, 1) := dk_3 (dk_at dksX8_hide_1 14 rfl rfl)
theorem dX8_hide_37 : decode cX8_hide 37 = .ok (.istore 5, 2) := dk_54 5 (dk_at dksX8_hide_1 15 rfl rfl)
theorem dX8_hide_39 : decode cX8_hide 39 = .ok (.iload 5, 2) := dk_21 5 (dk_at dksX8_hide_1 17 rfl rfl)
theorem dX8_hide_41 : decode cX8_hide 41 = .ok (.aload_n 0, 1) := dk_42 (dk_at dksX8_hide_1 19 rfl rfl)
theorem dX8_hide_42 : decode cX8_hide 42 = .ok (.getfield 49, 3) := dk_180 0 49 (dk_at dksX8_hide_1 20 rfl rfl)
theorem dX8_hide_45 : decode cX8_hide 45 = .ok (.aload_n 0, 1) := dk_42 (dk_at dksX8_hide_1 23 rfl rfl)
theorem dX8_hide_46 : decode cX8_hide 46 = .ok (.getfield 278, 3) := dk_180 1 22 (dk_at dksX8_hide_2 0 rfl rfl)
theorem dX8_hide_49 : decode cX8_hide 49 = .ok (.iaload, 1) := dk_46 (dk_at dksX8_hide_2 3 rfl rfl)
theorem dX8_hide_50 : decode cX8_hide 50 = .ok (.aload_n 0, 1) := dk_42 (dk_at dksX8_hide_2 4 rfl rfl)
theorem dX8_hide_51 : decode cX8_hide 51 = .ok (.invokevirtual 390, 3) := dk_182 1 134 (dk_at dksX8_hide_2 5 rfl rfl)
theorem dX8_hide_54 : decode cX8_hide 54 = .ok (.iadd, 1) := dk_96 (dk_at dksX8_hide_2 8 rfl rfl)
theorem dX8_hide_55 : decode cX8_hide 55 = .ok (.if_icmp .ge 87, 3) := dk_162 0 87 (dk_at dksX8_hide_2 9 rfl rfl)
theorem dX8_hide_58 : decode cX8_hide 58 = .ok (.iload 5, 2) := dk_21 5 (dk_at dksX8_hide_2 12 rfl rfl)
theorem dX8_hide_60 : decode cX8_hide 60 = .ok (.aload_n 0, 1) := dk_42 (dk_at dksX8_hide_2 14 rfl rfl)
theorem dX8_hide_61 : decode cX8_hide 61 = .ok (.getfield 49, 3) := dk_180 0 49 (dk_at dksX8_hide_2 15 rfl rfl)
theorem dX8_hide_64 : decode cX8_hide 64 = .ok (.aload_n 0, 1) := dk_42 (dk_at dksX8_hide_2 18 rfl rfl)
theorem dX8_hide_65 : decode cX8_hide 65 = .ok (.getfield 278, 3) := dk_180 1 22 (dk_at dksX8_hide_2 19 rfl rfl)
theorem dX8_hide_68 : decode cX8_hide 68 = .ok (.iaload, 1) := dk_46 (dk_at dksX8_hide_2 22 rfl rfl)
theorem dX8_hide_69 : decode cX8_hide 69 = .ok (.if_icmp .ge 8, 3) := dk_162 0 8 (dk_at dksX8_hide_3 0 rfl rfl)
theorem dX8_hide_72 : decode cX8_hide 72 = .ok (.iload 5, 2) := dk_21 5 (dk_at dksX8_hide_3 3 rfl rfl)
theorem dX8_hide_74 : decode cX8_hide 74 = .ok (.goto 18, 3) := dk_167 0 18 (dk_at dksX8_hide_3 5 rfl rfl)
theorem dX8_hide_77 : decode cX8_hide 77 = .ok (.bipush 100, 2) := dk_16 100 (dk_at dksX8_hide_3 8 rfl rfl)
theorem dX8_hide_79 : decode cX8_hide 79 = .ok (.iload 5, 2) := dk_21 5 (dk_at dksX8_hide_3 10 rfl rfl)
theorem dX8_hide_81 : decode cX8_hide 81 = .ok (.iadd, 1) := dk_96 (dk_at dksX8_hide_3 12 rfl rfl)
theorem dX8_hide_82 : decode cX8_hide 82 = .ok (.aload_n 0, 1) := dk_42 (dk_at dksX8_hide_3 13 rfl rfl)
theorem dX8_hide_83 : decode cX8_hide 83 = .ok (.getfield 49, 3) := dk_180 0 49 (dk_at dksX8_hide_3 14 rfl rfl)
theorem dX8_hide_86 : decode cX8_hide 86 = .ok (.aload_n 0, 1) := dk_42 (dk_at dksX8_hide_3 17 rfl rfl)
theorem dX8_hide_87 : decode cX8_hide 87 = .ok (.getfield 278, 3) := dk_180 1 22 (dk_at dksX8_hide_3 18 rfl rfl)
theorem dX8_hide_90 : decode cX8_hide 90 = .ok (.iaload, 1) := dk_46 (dk_at dksX8_hide_3 21 rfl rfl)
theorem dX8_hide_91 : decode cX8_hide 91 = .ok (.isub, 1) := dk_100 (dk_at dksX8_hide_3 22 rfl rfl)
theorem dX8_hide_92 : decode cX8_hide 92 = .ok (.istore 6, 2) := dk_54 6 (dk_at dksX8_hide_4 0 rfl rfl)
theorem dX8_hide_94 : decode cX8_hide 94 = .ok (.aload_n 0, 1) := dk_42 (dk_at dksX8_hide_4 2 rfl rfl)
theorem dX8_hide_95 : decode cX8_hide 95 = .ok (.invokevirtual 437, 3) := dk_182 1 181 (dk_at dksX8_hide_4 3 rfl rfl)
theorem dX8_hide_98 : decode cX8_hide 98 = .ok (.aload_n 0, 1) := dk_42 (dk_at dksX8_hide_4 6 rfl rfl)
theorem dX8_hide_99 : decode cX8_hide 99 = .ok (.getfield 161, 3) := dk_180 0 161 (dk_at dksX8_hide_4 7 rfl rfl)
theorem dX8_hide_102 : decode cX8_hide 102 = .ok (.bipush 72, 2) := dk_16 72 (dk_at dksX8_hide_4 10 rfl rfl)
theorem dX8_hide_104 : decode cX8_hide 104 = .ok (.iload_n 1, 1) := dk_27 (dk_at dksX8_hide_4 12 rfl rfl)
theorem dX8_hide_105 : decode cX8_hide 105 = .ok (.iadd, 1) := dk_96 (dk_at dksX8_hide_4 13 rfl rfl)
theorem dX8_hide_106 : decode cX8_hide 106 = .ok (.iload 6, 2) := dk_21 6 (dk_at dksX8_hide_4 14 rfl rfl)
theorem dX8_hide_108 : decode cX8_hide 108 = .ok (.iastore, 1) := dk_79 (dk_at dksX8_hide_4 16 rfl rfl)
theorem dX8_hide_109 : decode cX8_hide 109 = .ok (.aload_n 0, 1) := dk_42 (dk_at dksX8_hide_4 17 rfl rfl)
theorem dX8_hide_110 : decode cX8_hide 110 = .ok (.invokevirtual 458, 3) := dk_182 1 202 (dk_at dksX8_hide_4 18 rfl rfl)
theorem dX8_hide_113 : decode cX8_hide 113 = .ok (.istore 7, 2) := dk_54 7 (dk_at dksX8_hide_4 21 rfl rfl)
theorem dX8_hide_115 : decode cX8_hide 115 = .ok (.iload_n 3, 1) := dk_29 (dk_at dksX8_hide_4 23 rfl rfl)
theorem dX8_hide_116 : decode cX8_hide 116 = .ok (.ifCond .lt 13, 3) := dk_155 0 13 (dk_at dksX8_hide_5 0 rfl rfl)
theorem dX8_hide_119 : decode cX8_hide 119 = .ok (.iload 7, 2) := dk_21 7 (dk_at dksX8_hide_5 3 rfl rfl)
theorem dX8_hide_121 : decode cX8_hide 121 = .ok (.iload 4, 2) := dk_21 4 (dk_at dksX8_hide_5 5 rfl rfl)
theorem dX8_hide_123 : decode cX8_hide 123 = .ok (.if_icmp .gt 6, 3) := dk_163 0 6 (dk_at dksX8_hide_5 7 rfl rfl)
theorem dX8_hide_126 : decode cX8_hide 126 = .ok (.goto 10, 3) := dk_167 0 10 (dk_at dksX8_hide_5 10 rfl rfl)
theorem dX8_hide_129 : decode cX8_hide 129 = .ok (.iload 6, 2) := dk_21 6 (dk_at dksX8_hide_5 13 rfl rfl)
theorem dX8_hide_131 : decode cX8_hide 131 = .ok (.istore_n 3, 1) := dk_62 (dk_at dksX8_hide_5 15 rfl rfl)
theorem dX8_hide_132 : decode cX8_hide 132 = .ok (.iload 7, 2) := dk_21 7 (dk_at dksX8_hide_5 16 rfl rfl)
theorem dX8_hide_134 : decode cX8_hide 134 = .ok (.istore 4, 2) := dk_54 4 (dk_at dksX8_hide_5 18 rfl rfl)
theorem dX8_hide_136 : decode cX8_hide 136 = .ok (.iinc 5 1, 3) := dk_132 5 1 (dk_at dksX8_hide_5 20 rfl rfl)
theorem dX8_hide_139 : decode cX8_hide 139 = .ok (.goto (-100), 3) := dk_167 255 156 (dk_at dksX8_hide_6 0 rfl rfl)
theorem dX8_hide_142 : decode cX8_hide 142 = .ok (.iload_n 2, 1) := dk_28 (dk_at dksX8_hide_6 3 rfl rfl)
theorem dX8_hide_143 : decode cX8_hide 143 = .ok (.ifCond .ne 8, 3) := dk_154 0 8 (dk_at dksX8_hide_6 4 rfl rfl)
theorem dX8_hide_146 : decode cX8_hide 146 = .ok (.iload 4, 2) := dk_21 4 (dk_at dksX8_hide_6 7 rfl rfl)
theorem dX8_hide_148 : decode cX8_hide 148 = .ok (.goto 4, 3) := dk_167 0 4 (dk_at dksX8_hide_6 9 rfl rfl)
theorem dX8_hide_151 : decode cX8_hide 151 = .ok (.iload_n 3, 1) := dk_29 (dk_at dksX8_hide_6 12 rfl rfl)
theorem dX8_hide_152 : decode cX8_hide 152 = .ok (.ireturn, 1) := dk_172 (dk_at dksX8_hide_6 13 rfl rfl)
abbrev cX8_bars : ByteArray := prog_22_method_91_code
def yX8_bars : MethodName := ⟨RX8, "bars", "(I)I"⟩
def dkwX8_bars_4 : List UInt8 := [167, 255, 181, 27, 154, 0, 7, 29, 167, 0, 4, 28, 172]
abbrev dktX8_bars_4 : List UInt8 := dkwX8_bars_4 ++ []
def dkwX8_bars_3 : List UInt8 := [21, 4, 184, 1, 224, 28, 184, 1, 224, 161, 0, 6, 167, 0, 9, 21, 4, 61, 21, 5, 62, 132, 4, 1]
abbrev dktX8_bars_3 : List UInt8 := dkwX8_bars_3 ++ dktX8_bars_4
def dkwX8_bars_2 : List UInt8 := [79, 42, 182, 1, 202, 54, 5, 28, 155, 0, 30, 21, 5, 29, 161, 0, 30, 21, 5, 29, 160, 0, 18]
abbrev dktX8_bars_2 : List UInt8 := dkwX8_bars_2 ++ dktX8_bars_3
def dkwX8_bars_1 : List UInt8 := [180, 0, 52, 42, 180, 1, 22, 46, 120, 162, 0, 65, 42, 182, 1, 181, 42, 180, 0, 161, 16, 78, 21, 4]
abbrev dktX8_bars_1 : List UInt8 := dkwX8_bars_1 ++ dktX8_bars_2
def dkwX8_bars_0 : List UInt8 := [27, 3, 4, 184, 1, 124, 154, 0, 5, 2, 172, 2, 61, 3, 62, 3, 54, 4, 21, 4, 4, 42]
abbrev dktX8_bars_0 : List UInt8 := dkwX8_bars_0 ++ dktX8_bars_1
theorem dksX8_bars_0 : cX8_bars.data.toList.drop 0 = dktX8_bars_0 := by decide +kernel
theorem dksX8_bars_1 : cX8_bars.data.toList.drop 22 = dktX8_bars_1 := dk_seg dksX8_bars_0 22 rfl rfl
theorem dksX8_bars_2 : cX8_bars.data.toList.drop 46 = dktX8_bars_2 := dk_seg dksX8_bars_1 24 rfl rfl
theorem dksX8_bars_3 : cX8_bars.data.toList.drop 69 = dktX8_bars_3 := dk_seg dksX8_bars_2 23 rfl rfl
theorem dksX8_bars_4 : cX8_bars.data.toList.drop 93 = dktX8_bars_4 := dk_seg dksX8_bars_3 24 rfl rfl
theorem dX8_bars_0 : decode cX8_bars 0 = .ok (.iload_n 1, 1) := dk_27 (dk_at dksX8_bars_0 0 rfl rfl)
theorem dX8_bars_1 : decode cX8_bars 1 = .ok (.iconst 0, 1) := dk_3 (dk_at dksX8_bars_0 1 rfl rfl)
theorem dX8_bars_2 : decode cX8_bars 2 = .ok (.iconst 1, 1) := dk_4 (dk_at dksX8_bars_0 2 rfl rfl)
theorem dX8_bars_3 : decode cX8_bars 3 = .ok (.invokestatic 380, 3) := dk_184 1 124 (dk_at dksX8_bars_0 3 rfl rfl)
theorem dX8_bars_6 : decode cX8_bars 6 = .ok (.ifCond .ne 5, 3) := dk_154 0 5 (dk_at dksX8_bars_0 6 rfl rfl)
theorem dX8_bars_9 : decode cX8_bars 9 = .ok (.iconst (-1), 1) := dk_2 (dk_at dksX8_bars_0 9 rfl rfl)
theorem dX8_bars_10 : decode cX8_bars 10 = .ok (.ireturn, 1) := dk_172 (dk_at dksX8_bars_0 10 rfl rfl)
theorem dX8_bars_11 : decode cX8_bars 11 = .ok (.iconst (-1), 1) := dk_2 (dk_at dksX8_bars_0 11 rfl rfl)
theorem dX8_bars_12 : decode cX8_bars 12 = .ok (.istore_n 2, 1) := dk_61 (dk_at dksX8_bars_0 12 rfl rfl)
theorem dX8_bars_13 : decode cX8_bars 13 = .ok (.iconst 0, 1) := dk_3 (dk_at dksX8_bars_0 13 rfl rfl)
theorem dX8_bars_14 : decode cX8_bars 14 = .ok (.istore_n 3, 1) := dk_62 (dk_at dksX8_bars_0 14 rfl rfl)
theorem dX8_bars_15 : decode cX8_bars 15 = .ok (.iconst 0, 1) := dk_3 (dk_at dksX8_bars_0 15 rfl rfl)
theorem dX8_bars_16 : decode cX8_bars 16 = .ok (.istore 4, 2) := dk_54 4 (dk_at dksX8_bars_0 16 rfl rfl)
theorem dX8_bars_18 : decode cX8_bars 18 = .ok (.iload 4, 2) := dk_21 4 (dk_at dksX8_bars_0 18 rfl rfl)
theorem dX8_bars_20 : decode cX8_bars 20 = .ok (.iconst 1, 1) := dk_4 (dk_at dksX8_bars_0 20 rfl rfl)
theorem dX8_bars_21 : decode cX8_bars 21 = .ok (.aload_n 0, 1) := dk_42 (dk_at dksX8_bars_0 21 rfl rfl)
theorem dX8_bars_22 : decode cX8_bars 22 = .ok (.getfield 52, 3) := dk_180 0 52 (dk_at dksX8_bars_1 0 rfl rfl)
theorem dX8_bars_25 : decode cX8_bars 25 = .ok (.aload_n 0, 1) := dk_42 (dk_at dksX8_bars_1 3 rfl rfl)
theorem dX8_bars_26 : decode cX8_bars 26 = .ok (.getfield 278, 3) := dk_180 1 22 (dk_at dksX8_bars_1 4 rfl rfl)
theorem dX8_bars_29 : decode cX8_bars 29 = .ok (.iaload, 1) := dk_46 (dk_at dksX8_bars_1 7 rfl rfl)
theorem dX8_bars_30 : decode cX8_bars 30 = .ok (.ishl, 1) := dk_120 (dk_at dksX8_bars_1 8 rfl rfl)
theorem dX8_bars_31 : decode cX8_bars 31 = .ok (.if_icmp .ge 65, 3) := dk_162 0 65 (dk_at dksX8_bars_1 9 rfl rfl)
theorem dX8_bars_34 : decode cX8_bars 34 = .ok (.aload_n 0, 1) := dk_42 (dk_at dksX8_bars_1 12 rfl rfl)
theorem dX8_bars_35 : decode cX8_bars 35 = .ok (.invokevirtual 437, 3) := dk_182 1 181 (dk_at dksX8_bars_1 13 rfl rfl)
theorem dX8_bars_38 : decode cX8_bars 38 = .ok (.aload_n 0, 1) := dk_42 (dk_at dksX8_bars_1 16 rfl rfl)
theorem dX8_bars_39 : decode cX8_bars 39 = .ok (.getfield 161, 3) := dk_180 0 161 (dk_at dksX8_bars_1 17 rfl rfl)
theorem dX8_bars_42 : decode cX8_bars 42 = .ok (.bipush 78, 2) := dk_16 78 (dk_at dksX8_bars_1 20 rfl rfl)
theorem dX8_bars_44 : decode cX8_bars 44 = .ok (.iload 4, 2) := dk_21 4 (dk_at dksX8_bars_1 22 rfl rfl)
theorem dX8_bars_46 : decode cX8_bars 46 = .ok (.iastore, 1) := dk_79 (dk_at dksX8_bars_2 0 rfl rfl)
theorem dX8_bars_47 : decode cX8_bars 47 = .ok (.aload_n 0, 1) := dk_42 (dk_at dksX8_bars_2 1 rfl rfl)
theorem dX8_bars_48 : decode cX8_bars 48 = .ok (.invokevirtual 458, 3) := dk_182 1 202 (dk_at dksX8_bars_2 2 rfl rfl)
theorem dX8_bars_51 : decode cX8_bars 51 = .ok (.istore 5, 2) := dk_54 5 (dk_at dksX8_bars_2 5 rfl rfl)
theorem dX8_bars_53 : decode cX8_bars 53 = .ok (.iload_n 2, 1) := dk_28 (dk_at dksX8_bars_2 7 rfl rfl)
theorem dX8_bars_54 : decode cX8_bars 54 = .ok (.ifCond .lt 30, 3) := dk_155 0 30 (dk_at dksX8_bars_2 8 rfl rfl)
theorem dX8_bars_57 : decode cX8_bars 57 = .ok (.iload 5, 2) := dk_21 5 (dk_at dksX8_bars_2 11 rfl rfl)
theorem dX8_bars_59 : decode cX8_bars 59 = .ok (.iload_n 3, 1) := dk_29 (dk_at dksX8_bars_2 13 rfl rfl)
theorem dX8_bars_60 : decode cX8_bars 60 = .ok (.if_icmp .lt 30, 3) := dk_161 0 30 (dk_at dksX8_bars_2 14 rfl rfl)
theorem dX8_bars_63 : decode cX8_bars 63 = .ok (.iload 5, 2) := dk_21 5 (dk_at dksX8_bars_2 17 rfl rfl)
theorem dX8_bars_65 : decode cX8_bars 65 = .ok (.iload_n 3, 1) := dk_29 (dk_at dksX8_bars_2 19 rfl rfl)
theorem dX8_bars_66 : decode cX8_bars 66 = .ok (.if_icmp .ne 18, 3) := dk_160 0 18 (dk_at dksX8_bars_2 20 rfl rfl)
theorem dX8_bars_69 : decode cX8_bars 69 = .ok (.iload 4, 2) := dk_21 4 (dk_at dksX8_bars_3 0 rfl rfl)
theorem dX8_bars_71 : decode cX8_bars 71 = .ok (.invokestatic 480, 3) := dk_184 1 224 (dk_at dksX8_bars_3 2 rfl rfl)
theorem dX8_bars_74 : decode cX8_bars 74 = .ok (.iload_n 2, 1) := dk_28 (dk_at dksX8_bars_3 5 rfl rfl)
theorem dX8_bars_75 : decode cX8_bars 75 = .ok (.invokestatic 480, 3) := dk_184 1 224 (dk_at dksX8_bars_3 6 rfl rfl)
theorem dX8_bars_78 : decode cX8_bars 78 = .ok (.if_icmp .lt 6, 3) := dk_161 0 6 (dk_at dksX8_bars_3 9 rfl rfl)
theorem dX8_bars_81 : decode cX8_bars 81 = .ok (.goto 9, 3) := dk_167 0 9 (dk_at dksX8_bars_3 12 rfl rfl)
theorem dX8_bars_84 : decode cX8_bars 84 = .ok (.iload 4, 2) := dk_21 4 (dk_at dksX8_bars_3 15 rfl rfl)
theorem dX8_bars_86 : decode cX8_bars 86 = .ok (.istore_n 2, 1) := dk_61 (dk_at dksX8_bars_3 17 rfl rfl)
theorem dX8_bars_87 : decode cX8_bars 87 = .ok (.iload 5, 2) := dk_21 5 (dk_at dksX8_bars_3 18 rfl rfl)
theorem dX8_bars_89 : decode cX8_bars 89 = .ok (.istore_n 3, 1) := dk_62 (dk_at dksX8_bars_3 20 rfl rfl)
theorem dX8_bars_90 : decode cX8_bars 90 = .ok (.iinc 4 1, 3) := dk_132 4 1 (dk_at dksX8_bars_3 21 rfl rfl)
theorem dX8_bars_93 : decode cX8_bars 93 = .ok (.goto (-75), 3) := dk_167 255 181 (dk_at dksX8_bars_4 0 rfl rfl)
theorem dX8_bars_96 : decode cX8_bars 96 = .ok (.iload_n 1, 1) := dk_27 (dk_at dksX8_bars_4 3 rfl rfl)
theorem dX8_bars_97 : decode cX8_bars 97 = .ok (.ifCond .ne 7, 3) := dk_154 0 7 (dk_at dksX8_bars_4 4 rfl rfl)
theorem dX8_bars_100 : decode cX8_bars 100 = .ok (.iload_n 3, 1) := dk_29 (dk_at dksX8_bars_4 7 rfl rfl)
theorem dX8_bars_101 : decode cX8_bars 101 = .ok (.goto 4, 3) := dk_167 0 4 (dk_at dksX8_bars_4 8 rfl rfl)
theorem dX8_bars_104 : decode cX8_bars 104 = .ok (.iload_n 2, 1) := dk_28 (dk_at dksX8_bars_4 11 rfl rfl)
theorem dX8_bars_105 : decode cX8_bars 105 = .ok (.ireturn, 1) := dk_172 (dk_at dksX8_bars_4 12 rfl rfl)
abbrev cX8_bits : ByteArray := prog_22_method_90_code
def yX8_bits : MethodName := ⟨RX8, "bits", "(I)I"⟩
def dkwX8_bits_1 : List UInt8 := [27, 172]
abbrev dktX8_bits_1 : List UInt8 := dkwX8_bits_1 ++ []
def dkwX8_bits_0 : List UInt8 := [3, 60, 3, 61, 28, 16, 12, 162, 0, 17, 27, 26, 28, 122, 4, 126, 96, 60, 132, 2, 1, 167, 255, 239]
abbrev dktX8_bits_0 : List UInt8 := dkwX8_bits_0 ++ dktX8_bits_1
theorem dksX8_bits_0 : cX8_bits.data.toList.drop 0 = dktX8_bits_0 := by decide +kernel
theorem dksX8_bits_1 : cX8_bits.data.toList.drop 24 = dktX8_bits_1 := dk_seg dksX8_bits_0 24 rfl rfl
theorem dX8_bits_0 : decode cX8_bits 0 = .ok (.iconst 0, 1) := dk_3 (dk_at dksX8_bits_0 0 rfl rfl)
theorem dX8_bits_1 : decode cX8_bits 1 = .ok (.istore_n 1, 1) := dk_60 (dk_at dksX8_bits_0 1 rfl rfl)
theorem dX8_bits_2 : decode cX8_bits 2 = .ok (.iconst 0, 1) := dk_3 (dk_at dksX8_bits_0 2 rfl rfl)
theorem dX8_bits_3 : decode cX8_bits 3 = .ok (.istore_n 2, 1) := dk_61 (dk_at dksX8_bits_0 3 rfl rfl)
theorem dX8_bits_4 : decode cX8_bits 4 = .ok (.iload_n 2, 1) := dk_28 (dk_at dksX8_bits_0 4 rfl rfl)
theorem dX8_bits_5 : decode cX8_bits 5 = .ok (.bipush 12, 2) := dk_16 12 (dk_at dksX8_bits_0 5 rfl rfl)
theorem dX8_bits_7 : decode cX8_bits 7 = .ok (.if_icmp .ge 17, 3) := dk_162 0 17 (dk_at dksX8_bits_0 7 rfl rfl)
theorem dX8_bits_10 : decode cX8_bits 10 = .ok (.iload_n 1, 1) := dk_27 (dk_at dksX8_bits_0 10 rfl rfl)
theorem dX8_bits_11 : decode cX8_bits 11 = .ok (.iload_n 0, 1) := dk_26 (dk_at dksX8_bits_0 11 rfl rfl)
theorem dX8_bits_12 : decode cX8_bits 12 = .ok (.iload_n 2, 1) := dk_28 (dk_at dksX8_bits_0 12 rfl rfl)
theorem dX8_bits_13 : decode cX8_bits 13 = .ok (.ishr, 1) := dk_122 (dk_at dksX8_bits_0 13 rfl rfl)
theorem dX8_bits_14 : decode cX8_bits 14 = .ok (.iconst 1, 1) := dk_4 (dk_at dksX8_bits_0 14 rfl rfl)
theorem dX8_bits_15 : decode cX8_bits 15 = .ok (.iand, 1) := dk_126 (dk_at dksX8_bits_0 15 rfl rfl)
theorem dX8_bits_16 : decode cX8_bits 16 = .ok (.iadd, 1) := dk_96 (dk_at dksX8_bits_0 16 rfl rfl)
theorem dX8_bits_17 : decode cX8_bits 17 = .ok (.istore_n 1, 1) := dk_60 (dk_at dksX8_bits_0 17 rfl rfl)
theorem dX8_bits_18 : decode cX8_bits 18 = .ok (.iinc 2 1, 3) := dk_132 2 1 (dk_at dksX8_bits_0 18 rfl rfl)
theorem dX8_bits_21 : decode cX8_bits 21 = .ok (.goto (-17), 3) := dk_167 255 239 (dk_at dksX8_bits_0 21 rfl rfl)
theorem dX8_bits_24 : decode cX8_bits 24 = .ok (.iload_n 1, 1) := dk_27 (dk_at dksX8_bits_1 0 rfl rfl)
theorem dX8_bits_25 : decode cX8_bits 25 = .ok (.ireturn, 1) := dk_172 (dk_at dksX8_bits_1 1 rfl rfl)
abbrev cX8_where : ByteArray := prog_22_method_92_code
def yX8_where : MethodName := ⟨RX8, "where", "(II)I"⟩
def dkwX8_where_4 : List UInt8 := [29, 104, 21, 4, 96, 46, 28, 163, 0, 8, 21, 4, 167, 0, 4, 29, 172]
abbrev dktX8_where_4 : List UInt8 := dkwX8_where_4 ++ []
def dkwX8_where_3 : List UInt8 := [42, 180, 1, 22, 104, 42, 180, 0, 161, 16, 42, 27, 96, 46, 96, 46, 54, 4, 42, 180, 0, 164, 16, 8]
abbrev dktX8_where_3 : List UInt8 := dkwX8_where_3 ++ dktX8_where_4
def dkwX8_where_2 : List UInt8 := [27, 96, 46, 62, 42, 180, 0, 161, 16, 42, 27, 96, 46, 156, 0, 5, 29, 172, 42, 180, 0, 77, 16, 6]
abbrev dktX8_where_2 : List UInt8 := dkwX8_where_2 ++ dktX8_where_3
def dkwX8_where_1 : List UInt8 := [154, 0, 5, 2, 172, 42, 182, 1, 181, 42, 182, 1, 163, 42, 180, 0, 107, 16, 6, 42, 180, 1, 22, 104]
abbrev dktX8_where_1 : List UInt8 := dkwX8_where_1 ++ dktX8_where_2
def dkwX8_where_0 : List UInt8 := [42, 27, 182, 1, 190, 153, 0, 20, 28, 3, 42, 180, 0, 140, 42, 180, 1, 22, 46, 184, 1, 124]
abbrev dktX8_where_0 : List UInt8 := dkwX8_where_0 ++ dktX8_where_1
theorem dksX8_where_0 : cX8_where.data.toList.drop 0 = dktX8_where_0 := by decide +kernel
theorem dksX8_where_1 : cX8_where.data.toList.drop 22 = dktX8_where_1 := dk_seg dksX8_where_0 22 rfl rfl
theorem dksX8_where_2 : cX8_where.data.toList.drop 46 = dktX8_where_2 := dk_seg dksX8_where_1 24 rfl rfl
theorem dksX8_where_3 : cX8_where.data.toList.drop 70 = dktX8_where_3 := dk_seg dksX8_where_2 24 rfl rfl
theorem dksX8_where_4 : cX8_where.data.toList.drop 94 = dktX8_where_4 := dk_seg dksX8_where_3 24 rfl rfl
theorem dX8_where_0 : decode cX8_where 0 = .ok (.aload_n 0, 1) := dk_42 (dk_at dksX8_where_0 0 rfl rfl)
theorem dX8_where_1 : decode cX8_where 1 = .ok (.iload_n 1, 1) := dk_27 (dk_at dksX8_where_0 1 rfl rfl)
theorem dX8_where_2 : decode cX8_where 2 = .ok (.invokevirtual 446, 3) := dk_182 1 190 (dk_at dksX8_where_0 2 rfl rfl)
theorem dX8_where_5 : decode cX8_where 5 = .ok (.ifCond .eq 20, 3) := dk_153 0 20 (dk_at dksX8_where_0 5 rfl rfl)
theorem dX8_where_8 : decode cX8_where 8 = .ok (.iload_n 2, 1) := dk_28 (dk_at dksX8_where_0 8 rfl rfl)
theorem dX8_where_9 : decode cX8_where 9 = .ok (.iconst 0, 1) := dk_3 (dk_at dksX8_where_0 9 rfl rfl)
theorem dX8_where_10 : decode cX8_where 10 = .ok (.aload_n 0, 1) := dk_42 (dk_at dksX8_where_0 10 rfl rfl)
theorem dX8_where_11 : decode cX8_where 11 = .ok (.getfield 140, 3) := dk_180 0 140 (dk_at dksX8_where_0 11 rfl rfl)
theorem dX8_where_14 : decode cX8_where 14 = .ok (.aload_n 0, 1) := dk_42 (dk_at dksX8_where_0 14 rfl rfl)
theorem dX8_where_15 : decode cX8_where 15 = .ok (.getfield 278, 3) := dk_180 1 22 (dk_at dksX8_where_0 15 rfl rfl)
theorem dX8_where_18 : decode cX8_where 18 = .ok (.iaload, 1) := dk_46 (dk_at dksX8_where_0 18 rfl rfl)
theorem dX8_where_19 : decode cX8_where 19 = .ok (.invokestatic 380, 3) := dk_184 1 124 (dk_at dksX8_where_0 19 rfl rfl)
theorem dX8_where_22 : decode cX8_where 22 = .ok (.ifCond .ne 5, 3) := dk_154 0 5 (dk_at dksX8_where_1 0 rfl rfl)
theorem dX8_where_25 : decode cX8_where 25 = .ok (.iconst (-1), 1) := dk_2 (dk_at dksX8_where_1 3 rfl rfl)
theorem dX8_where_26 : decode cX8_where 26 = .ok (.ireturn, 1) := dk_172 (dk_at dksX8_where_1 4 rfl rfl)
theorem dX8_where_27 : decode cX8_where 27 = .ok (.aload_n 0, 1) := dk_42 (dk_at dksX8_where_1 5 rfl rfl)
theorem dX8_where_28 : decode cX8_where 28 = .ok (.invokevirtual 437, 3) := dk_182 1 181 (dk_at dksX8_where_1 6 rfl rfl)
theorem dX8_where_31 : decode cX8_where 31 = .ok (.aload_n 0, 1) := dk_42 (dk_at dksX8_where_1 9 rfl rfl)
theorem dX8_where_32 : decode cX8_where 32 = .ok (.invokevirtual 419, 3) := dk_182 1 163 (dk_at dksX8_where_1 10 rfl rfl)
theorem dX8_where_35 : decode cX8_where 35 = .ok (.aload_n 0, 1) := dk_42 (dk_at dksX8_where_1 13 rfl rfl)
theorem dX8_where_36 : decode cX8_where 36 = .ok (.getfield 107, 3) := dk_180 0 107 (dk_at dksX8_where_1 14 rfl rfl)
theorem dX8_where_39 : decode cX8_where 39 = .ok (.bipush 6, 2) := dk_16 6 (dk_at dksX8_where_1 17 rfl rfl)
theorem dX8_where_41 : decode cX8_where 41 = .ok (.aload_n 0, 1) := dk_42 (dk_at dksX8_where_1 19 rfl rfl)
theorem dX8_where_42 : decode cX8_where 42 = .ok (.getfield 278, 3) := dk_180 1 22 (dk_at dksX8_where_1 20 rfl rfl)
theorem dX8_where_45 : decode cX8_where 45 = .ok (.imul, 1) := dk_104 (dk_at dksX8_where_1 23 rfl rfl)
theorem dX8_where_46 : decode cX8_where 46 = .ok (.iload_n 1, 1) := dk_27 (dk_at dksX8_where_2 0 rfl rfl)
theorem dX8_where_47 : decode cX8_where 47 = .ok (.iadd, 1) := dk_96 (dk_at dksX8_where_2 1 rfl rfl)
theorem dX8_where_48 : decode cX8_where 48 = .ok (.iaload, 1) := dk_46 (dk_at dksX8_where_2 2 rfl rfl)
theorem dX8_where_49 : decode cX8_where 49 = .ok (.istore_n 3, 1) := dk_62 (dk_at dksX8_where_2 3 rfl rfl)
theorem dX8_where_50 : decode cX8_where 50 = .ok (.aload_n 0, 1) := dk_42 (dk_at dksX8_where_2 4 rfl rfl)
theorem dX8_where_51 : decode cX8_where 51 = .ok (.getfield 161, 3) := dk_180 0 161 (dk_at dksX8_where_2 5 rfl rfl)
theorem dX8_where_54 : decode cX8_where 54 = .ok (.bipush 42, 2) := dk_16 42 (dk_at dksX8_where_2 8 rfl rfl)
theorem dX8_where_56 : decode cX8_where 56 = .ok (.iload_n 1, 1) := dk_27 (dk_at dksX8_where_2 10 rfl rfl)
theorem dX8_where_57 : decode cX8_where 57 = .ok (.iadd, 1) := dk_96 (dk_at dksX8_where_2 11 rfl rfl)
theorem dX8_where_58 : decode cX8_where 58 = .ok (.iaload, 1) := dk_46 (dk_at dksX8_where_2 12 rfl rfl)
theorem dX8_where_59 : decode cX8_where 59 = .ok (.ifCond .ge 5, 3) := dk_156 0 5 (dk_at dksX8_where_2 13 rfl rfl)
theorem dX8_where_62 : decode cX8_where 62 = .ok (.iload_n 3, 1) := dk_29 (dk_at dksX8_where_2 16 rfl rfl)
theorem dX8_where_63 : decode cX8_where 63 = .ok (.ireturn, 1) := dk_172 (dk_at dksX8_where_2 17 rfl rfl)
theorem dX8_where_64 : decode cX8_where 64 = .ok (.aload_n 0, 1) := dk_42 (dk_at dksX8_where_2 18 rfl rfl)
theorem dX8_where_65 : decode cX8_where 65 = .ok (.getfield 77, 3) := dk_180 0 77 (dk_at dksX8_where_2 19 rfl rfl)
theorem dX8_where_68 : decode cX8_where 68 = .ok (.bipush 6, 2) := dk_16 6 (dk_at dksX8_where_2 22 rfl rfl)
theorem dX8_where_70 : decode cX8_where 70 = .ok (.aload_n 0, 1) := dk_42 (dk_at dksX8_where_3 0 rfl rfl)
theorem dX8_where_71 : decode cX8_where 71 = .ok (.getfield 278, 3) := dk_180 1 22 (dk_at dksX8_where_3 1 rfl rfl)
theorem dX8_where_74 : decode cX8_where 74 = .ok (.imul, 1) := dk_104 (dk_at dksX8_where_3 4 rfl rfl)
theorem dX8_where_75 : decode cX8_where 75 = .ok (.aload_n 0, 1) := dk_42 (dk_at dksX8_where_3 5 rfl rfl)
theorem dX8_where_76 : decode cX8_where 76 = .ok (.getfield 161, 3) := dk_180 0 161 (dk_at dksX8_where_3 6 rfl rfl)
theorem dX8_where_79 : decode cX8_where 79 = .ok (.bipush 42, 2) := dk_16 42 (dk_at dksX8_where_3 9 rfl rfl)
theorem dX8_where_81 : decode cX8_where 81 = .ok (.iload_n 1, 1) := dk_27 (dk_at dksX8_where_3 11 rfl rfl)
theorem dX8_where_82 : decode cX8_where 82 = .ok (.iadd, 1) := dk_96 (dk_at dksX8_where_3 12 rfl rfl)
theorem dX8_where_83 : decode cX8_where 83 = .ok (.iaload, 1) := dk_46 (dk_at dksX8_where_3 13 rfl rfl)
theorem dX8_where_84 : decode cX8_where 84 = .ok (.iadd, 1) := dk_96 (dk_at dksX8_where_3 14 rfl rfl)
theorem dX8_where_85 : decode cX8_where 85 = .ok (.iaload, 1) := dk_46 (dk_at dksX8_where_3 15 rfl rfl)
theorem dX8_where_86 : decode cX8_where 86 = .ok (.istore 4, 2) := dk_54 4 (dk_at dksX8_where_3 16 rfl rfl)
theorem dX8_where_88 : decode cX8_where 88 = .ok (.aload_n 0, 1) := dk_42 (dk_at dksX8_where_3 18 rfl rfl)
theorem dX8_where_89 : decode cX8_where 89 = .ok (.getfield 164, 3) := dk_180 0 164 (dk_at dksX8_where_3 19 rfl rfl)
theorem dX8_where_92 : decode cX8_where 92 = .ok (.bipush 8, 2) := dk_16 8 (dk_at dksX8_where_3 22 rfl rfl)
theorem dX8_where_94 : decode cX8_where 94 = .ok (.iload_n 3, 1) := dk_29 (dk_at dksX8_where_4 0 rfl rfl)
theorem dX8_where_95 : decode cX8_where 95 = .ok (.imul, 1) := dk_104 (dk_at dksX8_where_4 1 rfl rfl)
theorem dX8_where_96 : decode cX8_where 96 = .ok (.iload 4, 2) := dk_21 4 (dk_at dksX8_where_4 2 rfl rfl)
theorem dX8_where_98 : decode cX8_where 98 = .ok (.iadd, 1) := dk_96 (dk_at dksX8_where_4 4 rfl rfl)
theorem dX8_where_99 : decode cX8_where 99 = .ok (.iaload, 1) := dk_46 (dk_at dksX8_where_4 5 rfl rfl)
theorem dX8_where_100 : decode cX8_where 100 = .ok (.iload_n 2, 1) := dk_28 (dk_at dksX8_where_4 6 rfl rfl)
theorem dX8_where_101 : decode cX8_where 101 = .ok (.if_icmp .gt 8, 3) := dk_163 0 8 (dk_at dksX8_where_4 7 rfl rfl)
theorem dX8_where_104 : decode cX8_where 104 = .ok (.iload 4, 2) := dk_21 4 (dk_at dksX8_where_4 10 rfl rfl)
theorem dX8_where_106 : decode cX8_where 106 = .ok (.goto 4, 3) := dk_167 0 4 (dk_at dksX8_where_4 12 rfl rfl)
theorem dX8_where_109 : decode cX8_where 109 = .ok (.iload_n 3, 1) := dk_29 (dk_at dksX8_where_4 15 rfl rfl)
theorem dX8_where_110 : decode cX8_where 110 = .ok (.ireturn, 1) := dk_172 (dk_at dksX8_where_4 16 rfl rfl)
abbrev cX8_strokes : ByteArray := prog_22_method_93_code
def yX8_strokes : MethodName := ⟨RX8, "strokes", "(II)I"⟩
def dkwX8_strokes_1 : List UInt8 := [154, 0, 5, 2, 172, 42, 182, 1, 181, 42, 28, 182, 1, 178, 42, 180, 0, 182, 27, 46, 172]
abbrev dktX8_strokes_1 : List UInt8 := dkwX8_strokes_1 ++ []
def dkwX8_strokes_0 : List UInt8 := [42, 27, 182, 1, 190, 153, 0, 20, 28, 3, 42, 180, 0, 140, 42, 180, 1, 22, 46, 184, 1, 124]
abbrev dktX8_strokes_0 : List UInt8 := dkwX8_strokes_0 ++ dktX8_strokes_1
theorem dksX8_strokes_0 : cX8_strokes.data.toList.drop 0 = dktX8_strokes_0 := by decide +kernel
theorem dksX8_strokes_1 : cX8_strokes.data.toList.drop 22 = dktX8_strokes_1 := dk_seg dksX8_strokes_0 22 rfl rfl
theorem dX8_strokes_0 : decode cX8_strokes 0 = .ok (.aload_n 0, 1) := dk_42 (dk_at dksX8_strokes_0 0 rfl rfl)
theorem dX8_strokes_1 : decode cX8_strokes 1 = .ok (.iload_n 1, 1) := dk_27 (dk_at dksX8_strokes_0 1 rfl rfl)
theorem dX8_strokes_2 : decode cX8_strokes 2 = .ok (.invokevirtual 446, 3) := dk_182 1 190 (dk_at dksX8_strokes_0 2 rfl rfl)
theorem dX8_strokes_5 : decode cX8_strokes 5 = .ok (.ifCond .eq 20, 3) := dk_153 0 20 (dk_at dksX8_strokes_0 5 rfl rfl)
theorem dX8_strokes_8 : decode cX8_strokes 8 = .ok (.iload_n 2, 1) := dk_28 (dk_at dksX8_strokes_0 8 rfl rfl)
theorem dX8_strokes_9 : decode cX8_strokes 9 = .ok (.iconst 0, 1) := dk_3 (dk_at dksX8_strokes_0 9 rfl rfl)
theorem dX8_strokes_10 : decode cX8_strokes 10 = .ok (.aload_n 0, 1) := dk_42 (dk_at dksX8_strokes_0 10 rfl rfl)
theorem dX8_strokes_11 : decode cX8_strokes 11 = .ok (.getfield 140, 3) := dk_180 0 140 (dk_at dksX8_strokes_0 11 rfl rfl)
theorem dX8_strokes_14 : decode cX8_strokes 14 = .ok (.aload_n 0, 1) := dk_42 (dk_at dksX8_strokes_0 14 rfl rfl)
theorem dX8_strokes_15 : decode cX8_strokes 15 = .ok (.getfield 278, 3) := dk_180 1 22 (dk_at dksX8_strokes_0 15 rfl rfl)
theorem dX8_strokes_18 : decode cX8_strokes 18 = .ok (.iaload, 1) := dk_46 (dk_at dksX8_strokes_0 18 rfl rfl)
theorem dX8_strokes_19 : decode cX8_strokes 19 = .ok (.invokestatic 380, 3) := dk_184 1 124 (dk_at dksX8_strokes_0 19 rfl rfl)
theorem dX8_strokes_22 : decode cX8_strokes 22 = .ok (.ifCond .ne 5, 3) := dk_154 0 5 (dk_at dksX8_strokes_1 0 rfl rfl)
theorem dX8_strokes_25 : decode cX8_strokes 25 = .ok (.iconst (-1), 1) := dk_2 (dk_at dksX8_strokes_1 3 rfl rfl)
theorem dX8_strokes_26 : decode cX8_strokes 26 = .ok (.ireturn, 1) := dk_172 (dk_at dksX8_strokes_1 4 rfl rfl)
theorem dX8_strokes_27 : decode cX8_strokes 27 = .ok (.aload_n 0, 1) := dk_42 (dk_at dksX8_strokes_1 5 rfl rfl)
theorem dX8_strokes_28 : decode cX8_strokes 28 = .ok (.invokevirtual 437, 3) := dk_182 1 181 (dk_at dksX8_strokes_1 6 rfl rfl)
theorem dX8_strokes_31 : decode cX8_strokes 31 = .ok (.aload_n 0, 1) := dk_42 (dk_at dksX8_strokes_1 9 rfl rfl)
theorem dX8_strokes_32 : decode cX8_strokes 32 = .ok (.iload_n 2, 1) := dk_28 (dk_at dksX8_strokes_1 10 rfl rfl)
theorem dX8_strokes_33 : decode cX8_strokes 33 = .ok (.invokevirtual 434, 3) := dk_182 1 178 (dk_at dksX8_strokes_1 11 rfl rfl)
theorem dX8_strokes_36 : decode cX8_strokes 36 = .ok (.aload_n 0, 1) := dk_42 (dk_at dksX8_strokes_1 14 rfl rfl)
theorem dX8_strokes_37 : decode cX8_strokes 37 = .ok (.getfield 182, 3) := dk_180 0 182 (dk_at dksX8_strokes_1 15 rfl rfl)
theorem dX8_strokes_40 : decode cX8_strokes 40 = .ok (.iload_n 1, 1) := dk_27 (dk_at dksX8_strokes_1 18 rfl rfl)
theorem dX8_strokes_41 : decode cX8_strokes 41 = .ok (.iaload, 1) := dk_46 (dk_at dksX8_strokes_1 19 rfl rfl)
theorem dX8_strokes_42 : decode cX8_strokes 42 = .ok (.ireturn, 1) := dk_172 (dk_at dksX8_strokes_1 20 rfl rfl)
abbrev cX8_tell_2 : ByteArray := prog_22_method_94_code
def yX8_tell_2 : MethodName := ⟨RX8, "tell", "(III)I"⟩
def dkwX8_tell_2_3 : List UInt8 := [181, 1, 46, 42, 180, 1, 46, 4, 100, 172]
abbrev dktX8_tell_2_3 : List UInt8 := dkwX8_tell_2_3 ++ []
def dkwX8_tell_2_2 : List UInt8 := [180, 1, 46, 28, 79, 42, 180, 0, 197, 42, 180, 1, 46, 29, 79, 42, 89, 180, 1, 46, 4, 96]
abbrev dktX8_tell_2_2 : List UInt8 := dkwX8_tell_2_2 ++ dktX8_tell_2_3
def dkwX8_tell_2_1 : List UInt8 := [184, 1, 124, 154, 0, 5, 2, 172, 42, 180, 0, 191, 42, 180, 1, 46, 27, 79, 42, 180, 0, 194, 42]
abbrev dktX8_tell_2_1 : List UInt8 := dkwX8_tell_2_1 ++ dktX8_tell_2_2
def dkwX8_tell_2_0 : List UInt8 := [42, 180, 1, 46, 16, 30, 159, 0, 23, 42, 27, 28, 182, 1, 184, 153, 0, 14, 29, 3, 17, 3, 231]
abbrev dktX8_tell_2_0 : List UInt8 := dkwX8_tell_2_0 ++ dktX8_tell_2_1
theorem dksX8_tell_2_0 : cX8_tell_2.data.toList.drop 0 = dktX8_tell_2_0 := by decide +kernel
theorem dksX8_tell_2_1 : cX8_tell_2.data.toList.drop 23 = dktX8_tell_2_1 := dk_seg dksX8_tell_2_0 23 rfl rfl
theorem dksX8_tell_2_2 : cX8_tell_2.data.toList.drop 46 = dktX8_tell_2_2 := dk_seg dksX8_tell_2_1 23 rfl rfl
theorem dksX8_tell_2_3 : cX8_tell_2.data.toList.drop 68 = dktX8_tell_2_3 := dk_seg dksX8_tell_2_2 22 rfl rfl
theorem dX8_tell_2_0 : decode cX8_tell_2 0 = .ok (.aload_n 0, 1) := dk_42 (dk_at dksX8_tell_2_0 0 rfl rfl)
theorem dX8_tell_2_1 : decode cX8_tell_2 1 = .ok (.getfield 302, 3) := dk_180 1 46 (dk_at dksX8_tell_2_0 1 rfl rfl)
theorem dX8_tell_2_4 : decode cX8_tell_2 4 = .ok (.bipush 30, 2) := dk_16 30 (dk_at dksX8_tell_2_0 4 rfl rfl)
theorem dX8_tell_2_6 : decode cX8_tell_2 6 = .ok (.if_icmp .eq 23, 3) := dk_159 0 23 (dk_at dksX8_tell_2_0 6 rfl rfl)
theorem dX8_tell_2_9 : decode cX8_tell_2 9 = .ok (.aload_n 0, 1) := dk_42 (dk_at dksX8_tell_2_0 9 rfl rfl)
theorem dX8_tell_2_10 : decode cX8_tell_2 10 = .ok (.iload_n 1, 1) := dk_27 (dk_at dksX8_tell_2_0 10 rfl rfl)
theorem dX8_tell_2_11 : decode cX8_tell_2 11 = .ok (.iload_n 2, 1) := dk_28 (dk_at dksX8_tell_2_0 11 rfl rfl)
theorem dX8_tell_2_12 : decode cX8_tell_2 12 = .ok (.invokevirtual 440, 3) := dk_182 1 184 (dk_at dksX8_tell_2_0 12 rfl rfl)
theorem dX8_tell_2_15 : decode cX8_tell_2 15 = .ok (.ifCond .eq 14, 3) := dk_153 0 14 (dk_at dksX8_tell_2_0 15 rfl rfl)
theorem dX8_tell_2_18 : decode cX8_tell_2 18 = .ok (.iload_n 3, 1) := dk_29 (dk_at dksX8_tell_2_0 18 rfl rfl)
theorem dX8_tell_2_19 : decode cX8_tell_2 19 = .ok (.iconst 0, 1) := dk_3 (dk_at dksX8_tell_2_0 19 rfl rfl)
theorem dX8_tell_2_20 : decode cX8_tell_2 20 = .ok (.sipush 999, 3) := dk_17 3 231 (dk_at dksX8_tell_2_0 20 rfl rfl)
theorem dX8_tell_2_23 : decode cX8_tell_2 23 = .ok (.invokestatic 380, 3) := dk_184 1 124 (dk_at dksX8_tell_2_1 0 rfl rfl)
theorem dX8_tell_2_26 : decode cX8_tell_2 26 = .ok (.ifCond .ne 5, 3) := dk_154 0 5 (dk_at dksX8_tell_2_1 3 rfl rfl)
theorem dX8_tell_2_29 : decode cX8_tell_2 29 = .ok (.iconst (-1), 1) := dk_2 (dk_at dksX8_tell_2_1 6 rfl rfl)
theorem dX8_tell_2_30 : decode cX8_tell_2 30 = .ok (.ireturn, 1) := dk_172 (dk_at dksX8_tell_2_1 7 rfl rfl)
theorem dX8_tell_2_31 : decode cX8_tell_2 31 = .ok (.aload_n 0, 1) := dk_42 (dk_at dksX8_tell_2_1 8 rfl rfl)
theorem dX8_tell_2_32 : decode cX8_tell_2 32 = .ok (.getfield 191, 3) := dk_180 0 191 (dk_at dksX8_tell_2_1 9 rfl rfl)
theorem dX8_tell_2_35 : decode cX8_tell_2 35 = .ok (.aload_n 0, 1) := dk_42 (dk_at dksX8_tell_2_1 12 rfl rfl)
theorem dX8_tell_2_36 : decode cX8_tell_2 36 = .ok (.getfield 302, 3) := dk_180 1 46 (dk_at dksX8_tell_2_1 13 rfl rfl)
theorem dX8_tell_2_39 : decode cX8_tell_2 39 = .ok (.iload_n 1, 1) := dk_27 (dk_at dksX8_tell_2_1 16 rfl rfl)
theorem dX8_tell_2_40 : decode cX8_tell_2 40 = .ok (.iastore, 1) := dk_79 (dk_at dksX8_tell_2_1 17 rfl rfl)
theorem dX8_tell_2_41 : decode cX8_tell_2 41 = .ok (.aload_n 0, 1) := dk_42 (dk_at dksX8_tell_2_1 18 rfl rfl)
theorem dX8_tell_2_42 : decode cX8_tell_2 42 = .ok (.getfield 194, 3) := dk_180 0 194 (dk_at dksX8_tell_2_1 19 rfl rfl)
theorem dX8_tell_2_45 : decode cX8_tell_2 45 = .ok (.aload_n 0, 1) := dk_42 (dk_at dksX8_tell_2_1 22 rfl rfl)
theorem dX8_tell_2_46 : decode cX8_tell_2 46 = .ok (.getfield 302, 3) := dk_180 1 46 (dk_at dksX8_tell_2_2 0 rfl rfl)
theorem dX8_tell_2_49 : decode cX8_tell_2 49 = .ok (.iload_n 2, 1) := dk_28 (dk_at dksX8_tell_2_2 3 rfl rfl)
theorem dX8_tell_2_50 : decode cX8_tell_2 50 = .ok (.iastore, 1) := dk_79 (dk_at dksX8_tell_2_2 4 rfl rfl)
theorem dX8_tell_2_51 : decode cX8_tell_2 51 = .ok (.aload_n 0, 1) := dk_42 (dk_at dksX8_tell_2_2 5 rfl rfl)
theorem dX8_tell_2_52 : decode cX8_tell_2 52 = .ok (.getfield 197, 3) := dk_180 0 197 (dk_at dksX8_tell_2_2 6 rfl rfl)
theorem dX8_tell_2_55 : decode cX8_tell_2 55 = .ok (.aload_n 0, 1) := dk_42 (dk_at dksX8_tell_2_2 9 rfl rfl)
theorem dX8_tell_2_56 : decode cX8_tell_2 56 = .ok (.getfield 302, 3) := dk_180 1 46 (dk_at dksX8_tell_2_2 10 rfl rfl)
theorem dX8_tell_2_59 : decode cX8_tell_2 59 = .ok (.iload_n 3, 1) := dk_29 (dk_at dksX8_tell_2_2 13 rfl rfl)
theorem dX8_tell_2_60 : decode cX8_tell_2 60 = .ok (.iastore, 1) := dk_79 (dk_at dksX8_tell_2_2 14 rfl rfl)
theorem dX8_tell_2_61 : decode cX8_tell_2 61 = .ok (.aload_n 0, 1) := dk_42 (dk_at dksX8_tell_2_2 15 rfl rfl)
theorem dX8_tell_2_62 : decode cX8_tell_2 62 = .ok (.dup, 1) := dk_89 (dk_at dksX8_tell_2_2 16 rfl rfl)
theorem dX8_tell_2_63 : decode cX8_tell_2 63 = .ok (.getfield 302, 3) := dk_180 1 46 (dk_at dksX8_tell_2_2 17 rfl rfl)
theorem dX8_tell_2_66 : decode cX8_tell_2 66 = .ok (.iconst 1, 1) := dk_4 (dk_at dksX8_tell_2_2 20 rfl rfl)
theorem dX8_tell_2_67 : decode cX8_tell_2 67 = .ok (.iadd, 1) := dk_96 (dk_at dksX8_tell_2_2 21 rfl rfl)
theorem dX8_tell_2_68 : decode cX8_tell_2 68 = .ok (.putfield 302, 3) := dk_181 1 46 (dk_at dksX8_tell_2_3 0 rfl rfl)
theorem dX8_tell_2_71 : decode cX8_tell_2 71 = .ok (.aload_n 0, 1) := dk_42 (dk_at dksX8_tell_2_3 3 rfl rfl)
theorem dX8_tell_2_72 : decode cX8_tell_2 72 = .ok (.getfield 302, 3) := dk_180 1 46 (dk_at dksX8_tell_2_3 4 rfl rfl)
theorem dX8_tell_2_75 : decode cX8_tell_2 75 = .ok (.iconst 1, 1) := dk_4 (dk_at dksX8_tell_2_3 7 rfl rfl)
theorem dX8_tell_2_76 : decode cX8_tell_2 76 = .ok (.isub, 1) := dk_100 (dk_at dksX8_tell_2_3 8 rfl rfl)
theorem dX8_tell_2_77 : decode cX8_tell_2 77 = .ok (.ireturn, 1) := dk_172 (dk_at dksX8_tell_2_3 9 rfl rfl)
abbrev cX8_forget : ByteArray := prog_22_method_95_code
def yX8_forget : MethodName := ⟨RX8, "forget", "()I"⟩
def dkwX8_forget_0 : List UInt8 := [42, 180, 1, 46, 60, 42, 3, 181, 1, 46, 27, 172]
abbrev dktX8_forget_0 : List UInt8 := dkwX8_forget_0 ++ []
theorem dksX8_forget_0 : cX8_forget.data.toList.drop 0 = dktX8_forget_0 := by decide +kernel
theorem dX8_forget_0 : decode cX8_forget 0 = .ok (.aload_n 0, 1) := dk_42 (dk_at dksX8_forget_0 0 rfl rfl)
theorem dX8_forget_1 : decode cX8_forget 1 = .ok (.getfield 302, 3) := dk_180 1 46 (dk_at dksX8_forget_0 1 rfl rfl)
theorem dX8_forget_4 : decode cX8_forget 4 = .ok (.istore_n 1, 1) := dk_60 (dk_at dksX8_forget_0 4 rfl rfl)
theorem dX8_forget_5 : decode cX8_forget 5 = .ok (.aload_n 0, 1) := dk_42 (dk_at dksX8_forget_0 5 rfl rfl)
theorem dX8_forget_6 : decode cX8_forget 6 = .ok (.iconst 0, 1) := dk_3 (dk_at dksX8_forget_0 6 rfl rfl)
theorem dX8_forget_7 : decode cX8_forget 7 = .ok (.putfield 302, 3) := dk_181 1 46 (dk_at dksX8_forget_0 7 rfl rfl)
theorem dX8_forget_10 : decode cX8_forget 10 = .ok (.iload_n 1, 1) := dk_27 (dk_at dksX8_forget_0 10 rfl rfl)
theorem dX8_forget_11 : decode cX8_forget 11 = .ok (.ireturn, 1) := dk_172 (dk_at dksX8_forget_0 11 rfl rfl)
abbrev cX8_fits : ByteArray := prog_22_method_97_code
def yX8_fits : MethodName := ⟨RX8, "fits", "(III)I"⟩
def dkwX8_fits_4 : List UInt8 := [160, 0, 8, 21, 4, 167, 0, 4, 2, 172]
abbrev dktX8_fits_4 : List UInt8 := dkwX8_fits_4 ++ []
def dkwX8_fits_3 : List UInt8 := [160, 0, 11, 42, 27, 21, 5, 182, 1, 220, 172, 132, 4, 1, 132, 5, 1, 167, 255, 204, 29, 2]
abbrev dktX8_fits_3 : List UInt8 := dkwX8_fits_3 ++ dktX8_fits_4
def dkwX8_fits_2 : List UInt8 := [42, 27, 21, 5, 182, 1, 205, 87, 42, 28, 182, 1, 227, 154, 0, 6, 167, 0, 20, 21, 4, 29]
abbrev dktX8_fits_2 : List UInt8 := dkwX8_fits_2 ++ dktX8_fits_3
def dkwX8_fits_1 : List UInt8 := [162, 0, 5, 2, 172, 3, 54, 4, 3, 54, 5, 21, 5, 42, 182, 1, 214, 162, 0, 49, 42, 182, 1, 181]
abbrev dktX8_fits_1 : List UInt8 := dkwX8_fits_1 ++ dktX8_fits_2
def dkwX8_fits_0 : List UInt8 := [42, 27, 182, 1, 190, 153, 0, 20, 28, 3, 42, 180, 1, 46, 184, 1, 124, 153, 0, 8, 29, 2]
abbrev dktX8_fits_0 : List UInt8 := dkwX8_fits_0 ++ dktX8_fits_1
theorem dksX8_fits_0 : cX8_fits.data.toList.drop 0 = dktX8_fits_0 := by decide +kernel
theorem dksX8_fits_1 : cX8_fits.data.toList.drop 22 = dktX8_fits_1 := dk_seg dksX8_fits_0 22 rfl rfl
theorem dksX8_fits_2 : cX8_fits.data.toList.drop 46 = dktX8_fits_2 := dk_seg dksX8_fits_1 24 rfl rfl
theorem dksX8_fits_3 : cX8_fits.data.toList.drop 68 = dktX8_fits_3 := dk_seg dksX8_fits_2 22 rfl rfl
theorem dksX8_fits_4 : cX8_fits.data.toList.drop 90 = dktX8_fits_4 := dk_seg dksX8_fits_3 22 rfl rfl
theorem dX8_fits_0 : decode cX8_fits 0 = .ok (.aload_n 0, 1) := dk_42 (dk_at dksX8_fits_0 0 rfl rfl)
theorem dX8_fits_1 : decode cX8_fits 1 = .ok (.iload_n 1, 1) := dk_27 (dk_at dksX8_fits_0 1 rfl rfl)
theorem dX8_fits_2 : decode cX8_fits 2 = .ok (.invokevirtual 446, 3) := dk_182 1 190 (dk_at dksX8_fits_0 2 rfl rfl)
theorem dX8_fits_5 : decode cX8_fits 5 = .ok (.ifCond .eq 20, 3) := dk_153 0 20 (dk_at dksX8_fits_0 5 rfl rfl)
theorem dX8_fits_8 : decode cX8_fits 8 = .ok (.iload_n 2, 1) := dk_28 (dk_at dksX8_fits_0 8 rfl rfl)
theorem dX8_fits_9 : decode cX8_fits 9 = .ok (.iconst 0, 1) := dk_3 (dk_at dksX8_fits_0 9 rfl rfl)
theorem dX8_fits_10 : decode cX8_fits 10 = .ok (.aload_n 0, 1) := dk_42 (dk_at dksX8_fits_0 10 rfl rfl)
theorem dX8_fits_11 : decode cX8_fits 11 = .ok (.getfield 302, 3) := dk_180 1 46 (dk_at dksX8_fits_0 11 rfl rfl)
theorem dX8_fits_14 : decode cX8_fits 14 = .ok (.invokestatic 380, 3) := dk_184 1 124 (dk_at dksX8_fits_0 14 rfl rfl)
theorem dX8_fits_17 : decode cX8_fits 17 = .ok (.ifCond .eq 8, 3) := dk_153 0 8 (dk_at dksX8_fits_0 17 rfl rfl)
theorem dX8_fits_20 : decode cX8_fits 20 = .ok (.iload_n 3, 1) := dk_29 (dk_at dksX8_fits_0 20 rfl rfl)
theorem dX8_fits_21 : decode cX8_fits 21 = .ok (.iconst (-1), 1) := dk_2 (dk_at dksX8_fits_0 21 rfl rfl)
theorem dX8_fits_22 : decode cX8_fits 22 = .ok (.if_icmp .ge 5, 3) := dk_162 0 5 (dk_at dksX8_fits_1 0 rfl rfl)
theorem dX8_fits_25 : decode cX8_fits 25 = .ok (.iconst (-1), 1) := dk_2 (dk_at dksX8_fits_1 3 rfl rfl)
theorem dX8_fits_26 : decode cX8_fits 26 = .ok (.ireturn, 1) := dk_172 (dk_at dksX8_fits_1 4 rfl rfl)
theorem dX8_fits_27 : decode cX8_fits 27 = .ok (.iconst 0, 1) := dk_3 (dk_at dksX8_fits_1 5 rfl rfl)
theorem dX8_fits_28 : decode cX8_fits 28 = .ok (.istore 4, 2) := dk_54 4 (dk_at dksX8_fits_1 6 rfl rfl)
theorem dX8_fits_30 : decode cX8_fits 30 = .ok (.iconst 0, 1) := dk_3 (dk_at dksX8_fits_1 8 rfl rfl)
theorem dX8_fits_31 : decode cX8_fits 31 = .ok (.istore 5, 2) := dk_54 5 (dk_at dksX8_fits_1 9 rfl rfl)
theorem dX8_fits_33 : decode cX8_fits 33 = .ok (.iload 5, 2) := dk_21 5 (dk_at dksX8_fits_1 11 rfl rfl)
theorem dX8_fits_35 : decode cX8_fits 35 = .ok (.aload_n 0, 1) := dk_42 (dk_at dksX8_fits_1 13 rfl rfl)
theorem dX8_fits_36 : decode cX8_fits 36 = .ok (.invokevirtual 470, 3) := dk_182 1 214 (dk_at dksX8_fits_1 14 rfl rfl)
theorem dX8_fits_39 : decode cX8_fits 39 = .ok (.if_icmp .ge 49, 3) := dk_162 0 49 (dk_at dksX8_fits_1 17 rfl rfl)
theorem dX8_fits_42 : decode cX8_fits 42 = .ok (.aload_n 0, 1) := dk_42 (dk_at dksX8_fits_1 20 rfl rfl)
theorem dX8_fits_43 : decode cX8_fits 43 = .ok (.invokevirtual 437, 3) := dk_182 1 181 (dk_at dksX8_fits_1 21 rfl rfl)
theorem dX8_fits_46 : decode cX8_fits 46 = .ok (.aload_n 0, 1) := dk_42 (dk_at dksX8_fits_2 0 rfl rfl)
theorem dX8_fits_47 : decode cX8_fits 47 = .ok (.iload_n 1, 1) := dk_27 (dk_at dksX8_fits_2 1 rfl rfl)
theorem dX8_fits_48 : decode cX8_fits 48 = .ok (.iload 5, 2) := dk_21 5 (dk_at dksX8_fits_2 2 rfl rfl)
theorem dX8_fits_50 : decode cX8_fits 50 = .ok (.invokevirtual 461, 3) := dk_182 1 205 (dk_at dksX8_fits_2 4 rfl rfl)
theorem dX8_fits_53 : decode cX8_fits 53 = .ok (.pop, 1) := dk_87 (dk_at dksX8_fits_2 7 rfl rfl)
theorem dX8_fits_54 : decode cX8_fits 54 = .ok (.aload_n 0, 1) := dk_42 (dk_at dksX8_fits_2 8 rfl rfl)
theorem dX8_fits_55 : decode cX8_fits 55 = .ok (.iload_n 2, 1) := dk_28 (dk_at dksX8_fits_2 9 rfl rfl)
theorem dX8_fits_56 : decode cX8_fits 56 = .ok (.invokevirtual 483, 3) := dk_182 1 227 (dk_at dksX8_fits_2 10 rfl rfl)
theorem dX8_fits_59 : decode cX8_fits 59 = .ok (.ifCond .ne 6, 3) := dk_154 0 6 (dk_at dksX8_fits_2 13 rfl rfl)
theorem dX8_fits_62 : decode cX8_fits 62 = .ok (.goto 20, 3) := dk_167 0 20 (dk_at dksX8_fits_2 16 rfl rfl)
theorem dX8_fits_65 : decode cX8_fits 65 = .ok (.iload 4, 2) := dk_21 4 (dk_at dksX8_fits_2 19 rfl rfl)
theorem dX8_fits_67 : decode cX8_fits 67 = .ok (.iload_n 3, 1) := dk_29 (dk_at dksX8_fits_2 21 rfl rfl)
theorem dX8_fits_68 : decode cX8_fits 68 = .ok (.if_icmp .ne 11, 3) := dk_160 0 11 (dk_at dksX8_fits_3 0 rfl rfl)
theorem dX8_fits_71 : decode cX8_fits 71 = .ok (.aload_n 0, 1) := dk_42 (dk_at dksX8_fits_3 3 rfl rfl)
theorem dX8_fits_72 : decode cX8_fits 72 = .ok (.iload_n 1, 1) := dk_27 (dk_at dksX8_fits_3 4 rfl rfl)
theorem dX8_fits_73 : decode cX8_fits 73 = .ok (.iload 5, 2) := dk_21 5 (dk_at dksX8_fits_3 5 rfl rfl)
theorem dX8_fits_75 : decode cX8_fits 75 = .ok (.invokevirtual 476, 3) := dk_182 1 220 (dk_at dksX8_fits_3 7 rfl rfl)
theorem dX8_fits_78 : decode cX8_fits 78 = .ok (.ireturn, 1) := dk_172 (dk_at dksX8_fits_3 10 rfl rfl)
theorem dX8_fits_79 : decode cX8_fits 79 = .ok (.iinc 4 1, 3) := dk_132 4 1 (dk_at dksX8_fits_3 11 rfl rfl)
theorem dX8_fits_82 : decode cX8_fits 82 = .ok (.iinc 5 1, 3) := dk_132 5 1 (dk_at dksX8_fits_3 14 rfl rfl)
theorem dX8_fits_85 : decode cX8_fits 85 = .ok (.goto (-52), 3) := dk_167 255 204 (dk_at dksX8_fits_3 17 rfl rfl)
theorem dX8_fits_88 : decode cX8_fits 88 = .ok (.iload_n 3, 1) := dk_29 (dk_at dksX8_fits_3 20 rfl rfl)
theorem dX8_fits_89 : decode cX8_fits 89 = .ok (.iconst (-1), 1) := dk_2 (dk_at dksX8_fits_3 21 rfl rfl)
theorem dX8_fits_90 : decode cX8_fits 90 = .ok (.if_icmp .ne 8, 3) := dk_160 0 8 (dk_at dksX8_fits_4 0 rfl rfl)
theorem dX8_fits_93 : decode cX8_fits 93 = .ok (.iload 4, 2) := dk_21 4 (dk_at dksX8_fits_4 3 rfl rfl)
theorem dX8_fits_95 : decode cX8_fits 95 = .ok (.goto 4, 3) := dk_167 0 4 (dk_at dksX8_fits_4 5 rfl rfl)
theorem dX8_fits_98 : decode cX8_fits 98 = .ok (.iconst (-1), 1) := dk_2 (dk_at dksX8_fits_4 8 rfl rfl)
theorem dX8_fits_99 : decode cX8_fits 99 = .ok (.ireturn, 1) := dk_172 (dk_at dksX8_fits_4 9 rfl rfl)
abbrev cX8_isSo : ByteArray := prog_22_method_96_code
def yX8_isSo : MethodName := ⟨RX8, "isSo", "(I)Z"⟩
def dkwX8_isSo_2 : List UInt8 := [132, 2, 1, 167, 255, 213, 4, 172]
abbrev dktX8_isSo_2 : List UInt8 := dkwX8_isSo_2 ++ []
def dkwX8_isSo_1 : List UInt8 := [28, 46, 104, 96, 42, 180, 0, 194, 28, 46, 96, 46, 42, 180, 0, 197, 28, 46, 159, 0, 5, 3, 172]
abbrev dktX8_isSo_1 : List UInt8 := dkwX8_isSo_1 ++ dktX8_isSo_2
def dkwX8_isSo_0 : List UInt8 := [42, 182, 1, 202, 87, 3, 61, 28, 27, 162, 0, 44, 42, 180, 0, 161, 16, 6, 16, 6, 42, 180, 0, 191]
abbrev dktX8_isSo_0 : List UInt8 := dkwX8_isSo_0 ++ dktX8_isSo_1
theorem dksX8_isSo_0 : cX8_isSo.data.toList.drop 0 = dktX8_isSo_0 := by decide +kernel
theorem dksX8_isSo_1 : cX8_isSo.data.toList.drop 24 = dktX8_isSo_1 := dk_seg dksX8_isSo_0 24 rfl rfl
theorem dksX8_isSo_2 : cX8_isSo.data.toList.drop 47 = dktX8_isSo_2 := dk_seg dksX8_isSo_1 23 rfl rfl
theorem dX8_isSo_0 : decode cX8_isSo 0 = .ok (.aload_n 0, 1) := dk_42 (dk_at dksX8_isSo_0 0 rfl rfl)
theorem dX8_isSo_1 : decode cX8_isSo 1 = .ok (.invokevirtual 458, 3) := dk_182 1 202 (dk_at dksX8_isSo_0 1 rfl rfl)
theorem dX8_isSo_4 : decode cX8_isSo 4 = .ok (.pop, 1) := dk_87 (dk_at dksX8_isSo_0 4 rfl rfl)
theorem dX8_isSo_5 : decode cX8_isSo 5 = .ok (.iconst 0, 1) := dk_3 (dk_at dksX8_isSo_0 5 rfl rfl)
theorem dX8_isSo_6 : decode cX8_isSo 6 = .ok (.istore_n 2, 1) := dk_61 (dk_at dksX8_isSo_0 6 rfl rfl)
theorem dX8_isSo_7 : decode cX8_isSo 7 = .ok (.iload_n 2, 1) := dk_28 (dk_at dksX8_isSo_0 7 rfl rfl)
theorem dX8_isSo_8 : decode cX8_isSo 8 = .ok (.iload_n 1, 1) := dk_27 (dk_at dksX8_isSo_0 8 rfl rfl)
theorem dX8_isSo_9 : decode cX8_isSo 9 = .ok (.if_icmp .ge 44, 3) := dk_162 0 44 (dk_at dksX8_isSo_0 9 rfl rfl)
theorem dX8_isSo_12 : decode cX8_isSo 12 = .ok (.aload_n 0, 1) := dk_42 (dk_at dksX8_isSo_0 12 rfl rfl)
theorem dX8_isSo_13 : decode cX8_isSo 13 = .ok (.getfield 161, 3) := dk_180 0 161 (dk_at dksX8_isSo_0 13 rfl rfl)
theorem dX8_isSo_16 : decode cX8_isSo 16 = .ok (.bipush 6, 2) := dk_16 6 (dk_at dksX8_isSo_0 16 rfl rfl)
theorem dX8_isSo_18 : decode cX8_isSo 18 = .ok (.bipush 6, 2) := dk_16 6 (dk_at dksX8_isSo_0 18 rfl rfl)
theorem dX8_isSo_20 : decode cX8_isSo 20 = .ok (.aload_n 0, 1) := dk_42 (dk_at dksX8_isSo_0 20 rfl rfl)
theorem dX8_isSo_21 : decode cX8_isSo 21 = .ok (.getfield 191, 3) := dk_180 0 191 (dk_at dksX8_isSo_0 21 rfl rfl)
theorem dX8_isSo_24 : decode cX8_isSo 24 = .ok (.iload_n 2, 1) := dk_28 (dk_at dksX8_isSo_1 0 rfl rfl)
theorem dX8_isSo_25 : decode cX8_isSo 25 = .ok (.iaload, 1) := dk_46 (dk_at dksX8_isSo_1 1 rfl rfl)
theorem dX8_isSo_26 : decode cX8_isSo 26 = .ok (.imul, 1) := dk_104 (dk_at dksX8_isSo_1 2 rfl rfl)
theorem dX8_isSo_27 : decode cX8_isSo 27 = .ok (.iadd, 1) := dk_96 (dk_at dksX8_isSo_1 3 rfl rfl)
theorem dX8_isSo_28 : decode cX8_isSo 28 = .ok (.aload_n 0, 1) := dk_42 (dk_at dksX8_isSo_1 4 rfl rfl)
theorem dX8_isSo_29 : decode cX8_isSo 29 = .ok (.getfield 194, 3) := dk_180 0 194 (dk_at dksX8_isSo_1 5 rfl rfl)
theorem dX8_isSo_32 : decode cX8_isSo 32 = .ok (.iload_n 2, 1) := dk_28 (dk_at dksX8_isSo_1 8 rfl rfl)
theorem dX8_isSo_33 : decode cX8_isSo 33 = .ok (.iaload, 1) := dk_46 (dk_at dksX8_isSo_1 9 rfl rfl)
theorem dX8_isSo_34 : decode cX8_isSo 34 = .ok (.iadd, 1) := dk_96 (dk_at dksX8_isSo_1 10 rfl rfl)
theorem dX8_isSo_35 : decode cX8_isSo 35 = .ok (.iaload, 1) := dk_46 (dk_at dksX8_isSo_1 11 rfl rfl)
theorem dX8_isSo_36 : decode cX8_isSo 36 = .ok (.aload_n 0, 1) := dk_42 (dk_at dksX8_isSo_1 12 rfl rfl)
theorem dX8_isSo_37 : decode cX8_isSo 37 = .ok (.getfield 197, 3) := dk_180 0 197 (dk_at dksX8_isSo_1 13 rfl rfl)
theorem dX8_isSo_40 : decode cX8_isSo 40 = .ok (.iload_n 2, 1) := dk_28 (dk_at dksX8_isSo_1 16 rfl rfl)
theorem dX8_isSo_41 : decode cX8_isSo 41 = .ok (.iaload, 1) := dk_46 (dk_at dksX8_isSo_1 17 rfl rfl)
theorem dX8_isSo_42 : decode cX8_isSo 42 = .ok (.if_icmp .eq 5, 3) := dk_159 0 5 (dk_at dksX8_isSo_1 18 rfl rfl)
theorem dX8_isSo_45 : decode cX8_isSo 45 = .ok (.iconst 0, 1) := dk_3 (dk_at dksX8_isSo_1 21 rfl rfl)
theorem dX8_isSo_46 : decode cX8_isSo 46 = .ok (.ireturn, 1) := dk_172 (dk_at dksX8_isSo_1 22 rfl rfl)
theorem dX8_isSo_47 : decode cX8_isSo 47 = .ok (.iinc 2 1, 3) := dk_132 2 1 (dk_at dksX8_isSo_2 0 rfl rfl)
theorem dX8_isSo_50 : decode cX8_isSo 50 = .ok (.goto (-43), 3) := dk_167 255 213 (dk_at dksX8_isSo_2 3 rfl rfl)
theorem dX8_isSo_53 : decode cX8_isSo 53 = .ok (.iconst 1, 1) := dk_4 (dk_at dksX8_isSo_2 6 rfl rfl)
theorem dX8_isSo_54 : decode cX8_isSo 54 = .ok (.ireturn, 1) := dk_172 (dk_at dksX8_isSo_2 7 rfl rfl)
abbrev cX8_suspects : ByteArray := prog_22_method_99_code
def yX8_suspects : MethodName := ⟨RX8, "suspects", "(I)I"⟩
def dkwX8_suspects_2 : List UInt8 := [28, 172]
abbrev dktX8_suspects_2 : List UInt8 := dkwX8_suspects_2 ++ []
def dkwX8_suspects_1 : List UInt8 := [162, 0, 24, 42, 29, 27, 182, 1, 230, 153, 0, 9, 28, 4, 29, 120, 128, 61, 132, 3, 1, 167, 255, 230]
abbrev dktX8_suspects_1 : List UInt8 := dkwX8_suspects_1 ++ dktX8_suspects_2
def dkwX8_suspects_0 : List UInt8 := [27, 3, 42, 180, 1, 46, 184, 1, 124, 154, 0, 5, 2, 172, 3, 61, 3, 62, 29, 42, 182, 1, 134]
abbrev dktX8_suspects_0 : List UInt8 := dkwX8_suspects_0 ++ dktX8_suspects_1
theorem dksX8_suspects_0 : cX8_suspects.data.toList.drop 0 = dktX8_suspects_0 := by decide +kernel
theorem dksX8_suspects_1 : cX8_suspects.data.toList.drop 23 = dktX8_suspects_1 := dk_seg dksX8_suspects_0 23 rfl rfl
theorem dksX8_suspects_2 : cX8_suspects.data.toList.drop 47 = dktX8_suspects_2 := dk_seg dksX8_suspects_1 24 rfl rfl
theorem dX8_suspects_0 : decode cX8_suspects 0 = .ok (.iload_n 1, 1) := dk_27 (dk_at dksX8_suspects_0 0 rfl rfl)
theorem dX8_suspects_1 : decode cX8_suspects 1 = .ok (.iconst 0, 1) := dk_3 (dk_at dksX8_suspects_0 1 rfl rfl)
theorem dX8_suspects_2 : decode cX8_suspects 2 = .ok (.aload_n 0, 1) := dk_42 (dk_at dksX8_suspects_0 2 rfl rfl)
theorem dX8_suspects_3 : decode cX8_suspects 3 = .ok (.getfield 302, 3) := dk_180 1 46 (dk_at dksX8_suspects_0 3 rfl rfl)
theorem dX8_suspects_6 : decode cX8_suspects 6 = .ok (.invokestatic 380, 3) := dk_184 1 124 (dk_at dksX8_suspects_0 6 rfl rfl)
theorem dX8_suspects_9 : decode cX8_suspects 9 = .ok (.ifCond .ne 5, 3) := dk_154 0 5 (dk_at dksX8_suspects_0 9 rfl rfl)
theorem dX8_suspects_12 : decode cX8_suspects 12 = .ok (.iconst (-1), 1) := dk_2 (dk_at dksX8_suspects_0 12 rfl rfl)
theorem dX8_suspects_13 : decode cX8_suspects 13 = .ok (.ireturn, 1) := dk_172 (dk_at dksX8_suspects_0 13 rfl rfl)
theorem dX8_suspects_14 : decode cX8_suspects 14 = .ok (.iconst 0, 1) := dk_3 (dk_at dksX8_suspects_0 14 rfl rfl)
theorem dX8_suspects_15 : decode cX8_suspects 15 = .ok (.istore_n 2, 1) := dk_61 (dk_at dksX8_suspects_0 15 rfl rfl)
theorem dX8_suspects_16 : decode cX8_suspects 16 = .ok (.iconst 0, 1) := dk_3 (dk_at dksX8_suspects_0 16 rfl rfl)
theorem dX8_suspects_17 : decode cX8_suspects 17 = .ok (.istore_n 3, 1) := dk_62 (dk_at dksX8_suspects_0 17 rfl rfl)
theorem dX8_suspects_18 : decode cX8_suspects 18 = .ok (.iload_n 3, 1) := dk_29 (dk_at dksX8_suspects_0 18 rfl rfl)
theorem dX8_suspects_19 : decode cX8_suspects 19 = .ok (.aload_n 0, 1) := dk_42 (dk_at dksX8_suspects_0 19 rfl rfl)
theorem dX8_suspects_20 : decode cX8_suspects 20 = .ok (.invokevirtual 390, 3) := dk_182 1 134 (dk_at dksX8_suspects_0 20 rfl rfl)
theorem dX8_suspects_23 : decode cX8_suspects 23 = .ok (.if_icmp .ge 24, 3) := dk_162 0 24 (dk_at dksX8_suspects_1 0 rfl rfl)
theorem dX8_suspects_26 : decode cX8_suspects 26 = .ok (.aload_n 0, 1) := dk_42 (dk_at dksX8_suspects_1 3 rfl rfl)
theorem dX8_suspects_27 : decode cX8_suspects 27 = .ok (.iload_n 3, 1) := dk_29 (dk_at dksX8_suspects_1 4 rfl rfl)
theorem dX8_suspects_28 : decode cX8_suspects 28 = .ok (.iload_n 1, 1) := dk_27 (dk_at dksX8_suspects_1 5 rfl rfl)
theorem dX8_suspects_29 : decode cX8_suspects 29 = .ok (.invokevirtual 486, 3) := dk_182 1 230 (dk_at dksX8_suspects_1 6 rfl rfl)
theorem dX8_suspects_32 : decode cX8_suspects 32 = .ok (.ifCond .eq 9, 3) := dk_153 0 9 (dk_at dksX8_suspects_1 9 rfl rfl)
theorem dX8_suspects_35 : decode cX8_suspects 35 = .ok (.iload_n 2, 1) := dk_28 (dk_at dksX8_suspects_1 12 rfl rfl)
theorem dX8_suspects_36 : decode cX8_suspects 36 = .ok (.iconst 1, 1) := dk_4 (dk_at dksX8_suspects_1 13 rfl rfl)
theorem dX8_suspects_37 : decode cX8_suspects 37 = .ok (.iload_n 3, 1) := dk_29 (dk_at dksX8_suspects_1 14 rfl rfl)
theorem dX8_suspects_38 : decode cX8_suspects 38 = .ok (.ishl, 1) := dk_120 (dk_at dksX8_suspects_1 15 rfl rfl)
theorem dX8_suspects_39 : decode cX8_suspects 39 = .ok (.ior, 1) := dk_128 (dk_at dksX8_suspects_1 16 rfl rfl)
theorem dX8_suspects_40 : decode cX8_suspects 40 = .ok (.istore_n 2, 1) := dk_61 (dk_at dksX8_suspects_1 17 rfl rfl)
theorem dX8_suspects_41 : decode cX8_suspects 41 = .ok (.iinc 3 1, 3) := dk_132 3 1 (dk_at dksX8_suspects_1 18 rfl rfl)
theorem dX8_suspects_44 : decode cX8_suspects 44 = .ok (.goto (-26), 3) := dk_167 255 230 (dk_at dksX8_suspects_1 21 rfl rfl)
theorem dX8_suspects_47 : decode cX8_suspects 47 = .ok (.iload_n 2, 1) := dk_28 (dk_at dksX8_suspects_2 0 rfl rfl)
theorem dX8_suspects_48 : decode cX8_suspects 48 = .ok (.ireturn, 1) := dk_172 (dk_at dksX8_suspects_2 1 rfl rfl)
abbrev cX8_isSuspect : ByteArray := prog_22_method_98_code
def yX8_isSuspect : MethodName := ⟨RX8, "isSuspect", "(II)Z"⟩
def dkwX8_isSuspect_3 : List UInt8 := [182, 1, 227, 153, 0, 5, 4, 172, 132, 3, 1, 167, 255, 179, 3, 172]
abbrev dktX8_isSuspect_3 : List UInt8 := dkwX8_isSuspect_3 ++ []
def dkwX8_isSuspect_2 : List UInt8 := [16, 48, 27, 96, 46, 42, 180, 0, 158, 16, 48, 27, 96, 46, 160, 0, 6, 167, 0, 13, 42, 28]
abbrev dktX8_isSuspect_2 : List UInt8 := dkwX8_isSuspect_2 ++ dktX8_isSuspect_3
def dkwX8_isSuspect_1 : List UInt8 := [180, 0, 161, 16, 42, 27, 96, 46, 42, 180, 0, 158, 16, 42, 27, 96, 46, 160, 0, 27, 42, 180, 0, 161]
abbrev dktX8_isSuspect_1 : List UInt8 := dkwX8_isSuspect_1 ++ dktX8_isSuspect_2
def dkwX8_isSuspect_0 : List UInt8 := [3, 62, 29, 42, 182, 1, 214, 162, 0, 75, 42, 182, 1, 181, 42, 27, 29, 182, 1, 205, 87, 42]
abbrev dktX8_isSuspect_0 : List UInt8 := dkwX8_isSuspect_0 ++ dktX8_isSuspect_1
theorem dksX8_isSuspect_0 : cX8_isSuspect.data.toList.drop 0 = dktX8_isSuspect_0 := by decide +kernel
theorem dksX8_isSuspect_1 : cX8_isSuspect.data.toList.drop 22 = dktX8_isSuspect_1 := dk_seg dksX8_isSuspect_0 22 rfl rfl
theorem dksX8_isSuspect_2 : cX8_isSuspect.data.toList.drop 46 = dktX8_isSuspect_2 := dk_seg dksX8_isSuspect_1 24 rfl rfl
theorem dksX8_isSuspect_3 : cX8_isSuspect.data.toList.drop 68 = dktX8_isSuspect_3 := dk_seg dksX8_isSuspect_2 22 rfl rfl
theorem dX8_isSuspect_0 : decode cX8_isSuspect 0 = .ok (.iconst 0, 1) := dk_3 (dk_at dksX8_isSuspect_0 0 rfl rfl)
theorem dX8_isSuspect_1 : decode cX8_isSuspect 1 = .ok (.istore_n 3, 1) := dk_62 (dk_at dksX8_isSuspect_0 1 rfl rfl)
theorem dX8_isSuspect_2 : decode cX8_isSuspect 2 = .ok (.iload_n 3, 1) := dk_29 (dk_at dksX8_isSuspect_0 2 rfl rfl)
theorem dX8_isSuspect_3 : decode cX8_isSuspect 3 = .ok (.aload_n 0, 1) := dk_42 (dk_at dksX8_isSuspect_0 3 rfl rfl)
theorem dX8_isSuspect_4 : decode cX8_isSuspect 4 = .ok (.invokevirtual 470, 3) := dk_182 1 214 (dk_at dksX8_isSuspect_0 4 rfl rfl)
theorem dX8_isSuspect_7 : decode cX8_isSuspect 7 = .ok (.if_icmp .ge 75, 3) := dk_162 0 75 (dk_at dksX8_isSuspect_0 7 rfl rfl)
theorem dX8_isSuspect_10 : decode cX8_isSuspect 10 = .ok (.aload_n 0, 1) := dk_42 (dk_at dksX8_isSuspect_0 10 rfl rfl)
theorem dX8_isSuspect_11 : decode cX8_isSuspect 11 = .ok (.invokevirtual 437, 3) := dk_182 1 181 (dk_at dksX8_isSuspect_0 11 rfl rfl)
theorem dX8_isSuspect_14 : decode cX8_isSuspect 14 = .ok (.aload_n 0, 1) := dk_42 (dk_at dksX8_isSuspect_0 14 rfl rfl)
theorem dX8_isSuspect_15 : decode cX8_isSuspect 15 = .ok (.iload_n 1, 1) := dk_27 (dk_at dksX8_isSuspect_0 15 rfl rfl)
theorem dX8_isSuspect_16 : decode cX8_isSuspect 16 = .ok (.iload_n 3, 1) := dk_29 (dk_at dksX8_isSuspect_0 16 rfl rfl)
theorem dX8_isSuspect_17 : decode cX8_isSuspect 17 = .ok (.invokevirtual 461, 3) := dk_182 1 205 (dk_at dksX8_isSuspect_0 17 rfl rfl)
theorem dX8_isSuspect_20 : decode cX8_isSuspect 20 = .ok (.pop, 1) := dk_87 (dk_at dksX8_isSuspect_0 20 rfl rfl)
theorem dX8_isSuspect_21 : decode cX8_isSuspect 21 = .ok (.aload_n 0, 1) := dk_42 (dk_at dksX8_isSuspect_0 21 rfl rfl)
theorem dX8_isSuspect_22 : decode cX8_isSuspect 22 = .ok (.getfield 161, 3) := dk_180 0 161 (dk_at dksX8_isSuspect_1 0 rfl rfl)
theorem dX8_isSuspect_25 : decode cX8_isSuspect 25 = .ok (.bipush 42, 2) := dk_16 42 (dk_at dksX8_isSuspect_1 3 rfl rfl)
theorem dX8_isSuspect_27 : decode cX8_isSuspect 27 = .ok (.iload_n 1, 1) := dk_27 (dk_at dksX8_isSuspect_1 5 rfl rfl)
theorem dX8_isSuspect_28 : decode cX8_isSuspect 28 = .ok (.iadd, 1) := dk_96 (dk_at dksX8_isSuspect_1 6 rfl rfl)
theorem dX8_isSuspect_29 : decode cX8_isSuspect 29 = .ok (.iaload, 1) := dk_46 (dk_at dksX8_isSuspect_1 7 rfl rfl)
theorem dX8_isSuspect_30 : decode cX8_isSuspect 30 = .ok (.aload_n 0, 1) := dk_42 (dk_at dksX8_isSuspect_1 8 rfl rfl)
theorem dX8_isSuspect_31 : decode cX8_isSuspect 31 = .ok (.getfield 158, 3) := dk_180 0 158 (dk_at dksX8_isSuspect_1 9 rfl rfl)
theorem dX8_isSuspect_34 : decode cX8_isSuspect 34 = .ok (.bipush 42, 2) := dk_16 42 (dk_at dksX8_isSuspect_1 12 rfl rfl)
theorem dX8_isSuspect_36 : decode cX8_isSuspect 36 = .ok (.iload_n 1, 1) := dk_27 (dk_at dksX8_isSuspect_1 14 rfl rfl)
theorem dX8_isSuspect_37 : decode cX8_isSuspect 37 = .ok (.iadd, 1) := dk_96 (dk_at dksX8_isSuspect_1 15 rfl rfl)
theorem dX8_isSuspect_38 : decode cX8_isSuspect 38 = .ok (.iaload, 1) := dk_46 (dk_at dksX8_isSuspect_1 16 rfl rfl)
theorem dX8_isSuspect_39 : decode cX8_isSuspect 39 = .ok (.if_icmp .ne 27, 3) := dk_160 0 27 (dk_at dksX8_isSuspect_1 17 rfl rfl)
theorem dX8_isSuspect_42 : decode cX8_isSuspect 42 = .ok (.aload_n 0, 1) := dk_42 (dk_at dksX8_isSuspect_1 20 rfl rfl)
theorem dX8_isSuspect_43 : decode cX8_isSuspect 43 = .ok (.getfield 161, 3) := dk_180 0 161 (dk_at dksX8_isSuspect_1 21 rfl rfl)
theorem dX8_isSuspect_46 : decode cX8_isSuspect 46 = .ok (.bipush 48, 2) := dk_16 48 (dk_at dksX8_isSuspect_2 0 rfl rfl)
theorem dX8_isSuspect_48 : decode cX8_isSuspect 48 = .ok (.iload_n 1, 1) := dk_27 (dk_at dksX8_isSuspect_2 2 rfl rfl)
theorem dX8_isSuspect_49 : decode cX8_isSuspect 49 = .ok (.iadd, 1) := dk_96 (dk_at dksX8_isSuspect_2 3 rfl rfl)
theorem dX8_isSuspect_50 : decode cX8_isSuspect 50 = .ok (.iaload, 1) := dk_46 (dk_at dksX8_isSuspect_2 4 rfl rfl)
theorem dX8_isSuspect_51 : decode cX8_isSuspect 51 = .ok (.aload_n 0, 1) := dk_42 (dk_at dksX8_isSuspect_2 5 rfl rfl)
theorem dX8_isSuspect_52 : decode cX8_isSuspect 52 = .ok (.getfield 158, 3) := dk_180 0 158 (dk_at dksX8_isSuspect_2 6 rfl rfl)
theorem dX8_isSuspect_55 : decode cX8_isSuspect 55 = .ok (.bipush 48, 2) := dk_16 48 (dk_at dksX8_isSuspect_2 9 rfl rfl)
theorem dX8_isSuspect_57 : decode cX8_isSuspect 57 = .ok (.iload_n 1, 1) := dk_27 (dk_at dksX8_isSuspect_2 11 rfl rfl)
theorem dX8_isSuspect_58 : decode cX8_isSuspect 58 = .ok (.iadd, 1) := dk_96 (dk_at dksX8_isSuspect_2 12 rfl rfl)
theorem dX8_isSuspect_59 : decode cX8_isSuspect 59 = .ok (.iaload, 1) := dk_46 (dk_at dksX8_isSuspect_2 13 rfl rfl)
theorem dX8_isSuspect_60 : decode cX8_isSuspect 60 = .ok (.if_icmp .ne 6, 3) := dk_160 0 6 (dk_at dksX8_isSuspect_2 14 rfl rfl)
theorem dX8_isSuspect_63 : decode cX8_isSuspect 63 = .ok (.goto 13, 3) := dk_167 0 13 (dk_at dksX8_isSuspect_2 17 rfl rfl)
theorem dX8_isSuspect_66 : decode cX8_isSuspect 66 = .ok (.aload_n 0, 1) := dk_42 (dk_at dksX8_isSuspect_2 20 rfl rfl)
theorem dX8_isSuspect_67 : decode cX8_isSuspect 67 = .ok (.iload_n 2, 1) := dk_28 (dk_at dksX8_isSuspect_2 21 rfl rfl)
theorem dX8_isSuspect_68 : decode cX8_isSuspect 68 = .ok (.invokevirtual 483, 3) := dk_182 1 227 (dk_at dksX8_isSuspect_3 0 rfl rfl)
theorem dX8_isSuspect_71 : decode cX8_isSuspect 71 = .ok (.ifCond .eq 5, 3) := dk_153 0 5 (dk_at dksX8_isSuspect_3 3 rfl rfl)
theorem dX8_isSuspect_74 : decode cX8_isSuspect 74 = .ok (.iconst 1, 1) := dk_4 (dk_at dksX8_isSuspect_3 6 rfl rfl)
theorem dX8_isSuspect_75 : decode cX8_isSuspect 75 = .ok (.ireturn, 1) := dk_172 (dk_at dksX8_isSuspect_3 7 rfl rfl)
theorem dX8_isSuspect_76 : decode cX8_isSuspect 76 = .ok (.iinc 3 1, 3) := dk_132 3 1 (dk_at dksX8_isSuspect_3 8 rfl rfl)
theorem dX8_isSuspect_79 : decode cX8_isSuspect 79 = .ok (.goto (-77), 3) := dk_167 255 179 (dk_at dksX8_isSuspect_3 11 rfl rfl)
theorem dX8_isSuspect_82 : decode cX8_isSuspect 82 = .ok (.iconst 0, 1) := dk_3 (dk_at dksX8_isSuspect_3 14 rfl rfl)
theorem dX8_isSuspect_83 : decode cX8_isSuspect 83 = .ok (.ireturn, 1) := dk_172 (dk_at dksX8_isSuspect_3 15 rfl rfl)
abbrev cX8_pairs : ByteArray := prog_22_method_100_code
def yX8_pairs : MethodName := ⟨RX8, "pairs", "(III)I"⟩
def dkwX8_pairs_4 : List UInt8 := [132, 6, 1, 167, 255, 213, 132, 5, 1, 167, 255, 195, 21, 4, 172]
abbrev dktX8_pairs_4 : List UInt8 := dkwX8_pairs_4 ++ []
def dkwX8_pairs_3 : List UInt8 := [182, 1, 205, 87, 42, 28, 21, 6, 182, 1, 205, 87, 42, 29, 182, 1, 227, 153, 0, 6, 132, 4, 1]
abbrev dktX8_pairs_3 : List UInt8 := dkwX8_pairs_3 ++ dktX8_pairs_4
def dkwX8_pairs_2 : List UInt8 := [162, 0, 58, 3, 54, 6, 21, 6, 42, 182, 1, 214, 162, 0, 40, 42, 182, 1, 181, 42, 27, 21, 5]
abbrev dktX8_pairs_2 : List UInt8 := dkwX8_pairs_2 ++ dktX8_pairs_3
def dkwX8_pairs_1 : List UInt8 := [180, 1, 46, 184, 1, 124, 154, 0, 5, 2, 172, 3, 54, 4, 3, 54, 5, 21, 5, 42, 182, 1, 214]
abbrev dktX8_pairs_1 : List UInt8 := dkwX8_pairs_1 ++ dktX8_pairs_2
def dkwX8_pairs_0 : List UInt8 := [42, 27, 182, 1, 190, 153, 0, 28, 42, 28, 182, 1, 190, 153, 0, 20, 27, 28, 159, 0, 15, 29, 3, 42]
abbrev dktX8_pairs_0 : List UInt8 := dkwX8_pairs_0 ++ dktX8_pairs_1
theorem dksX8_pairs_0 : cX8_pairs.data.toList.drop 0 = dktX8_pairs_0 := by decide +kernel
theorem dksX8_pairs_1 : cX8_pairs.data.toList.drop 24 = dktX8_pairs_1 := dk_seg dksX8_pairs_0 24 rfl rfl
theorem dksX8_pairs_2 : cX8_pairs.data.toList.drop 47 = dktX8_pairs_2 := dk_seg dksX8_pairs_1 23 rfl rfl
theorem dksX8_pairs_3 : cX8_pairs.data.toList.drop 70 = dktX8_pairs_3 := dk_seg dksX8_pairs_2 23 rfl rfl
theorem dksX8_pairs_4 : cX8_pairs.data.toList.drop 93 = dktX8_pairs_4 := dk_seg dksX8_pairs_3 23 rfl rfl
theorem dX8_pairs_0 : decode cX8_pairs 0 = .ok (.aload_n 0, 1) := dk_42 (dk_at dksX8_pairs_0 0 rfl rfl)
theorem dX8_pairs_1 : decode cX8_pairs 1 = .ok (.iload_n 1, 1) := dk_27 (dk_at dksX8_pairs_0 1 rfl rfl)
theorem dX8_pairs_2 : decode cX8_pairs 2 = .ok (.invokevirtual 446, 3) := dk_182 1 190 (dk_at dksX8_pairs_0 2 rfl rfl)
theorem dX8_pairs_5 : decode cX8_pairs 5 = .ok (.ifCond .eq 28, 3) := dk_153 0 28 (dk_at dksX8_pairs_0 5 rfl rfl)
theorem dX8_pairs_8 : decode cX8_pairs 8 = .ok (.aload_n 0, 1) := dk_42 (dk_at dksX8_pairs_0 8 rfl rfl)
theorem dX8_pairs_9 : decode cX8_pairs 9 = .ok (.iload_n 2, 1) := dk_28 (dk_at dksX8_pairs_0 9 rfl rfl)
theorem dX8_pairs_10 : decode cX8_pairs 10 = .ok (.invokevirtual 446, 3) := dk_182 1 190 (dk_at dksX8_pairs_0 10 rfl rfl)
theorem dX8_pairs_13 : decode cX8_pairs 13 = .ok (.ifCond .eq 20, 3) := dk_153 0 20 (dk_at dksX8_pairs_0 13 rfl rfl)
theorem dX8_pairs_16 : decode cX8_pairs 16 = .ok (.iload_n 1, 1) := dk_27 (dk_at dksX8_pairs_0 16 rfl rfl)
theorem dX8_pairs_17 : decode cX8_pairs 17 = .ok (.iload_n 2, 1) := dk_28 (dk_at dksX8_pairs_0 17 rfl rfl)
theorem dX8_pairs_18 : decode cX8_pairs 18 = .ok (.if_icmp .eq 15, 3) := dk_159 0 15 (dk_at dksX8_pairs_0 18 rfl rfl)
theorem dX8_pairs_21 : decode cX8_pairs 21 = .ok (.iload_n 3, 1) := dk_29 (dk_at dksX8_pairs_0 21 rfl rfl)
theorem dX8_pairs_22 : decode cX8_pairs 22 = .ok (.iconst 0, 1) := dk_3 (dk_at dksX8_pairs_0 22 rfl rfl)
theorem dX8_pairs_23 : decode cX8_pairs 23 = .ok (.aload_n 0, 1) := dk_42 (dk_at dksX8_pairs_0 23 rfl rfl)
theorem dX8_pairs_24 : decode cX8_pairs 24 = .ok (.getfield 302, 3) := dk_180 1 46 (dk_at dksX8_pairs_1 0 rfl rfl)
theorem dX8_pairs_27 : decode cX8_pairs 27 = .ok (.invokestatic 380, 3) := dk_184 1 124 (dk_at dksX8_pairs_1 3 rfl rfl)
theorem dX8_pairs_30 : decode cX8_pairs 30 = .ok (.ifCond .ne 5, 3) := dk_154 0 5 (dk_at dksX8_pairs_1 6 rfl rfl)
theorem dX8_pairs_33 : decode cX8_pairs 33 = .ok (.iconst (-1), 1) := dk_2 (dk_at dksX8_pairs_1 9 rfl rfl)
theorem dX8_pairs_34 : decode cX8_pairs 34 = .ok (.ireturn, 1) := dk_172 (dk_at dksX8_pairs_1 10 rfl rfl)
theorem dX8_pairs_35 : decode cX8_pairs 35 = .ok (.iconst 0, 1) := dk_3 (dk_at dksX8_pairs_1 11 rfl rfl)
theorem dX8_pairs_36 : decode cX8_pairs 36 = .ok (.istore 4, 2) := dk_54 4 (dk_at dksX8_pairs_1 12 rfl rfl)
theorem dX8_pairs_38 : decode cX8_pairs 38 = .ok (.iconst 0, 1) := dk_3 (dk_at dksX8_pairs_1 14 rfl rfl)
theorem dX8_pairs_39 : decode cX8_pairs 39 = .ok (.istore 5, 2) := dk_54 5 (dk_at dksX8_pairs_1 15 rfl rfl)
theorem dX8_pairs_41 : decode cX8_pairs 41 = .ok (.iload 5, 2) := dk_21 5 (dk_at dksX8_pairs_1 17 rfl rfl)
theorem dX8_pairs_43 : decode cX8_pairs 43 = .ok (.aload_n 0, 1) := dk_42 (dk_at dksX8_pairs_1 19 rfl rfl)
theorem dX8_pairs_44 : decode cX8_pairs 44 = .ok (.invokevirtual 470, 3) := dk_182 1 214 (dk_at dksX8_pairs_1 20 rfl rfl)
theorem dX8_pairs_47 : decode cX8_pairs 47 = .ok (.if_icmp .ge 58, 3) := dk_162 0 58 (dk_at dksX8_pairs_2 0 rfl rfl)
theorem dX8_pairs_50 : decode cX8_pairs 50 = .ok (.iconst 0, 1) := dk_3 (dk_at dksX8_pairs_2 3 rfl rfl)
theorem dX8_pairs_51 : decode cX8_pairs 51 = .ok (.istore 6, 2) := dk_54 6 (dk_at dksX8_pairs_2 4 rfl rfl)
theorem dX8_pairs_53 : decode cX8_pairs 53 = .ok (.iload 6, 2) := dk_21 6 (dk_at dksX8_pairs_2 6 rfl rfl)
theorem dX8_pairs_55 : decode cX8_pairs 55 = .ok (.aload_n 0, 1) := dk_42 (dk_at dksX8_pairs_2 8 rfl rfl)
theorem dX8_pairs_56 : decode cX8_pairs 56 = .ok (.invokevirtual 470, 3) := dk_182 1 214 (dk_at dksX8_pairs_2 9 rfl rfl)
theorem dX8_pairs_59 : decode cX8_pairs 59 = .ok (.if_icmp .ge 40, 3) := dk_162 0 40 (dk_at dksX8_pairs_2 12 rfl rfl)
theorem dX8_pairs_62 : decode cX8_pairs 62 = .ok (.aload_n 0, 1) := dk_42 (dk_at dksX8_pairs_2 15 rfl rfl)
theorem dX8_pairs_63 : decode cX8_pairs 63 = .ok (.invokevirtual 437, 3) := dk_182 1 181 (dk_at dksX8_pairs_2 16 rfl rfl)
theorem dX8_pairs_66 : decode cX8_pairs 66 = .ok (.aload_n 0, 1) := dk_42 (dk_at dksX8_pairs_2 19 rfl rfl)
theorem dX8_pairs_67 : decode cX8_pairs 67 = .ok (.iload_n 1, 1) := dk_27 (dk_at dksX8_pairs_2 20 rfl rfl)
theorem dX8_pairs_68 : decode cX8_pairs 68 = .ok (.iload 5, 2) := dk_21 5 (dk_at dksX8_pairs_2 21 rfl rfl)
theorem dX8_pairs_70 : decode cX8_pairs 70 = .ok (.invokevirtual 461, 3) := dk_182 1 205 (dk_at dksX8_pairs_3 0 rfl rfl)
theorem dX8_pairs_73 : decode cX8_pairs 73 = .ok (.pop, 1) := dk_87 (dk_at dksX8_pairs_3 3 rfl rfl)
theorem dX8_pairs_74 : decode cX8_pairs 74 = .ok (.aload_n 0, 1) := dk_42 (dk_at dksX8_pairs_3 4 rfl rfl)
theorem dX8_pairs_75 : decode cX8_pairs 75 = .ok (.iload_n 2, 1) := dk_28 (dk_at dksX8_pairs_3 5 rfl rfl)
theorem dX8_pairs_76 : decode cX8_pairs 76 = .ok (.iload 6, 2) := dk_21 6 (dk_at dksX8_pairs_3 6 rfl rfl)
theorem dX8_pairs_78 : decode cX8_pairs 78 = .ok (.invokevirtual 461, 3) := dk_182 1 205 (dk_at dksX8_pairs_3 8 rfl rfl)
theorem dX8_pairs_81 : decode cX8_pairs 81 = .ok (.pop, 1) := dk_87 (dk_at dksX8_pairs_3 11 rfl rfl)
theorem dX8_pairs_82 : decode cX8_pairs 82 = .ok (.aload_n 0, 1) := dk_42 (dk_at dksX8_pairs_3 12 rfl rfl)
theorem dX8_pairs_83 : decode cX8_pairs 83 = .ok (.iload_n 3, 1) := dk_29 (dk_at dksX8_pairs_3 13 rfl rfl)
theorem dX8_pairs_84 : decode cX8_pairs 84 = .ok (.invokevirtual 483, 3) := dk_182 1 227 (dk_at dksX8_pairs_3 14 rfl rfl)
theorem dX8_pairs_87 : decode cX8_pairs 87 = .ok (.ifCond .eq 6, 3) := dk_153 0 6 (dk_at dksX8_pairs_3 17 rfl rfl)
theorem dX8_pairs_90 : decode cX8_pairs 90 = .ok (.iinc 4 1, 3) := dk_132 4 1 (dk_at dksX8_pairs_3 20 rfl rfl)
theorem dX8_pairs_93 : decode cX8_pairs 93 = .ok (.iinc 6 1, 3) := dk_132 6 1 (dk_at dksX8_pairs_4 0 rfl rfl)
theorem dX8_pairs_96 : decode cX8_pairs 96 = .ok (.goto (-43), 3) := dk_167 255 213 (dk_at dksX8_pairs_4 3 rfl rfl)
theorem dX8_pairs_99 : decode cX8_pairs 99 = .ok (.iinc 5 1, 3) := dk_132 5 1 (dk_at dksX8_pairs_4 6 rfl rfl)
theorem dX8_pairs_102 : decode cX8_pairs 102 = .ok (.goto (-61), 3) := dk_167 255 195 (dk_at dksX8_pairs_4 9 rfl rfl)
theorem dX8_pairs_105 : decode cX8_pairs 105 = .ok (.iload 4, 2) := dk_21 4 (dk_at dksX8_pairs_4 12 rfl rfl)
theorem dX8_pairs_107 : decode cX8_pairs 107 = .ok (.ireturn, 1) := dk_172 (dk_at dksX8_pairs_4 14 rfl rfl)
abbrev cX8_hold : ByteArray := prog_22_method_101_code
def yX8_hold : MethodName := ⟨RX8, "hold", "(I)Z"⟩
def dkwX8_hold_2 : List UInt8 := [167, 255, 230, 4, 172]
abbrev dktX8_hold_2 : List UInt8 := dkwX8_hold_2 ++ []
def dkwX8_hold_1 : List UInt8 := [162, 0, 26, 42, 180, 0, 203, 16, 100, 27, 104, 28, 96, 42, 180, 0, 158, 28, 46, 79, 132, 2, 1]
abbrev dktX8_hold_1 : List UInt8 := dkwX8_hold_1 ++ dktX8_hold_2
def dkwX8_hold_0 : List UInt8 := [27, 3, 5, 184, 1, 124, 154, 0, 5, 3, 172, 42, 180, 0, 200, 27, 4, 84, 3, 61, 28, 16, 100]
abbrev dktX8_hold_0 : List UInt8 := dkwX8_hold_0 ++ dktX8_hold_1
theorem dksX8_hold_0 : cX8_hold.data.toList.drop 0 = dktX8_hold_0 := by decide +kernel
theorem dksX8_hold_1 : cX8_hold.data.toList.drop 23 = dktX8_hold_1 := dk_seg dksX8_hold_0 23 rfl rfl
theorem dksX8_hold_2 : cX8_hold.data.toList.drop 46 = dktX8_hold_2 := dk_seg dksX8_hold_1 23 rfl rfl
theorem dX8_hold_0 : decode cX8_hold 0 = .ok (.iload_n 1, 1) := dk_27 (dk_at dksX8_hold_0 0 rfl rfl)
theorem dX8_hold_1 : decode cX8_hold 1 = .ok (.iconst 0, 1) := dk_3 (dk_at dksX8_hold_0 1 rfl rfl)
theorem dX8_hold_2 : decode cX8_hold 2 = .ok (.iconst 2, 1) := dk_5 (dk_at dksX8_hold_0 2 rfl rfl)
theorem dX8_hold_3 : decode cX8_hold 3 = .ok (.invokestatic 380, 3) := dk_184 1 124 (dk_at dksX8_hold_0 3 rfl rfl)
theorem dX8_hold_6 : decode cX8_hold 6 = .ok (.ifCond .ne 5, 3) := dk_154 0 5 (dk_at dksX8_hold_0 6 rfl rfl)
theorem dX8_hold_9 : decode cX8_hold 9 = .ok (.iconst 0, 1) := dk_3 (dk_at dksX8_hold_0 9 rfl rfl)
theorem dX8_hold_10 : decode cX8_hold 10 = .ok (.ireturn, 1) := dk_172 (dk_at dksX8_hold_0 10 rfl rfl)
theorem dX8_hold_11 : decode cX8_hold 11 = .ok (.aload_n 0, 1) := dk_42 (dk_at dksX8_hold_0 11 rfl rfl)
theorem dX8_hold_12 : decode cX8_hold 12 = .ok (.getfield 200, 3) := dk_180 0 200 (dk_at dksX8_hold_0 12 rfl rfl)
theorem dX8_hold_15 : decode cX8_hold 15 = .ok (.iload_n 1, 1) := dk_27 (dk_at dksX8_hold_0 15 rfl rfl)
theorem dX8_hold_16 : decode cX8_hold 16 = .ok (.iconst 1, 1) := dk_4 (dk_at dksX8_hold_0 16 rfl rfl)
theorem dX8_hold_17 : decode cX8_hold 17 = .ok (.bastore, 1) := dk_84 (dk_at dksX8_hold_0 17 rfl rfl)
theorem dX8_hold_18 : decode cX8_hold 18 = .ok (.iconst 0, 1) := dk_3 (dk_at dksX8_hold_0 18 rfl rfl)
theorem dX8_hold_19 : decode cX8_hold 19 = .ok (.istore_n 2, 1) := dk_61 (dk_at dksX8_hold_0 19 rfl rfl)
theorem dX8_hold_20 : decode cX8_hold 20 = .ok (.iload_n 2, 1) := dk_28 (dk_at dksX8_hold_0 20 rfl rfl)
theorem dX8_hold_21 : decode cX8_hold 21 = .ok (.bipush 100, 2) := dk_16 100 (dk_at dksX8_hold_0 21 rfl rfl)
theorem dX8_hold_23 : decode cX8_hold 23 = .ok (.if_icmp .ge 26, 3) := dk_162 0 26 (dk_at dksX8_hold_1 0 rfl rfl)
theorem dX8_hold_26 : decode cX8_hold 26 = .ok (.aload_n 0, 1) := dk_42 (dk_at dksX8_hold_1 3 rfl rfl)
theorem dX8_hold_27 : decode cX8_hold 27 = .ok (.getfield 203, 3) := dk_180 0 203 (dk_at dksX8_hold_1 4 rfl rfl)
theorem dX8_hold_30 : decode cX8_hold 30 = .ok (.bipush 100, 2) := dk_16 100 (dk_at dksX8_hold_1 7 rfl rfl)
theorem dX8_hold_32 : decode cX8_hold 32 = .ok (.iload_n 1, 1) := dk_27 (dk_at dksX8_hold_1 9 rfl rfl)
theorem dX8_hold_33 : decode cX8_hold 33 = .ok (.imul, 1) := dk_104 (dk_at dksX8_hold_1 10 rfl rfl)
theorem dX8_hold_34 : decode cX8_hold 34 = .ok (.iload_n 2, 1) := dk_28 (dk_at dksX8_hold_1 11 rfl rfl)
theorem dX8_hold_35 : decode cX8_hold 35 = .ok (.iadd, 1) := dk_96 (dk_at dksX8_hold_1 12 rfl rfl)
theorem dX8_hold_36 : decode cX8_hold 36 = .ok (.aload_n 0, 1) := dk_42 (dk_at dksX8_hold_1 13 rfl rfl)
theorem dX8_hold_37 : decode cX8_hold 37 = .ok (.getfield 158, 3) := dk_180 0 158 (dk_at dksX8_hold_1 14 rfl rfl)
theorem dX8_hold_40 : decode cX8_hold 40 = .ok (.iload_n 2, 1) := dk_28 (dk_at dksX8_hold_1 17 rfl rfl)
theorem dX8_hold_41 : decode cX8_hold 41 = .ok (.iaload, 1) := dk_46 (dk_at dksX8_hold_1 18 rfl rfl)
theorem dX8_hold_42 : decode cX8_hold 42 = .ok (.iastore, 1) := dk_79 (dk_at dksX8_hold_1 19 rfl rfl)
theorem dX8_hold_43 : decode cX8_hold 43 = .ok (.iinc 2 1, 3) := dk_132 2 1 (dk_at dksX8_hold_1 20 rfl rfl)
theorem dX8_hold_46 : decode cX8_hold 46 = .ok (.goto (-26), 3) := dk_167 255 230 (dk_at dksX8_hold_2 0 rfl rfl)
theorem dX8_hold_49 : decode cX8_hold 49 = .ok (.iconst 1, 1) := dk_4 (dk_at dksX8_hold_2 3 rfl rfl)
theorem dX8_hold_50 : decode cX8_hold 50 = .ok (.ireturn, 1) := dk_172 (dk_at dksX8_hold_2 4 rfl rfl)
abbrev cX8_restore : ByteArray := prog_22_method_102_code
def yX8_restore : MethodName := ⟨RX8, "restore", "(I)Z"⟩
def dkwX8_restore_2 : List UInt8 := [132, 2, 1, 167, 255, 230, 42, 3, 181, 1, 43, 4, 172]
abbrev dktX8_restore_2 : List UInt8 := dkwX8_restore_2 ++ []
def dkwX8_restore_1 : List UInt8 := [16, 100, 162, 0, 26, 42, 180, 0, 158, 28, 42, 180, 0, 203, 16, 100, 27, 104, 28, 96, 46, 79]
abbrev dktX8_restore_1 : List UInt8 := dkwX8_restore_1 ++ dktX8_restore_2
def dkwX8_restore_0 : List UInt8 := [27, 3, 5, 184, 1, 124, 153, 0, 12, 42, 180, 0, 200, 27, 51, 154, 0, 5, 3, 172, 3, 61, 28]
abbrev dktX8_restore_0 : List UInt8 := dkwX8_restore_0 ++ dktX8_restore_1
theorem dksX8_restore_0 : cX8_restore.data.toList.drop 0 = dktX8_restore_0 := by decide +kernel
theorem dksX8_restore_1 : cX8_restore.data.toList.drop 23 = dktX8_restore_1 := dk_seg dksX8_restore_0 23 rfl rfl
theorem dksX8_restore_2 : cX8_restore.data.toList.drop 45 = dktX8_restore_2 := dk_seg dksX8_restore_1 22 rfl rfl
theorem dX8_restore_0 : decode cX8_restore 0 = .ok (.iload_n 1, 1) := dk_27 (dk_at dksX8_restore_0 0 rfl rfl)
theorem dX8_restore_1 : decode cX8_restore 1 = .ok (.iconst 0, 1) := dk_3 (dk_at dksX8_restore_0 1 rfl rfl)
theorem dX8_restore_2 : decode cX8_restore 2 = .ok (.iconst 2, 1) := dk_5 (dk_at dksX8_restore_0 2 rfl rfl)
theorem dX8_restore_3 : decode cX8_restore 3 = .ok (.invokestatic 380, 3) := dk_184 1 124 (dk_at dksX8_restore_0 3 rfl rfl)
theorem dX8_restore_6 : decode cX8_restore 6 = .ok (.ifCond .eq 12, 3) := dk_153 0 12 (dk_at dksX8_restore_0 6 rfl rfl)
theorem dX8_restore_9 : decode cX8_restore 9 = .ok (.aload_n 0, 1) := dk_42 (dk_at dksX8_restore_0 9 rfl rfl)
theorem dX8_restore_10 : decode cX8_restore 10 = .ok (.getfield 200, 3) := dk_180 0 200 (dk_at dksX8_restore_0 10 rfl rfl)
theorem dX8_restore_13 : decode cX8_restore 13 = .ok (.iload_n 1, 1) := dk_27 (dk_at dksX8_restore_0 13 rfl rfl)
theorem dX8_restore_14 : decode cX8_restore 14 = .ok (.baload, 1) := dk_51 (dk_at dksX8_restore_0 14 rfl rfl)
theorem dX8_restore_15 : decode cX8_restore 15 = .ok (.ifCond .ne 5, 3) := dk_154 0 5 (dk_at dksX8_restore_0 15 rfl rfl)
theorem dX8_restore_18 : decode cX8_restore 18 = .ok (.iconst 0, 1) := dk_3 (dk_at dksX8_restore_0 18 rfl rfl)
theorem dX8_restore_19 : decode cX8_restore 19 = .ok (.ireturn, 1) := dk_172 (dk_at dksX8_restore_0 19 rfl rfl)
theorem dX8_restore_20 : decode cX8_restore 20 = .ok (.iconst 0, 1) := dk_3 (dk_at dksX8_restore_0 20 rfl rfl)
theorem dX8_restore_21 : decode cX8_restore 21 = .ok (.istore_n 2, 1) := dk_61 (dk_at dksX8_restore_0 21 rfl rfl)
theorem dX8_restore_22 : decode cX8_restore 22 = .ok (.iload_n 2, 1) := dk_28 (dk_at dksX8_restore_0 22 rfl rfl)
theorem dX8_restore_23 : decode cX8_restore 23 = .ok (.bipush 100, 2) := dk_16 100 (dk_at dksX8_restore_1 0 rfl rfl)
theorem dX8_restore_25 : decode cX8_restore 25 = .ok (.if_icmp .ge 26, 3) := dk_162 0 26 (dk_at dksX8_restore_1 2 rfl rfl)
theorem dX8_restore_28 : decode cX8_restore 28 = .ok (.aload_n 0, 1) := dk_42 (dk_at dksX8_restore_1 5 rfl rfl)
theorem dX8_restore_29 : decode cX8_restore 29 = .ok (.getfield 158, 3) := dk_180 0 158 (dk_at dksX8_restore_1 6 rfl rfl)
theorem dX8_restore_32 : decode cX8_restore 32 = .ok (.iload_n 2, 1) := dk_28 (dk_at dksX8_restore_1 9 rfl rfl)
theorem dX8_restore_33 : decode cX8_restore 33 = .ok (.aload_n 0, 1) := dk_42 (dk_at dksX8_restore_1 10 rfl rfl)
theorem dX8_restore_34 : decode cX8_restore 34 = .ok (.getfield 203, 3) := dk_180 0 203 (dk_at dksX8_restore_1 11 rfl rfl)
theorem dX8_restore_37 : decode cX8_restore 37 = .ok (.bipush 100, 2) := dk_16 100 (dk_at dksX8_restore_1 14 rfl rfl)
theorem dX8_restore_39 : decode cX8_restore 39 = .ok (.iload_n 1, 1) := dk_27 (dk_at dksX8_restore_1 16 rfl rfl)
theorem dX8_restore_40 : decode cX8_restore 40 = .ok (.imul, 1) := dk_104 (dk_at dksX8_restore_1 17 rfl rfl)
theorem dX8_restore_41 : decode cX8_restore 41 = .ok (.iload_n 2, 1) := dk_28 (dk_at dksX8_restore_1 18 rfl rfl)
theorem dX8_restore_42 : decode cX8_restore 42 = .ok (.iadd, 1) := dk_96 (dk_at dksX8_restore_1 19 rfl rfl)
theorem dX8_restore_43 : decode cX8_restore 43 = .ok (.iaload, 1) := dk_46 (dk_at dksX8_restore_1 20 rfl rfl)
theorem dX8_restore_44 : decode cX8_restore 44 = .ok (.iastore, 1) := dk_79 (dk_at dksX8_restore_1 21 rfl rfl)
theorem dX8_restore_45 : decode cX8_restore 45 = .ok (.iinc 2 1, 3) := dk_132 2 1 (dk_at dksX8_restore_2 0 rfl rfl)
theorem dX8_restore_48 : decode cX8_restore 48 = .ok (.goto (-26), 3) := dk_167 255 230 (dk_at dksX8_restore_2 3 rfl rfl)
theorem dX8_restore_51 : decode cX8_restore 51 = .ok (.aload_n 0, 1) := dk_42 (dk_at dksX8_restore_2 6 rfl rfl)
theorem dX8_restore_52 : decode cX8_restore 52 = .ok (.iconst 0, 1) := dk_3 (dk_at dksX8_restore_2 7 rfl rfl)
theorem dX8_restore_53 : decode cX8_restore 53 = .ok (.putfield 299, 3) := dk_181 1 43 (dk_at dksX8_restore_2 8 rfl rfl)
theorem dX8_restore_56 : decode cX8_restore 56 = .ok (.iconst 1, 1) := dk_4 (dk_at dksX8_restore_2 11 rfl rfl)
theorem dX8_restore_57 : decode cX8_restore 57 = .ok (.ireturn, 1) := dk_172 (dk_at dksX8_restore_2 12 rfl rfl)
abbrev cX8_count : ByteArray := prog_22_method_103_code
def yX8_count : MethodName := ⟨RX8, "count", "(I)I"⟩
def dkwX8_count_7 : List UInt8 := [167, 0, 4, 3, 96, 42, 180, 0, 200, 5, 51, 153, 0, 7, 4, 167, 0, 4, 3, 96, 172, 2, 172]
abbrev dktX8_count_7 : List UInt8 := dkwX8_count_7 ++ []
def dkwX8_count_6 : List UInt8 := [180, 0, 200, 3, 51, 153, 0, 7, 4, 167, 0, 4, 3, 42, 180, 0, 200, 4, 51, 153, 0, 7, 4]
abbrev dktX8_count_6 : List UInt8 := dkwX8_count_6 ++ dktX8_count_7
def dkwX8_count_5 : List UInt8 := [182, 1, 181, 42, 182, 1, 175, 172, 42, 180, 0, 210, 172, 42, 180, 1, 43, 172, 42, 180, 1, 46, 172, 42]
abbrev dktX8_count_5 : List UInt8 := dkwX8_count_5 ++ dktX8_count_6
def dkwX8_count_4 : List UInt8 := [46, 172, 42, 180, 0, 158, 16, 79, 46, 172, 42, 180, 0, 158, 16, 78, 46, 184, 1, 224, 172, 42]
abbrev dktX8_count_4 : List UInt8 := dkwX8_count_4 ++ dktX8_count_5
def dkwX8_count_3 : List UInt8 := [42, 180, 1, 22, 46, 172, 42, 182, 1, 121, 172, 42, 182, 1, 134, 172, 42, 180, 0, 140, 42, 180, 1, 22]
abbrev dktX8_count_3 : List UInt8 := dkwX8_count_3 ++ dktX8_count_4
def dkwX8_count_2 : List UInt8 := [42, 180, 0, 49, 42, 180, 1, 22, 46, 172, 42, 180, 0, 52, 42, 180, 1, 22, 46, 172, 42, 180, 0, 68]
abbrev dktX8_count_2 : List UInt8 := dkwX8_count_2 ++ dktX8_count_3
def dkwX8_count_1 : List UInt8 := [170, 0, 0, 0, 0, 0, 205, 0, 0, 0, 0, 0, 0, 0, 12, 0, 0, 0, 67, 0, 0, 0, 77, 0, 0, 0, 87, 0, 0, 0, 97, 0, 0, 0, 102, 0, 0, 0, 107, 0, 0, 0, 117, 0, 0, 0, 125, 0, 0, 0, 136, 0, 0, 0, 145, 0, 0, 0, 150, 0, 0, 0, 155, 0, 0, 0, 160]
abbrev dktX8_count_1 : List UInt8 := dkwX8_count_1 ++ dktX8_count_2
def dkwX8_count_0 : List UInt8 := [27]
abbrev dktX8_count_0 : List UInt8 := dkwX8_count_0 ++ dktX8_count_1
theorem dksX8_count_0 : cX8_count.data.toList.drop 0 = dktX8_count_0 := by decide +kernel
theorem dksX8_count_1 : cX8_count.data.toList.drop 1 = dktX8_count_1 := dk_seg dksX8_count_0 1 rfl rfl
theorem dksX8_count_2 : cX8_count.data.toList.drop 68 = dktX8_count_2 := dk_seg dksX8_count_1 67 rfl rfl
theorem dksX8_count_3 : cX8_count.data.toList.drop 92 = dktX8_count_3 := dk_seg dksX8_count_2 24 rfl rfl
theorem dksX8_count_4 : cX8_count.data.toList.drop 116 = dktX8_count_4 := dk_seg dksX8_count_3 24 rfl rfl
theorem dksX8_count_5 : cX8_count.data.toList.drop 138 = dktX8_count_5 := dk_seg dksX8_count_4 22 rfl rfl
theorem dksX8_count_6 : cX8_count.data.toList.drop 162 = dktX8_count_6 := dk_seg dksX8_count_5 24 rfl rfl
theorem dksX8_count_7 : cX8_count.data.toList.drop 185 = dktX8_count_7 := dk_seg dksX8_count_6 23 rfl rfl
theorem dX8_count_0 : decode cX8_count 0 = .ok (.iload_n 1, 1) := dk_27 (dk_at dksX8_count_0 0 rfl rfl)
theorem dX8_count_1 : decode cX8_count 1 = .ok (.tableswitch 205 0 12 #[67, 77, 87, 97, 102, 107, 117, 125, 136, 145, 150, 155, 160], 67) := by decide +kernel
theorem dX8_count_68 : decode cX8_count 68 = .ok (.aload_n 0, 1) := dk_42 (dk_at dksX8_count_2 0 rfl rfl)
theorem dX8_count_69 : decode cX8_count 69 = .ok (.getfield 49, 3) := dk_180 0 49 (dk_at dksX8_count_2 1 rfl rfl)
theorem dX8_count_72 : decode cX8_count 72 = .ok (.aload_n 0, 1) := dk_42 (dk_at dksX8_count_2 4 rfl rfl)
theorem dX8_count_73 : decode cX8_count 73 = .ok (.getfield 278, 3) := dk_180 1 22 (dk_at dksX8_count_2 5 rfl rfl)
theorem dX8_count_76 : decode cX8_count 76 = .ok (.iaload, 1) := dk_46 (dk_at dksX8_count_2 8 rfl rfl)
theorem dX8_count_77 : decode cX8_count 77 = .ok (.ireturn, 1) := dk_172 (dk_at dksX8_count_2 9 rfl rfl)
theorem dX8_count_78 : decode cX8_count 78 = .ok (.aload_n 0, 1) := dk_42 (dk_at dksX8_count_2 10 rfl rfl)
theorem dX8_count_79 : decode cX8_count 79 = .ok (.getfield 52, 3) := dk_180 0 52 (dk_at dksX8_count_2 11 rfl rfl)
theorem dX8_count_82 : decode cX8_count 82 = .ok (.aload_n 0, 1) := dk_42 (dk_at dksX8_count_2 14 rfl rfl)
theorem dX8_count_83 : decode cX8_count 83 = .ok (.getfield 278, 3) := dk_180 1 22 (dk_at dksX8_count_2 15 rfl rfl)
theorem dX8_count_86 : decode cX8_count 86 = .ok (.iaload, 1) := dk_46 (dk_at dksX8_count_2 18 rfl rfl)
theorem dX8_count_87 : decode cX8_count 87 = .ok (.ireturn, 1) := dk_172 (dk_at dksX8_count_2 19 rfl rfl)
theorem dX8_count_88 : decode cX8_count 88 = .ok (.aload_n 0, 1) := dk_42 (dk_at dksX8_count_2 20 rfl rfl)
theorem dX8_count_89 : decode cX8_count 89 = .ok (.getfield 68, 3) := dk_180 0 68 (dk_at dksX8_count_2 21 rfl rfl)
theorem dX8_count_92 : decode cX8_count 92 = .ok (.aload_n 0, 1) := dk_42 (dk_at dksX8_count_3 0 rfl rfl)
theorem dX8_count_93 : decode cX8_count 93 = .ok (.getfield 278, 3) := dk_180 1 22 (dk_at dksX8_count_3 1 rfl rfl)
theorem dX8_count_96 : decode cX8_count 96 = .ok (.iaload, 1) := dk_46 (dk_at dksX8_count_3 4 rfl rfl)
theorem dX8_count_97 : decode cX8_count 97 = .ok (.ireturn, 1) := dk_172 (dk_at dksX8_count_3 5 rfl rfl)
theorem dX8_count_98 : decode cX8_count 98 = .ok (.aload_n 0, 1) := dk_42 (dk_at dksX8_count_3 6 rfl rfl)
theorem dX8_count_99 : decode cX8_count 99 = .ok (.invokevirtual 377, 3) := dk_182 1 121 (dk_at dksX8_count_3 7 rfl rfl)
theorem dX8_count_102 : decode cX8_count 102 = .ok (.ireturn, 1) := dk_172 (dk_at dksX8_count_3 10 rfl rfl)
theorem dX8_count_103 : decode cX8_count 103 = .ok (.aload_n 0, 1) := dk_42 (dk_at dksX8_count_3 11 rfl rfl)
theorem dX8_count_104 : decode cX8_count 104 = .ok (.invokevirtual 390, 3) := dk_182 1 134 (dk_at dksX8_count_3 12 rfl rfl)
theorem dX8_count_107 : decode cX8_count 107 = .ok (.ireturn, 1) := dk_172 (dk_at dksX8_count_3 15 rfl rfl)
theorem dX8_count_108 : decode cX8_count 108 = .ok (.aload_n 0, 1) := dk_42 (dk_at dksX8_count_3 16 rfl rfl)
theorem dX8_count_109 : decode cX8_count 109 = .ok (.getfield 140, 3) := dk_180 0 140 (dk_at dksX8_count_3 17 rfl rfl)
theorem dX8_count_112 : decode cX8_count 112 = .ok (.aload_n 0, 1) := dk_42 (dk_at dksX8_count_3 20 rfl rfl)
theorem dX8_count_113 : decode cX8_count 113 = .ok (.getfield 278, 3) := dk_180 1 22 (dk_at dksX8_count_3 21 rfl rfl)
theorem dX8_count_116 : decode cX8_count 116 = .ok (.iaload, 1) := dk_46 (dk_at dksX8_count_4 0 rfl rfl)
theorem dX8_count_117 : decode cX8_count 117 = .ok (.ireturn, 1) := dk_172 (dk_at dksX8_count_4 1 rfl rfl)
theorem dX8_count_118 : decode cX8_count 118 = .ok (.aload_n 0, 1) := dk_42 (dk_at dksX8_count_4 2 rfl rfl)
theorem dX8_count_119 : decode cX8_count 119 = .ok (.getfield 158, 3) := dk_180 0 158 (dk_at dksX8_count_4 3 rfl rfl)
theorem dX8_count_122 : decode cX8_count 122 = .ok (.bipush 79, 2) := dk_16 79 (dk_at dksX8_count_4 6 rfl rfl)
theorem dX8_count_124 : decode cX8_count 124 = .ok (.iaload, 1) := dk_46 (dk_at dksX8_count_4 8 rfl rfl)
theorem dX8_count_125 : decode cX8_count 125 = .ok (.ireturn, 1) := dk_172 (dk_at dksX8_count_4 9 rfl rfl)
theorem dX8_count_126 : decode cX8_count 126 = .ok (.aload_n 0, 1) := dk_42 (dk_at dksX8_count_4 10 rfl rfl)
theorem dX8_count_127 : decode cX8_count 127 = .ok (.getfield 158, 3) := dk_180 0 158 (dk_at dksX8_count_4 11 rfl rfl)
theorem dX8_count_130 : decode cX8_count 130 = .ok (.bipush 78, 2) := dk_16 78 (dk_at dksX8_count_4 14 rfl rfl)
theorem dX8_count_132 : decode cX8_count 132 = .ok (.iaload, 1) := dk_46 (dk_at dksX8_count_4 16 rfl rfl)
theorem dX8_count_133 : decode cX8_count 133 = .ok (.invokestatic 480, 3) := dk_184 1 224 (dk_at dksX8_count_4 17 rfl rfl)
theorem dX8_count_136 : decode cX8_count 136 = .ok (.ireturn, 1) := dk_172 (dk_at dksX8_count_4 20 rfl rfl)
theorem dX8_count_137 : decode cX8_count 137 = .ok (.aload_n 0, 1) := dk_42 (dk_at dksX8_count_4 21 rfl rfl)
theorem dX8_count_138 : decode cX8_count 138 = .ok (.invokevirtual 437, 3) := dk_182 1 181 (dk_at dksX8_count_5 0 rfl rfl)
theorem dX8_count_141 : decode cX8_count 141 = .ok (.aload_n 0, 1) := dk_42 (dk_at dksX8_count_5 3 rfl rfl)
theorem dX8_count_142 : decode cX8_count 142 = .ok (.invokevirtual 431, 3) := dk_182 1 175 (dk_at dksX8_count_5 4 rfl rfl)
theorem dX8_count_145 : decode cX8_count 145 = .ok (.ireturn, 1) := dk_172 (dk_at dksX8_count_5 7 rfl rfl)
theorem dX8_count_146 : decode cX8_count 146 = .ok (.aload_n 0, 1) := dk_42 (dk_at dksX8_count_5 8 rfl rfl)
theorem dX8_count_147 : decode cX8_count 147 = .ok (.getfield 210, 3) := dk_180 0 210 (dk_at dksX8_count_5 9 rfl rfl)
theorem dX8_count_150 : decode cX8_count 150 = .ok (.ireturn, 1) := dk_172 (dk_at dksX8_count_5 12 rfl rfl)
theorem dX8_count_151 : decode cX8_count 151 = .ok (.aload_n 0, 1) := dk_42 (dk_at dksX8_count_5 13 rfl rfl)
theorem dX8_count_152 : decode cX8_count 152 = .ok (.getfield 299, 3) := dk_180 1 43 (dk_at dksX8_count_5 14 rfl rfl)
theorem dX8_count_155 : decode cX8_count 155 = .ok (.ireturn, 1) := dk_172 (dk_at dksX8_count_5 17 rfl rfl)
theorem dX8_count_156 : decode cX8_count 156 = .ok (.aload_n 0, 1) := dk_42 (dk_at dksX8_count_5 18 rfl rfl)
theorem dX8_count_157 : decode cX8_count 157 = .ok (.getfield 302, 3) := dk_180 1 46 (dk_at dksX8_count_5 19 rfl rfl)
theorem dX8_count_160 : decode cX8_count 160 = .ok (.ireturn, 1) := dk_172 (dk_at dksX8_count_5 22 rfl rfl)
theorem dX8_count_161 : decode cX8_count 161 = .ok (.aload_n 0, 1) := dk_42 (dk_at dksX8_count_5 23 rfl rfl)
theorem dX8_count_162 : decode cX8_count 162 = .ok (.getfield 200, 3) := dk_180 0 200 (dk_at dksX8_count_6 0 rfl rfl)
theorem dX8_count_165 : decode cX8_count 165 = .ok (.iconst 0, 1) := dk_3 (dk_at dksX8_count_6 3 rfl rfl)
theorem dX8_count_166 : decode cX8_count 166 = .ok (.baload, 1) := dk_51 (dk_at dksX8_count_6 4 rfl rfl)
theorem dX8_count_167 : decode cX8_count 167 = .ok (.ifCond .eq 7, 3) := dk_153 0 7 (dk_at dksX8_count_6 5 rfl rfl)
theorem dX8_count_170 : decode cX8_count 170 = .ok (.iconst 1, 1) := dk_4 (dk_at dksX8_count_6 8 rfl rfl)
theorem dX8_count_171 : decode cX8_count 171 = .ok (.goto 4, 3) := dk_167 0 4 (dk_at dksX8_count_6 9 rfl rfl)
theorem dX8_count_174 : decode cX8_count 174 = .ok (.iconst 0, 1) := dk_3 (dk_at dksX8_count_6 12 rfl rfl)
theorem dX8_count_175 : decode cX8_count 175 = .ok (.aload_n 0, 1) := dk_42 (dk_at dksX8_count_6 13 rfl rfl)
theorem dX8_count_176 : decode cX8_count 176 = .ok (.getfield 200, 3) := dk_180 0 200 (dk_at dksX8_count_6 14 rfl rfl)
theorem dX8_count_179 : decode cX8_count 179 = .ok (.iconst 1, 1) := dk_4 (dk_at dksX8_count_6 17 rfl rfl)
theorem dX8_count_180 : decode cX8_count 180 = .ok (.baload, 1) := dk_51 (dk_at dksX8_count_6 18 rfl rfl)
theorem dX8_count_181 : decode cX8_count 181 = .ok (.ifCond .eq 7, 3) := dk_153 0 7 (dk_at dksX8_count_6 19 rfl rfl)
theorem dX8_count_184 : decode cX8_count 184 = .ok (.iconst 1, 1) := dk_4 (dk_at dksX8_count_6 22 rfl rfl)
theorem dX8_count_185 : decode cX8_count 185 = .ok (.goto 4, 3) := dk_167 0 4 (dk_at dksX8_count_7 0 rfl rfl)
theorem dX8_count_188 : decode cX8_count 188 = .ok (.iconst 0, 1) := dk_3 (dk_at dksX8_count_7 3 rfl rfl)
theorem dX8_count_189 : decode cX8_count 189 = .ok (.iadd, 1) := dk_96 (dk_at dksX8_count_7 4 rfl rfl)
theorem dX8_count_190 : decode cX8_count 190 = .ok (.aload_n 0, 1) := dk_42 (dk_at dksX8_count_7 5 rfl rfl)
theorem dX8_count_191 : decode cX8_count 191 = .ok (.getfield 200, 3) := dk_180 0 200 (dk_at dksX8_count_7 6 rfl rfl)
theorem dX8_count_194 : decode cX8_count 194 = .ok (.iconst 2, 1) := dk_5 (dk_at dksX8_count_7 9 rfl rfl)
theorem dX8_count_195 : decode cX8_count 195 = .ok (.baload, 1) := dk_51 (dk_at dksX8_count_7 10 rfl rfl)
theorem dX8_count_196 : decode cX8_count 196 = .ok (.ifCond .eq 7, 3) := dk_153 0 7 (dk_at dksX8_count_7 11 rfl rfl)
theorem dX8_count_199 : decode cX8_count 199 = .ok (.iconst 1, 1) := dk_4 (dk_at dksX8_count_7 14 rfl rfl)
theorem dX8_count_200 : decode cX8_count 200 = .ok (.goto 4, 3) := dk_167 0 4 (dk_at dksX8_count_7 15 rfl rfl)
theorem dX8_count_203 : decode cX8_count 203 = .ok (.iconst 0, 1) := dk_3 (dk_at dksX8_count_7 18 rfl rfl)
theorem dX8_count_204 : decode cX8_count 204 = .ok (.iadd, 1) := dk_96 (dk_at dksX8_count_7 19 rfl rfl)
theorem dX8_count_205 : decode cX8_count 205 = .ok (.ireturn, 1) := dk_172 (dk_at dksX8_count_7 20 rfl rfl)
theorem dX8_count_206 : decode cX8_count 206 = .ok (.iconst (-1), 1) := dk_2 (dk_at dksX8_count_7 21 rfl rfl)
theorem dX8_count_207 : decode cX8_count 207 = .ok (.ireturn, 1) := dk_172 (dk_at dksX8_count_7 22 rfl rfl)
theorem q128 : (Jvm.Cond.initialized "SleepWorkModel") ∈ lw_all := lw_g (lw_at lw_m1 15 rfl) rfl
theorem q968 : (Jvm.Cond.selects "SleepWorkModel" ({ cls := "java/lang/Object", name := "getClass", desc := "()Ljava/lang/Class;" } : Jvm.MethodName) ({ cls := "java/lang/Object", name := "getClass", desc := "()Ljava/lang/Class;" } : Jvm.MethodName)) ∈ lw_all := lw_g (lw_at lw_m4 135 rfl) rfl
theorem q1542 : (Jvm.Cond.instantiable "SleepWorkModel" (83 : Nat)) ∈ lw_all := lw_g (lw_at lw_m6 229 rfl) rfl
theorem q1544 : (Jvm.Cond.instanceMethod ({ cls := "SleepWorkModel", name := "<init>", desc := "()V" } : Jvm.MethodName)) ∈ lw_all := lw_g (lw_at lw_m6 231 rfl) rfl
theorem q1545 : (Jvm.Cond.code ({ cls := "SleepWorkModel", name := "<init>", desc := "()V" } : Jvm.MethodName) prog_22_method_2_code (1 : Nat) (Option.none : Option Jvm.ClassFile.FieldType)) ∈ lw_all := lw_g (lw_at lw_m6 232 rfl) rfl
theorem q1546 : (Jvm.Cond.methodLink "SleepWorkModel" (7 : Nat) ({ cls := "java/lang/Object", name := "<init>", desc := "()V" } : Jvm.MethodName)) ∈ lw_all := lw_g (lw_at lw_m6 233 rfl) rfl
theorem q1547 : (Jvm.Cond.methodLink "SleepWorkModel" (206 : Nat) ({ cls := "SleepWorkModel", name := "word", desc := "(IIIIIII)J" } : Jvm.MethodName)) ∈ lw_all := lw_g (lw_at lw_m6 234 rfl) rfl
theorem q1548 : (Jvm.Cond.static ({ cls := "SleepWorkModel", name := "word", desc := "(IIIIIII)J" } : Jvm.MethodName)) ∈ lw_all := lw_g (lw_at lw_m6 235 rfl) rfl
theorem q1549 : (Jvm.Cond.code ({ cls := "SleepWorkModel", name := "word", desc := "(IIIIIII)J" } : Jvm.MethodName) prog_22_method_10_code (7 : Nat) (Option.some Jvm.ClassFile.FieldType.long)) ∈ lw_all := lw_g (lw_at lw_m6 236 rfl) rfl
theorem q1550 : (Jvm.Cond.methodLink "SleepWorkModel" (222 : Nat) ({ cls := "SleepWorkModel", name := "appends", desc := "(JI)J" } : Jvm.MethodName)) ∈ lw_all := lw_g (lw_at lw_m6 237 rfl) rfl
theorem q1551 : (Jvm.Cond.static ({ cls := "SleepWorkModel", name := "appends", desc := "(JI)J" } : Jvm.MethodName)) ∈ lw_all := lw_g (lw_at lw_m6 238 rfl) rfl
theorem q1552 : (Jvm.Cond.code ({ cls := "SleepWorkModel", name := "appends", desc := "(JI)J" } : Jvm.MethodName) prog_22_method_9_code (3 : Nat) (Option.some Jvm.ClassFile.FieldType.long)) ∈ lw_all := lw_g (lw_at lw_m6 239 rfl) rfl
theorem q1553 : (Jvm.Cond.constantLong "SleepWorkModel" (220 : Nat) (27 : Int64)) ∈ lw_all := lw_g (lw_at lw_m7 0 rfl) rfl
theorem q1554 : (Jvm.Cond.fieldLink "SleepWorkModel" (13 : Nat) "SleepWorkModel" "tape" "[B") ∈ lw_all := lw_g (lw_at lw_m7 1 rfl) rfl
theorem q1555 : (Jvm.Cond.fieldLink "SleepWorkModel" (210 : Nat) "SleepWorkModel" "taped" "I") ∈ lw_all := lw_g (lw_at lw_m7 2 rfl) rfl
theorem q1556 : (Jvm.Cond.fieldLink "SleepWorkModel" (17 : Nat) "SleepWorkModel" "text" "[B") ∈ lw_all := lw_g (lw_at lw_m7 3 rfl) rfl
theorem q1557 : (Jvm.Cond.fieldLink "SleepWorkModel" (217 : Nat) "SleepWorkModel" "size" "I") ∈ lw_all := lw_g (lw_at lw_m7 4 rfl) rfl
theorem q1558 : (Jvm.Cond.fieldLink "SleepWorkModel" (20 : Nat) "SleepWorkModel" "tKind" "[I") ∈ lw_all := lw_g (lw_at lw_m7 5 rfl) rfl
theorem q1559 : (Jvm.Cond.fieldLink "SleepWorkModel" (24 : Nat) "SleepWorkModel" "tPlace" "[I") ∈ lw_all := lw_g (lw_at lw_m7 6 rfl) rfl
theorem q1560 : (Jvm.Cond.fieldLink "SleepWorkModel" (27 : Nat) "SleepWorkModel" "tValue" "[I") ∈ lw_all := lw_g (lw_at lw_m7 7 rfl) rfl
theorem q1561 : (Jvm.Cond.fieldLink "SleepWorkModel" (30 : Nat) "SleepWorkModel" "tName" "[J") ∈ lw_all := lw_g (lw_at lw_m7 8 rfl) rfl
theorem q1562 : (Jvm.Cond.fieldLink "SleepWorkModel" (34 : Nat) "SleepWorkModel" "keys" "[J") ∈ lw_all := lw_g (lw_at lw_m7 9 rfl) rfl
theorem q1563 : (Jvm.Cond.fieldLink "SleepWorkModel" (226 : Nat) "SleepWorkModel" "tokens" "I") ∈ lw_all := lw_g (lw_at lw_m7 10 rfl) rfl
theorem q1564 : (Jvm.Cond.fieldLink "SleepWorkModel" (251 : Nat) "SleepWorkModel" "t" "I") ∈ lw_all := lw_g (lw_at lw_m7 11 rfl) rfl
theorem q1565 : (Jvm.Cond.fieldLink "SleepWorkModel" (275 : Nat) "SleepWorkModel" "open" "I") ∈ lw_all := lw_g (lw_at lw_m7 12 rfl) rfl
theorem q1566 : (Jvm.Cond.fieldLink "SleepWorkModel" (248 : Nat) "SleepWorkModel" "fault" "I") ∈ lw_all := lw_g (lw_at lw_m7 13 rfl) rfl
theorem q1567 : (Jvm.Cond.fieldLink "SleepWorkModel" (254 : Nat) "SleepWorkModel" "faultPlace" "I") ∈ lw_all := lw_g (lw_at lw_m7 14 rfl) rfl
theorem q1568 : (Jvm.Cond.fieldLink "SleepWorkModel" (257 : Nat) "SleepWorkModel" "worst" "I") ∈ lw_all := lw_g (lw_at lw_m7 15 rfl) rfl
theorem q1569 : (Jvm.Cond.fieldLink "SleepWorkModel" (260 : Nat) "SleepWorkModel" "worstPlace" "I") ∈ lw_all := lw_g (lw_at lw_m7 16 rfl) rfl
theorem q1570 : (Jvm.Cond.fieldLink "SleepWorkModel" (37 : Nat) "SleepWorkModel" "place" "I") ∈ lw_all := lw_g (lw_at lw_m7 17 rfl) rfl
theorem q1571 : (Jvm.Cond.fieldLink "SleepWorkModel" (278 : Nat) "SleepWorkModel" "live" "I") ∈ lw_all := lw_g (lw_at lw_m7 18 rfl) rfl
theorem q1572 : (Jvm.Cond.fieldLink "SleepWorkModel" (281 : Nat) "SleepWorkModel" "side" "I") ∈ lw_all := lw_g (lw_at lw_m7 19 rfl) rfl
theorem q1573 : (Jvm.Cond.fieldLink "SleepWorkModel" (284 : Nat) "SleepWorkModel" "names" "I") ∈ lw_all := lw_g (lw_at lw_m7 20 rfl) rfl
theorem q1574 : (Jvm.Cond.fieldLink "SleepWorkModel" (40 : Nat) "SleepWorkModel" "nameOf" "[J") ∈ lw_all := lw_g (lw_at lw_m7 21 rfl) rfl
theorem q1575 : (Jvm.Cond.fieldLink "SleepWorkModel" (43 : Nat) "SleepWorkModel" "nameSort" "[I") ∈ lw_all := lw_g (lw_at lw_m7 22 rfl) rfl
theorem q1576 : (Jvm.Cond.fieldLink "SleepWorkModel" (46 : Nat) "SleepWorkModel" "nameAt" "[I") ∈ lw_all := lw_g (lw_at lw_m7 23 rfl) rfl
theorem q1577 : (Jvm.Cond.fieldLink "SleepWorkModel" (49 : Nat) "SleepWorkModel" "rooms" "[I") ∈ lw_all := lw_g (lw_at lw_m7 24 rfl) rfl
theorem q1578 : (Jvm.Cond.fieldLink "SleepWorkModel" (52 : Nat) "SleepWorkModel" "doors" "[I") ∈ lw_all := lw_g (lw_at lw_m7 25 rfl) rfl
theorem q1579 : (Jvm.Cond.fieldLink "SleepWorkModel" (55 : Nat) "SleepWorkModel" "doorOne" "[I") ∈ lw_all := lw_g (lw_at lw_m7 26 rfl) rfl
theorem q1580 : (Jvm.Cond.fieldLink "SleepWorkModel" (58 : Nat) "SleepWorkModel" "doorOther" "[I") ∈ lw_all := lw_g (lw_at lw_m7 27 rfl) rfl
theorem q1581 : (Jvm.Cond.fieldLink "SleepWorkModel" (61 : Nat) "SleepWorkModel" "doorMinutes" "[I") ∈ lw_all := lw_g (lw_at lw_m7 28 rfl) rfl
theorem q1582 : (Jvm.Cond.fieldLink "SleepWorkModel" (64 : Nat) "SleepWorkModel" "doorShut" "[Z") ∈ lw_all := lw_g (lw_at lw_m7 29 rfl) rfl
theorem q1583 : (Jvm.Cond.fieldLink "SleepWorkModel" (68 : Nat) "SleepWorkModel" "tools" "[I") ∈ lw_all := lw_g (lw_at lw_m7 30 rfl) rfl
theorem q1584 : (Jvm.Cond.fieldLink "SleepWorkModel" (71 : Nat) "SleepWorkModel" "toolTold" "[I") ∈ lw_all := lw_g (lw_at lw_m7 31 rfl) rfl
theorem q1585 : (Jvm.Cond.fieldLink "SleepWorkModel" (74 : Nat) "SleepWorkModel" "tasks" "[I") ∈ lw_all := lw_g (lw_at lw_m7 32 rfl) rfl
theorem q1586 : (Jvm.Cond.fieldLink "SleepWorkModel" (77 : Nat) "SleepWorkModel" "taskRoom" "[I") ∈ lw_all := lw_g (lw_at lw_m7 33 rfl) rfl
theorem q1587 : (Jvm.Cond.fieldLink "SleepWorkModel" (80 : Nat) "SleepWorkModel" "stuffTold" "[I") ∈ lw_all := lw_g (lw_at lw_m7 34 rfl) rfl
theorem q1588 : (Jvm.Cond.fieldLink "SleepWorkModel" (83 : Nat) "SleepWorkModel" "steps" "[I") ∈ lw_all := lw_g (lw_at lw_m7 35 rfl) rfl
theorem q1589 : (Jvm.Cond.fieldLink "SleepWorkModel" (86 : Nat) "SleepWorkModel" "stepMinutes" "[I") ∈ lw_all := lw_g (lw_at lw_m7 36 rfl) rfl
theorem q1590 : (Jvm.Cond.fieldLink "SleepWorkModel" (89 : Nat) "SleepWorkModel" "stepNeed" "[I") ∈ lw_all := lw_g (lw_at lw_m7 37 rfl) rfl
theorem q1591 : (Jvm.Cond.fieldLink "SleepWorkModel" (92 : Nat) "SleepWorkModel" "stepGain" "[I") ∈ lw_all := lw_g (lw_at lw_m7 38 rfl) rfl
theorem q1592 : (Jvm.Cond.fieldLink "SleepWorkModel" (95 : Nat) "SleepWorkModel" "stepSpoil" "[I") ∈ lw_all := lw_g (lw_at lw_m7 39 rfl) rfl
theorem q1593 : (Jvm.Cond.fieldLink "SleepWorkModel" (98 : Nat) "SleepWorkModel" "stepTool" "[I") ∈ lw_all := lw_g (lw_at lw_m7 40 rfl) rfl
theorem q1594 : (Jvm.Cond.fieldLink "SleepWorkModel" (101 : Nat) "SleepWorkModel" "stepUndoes" "[I") ∈ lw_all := lw_g (lw_at lw_m7 41 rfl) rfl
theorem q1595 : (Jvm.Cond.fieldLink "SleepWorkModel" (104 : Nat) "SleepWorkModel" "men" "[I") ∈ lw_all := lw_g (lw_at lw_m7 42 rfl) rfl
theorem q1596 : (Jvm.Cond.fieldLink "SleepWorkModel" (107 : Nat) "SleepWorkModel" "home" "[I") ∈ lw_all := lw_g (lw_at lw_m7 43 rfl) rfl
theorem q1597 : (Jvm.Cond.fieldLink "SleepWorkModel" (110 : Nat) "SleepWorkModel" "leftTask" "[I") ∈ lw_all := lw_g (lw_at lw_m7 44 rfl) rfl
theorem q1598 : (Jvm.Cond.fieldLink "SleepWorkModel" (113 : Nat) "SleepWorkModel" "leftStep" "[I") ∈ lw_all := lw_g (lw_at lw_m7 45 rfl) rfl
theorem q1599 : (Jvm.Cond.fieldLink "SleepWorkModel" (116 : Nat) "SleepWorkModel" "laws" "[I") ∈ lw_all := lw_g (lw_at lw_m7 46 rfl) rfl
theorem q1600 : (Jvm.Cond.fieldLink "SleepWorkModel" (119 : Nat) "SleepWorkModel" "lawFirst" "[I") ∈ lw_all := lw_g (lw_at lw_m7 47 rfl) rfl
theorem q1601 : (Jvm.Cond.fieldLink "SleepWorkModel" (122 : Nat) "SleepWorkModel" "lawLast" "[I") ∈ lw_all := lw_g (lw_at lw_m7 48 rfl) rfl
theorem q1602 : (Jvm.Cond.fieldLink "SleepWorkModel" (287 : Nat) "SleepWorkModel" "branches" "I") ∈ lw_all := lw_g (lw_at lw_m7 49 rfl) rfl
theorem q1603 : (Jvm.Cond.fieldLink "SleepWorkModel" (125 : Nat) "SleepWorkModel" "hasTest" "[Z") ∈ lw_all := lw_g (lw_at lw_m7 50 rfl) rfl
theorem q1604 : (Jvm.Cond.fieldLink "SleepWorkModel" (128 : Nat) "SleepWorkModel" "testFrom" "[I") ∈ lw_all := lw_g (lw_at lw_m7 51 rfl) rfl
theorem q1605 : (Jvm.Cond.fieldLink "SleepWorkModel" (131 : Nat) "SleepWorkModel" "testMid" "[I") ∈ lw_all := lw_g (lw_at lw_m7 52 rfl) rfl
theorem q1606 : (Jvm.Cond.fieldLink "SleepWorkModel" (134 : Nat) "SleepWorkModel" "testTo" "[I") ∈ lw_all := lw_g (lw_at lw_m7 53 rfl) rfl
theorem q1607 : (Jvm.Cond.fieldLink "SleepWorkModel" (137 : Nat) "SleepWorkModel" "termTo" "[I") ∈ lw_all := lw_g (lw_at lw_m7 54 rfl) rfl
theorem q1608 : (Jvm.Cond.fieldLink "SleepWorkModel" (140 : Nat) "SleepWorkModel" "nights" "[I") ∈ lw_all := lw_g (lw_at lw_m7 55 rfl) rfl
theorem q1609 : (Jvm.Cond.fieldLink "SleepWorkModel" (290 : Nat) "SleepWorkModel" "codes" "I") ∈ lw_all := lw_g (lw_at lw_m7 56 rfl) rfl
theorem q1610 : (Jvm.Cond.fieldLink "SleepWorkModel" (143 : Nat) "SleepWorkModel" "code" "[I") ∈ lw_all := lw_g (lw_at lw_m7 57 rfl) rfl
theorem q1611 : (Jvm.Cond.fieldLink "SleepWorkModel" (146 : Nat) "SleepWorkModel" "codeInt" "[I") ∈ lw_all := lw_g (lw_at lw_m7 58 rfl) rfl
theorem q1612 : (Jvm.Cond.fieldLink "SleepWorkModel" (149 : Nat) "SleepWorkModel" "waits" "[I") ∈ lw_all := lw_g (lw_at lw_m7 59 rfl) rfl
theorem q1613 : (Jvm.Cond.fieldLink "SleepWorkModel" (360 : Nat) "SleepWorkModel" "waiting" "I") ∈ lw_all := lw_g (lw_at lw_m7 60 rfl) rfl
theorem q1614 : (Jvm.Cond.fieldLink "SleepWorkModel" (152 : Nat) "SleepWorkModel" "variables" "[I") ∈ lw_all := lw_g (lw_at lw_m7 61 rfl) rfl
theorem q1615 : (Jvm.Cond.fieldLink "SleepWorkModel" (155 : Nat) "SleepWorkModel" "pile" "[I") ∈ lw_all := lw_g (lw_at lw_m7 62 rfl) rfl
theorem q1616 : (Jvm.Cond.fieldLink "SleepWorkModel" (373 : Nat) "SleepWorkModel" "isBroken" "Z") ∈ lw_all := lw_g (lw_at lw_m7 63 rfl) rfl
theorem q1617 : (Jvm.Cond.fieldLink "SleepWorkModel" (158 : Nat) "SleepWorkModel" "now" "[I") ∈ lw_all := lw_g (lw_at lw_m7 64 rfl) rfl
theorem q1618 : (Jvm.Cond.fieldLink "SleepWorkModel" (161 : Nat) "SleepWorkModel" "row" "[I") ∈ lw_all := lw_g (lw_at lw_m7 65 rfl) rfl
theorem q1619 : (Jvm.Cond.fieldLink "SleepWorkModel" (164 : Nat) "SleepWorkModel" "far" "[I") ∈ lw_all := lw_g (lw_at lw_m7 66 rfl) rfl
theorem q1620 : (Jvm.Cond.fieldLink "SleepWorkModel" (167 : Nat) "SleepWorkModel" "state" "[I") ∈ lw_all := lw_g (lw_at lw_m7 67 rfl) rfl
theorem q1621 : (Jvm.Cond.fieldLink "SleepWorkModel" (170 : Nat) "SleepWorkModel" "from" "[I") ∈ lw_all := lw_g (lw_at lw_m7 68 rfl) rfl
theorem q1622 : (Jvm.Cond.fieldLink "SleepWorkModel" (173 : Nat) "SleepWorkModel" "till" "[I") ∈ lw_all := lw_g (lw_at lw_m7 69 rfl) rfl
theorem q1623 : (Jvm.Cond.fieldLink "SleepWorkModel" (176 : Nat) "SleepWorkModel" "doing" "[I") ∈ lw_all := lw_g (lw_at lw_m7 70 rfl) rfl
theorem q1624 : (Jvm.Cond.fieldLink "SleepWorkModel" (179 : Nat) "SleepWorkModel" "lastStep" "[I") ∈ lw_all := lw_g (lw_at lw_m7 71 rfl) rfl
theorem q1625 : (Jvm.Cond.fieldLink "SleepWorkModel" (182 : Nat) "SleepWorkModel" "times0" "[I") ∈ lw_all := lw_g (lw_at lw_m7 72 rfl) rfl
theorem q1626 : (Jvm.Cond.fieldLink "SleepWorkModel" (185 : Nat) "SleepWorkModel" "byEnd" "[Z") ∈ lw_all := lw_g (lw_at lw_m7 73 rfl) rfl
theorem q1627 : (Jvm.Cond.fieldLink "SleepWorkModel" (299 : Nat) "SleepWorkModel" "undos" "I") ∈ lw_all := lw_g (lw_at lw_m7 74 rfl) rfl
theorem q1628 : (Jvm.Cond.fieldLink "SleepWorkModel" (188 : Nat) "SleepWorkModel" "history" "[I") ∈ lw_all := lw_g (lw_at lw_m7 75 rfl) rfl
theorem q1629 : (Jvm.Cond.fieldLink "SleepWorkModel" (467 : Nat) "SleepWorkModel" "bestGain" "I") ∈ lw_all := lw_g (lw_at lw_m7 76 rfl) rfl
theorem q1630 : (Jvm.Cond.fieldLink "SleepWorkModel" (302 : Nat) "SleepWorkModel" "told" "I") ∈ lw_all := lw_g (lw_at lw_m7 77 rfl) rfl
theorem q1631 : (Jvm.Cond.fieldLink "SleepWorkModel" (191 : Nat) "SleepWorkModel" "toldTask" "[I") ∈ lw_all := lw_g (lw_at lw_m7 78 rfl) rfl
theorem q1632 : (Jvm.Cond.fieldLink "SleepWorkModel" (194 : Nat) "SleepWorkModel" "toldStep" "[I") ∈ lw_all := lw_g (lw_at lw_m7 79 rfl) rfl
theorem q1633 : (Jvm.Cond.fieldLink "SleepWorkModel" (197 : Nat) "SleepWorkModel" "toldTimes" "[I") ∈ lw_all := lw_g (lw_at lw_m7 80 rfl) rfl
theorem q1634 : (Jvm.Cond.fieldLink "SleepWorkModel" (200 : Nat) "SleepWorkModel" "isHeld" "[Z") ∈ lw_all := lw_g (lw_at lw_m7 81 rfl) rfl
theorem q1635 : (Jvm.Cond.fieldLink "SleepWorkModel" (203 : Nat) "SleepWorkModel" "held" "[I") ∈ lw_all := lw_g (lw_at lw_m7 82 rfl) rfl
theorem q1636 : (Jvm.Cond.lays "SleepWorkModel" "SleepWorkModel" "thrown" "I") ∈ lw_all := lw_g (lw_at lw_m7 83 rfl) rfl
theorem q1637 : (Jvm.Cond.soleField "SleepWorkModel" "thrown") ∈ lw_all := lw_g (lw_at lw_m7 84 rfl) rfl
theorem q1638 : (Jvm.Cond.laysFinal "SleepWorkModel" "SleepWorkModel" "tape" "[B") ∈ lw_all := lw_g (lw_at lw_m7 85 rfl) rfl
theorem q1639 : (Jvm.Cond.soleField "SleepWorkModel" "tape") ∈ lw_all := lw_g (lw_at lw_m7 86 rfl) rfl
theorem q1640 : (Jvm.Cond.lays "SleepWorkModel" "SleepWorkModel" "taped" "I") ∈ lw_all := lw_g (lw_at lw_m7 87 rfl) rfl
theorem q1641 : (Jvm.Cond.soleField "SleepWorkModel" "taped") ∈ lw_all := lw_g (lw_at lw_m7 88 rfl) rfl
theorem q1642 : (Jvm.Cond.laysFinal "SleepWorkModel" "SleepWorkModel" "text" "[B") ∈ lw_all := lw_g (lw_at lw_m7 89 rfl) rfl
theorem q1643 : (Jvm.Cond.soleField "SleepWorkModel" "text") ∈ lw_all := lw_g (lw_at lw_m7 90 rfl) rfl
theorem q1644 : (Jvm.Cond.lays "SleepWorkModel" "SleepWorkModel" "size" "I") ∈ lw_all := lw_g (lw_at lw_m7 91 rfl) rfl
theorem q1645 : (Jvm.Cond.soleField "SleepWorkModel" "size") ∈ lw_all := lw_g (lw_at lw_m7 92 rfl) rfl
theorem q1646 : (Jvm.Cond.laysFinal "SleepWorkModel" "SleepWorkModel" "tKind" "[I") ∈ lw_all := lw_g (lw_at lw_m7 93 rfl) rfl
theorem q1647 : (Jvm.Cond.soleField "SleepWorkModel" "tKind") ∈ lw_all := lw_g (lw_at lw_m7 94 rfl) rfl
theorem q1648 : (Jvm.Cond.laysFinal "SleepWorkModel" "SleepWorkModel" "tPlace" "[I") ∈ lw_all := lw_g (lw_at lw_m7 95 rfl) rfl
theorem q1649 : (Jvm.Cond.soleField "SleepWorkModel" "tPlace") ∈ lw_all := lw_g (lw_at lw_m7 96 rfl) rfl
theorem q1650 : (Jvm.Cond.laysFinal "SleepWorkModel" "SleepWorkModel" "tValue" "[I") ∈ lw_all := lw_g (lw_at lw_m7 97 rfl) rfl
theorem q1651 : (Jvm.Cond.soleField "SleepWorkModel" "tValue") ∈ lw_all := lw_g (lw_at lw_m7 98 rfl) rfl
theorem q1652 : (Jvm.Cond.laysFinal "SleepWorkModel" "SleepWorkModel" "tName" "[J") ∈ lw_all := lw_g (lw_at lw_m7 99 rfl) rfl
theorem q1653 : (Jvm.Cond.soleField "SleepWorkModel" "tName") ∈ lw_all := lw_g (lw_at lw_m7 100 rfl) rfl
theorem q1654 : (Jvm.Cond.laysFinal "SleepWorkModel" "SleepWorkModel" "keys" "[J") ∈ lw_all := lw_g (lw_at lw_m7 101 rfl) rfl
theorem q1655 : (Jvm.Cond.soleField "SleepWorkModel" "keys") ∈ lw_all := lw_g (lw_at lw_m7 102 rfl) rfl
theorem q1656 : (Jvm.Cond.lays "SleepWorkModel" "SleepWorkModel" "tokens" "I") ∈ lw_all := lw_g (lw_at lw_m7 103 rfl) rfl
theorem q1657 : (Jvm.Cond.soleField "SleepWorkModel" "tokens") ∈ lw_all := lw_g (lw_at lw_m7 104 rfl) rfl
theorem q1658 : (Jvm.Cond.lays "SleepWorkModel" "SleepWorkModel" "t" "I") ∈ lw_all := lw_g (lw_at lw_m7 105 rfl) rfl
theorem q1659 : (Jvm.Cond.soleField "SleepWorkModel" "t") ∈ lw_all := lw_g (lw_at lw_m7 106 rfl) rfl
theorem q1660 : (Jvm.Cond.lays "SleepWorkModel" "SleepWorkModel" "open" "I") ∈ lw_all := lw_g (lw_at lw_m7 107 rfl) rfl
theorem q1661 : (Jvm.Cond.soleField "SleepWorkModel" "open") ∈ lw_all := lw_g (lw_at lw_m7 108 rfl) rfl
theorem q1662 : (Jvm.Cond.lays "SleepWorkModel" "SleepWorkModel" "fault" "I") ∈ lw_all := lw_g (lw_at lw_m7 109 rfl) rfl
theorem q1663 : (Jvm.Cond.soleField "SleepWorkModel" "fault") ∈ lw_all := lw_g (lw_at lw_m7 110 rfl) rfl
theorem q1664 : (Jvm.Cond.lays "SleepWorkModel" "SleepWorkModel" "faultPlace" "I") ∈ lw_all := lw_g (lw_at lw_m7 111 rfl) rfl
theorem q1665 : (Jvm.Cond.soleField "SleepWorkModel" "faultPlace") ∈ lw_all := lw_g (lw_at lw_m7 112 rfl) rfl
theorem q1666 : (Jvm.Cond.lays "SleepWorkModel" "SleepWorkModel" "worst" "I") ∈ lw_all := lw_g (lw_at lw_m7 113 rfl) rfl
theorem q1667 : (Jvm.Cond.soleField "SleepWorkModel" "worst") ∈ lw_all := lw_g (lw_at lw_m7 114 rfl) rfl
theorem q1668 : (Jvm.Cond.lays "SleepWorkModel" "SleepWorkModel" "worstPlace" "I") ∈ lw_all := lw_g (lw_at lw_m7 115 rfl) rfl
theorem q1669 : (Jvm.Cond.soleField "SleepWorkModel" "worstPlace") ∈ lw_all := lw_g (lw_at lw_m7 116 rfl) rfl
theorem q1670 : (Jvm.Cond.lays "SleepWorkModel" "SleepWorkModel" "place" "I") ∈ lw_all := lw_g (lw_at lw_m7 117 rfl) rfl
theorem q1671 : (Jvm.Cond.soleField "SleepWorkModel" "place") ∈ lw_all := lw_g (lw_at lw_m7 118 rfl) rfl
theorem q1672 : (Jvm.Cond.lays "SleepWorkModel" "SleepWorkModel" "live" "I") ∈ lw_all := lw_g (lw_at lw_m7 119 rfl) rfl
theorem q1673 : (Jvm.Cond.soleField "SleepWorkModel" "live") ∈ lw_all := lw_g (lw_at lw_m7 120 rfl) rfl
theorem q1674 : (Jvm.Cond.lays "SleepWorkModel" "SleepWorkModel" "side" "I") ∈ lw_all := lw_g (lw_at lw_m7 121 rfl) rfl
theorem q1675 : (Jvm.Cond.soleField "SleepWorkModel" "side") ∈ lw_all := lw_g (lw_at lw_m7 122 rfl) rfl
theorem q1676 : (Jvm.Cond.lays "SleepWorkModel" "SleepWorkModel" "names" "I") ∈ lw_all := lw_g (lw_at lw_m7 123 rfl) rfl
theorem q1677 : (Jvm.Cond.soleField "SleepWorkModel" "names") ∈ lw_all := lw_g (lw_at lw_m7 124 rfl) rfl
theorem q1678 : (Jvm.Cond.laysFinal "SleepWorkModel" "SleepWorkModel" "nameOf" "[J") ∈ lw_all := lw_g (lw_at lw_m7 125 rfl) rfl
theorem q1679 : (Jvm.Cond.soleField "SleepWorkModel" "nameOf") ∈ lw_all := lw_g (lw_at lw_m7 126 rfl) rfl
theorem q1680 : (Jvm.Cond.laysFinal "SleepWorkModel" "SleepWorkModel" "nameSort" "[I") ∈ lw_all := lw_g (lw_at lw_m7 127 rfl) rfl
theorem q1681 : (Jvm.Cond.soleField "SleepWorkModel" "nameSort") ∈ lw_all := lw_g (lw_at lw_m7 128 rfl) rfl
theorem q1682 : (Jvm.Cond.laysFinal "SleepWorkModel" "SleepWorkModel" "nameAt" "[I") ∈ lw_all := lw_g (lw_at lw_m7 129 rfl) rfl
theorem q1683 : (Jvm.Cond.soleField "SleepWorkModel" "nameAt") ∈ lw_all := lw_g (lw_at lw_m7 130 rfl) rfl
theorem q1684 : (Jvm.Cond.laysFinal "SleepWorkModel" "SleepWorkModel" "rooms" "[I") ∈ lw_all := lw_g (lw_at lw_m7 131 rfl) rfl
theorem q1685 : (Jvm.Cond.soleField "SleepWorkModel" "rooms") ∈ lw_all := lw_g (lw_at lw_m7 132 rfl) rfl
theorem q1686 : (Jvm.Cond.laysFinal "SleepWorkModel" "SleepWorkModel" "doors" "[I") ∈ lw_all := lw_g (lw_at lw_m7 133 rfl) rfl
theorem q1687 : (Jvm.Cond.soleField "SleepWorkModel" "doors") ∈ lw_all := lw_g (lw_at lw_m7 134 rfl) rfl
theorem q1688 : (Jvm.Cond.laysFinal "SleepWorkModel" "SleepWorkModel" "doorOne" "[I") ∈ lw_all := lw_g (lw_at lw_m7 135 rfl) rfl
theorem q1689 : (Jvm.Cond.soleField "SleepWorkModel" "doorOne") ∈ lw_all := lw_g (lw_at lw_m7 136 rfl) rfl
theorem q1690 : (Jvm.Cond.laysFinal "SleepWorkModel" "SleepWorkModel" "doorOther" "[I") ∈ lw_all := lw_g (lw_at lw_m7 137 rfl) rfl
theorem q1691 : (Jvm.Cond.soleField "SleepWorkModel" "doorOther") ∈ lw_all := lw_g (lw_at lw_m7 138 rfl) rfl
theorem q1692 : (Jvm.Cond.laysFinal "SleepWorkModel" "SleepWorkModel" "doorMinutes" "[I") ∈ lw_all := lw_g (lw_at lw_m7 139 rfl) rfl
theorem q1693 : (Jvm.Cond.soleField "SleepWorkModel" "doorMinutes") ∈ lw_all := lw_g (lw_at lw_m7 140 rfl) rfl
theorem q1694 : (Jvm.Cond.laysFinal "SleepWorkModel" "SleepWorkModel" "doorShut" "[Z") ∈ lw_all := lw_g (lw_at lw_m7 141 rfl) rfl
theorem q1695 : (Jvm.Cond.soleField "SleepWorkModel" "doorShut") ∈ lw_all := lw_g (lw_at lw_m7 142 rfl) rfl
theorem q1696 : (Jvm.Cond.laysFinal "SleepWorkModel" "SleepWorkModel" "tools" "[I") ∈ lw_all := lw_g (lw_at lw_m7 143 rfl) rfl
theorem q1697 : (Jvm.Cond.soleField "SleepWorkModel" "tools") ∈ lw_all := lw_g (lw_at lw_m7 144 rfl) rfl
theorem q1698 : (Jvm.Cond.laysFinal "SleepWorkModel" "SleepWorkModel" "toolTold" "[I") ∈ lw_all := lw_g (lw_at lw_m7 145 rfl) rfl
theorem q1699 : (Jvm.Cond.soleField "SleepWorkModel" "toolTold") ∈ lw_all := lw_g (lw_at lw_m7 146 rfl) rfl
theorem q1700 : (Jvm.Cond.laysFinal "SleepWorkModel" "SleepWorkModel" "tasks" "[I") ∈ lw_all := lw_g (lw_at lw_m7 147 rfl) rfl
theorem q1701 : (Jvm.Cond.soleField "SleepWorkModel" "tasks") ∈ lw_all := lw_g (lw_at lw_m7 148 rfl) rfl
theorem q1702 : (Jvm.Cond.laysFinal "SleepWorkModel" "SleepWorkModel" "taskRoom" "[I") ∈ lw_all := lw_g (lw_at lw_m7 149 rfl) rfl
theorem q1703 : (Jvm.Cond.soleField "SleepWorkModel" "taskRoom") ∈ lw_all := lw_g (lw_at lw_m7 150 rfl) rfl
theorem q1704 : (Jvm.Cond.laysFinal "SleepWorkModel" "SleepWorkModel" "stuffTold" "[I") ∈ lw_all := lw_g (lw_at lw_m7 151 rfl) rfl
theorem q1705 : (Jvm.Cond.soleField "SleepWorkModel" "stuffTold") ∈ lw_all := lw_g (lw_at lw_m7 152 rfl) rfl
theorem q1706 : (Jvm.Cond.laysFinal "SleepWorkModel" "SleepWorkModel" "steps" "[I") ∈ lw_all := lw_g (lw_at lw_m7 153 rfl) rfl
theorem q1707 : (Jvm.Cond.soleField "SleepWorkModel" "steps") ∈ lw_all := lw_g (lw_at lw_m7 154 rfl) rfl
theorem q1708 : (Jvm.Cond.laysFinal "SleepWorkModel" "SleepWorkModel" "stepMinutes" "[I") ∈ lw_all := lw_g (lw_at lw_m7 155 rfl) rfl
theorem q1709 : (Jvm.Cond.soleField "SleepWorkModel" "stepMinutes") ∈ lw_all := lw_g (lw_at lw_m7 156 rfl) rfl
theorem q1710 : (Jvm.Cond.laysFinal "SleepWorkModel" "SleepWorkModel" "stepNeed" "[I") ∈ lw_all := lw_g (lw_at lw_m7 157 rfl) rfl
theorem q1711 : (Jvm.Cond.soleField "SleepWorkModel" "stepNeed") ∈ lw_all := lw_g (lw_at lw_m7 158 rfl) rfl
theorem q1712 : (Jvm.Cond.laysFinal "SleepWorkModel" "SleepWorkModel" "stepGain" "[I") ∈ lw_all := lw_g (lw_at lw_m7 159 rfl) rfl
theorem q1713 : (Jvm.Cond.soleField "SleepWorkModel" "stepGain") ∈ lw_all := lw_g (lw_at lw_m7 160 rfl) rfl
theorem q1714 : (Jvm.Cond.laysFinal "SleepWorkModel" "SleepWorkModel" "stepSpoil" "[I") ∈ lw_all := lw_g (lw_at lw_m7 161 rfl) rfl
theorem q1715 : (Jvm.Cond.soleField "SleepWorkModel" "stepSpoil") ∈ lw_all := lw_g (lw_at lw_m7 162 rfl) rfl
theorem q1716 : (Jvm.Cond.laysFinal "SleepWorkModel" "SleepWorkModel" "stepTool" "[I") ∈ lw_all := lw_g (lw_at lw_m7 163 rfl) rfl
theorem q1717 : (Jvm.Cond.soleField "SleepWorkModel" "stepTool") ∈ lw_all := lw_g (lw_at lw_m7 164 rfl) rfl
theorem q1718 : (Jvm.Cond.laysFinal "SleepWorkModel" "SleepWorkModel" "stepUndoes" "[I") ∈ lw_all := lw_g (lw_at lw_m7 165 rfl) rfl
theorem q1719 : (Jvm.Cond.soleField "SleepWorkModel" "stepUndoes") ∈ lw_all := lw_g (lw_at lw_m7 166 rfl) rfl
theorem q1720 : (Jvm.Cond.laysFinal "SleepWorkModel" "SleepWorkModel" "men" "[I") ∈ lw_all := lw_g (lw_at lw_m7 167 rfl) rfl
theorem q1721 : (Jvm.Cond.soleField "SleepWorkModel" "men") ∈ lw_all := lw_g (lw_at lw_m7 168 rfl) rfl
theorem q1722 : (Jvm.Cond.laysFinal "SleepWorkModel" "SleepWorkModel" "home" "[I") ∈ lw_all := lw_g (lw_at lw_m7 169 rfl) rfl
theorem q1723 : (Jvm.Cond.soleField "SleepWorkModel" "home") ∈ lw_all := lw_g (lw_at lw_m7 170 rfl) rfl
theorem q1724 : (Jvm.Cond.laysFinal "SleepWorkModel" "SleepWorkModel" "leftTask" "[I") ∈ lw_all := lw_g (lw_at lw_m7 171 rfl) rfl
theorem q1725 : (Jvm.Cond.soleField "SleepWorkModel" "leftTask") ∈ lw_all := lw_g (lw_at lw_m7 172 rfl) rfl
theorem q1726 : (Jvm.Cond.laysFinal "SleepWorkModel" "SleepWorkModel" "leftStep" "[I") ∈ lw_all := lw_g (lw_at lw_m7 173 rfl) rfl
theorem q1727 : (Jvm.Cond.soleField "SleepWorkModel" "leftStep") ∈ lw_all := lw_g (lw_at lw_m7 174 rfl) rfl
theorem q1728 : (Jvm.Cond.laysFinal "SleepWorkModel" "SleepWorkModel" "laws" "[I") ∈ lw_all := lw_g (lw_at lw_m7 175 rfl) rfl
theorem q1729 : (Jvm.Cond.soleField "SleepWorkModel" "laws") ∈ lw_all := lw_g (lw_at lw_m7 176 rfl) rfl
theorem q1730 : (Jvm.Cond.laysFinal "SleepWorkModel" "SleepWorkModel" "lawFirst" "[I") ∈ lw_all := lw_g (lw_at lw_m7 177 rfl) rfl
theorem q1731 : (Jvm.Cond.soleField "SleepWorkModel" "lawFirst") ∈ lw_all := lw_g (lw_at lw_m7 178 rfl) rfl
theorem q1732 : (Jvm.Cond.laysFinal "SleepWorkModel" "SleepWorkModel" "lawLast" "[I") ∈ lw_all := lw_g (lw_at lw_m7 179 rfl) rfl
theorem q1733 : (Jvm.Cond.soleField "SleepWorkModel" "lawLast") ∈ lw_all := lw_g (lw_at lw_m7 180 rfl) rfl
theorem q1734 : (Jvm.Cond.lays "SleepWorkModel" "SleepWorkModel" "branches" "I") ∈ lw_all := lw_g (lw_at lw_m7 181 rfl) rfl
theorem q1735 : (Jvm.Cond.soleField "SleepWorkModel" "branches") ∈ lw_all := lw_g (lw_at lw_m7 182 rfl) rfl
theorem q1736 : (Jvm.Cond.laysFinal "SleepWorkModel" "SleepWorkModel" "hasTest" "[Z") ∈ lw_all := lw_g (lw_at lw_m7 183 rfl) rfl
theorem q1737 : (Jvm.Cond.soleField "SleepWorkModel" "hasTest") ∈ lw_all := lw_g (lw_at lw_m7 184 rfl) rfl
theorem q1738 : (Jvm.Cond.laysFinal "SleepWorkModel" "SleepWorkModel" "testFrom" "[I") ∈ lw_all := lw_g (lw_at lw_m7 185 rfl) rfl
theorem q1739 : (Jvm.Cond.soleField "SleepWorkModel" "testFrom") ∈ lw_all := lw_g (lw_at lw_m7 186 rfl) rfl
theorem q1740 : (Jvm.Cond.laysFinal "SleepWorkModel" "SleepWorkModel" "testMid" "[I") ∈ lw_all := lw_g (lw_at lw_m7 187 rfl) rfl
theorem q1741 : (Jvm.Cond.soleField "SleepWorkModel" "testMid") ∈ lw_all := lw_g (lw_at lw_m7 188 rfl) rfl
theorem q1742 : (Jvm.Cond.laysFinal "SleepWorkModel" "SleepWorkModel" "testTo" "[I") ∈ lw_all := lw_g (lw_at lw_m7 189 rfl) rfl
theorem q1743 : (Jvm.Cond.soleField "SleepWorkModel" "testTo") ∈ lw_all := lw_g (lw_at lw_m7 190 rfl) rfl
theorem q1744 : (Jvm.Cond.laysFinal "SleepWorkModel" "SleepWorkModel" "termTo" "[I") ∈ lw_all := lw_g (lw_at lw_m7 191 rfl) rfl
theorem q1745 : (Jvm.Cond.soleField "SleepWorkModel" "termTo") ∈ lw_all := lw_g (lw_at lw_m7 192 rfl) rfl
theorem q1746 : (Jvm.Cond.laysFinal "SleepWorkModel" "SleepWorkModel" "nights" "[I") ∈ lw_all := lw_g (lw_at lw_m7 193 rfl) rfl
theorem q1747 : (Jvm.Cond.soleField "SleepWorkModel" "nights") ∈ lw_all := lw_g (lw_at lw_m7 194 rfl) rfl
theorem q1748 : (Jvm.Cond.lays "SleepWorkModel" "SleepWorkModel" "codes" "I") ∈ lw_all := lw_g (lw_at lw_m7 195 rfl) rfl
theorem q1749 : (Jvm.Cond.soleField "SleepWorkModel" "codes") ∈ lw_all := lw_g (lw_at lw_m7 196 rfl) rfl
theorem q1750 : (Jvm.Cond.laysFinal "SleepWorkModel" "SleepWorkModel" "code" "[I") ∈ lw_all := lw_g (lw_at lw_m7 197 rfl) rfl
theorem q1751 : (Jvm.Cond.soleField "SleepWorkModel" "code") ∈ lw_all := lw_g (lw_at lw_m7 198 rfl) rfl
theorem q1752 : (Jvm.Cond.laysFinal "SleepWorkModel" "SleepWorkModel" "codeInt" "[I") ∈ lw_all := lw_g (lw_at lw_m7 199 rfl) rfl
theorem q1753 : (Jvm.Cond.soleField "SleepWorkModel" "codeInt") ∈ lw_all := lw_g (lw_at lw_m7 200 rfl) rfl
theorem q1754 : (Jvm.Cond.laysFinal "SleepWorkModel" "SleepWorkModel" "waits" "[I") ∈ lw_all := lw_g (lw_at lw_m7 201 rfl) rfl
theorem q1755 : (Jvm.Cond.soleField "SleepWorkModel" "waits") ∈ lw_all := lw_g (lw_at lw_m7 202 rfl) rfl
theorem q1756 : (Jvm.Cond.lays "SleepWorkModel" "SleepWorkModel" "waiting" "I") ∈ lw_all := lw_g (lw_at lw_m7 203 rfl) rfl
theorem q1757 : (Jvm.Cond.soleField "SleepWorkModel" "waiting") ∈ lw_all := lw_g (lw_at lw_m7 204 rfl) rfl
theorem q1758 : (Jvm.Cond.laysFinal "SleepWorkModel" "SleepWorkModel" "variables" "[I") ∈ lw_all := lw_g (lw_at lw_m7 205 rfl) rfl
theorem q1759 : (Jvm.Cond.soleField "SleepWorkModel" "variables") ∈ lw_all := lw_g (lw_at lw_m7 206 rfl) rfl
theorem q1760 : (Jvm.Cond.laysFinal "SleepWorkModel" "SleepWorkModel" "pile" "[I") ∈ lw_all := lw_g (lw_at lw_m7 207 rfl) rfl
theorem q1761 : (Jvm.Cond.soleField "SleepWorkModel" "pile") ∈ lw_all := lw_g (lw_at lw_m7 208 rfl) rfl
theorem q1762 : (Jvm.Cond.lays "SleepWorkModel" "SleepWorkModel" "isBroken" "Z") ∈ lw_all := lw_g (lw_at lw_m7 209 rfl) rfl
theorem q1763 : (Jvm.Cond.soleField "SleepWorkModel" "isBroken") ∈ lw_all := lw_g (lw_at lw_m7 210 rfl) rfl
theorem q1764 : (Jvm.Cond.laysFinal "SleepWorkModel" "SleepWorkModel" "now" "[I") ∈ lw_all := lw_g (lw_at lw_m7 211 rfl) rfl
theorem q1765 : (Jvm.Cond.soleField "SleepWorkModel" "now") ∈ lw_all := lw_g (lw_at lw_m7 212 rfl) rfl
theorem q1766 : (Jvm.Cond.laysFinal "SleepWorkModel" "SleepWorkModel" "row" "[I") ∈ lw_all := lw_g (lw_at lw_m7 213 rfl) rfl
theorem q1767 : (Jvm.Cond.soleField "SleepWorkModel" "row") ∈ lw_all := lw_g (lw_at lw_m7 214 rfl) rfl
theorem q1768 : (Jvm.Cond.laysFinal "SleepWorkModel" "SleepWorkModel" "far" "[I") ∈ lw_all := lw_g (lw_at lw_m7 215 rfl) rfl
theorem q1769 : (Jvm.Cond.soleField "SleepWorkModel" "far") ∈ lw_all := lw_g (lw_at lw_m7 216 rfl) rfl
theorem q1770 : (Jvm.Cond.laysFinal "SleepWorkModel" "SleepWorkModel" "state" "[I") ∈ lw_all := lw_g (lw_at lw_m7 217 rfl) rfl
theorem q1771 : (Jvm.Cond.soleField "SleepWorkModel" "state") ∈ lw_all := lw_g (lw_at lw_m7 218 rfl) rfl
theorem q1772 : (Jvm.Cond.laysFinal "SleepWorkModel" "SleepWorkModel" "from" "[I") ∈ lw_all := lw_g (lw_at lw_m7 219 rfl) rfl
theorem q1773 : (Jvm.Cond.soleField "SleepWorkModel" "from") ∈ lw_all := lw_g (lw_at lw_m7 220 rfl) rfl
theorem q1774 : (Jvm.Cond.laysFinal "SleepWorkModel" "SleepWorkModel" "till" "[I") ∈ lw_all := lw_g (lw_at lw_m7 221 rfl) rfl
theorem q1775 : (Jvm.Cond.soleField "SleepWorkModel" "till") ∈ lw_all := lw_g (lw_at lw_m7 222 rfl) rfl
theorem q1776 : (Jvm.Cond.laysFinal "SleepWorkModel" "SleepWorkModel" "doing" "[I") ∈ lw_all := lw_g (lw_at lw_m7 223 rfl) rfl
theorem q1777 : (Jvm.Cond.soleField "SleepWorkModel" "doing") ∈ lw_all := lw_g (lw_at lw_m7 224 rfl) rfl
theorem q1778 : (Jvm.Cond.laysFinal "SleepWorkModel" "SleepWorkModel" "lastStep" "[I") ∈ lw_all := lw_g (lw_at lw_m7 225 rfl) rfl
theorem q1779 : (Jvm.Cond.soleField "SleepWorkModel" "lastStep") ∈ lw_all := lw_g (lw_at lw_m7 226 rfl) rfl
theorem q1780 : (Jvm.Cond.laysFinal "SleepWorkModel" "SleepWorkModel" "times0" "[I") ∈ lw_all := lw_g (lw_at lw_m7 227 rfl) rfl
theorem q1781 : (Jvm.Cond.soleField "SleepWorkModel" "times0") ∈ lw_all := lw_g (lw_at lw_m7 228 rfl) rfl
theorem q1782 : (Jvm.Cond.laysFinal "SleepWorkModel" "SleepWorkModel" "byEnd" "[Z") ∈ lw_all := lw_g (lw_at lw_m7 229 rfl) rfl
theorem q1783 : (Jvm.Cond.soleField "SleepWorkModel" "byEnd") ∈ lw_all := lw_g (lw_at lw_m7 230 rfl) rfl
theorem q1784 : (Jvm.Cond.lays "SleepWorkModel" "SleepWorkModel" "undos" "I") ∈ lw_all := lw_g (lw_at lw_m7 231 rfl) rfl
theorem q1785 : (Jvm.Cond.soleField "SleepWorkModel" "undos") ∈ lw_all := lw_g (lw_at lw_m7 232 rfl) rfl
theorem q1786 : (Jvm.Cond.laysFinal "SleepWorkModel" "SleepWorkModel" "history" "[I") ∈ lw_all := lw_g (lw_at lw_m7 233 rfl) rfl
theorem q1787 : (Jvm.Cond.soleField "SleepWorkModel" "history") ∈ lw_all := lw_g (lw_at lw_m7 234 rfl) rfl
theorem q1788 : (Jvm.Cond.lays "SleepWorkModel" "SleepWorkModel" "bestGain" "I") ∈ lw_all := lw_g (lw_at lw_m7 235 rfl) rfl
theorem q1789 : (Jvm.Cond.soleField "SleepWorkModel" "bestGain") ∈ lw_all := lw_g (lw_at lw_m7 236 rfl) rfl
theorem q1790 : (Jvm.Cond.lays "SleepWorkModel" "SleepWorkModel" "told" "I") ∈ lw_all := lw_g (lw_at lw_m7 237 rfl) rfl
theorem q1791 : (Jvm.Cond.soleField "SleepWorkModel" "told") ∈ lw_all := lw_g (lw_at lw_m7 238 rfl) rfl
theorem q1792 : (Jvm.Cond.laysFinal "SleepWorkModel" "SleepWorkModel" "toldTask" "[I") ∈ lw_all := lw_g (lw_at lw_m7 239 rfl) rfl
theorem q1793 : (Jvm.Cond.soleField "SleepWorkModel" "toldTask") ∈ lw_all := lw_g (lw_at lw_m8 0 rfl) rfl
theorem q1794 : (Jvm.Cond.laysFinal "SleepWorkModel" "SleepWorkModel" "toldStep" "[I") ∈ lw_all := lw_g (lw_at lw_m8 1 rfl) rfl
theorem q1795 : (Jvm.Cond.soleField "SleepWorkModel" "toldStep") ∈ lw_all := lw_g (lw_at lw_m8 2 rfl) rfl
theorem q1796 : (Jvm.Cond.laysFinal "SleepWorkModel" "SleepWorkModel" "toldTimes" "[I") ∈ lw_all := lw_g (lw_at lw_m8 3 rfl) rfl
theorem q1797 : (Jvm.Cond.soleField "SleepWorkModel" "toldTimes") ∈ lw_all := lw_g (lw_at lw_m8 4 rfl) rfl
theorem q1798 : (Jvm.Cond.laysFinal "SleepWorkModel" "SleepWorkModel" "isHeld" "[Z") ∈ lw_all := lw_g (lw_at lw_m8 5 rfl) rfl
theorem q1799 : (Jvm.Cond.soleField "SleepWorkModel" "isHeld") ∈ lw_all := lw_g (lw_at lw_m8 6 rfl) rfl
theorem q1800 : (Jvm.Cond.laysFinal "SleepWorkModel" "SleepWorkModel" "held" "[I") ∈ lw_all := lw_g (lw_at lw_m8 7 rfl) rfl
theorem q1801 : (Jvm.Cond.soleField "SleepWorkModel" "held") ∈ lw_all := lw_g (lw_at lw_m8 8 rfl) rfl
theorem q1802 : (Jvm.Cond.superclass "SleepWorkModel" "java/lang/Object") ∈ lw_all := lw_g (lw_at lw_m8 9 rfl) rfl
theorem q1805 : (Jvm.Cond.instanceMethod ({ cls := "SleepWorkModel", name := "feed", desc := "(IIIII)I" } : Jvm.MethodName)) ∈ lw_all := lw_g (lw_at lw_m8 12 rfl) rfl
theorem q1806 : (Jvm.Cond.selects "SleepWorkModel" ({ cls := "SleepWorkModel", name := "feed", desc := "(IIIII)I" } : Jvm.MethodName) ({ cls := "SleepWorkModel", name := "feed", desc := "(IIIII)I" } : Jvm.MethodName)) ∈ lw_all := lw_g (lw_at lw_m8 13 rfl) rfl
theorem q1807 : (Jvm.Cond.code ({ cls := "SleepWorkModel", name := "feed", desc := "(IIIII)I" } : Jvm.MethodName) prog_22_method_3_code (6 : Nat) (Option.some Jvm.ClassFile.FieldType.int)) ∈ lw_all := lw_g (lw_at lw_m8 14 rfl) rfl
theorem q1808 : (Jvm.Cond.methodLink "SleepWorkModel" (213 : Nat) ({ cls := "SleepWorkModel", name := "put", desc := "(I)V" } : Jvm.MethodName)) ∈ lw_all := lw_g (lw_at lw_m8 15 rfl) rfl
theorem q1809 : (Jvm.Cond.privateMethod ({ cls := "SleepWorkModel", name := "put", desc := "(I)V" } : Jvm.MethodName)) ∈ lw_tbl := lw_at lw_m8 16 rfl
theorem q1810 : (Jvm.Cond.instanceMethod ({ cls := "SleepWorkModel", name := "put", desc := "(I)V" } : Jvm.MethodName)) ∈ lw_all := lw_g (lw_at lw_m8 17 rfl) rfl
theorem q1811 : (Jvm.Cond.code ({ cls := "SleepWorkModel", name := "put", desc := "(I)V" } : Jvm.MethodName) prog_22_method_4_code (3 : Nat) (Option.none : Option Jvm.ClassFile.FieldType)) ∈ lw_all := lw_g (lw_at lw_m8 18 rfl) rfl
theorem q1813 : (Jvm.Cond.instanceMethod ({ cls := "SleepWorkModel", name := "back", desc := "(I)I" } : Jvm.MethodName)) ∈ lw_all := lw_g (lw_at lw_m8 20 rfl) rfl
theorem q1814 : (Jvm.Cond.selects "SleepWorkModel" ({ cls := "SleepWorkModel", name := "back", desc := "(I)I" } : Jvm.MethodName) ({ cls := "SleepWorkModel", name := "back", desc := "(I)I" } : Jvm.MethodName)) ∈ lw_all := lw_g (lw_at lw_m8 21 rfl) rfl
theorem q1815 : (Jvm.Cond.code ({ cls := "SleepWorkModel", name := "back", desc := "(I)I" } : Jvm.MethodName) prog_22_method_5_code (2 : Nat) (Option.some Jvm.ClassFile.FieldType.int)) ∈ lw_all := lw_g (lw_at lw_m8 22 rfl) rfl
theorem q1817 : (Jvm.Cond.instanceMethod ({ cls := "SleepWorkModel", name := "read", desc := "()I" } : Jvm.MethodName)) ∈ lw_all := lw_g (lw_at lw_m8 24 rfl) rfl
theorem q1818 : (Jvm.Cond.selects "SleepWorkModel" ({ cls := "SleepWorkModel", name := "read", desc := "()I" } : Jvm.MethodName) ({ cls := "SleepWorkModel", name := "read", desc := "()I" } : Jvm.MethodName)) ∈ lw_all := lw_g (lw_at lw_m8 25 rfl) rfl
theorem q1819 : (Jvm.Cond.code ({ cls := "SleepWorkModel", name := "read", desc := "()I" } : Jvm.MethodName) prog_22_method_19_code (2 : Nat) (Option.some Jvm.ClassFile.FieldType.int)) ∈ lw_all := lw_g (lw_at lw_m8 26 rfl) rfl
theorem q1820 : (Jvm.Cond.methodLink "SleepWorkModel" (272 : Nat) ({ cls := "SleepWorkModel", name := "cut", desc := "()V" } : Jvm.MethodName)) ∈ lw_all := lw_g (lw_at lw_m8 27 rfl) rfl
theorem q1821 : (Jvm.Cond.privateMethod ({ cls := "SleepWorkModel", name := "cut", desc := "()V" } : Jvm.MethodName)) ∈ lw_tbl := lw_at lw_m8 28 rfl
theorem q1822 : (Jvm.Cond.instanceMethod ({ cls := "SleepWorkModel", name := "cut", desc := "()V" } : Jvm.MethodName)) ∈ lw_all := lw_g (lw_at lw_m8 29 rfl) rfl
theorem q1823 : (Jvm.Cond.code ({ cls := "SleepWorkModel", name := "cut", desc := "()V" } : Jvm.MethodName) prog_22_method_12_code (8 : Nat) (Option.none : Option Jvm.ClassFile.FieldType)) ∈ lw_all := lw_g (lw_at lw_m8 30 rfl) rfl
theorem q1824 : (Jvm.Cond.methodLink "SleepWorkModel" (229 : Nat) ({ cls := "SleepWorkModel", name := "byteAt", desc := "(I)I" } : Jvm.MethodName)) ∈ lw_all := lw_g (lw_at lw_m8 31 rfl) rfl
theorem q1825 : (Jvm.Cond.privateMethod ({ cls := "SleepWorkModel", name := "byteAt", desc := "(I)I" } : Jvm.MethodName)) ∈ lw_tbl := lw_at lw_m8 32 rfl
theorem q1826 : (Jvm.Cond.instanceMethod ({ cls := "SleepWorkModel", name := "byteAt", desc := "(I)I" } : Jvm.MethodName)) ∈ lw_all := lw_g (lw_at lw_m8 33 rfl) rfl
theorem q1827 : (Jvm.Cond.code ({ cls := "SleepWorkModel", name := "byteAt", desc := "(I)I" } : Jvm.MethodName) prog_22_method_6_code (2 : Nat) (Option.some Jvm.ClassFile.FieldType.int)) ∈ lw_all := lw_g (lw_at lw_m8 34 rfl) rfl
theorem q1828 : (Jvm.Cond.methodLink "SleepWorkModel" (233 : Nat) ({ cls := "SleepWorkModel", name := "token", desc := "(IIIJ)V" } : Jvm.MethodName)) ∈ lw_all := lw_g (lw_at lw_m8 35 rfl) rfl
theorem q1829 : (Jvm.Cond.privateMethod ({ cls := "SleepWorkModel", name := "token", desc := "(IIIJ)V" } : Jvm.MethodName)) ∈ lw_tbl := lw_at lw_m8 36 rfl
theorem q1830 : (Jvm.Cond.instanceMethod ({ cls := "SleepWorkModel", name := "token", desc := "(IIIJ)V" } : Jvm.MethodName)) ∈ lw_all := lw_g (lw_at lw_m8 37 rfl) rfl
theorem q1831 : (Jvm.Cond.code ({ cls := "SleepWorkModel", name := "token", desc := "(IIIJ)V" } : Jvm.MethodName) prog_22_method_11_code (6 : Nat) (Option.none : Option Jvm.ClassFile.FieldType)) ∈ lw_all := lw_g (lw_at lw_m8 38 rfl) rfl
theorem q1832 : (Jvm.Cond.methodLink "SleepWorkModel" (237 : Nat) ({ cls := "SleepWorkModel", name := "isLetter", desc := "(I)Z" } : Jvm.MethodName)) ∈ lw_all := lw_g (lw_at lw_m8 39 rfl) rfl
theorem q1833 : (Jvm.Cond.static ({ cls := "SleepWorkModel", name := "isLetter", desc := "(I)Z" } : Jvm.MethodName)) ∈ lw_all := lw_g (lw_at lw_m8 40 rfl) rfl
theorem q1834 : (Jvm.Cond.code ({ cls := "SleepWorkModel", name := "isLetter", desc := "(I)Z" } : Jvm.MethodName) prog_22_method_8_code (1 : Nat) (Option.some Jvm.ClassFile.FieldType.boolean)) ∈ lw_all := lw_g (lw_at lw_m8 41 rfl) rfl
theorem q1835 : (Jvm.Cond.methodLink "SleepWorkModel" (241 : Nat) ({ cls := "SleepWorkModel", name := "isDigit", desc := "(I)Z" } : Jvm.MethodName)) ∈ lw_all := lw_g (lw_at lw_m8 42 rfl) rfl
theorem q1836 : (Jvm.Cond.static ({ cls := "SleepWorkModel", name := "isDigit", desc := "(I)Z" } : Jvm.MethodName)) ∈ lw_all := lw_g (lw_at lw_m8 43 rfl) rfl
theorem q1837 : (Jvm.Cond.code ({ cls := "SleepWorkModel", name := "isDigit", desc := "(I)Z" } : Jvm.MethodName) prog_22_method_7_code (1 : Nat) (Option.some Jvm.ClassFile.FieldType.boolean)) ∈ lw_all := lw_g (lw_at lw_m8 44 rfl) rfl
theorem q1838 : (Jvm.Cond.methodLink "SleepWorkModel" (244 : Nat) ({ cls := "SleepWorkModel", name := "sign", desc := "(III)I" } : Jvm.MethodName)) ∈ lw_all := lw_g (lw_at lw_m8 45 rfl) rfl
theorem q1839 : (Jvm.Cond.privateMethod ({ cls := "SleepWorkModel", name := "sign", desc := "(III)I" } : Jvm.MethodName)) ∈ lw_tbl := lw_at lw_m8 46 rfl
theorem q1840 : (Jvm.Cond.instanceMethod ({ cls := "SleepWorkModel", name := "sign", desc := "(III)I" } : Jvm.MethodName)) ∈ lw_all := lw_g (lw_at lw_m8 47 rfl) rfl
theorem q1841 : (Jvm.Cond.code ({ cls := "SleepWorkModel", name := "sign", desc := "(III)I" } : Jvm.MethodName) prog_22_method_13_code (5 : Nat) (Option.some Jvm.ClassFile.FieldType.int)) ∈ lw_all := lw_g (lw_at lw_m8 48 rfl) rfl
theorem q1842 : (Jvm.Cond.methodLink "SleepWorkModel" (266 : Nat) ({ cls := "SleepWorkModel", name := "is", desc := "(I)Z" } : Jvm.MethodName)) ∈ lw_all := lw_g (lw_at lw_m8 49 rfl) rfl
theorem q1843 : (Jvm.Cond.privateMethod ({ cls := "SleepWorkModel", name := "is", desc := "(I)Z" } : Jvm.MethodName)) ∈ lw_tbl := lw_at lw_m8 50 rfl
theorem q1844 : (Jvm.Cond.instanceMethod ({ cls := "SleepWorkModel", name := "is", desc := "(I)Z" } : Jvm.MethodName)) ∈ lw_all := lw_g (lw_at lw_m8 51 rfl) rfl
theorem q1845 : (Jvm.Cond.code ({ cls := "SleepWorkModel", name := "is", desc := "(I)Z" } : Jvm.MethodName) prog_22_method_14_code (2 : Nat) (Option.some Jvm.ClassFile.FieldType.boolean)) ∈ lw_all := lw_g (lw_at lw_m8 52 rfl) rfl
theorem q1846 : (Jvm.Cond.methodLink "SleepWorkModel" (293 : Nat) ({ cls := "SleepWorkModel", name := "tell", desc := "()V" } : Jvm.MethodName)) ∈ lw_all := lw_g (lw_at lw_m8 53 rfl) rfl
theorem q1847 : (Jvm.Cond.privateMethod ({ cls := "SleepWorkModel", name := "tell", desc := "()V" } : Jvm.MethodName)) ∈ lw_tbl := lw_at lw_m8 54 rfl
theorem q1848 : (Jvm.Cond.instanceMethod ({ cls := "SleepWorkModel", name := "tell", desc := "()V" } : Jvm.MethodName)) ∈ lw_all := lw_g (lw_at lw_m8 55 rfl) rfl
theorem q1849 : (Jvm.Cond.code ({ cls := "SleepWorkModel", name := "tell", desc := "()V" } : Jvm.MethodName) prog_22_method_23_code (1 : Nat) (Option.none : Option Jvm.ClassFile.FieldType)) ∈ lw_all := lw_g (lw_at lw_m8 56 rfl) rfl
theorem q1850 : (Jvm.Cond.methodLink "SleepWorkModel" (305 : Nat) ({ cls := "SleepWorkModel", name := "roomFor", desc := "(II)V" } : Jvm.MethodName)) ∈ lw_all := lw_g (lw_at lw_m8 57 rfl) rfl
theorem q1851 : (Jvm.Cond.privateMethod ({ cls := "SleepWorkModel", name := "roomFor", desc := "(II)V" } : Jvm.MethodName)) ∈ lw_tbl := lw_at lw_m8 58 rfl
theorem q1852 : (Jvm.Cond.instanceMethod ({ cls := "SleepWorkModel", name := "roomFor", desc := "(II)V" } : Jvm.MethodName)) ∈ lw_all := lw_g (lw_at lw_m8 59 rfl) rfl
theorem q1853 : (Jvm.Cond.code ({ cls := "SleepWorkModel", name := "roomFor", desc := "(II)V" } : Jvm.MethodName) prog_22_method_22_code (3 : Nat) (Option.none : Option Jvm.ClassFile.FieldType)) ∈ lw_all := lw_g (lw_at lw_m8 60 rfl) rfl
theorem q1854 : (Jvm.Cond.methodLink "SleepWorkModel" (263 : Nat) ({ cls := "SleepWorkModel", name := "fail", desc := "(I)V" } : Jvm.MethodName)) ∈ lw_all := lw_g (lw_at lw_m8 61 rfl) rfl
theorem q1855 : (Jvm.Cond.privateMethod ({ cls := "SleepWorkModel", name := "fail", desc := "(I)V" } : Jvm.MethodName)) ∈ lw_tbl := lw_at lw_m8 62 rfl
theorem q1856 : (Jvm.Cond.instanceMethod ({ cls := "SleepWorkModel", name := "fail", desc := "(I)V" } : Jvm.MethodName)) ∈ lw_all := lw_g (lw_at lw_m8 63 rfl) rfl
theorem q1857 : (Jvm.Cond.code ({ cls := "SleepWorkModel", name := "fail", desc := "(I)V" } : Jvm.MethodName) prog_22_method_15_code (2 : Nat) (Option.none : Option Jvm.ClassFile.FieldType)) ∈ lw_all := lw_g (lw_at lw_m8 64 rfl) rfl
theorem q1858 : (Jvm.Cond.methodLink "SleepWorkModel" (269 : Nat) ({ cls := "SleepWorkModel", name := "goesOn", desc := "()V" } : Jvm.MethodName)) ∈ lw_all := lw_g (lw_at lw_m8 65 rfl) rfl
theorem q1859 : (Jvm.Cond.privateMethod ({ cls := "SleepWorkModel", name := "goesOn", desc := "()V" } : Jvm.MethodName)) ∈ lw_tbl := lw_at lw_m8 66 rfl
theorem q1860 : (Jvm.Cond.instanceMethod ({ cls := "SleepWorkModel", name := "goesOn", desc := "()V" } : Jvm.MethodName)) ∈ lw_all := lw_g (lw_at lw_m8 67 rfl) rfl
theorem q1861 : (Jvm.Cond.code ({ cls := "SleepWorkModel", name := "goesOn", desc := "()V" } : Jvm.MethodName) prog_22_method_17_code (1 : Nat) (Option.none : Option Jvm.ClassFile.FieldType)) ∈ lw_all := lw_g (lw_at lw_m8 68 rfl) rfl
theorem q1862 : (Jvm.Cond.methodLink "SleepWorkModel" (309 : Nat) ({ cls := "SleepWorkModel", name := "tellRoom", desc := "()V" } : Jvm.MethodName)) ∈ lw_all := lw_g (lw_at lw_m8 69 rfl) rfl
theorem q1863 : (Jvm.Cond.privateMethod ({ cls := "SleepWorkModel", name := "tellRoom", desc := "()V" } : Jvm.MethodName)) ∈ lw_tbl := lw_at lw_m8 70 rfl
theorem q1864 : (Jvm.Cond.instanceMethod ({ cls := "SleepWorkModel", name := "tellRoom", desc := "()V" } : Jvm.MethodName)) ∈ lw_all := lw_g (lw_at lw_m8 71 rfl) rfl
theorem q1865 : (Jvm.Cond.code ({ cls := "SleepWorkModel", name := "tellRoom", desc := "()V" } : Jvm.MethodName) prog_22_method_28_code (2 : Nat) (Option.none : Option Jvm.ClassFile.FieldType)) ∈ lw_all := lw_g (lw_at lw_m8 72 rfl) rfl
theorem q1866 : (Jvm.Cond.methodLink "SleepWorkModel" (340 : Nat) ({ cls := "SleepWorkModel", name := "named", desc := "()I" } : Jvm.MethodName)) ∈ lw_all := lw_g (lw_at lw_m8 73 rfl) rfl
theorem q1867 : (Jvm.Cond.privateMethod ({ cls := "SleepWorkModel", name := "named", desc := "()I" } : Jvm.MethodName)) ∈ lw_tbl := lw_at lw_m8 74 rfl
theorem q1868 : (Jvm.Cond.instanceMethod ({ cls := "SleepWorkModel", name := "named", desc := "()I" } : Jvm.MethodName)) ∈ lw_all := lw_g (lw_at lw_m8 75 rfl) rfl
theorem q1869 : (Jvm.Cond.code ({ cls := "SleepWorkModel", name := "named", desc := "()I" } : Jvm.MethodName) prog_22_method_24_code (3 : Nat) (Option.some Jvm.ClassFile.FieldType.int)) ∈ lw_all := lw_g (lw_at lw_m8 76 rfl) rfl
theorem q1870 : (Jvm.Cond.methodLink "SleepWorkModel" (334 : Nat) ({ cls := "SleepWorkModel", name := "must", desc := "(I)V" } : Jvm.MethodName)) ∈ lw_all := lw_g (lw_at lw_m8 77 rfl) rfl
theorem q1871 : (Jvm.Cond.privateMethod ({ cls := "SleepWorkModel", name := "must", desc := "(I)V" } : Jvm.MethodName)) ∈ lw_tbl := lw_at lw_m8 78 rfl
theorem q1872 : (Jvm.Cond.instanceMethod ({ cls := "SleepWorkModel", name := "must", desc := "(I)V" } : Jvm.MethodName)) ∈ lw_all := lw_g (lw_at lw_m8 79 rfl) rfl
theorem q1873 : (Jvm.Cond.code ({ cls := "SleepWorkModel", name := "must", desc := "(I)V" } : Jvm.MethodName) prog_22_method_18_code (2 : Nat) (Option.none : Option Jvm.ClassFile.FieldType)) ∈ lw_all := lw_g (lw_at lw_m8 80 rfl) rfl
theorem q1874 : (Jvm.Cond.methodLink "SleepWorkModel" (337 : Nat) ({ cls := "SleepWorkModel", name := "wrong", desc := "(II)V" } : Jvm.MethodName)) ∈ lw_all := lw_g (lw_at lw_m8 81 rfl) rfl
theorem q1875 : (Jvm.Cond.privateMethod ({ cls := "SleepWorkModel", name := "wrong", desc := "(II)V" } : Jvm.MethodName)) ∈ lw_tbl := lw_at lw_m8 82 rfl
theorem q1876 : (Jvm.Cond.instanceMethod ({ cls := "SleepWorkModel", name := "wrong", desc := "(II)V" } : Jvm.MethodName)) ∈ lw_all := lw_g (lw_at lw_m8 83 rfl) rfl
theorem q1877 : (Jvm.Cond.code ({ cls := "SleepWorkModel", name := "wrong", desc := "(II)V" } : Jvm.MethodName) prog_22_method_16_code (4 : Nat) (Option.none : Option Jvm.ClassFile.FieldType)) ∈ lw_all := lw_g (lw_at lw_m8 84 rfl) rfl
theorem q1878 : (Jvm.Cond.methodLink "SleepWorkModel" (344 : Nat) ({ cls := "SleepWorkModel", name := "notes", desc := "(III)V" } : Jvm.MethodName)) ∈ lw_all := lw_g (lw_at lw_m8 85 rfl) rfl
theorem q1879 : (Jvm.Cond.privateMethod ({ cls := "SleepWorkModel", name := "notes", desc := "(III)V" } : Jvm.MethodName)) ∈ lw_tbl := lw_at lw_m8 86 rfl
theorem q1880 : (Jvm.Cond.instanceMethod ({ cls := "SleepWorkModel", name := "notes", desc := "(III)V" } : Jvm.MethodName)) ∈ lw_all := lw_g (lw_at lw_m8 87 rfl) rfl
theorem q1881 : (Jvm.Cond.code ({ cls := "SleepWorkModel", name := "notes", desc := "(III)V" } : Jvm.MethodName) prog_22_method_25_code (4 : Nat) (Option.none : Option Jvm.ClassFile.FieldType)) ∈ lw_all := lw_g (lw_at lw_m8 88 rfl) rfl
theorem q1882 : (Jvm.Cond.methodLink "SleepWorkModel" (312 : Nat) ({ cls := "SleepWorkModel", name := "tellDoor", desc := "()V" } : Jvm.MethodName)) ∈ lw_all := lw_g (lw_at lw_m8 89 rfl) rfl
theorem q1883 : (Jvm.Cond.privateMethod ({ cls := "SleepWorkModel", name := "tellDoor", desc := "()V" } : Jvm.MethodName)) ∈ lw_tbl := lw_at lw_m8 90 rfl
theorem q1884 : (Jvm.Cond.instanceMethod ({ cls := "SleepWorkModel", name := "tellDoor", desc := "()V" } : Jvm.MethodName)) ∈ lw_all := lw_g (lw_at lw_m8 91 rfl) rfl
theorem q1885 : (Jvm.Cond.code ({ cls := "SleepWorkModel", name := "tellDoor", desc := "()V" } : Jvm.MethodName) prog_22_method_29_code (3 : Nat) (Option.none : Option Jvm.ClassFile.FieldType)) ∈ lw_all := lw_g (lw_at lw_m8 92 rfl) rfl
theorem q1886 : (Jvm.Cond.methodLink "SleepWorkModel" (348 : Nat) ({ cls := "SleepWorkModel", name := "known", desc := "(I)I" } : Jvm.MethodName)) ∈ lw_all := lw_g (lw_at lw_m8 93 rfl) rfl
theorem q1887 : (Jvm.Cond.privateMethod ({ cls := "SleepWorkModel", name := "known", desc := "(I)I" } : Jvm.MethodName)) ∈ lw_tbl := lw_at lw_m8 94 rfl
theorem q1888 : (Jvm.Cond.instanceMethod ({ cls := "SleepWorkModel", name := "known", desc := "(I)I" } : Jvm.MethodName)) ∈ lw_all := lw_g (lw_at lw_m8 95 rfl) rfl
theorem q1889 : (Jvm.Cond.code ({ cls := "SleepWorkModel", name := "known", desc := "(I)I" } : Jvm.MethodName) prog_22_method_26_code (4 : Nat) (Option.some Jvm.ClassFile.FieldType.int)) ∈ lw_all := lw_g (lw_at lw_m8 96 rfl) rfl
theorem q1890 : (Jvm.Cond.methodLink "SleepWorkModel" (330 : Nat) ({ cls := "SleepWorkModel", name := "bounded", desc := "(II)I" } : Jvm.MethodName)) ∈ lw_all := lw_g (lw_at lw_m8 97 rfl) rfl
theorem q1891 : (Jvm.Cond.privateMethod ({ cls := "SleepWorkModel", name := "bounded", desc := "(II)I" } : Jvm.MethodName)) ∈ lw_tbl := lw_at lw_m8 98 rfl
theorem q1892 : (Jvm.Cond.instanceMethod ({ cls := "SleepWorkModel", name := "bounded", desc := "(II)I" } : Jvm.MethodName)) ∈ lw_all := lw_g (lw_at lw_m8 99 rfl) rfl
theorem q1893 : (Jvm.Cond.code ({ cls := "SleepWorkModel", name := "bounded", desc := "(II)I" } : Jvm.MethodName) prog_22_method_27_code (4 : Nat) (Option.some Jvm.ClassFile.FieldType.int)) ∈ lw_all := lw_g (lw_at lw_m8 100 rfl) rfl
theorem q1894 : (Jvm.Cond.methodLink "SleepWorkModel" (315 : Nat) ({ cls := "SleepWorkModel", name := "tellTool", desc := "()V" } : Jvm.MethodName)) ∈ lw_all := lw_g (lw_at lw_m8 101 rfl) rfl
theorem q1895 : (Jvm.Cond.privateMethod ({ cls := "SleepWorkModel", name := "tellTool", desc := "()V" } : Jvm.MethodName)) ∈ lw_tbl := lw_at lw_m8 102 rfl
theorem q1896 : (Jvm.Cond.instanceMethod ({ cls := "SleepWorkModel", name := "tellTool", desc := "()V" } : Jvm.MethodName)) ∈ lw_all := lw_g (lw_at lw_m8 103 rfl) rfl
theorem q1897 : (Jvm.Cond.code ({ cls := "SleepWorkModel", name := "tellTool", desc := "()V" } : Jvm.MethodName) prog_22_method_30_code (2 : Nat) (Option.none : Option Jvm.ClassFile.FieldType)) ∈ lw_all := lw_g (lw_at lw_m8 104 rfl) rfl
theorem q1898 : (Jvm.Cond.methodLink "SleepWorkModel" (318 : Nat) ({ cls := "SleepWorkModel", name := "tellTask", desc := "()V" } : Jvm.MethodName)) ∈ lw_all := lw_g (lw_at lw_m8 105 rfl) rfl
theorem q1899 : (Jvm.Cond.privateMethod ({ cls := "SleepWorkModel", name := "tellTask", desc := "()V" } : Jvm.MethodName)) ∈ lw_tbl := lw_at lw_m8 106 rfl
theorem q1900 : (Jvm.Cond.instanceMethod ({ cls := "SleepWorkModel", name := "tellTask", desc := "()V" } : Jvm.MethodName)) ∈ lw_all := lw_g (lw_at lw_m8 107 rfl) rfl
theorem q1901 : (Jvm.Cond.code ({ cls := "SleepWorkModel", name := "tellTask", desc := "()V" } : Jvm.MethodName) prog_22_method_31_code (3 : Nat) (Option.none : Option Jvm.ClassFile.FieldType)) ∈ lw_all := lw_g (lw_at lw_m8 108 rfl) rfl
theorem q1902 : (Jvm.Cond.methodLink "SleepWorkModel" (321 : Nat) ({ cls := "SleepWorkModel", name := "tellStep", desc := "(I)V" } : Jvm.MethodName)) ∈ lw_all := lw_g (lw_at lw_m8 109 rfl) rfl
theorem q1903 : (Jvm.Cond.privateMethod ({ cls := "SleepWorkModel", name := "tellStep", desc := "(I)V" } : Jvm.MethodName)) ∈ lw_tbl := lw_at lw_m8 110 rfl
theorem q1904 : (Jvm.Cond.instanceMethod ({ cls := "SleepWorkModel", name := "tellStep", desc := "(I)V" } : Jvm.MethodName)) ∈ lw_all := lw_g (lw_at lw_m8 111 rfl) rfl
theorem q1905 : (Jvm.Cond.code ({ cls := "SleepWorkModel", name := "tellStep", desc := "(I)V" } : Jvm.MethodName) prog_22_method_32_code (11 : Nat) (Option.none : Option Jvm.ClassFile.FieldType)) ∈ lw_all := lw_g (lw_at lw_m8 112 rfl) rfl
theorem q1906 : (Jvm.Cond.methodLink "SleepWorkModel" (351 : Nat) ({ cls := "SleepWorkModel", name := "failAt", desc := "(II)V" } : Jvm.MethodName)) ∈ lw_all := lw_g (lw_at lw_m8 113 rfl) rfl
theorem q1907 : (Jvm.Cond.privateMethod ({ cls := "SleepWorkModel", name := "failAt", desc := "(II)V" } : Jvm.MethodName)) ∈ lw_tbl := lw_at lw_m8 114 rfl
theorem q1908 : (Jvm.Cond.instanceMethod ({ cls := "SleepWorkModel", name := "failAt", desc := "(II)V" } : Jvm.MethodName)) ∈ lw_all := lw_g (lw_at lw_m8 115 rfl) rfl
theorem q1909 : (Jvm.Cond.code ({ cls := "SleepWorkModel", name := "failAt", desc := "(II)V" } : Jvm.MethodName) prog_22_method_21_code (3 : Nat) (Option.none : Option Jvm.ClassFile.FieldType)) ∈ lw_all := lw_g (lw_at lw_m8 116 rfl) rfl
theorem q1910 : (Jvm.Cond.methodLink "SleepWorkModel" (324 : Nat) ({ cls := "SleepWorkModel", name := "tellMan", desc := "()V" } : Jvm.MethodName)) ∈ lw_all := lw_g (lw_at lw_m8 117 rfl) rfl
theorem q1911 : (Jvm.Cond.privateMethod ({ cls := "SleepWorkModel", name := "tellMan", desc := "()V" } : Jvm.MethodName)) ∈ lw_tbl := lw_at lw_m8 118 rfl
theorem q1912 : (Jvm.Cond.instanceMethod ({ cls := "SleepWorkModel", name := "tellMan", desc := "()V" } : Jvm.MethodName)) ∈ lw_all := lw_g (lw_at lw_m8 119 rfl) rfl
theorem q1913 : (Jvm.Cond.code ({ cls := "SleepWorkModel", name := "tellMan", desc := "()V" } : Jvm.MethodName) prog_22_method_33_code (4 : Nat) (Option.none : Option Jvm.ClassFile.FieldType)) ∈ lw_all := lw_g (lw_at lw_m8 120 rfl) rfl
theorem q1914 : (Jvm.Cond.methodLink "SleepWorkModel" (327 : Nat) ({ cls := "SleepWorkModel", name := "tellLaw", desc := "()V" } : Jvm.MethodName)) ∈ lw_all := lw_g (lw_at lw_m8 121 rfl) rfl
theorem q1915 : (Jvm.Cond.privateMethod ({ cls := "SleepWorkModel", name := "tellLaw", desc := "()V" } : Jvm.MethodName)) ∈ lw_tbl := lw_at lw_m8 122 rfl
theorem q1916 : (Jvm.Cond.instanceMethod ({ cls := "SleepWorkModel", name := "tellLaw", desc := "()V" } : Jvm.MethodName)) ∈ lw_all := lw_g (lw_at lw_m8 123 rfl) rfl
theorem q1917 : (Jvm.Cond.code ({ cls := "SleepWorkModel", name := "tellLaw", desc := "()V" } : Jvm.MethodName) prog_22_method_34_code (4 : Nat) (Option.none : Option Jvm.ClassFile.FieldType)) ∈ lw_all := lw_g (lw_at lw_m8 124 rfl) rfl
theorem q1918 : (Jvm.Cond.methodLink "SleepWorkModel" (354 : Nat) ({ cls := "SleepWorkModel", name := "expression", desc := "()V" } : Jvm.MethodName)) ∈ lw_all := lw_g (lw_at lw_m8 125 rfl) rfl
theorem q1919 : (Jvm.Cond.privateMethod ({ cls := "SleepWorkModel", name := "expression", desc := "()V" } : Jvm.MethodName)) ∈ lw_tbl := lw_at lw_m8 126 rfl
theorem q1920 : (Jvm.Cond.instanceMethod ({ cls := "SleepWorkModel", name := "expression", desc := "()V" } : Jvm.MethodName)) ∈ lw_all := lw_g (lw_at lw_m8 127 rfl) rfl
theorem q1921 : (Jvm.Cond.code ({ cls := "SleepWorkModel", name := "expression", desc := "()V" } : Jvm.MethodName) prog_22_method_38_code (3 : Nat) (Option.none : Option Jvm.ClassFile.FieldType)) ∈ lw_all := lw_g (lw_at lw_m8 128 rfl) rfl
theorem q1922 : (Jvm.Cond.methodLink "SleepWorkModel" (366 : Nat) ({ cls := "SleepWorkModel", name := "unit", desc := "()V" } : Jvm.MethodName)) ∈ lw_all := lw_g (lw_at lw_m8 129 rfl) rfl
theorem q1923 : (Jvm.Cond.privateMethod ({ cls := "SleepWorkModel", name := "unit", desc := "()V" } : Jvm.MethodName)) ∈ lw_tbl := lw_at lw_m8 130 rfl
theorem q1924 : (Jvm.Cond.instanceMethod ({ cls := "SleepWorkModel", name := "unit", desc := "()V" } : Jvm.MethodName)) ∈ lw_all := lw_g (lw_at lw_m8 131 rfl) rfl
theorem q1925 : (Jvm.Cond.code ({ cls := "SleepWorkModel", name := "unit", desc := "()V" } : Jvm.MethodName) prog_22_method_39_code (1 : Nat) (Option.none : Option Jvm.ClassFile.FieldType)) ∈ lw_all := lw_g (lw_at lw_m8 132 rfl) rfl
theorem q1926 : (Jvm.Cond.methodLink "SleepWorkModel" (363 : Nat) ({ cls := "SleepWorkModel", name := "emit", desc := "(II)V" } : Jvm.MethodName)) ∈ lw_all := lw_g (lw_at lw_m8 133 rfl) rfl
theorem q1927 : (Jvm.Cond.privateMethod ({ cls := "SleepWorkModel", name := "emit", desc := "(II)V" } : Jvm.MethodName)) ∈ lw_tbl := lw_at lw_m8 134 rfl
theorem q1928 : (Jvm.Cond.instanceMethod ({ cls := "SleepWorkModel", name := "emit", desc := "(II)V" } : Jvm.MethodName)) ∈ lw_all := lw_g (lw_at lw_m8 135 rfl) rfl
theorem q1929 : (Jvm.Cond.code ({ cls := "SleepWorkModel", name := "emit", desc := "(II)V" } : Jvm.MethodName) prog_22_method_36_code (3 : Nat) (Option.none : Option Jvm.ClassFile.FieldType)) ∈ lw_all := lw_g (lw_at lw_m8 136 rfl) rfl
theorem q1930 : (Jvm.Cond.methodLink "SleepWorkModel" (369 : Nat) ({ cls := "SleepWorkModel", name := "comesOut", desc := "(Z)V" } : Jvm.MethodName)) ∈ lw_all := lw_g (lw_at lw_m8 137 rfl) rfl
theorem q1931 : (Jvm.Cond.privateMethod ({ cls := "SleepWorkModel", name := "comesOut", desc := "(Z)V" } : Jvm.MethodName)) ∈ lw_tbl := lw_at lw_m8 138 rfl
theorem q1932 : (Jvm.Cond.instanceMethod ({ cls := "SleepWorkModel", name := "comesOut", desc := "(Z)V" } : Jvm.MethodName)) ∈ lw_all := lw_g (lw_at lw_m8 139 rfl) rfl
theorem q1933 : (Jvm.Cond.code ({ cls := "SleepWorkModel", name := "comesOut", desc := "(Z)V" } : Jvm.MethodName) prog_22_method_37_code (3 : Nat) (Option.none : Option Jvm.ClassFile.FieldType)) ∈ lw_all := lw_g (lw_at lw_m8 140 rfl) rfl
theorem q1934 : (Jvm.Cond.methodLink "SleepWorkModel" (357 : Nat) ({ cls := "SleepWorkModel", name := "term", desc := "()V" } : Jvm.MethodName)) ∈ lw_all := lw_g (lw_at lw_m8 141 rfl) rfl
theorem q1935 : (Jvm.Cond.privateMethod ({ cls := "SleepWorkModel", name := "term", desc := "()V" } : Jvm.MethodName)) ∈ lw_tbl := lw_at lw_m8 142 rfl
theorem q1936 : (Jvm.Cond.instanceMethod ({ cls := "SleepWorkModel", name := "term", desc := "()V" } : Jvm.MethodName)) ∈ lw_all := lw_g (lw_at lw_m8 143 rfl) rfl
theorem q1937 : (Jvm.Cond.code ({ cls := "SleepWorkModel", name := "term", desc := "()V" } : Jvm.MethodName) prog_22_method_35_code (1 : Nat) (Option.none : Option Jvm.ClassFile.FieldType)) ∈ lw_all := lw_g (lw_at lw_m8 144 rfl) rfl
theorem q1938 : (Jvm.Cond.methodLink "SleepWorkModel" (296 : Nat) ({ cls := "SleepWorkModel", name := "begins", desc := "()V" } : Jvm.MethodName)) ∈ lw_all := lw_g (lw_at lw_m8 145 rfl) rfl
theorem q1939 : (Jvm.Cond.privateMethod ({ cls := "SleepWorkModel", name := "begins", desc := "()V" } : Jvm.MethodName)) ∈ lw_tbl := lw_at lw_m8 146 rfl
theorem q1940 : (Jvm.Cond.instanceMethod ({ cls := "SleepWorkModel", name := "begins", desc := "()V" } : Jvm.MethodName)) ∈ lw_all := lw_g (lw_at lw_m8 147 rfl) rfl
theorem q1941 : (Jvm.Cond.code ({ cls := "SleepWorkModel", name := "begins", desc := "()V" } : Jvm.MethodName) prog_22_method_51_code (2 : Nat) (Option.none : Option Jvm.ClassFile.FieldType)) ∈ lw_all := lw_g (lw_at lw_m8 148 rfl) rfl
theorem q1942 : (Jvm.Cond.methodLink "SleepWorkModel" (377 : Nat) ({ cls := "SleepWorkModel", name := "tasksNow", desc := "()I" } : Jvm.MethodName)) ∈ lw_all := lw_g (lw_at lw_m8 149 rfl) rfl
theorem q1943 : (Jvm.Cond.privateMethod ({ cls := "SleepWorkModel", name := "tasksNow", desc := "()I" } : Jvm.MethodName)) ∈ lw_tbl := lw_at lw_m8 150 rfl
theorem q1944 : (Jvm.Cond.instanceMethod ({ cls := "SleepWorkModel", name := "tasksNow", desc := "()I" } : Jvm.MethodName)) ∈ lw_all := lw_g (lw_at lw_m8 151 rfl) rfl
theorem q1945 : (Jvm.Cond.code ({ cls := "SleepWorkModel", name := "tasksNow", desc := "()I" } : Jvm.MethodName) prog_22_method_42_code (1 : Nat) (Option.some Jvm.ClassFile.FieldType.int)) ∈ lw_all := lw_g (lw_at lw_m8 152 rfl) rfl
theorem q1946 : (Jvm.Cond.methodLink "SleepWorkModel" (390 : Nat) ({ cls := "SleepWorkModel", name := "menNow", desc := "()I" } : Jvm.MethodName)) ∈ lw_all := lw_g (lw_at lw_m8 153 rfl) rfl
theorem q1947 : (Jvm.Cond.privateMethod ({ cls := "SleepWorkModel", name := "menNow", desc := "()I" } : Jvm.MethodName)) ∈ lw_tbl := lw_at lw_m8 154 rfl
theorem q1948 : (Jvm.Cond.instanceMethod ({ cls := "SleepWorkModel", name := "menNow", desc := "()I" } : Jvm.MethodName)) ∈ lw_all := lw_g (lw_at lw_m8 155 rfl) rfl
theorem q1949 : (Jvm.Cond.code ({ cls := "SleepWorkModel", name := "menNow", desc := "()I" } : Jvm.MethodName) prog_22_method_43_code (1 : Nat) (Option.some Jvm.ClassFile.FieldType.int)) ∈ lw_all := lw_g (lw_at lw_m8 156 rfl) rfl
theorem q1951 : (Jvm.Cond.instanceMethod ({ cls := "SleepWorkModel", name := "place", desc := "()I" } : Jvm.MethodName)) ∈ lw_all := lw_g (lw_at lw_m8 158 rfl) rfl
theorem q1952 : (Jvm.Cond.selects "SleepWorkModel" ({ cls := "SleepWorkModel", name := "place", desc := "()I" } : Jvm.MethodName) ({ cls := "SleepWorkModel", name := "place", desc := "()I" } : Jvm.MethodName)) ∈ lw_all := lw_g (lw_at lw_m8 159 rfl) rfl
theorem q1953 : (Jvm.Cond.code ({ cls := "SleepWorkModel", name := "place", desc := "()I" } : Jvm.MethodName) prog_22_method_20_code (1 : Nat) (Option.some Jvm.ClassFile.FieldType.int)) ∈ lw_all := lw_g (lw_at lw_m8 160 rfl) rfl
theorem q1955 : (Jvm.Cond.instanceMethod ({ cls := "SleepWorkModel", name := "task", desc := "(II)I" } : Jvm.MethodName)) ∈ lw_all := lw_g (lw_at lw_m8 162 rfl) rfl
theorem q1956 : (Jvm.Cond.selects "SleepWorkModel" ({ cls := "SleepWorkModel", name := "task", desc := "(II)I" } : Jvm.MethodName) ({ cls := "SleepWorkModel", name := "task", desc := "(II)I" } : Jvm.MethodName)) ∈ lw_all := lw_g (lw_at lw_m8 163 rfl) rfl
theorem q1957 : (Jvm.Cond.code ({ cls := "SleepWorkModel", name := "task", desc := "(II)I" } : Jvm.MethodName) prog_22_method_66_code (3 : Nat) (Option.some Jvm.ClassFile.FieldType.int)) ∈ lw_all := lw_g (lw_at lw_m8 164 rfl) rfl
theorem q1958 : (Jvm.Cond.methodLink "SleepWorkModel" (384 : Nat) ({ cls := "SleepWorkModel", name := "isTask", desc := "(I)Z" } : Jvm.MethodName)) ∈ lw_all := lw_g (lw_at lw_m8 165 rfl) rfl
theorem q1959 : (Jvm.Cond.privateMethod ({ cls := "SleepWorkModel", name := "isTask", desc := "(I)Z" } : Jvm.MethodName)) ∈ lw_tbl := lw_at lw_m8 166 rfl
theorem q1960 : (Jvm.Cond.instanceMethod ({ cls := "SleepWorkModel", name := "isTask", desc := "(I)Z" } : Jvm.MethodName)) ∈ lw_all := lw_g (lw_at lw_m8 167 rfl) rfl
theorem q1961 : (Jvm.Cond.code ({ cls := "SleepWorkModel", name := "isTask", desc := "(I)Z" } : Jvm.MethodName) prog_22_method_46_code (2 : Nat) (Option.some Jvm.ClassFile.FieldType.boolean)) ∈ lw_all := lw_g (lw_at lw_m8 168 rfl) rfl
theorem q1962 : (Jvm.Cond.methodLink "SleepWorkModel" (380 : Nat) ({ cls := "SleepWorkModel", name := "in", desc := "(III)Z" } : Jvm.MethodName)) ∈ lw_all := lw_g (lw_at lw_m8 169 rfl) rfl
theorem q1963 : (Jvm.Cond.static ({ cls := "SleepWorkModel", name := "in", desc := "(III)Z" } : Jvm.MethodName)) ∈ lw_all := lw_g (lw_at lw_m8 170 rfl) rfl
theorem q1964 : (Jvm.Cond.code ({ cls := "SleepWorkModel", name := "in", desc := "(III)Z" } : Jvm.MethodName) prog_22_method_41_code (3 : Nat) (Option.some Jvm.ClassFile.FieldType.boolean)) ∈ lw_all := lw_g (lw_at lw_m8 171 rfl) rfl
theorem q1965 : (Jvm.Cond.methodLink "SleepWorkModel" (437 : Nat) ({ cls := "SleepWorkModel", name := "takes", desc := "()V" } : Jvm.MethodName)) ∈ lw_all := lw_g (lw_at lw_m8 172 rfl) rfl
theorem q1966 : (Jvm.Cond.privateMethod ({ cls := "SleepWorkModel", name := "takes", desc := "()V" } : Jvm.MethodName)) ∈ lw_tbl := lw_at lw_m8 173 rfl
theorem q1967 : (Jvm.Cond.instanceMethod ({ cls := "SleepWorkModel", name := "takes", desc := "()V" } : Jvm.MethodName)) ∈ lw_all := lw_g (lw_at lw_m8 174 rfl) rfl
theorem q1968 : (Jvm.Cond.code ({ cls := "SleepWorkModel", name := "takes", desc := "()V" } : Jvm.MethodName) prog_22_method_52_code (2 : Nat) (Option.none : Option Jvm.ClassFile.FieldType)) ∈ lw_all := lw_g (lw_at lw_m8 175 rfl) rfl
theorem q1969 : (Jvm.Cond.methodLink "SleepWorkModel" (387 : Nat) ({ cls := "SleepWorkModel", name := "stepsOf", desc := "(I)I" } : Jvm.MethodName)) ∈ lw_all := lw_g (lw_at lw_m8 176 rfl) rfl
theorem q1970 : (Jvm.Cond.privateMethod ({ cls := "SleepWorkModel", name := "stepsOf", desc := "(I)I" } : Jvm.MethodName)) ∈ lw_tbl := lw_at lw_m8 177 rfl
theorem q1971 : (Jvm.Cond.instanceMethod ({ cls := "SleepWorkModel", name := "stepsOf", desc := "(I)I" } : Jvm.MethodName)) ∈ lw_all := lw_g (lw_at lw_m8 178 rfl) rfl
theorem q1972 : (Jvm.Cond.code ({ cls := "SleepWorkModel", name := "stepsOf", desc := "(I)I" } : Jvm.MethodName) prog_22_method_44_code (2 : Nat) (Option.some Jvm.ClassFile.FieldType.int)) ∈ lw_all := lw_g (lw_at lw_m8 179 rfl) rfl
theorem q1973 : (Jvm.Cond.methodLink "SleepWorkModel" (396 : Nat) ({ cls := "SleepWorkModel", name := "worthOf", desc := "(I)I" } : Jvm.MethodName)) ∈ lw_all := lw_g (lw_at lw_m8 180 rfl) rfl
theorem q1974 : (Jvm.Cond.privateMethod ({ cls := "SleepWorkModel", name := "worthOf", desc := "(I)I" } : Jvm.MethodName)) ∈ lw_tbl := lw_at lw_m8 181 rfl
theorem q1975 : (Jvm.Cond.instanceMethod ({ cls := "SleepWorkModel", name := "worthOf", desc := "(I)I" } : Jvm.MethodName)) ∈ lw_all := lw_g (lw_at lw_m8 182 rfl) rfl
theorem q1976 : (Jvm.Cond.code ({ cls := "SleepWorkModel", name := "worthOf", desc := "(I)I" } : Jvm.MethodName) prog_22_method_54_code (7 : Nat) (Option.some Jvm.ClassFile.FieldType.int)) ∈ lw_all := lw_g (lw_at lw_m8 183 rfl) rfl
theorem q1977 : (Jvm.Cond.methodLink "SleepWorkModel" (393 : Nat) ({ cls := "SleepWorkModel", name := "stepAt", desc := "(II)I" } : Jvm.MethodName)) ∈ lw_all := lw_g (lw_at lw_m8 184 rfl) rfl
theorem q1978 : (Jvm.Cond.privateMethod ({ cls := "SleepWorkModel", name := "stepAt", desc := "(II)I" } : Jvm.MethodName)) ∈ lw_tbl := lw_at lw_m8 185 rfl
theorem q1979 : (Jvm.Cond.instanceMethod ({ cls := "SleepWorkModel", name := "stepAt", desc := "(II)I" } : Jvm.MethodName)) ∈ lw_all := lw_g (lw_at lw_m8 186 rfl) rfl
theorem q1980 : (Jvm.Cond.code ({ cls := "SleepWorkModel", name := "stepAt", desc := "(II)I" } : Jvm.MethodName) prog_22_method_45_code (3 : Nat) (Option.some Jvm.ClassFile.FieldType.int)) ∈ lw_all := lw_g (lw_at lw_m8 187 rfl) rfl
theorem q1981 : (Jvm.Cond.methodLink "SleepWorkModel" (406 : Nat) ({ cls := "SleepWorkModel", name := "isEnded", desc := "(I)Z" } : Jvm.MethodName)) ∈ lw_all := lw_g (lw_at lw_m8 188 rfl) rfl
theorem q1982 : (Jvm.Cond.privateMethod ({ cls := "SleepWorkModel", name := "isEnded", desc := "(I)Z" } : Jvm.MethodName)) ∈ lw_tbl := lw_at lw_m8 189 rfl
theorem q1983 : (Jvm.Cond.instanceMethod ({ cls := "SleepWorkModel", name := "isEnded", desc := "(I)Z" } : Jvm.MethodName)) ∈ lw_all := lw_g (lw_at lw_m8 190 rfl) rfl
theorem q1984 : (Jvm.Cond.code ({ cls := "SleepWorkModel", name := "isEnded", desc := "(I)Z" } : Jvm.MethodName) prog_22_method_53_code (3 : Nat) (Option.some Jvm.ClassFile.FieldType.boolean)) ∈ lw_all := lw_g (lw_at lw_m8 191 rfl) rfl
theorem q1986 : (Jvm.Cond.instanceMethod ({ cls := "SleepWorkModel", name := "step", desc := "(III)I" } : Jvm.MethodName)) ∈ lw_all := lw_g (lw_at lw_m8 193 rfl) rfl
theorem q1987 : (Jvm.Cond.selects "SleepWorkModel" ({ cls := "SleepWorkModel", name := "step", desc := "(III)I" } : Jvm.MethodName) ({ cls := "SleepWorkModel", name := "step", desc := "(III)I" } : Jvm.MethodName)) ∈ lw_all := lw_g (lw_at lw_m8 194 rfl) rfl
theorem q1988 : (Jvm.Cond.code ({ cls := "SleepWorkModel", name := "step", desc := "(III)I" } : Jvm.MethodName) prog_22_method_68_code (5 : Nat) (Option.some Jvm.ClassFile.FieldType.int)) ∈ lw_all := lw_g (lw_at lw_m8 195 rfl) rfl
theorem q1989 : (Jvm.Cond.methodLink "SleepWorkModel" (440 : Nat) ({ cls := "SleepWorkModel", name := "isStep", desc := "(II)Z" } : Jvm.MethodName)) ∈ lw_all := lw_g (lw_at lw_m8 196 rfl) rfl
theorem q1990 : (Jvm.Cond.privateMethod ({ cls := "SleepWorkModel", name := "isStep", desc := "(II)Z" } : Jvm.MethodName)) ∈ lw_tbl := lw_at lw_m8 197 rfl
theorem q1991 : (Jvm.Cond.instanceMethod ({ cls := "SleepWorkModel", name := "isStep", desc := "(II)Z" } : Jvm.MethodName)) ∈ lw_all := lw_g (lw_at lw_m8 198 rfl) rfl
theorem q1992 : (Jvm.Cond.code ({ cls := "SleepWorkModel", name := "isStep", desc := "(II)Z" } : Jvm.MethodName) prog_22_method_47_code (3 : Nat) (Option.some Jvm.ClassFile.FieldType.boolean)) ∈ lw_all := lw_g (lw_at lw_m8 199 rfl) rfl
theorem q1993 : (Jvm.Cond.methodLink "SleepWorkModel" (443 : Nat) ({ cls := "SleepWorkModel", name := "orNone", desc := "(I)I" } : Jvm.MethodName)) ∈ lw_all := lw_g (lw_at lw_m8 200 rfl) rfl
theorem q1994 : (Jvm.Cond.static ({ cls := "SleepWorkModel", name := "orNone", desc := "(I)I" } : Jvm.MethodName)) ∈ lw_all := lw_g (lw_at lw_m8 201 rfl) rfl
theorem q1995 : (Jvm.Cond.code ({ cls := "SleepWorkModel", name := "orNone", desc := "(I)I" } : Jvm.MethodName) prog_22_method_67_code (1 : Nat) (Option.some Jvm.ClassFile.FieldType.int)) ∈ lw_all := lw_g (lw_at lw_m8 202 rfl) rfl
theorem q1997 : (Jvm.Cond.instanceMethod ({ cls := "SleepWorkModel", name := "man", desc := "(II)I" } : Jvm.MethodName)) ∈ lw_all := lw_g (lw_at lw_m8 204 rfl) rfl
theorem q1998 : (Jvm.Cond.selects "SleepWorkModel" ({ cls := "SleepWorkModel", name := "man", desc := "(II)I" } : Jvm.MethodName) ({ cls := "SleepWorkModel", name := "man", desc := "(II)I" } : Jvm.MethodName)) ∈ lw_all := lw_g (lw_at lw_m8 205 rfl) rfl
theorem q1999 : (Jvm.Cond.code ({ cls := "SleepWorkModel", name := "man", desc := "(II)I" } : Jvm.MethodName) prog_22_method_69_code (3 : Nat) (Option.some Jvm.ClassFile.FieldType.int)) ∈ lw_all := lw_g (lw_at lw_m8 206 rfl) rfl
theorem q2000 : (Jvm.Cond.methodLink "SleepWorkModel" (446 : Nat) ({ cls := "SleepWorkModel", name := "isMan", desc := "(I)Z" } : Jvm.MethodName)) ∈ lw_all := lw_g (lw_at lw_m8 207 rfl) rfl
theorem q2001 : (Jvm.Cond.privateMethod ({ cls := "SleepWorkModel", name := "isMan", desc := "(I)Z" } : Jvm.MethodName)) ∈ lw_tbl := lw_at lw_m8 208 rfl
theorem q2002 : (Jvm.Cond.instanceMethod ({ cls := "SleepWorkModel", name := "isMan", desc := "(I)Z" } : Jvm.MethodName)) ∈ lw_all := lw_g (lw_at lw_m8 209 rfl) rfl
theorem q2003 : (Jvm.Cond.code ({ cls := "SleepWorkModel", name := "isMan", desc := "(I)Z" } : Jvm.MethodName) prog_22_method_48_code (2 : Nat) (Option.some Jvm.ClassFile.FieldType.boolean)) ∈ lw_all := lw_g (lw_at lw_m8 210 rfl) rfl
theorem q2005 : (Jvm.Cond.instanceMethod ({ cls := "SleepWorkModel", name := "tool", desc := "(I)I" } : Jvm.MethodName)) ∈ lw_all := lw_g (lw_at lw_m8 212 rfl) rfl
theorem q2006 : (Jvm.Cond.selects "SleepWorkModel" ({ cls := "SleepWorkModel", name := "tool", desc := "(I)I" } : Jvm.MethodName) ({ cls := "SleepWorkModel", name := "tool", desc := "(I)I" } : Jvm.MethodName)) ∈ lw_all := lw_g (lw_at lw_m8 213 rfl) rfl
theorem q2007 : (Jvm.Cond.code ({ cls := "SleepWorkModel", name := "tool", desc := "(I)I" } : Jvm.MethodName) prog_22_method_70_code (2 : Nat) (Option.some Jvm.ClassFile.FieldType.int)) ∈ lw_all := lw_g (lw_at lw_m8 214 rfl) rfl
theorem q2008 : (Jvm.Cond.methodLink "SleepWorkModel" (449 : Nat) ({ cls := "SleepWorkModel", name := "isTool", desc := "(I)Z" } : Jvm.MethodName)) ∈ lw_all := lw_g (lw_at lw_m8 215 rfl) rfl
theorem q2009 : (Jvm.Cond.privateMethod ({ cls := "SleepWorkModel", name := "isTool", desc := "(I)Z" } : Jvm.MethodName)) ∈ lw_tbl := lw_at lw_m8 216 rfl
theorem q2010 : (Jvm.Cond.instanceMethod ({ cls := "SleepWorkModel", name := "isTool", desc := "(I)Z" } : Jvm.MethodName)) ∈ lw_all := lw_g (lw_at lw_m8 217 rfl) rfl
theorem q2011 : (Jvm.Cond.code ({ cls := "SleepWorkModel", name := "isTool", desc := "(I)Z" } : Jvm.MethodName) prog_22_method_50_code (2 : Nat) (Option.some Jvm.ClassFile.FieldType.boolean)) ∈ lw_all := lw_g (lw_at lw_m8 218 rfl) rfl
theorem q2013 : (Jvm.Cond.instanceMethod ({ cls := "SleepWorkModel", name := "way", desc := "(II)I" } : Jvm.MethodName)) ∈ lw_all := lw_g (lw_at lw_m8 220 rfl) rfl
theorem q2014 : (Jvm.Cond.selects "SleepWorkModel" ({ cls := "SleepWorkModel", name := "way", desc := "(II)I" } : Jvm.MethodName) ({ cls := "SleepWorkModel", name := "way", desc := "(II)I" } : Jvm.MethodName)) ∈ lw_all := lw_g (lw_at lw_m8 221 rfl) rfl
theorem q2015 : (Jvm.Cond.code ({ cls := "SleepWorkModel", name := "way", desc := "(II)I" } : Jvm.MethodName) prog_22_method_71_code (3 : Nat) (Option.some Jvm.ClassFile.FieldType.int)) ∈ lw_all := lw_g (lw_at lw_m8 222 rfl) rfl
theorem q2016 : (Jvm.Cond.methodLink "SleepWorkModel" (452 : Nat) ({ cls := "SleepWorkModel", name := "isRoom", desc := "(I)Z" } : Jvm.MethodName)) ∈ lw_all := lw_g (lw_at lw_m8 223 rfl) rfl
theorem q2017 : (Jvm.Cond.privateMethod ({ cls := "SleepWorkModel", name := "isRoom", desc := "(I)Z" } : Jvm.MethodName)) ∈ lw_tbl := lw_at lw_m8 224 rfl
theorem q2018 : (Jvm.Cond.instanceMethod ({ cls := "SleepWorkModel", name := "isRoom", desc := "(I)Z" } : Jvm.MethodName)) ∈ lw_all := lw_g (lw_at lw_m8 225 rfl) rfl
theorem q2019 : (Jvm.Cond.code ({ cls := "SleepWorkModel", name := "isRoom", desc := "(I)Z" } : Jvm.MethodName) prog_22_method_49_code (2 : Nat) (Option.some Jvm.ClassFile.FieldType.boolean)) ∈ lw_all := lw_g (lw_at lw_m8 226 rfl) rfl
theorem q2020 : (Jvm.Cond.methodLink "SleepWorkModel" (419 : Nat) ({ cls := "SleepWorkModel", name := "fillsWays", desc := "()V" } : Jvm.MethodName)) ∈ lw_all := lw_g (lw_at lw_m8 227 rfl) rfl
theorem q2021 : (Jvm.Cond.privateMethod ({ cls := "SleepWorkModel", name := "fillsWays", desc := "()V" } : Jvm.MethodName)) ∈ lw_tbl := lw_at lw_m8 228 rfl
theorem q2022 : (Jvm.Cond.instanceMethod ({ cls := "SleepWorkModel", name := "fillsWays", desc := "()V" } : Jvm.MethodName)) ∈ lw_all := lw_g (lw_at lw_m8 229 rfl) rfl
theorem q2023 : (Jvm.Cond.code ({ cls := "SleepWorkModel", name := "fillsWays", desc := "()V" } : Jvm.MethodName) prog_22_method_56_code (5 : Nat) (Option.none : Option Jvm.ClassFile.FieldType)) ∈ lw_all := lw_g (lw_at lw_m8 230 rfl) rfl
theorem q2024 : (Jvm.Cond.constant "SleepWorkModel" (399 : Nat) (1000000 : Int32)) ∈ lw_all := lw_g (lw_at lw_m8 231 rfl) rfl
theorem q2026 : (Jvm.Cond.instanceMethod ({ cls := "SleepWorkModel", name := "leave", desc := "(III)Z" } : Jvm.MethodName)) ∈ lw_all := lw_g (lw_at lw_m8 233 rfl) rfl
theorem q2027 : (Jvm.Cond.selects "SleepWorkModel" ({ cls := "SleepWorkModel", name := "leave", desc := "(III)Z" } : Jvm.MethodName) ({ cls := "SleepWorkModel", name := "leave", desc := "(III)Z" } : Jvm.MethodName)) ∈ lw_all := lw_g (lw_at lw_m8 234 rfl) rfl
theorem q2028 : (Jvm.Cond.code ({ cls := "SleepWorkModel", name := "leave", desc := "(III)Z" } : Jvm.MethodName) prog_22_method_73_code (4 : Nat) (Option.some Jvm.ClassFile.FieldType.boolean)) ∈ lw_all := lw_g (lw_at lw_m8 235 rfl) rfl
theorem q2029 : (Jvm.Cond.methodLink "SleepWorkModel" (455 : Nat) ({ cls := "SleepWorkModel", name := "isLeft", desc := "(II)Z" } : Jvm.MethodName)) ∈ lw_all := lw_g (lw_at lw_m8 236 rfl) rfl
theorem q2030 : (Jvm.Cond.privateMethod ({ cls := "SleepWorkModel", name := "isLeft", desc := "(II)Z" } : Jvm.MethodName)) ∈ lw_tbl := lw_at lw_m8 237 rfl
theorem q2031 : (Jvm.Cond.instanceMethod ({ cls := "SleepWorkModel", name := "isLeft", desc := "(II)Z" } : Jvm.MethodName)) ∈ lw_all := lw_g (lw_at lw_m8 238 rfl) rfl
theorem q2032 : (Jvm.Cond.code ({ cls := "SleepWorkModel", name := "isLeft", desc := "(II)Z" } : Jvm.MethodName) prog_22_method_72_code (3 : Nat) (Option.some Jvm.ClassFile.FieldType.boolean)) ∈ lw_all := lw_g (lw_at lw_m8 239 rfl) rfl
theorem q2034 : (Jvm.Cond.instanceMethod ({ cls := "SleepWorkModel", name := "work", desc := "(II)Z" } : Jvm.MethodName)) ∈ lw_all := lw_g (lw_at lw_m9 1 rfl) rfl
theorem q2035 : (Jvm.Cond.selects "SleepWorkModel" ({ cls := "SleepWorkModel", name := "work", desc := "(II)Z" } : Jvm.MethodName) ({ cls := "SleepWorkModel", name := "work", desc := "(II)Z" } : Jvm.MethodName)) ∈ lw_all := lw_g (lw_at lw_m9 2 rfl) rfl
theorem q2036 : (Jvm.Cond.code ({ cls := "SleepWorkModel", name := "work", desc := "(II)Z" } : Jvm.MethodName) prog_22_method_74_code (4 : Nat) (Option.some Jvm.ClassFile.FieldType.boolean)) ∈ lw_all := lw_g (lw_at lw_m9 3 rfl) rfl
theorem q2037 : (Jvm.Cond.methodLink "SleepWorkModel" (403 : Nat) ({ cls := "SleepWorkModel", name := "does", desc := "(II)V" } : Jvm.MethodName)) ∈ lw_all := lw_g (lw_at lw_m9 4 rfl) rfl
theorem q2038 : (Jvm.Cond.privateMethod ({ cls := "SleepWorkModel", name := "does", desc := "(II)V" } : Jvm.MethodName)) ∈ lw_tbl := lw_at lw_m9 5 rfl
theorem q2039 : (Jvm.Cond.instanceMethod ({ cls := "SleepWorkModel", name := "does", desc := "(II)V" } : Jvm.MethodName)) ∈ lw_all := lw_g (lw_at lw_m9 6 rfl) rfl
theorem q2040 : (Jvm.Cond.code ({ cls := "SleepWorkModel", name := "does", desc := "(II)V" } : Jvm.MethodName) prog_22_method_59_code (4 : Nat) (Option.none : Option Jvm.ClassFile.FieldType)) ∈ lw_all := lw_g (lw_at lw_m9 7 rfl) rfl
theorem q2042 : (Jvm.Cond.instanceMethod ({ cls := "SleepWorkModel", name := "lay", desc := "(II)Z" } : Jvm.MethodName)) ∈ lw_all := lw_g (lw_at lw_m9 9 rfl) rfl
theorem q2043 : (Jvm.Cond.selects "SleepWorkModel" ({ cls := "SleepWorkModel", name := "lay", desc := "(II)Z" } : Jvm.MethodName) ({ cls := "SleepWorkModel", name := "lay", desc := "(II)Z" } : Jvm.MethodName)) ∈ lw_all := lw_g (lw_at lw_m9 10 rfl) rfl
theorem q2044 : (Jvm.Cond.code ({ cls := "SleepWorkModel", name := "lay", desc := "(II)Z" } : Jvm.MethodName) prog_22_method_75_code (3 : Nat) (Option.some Jvm.ClassFile.FieldType.boolean)) ∈ lw_all := lw_g (lw_at lw_m9 11 rfl) rfl
theorem q2046 : (Jvm.Cond.instanceMethod ({ cls := "SleepWorkModel", name := "give", desc := "(II)Z" } : Jvm.MethodName)) ∈ lw_all := lw_g (lw_at lw_m9 13 rfl) rfl
theorem q2047 : (Jvm.Cond.selects "SleepWorkModel" ({ cls := "SleepWorkModel", name := "give", desc := "(II)Z" } : Jvm.MethodName) ({ cls := "SleepWorkModel", name := "give", desc := "(II)Z" } : Jvm.MethodName)) ∈ lw_all := lw_g (lw_at lw_m9 14 rfl) rfl
theorem q2048 : (Jvm.Cond.code ({ cls := "SleepWorkModel", name := "give", desc := "(II)Z" } : Jvm.MethodName) prog_22_method_76_code (3 : Nat) (Option.some Jvm.ClassFile.FieldType.boolean)) ∈ lw_all := lw_g (lw_at lw_m9 15 rfl) rfl
theorem q2050 : (Jvm.Cond.instanceMethod ({ cls := "SleepWorkModel", name := "bar", desc := "(IZ)Z" } : Jvm.MethodName)) ∈ lw_all := lw_g (lw_at lw_m9 17 rfl) rfl
theorem q2051 : (Jvm.Cond.selects "SleepWorkModel" ({ cls := "SleepWorkModel", name := "bar", desc := "(IZ)Z" } : Jvm.MethodName) ({ cls := "SleepWorkModel", name := "bar", desc := "(IZ)Z" } : Jvm.MethodName)) ∈ lw_all := lw_g (lw_at lw_m9 18 rfl) rfl
theorem q2052 : (Jvm.Cond.code ({ cls := "SleepWorkModel", name := "bar", desc := "(IZ)Z" } : Jvm.MethodName) prog_22_method_77_code (3 : Nat) (Option.some Jvm.ClassFile.FieldType.boolean)) ∈ lw_all := lw_g (lw_at lw_m9 19 rfl) rfl
theorem q2054 : (Jvm.Cond.instanceMethod ({ cls := "SleepWorkModel", name := "night", desc := "()I" } : Jvm.MethodName)) ∈ lw_all := lw_g (lw_at lw_m9 21 rfl) rfl
theorem q2055 : (Jvm.Cond.selects "SleepWorkModel" ({ cls := "SleepWorkModel", name := "night", desc := "()I" } : Jvm.MethodName) ({ cls := "SleepWorkModel", name := "night", desc := "()I" } : Jvm.MethodName)) ∈ lw_all := lw_g (lw_at lw_m9 22 rfl) rfl
theorem q2056 : (Jvm.Cond.code ({ cls := "SleepWorkModel", name := "night", desc := "()I" } : Jvm.MethodName) prog_22_method_78_code (3 : Nat) (Option.some Jvm.ClassFile.FieldType.int)) ∈ lw_all := lw_g (lw_at lw_m9 23 rfl) rfl
theorem q2057 : (Jvm.Cond.methodLink "SleepWorkModel" (458 : Nat) ({ cls := "SleepWorkModel", name := "wholeNight", desc := "()I" } : Jvm.MethodName)) ∈ lw_all := lw_g (lw_at lw_m9 24 rfl) rfl
theorem q2058 : (Jvm.Cond.privateMethod ({ cls := "SleepWorkModel", name := "wholeNight", desc := "()I" } : Jvm.MethodName)) ∈ lw_tbl := lw_at lw_m9 25 rfl
theorem q2059 : (Jvm.Cond.instanceMethod ({ cls := "SleepWorkModel", name := "wholeNight", desc := "()I" } : Jvm.MethodName)) ∈ lw_all := lw_g (lw_at lw_m9 26 rfl) rfl
theorem q2060 : (Jvm.Cond.code ({ cls := "SleepWorkModel", name := "wholeNight", desc := "()I" } : Jvm.MethodName) prog_22_method_65_code (3 : Nat) (Option.some Jvm.ClassFile.FieldType.int)) ∈ lw_all := lw_g (lw_at lw_m9 27 rfl) rfl
theorem q2061 : (Jvm.Cond.methodLink "SleepWorkModel" (431 : Nat) ({ cls := "SleepWorkModel", name := "worthNow", desc := "()I" } : Jvm.MethodName)) ∈ lw_all := lw_g (lw_at lw_m9 28 rfl) rfl
theorem q2062 : (Jvm.Cond.privateMethod ({ cls := "SleepWorkModel", name := "worthNow", desc := "()I" } : Jvm.MethodName)) ∈ lw_tbl := lw_at lw_m9 29 rfl
theorem q2063 : (Jvm.Cond.instanceMethod ({ cls := "SleepWorkModel", name := "worthNow", desc := "()I" } : Jvm.MethodName)) ∈ lw_all := lw_g (lw_at lw_m9 30 rfl) rfl
theorem q2064 : (Jvm.Cond.code ({ cls := "SleepWorkModel", name := "worthNow", desc := "()I" } : Jvm.MethodName) prog_22_method_55_code (3 : Nat) (Option.some Jvm.ClassFile.FieldType.int)) ∈ lw_all := lw_g (lw_at lw_m9 31 rfl) rfl
theorem q2065 : (Jvm.Cond.methodLink "SleepWorkModel" (434 : Nat) ({ cls := "SleepWorkModel", name := "goesTill", desc := "(I)V" } : Jvm.MethodName)) ∈ lw_all := lw_g (lw_at lw_m9 32 rfl) rfl
theorem q2066 : (Jvm.Cond.privateMethod ({ cls := "SleepWorkModel", name := "goesTill", desc := "(I)V" } : Jvm.MethodName)) ∈ lw_tbl := lw_at lw_m9 33 rfl
theorem q2067 : (Jvm.Cond.instanceMethod ({ cls := "SleepWorkModel", name := "goesTill", desc := "(I)V" } : Jvm.MethodName)) ∈ lw_all := lw_g (lw_at lw_m9 34 rfl) rfl
theorem q2068 : (Jvm.Cond.code ({ cls := "SleepWorkModel", name := "goesTill", desc := "(I)V" } : Jvm.MethodName) prog_22_method_64_code (4 : Nat) (Option.none : Option Jvm.ClassFile.FieldType)) ∈ lw_all := lw_g (lw_at lw_m9 35 rfl) rfl
theorem q2069 : (Jvm.Cond.methodLink "SleepWorkModel" (422 : Nat) ({ cls := "SleepWorkModel", name := "getsUp", desc := "(I)V" } : Jvm.MethodName)) ∈ lw_all := lw_g (lw_at lw_m9 36 rfl) rfl
theorem q2070 : (Jvm.Cond.privateMethod ({ cls := "SleepWorkModel", name := "getsUp", desc := "(I)V" } : Jvm.MethodName)) ∈ lw_tbl := lw_at lw_m9 37 rfl
theorem q2071 : (Jvm.Cond.instanceMethod ({ cls := "SleepWorkModel", name := "getsUp", desc := "(I)V" } : Jvm.MethodName)) ∈ lw_all := lw_g (lw_at lw_m9 38 rfl) rfl
theorem q2072 : (Jvm.Cond.code ({ cls := "SleepWorkModel", name := "getsUp", desc := "(I)V" } : Jvm.MethodName) prog_22_method_57_code (4 : Nat) (Option.none : Option Jvm.ClassFile.FieldType)) ∈ lw_all := lw_g (lw_at lw_m9 39 rfl) rfl
theorem q2073 : (Jvm.Cond.methodLink "SleepWorkModel" (425 : Nat) ({ cls := "SleepWorkModel", name := "isOver", desc := "(I)V" } : Jvm.MethodName)) ∈ lw_all := lw_g (lw_at lw_m9 40 rfl) rfl
theorem q2074 : (Jvm.Cond.privateMethod ({ cls := "SleepWorkModel", name := "isOver", desc := "(I)V" } : Jvm.MethodName)) ∈ lw_tbl := lw_at lw_m9 41 rfl
theorem q2075 : (Jvm.Cond.instanceMethod ({ cls := "SleepWorkModel", name := "isOver", desc := "(I)V" } : Jvm.MethodName)) ∈ lw_all := lw_g (lw_at lw_m9 42 rfl) rfl
theorem q2076 : (Jvm.Cond.code ({ cls := "SleepWorkModel", name := "isOver", desc := "(I)V" } : Jvm.MethodName) prog_22_method_60_code (2 : Nat) (Option.none : Option Jvm.ClassFile.FieldType)) ∈ lw_all := lw_g (lw_at lw_m9 43 rfl) rfl
theorem q2077 : (Jvm.Cond.methodLink "SleepWorkModel" (428 : Nat) ({ cls := "SleepWorkModel", name := "begins1", desc := "(II)V" } : Jvm.MethodName)) ∈ lw_all := lw_g (lw_at lw_m9 44 rfl) rfl
theorem q2078 : (Jvm.Cond.privateMethod ({ cls := "SleepWorkModel", name := "begins1", desc := "(II)V" } : Jvm.MethodName)) ∈ lw_tbl := lw_at lw_m9 45 rfl
theorem q2079 : (Jvm.Cond.instanceMethod ({ cls := "SleepWorkModel", name := "begins1", desc := "(II)V" } : Jvm.MethodName)) ∈ lw_all := lw_g (lw_at lw_m9 46 rfl) rfl
theorem q2080 : (Jvm.Cond.code ({ cls := "SleepWorkModel", name := "begins1", desc := "(II)V" } : Jvm.MethodName) prog_22_method_63_code (7 : Nat) (Option.none : Option Jvm.ClassFile.FieldType)) ∈ lw_all := lw_g (lw_at lw_m9 47 rfl) rfl
theorem q2081 : (Jvm.Cond.methodLink "SleepWorkModel" (409 : Nat) ({ cls := "SleepWorkModel", name := "lies", desc := "(II)V" } : Jvm.MethodName)) ∈ lw_all := lw_g (lw_at lw_m9 48 rfl) rfl
theorem q2082 : (Jvm.Cond.privateMethod ({ cls := "SleepWorkModel", name := "lies", desc := "(II)V" } : Jvm.MethodName)) ∈ lw_tbl := lw_at lw_m9 49 rfl
theorem q2083 : (Jvm.Cond.instanceMethod ({ cls := "SleepWorkModel", name := "lies", desc := "(II)V" } : Jvm.MethodName)) ∈ lw_all := lw_g (lw_at lw_m9 50 rfl) rfl
theorem q2084 : (Jvm.Cond.code ({ cls := "SleepWorkModel", name := "lies", desc := "(II)V" } : Jvm.MethodName) prog_22_method_61_code (3 : Nat) (Option.none : Option Jvm.ClassFile.FieldType)) ∈ lw_all := lw_g (lw_at lw_m9 51 rfl) rfl
theorem q2085 : (Jvm.Cond.methodLink "SleepWorkModel" (412 : Nat) ({ cls := "SleepWorkModel", name := "tells", desc := "(II)I" } : Jvm.MethodName)) ∈ lw_all := lw_g (lw_at lw_m9 52 rfl) rfl
theorem q2086 : (Jvm.Cond.privateMethod ({ cls := "SleepWorkModel", name := "tells", desc := "(II)I" } : Jvm.MethodName)) ∈ lw_tbl := lw_at lw_m9 53 rfl
theorem q2087 : (Jvm.Cond.instanceMethod ({ cls := "SleepWorkModel", name := "tells", desc := "(II)I" } : Jvm.MethodName)) ∈ lw_all := lw_g (lw_at lw_m9 54 rfl) rfl
theorem q2088 : (Jvm.Cond.code ({ cls := "SleepWorkModel", name := "tells", desc := "(II)I" } : Jvm.MethodName) prog_22_method_58_code (9 : Nat) (Option.some Jvm.ClassFile.FieldType.int)) ∈ lw_all := lw_g (lw_at lw_m9 55 rfl) rfl
theorem q2089 : (Jvm.Cond.methodLink "SleepWorkModel" (400 : Nat) ({ cls := "SleepWorkModel", name := "termOf", desc := "(II)I" } : Jvm.MethodName)) ∈ lw_all := lw_g (lw_at lw_m9 56 rfl) rfl
theorem q2090 : (Jvm.Cond.privateMethod ({ cls := "SleepWorkModel", name := "termOf", desc := "(II)I" } : Jvm.MethodName)) ∈ lw_tbl := lw_at lw_m9 57 rfl
theorem q2091 : (Jvm.Cond.instanceMethod ({ cls := "SleepWorkModel", name := "termOf", desc := "(II)I" } : Jvm.MethodName)) ∈ lw_all := lw_g (lw_at lw_m9 58 rfl) rfl
theorem q2092 : (Jvm.Cond.code ({ cls := "SleepWorkModel", name := "termOf", desc := "(II)I" } : Jvm.MethodName) prog_22_method_40_code (8 : Nat) (Option.some Jvm.ClassFile.FieldType.int)) ∈ lw_all := lw_g (lw_at lw_m9 59 rfl) rfl
theorem q2093 : (Jvm.Cond.methodLink "SleepWorkModel" (415 : Nat) ({ cls := "SleepWorkModel", name := "isInUse", desc := "(II)Z" } : Jvm.MethodName)) ∈ lw_all := lw_g (lw_at lw_m9 60 rfl) rfl
theorem q2094 : (Jvm.Cond.privateMethod ({ cls := "SleepWorkModel", name := "isInUse", desc := "(II)Z" } : Jvm.MethodName)) ∈ lw_tbl := lw_at lw_m9 61 rfl
theorem q2095 : (Jvm.Cond.instanceMethod ({ cls := "SleepWorkModel", name := "isInUse", desc := "(II)Z" } : Jvm.MethodName)) ∈ lw_all := lw_g (lw_at lw_m9 62 rfl) rfl
theorem q2096 : (Jvm.Cond.code ({ cls := "SleepWorkModel", name := "isInUse", desc := "(II)Z" } : Jvm.MethodName) prog_22_method_62_code (4 : Nat) (Option.some Jvm.ClassFile.FieldType.boolean)) ∈ lw_all := lw_g (lw_at lw_m9 63 rfl) rfl
theorem q2098 : (Jvm.Cond.instanceMethod ({ cls := "SleepWorkModel", name := "undo", desc := "()Z" } : Jvm.MethodName)) ∈ lw_all := lw_g (lw_at lw_m9 65 rfl) rfl
theorem q2099 : (Jvm.Cond.selects "SleepWorkModel" ({ cls := "SleepWorkModel", name := "undo", desc := "()Z" } : Jvm.MethodName) ({ cls := "SleepWorkModel", name := "undo", desc := "()Z" } : Jvm.MethodName)) ∈ lw_all := lw_g (lw_at lw_m9 66 rfl) rfl
theorem q2100 : (Jvm.Cond.code ({ cls := "SleepWorkModel", name := "undo", desc := "()Z" } : Jvm.MethodName) prog_22_method_79_code (2 : Nat) (Option.some Jvm.ClassFile.FieldType.boolean)) ∈ lw_all := lw_g (lw_at lw_m9 67 rfl) rfl
theorem q2102 : (Jvm.Cond.instanceMethod ({ cls := "SleepWorkModel", name := "gain", desc := "()I" } : Jvm.MethodName)) ∈ lw_all := lw_g (lw_at lw_m9 69 rfl) rfl
theorem q2103 : (Jvm.Cond.selects "SleepWorkModel" ({ cls := "SleepWorkModel", name := "gain", desc := "()I" } : Jvm.MethodName) ({ cls := "SleepWorkModel", name := "gain", desc := "()I" } : Jvm.MethodName)) ∈ lw_all := lw_g (lw_at lw_m9 70 rfl) rfl
theorem q2104 : (Jvm.Cond.code ({ cls := "SleepWorkModel", name := "gain", desc := "()I" } : Jvm.MethodName) prog_22_method_80_code (1 : Nat) (Option.some Jvm.ClassFile.FieldType.int)) ∈ lw_all := lw_g (lw_at lw_m9 71 rfl) rfl
theorem q2106 : (Jvm.Cond.instanceMethod ({ cls := "SleepWorkModel", name := "best", desc := "(II)I" } : Jvm.MethodName)) ∈ lw_all := lw_g (lw_at lw_m9 73 rfl) rfl
theorem q2107 : (Jvm.Cond.selects "SleepWorkModel" ({ cls := "SleepWorkModel", name := "best", desc := "(II)I" } : Jvm.MethodName) ({ cls := "SleepWorkModel", name := "best", desc := "(II)I" } : Jvm.MethodName)) ∈ lw_all := lw_g (lw_at lw_m9 74 rfl) rfl
theorem q2108 : (Jvm.Cond.code ({ cls := "SleepWorkModel", name := "best", desc := "(II)I" } : Jvm.MethodName) prog_22_method_86_code (4 : Nat) (Option.some Jvm.ClassFile.FieldType.int)) ∈ lw_all := lw_g (lw_at lw_m9 75 rfl) rfl
theorem q2109 : (Jvm.Cond.methodLink "SleepWorkModel" (473 : Nat) ({ cls := "SleepWorkModel", name := "bestOption", desc := "(I)I" } : Jvm.MethodName)) ∈ lw_all := lw_g (lw_at lw_m9 76 rfl) rfl
theorem q2110 : (Jvm.Cond.privateMethod ({ cls := "SleepWorkModel", name := "bestOption", desc := "(I)I" } : Jvm.MethodName)) ∈ lw_tbl := lw_at lw_m9 77 rfl
theorem q2111 : (Jvm.Cond.instanceMethod ({ cls := "SleepWorkModel", name := "bestOption", desc := "(I)I" } : Jvm.MethodName)) ∈ lw_all := lw_g (lw_at lw_m9 78 rfl) rfl
theorem q2112 : (Jvm.Cond.code ({ cls := "SleepWorkModel", name := "bestOption", desc := "(I)I" } : Jvm.MethodName) prog_22_method_85_code (5 : Nat) (Option.some Jvm.ClassFile.FieldType.int)) ∈ lw_all := lw_g (lw_at lw_m9 79 rfl) rfl
theorem q2113 : (Jvm.Cond.methodLink "SleepWorkModel" (464 : Nat) ({ cls := "SleepWorkModel", name := "gainBy", desc := "(II)I" } : Jvm.MethodName)) ∈ lw_all := lw_g (lw_at lw_m9 80 rfl) rfl
theorem q2114 : (Jvm.Cond.privateMethod ({ cls := "SleepWorkModel", name := "gainBy", desc := "(II)I" } : Jvm.MethodName)) ∈ lw_tbl := lw_at lw_m9 81 rfl
theorem q2115 : (Jvm.Cond.instanceMethod ({ cls := "SleepWorkModel", name := "gainBy", desc := "(II)I" } : Jvm.MethodName)) ∈ lw_all := lw_g (lw_at lw_m9 82 rfl) rfl
theorem q2116 : (Jvm.Cond.code ({ cls := "SleepWorkModel", name := "gainBy", desc := "(II)I" } : Jvm.MethodName) prog_22_method_84_code (3 : Nat) (Option.some Jvm.ClassFile.FieldType.int)) ∈ lw_all := lw_g (lw_at lw_m9 83 rfl) rfl
theorem q2117 : (Jvm.Cond.methodLink "SleepWorkModel" (461 : Nat) ({ cls := "SleepWorkModel", name := "leaves", desc := "(II)Z" } : Jvm.MethodName)) ∈ lw_all := lw_g (lw_at lw_m9 84 rfl) rfl
theorem q2118 : (Jvm.Cond.privateMethod ({ cls := "SleepWorkModel", name := "leaves", desc := "(II)Z" } : Jvm.MethodName)) ∈ lw_tbl := lw_at lw_m9 85 rfl
theorem q2119 : (Jvm.Cond.instanceMethod ({ cls := "SleepWorkModel", name := "leaves", desc := "(II)Z" } : Jvm.MethodName)) ∈ lw_all := lw_g (lw_at lw_m9 86 rfl) rfl
theorem q2120 : (Jvm.Cond.code ({ cls := "SleepWorkModel", name := "leaves", desc := "(II)Z" } : Jvm.MethodName) prog_22_method_81_code (5 : Nat) (Option.some Jvm.ClassFile.FieldType.boolean)) ∈ lw_all := lw_g (lw_at lw_m9 87 rfl) rfl
theorem q2121 : (Jvm.Cond.methodLink "SleepWorkModel" (470 : Nat) ({ cls := "SleepWorkModel", name := "options", desc := "()I" } : Jvm.MethodName)) ∈ lw_all := lw_g (lw_at lw_m9 88 rfl) rfl
theorem q2122 : (Jvm.Cond.privateMethod ({ cls := "SleepWorkModel", name := "options", desc := "()I" } : Jvm.MethodName)) ∈ lw_tbl := lw_at lw_m9 89 rfl
theorem q2123 : (Jvm.Cond.instanceMethod ({ cls := "SleepWorkModel", name := "options", desc := "()I" } : Jvm.MethodName)) ∈ lw_all := lw_g (lw_at lw_m9 90 rfl) rfl
theorem q2124 : (Jvm.Cond.code ({ cls := "SleepWorkModel", name := "options", desc := "()I" } : Jvm.MethodName) prog_22_method_82_code (3 : Nat) (Option.some Jvm.ClassFile.FieldType.int)) ∈ lw_all := lw_g (lw_at lw_m9 91 rfl) rfl
theorem q2125 : (Jvm.Cond.methodLink "SleepWorkModel" (476 : Nat) ({ cls := "SleepWorkModel", name := "codeOf", desc := "(II)I" } : Jvm.MethodName)) ∈ lw_all := lw_g (lw_at lw_m9 92 rfl) rfl
theorem q2126 : (Jvm.Cond.privateMethod ({ cls := "SleepWorkModel", name := "codeOf", desc := "(II)I" } : Jvm.MethodName)) ∈ lw_tbl := lw_at lw_m9 93 rfl
theorem q2127 : (Jvm.Cond.instanceMethod ({ cls := "SleepWorkModel", name := "codeOf", desc := "(II)I" } : Jvm.MethodName)) ∈ lw_all := lw_g (lw_at lw_m9 94 rfl) rfl
theorem q2128 : (Jvm.Cond.code ({ cls := "SleepWorkModel", name := "codeOf", desc := "(II)I" } : Jvm.MethodName) prog_22_method_83_code (3 : Nat) (Option.some Jvm.ClassFile.FieldType.int)) ∈ lw_all := lw_g (lw_at lw_m9 95 rfl) rfl
theorem q2130 : (Jvm.Cond.instanceMethod ({ cls := "SleepWorkModel", name := "bestOfTwo", desc := "(III)I" } : Jvm.MethodName)) ∈ lw_all := lw_g (lw_at lw_m9 97 rfl) rfl
theorem q2131 : (Jvm.Cond.selects "SleepWorkModel" ({ cls := "SleepWorkModel", name := "bestOfTwo", desc := "(III)I" } : Jvm.MethodName) ({ cls := "SleepWorkModel", name := "bestOfTwo", desc := "(III)I" } : Jvm.MethodName)) ∈ lw_all := lw_g (lw_at lw_m9 98 rfl) rfl
theorem q2132 : (Jvm.Cond.code ({ cls := "SleepWorkModel", name := "bestOfTwo", desc := "(III)I" } : Jvm.MethodName) prog_22_method_87_code (10 : Nat) (Option.some Jvm.ClassFile.FieldType.int)) ∈ lw_all := lw_g (lw_at lw_m9 99 rfl) rfl
theorem q2134 : (Jvm.Cond.instanceMethod ({ cls := "SleepWorkModel", name := "hire", desc := "(I)I" } : Jvm.MethodName)) ∈ lw_all := lw_g (lw_at lw_m9 101 rfl) rfl
theorem q2135 : (Jvm.Cond.selects "SleepWorkModel" ({ cls := "SleepWorkModel", name := "hire", desc := "(I)I" } : Jvm.MethodName) ({ cls := "SleepWorkModel", name := "hire", desc := "(I)I" } : Jvm.MethodName)) ∈ lw_all := lw_g (lw_at lw_m9 102 rfl) rfl
theorem q2136 : (Jvm.Cond.code ({ cls := "SleepWorkModel", name := "hire", desc := "(I)I" } : Jvm.MethodName) prog_22_method_88_code (2 : Nat) (Option.some Jvm.ClassFile.FieldType.int)) ∈ lw_all := lw_g (lw_at lw_m9 103 rfl) rfl
theorem q2137 : (Jvm.Cond.constant "SleepWorkModel" (479 : Nat) (-1000000 : Int32)) ∈ lw_all := lw_g (lw_at lw_m9 104 rfl) rfl
theorem q2139 : (Jvm.Cond.instanceMethod ({ cls := "SleepWorkModel", name := "hide", desc := "(II)I" } : Jvm.MethodName)) ∈ lw_all := lw_g (lw_at lw_m9 106 rfl) rfl
theorem q2140 : (Jvm.Cond.selects "SleepWorkModel" ({ cls := "SleepWorkModel", name := "hide", desc := "(II)I" } : Jvm.MethodName) ({ cls := "SleepWorkModel", name := "hide", desc := "(II)I" } : Jvm.MethodName)) ∈ lw_all := lw_g (lw_at lw_m9 107 rfl) rfl
theorem q2141 : (Jvm.Cond.code ({ cls := "SleepWorkModel", name := "hide", desc := "(II)I" } : Jvm.MethodName) prog_22_method_89_code (8 : Nat) (Option.some Jvm.ClassFile.FieldType.int)) ∈ lw_all := lw_g (lw_at lw_m9 108 rfl) rfl
theorem q2143 : (Jvm.Cond.instanceMethod ({ cls := "SleepWorkModel", name := "bars", desc := "(I)I" } : Jvm.MethodName)) ∈ lw_all := lw_g (lw_at lw_m9 110 rfl) rfl
theorem q2144 : (Jvm.Cond.selects "SleepWorkModel" ({ cls := "SleepWorkModel", name := "bars", desc := "(I)I" } : Jvm.MethodName) ({ cls := "SleepWorkModel", name := "bars", desc := "(I)I" } : Jvm.MethodName)) ∈ lw_all := lw_g (lw_at lw_m9 111 rfl) rfl
theorem q2145 : (Jvm.Cond.code ({ cls := "SleepWorkModel", name := "bars", desc := "(I)I" } : Jvm.MethodName) prog_22_method_91_code (6 : Nat) (Option.some Jvm.ClassFile.FieldType.int)) ∈ lw_all := lw_g (lw_at lw_m9 112 rfl) rfl
theorem q2146 : (Jvm.Cond.methodLink "SleepWorkModel" (480 : Nat) ({ cls := "SleepWorkModel", name := "bits", desc := "(I)I" } : Jvm.MethodName)) ∈ lw_all := lw_g (lw_at lw_m9 113 rfl) rfl
theorem q2147 : (Jvm.Cond.static ({ cls := "SleepWorkModel", name := "bits", desc := "(I)I" } : Jvm.MethodName)) ∈ lw_all := lw_g (lw_at lw_m9 114 rfl) rfl
theorem q2148 : (Jvm.Cond.code ({ cls := "SleepWorkModel", name := "bits", desc := "(I)I" } : Jvm.MethodName) prog_22_method_90_code (3 : Nat) (Option.some Jvm.ClassFile.FieldType.int)) ∈ lw_all := lw_g (lw_at lw_m9 115 rfl) rfl
theorem q2150 : (Jvm.Cond.instanceMethod ({ cls := "SleepWorkModel", name := "where", desc := "(II)I" } : Jvm.MethodName)) ∈ lw_all := lw_g (lw_at lw_m9 117 rfl) rfl
theorem q2151 : (Jvm.Cond.selects "SleepWorkModel" ({ cls := "SleepWorkModel", name := "where", desc := "(II)I" } : Jvm.MethodName) ({ cls := "SleepWorkModel", name := "where", desc := "(II)I" } : Jvm.MethodName)) ∈ lw_all := lw_g (lw_at lw_m9 118 rfl) rfl
theorem q2152 : (Jvm.Cond.code ({ cls := "SleepWorkModel", name := "where", desc := "(II)I" } : Jvm.MethodName) prog_22_method_92_code (5 : Nat) (Option.some Jvm.ClassFile.FieldType.int)) ∈ lw_all := lw_g (lw_at lw_m9 119 rfl) rfl
theorem q2154 : (Jvm.Cond.instanceMethod ({ cls := "SleepWorkModel", name := "strokes", desc := "(II)I" } : Jvm.MethodName)) ∈ lw_all := lw_g (lw_at lw_m9 121 rfl) rfl
theorem q2155 : (Jvm.Cond.selects "SleepWorkModel" ({ cls := "SleepWorkModel", name := "strokes", desc := "(II)I" } : Jvm.MethodName) ({ cls := "SleepWorkModel", name := "strokes", desc := "(II)I" } : Jvm.MethodName)) ∈ lw_all := lw_g (lw_at lw_m9 122 rfl) rfl
theorem q2156 : (Jvm.Cond.code ({ cls := "SleepWorkModel", name := "strokes", desc := "(II)I" } : Jvm.MethodName) prog_22_method_93_code (3 : Nat) (Option.some Jvm.ClassFile.FieldType.int)) ∈ lw_all := lw_g (lw_at lw_m9 123 rfl) rfl
theorem q2158 : (Jvm.Cond.instanceMethod ({ cls := "SleepWorkModel", name := "tell", desc := "(III)I" } : Jvm.MethodName)) ∈ lw_all := lw_g (lw_at lw_m9 125 rfl) rfl
theorem q2159 : (Jvm.Cond.selects "SleepWorkModel" ({ cls := "SleepWorkModel", name := "tell", desc := "(III)I" } : Jvm.MethodName) ({ cls := "SleepWorkModel", name := "tell", desc := "(III)I" } : Jvm.MethodName)) ∈ lw_all := lw_g (lw_at lw_m9 126 rfl) rfl
theorem q2160 : (Jvm.Cond.code ({ cls := "SleepWorkModel", name := "tell", desc := "(III)I" } : Jvm.MethodName) prog_22_method_94_code (4 : Nat) (Option.some Jvm.ClassFile.FieldType.int)) ∈ lw_all := lw_g (lw_at lw_m9 127 rfl) rfl
theorem q2162 : (Jvm.Cond.instanceMethod ({ cls := "SleepWorkModel", name := "forget", desc := "()I" } : Jvm.MethodName)) ∈ lw_all := lw_g (lw_at lw_m9 129 rfl) rfl
theorem q2163 : (Jvm.Cond.selects "SleepWorkModel" ({ cls := "SleepWorkModel", name := "forget", desc := "()I" } : Jvm.MethodName) ({ cls := "SleepWorkModel", name := "forget", desc := "()I" } : Jvm.MethodName)) ∈ lw_all := lw_g (lw_at lw_m9 130 rfl) rfl
theorem q2164 : (Jvm.Cond.code ({ cls := "SleepWorkModel", name := "forget", desc := "()I" } : Jvm.MethodName) prog_22_method_95_code (2 : Nat) (Option.some Jvm.ClassFile.FieldType.int)) ∈ lw_all := lw_g (lw_at lw_m9 131 rfl) rfl
theorem q2166 : (Jvm.Cond.instanceMethod ({ cls := "SleepWorkModel", name := "fits", desc := "(III)I" } : Jvm.MethodName)) ∈ lw_all := lw_g (lw_at lw_m9 133 rfl) rfl
theorem q2167 : (Jvm.Cond.selects "SleepWorkModel" ({ cls := "SleepWorkModel", name := "fits", desc := "(III)I" } : Jvm.MethodName) ({ cls := "SleepWorkModel", name := "fits", desc := "(III)I" } : Jvm.MethodName)) ∈ lw_all := lw_g (lw_at lw_m9 134 rfl) rfl
theorem q2168 : (Jvm.Cond.code ({ cls := "SleepWorkModel", name := "fits", desc := "(III)I" } : Jvm.MethodName) prog_22_method_97_code (6 : Nat) (Option.some Jvm.ClassFile.FieldType.int)) ∈ lw_all := lw_g (lw_at lw_m9 135 rfl) rfl
theorem q2169 : (Jvm.Cond.methodLink "SleepWorkModel" (483 : Nat) ({ cls := "SleepWorkModel", name := "isSo", desc := "(I)Z" } : Jvm.MethodName)) ∈ lw_all := lw_g (lw_at lw_m9 136 rfl) rfl
theorem q2170 : (Jvm.Cond.privateMethod ({ cls := "SleepWorkModel", name := "isSo", desc := "(I)Z" } : Jvm.MethodName)) ∈ lw_tbl := lw_at lw_m9 137 rfl
theorem q2171 : (Jvm.Cond.instanceMethod ({ cls := "SleepWorkModel", name := "isSo", desc := "(I)Z" } : Jvm.MethodName)) ∈ lw_all := lw_g (lw_at lw_m9 138 rfl) rfl
theorem q2172 : (Jvm.Cond.code ({ cls := "SleepWorkModel", name := "isSo", desc := "(I)Z" } : Jvm.MethodName) prog_22_method_96_code (3 : Nat) (Option.some Jvm.ClassFile.FieldType.boolean)) ∈ lw_all := lw_g (lw_at lw_m9 139 rfl) rfl
theorem q2174 : (Jvm.Cond.instanceMethod ({ cls := "SleepWorkModel", name := "suspects", desc := "(I)I" } : Jvm.MethodName)) ∈ lw_all := lw_g (lw_at lw_m9 141 rfl) rfl
theorem q2175 : (Jvm.Cond.selects "SleepWorkModel" ({ cls := "SleepWorkModel", name := "suspects", desc := "(I)I" } : Jvm.MethodName) ({ cls := "SleepWorkModel", name := "suspects", desc := "(I)I" } : Jvm.MethodName)) ∈ lw_all := lw_g (lw_at lw_m9 142 rfl) rfl
theorem q2176 : (Jvm.Cond.code ({ cls := "SleepWorkModel", name := "suspects", desc := "(I)I" } : Jvm.MethodName) prog_22_method_99_code (4 : Nat) (Option.some Jvm.ClassFile.FieldType.int)) ∈ lw_all := lw_g (lw_at lw_m9 143 rfl) rfl
theorem q2177 : (Jvm.Cond.methodLink "SleepWorkModel" (486 : Nat) ({ cls := "SleepWorkModel", name := "isSuspect", desc := "(II)Z" } : Jvm.MethodName)) ∈ lw_all := lw_g (lw_at lw_m9 144 rfl) rfl
theorem q2178 : (Jvm.Cond.privateMethod ({ cls := "SleepWorkModel", name := "isSuspect", desc := "(II)Z" } : Jvm.MethodName)) ∈ lw_tbl := lw_at lw_m9 145 rfl
theorem q2179 : (Jvm.Cond.instanceMethod ({ cls := "SleepWorkModel", name := "isSuspect", desc := "(II)Z" } : Jvm.MethodName)) ∈ lw_all := lw_g (lw_at lw_m9 146 rfl) rfl
theorem q2180 : (Jvm.Cond.code ({ cls := "SleepWorkModel", name := "isSuspect", desc := "(II)Z" } : Jvm.MethodName) prog_22_method_98_code (4 : Nat) (Option.some Jvm.ClassFile.FieldType.boolean)) ∈ lw_all := lw_g (lw_at lw_m9 147 rfl) rfl
theorem q2182 : (Jvm.Cond.instanceMethod ({ cls := "SleepWorkModel", name := "pairs", desc := "(III)I" } : Jvm.MethodName)) ∈ lw_all := lw_g (lw_at lw_m9 149 rfl) rfl
theorem q2183 : (Jvm.Cond.selects "SleepWorkModel" ({ cls := "SleepWorkModel", name := "pairs", desc := "(III)I" } : Jvm.MethodName) ({ cls := "SleepWorkModel", name := "pairs", desc := "(III)I" } : Jvm.MethodName)) ∈ lw_all := lw_g (lw_at lw_m9 150 rfl) rfl
theorem q2184 : (Jvm.Cond.code ({ cls := "SleepWorkModel", name := "pairs", desc := "(III)I" } : Jvm.MethodName) prog_22_method_100_code (7 : Nat) (Option.some Jvm.ClassFile.FieldType.int)) ∈ lw_all := lw_g (lw_at lw_m9 151 rfl) rfl
theorem q2186 : (Jvm.Cond.instanceMethod ({ cls := "SleepWorkModel", name := "hold", desc := "(I)Z" } : Jvm.MethodName)) ∈ lw_all := lw_g (lw_at lw_m9 153 rfl) rfl
theorem q2187 : (Jvm.Cond.selects "SleepWorkModel" ({ cls := "SleepWorkModel", name := "hold", desc := "(I)Z" } : Jvm.MethodName) ({ cls := "SleepWorkModel", name := "hold", desc := "(I)Z" } : Jvm.MethodName)) ∈ lw_all := lw_g (lw_at lw_m9 154 rfl) rfl
theorem q2188 : (Jvm.Cond.code ({ cls := "SleepWorkModel", name := "hold", desc := "(I)Z" } : Jvm.MethodName) prog_22_method_101_code (3 : Nat) (Option.some Jvm.ClassFile.FieldType.boolean)) ∈ lw_all := lw_g (lw_at lw_m9 155 rfl) rfl
theorem q2190 : (Jvm.Cond.instanceMethod ({ cls := "SleepWorkModel", name := "restore", desc := "(I)Z" } : Jvm.MethodName)) ∈ lw_all := lw_g (lw_at lw_m9 157 rfl) rfl
theorem q2191 : (Jvm.Cond.selects "SleepWorkModel" ({ cls := "SleepWorkModel", name := "restore", desc := "(I)Z" } : Jvm.MethodName) ({ cls := "SleepWorkModel", name := "restore", desc := "(I)Z" } : Jvm.MethodName)) ∈ lw_all := lw_g (lw_at lw_m9 158 rfl) rfl
theorem q2192 : (Jvm.Cond.code ({ cls := "SleepWorkModel", name := "restore", desc := "(I)Z" } : Jvm.MethodName) prog_22_method_102_code (3 : Nat) (Option.some Jvm.ClassFile.FieldType.boolean)) ∈ lw_all := lw_g (lw_at lw_m9 159 rfl) rfl
theorem q2194 : (Jvm.Cond.instanceMethod ({ cls := "SleepWorkModel", name := "count", desc := "(I)I" } : Jvm.MethodName)) ∈ lw_all := lw_g (lw_at lw_m9 161 rfl) rfl
theorem q2195 : (Jvm.Cond.selects "SleepWorkModel" ({ cls := "SleepWorkModel", name := "count", desc := "(I)I" } : Jvm.MethodName) ({ cls := "SleepWorkModel", name := "count", desc := "(I)I" } : Jvm.MethodName)) ∈ lw_all := lw_g (lw_at lw_m9 162 rfl) rfl
theorem q2196 : (Jvm.Cond.code ({ cls := "SleepWorkModel", name := "count", desc := "(I)I" } : Jvm.MethodName) prog_22_method_103_code (2 : Nat) (Option.some Jvm.ClassFile.FieldType.int)) ∈ lw_all := lw_g (lw_at lw_m9 163 rfl) rfl
theorem q2217 : (Jvm.Cond.castable "SleepWorkModel" "java/lang/Object") ∈ lw_tbl := lw_at lw_m9 184 rfl
theorem in_X8 : ∀ w ∈ wsX80, w ∈ lw_all := lw_in wsX80 [1636, 1638, 1640, 1642, 1644, 1646, 1648, 1650, 1652, 1654, 1656, 1658, 1660, 1662, 1664, 1666, 1668, 1670, 1672, 1674, 1676, 1678, 1680, 1682, 1684, 1686, 1688, 1690, 1692, 1694, 1696, 1698, 1700, 1702, 1704, 1706, 1708, 1710, 1712, 1714, 1716, 1718, 1720, 1722, 1724, 1726, 1728, 1730, 1732, 1734, 1736, 1738, 1740, 1742, 1744, 1746, 1748, 1750, 1752, 1754, 1756, 1758, 1760, 1762, 1764, 1766, 1768, 1770, 1772, 1774, 1776, 1778, 1780, 1782, 1784, 1786, 1788, 1790, 1792, 1794, 1796, 1798, 1800] (by decide +kernel) (by decide +kernel)
