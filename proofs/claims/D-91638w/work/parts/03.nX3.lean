/-! SoftWheelsModel -/
set_option maxRecDepth 100000
def RX3 : String := "SoftWheelsModel"
def TX3 : u_T := fun k => match k with
  | 0 => ("SoftWheelsModel", "thrown", "I", false)
  | 1 => ("SoftWheelsModel", "tape", "[I", true)
  | 2 => ("SoftWheelsModel", "taped", "I", false)
  | 3 => ("SoftWheelsModel", "size", "I", false)
  | 4 => ("SoftWheelsModel", "at", "I", false)
  | 5 => ("SoftWheelsModel", "end", "I", false)
  | 6 => ("SoftWheelsModel", "token", "I", false)
  | 7 => ("SoftWheelsModel", "whole", "I", false)
  | 8 => ("SoftWheelsModel", "nameSize", "I", false)
  | 9 => ("SoftWheelsModel", "fault", "I", false)
  | 10 => ("SoftWheelsModel", "place", "I", false)
  | 11 => ("SoftWheelsModel", "letters", "[I", true)
  | 12 => ("SoftWheelsModel", "hasBook", "Z", false)
  | 13 => ("SoftWheelsModel", "failed", "Z", false)
  | 14 => ("SoftWheelsModel", "groundNames", "[I", true)
  | 15 => ("SoftWheelsModel", "groundSizes", "[I", true)
  | 16 => ("SoftWheelsModel", "tryNames", "[I", true)
  | 17 => ("SoftWheelsModel", "trySizes", "[I", true)
  | 18 => ("SoftWheelsModel", "sinkMany", "[I", true)
  | 19 => ("SoftWheelsModel", "gripMany", "[I", true)
  | 20 => ("SoftWheelsModel", "sinks", "[I", true)
  | 21 => ("SoftWheelsModel", "grips", "[I", true)
  | 22 => ("SoftWheelsModel", "grounds", "I", false)
  | 23 => ("SoftWheelsModel", "tries", "I", false)
  | 24 => ("SoftWheelsModel", "wheels", "I", false)
  | 25 => ("SoftWheelsModel", "weight", "I", false)
  | 26 => ("SoftWheelsModel", "clear", "I", false)
  | 27 => ("SoftWheelsModel", "tip", "I", false)
  | 28 => ("SoftWheelsModel", "drag", "I", false)
  | 29 => ("SoftWheelsModel", "hasRover", "Z", false)
  | 30 => ("SoftWheelsModel", "each", "[I", true)
  | 31 => ("SoftWheelsModel", "one", "[I", true)
  | 32 => ("SoftWheelsModel", "price", "[I", true)
  | 33 => ("SoftWheelsModel", "keep", "[I", true)
  | 34 => ("SoftWheelsModel", "hasMap", "Z", false)
  | 35 => ("SoftWheelsModel", "wide", "I", false)
  | 36 => ("SoftWheelsModel", "high", "I", false)
  | 37 => ("SoftWheelsModel", "doubts", "I", false)
  | 38 => ("SoftWheelsModel", "dead", "I", false)
  | 39 => ("SoftWheelsModel", "trouble", "I", false)
  | 40 => ("SoftWheelsModel", "plans", "I", false)
  | 41 => ("SoftWheelsModel", "heights", "[I", true)
  | 42 => ("SoftWheelsModel", "floors", "[I", true)
  | 43 => ("SoftWheelsModel", "doubtOf", "[I", true)
  | 44 => ("SoftWheelsModel", "doubtCell", "[I", true)
  | 45 => ("SoftWheelsModel", "known", "[I", true)
  | 46 => ("SoftWheelsModel", "weights", "[I", true)
  | 47 => ("SoftWheelsModel", "dug", "[I", true)
  | 48 => ("SoftWheelsModel", "value", "[J", true)
  | 49 => ("SoftWheelsModel", "goalNow", "I", false)
  | 50 => ("SoftWheelsModel", "meanNow", "Z", false)
  | 51 => ("SoftWheelsModel", "isSolved", "Z", false)
  | 52 => ("SoftWheelsModel", "kinds", "[I", true)
  | 53 => ("SoftWheelsModel", "many", "[I", true)
  | 54 => ("SoftWheelsModel", "path", "[I", true)
  | 55 => ("SoftWheelsModel", "pathSize", "I", false)
  | 56 => ("SoftWheelsModel", "orders", "[I", true)
  | 57 => ("SoftWheelsModel", "orderMany", "[I", true)
  | 58 => ("SoftWheelsModel", "fresh", "I", false)
  | 59 => ("SoftWheelsModel", "stepMany", "I", false)
  | 60 => ("SoftWheelsModel", "open", "[I", true)
  | 61 => ("SoftWheelsModel", "leaps", "[I", true)
  | 62 => ("SoftWheelsModel", "isElse", "[Z", true)
  | 63 => ("SoftWheelsModel", "firstTruth", "I", false)
  | 64 => ("SoftWheelsModel", "firstWhy", "I", false)
  | 65 => ("SoftWheelsModel", "firstSteps", "I", false)
  | 66 => ("SoftWheelsModel", "planSteps", "I", false)
  | 67 => ("SoftWheelsModel", "planCost", "I", false)
  | 68 => ("SoftWheelsModel", "digCost", "[I", true)
  | 69 => ("SoftWheelsModel", "isDigKnown", "Z", false)
  | 70 => ("SoftWheelsModel", "stepCost", "[I", true)
  | 71 => ("SoftWheelsModel", "byGround", "[I", true)
  | 72 => ("SoftWheelsModel", "nears", "[I", true)
  | 73 => ("SoftWheelsModel", "hasPath", "Z", false)
  | _ => ("SoftWheelsModel", "other", "[I", true)
def tyX3 : Nat → FieldType := fun k => match k with
  | 0 => .int
  | 1 => .array .int
  | 2 => .int
  | 3 => .int
  | 4 => .int
  | 5 => .int
  | 6 => .int
  | 7 => .int
  | 8 => .int
  | 9 => .int
  | 10 => .int
  | 11 => .array .int
  | 12 => .boolean
  | 13 => .boolean
  | 14 => .array .int
  | 15 => .array .int
  | 16 => .array .int
  | 17 => .array .int
  | 18 => .array .int
  | 19 => .array .int
  | 20 => .array .int
  | 21 => .array .int
  | 22 => .int
  | 23 => .int
  | 24 => .int
  | 25 => .int
  | 26 => .int
  | 27 => .int
  | 28 => .int
  | 29 => .boolean
  | 30 => .array .int
  | 31 => .array .int
  | 32 => .array .int
  | 33 => .array .int
  | 34 => .boolean
  | 35 => .int
  | 36 => .int
  | 37 => .int
  | 38 => .int
  | 39 => .int
  | 40 => .int
  | 41 => .array .int
  | 42 => .array .int
  | 43 => .array .int
  | 44 => .array .int
  | 45 => .array .int
  | 46 => .array .int
  | 47 => .array .int
  | 48 => .array .long
  | 49 => .int
  | 50 => .boolean
  | 51 => .boolean
  | 52 => .array .int
  | 53 => .array .int
  | 54 => .array .int
  | 55 => .int
  | 56 => .array .int
  | 57 => .array .int
  | 58 => .int
  | 59 => .int
  | 60 => .array .int
  | 61 => .array .int
  | 62 => .array .boolean
  | 63 => .int
  | 64 => .int
  | 65 => .int
  | 66 => .int
  | 67 => .int
  | 68 => .array .int
  | 69 => .boolean
  | 70 => .array .int
  | 71 => .array .int
  | 72 => .array .int
  | 73 => .boolean
  | _ => .array .int
abbrev wsX30 : List Cond := u_ws RX3 TX3 75
set_option maxRecDepth 100000 in
theorem nmX3 : ∀ a, a < 75 → ∀ b, b < 75 → a ≠ b → (TX3 a).2.1 ≠ (TX3 b).2.1 := by decide +kernel
set_option maxRecDepth 100000 in
theorem tyX3_ok : ∀ k, k < 75 → parseFieldDescriptor (TX3 k).2.2.1 = some (tyX3 k) := by decide +kernel
abbrev cX3_init : ByteArray := prog_23_method_1_code
def yX3_init : MethodName := ⟨RX3, "<init>", "()V"⟩
def dkwX3_init_13 : List UInt8 := [181, 0, 128, 177]
abbrev dktX3_init_13 : List UInt8 := dkwX3_init_13 ++ []
def dkwX3_init_12 : List UInt8 := [17, 12, 128, 188, 10, 181, 0, 122, 42, 16, 100, 188, 10, 181, 0, 125, 42, 17, 7, 208, 188, 10]
abbrev dktX3_init_12 : List UInt8 := dkwX3_init_12 ++ dktX3_init_13
def dkwX3_init_11 : List UInt8 := [2, 181, 0, 113, 42, 17, 61, 9, 188, 10, 181, 0, 116, 42, 17, 1, 144, 188, 10, 181, 0, 119, 42]
abbrev dktX3_init_11 : List UInt8 := dkwX3_init_11 ++ dktX3_init_12
def dkwX3_init_10 : List UInt8 := [188, 10, 181, 0, 100, 42, 16, 8, 188, 4, 181, 0, 103, 42, 2, 181, 0, 107, 42, 2, 181, 0, 110, 42]
abbrev dktX3_init_10 : List UInt8 := dkwX3_init_10 ++ dktX3_init_11
def dkwX3_init_9 : List UInt8 := [188, 10, 181, 0, 91, 42, 16, 8, 188, 10, 181, 0, 94, 42, 16, 8, 188, 10, 181, 0, 97, 42, 16, 8]
abbrev dktX3_init_9 : List UInt8 := dkwX3_init_9 ++ dktX3_init_10
def dkwX3_init_8 : List UInt8 := [181, 0, 82, 42, 8, 188, 10, 181, 0, 85, 42, 17, 7, 208, 188, 10, 181, 0, 88, 42, 17, 16, 0]
abbrev dktX3_init_8 : List UInt8 := dkwX3_init_8 ++ dktX3_init_9
def dkwX3_init_7 : List UInt8 := [188, 10, 181, 0, 70, 42, 18, 73, 188, 11, 181, 0, 74, 42, 2, 181, 0, 78, 42, 16, 20, 188, 10]
abbrev dktX3_init_7 : List UInt8 := dkwX3_init_7 ++ dktX3_init_8
def dkwX3_init_6 : List UInt8 := [8, 188, 10, 181, 0, 61, 42, 8, 188, 10, 181, 0, 64, 42, 16, 40, 188, 10, 181, 0, 67, 42, 16, 6]
abbrev dktX3_init_6 : List UInt8 := dkwX3_init_6 ++ dktX3_init_7
def dkwX3_init_5 : List UInt8 := [16, 100, 188, 10, 181, 0, 52, 42, 16, 100, 188, 10, 181, 0, 55, 42, 16, 100, 188, 10, 181, 0, 58, 42]
abbrev dktX3_init_5 : List UInt8 := dkwX3_init_5 ++ dktX3_init_6
def dkwX3_init_4 : List UInt8 := [188, 10, 181, 0, 43, 42, 16, 6, 188, 10, 181, 0, 46, 42, 17, 1, 144, 188, 10, 181, 0, 49, 42]
abbrev dktX3_init_4 : List UInt8 := dkwX3_init_4 ++ dktX3_init_5
def dkwX3_init_3 : List UInt8 := [188, 10, 181, 0, 34, 42, 16, 64, 188, 10, 181, 0, 37, 42, 16, 6, 188, 10, 181, 0, 40, 42, 16, 6]
abbrev dktX3_init_3 : List UInt8 := dkwX3_init_3 ++ dktX3_init_4
def dkwX3_init_2 : List UInt8 := [188, 10, 181, 0, 25, 42, 16, 8, 188, 10, 181, 0, 28, 42, 16, 8, 188, 10, 181, 0, 31, 42, 16, 64]
abbrev dktX3_init_2 : List UInt8 := dkwX3_init_2 ++ dktX3_init_3
def dkwX3_init_1 : List UInt8 := [188, 10, 181, 0, 16, 42, 16, 8, 188, 10, 181, 0, 19, 42, 16, 64, 188, 10, 181, 0, 22, 42, 16, 8]
abbrev dktX3_init_1 : List UInt8 := dkwX3_init_1 ++ dktX3_init_2
def dkwX3_init_0 : List UInt8 := [42, 183, 0, 1, 42, 17, 1, 244, 188, 10, 181, 0, 7, 42, 16, 8, 188, 10, 181, 0, 13, 42, 16, 64]
abbrev dktX3_init_0 : List UInt8 := dkwX3_init_0 ++ dktX3_init_1
theorem dksX3_init_0 : cX3_init.data.toList.drop 0 = dktX3_init_0 := by decide +kernel
theorem dksX3_init_1 : cX3_init.data.toList.drop 24 = dktX3_init_1 := dk_seg dksX3_init_0 24 rfl rfl
theorem dksX3_init_2 : cX3_init.data.toList.drop 48 = dktX3_init_2 := dk_seg dksX3_init_1 24 rfl rfl
theorem dksX3_init_3 : cX3_init.data.toList.drop 72 = dktX3_init_3 := dk_seg dksX3_init_2 24 rfl rfl
theorem dksX3_init_4 : cX3_init.data.toList.drop 96 = dktX3_init_4 := dk_seg dksX3_init_3 24 rfl rfl
theorem dksX3_init_5 : cX3_init.data.toList.drop 119 = dktX3_init_5 := dk_seg dksX3_init_4 23 rfl rfl
theorem dksX3_init_6 : cX3_init.data.toList.drop 143 = dktX3_init_6 := dk_seg dksX3_init_5 24 rfl rfl
theorem dksX3_init_7 : cX3_init.data.toList.drop 167 = dktX3_init_7 := dk_seg dksX3_init_6 24 rfl rfl
theorem dksX3_init_8 : cX3_init.data.toList.drop 190 = dktX3_init_8 := dk_seg dksX3_init_7 23 rfl rfl
theorem dksX3_init_9 : cX3_init.data.toList.drop 213 = dktX3_init_9 := dk_seg dksX3_init_8 23 rfl rfl
theorem dksX3_init_10 : cX3_init.data.toList.drop 237 = dktX3_init_10 := dk_seg dksX3_init_9 24 rfl rfl
theorem dksX3_init_11 : cX3_init.data.toList.drop 261 = dktX3_init_11 := dk_seg dksX3_init_10 24 rfl rfl
theorem dksX3_init_12 : cX3_init.data.toList.drop 284 = dktX3_init_12 := dk_seg dksX3_init_11 23 rfl rfl
theorem dksX3_init_13 : cX3_init.data.toList.drop 306 = dktX3_init_13 := dk_seg dksX3_init_12 22 rfl rfl
theorem dX3_init_0 : decode cX3_init 0 = .ok (.aload_n 0, 1) := dk_42 (dk_at dksX3_init_0 0 rfl rfl)
theorem dX3_init_1 : decode cX3_init 1 = .ok (.invokespecial 1, 3) := dk_183 0 1 (dk_at dksX3_init_0 1 rfl rfl)
theorem dX3_init_4 : decode cX3_init 4 = .ok (.aload_n 0, 1) := dk_42 (dk_at dksX3_init_0 4 rfl rfl)
theorem dX3_init_5 : decode cX3_init 5 = .ok (.sipush 500, 3) := dk_17 1 244 (dk_at dksX3_init_0 5 rfl rfl)
theorem dX3_init_8 : decode cX3_init 8 = .ok (.newarray .int, 2) := dk_188_10 (dk_at dksX3_init_0 8 rfl rfl)
theorem dX3_init_10 : decode cX3_init 10 = .ok (.putfield 7, 3) := dk_181 0 7 (dk_at dksX3_init_0 10 rfl rfl)
theorem dX3_init_13 : decode cX3_init 13 = .ok (.aload_n 0, 1) := dk_42 (dk_at dksX3_init_0 13 rfl rfl)
theorem dX3_init_14 : decode cX3_init 14 = .ok (.bipush 8, 2) := dk_16 8 (dk_at dksX3_init_0 14 rfl rfl)
theorem dX3_init_16 : decode cX3_init 16 = .ok (.newarray .int, 2) := dk_188_10 (dk_at dksX3_init_0 16 rfl rfl)
theorem dX3_init_18 : decode cX3_init 18 = .ok (.putfield 13, 3) := dk_181 0 13 (dk_at dksX3_init_0 18 rfl rfl)
theorem dX3_init_21 : decode cX3_init 21 = .ok (.aload_n 0, 1) := dk_42 (dk_at dksX3_init_0 21 rfl rfl)
theorem dX3_init_22 : decode cX3_init 22 = .ok (.bipush 64, 2) := dk_16 64 (dk_at dksX3_init_0 22 rfl rfl)
theorem dX3_init_24 : decode cX3_init 24 = .ok (.newarray .int, 2) := dk_188_10 (dk_at dksX3_init_1 0 rfl rfl)
theorem dX3_init_26 : decode cX3_init 26 = .ok (.putfield 16, 3) := dk_181 0 16 (dk_at dksX3_init_1 2 rfl rfl)
theorem dX3_init_29 : decode cX3_init 29 = .ok (.aload_n 0, 1) := dk_42 (dk_at dksX3_init_1 5 rfl rfl)
theorem dX3_init_30 : decode cX3_init 30 = .ok (.bipush 8, 2) := dk_16 8 (dk_at dksX3_init_1 6 rfl rfl)
theorem dX3_init_32 : decode cX3_init 32 = .ok (.newarray .int, 2) := dk_188_10 (dk_at dksX3_init_1 8 rfl rfl)
theorem dX3_init_34 : decode cX3_init 34 = .ok (.putfield 19, 3) := dk_181 0 19 (dk_at dksX3_init_1 10 rfl rfl)
theorem dX3_init_37 : decode cX3_init 37 = .ok (.aload_n 0, 1) := dk_42 (dk_at dksX3_init_1 13 rfl rfl)
theorem dX3_init_38 : decode cX3_init 38 = .ok (.bipush 64, 2) := dk_16 64 (dk_at dksX3_init_1 14 rfl rfl)
theorem dX3_init_40 : decode cX3_init 40 = .ok (.newarray .int, 2) := dk_188_10 (dk_at dksX3_init_1 16 rfl rfl)
theorem dX3_init_42 : decode cX3_init 42 = .ok (.putfield 22, 3) := dk_181 0 22 (dk_at dksX3_init_1 18 rfl rfl)
theorem dX3_init_45 : decode cX3_init 45 = .ok (.aload_n 0, 1) := dk_42 (dk_at dksX3_init_1 21 rfl rfl)
theorem dX3_init_46 : decode cX3_init 46 = .ok (.bipush 8, 2) := dk_16 8 (dk_at dksX3_init_1 22 rfl rfl)
theorem dX3_init_48 : decode cX3_init 48 = .ok (.newarray .int, 2) := dk_188_10 (dk_at dksX3_init_2 0 rfl rfl)
theorem dX3_init_50 : decode cX3_init 50 = .ok (.putfield 25, 3) := dk_181 0 25 (dk_at dksX3_init_2 2 rfl rfl)
theorem dX3_init_53 : decode cX3_init 53 = .ok (.aload_n 0, 1) := dk_42 (dk_at dksX3_init_2 5 rfl rfl)
theorem dX3_init_54 : decode cX3_init 54 = .ok (.bipush 8, 2) := dk_16 8 (dk_at dksX3_init_2 6 rfl rfl)
theorem dX3_init_56 : decode cX3_init 56 = .ok (.newarray .int, 2) := dk_188_10 (dk_at dksX3_init_2 8 rfl rfl)
theorem dX3_init_58 : decode cX3_init 58 = .ok (.putfield 28, 3) := dk_181 0 28 (dk_at dksX3_init_2 10 rfl rfl)
theorem dX3_init_61 : decode cX3_init 61 = .ok (.aload_n 0, 1) := dk_42 (dk_at dksX3_init_2 13 rfl rfl)
theorem dX3_init_62 : decode cX3_init 62 = .ok (.bipush 8, 2) := dk_16 8 (dk_at dksX3_init_2 14 rfl rfl)
theorem dX3_init_64 : decode cX3_init 64 = .ok (.newarray .int, 2) := dk_188_10 (dk_at dksX3_init_2 16 rfl rfl)
theorem dX3_init_66 : decode cX3_init 66 = .ok (.putfield 31, 3) := dk_181 0 31 (dk_at dksX3_init_2 18 rfl rfl)
theorem dX3_init_69 : decode cX3_init 69 = .ok (.aload_n 0, 1) := dk_42 (dk_at dksX3_init_2 21 rfl rfl)
theorem dX3_init_70 : decode cX3_init 70 = .ok (.bipush 64, 2) := dk_16 64 (dk_at dksX3_init_2 22 rfl rfl)
theorem dX3_init_72 : decode cX3_init 72 = .ok (.newarray .int, 2) := dk_188_10 (dk_at dksX3_init_3 0 rfl rfl)
theorem dX3_init_74 : decode cX3_init 74 = .ok (.putfield 34, 3) := dk_181 0 34 (dk_at dksX3_init_3 2 rfl rfl)
theorem dX3_init_77 : decode cX3_init 77 = .ok (.aload_n 0, 1) := dk_42 (dk_at dksX3_init_3 5 rfl rfl)
theorem dX3_init_78 : decode cX3_init 78 = .ok (.bipush 64, 2) := dk_16 64 (dk_at dksX3_init_3 6 rfl rfl)
theorem dX3_init_80 : decode cX3_init 80 = .ok (.newarray .int, 2) := dk_188_10 (dk_at dksX3_init_3 8 rfl rfl)
theorem dX3_init_82 : decode cX3_init 82 = .ok (.putfield 37, 3) := dk_181 0 37 (dk_at dksX3_init_3 10 rfl rfl)
theorem dX3_init_85 : decode cX3_init 85 = .ok (.aload_n 0, 1) := dk_42 (dk_at dksX3_init_3 13 rfl rfl)
theorem dX3_init_86 : decode cX3_init 86 = .ok (.bipush 6, 2) := dk_16 6 (dk_at dksX3_init_3 14 rfl rfl)
theorem dX3_init_88 : decode cX3_init 88 = .ok (.newarray .int, 2) := dk_188_10 (dk_at dksX3_init_3 16 rfl rfl)
theorem dX3_init_90 : decode cX3_init 90 = .ok (.putfield 40, 3) := dk_181 0 40 (dk_at dksX3_init_3 18 rfl rfl)
theorem dX3_init_93 : decode cX3_init 93 = .ok (.aload_n 0, 1) := dk_42 (dk_at dksX3_init_3 21 rfl rfl)
theorem dX3_init_94 : decode cX3_init 94 = .ok (.bipush 6, 2) := dk_16 6 (dk_at dksX3_init_3 22 rfl rfl)
theorem dX3_init_96 : decode cX3_init 96 = .ok (.newarray .int, 2) := dk_188_10 (dk_at dksX3_init_4 0 rfl rfl)
theorem dX3_init_98 : decode cX3_init 98 = .ok (.putfield 43, 3) := dk_181 0 43 (dk_at dksX3_init_4 2 rfl rfl)
theorem dX3_init_101 : decode cX3_init 101 = .ok (.aload_n 0, 1) := dk_42 (dk_at dksX3_init_4 5 rfl rfl)
theorem dX3_init_102 : decode cX3_init 102 = .ok (.bipush 6, 2) := dk_16 6 (dk_at dksX3_init_4 6 rfl rfl)
theorem dX3_init_104 : decode cX3_init 104 = .ok (.newarray .int, 2) := dk_188_10 (dk_at dksX3_init_4 8 rfl rfl)
theorem dX3_init_106 : decode cX3_init 106 = .ok (.putfield 46, 3) := dk_181 0 46 (dk_at dksX3_init_4 10 rfl rfl)
theorem dX3_init_109 : decode cX3_init 109 = .ok (.aload_n 0, 1) := dk_42 (dk_at dksX3_init_4 13 rfl rfl)
theorem dX3_init_110 : decode cX3_init 110 = .ok (.sipush 400, 3) := dk_17 1 144 (dk_at dksX3_init_4 14 rfl rfl)
theorem dX3_init_113 : decode cX3_init 113 = .ok (.newarray .int, 2) := dk_188_10 (dk_at dksX3_init_4 17 rfl rfl)
theorem dX3_init_115 : decode cX3_init 115 = .ok (.putfield 49, 3) := dk_181 0 49 (dk_at dksX3_init_4 19 rfl rfl)
theorem dX3_init_118 : decode cX3_init 118 = .ok (.aload_n 0, 1) := dk_42 (dk_at dksX3_init_4 22 rfl rfl)
theorem dX3_init_119 : decode cX3_init 119 = .ok (.bipush 100, 2) := dk_16 100 (dk_at dksX3_init_5 0 rfl rfl)
theorem dX3_init_121 : decode cX3_init 121 = .ok (.newarray .int, 2) := dk_188_10 (dk_at dksX3_init_5 2 rfl rfl)
theorem dX3_init_123 : decode cX3_init 123 = .ok (.putfield 52, 3) := dk_181 0 52 (dk_at dksX3_init_5 4 rfl rfl)
theorem dX3_init_126 : decode cX3_init 126 = .ok (.aload_n 0, 1) := dk_42 (dk_at dksX3_init_5 7 rfl rfl)
theorem dX3_init_127 : decode cX3_init 127 = .ok (.bipush 100, 2) := dk_16 100 (dk_at dksX3_init_5 8 rfl rfl)
theorem dX3_init_129 : decode cX3_init 129 = .ok (.newarray .int, 2) := dk_188_10 (dk_at dksX3_init_5 10 rfl rfl)
theorem dX3_init_131 : decode cX3_init 131 = .ok (.putfield 55, 3) := dk_181 0 55 (dk_at dksX3_init_5 12 rfl rfl)
theorem dX3_init_134 : decode cX3_init 134 = .ok (.aload_n 0, 1) := dk_42 (dk_at dksX3_init_5 15 rfl rfl)
theorem dX3_init_135 : decode cX3_init 135 = .ok (.bipush 100, 2) := dk_16 100 (dk_at dksX3_init_5 16 rfl rfl)
theorem dX3_init_137 : decode cX3_init 137 = .ok (.newarray .int, 2) := dk_188_10 (dk_at dksX3_init_5 18 rfl rfl)
theorem dX3_init_139 : decode cX3_init 139 = .ok (.putfield 58, 3) := dk_181 0 58 (dk_at dksX3_init_5 20 rfl rfl)
theorem dX3_init_142 : decode cX3_init 142 = .ok (.aload_n 0, 1) := dk_42 (dk_at dksX3_init_5 23 rfl rfl)
theorem dX3_init_143 : decode cX3_init 143 = .ok (.iconst 5, 1) := dk_8 (dk_at dksX3_init_6 0 rfl rfl)
theorem dX3_init_144 : decode cX3_init 144 = .ok (.newarray .int, 2) := dk_188_10 (dk_at dksX3_init_6 1 rfl rfl)
theorem dX3_init_146 : decode cX3_init 146 = .ok (.putfield 61, 3) := dk_181 0 61 (dk_at dksX3_init_6 3 rfl rfl)
theorem dX3_init_149 : decode cX3_init 149 = .ok (.aload_n 0, 1) := dk_42 (dk_at dksX3_init_6 6 rfl rfl)
theorem dX3_init_150 : decode cX3_init 150 = .ok (.iconst 5, 1) := dk_8 (dk_at dksX3_init_6 7 rfl rfl)
theorem dX3_init_151 : decode cX3_init 151 = .ok (.newarray .int, 2) := dk_188_10 (dk_at dksX3_init_6 8 rfl rfl)
theorem dX3_init_153 : decode cX3_init 153 = .ok (.putfield 64, 3) := dk_181 0 64 (dk_at dksX3_init_6 10 rfl rfl)
theorem dX3_init_156 : decode cX3_init 156 = .ok (.aload_n 0, 1) := dk_42 (dk_at dksX3_init_6 13 rfl rfl)
theorem dX3_init_157 : decode cX3_init 157 = .ok (.bipush 40, 2) := dk_16 40 (dk_at dksX3_init_6 14 rfl rfl)
theorem dX3_init_159 : decode cX3_init 159 = .ok (.newarray .int, 2) := dk_188_10 (dk_at dksX3_init_6 16 rfl rfl)
theorem dX3_init_161 : decode cX3_init 161 = .ok (.putfield 67, 3) := dk_181 0 67 (dk_at dksX3_init_6 18 rfl rfl)
theorem dX3_init_164 : decode cX3_init 164 = .ok (.aload_n 0, 1) := dk_42 (dk_at dksX3_init_6 21 rfl rfl)
theorem dX3_init_165 : decode cX3_init 165 = .ok (.bipush 6, 2) := dk_16 6 (dk_at dksX3_init_6 22 rfl rfl)
theorem dX3_init_167 : decode cX3_init 167 = .ok (.newarray .int, 2) := dk_188_10 (dk_at dksX3_init_7 0 rfl rfl)
theorem dX3_init_169 : decode cX3_init 169 = .ok (.putfield 70, 3) := dk_181 0 70 (dk_at dksX3_init_7 2 rfl rfl)
theorem dX3_init_172 : decode cX3_init 172 = .ok (.aload_n 0, 1) := dk_42 (dk_at dksX3_init_7 5 rfl rfl)
theorem dX3_init_173 : decode cX3_init 173 = .ok (.ldc 73, 2) := dk_18 73 (dk_at dksX3_init_7 6 rfl rfl)
theorem dX3_init_175 : decode cX3_init 175 = .ok (.newarray .long, 2) := dk_188_11 (dk_at dksX3_init_7 8 rfl rfl)
theorem dX3_init_177 : decode cX3_init 177 = .ok (.putfield 74, 3) := dk_181 0 74 (dk_at dksX3_init_7 10 rfl rfl)
theorem dX3_init_180 : decode cX3_init 180 = .ok (.aload_n 0, 1) := dk_42 (dk_at dksX3_init_7 13 rfl rfl)
theorem dX3_init_181 : decode cX3_init 181 = .ok (.iconst (-1), 1) := dk_2 (dk_at dksX3_init_7 14 rfl rfl)
theorem dX3_init_182 : decode cX3_init 182 = .ok (.putfield 78, 3) := dk_181 0 78 (dk_at dksX3_init_7 15 rfl rfl)
theorem dX3_init_185 : decode cX3_init 185 = .ok (.aload_n 0, 1) := dk_42 (dk_at dksX3_init_7 18 rfl rfl)
theorem dX3_init_186 : decode cX3_init 186 = .ok (.bipush 20, 2) := dk_16 20 (dk_at dksX3_init_7 19 rfl rfl)
theorem dX3_init_188 : decode cX3_init 188 = .ok (.newarray .int, 2) := dk_188_10 (dk_at dksX3_init_7 21 rfl rfl)
theorem dX3_init_190 : decode cX3_init 190 = .ok (.putfield 82, 3) := dk_181 0 82 (dk_at dksX3_init_8 0 rfl rfl)
theorem dX3_init_193 : decode cX3_init 193 = .ok (.aload_n 0, 1) := dk_42 (dk_at dksX3_init_8 3 rfl rfl)
theorem dX3_init_194 : decode cX3_init 194 = .ok (.iconst 5, 1) := dk_8 (dk_at dksX3_init_8 4 rfl rfl)
theorem dX3_init_195 : decode cX3_init 195 = .ok (.newarray .int, 2) := dk_188_10 (dk_at dksX3_init_8 5 rfl rfl)
theorem dX3_init_197 : decode cX3_init 197 = .ok (.putfield 85, 3) := dk_181 0 85 (dk_at dksX3_init_8 7 rfl rfl)
theorem dX3_init_200 : decode cX3_init 200 = .ok (.aload_n 0, 1) := dk_42 (dk_at dksX3_init_8 10 rfl rfl)
theorem dX3_init_201 : decode cX3_init 201 = .ok (.sipush 2000, 3) := dk_17 7 208 (dk_at dksX3_init_8 11 rfl rfl)
theorem dX3_init_204 : decode cX3_init 204 = .ok (.newarray .int, 2) := dk_188_10 (dk_at dksX3_init_8 14 rfl rfl)
theorem dX3_init_206 : decode cX3_init 206 = .ok (.putfield 88, 3) := dk_181 0 88 (dk_at dksX3_init_8 16 rfl rfl)
theorem dX3_init_209 : decode cX3_init 209 = .ok (.aload_n 0, 1) := dk_42 (dk_at dksX3_init_8 19 rfl rfl)
theorem dX3_init_210 : decode cX3_init 210 = .ok (.sipush 4096, 3) := dk_17 16 0 (dk_at dksX3_init_8 20 rfl rfl)
theorem dX3_init_213 : decode cX3_init 213 = .ok (.newarray .int, 2) := dk_188_10 (dk_at dksX3_init_9 0 rfl rfl)
theorem dX3_init_215 : decode cX3_init 215 = .ok (.putfield 91, 3) := dk_181 0 91 (dk_at dksX3_init_9 2 rfl rfl)
theorem dX3_init_218 : decode cX3_init 218 = .ok (.aload_n 0, 1) := dk_42 (dk_at dksX3_init_9 5 rfl rfl)
theorem dX3_init_219 : decode cX3_init 219 = .ok (.bipush 8, 2) := dk_16 8 (dk_at dksX3_init_9 6 rfl rfl)
theorem dX3_init_221 : decode cX3_init 221 = .ok (.newarray .int, 2) := dk_188_10 (dk_at dksX3_init_9 8 rfl rfl)
theorem dX3_init_223 : decode cX3_init 223 = .ok (.putfield 94, 3) := dk_181 0 94 (dk_at dksX3_init_9 10 rfl rfl)
theorem dX3_init_226 : decode cX3_init 226 = .ok (.aload_n 0, 1) := dk_42 (dk_at dksX3_init_9 13 rfl rfl)
theorem dX3_init_227 : decode cX3_init 227 = .ok (.bipush 8, 2) := dk_16 8 (dk_at dksX3_init_9 14 rfl rfl)
theorem dX3_init_229 : decode cX3_init 229 = .ok (.newarray .int, 2) := dk_188_10 (dk_at dksX3_init_9 16 rfl rfl)
theorem dX3_init_231 : decode cX3_init 231 = .ok (.putfield 97, 3) := dk_181 0 97 (dk_at dksX3_init_9 18 rfl rfl)
theorem dX3_init_234 : decode cX3_init 234 = .ok (.aload_n 0, 1) := dk_42 (dk_at dksX3_init_9 21 rfl rfl)
theorem dX3_init_235 : decode cX3_init 235 = .ok (.bipush 8, 2) := dk_16 8 (dk_at dksX3_init_9 22 rfl rfl)
theorem dX3_init_237 : decode cX3_init 237 = .ok (.newarray .int, 2) := dk_188_10 (dk_at dksX3_init_10 0 rfl rfl)
theorem dX3_init_239 : decode cX3_init 239 = .ok (.putfield 100, 3) := dk_181 0 100 (dk_at dksX3_init_10 2 rfl rfl)
theorem dX3_init_242 : decode cX3_init 242 = .ok (.aload_n 0, 1) := dk_42 (dk_at dksX3_init_10 5 rfl rfl)
theorem dX3_init_243 : decode cX3_init 243 = .ok (.bipush 8, 2) := dk_16 8 (dk_at dksX3_init_10 6 rfl rfl)
theorem dX3_init_245 : decode cX3_init 245 = .ok (.newarray .boolean, 2) := dk_188_4 (dk_at dksX3_init_10 8 rfl rfl)
theorem dX3_init_247 : decode cX3_init 247 = .ok (.putfield 103, 3) := dk_181 0 103 (dk_at dksX3_init_10 10 rfl rfl)
theorem dX3_init_250 : decode cX3_init 250 = .ok (.aload_n 0, 1) := dk_42 (dk_at dksX3_init_10 13 rfl rfl)
theorem dX3_init_251 : decode cX3_init 251 = .ok (.iconst (-1), 1) := dk_2 (dk_at dksX3_init_10 14 rfl rfl)
theorem dX3_init_252 : decode cX3_init 252 = .ok (.putfield 107, 3) := dk_181 0 107 (dk_at dksX3_init_10 15 rfl rfl)
theorem dX3_init_255 : decode cX3_init 255 = .ok (.aload_n 0, 1) := dk_42 (dk_at dksX3_init_10 18 rfl rfl)
theorem dX3_init_256 : decode cX3_init 256 = .ok (.iconst (-1), 1) := dk_2 (dk_at dksX3_init_10 19 rfl rfl)
theorem dX3_init_257 : decode cX3_init 257 = .ok (.putfield 110, 3) := dk_181 0 110 (dk_at dksX3_init_10 20 rfl rfl)
theorem dX3_init_260 : decode cX3_init 260 = .ok (.aload_n 0, 1) := dk_42 (dk_at dksX3_init_10 23 rfl rfl)
theorem dX3_init_261 : decode cX3_init 261 = .ok (.iconst (-1), 1) := dk_2 (dk_at dksX3_init_11 0 rfl rfl)
theorem dX3_init_262 : decode cX3_init 262 = .ok (.putfield 113, 3) := dk_181 0 113 (dk_at dksX3_init_11 1 rfl rfl)
theorem dX3_init_265 : decode cX3_init 265 = .ok (.aload_n 0, 1) := dk_42 (dk_at dksX3_init_11 4 rfl rfl)
theorem dX3_init_266 : decode cX3_init 266 = .ok (.sipush 15625, 3) := dk_17 61 9 (dk_at dksX3_init_11 5 rfl rfl)
theorem dX3_init_269 : decode cX3_init 269 = .ok (.newarray .int, 2) := dk_188_10 (dk_at dksX3_init_11 8 rfl rfl)
theorem dX3_init_271 : decode cX3_init 271 = .ok (.putfield 116, 3) := dk_181 0 116 (dk_at dksX3_init_11 10 rfl rfl)
theorem dX3_init_274 : decode cX3_init 274 = .ok (.aload_n 0, 1) := dk_42 (dk_at dksX3_init_11 13 rfl rfl)
theorem dX3_init_275 : decode cX3_init 275 = .ok (.sipush 400, 3) := dk_17 1 144 (dk_at dksX3_init_11 14 rfl rfl)
theorem dX3_init_278 : decode cX3_init 278 = .ok (.newarray .int, 2) := dk_188_10 (dk_at dksX3_init_11 17 rfl rfl)
theorem dX3_init_280 : decode cX3_init 280 = .ok (.putfield 119, 3) := dk_181 0 119 (dk_at dksX3_init_11 19 rfl rfl)
theorem dX3_init_283 : decode cX3_init 283 = .ok (.aload_n 0, 1) := dk_42 (dk_at dksX3_init_11 22 rfl rfl)
theorem dX3_init_284 : decode cX3_init 284 = .ok (.sipush 3200, 3) := dk_17 12 128 (dk_at dksX3_init_12 0 rfl rfl)
theorem dX3_init_287 : decode cX3_init 287 = .ok (.newarray .int, 2) := dk_188_10 (dk_at dksX3_init_12 3 rfl rfl)
theorem dX3_init_289 : decode cX3_init 289 = .ok (.putfield 122, 3) := dk_181 0 122 (dk_at dksX3_init_12 5 rfl rfl)
theorem dX3_init_292 : decode cX3_init 292 = .ok (.aload_n 0, 1) := dk_42 (dk_at dksX3_init_12 8 rfl rfl)
theorem dX3_init_293 : decode cX3_init 293 = .ok (.bipush 100, 2) := dk_16 100 (dk_at dksX3_init_12 9 rfl rfl)
theorem dX3_init_295 : decode cX3_init 295 = .ok (.newarray .int, 2) := dk_188_10 (dk_at dksX3_init_12 11 rfl rfl)
theorem dX3_init_297 : decode cX3_init 297 = .ok (.putfield 125, 3) := dk_181 0 125 (dk_at dksX3_init_12 13 rfl rfl)
theorem dX3_init_300 : decode cX3_init 300 = .ok (.aload_n 0, 1) := dk_42 (dk_at dksX3_init_12 16 rfl rfl)
theorem dX3_init_301 : decode cX3_init 301 = .ok (.sipush 2000, 3) := dk_17 7 208 (dk_at dksX3_init_12 17 rfl rfl)
theorem dX3_init_304 : decode cX3_init 304 = .ok (.newarray .int, 2) := dk_188_10 (dk_at dksX3_init_12 20 rfl rfl)
theorem dX3_init_306 : decode cX3_init 306 = .ok (.putfield 128, 3) := dk_181 0 128 (dk_at dksX3_init_13 0 rfl rfl)
theorem dX3_init_309 : decode cX3_init 309 = .ok (.return_, 1) := dk_177 (dk_at dksX3_init_13 3 rfl rfl)
abbrev cX3_thrown : ByteArray := prog_23_method_2_code
def yX3_thrown : MethodName := ⟨RX3, "thrown", "()I"⟩
theorem dX3_thrown_0 : decode cX3_thrown 0 = .ok (.aload_n 0, 1) := by decide +kernel
theorem dX3_thrown_1 : decode cX3_thrown 1 = .ok (.getfield 131, 3) := by decide +kernel
theorem dX3_thrown_4 : decode cX3_thrown 4 = .ok (.ireturn, 1) := by decide +kernel
abbrev cX3_feed : ByteArray := prog_23_method_7_code
def yX3_feed : MethodName := ⟨RX3, "feed", "(IIIII)I"⟩
def dkwX3_feed_5 : List UInt8 := [167, 255, 162, 42, 180, 0, 137, 172]
abbrev dktX3_feed_5 : List UInt8 := dkwX3_feed_5 ++ []
def dkwX3_feed_4 : List UInt8 := [112, 104, 100, 122, 17, 0, 255, 126, 79, 42, 89, 180, 0, 137, 4, 96, 181, 0, 137, 132, 6, 1]
abbrev dktX3_feed_4 : List UInt8 := dkwX3_feed_4 ++ dktX3_feed_5
def dkwX3_feed_3 : List UInt8 := [167, 0, 5, 21, 5, 54, 7, 42, 180, 0, 7, 42, 180, 0, 137, 21, 7, 16, 24, 16, 8, 21, 6, 7]
abbrev dktX3_feed_3 : List UInt8 := dkwX3_feed_3 ++ dktX3_feed_4
def dkwX3_feed_2 : List UInt8 := [28, 167, 0, 28, 21, 6, 16, 12, 162, 0, 7, 29, 167, 0, 17, 21, 6, 16, 16, 162, 0, 8, 21, 4]
abbrev dktX3_feed_2 : List UInt8 := dkwX3_feed_2 ++ dktX3_feed_3
def dkwX3_feed_1 : List UInt8 := [21, 6, 16, 20, 162, 0, 93, 21, 6, 7, 162, 0, 7, 27, 167, 0, 39, 21, 6, 16, 8, 162, 0, 7]
abbrev dktX3_feed_1 : List UInt8 := dkwX3_feed_1 ++ dktX3_feed_2
def dkwX3_feed_0 : List UInt8 := [42, 3, 181, 0, 131, 42, 180, 0, 137, 16, 20, 96, 17, 1, 244, 164, 0, 5, 2, 172, 3, 54, 6]
abbrev dktX3_feed_0 : List UInt8 := dkwX3_feed_0 ++ dktX3_feed_1
theorem dksX3_feed_0 : cX3_feed.data.toList.drop 0 = dktX3_feed_0 := by decide +kernel
theorem dksX3_feed_1 : cX3_feed.data.toList.drop 23 = dktX3_feed_1 := dk_seg dksX3_feed_0 23 rfl rfl
theorem dksX3_feed_2 : cX3_feed.data.toList.drop 47 = dktX3_feed_2 := dk_seg dksX3_feed_1 24 rfl rfl
theorem dksX3_feed_3 : cX3_feed.data.toList.drop 71 = dktX3_feed_3 := dk_seg dksX3_feed_2 24 rfl rfl
theorem dksX3_feed_4 : cX3_feed.data.toList.drop 95 = dktX3_feed_4 := dk_seg dksX3_feed_3 24 rfl rfl
theorem dksX3_feed_5 : cX3_feed.data.toList.drop 117 = dktX3_feed_5 := dk_seg dksX3_feed_4 22 rfl rfl
theorem dX3_feed_0 : decode cX3_feed 0 = .ok (.aload_n 0, 1) := dk_42 (dk_at dksX3_feed_0 0 rfl rfl)
theorem dX3_feed_1 : decode cX3_feed 1 = .ok (.iconst 0, 1) := dk_3 (dk_at dksX3_feed_0 1 rfl rfl)
theorem dX3_feed_2 : decode cX3_feed 2 = .ok (.putfield 131, 3) := dk_181 0 131 (dk_at dksX3_feed_0 2 rfl rfl)
theorem dX3_feed_5 : decode cX3_feed 5 = .ok (.aload_n 0, 1) := dk_42 (dk_at dksX3_feed_0 5 rfl rfl)
theorem dX3_feed_6 : decode cX3_feed 6 = .ok (.getfield 137, 3) := dk_180 0 137 (dk_at dksX3_feed_0 6 rfl rfl)
theorem dX3_feed_9 : decode cX3_feed 9 = .ok (.bipush 20, 2) := dk_16 20 (dk_at dksX3_feed_0 9 rfl rfl)
theorem dX3_feed_11 : decode cX3_feed 11 = .ok (.iadd, 1) := dk_96 (dk_at dksX3_feed_0 11 rfl rfl)
theorem dX3_feed_12 : decode cX3_feed 12 = .ok (.sipush 500, 3) := dk_17 1 244 (dk_at dksX3_feed_0 12 rfl rfl)
theorem dX3_feed_15 : decode cX3_feed 15 = .ok (.if_icmp .le 5, 3) := dk_164 0 5 (dk_at dksX3_feed_0 15 rfl rfl)
theorem dX3_feed_18 : decode cX3_feed 18 = .ok (.iconst (-1), 1) := dk_2 (dk_at dksX3_feed_0 18 rfl rfl)
theorem dX3_feed_19 : decode cX3_feed 19 = .ok (.ireturn, 1) := dk_172 (dk_at dksX3_feed_0 19 rfl rfl)
theorem dX3_feed_20 : decode cX3_feed 20 = .ok (.iconst 0, 1) := dk_3 (dk_at dksX3_feed_0 20 rfl rfl)
theorem dX3_feed_21 : decode cX3_feed 21 = .ok (.istore 6, 2) := dk_54 6 (dk_at dksX3_feed_0 21 rfl rfl)
theorem dX3_feed_23 : decode cX3_feed 23 = .ok (.iload 6, 2) := dk_21 6 (dk_at dksX3_feed_1 0 rfl rfl)
theorem dX3_feed_25 : decode cX3_feed 25 = .ok (.bipush 20, 2) := dk_16 20 (dk_at dksX3_feed_1 2 rfl rfl)
theorem dX3_feed_27 : decode cX3_feed 27 = .ok (.if_icmp .ge 93, 3) := dk_162 0 93 (dk_at dksX3_feed_1 4 rfl rfl)
theorem dX3_feed_30 : decode cX3_feed 30 = .ok (.iload 6, 2) := dk_21 6 (dk_at dksX3_feed_1 7 rfl rfl)
theorem dX3_feed_32 : decode cX3_feed 32 = .ok (.iconst 4, 1) := dk_7 (dk_at dksX3_feed_1 9 rfl rfl)
theorem dX3_feed_33 : decode cX3_feed 33 = .ok (.if_icmp .ge 7, 3) := dk_162 0 7 (dk_at dksX3_feed_1 10 rfl rfl)
theorem dX3_feed_36 : decode cX3_feed 36 = .ok (.iload_n 1, 1) := dk_27 (dk_at dksX3_feed_1 13 rfl rfl)
theorem dX3_feed_37 : decode cX3_feed 37 = .ok (.goto 39, 3) := dk_167 0 39 (dk_at dksX3_feed_1 14 rfl rfl)
theorem dX3_feed_40 : decode cX3_feed 40 = .ok (.iload 6, 2) := dk_21 6 (dk_at dksX3_feed_1 17 rfl rfl)
theorem dX3_feed_42 : decode cX3_feed 42 = .ok (.bipush 8, 2) := dk_16 8 (dk_at dksX3_feed_1 19 rfl rfl)
theorem dX3_feed_44 : decode cX3_feed 44 = .ok (.if_icmp .ge 7, 3) := dk_162 0 7 (dk_at dksX3_feed_1 21 rfl rfl)
theorem dX3_feed_47 : decode cX3_feed 47 = .ok (.iload_n 2, 1) := dk_28 (dk_at dksX3_feed_2 0 rfl rfl)
theorem dX3_feed_48 : decode cX3_feed 48 = .ok (.goto 28, 3) := dk_167 0 28 (dk_at dksX3_feed_2 1 rfl rfl)
theorem dX3_feed_51 : decode cX3_feed 51 = .ok (.iload 6, 2) := dk_21 6 (dk_at dksX3_feed_2 4 rfl rfl)
theorem dX3_feed_53 : decode cX3_feed 53 = .ok (.bipush 12, 2) := dk_16 12 (dk_at dksX3_feed_2 6 rfl rfl)
theorem dX3_feed_55 : decode cX3_feed 55 = .ok (.if_icmp .ge 7, 3) := dk_162 0 7 (dk_at dksX3_feed_2 8 rfl rfl)
theorem dX3_feed_58 : decode cX3_feed 58 = .ok (.iload_n 3, 1) := dk_29 (dk_at dksX3_feed_2 11 rfl rfl)
theorem dX3_feed_59 : decode cX3_feed 59 = .ok (.goto 17, 3) := dk_167 0 17 (dk_at dksX3_feed_2 12 rfl rfl)
theorem dX3_feed_62 : decode cX3_feed 62 = .ok (.iload 6, 2) := dk_21 6 (dk_at dksX3_feed_2 15 rfl rfl)
theorem dX3_feed_64 : decode cX3_feed 64 = .ok (.bipush 16, 2) := dk_16 16 (dk_at dksX3_feed_2 17 rfl rfl)
theorem dX3_feed_66 : decode cX3_feed 66 = .ok (.if_icmp .ge 8, 3) := dk_162 0 8 (dk_at dksX3_feed_2 19 rfl rfl)
theorem dX3_feed_69 : decode cX3_feed 69 = .ok (.iload 4, 2) := dk_21 4 (dk_at dksX3_feed_2 22 rfl rfl)
theorem dX3_feed_71 : decode cX3_feed 71 = .ok (.goto 5, 3) := dk_167 0 5 (dk_at dksX3_feed_3 0 rfl rfl)
theorem dX3_feed_74 : decode cX3_feed 74 = .ok (.iload 5, 2) := dk_21 5 (dk_at dksX3_feed_3 3 rfl rfl)
theorem dX3_feed_76 : decode cX3_feed 76 = .ok (.istore 7, 2) := dk_54 7 (dk_at dksX3_feed_3 5 rfl rfl)
theorem dX3_feed_78 : decode cX3_feed 78 = .ok (.aload_n 0, 1) := dk_42 (dk_at dksX3_feed_3 7 rfl rfl)
theorem dX3_feed_79 : decode cX3_feed 79 = .ok (.getfield 7, 3) := dk_180 0 7 (dk_at dksX3_feed_3 8 rfl rfl)
theorem dX3_feed_82 : decode cX3_feed 82 = .ok (.aload_n 0, 1) := dk_42 (dk_at dksX3_feed_3 11 rfl rfl)
theorem dX3_feed_83 : decode cX3_feed 83 = .ok (.getfield 137, 3) := dk_180 0 137 (dk_at dksX3_feed_3 12 rfl rfl)
theorem dX3_feed_86 : decode cX3_feed 86 = .ok (.iload 7, 2) := dk_21 7 (dk_at dksX3_feed_3 15 rfl rfl)
theorem dX3_feed_88 : decode cX3_feed 88 = .ok (.bipush 24, 2) := dk_16 24 (dk_at dksX3_feed_3 17 rfl rfl)
theorem dX3_feed_90 : decode cX3_feed 90 = .ok (.bipush 8, 2) := dk_16 8 (dk_at dksX3_feed_3 19 rfl rfl)
theorem dX3_feed_92 : decode cX3_feed 92 = .ok (.iload 6, 2) := dk_21 6 (dk_at dksX3_feed_3 21 rfl rfl)
theorem dX3_feed_94 : decode cX3_feed 94 = .ok (.iconst 4, 1) := dk_7 (dk_at dksX3_feed_3 23 rfl rfl)
theorem dX3_feed_95 : decode cX3_feed 95 = .ok (.irem, 1) := dk_112 (dk_at dksX3_feed_4 0 rfl rfl)
theorem dX3_feed_96 : decode cX3_feed 96 = .ok (.imul, 1) := dk_104 (dk_at dksX3_feed_4 1 rfl rfl)
theorem dX3_feed_97 : decode cX3_feed 97 = .ok (.isub, 1) := dk_100 (dk_at dksX3_feed_4 2 rfl rfl)
theorem dX3_feed_98 : decode cX3_feed 98 = .ok (.ishr, 1) := dk_122 (dk_at dksX3_feed_4 3 rfl rfl)
theorem dX3_feed_99 : decode cX3_feed 99 = .ok (.sipush 255, 3) := dk_17 0 255 (dk_at dksX3_feed_4 4 rfl rfl)
theorem dX3_feed_102 : decode cX3_feed 102 = .ok (.iand, 1) := dk_126 (dk_at dksX3_feed_4 7 rfl rfl)
theorem dX3_feed_103 : decode cX3_feed 103 = .ok (.iastore, 1) := dk_79 (dk_at dksX3_feed_4 8 rfl rfl)
theorem dX3_feed_104 : decode cX3_feed 104 = .ok (.aload_n 0, 1) := dk_42 (dk_at dksX3_feed_4 9 rfl rfl)
theorem dX3_feed_105 : decode cX3_feed 105 = .ok (.dup, 1) := dk_89 (dk_at dksX3_feed_4 10 rfl rfl)
theorem dX3_feed_106 : decode cX3_feed 106 = .ok (.getfield 137, 3) := dk_180 0 137 (dk_at dksX3_feed_4 11 rfl rfl)
theorem dX3_feed_109 : decode cX3_feed 109 = .ok (.iconst 1, 1) := dk_4 (dk_at dksX3_feed_4 14 rfl rfl)
theorem dX3_feed_110 : decode cX3_feed 110 = .ok (.iadd, 1) := dk_96 (dk_at dksX3_feed_4 15 rfl rfl)
theorem dX3_feed_111 : decode cX3_feed 111 = .ok (.putfield 137, 3) := dk_181 0 137 (dk_at dksX3_feed_4 16 rfl rfl)
theorem dX3_feed_114 : decode cX3_feed 114 = .ok (.iinc 6 1, 3) := dk_132 6 1 (dk_at dksX3_feed_4 19 rfl rfl)
theorem dX3_feed_117 : decode cX3_feed 117 = .ok (.goto (-94), 3) := dk_167 255 162 (dk_at dksX3_feed_5 0 rfl rfl)
theorem dX3_feed_120 : decode cX3_feed 120 = .ok (.aload_n 0, 1) := dk_42 (dk_at dksX3_feed_5 3 rfl rfl)
theorem dX3_feed_121 : decode cX3_feed 121 = .ok (.getfield 137, 3) := dk_180 0 137 (dk_at dksX3_feed_5 4 rfl rfl)
theorem dX3_feed_124 : decode cX3_feed 124 = .ok (.ireturn, 1) := dk_172 (dk_at dksX3_feed_5 7 rfl rfl)
abbrev cX3_book : ByteArray := prog_23_method_22_code
def yX3_book : MethodName := ⟨RX3, "book", "(I)I"⟩
def dkwX3_book_9 : List UInt8 := [42, 180, 0, 228, 172]
abbrev dktX3_book_9 : List UInt8 := dkwX3_book_9 ++ []
def dkwX3_book_8 : List UInt8 := [181, 1, 31, 3, 61, 28, 16, 6, 162, 0, 16, 42, 180, 0, 70, 28, 3, 79, 132, 2, 1, 167, 255, 240]
abbrev dktX3_book_8 : List UInt8 := dkwX3_book_8 ++ dktX3_book_9
def dkwX3_book_7 : List UInt8 := [42, 3, 181, 1, 19, 42, 3, 181, 1, 22, 42, 3, 181, 1, 25, 42, 3, 181, 1, 28, 42, 3]
abbrev dktX3_book_7 : List UInt8 := dkwX3_book_7 ++ dktX3_book_8
def dkwX3_book_6 : List UInt8 := [153, 0, 14, 42, 4, 182, 0, 255, 42, 7, 182, 0, 252, 172, 42, 4, 181, 1, 13, 42, 3, 181, 1, 16]
abbrev dktX3_book_6 : List UInt8 := dkwX3_book_6 ++ dktX3_book_7
def dkwX3_book_5 : List UInt8 := [154, 0, 20, 42, 180, 0, 159, 153, 0, 13, 42, 4, 42, 180, 0, 150, 182, 0, 196, 87, 42, 180, 0, 169]
abbrev dktX3_book_5 : List UInt8 := dkwX3_book_5 ++ dktX3_book_6
def dkwX3_book_4 : List UInt8 := [42, 180, 0, 159, 16, 59, 160, 0, 14, 42, 182, 0, 173, 42, 182, 1, 10, 167, 255, 232, 42, 180, 0, 169]
abbrev dktX3_book_4 : List UInt8 := dkwX3_book_4 ++ dktX3_book_5
def dkwX3_book_3 : List UInt8 := [181, 0, 246, 42, 3, 181, 1, 3, 42, 27, 182, 1, 6, 42, 182, 1, 10, 42, 180, 0, 169, 154, 0, 23]
abbrev dktX3_book_3 : List UInt8 := dkwX3_book_3 ++ dktX3_book_4
def dkwX3_book_2 : List UInt8 := [7, 181, 0, 234, 42, 16, 100, 181, 0, 237, 42, 16, 100, 181, 0, 240, 42, 16, 100, 181, 0, 243, 42, 3]
abbrev dktX3_book_2 : List UInt8 := dkwX3_book_2 ++ dktX3_book_3
def dkwX3_book_1 : List UInt8 := [181, 0, 137, 42, 3, 181, 0, 176, 42, 3, 182, 0, 255, 42, 3, 181, 0, 228, 42, 3, 181, 0, 231, 42]
abbrev dktX3_book_1 : List UInt8 := dkwX3_book_1 ++ dktX3_book_2
def dkwX3_book_0 : List UInt8 := [42, 182, 0, 249, 27, 3, 42, 180, 0, 137, 184, 0, 220, 154, 0, 9, 42, 5, 182, 0, 252, 172, 42, 3]
abbrev dktX3_book_0 : List UInt8 := dkwX3_book_0 ++ dktX3_book_1
theorem dksX3_book_0 : cX3_book.data.toList.drop 0 = dktX3_book_0 := by decide +kernel
theorem dksX3_book_1 : cX3_book.data.toList.drop 24 = dktX3_book_1 := dk_seg dksX3_book_0 24 rfl rfl
theorem dksX3_book_2 : cX3_book.data.toList.drop 48 = dktX3_book_2 := dk_seg dksX3_book_1 24 rfl rfl
theorem dksX3_book_3 : cX3_book.data.toList.drop 72 = dktX3_book_3 := dk_seg dksX3_book_2 24 rfl rfl
theorem dksX3_book_4 : cX3_book.data.toList.drop 96 = dktX3_book_4 := dk_seg dksX3_book_3 24 rfl rfl
theorem dksX3_book_5 : cX3_book.data.toList.drop 120 = dktX3_book_5 := dk_seg dksX3_book_4 24 rfl rfl
theorem dksX3_book_6 : cX3_book.data.toList.drop 144 = dktX3_book_6 := dk_seg dksX3_book_5 24 rfl rfl
theorem dksX3_book_7 : cX3_book.data.toList.drop 168 = dktX3_book_7 := dk_seg dksX3_book_6 24 rfl rfl
theorem dksX3_book_8 : cX3_book.data.toList.drop 190 = dktX3_book_8 := dk_seg dksX3_book_7 22 rfl rfl
theorem dksX3_book_9 : cX3_book.data.toList.drop 214 = dktX3_book_9 := dk_seg dksX3_book_8 24 rfl rfl
theorem dX3_book_0 : decode cX3_book 0 = .ok (.aload_n 0, 1) := dk_42 (dk_at dksX3_book_0 0 rfl rfl)
theorem dX3_book_1 : decode cX3_book 1 = .ok (.invokevirtual 249, 3) := dk_182 0 249 (dk_at dksX3_book_0 1 rfl rfl)
theorem dX3_book_4 : decode cX3_book 4 = .ok (.iload_n 1, 1) := dk_27 (dk_at dksX3_book_0 4 rfl rfl)
theorem dX3_book_5 : decode cX3_book 5 = .ok (.iconst 0, 1) := dk_3 (dk_at dksX3_book_0 5 rfl rfl)
theorem dX3_book_6 : decode cX3_book 6 = .ok (.aload_n 0, 1) := dk_42 (dk_at dksX3_book_0 6 rfl rfl)
theorem dX3_book_7 : decode cX3_book 7 = .ok (.getfield 137, 3) := dk_180 0 137 (dk_at dksX3_book_0 7 rfl rfl)
theorem dX3_book_10 : decode cX3_book 10 = .ok (.invokestatic 220, 3) := dk_184 0 220 (dk_at dksX3_book_0 10 rfl rfl)
theorem dX3_book_13 : decode cX3_book 13 = .ok (.ifCond .ne 9, 3) := dk_154 0 9 (dk_at dksX3_book_0 13 rfl rfl)
theorem dX3_book_16 : decode cX3_book 16 = .ok (.aload_n 0, 1) := dk_42 (dk_at dksX3_book_0 16 rfl rfl)
theorem dX3_book_17 : decode cX3_book 17 = .ok (.iconst 2, 1) := dk_5 (dk_at dksX3_book_0 17 rfl rfl)
theorem dX3_book_18 : decode cX3_book 18 = .ok (.invokevirtual 252, 3) := dk_182 0 252 (dk_at dksX3_book_0 18 rfl rfl)
theorem dX3_book_21 : decode cX3_book 21 = .ok (.ireturn, 1) := dk_172 (dk_at dksX3_book_0 21 rfl rfl)
theorem dX3_book_22 : decode cX3_book 22 = .ok (.aload_n 0, 1) := dk_42 (dk_at dksX3_book_0 22 rfl rfl)
theorem dX3_book_23 : decode cX3_book 23 = .ok (.iconst 0, 1) := dk_3 (dk_at dksX3_book_0 23 rfl rfl)
theorem dX3_book_24 : decode cX3_book 24 = .ok (.putfield 137, 3) := dk_181 0 137 (dk_at dksX3_book_1 0 rfl rfl)
theorem dX3_book_27 : decode cX3_book 27 = .ok (.aload_n 0, 1) := dk_42 (dk_at dksX3_book_1 3 rfl rfl)
theorem dX3_book_28 : decode cX3_book 28 = .ok (.iconst 0, 1) := dk_3 (dk_at dksX3_book_1 4 rfl rfl)
theorem dX3_book_29 : decode cX3_book 29 = .ok (.putfield 176, 3) := dk_181 0 176 (dk_at dksX3_book_1 5 rfl rfl)
theorem dX3_book_32 : decode cX3_book 32 = .ok (.aload_n 0, 1) := dk_42 (dk_at dksX3_book_1 8 rfl rfl)
theorem dX3_book_33 : decode cX3_book 33 = .ok (.iconst 0, 1) := dk_3 (dk_at dksX3_book_1 9 rfl rfl)
theorem dX3_book_34 : decode cX3_book 34 = .ok (.invokevirtual 255, 3) := dk_182 0 255 (dk_at dksX3_book_1 10 rfl rfl)
theorem dX3_book_37 : decode cX3_book 37 = .ok (.aload_n 0, 1) := dk_42 (dk_at dksX3_book_1 13 rfl rfl)
theorem dX3_book_38 : decode cX3_book 38 = .ok (.iconst 0, 1) := dk_3 (dk_at dksX3_book_1 14 rfl rfl)
theorem dX3_book_39 : decode cX3_book 39 = .ok (.putfield 228, 3) := dk_181 0 228 (dk_at dksX3_book_1 15 rfl rfl)
theorem dX3_book_42 : decode cX3_book 42 = .ok (.aload_n 0, 1) := dk_42 (dk_at dksX3_book_1 18 rfl rfl)
theorem dX3_book_43 : decode cX3_book 43 = .ok (.iconst 0, 1) := dk_3 (dk_at dksX3_book_1 19 rfl rfl)
theorem dX3_book_44 : decode cX3_book 44 = .ok (.putfield 231, 3) := dk_181 0 231 (dk_at dksX3_book_1 20 rfl rfl)
theorem dX3_book_47 : decode cX3_book 47 = .ok (.aload_n 0, 1) := dk_42 (dk_at dksX3_book_1 23 rfl rfl)
theorem dX3_book_48 : decode cX3_book 48 = .ok (.iconst 4, 1) := dk_7 (dk_at dksX3_book_2 0 rfl rfl)
theorem dX3_book_49 : decode cX3_book 49 = .ok (.putfield 234, 3) := dk_181 0 234 (dk_at dksX3_book_2 1 rfl rfl)
theorem dX3_book_52 : decode cX3_book 52 = .ok (.aload_n 0, 1) := dk_42 (dk_at dksX3_book_2 4 rfl rfl)
theorem dX3_book_53 : decode cX3_book 53 = .ok (.bipush 100, 2) := dk_16 100 (dk_at dksX3_book_2 5 rfl rfl)
theorem dX3_book_55 : decode cX3_book 55 = .ok (.putfield 237, 3) := dk_181 0 237 (dk_at dksX3_book_2 7 rfl rfl)
theorem dX3_book_58 : decode cX3_book 58 = .ok (.aload_n 0, 1) := dk_42 (dk_at dksX3_book_2 10 rfl rfl)
theorem dX3_book_59 : decode cX3_book 59 = .ok (.bipush 100, 2) := dk_16 100 (dk_at dksX3_book_2 11 rfl rfl)
theorem dX3_book_61 : decode cX3_book 61 = .ok (.putfield 240, 3) := dk_181 0 240 (dk_at dksX3_book_2 13 rfl rfl)
theorem dX3_book_64 : decode cX3_book 64 = .ok (.aload_n 0, 1) := dk_42 (dk_at dksX3_book_2 16 rfl rfl)
theorem dX3_book_65 : decode cX3_book 65 = .ok (.bipush 100, 2) := dk_16 100 (dk_at dksX3_book_2 17 rfl rfl)
theorem dX3_book_67 : decode cX3_book 67 = .ok (.putfield 243, 3) := dk_181 0 243 (dk_at dksX3_book_2 19 rfl rfl)
theorem dX3_book_70 : decode cX3_book 70 = .ok (.aload_n 0, 1) := dk_42 (dk_at dksX3_book_2 22 rfl rfl)
theorem dX3_book_71 : decode cX3_book 71 = .ok (.iconst 0, 1) := dk_3 (dk_at dksX3_book_2 23 rfl rfl)
theorem dX3_book_72 : decode cX3_book 72 = .ok (.putfield 246, 3) := dk_181 0 246 (dk_at dksX3_book_3 0 rfl rfl)
theorem dX3_book_75 : decode cX3_book 75 = .ok (.aload_n 0, 1) := dk_42 (dk_at dksX3_book_3 3 rfl rfl)
theorem dX3_book_76 : decode cX3_book 76 = .ok (.iconst 0, 1) := dk_3 (dk_at dksX3_book_3 4 rfl rfl)
theorem dX3_book_77 : decode cX3_book 77 = .ok (.putfield 259, 3) := dk_181 1 3 (dk_at dksX3_book_3 5 rfl rfl)
theorem dX3_book_80 : decode cX3_book 80 = .ok (.aload_n 0, 1) := dk_42 (dk_at dksX3_book_3 8 rfl rfl)
theorem dX3_book_81 : decode cX3_book 81 = .ok (.iload_n 1, 1) := dk_27 (dk_at dksX3_book_3 9 rfl rfl)
theorem dX3_book_82 : decode cX3_book 82 = .ok (.invokevirtual 262, 3) := dk_182 1 6 (dk_at dksX3_book_3 10 rfl rfl)
theorem dX3_book_85 : decode cX3_book 85 = .ok (.aload_n 0, 1) := dk_42 (dk_at dksX3_book_3 13 rfl rfl)
theorem dX3_book_86 : decode cX3_book 86 = .ok (.invokevirtual 266, 3) := dk_182 1 10 (dk_at dksX3_book_3 14 rfl rfl)
theorem dX3_book_89 : decode cX3_book 89 = .ok (.aload_n 0, 1) := dk_42 (dk_at dksX3_book_3 17 rfl rfl)
theorem dX3_book_90 : decode cX3_book 90 = .ok (.getfield 169, 3) := dk_180 0 169 (dk_at dksX3_book_3 18 rfl rfl)
theorem dX3_book_93 : decode cX3_book 93 = .ok (.ifCond .ne 23, 3) := dk_154 0 23 (dk_at dksX3_book_3 21 rfl rfl)
theorem dX3_book_96 : decode cX3_book 96 = .ok (.aload_n 0, 1) := dk_42 (dk_at dksX3_book_4 0 rfl rfl)
theorem dX3_book_97 : decode cX3_book 97 = .ok (.getfield 159, 3) := dk_180 0 159 (dk_at dksX3_book_4 1 rfl rfl)
theorem dX3_book_100 : decode cX3_book 100 = .ok (.bipush 59, 2) := dk_16 59 (dk_at dksX3_book_4 4 rfl rfl)
theorem dX3_book_102 : decode cX3_book 102 = .ok (.if_icmp .ne 14, 3) := dk_160 0 14 (dk_at dksX3_book_4 6 rfl rfl)
theorem dX3_book_105 : decode cX3_book 105 = .ok (.aload_n 0, 1) := dk_42 (dk_at dksX3_book_4 9 rfl rfl)
theorem dX3_book_106 : decode cX3_book 106 = .ok (.invokevirtual 173, 3) := dk_182 0 173 (dk_at dksX3_book_4 10 rfl rfl)
theorem dX3_book_109 : decode cX3_book 109 = .ok (.aload_n 0, 1) := dk_42 (dk_at dksX3_book_4 13 rfl rfl)
theorem dX3_book_110 : decode cX3_book 110 = .ok (.invokevirtual 266, 3) := dk_182 1 10 (dk_at dksX3_book_4 14 rfl rfl)
theorem dX3_book_113 : decode cX3_book 113 = .ok (.goto (-24), 3) := dk_167 255 232 (dk_at dksX3_book_4 17 rfl rfl)
theorem dX3_book_116 : decode cX3_book 116 = .ok (.aload_n 0, 1) := dk_42 (dk_at dksX3_book_4 20 rfl rfl)
theorem dX3_book_117 : decode cX3_book 117 = .ok (.getfield 169, 3) := dk_180 0 169 (dk_at dksX3_book_4 21 rfl rfl)
theorem dX3_book_120 : decode cX3_book 120 = .ok (.ifCond .ne 20, 3) := dk_154 0 20 (dk_at dksX3_book_5 0 rfl rfl)
theorem dX3_book_123 : decode cX3_book 123 = .ok (.aload_n 0, 1) := dk_42 (dk_at dksX3_book_5 3 rfl rfl)
theorem dX3_book_124 : decode cX3_book 124 = .ok (.getfield 159, 3) := dk_180 0 159 (dk_at dksX3_book_5 4 rfl rfl)
theorem dX3_book_127 : decode cX3_book 127 = .ok (.ifCond .eq 13, 3) := dk_153 0 13 (dk_at dksX3_book_5 7 rfl rfl)
theorem dX3_book_130 : decode cX3_book 130 = .ok (.aload_n 0, 1) := dk_42 (dk_at dksX3_book_5 10 rfl rfl)
theorem dX3_book_131 : decode cX3_book 131 = .ok (.iconst 1, 1) := dk_4 (dk_at dksX3_book_5 11 rfl rfl)
theorem dX3_book_132 : decode cX3_book 132 = .ok (.aload_n 0, 1) := dk_42 (dk_at dksX3_book_5 12 rfl rfl)
theorem dX3_book_133 : decode cX3_book 133 = .ok (.getfield 150, 3) := dk_180 0 150 (dk_at dksX3_book_5 13 rfl rfl)
theorem dX3_book_136 : decode cX3_book 136 = .ok (.invokevirtual 196, 3) := dk_182 0 196 (dk_at dksX3_book_5 16 rfl rfl)
theorem dX3_book_139 : decode cX3_book 139 = .ok (.pop, 1) := dk_87 (dk_at dksX3_book_5 19 rfl rfl)
theorem dX3_book_140 : decode cX3_book 140 = .ok (.aload_n 0, 1) := dk_42 (dk_at dksX3_book_5 20 rfl rfl)
theorem dX3_book_141 : decode cX3_book 141 = .ok (.getfield 169, 3) := dk_180 0 169 (dk_at dksX3_book_5 21 rfl rfl)
theorem dX3_book_144 : decode cX3_book 144 = .ok (.ifCond .eq 14, 3) := dk_153 0 14 (dk_at dksX3_book_6 0 rfl rfl)
theorem dX3_book_147 : decode cX3_book 147 = .ok (.aload_n 0, 1) := dk_42 (dk_at dksX3_book_6 3 rfl rfl)
theorem dX3_book_148 : decode cX3_book 148 = .ok (.iconst 1, 1) := dk_4 (dk_at dksX3_book_6 4 rfl rfl)
theorem dX3_book_149 : decode cX3_book 149 = .ok (.invokevirtual 255, 3) := dk_182 0 255 (dk_at dksX3_book_6 5 rfl rfl)
theorem dX3_book_152 : decode cX3_book 152 = .ok (.aload_n 0, 1) := dk_42 (dk_at dksX3_book_6 8 rfl rfl)
theorem dX3_book_153 : decode cX3_book 153 = .ok (.iconst 4, 1) := dk_7 (dk_at dksX3_book_6 9 rfl rfl)
theorem dX3_book_154 : decode cX3_book 154 = .ok (.invokevirtual 252, 3) := dk_182 0 252 (dk_at dksX3_book_6 10 rfl rfl)
theorem dX3_book_157 : decode cX3_book 157 = .ok (.ireturn, 1) := dk_172 (dk_at dksX3_book_6 13 rfl rfl)
theorem dX3_book_158 : decode cX3_book 158 = .ok (.aload_n 0, 1) := dk_42 (dk_at dksX3_book_6 14 rfl rfl)
theorem dX3_book_159 : decode cX3_book 159 = .ok (.iconst 1, 1) := dk_4 (dk_at dksX3_book_6 15 rfl rfl)
theorem dX3_book_160 : decode cX3_book 160 = .ok (.putfield 269, 3) := dk_181 1 13 (dk_at dksX3_book_6 16 rfl rfl)
theorem dX3_book_163 : decode cX3_book 163 = .ok (.aload_n 0, 1) := dk_42 (dk_at dksX3_book_6 19 rfl rfl)
theorem dX3_book_164 : decode cX3_book 164 = .ok (.iconst 0, 1) := dk_3 (dk_at dksX3_book_6 20 rfl rfl)
theorem dX3_book_165 : decode cX3_book 165 = .ok (.putfield 272, 3) := dk_181 1 16 (dk_at dksX3_book_6 21 rfl rfl)
theorem dX3_book_168 : decode cX3_book 168 = .ok (.aload_n 0, 1) := dk_42 (dk_at dksX3_book_7 0 rfl rfl)
theorem dX3_book_169 : decode cX3_book 169 = .ok (.iconst 0, 1) := dk_3 (dk_at dksX3_book_7 1 rfl rfl)
theorem dX3_book_170 : decode cX3_book 170 = .ok (.putfield 275, 3) := dk_181 1 19 (dk_at dksX3_book_7 2 rfl rfl)
theorem dX3_book_173 : decode cX3_book 173 = .ok (.aload_n 0, 1) := dk_42 (dk_at dksX3_book_7 5 rfl rfl)
theorem dX3_book_174 : decode cX3_book 174 = .ok (.iconst 0, 1) := dk_3 (dk_at dksX3_book_7 6 rfl rfl)
theorem dX3_book_175 : decode cX3_book 175 = .ok (.putfield 278, 3) := dk_181 1 22 (dk_at dksX3_book_7 7 rfl rfl)
theorem dX3_book_178 : decode cX3_book 178 = .ok (.aload_n 0, 1) := dk_42 (dk_at dksX3_book_7 10 rfl rfl)
theorem dX3_book_179 : decode cX3_book 179 = .ok (.iconst 0, 1) := dk_3 (dk_at dksX3_book_7 11 rfl rfl)
theorem dX3_book_180 : decode cX3_book 180 = .ok (.putfield 281, 3) := dk_181 1 25 (dk_at dksX3_book_7 12 rfl rfl)
theorem dX3_book_183 : decode cX3_book 183 = .ok (.aload_n 0, 1) := dk_42 (dk_at dksX3_book_7 15 rfl rfl)
theorem dX3_book_184 : decode cX3_book 184 = .ok (.iconst 0, 1) := dk_3 (dk_at dksX3_book_7 16 rfl rfl)
theorem dX3_book_185 : decode cX3_book 185 = .ok (.putfield 284, 3) := dk_181 1 28 (dk_at dksX3_book_7 17 rfl rfl)
theorem dX3_book_188 : decode cX3_book 188 = .ok (.aload_n 0, 1) := dk_42 (dk_at dksX3_book_7 20 rfl rfl)
theorem dX3_book_189 : decode cX3_book 189 = .ok (.iconst 0, 1) := dk_3 (dk_at dksX3_book_7 21 rfl rfl)
theorem dX3_book_190 : decode cX3_book 190 = .ok (.putfield 287, 3) := dk_181 1 31 (dk_at dksX3_book_8 0 rfl rfl)
theorem dX3_book_193 : decode cX3_book 193 = .ok (.iconst 0, 1) := dk_3 (dk_at dksX3_book_8 3 rfl rfl)
theorem dX3_book_194 : decode cX3_book 194 = .ok (.istore_n 2, 1) := dk_61 (dk_at dksX3_book_8 4 rfl rfl)
theorem dX3_book_195 : decode cX3_book 195 = .ok (.iload_n 2, 1) := dk_28 (dk_at dksX3_book_8 5 rfl rfl)
theorem dX3_book_196 : decode cX3_book 196 = .ok (.bipush 6, 2) := dk_16 6 (dk_at dksX3_book_8 6 rfl rfl)
theorem dX3_book_198 : decode cX3_book 198 = .ok (.if_icmp .ge 16, 3) := dk_162 0 16 (dk_at dksX3_book_8 8 rfl rfl)
theorem dX3_book_201 : decode cX3_book 201 = .ok (.aload_n 0, 1) := dk_42 (dk_at dksX3_book_8 11 rfl rfl)
theorem dX3_book_202 : decode cX3_book 202 = .ok (.getfield 70, 3) := dk_180 0 70 (dk_at dksX3_book_8 12 rfl rfl)
theorem dX3_book_205 : decode cX3_book 205 = .ok (.iload_n 2, 1) := dk_28 (dk_at dksX3_book_8 15 rfl rfl)
theorem dX3_book_206 : decode cX3_book 206 = .ok (.iconst 0, 1) := dk_3 (dk_at dksX3_book_8 16 rfl rfl)
theorem dX3_book_207 : decode cX3_book 207 = .ok (.iastore, 1) := dk_79 (dk_at dksX3_book_8 17 rfl rfl)
theorem dX3_book_208 : decode cX3_book 208 = .ok (.iinc 2 1, 3) := dk_132 2 1 (dk_at dksX3_book_8 18 rfl rfl)
theorem dX3_book_211 : decode cX3_book 211 = .ok (.goto (-16), 3) := dk_167 255 240 (dk_at dksX3_book_8 21 rfl rfl)
theorem dX3_book_214 : decode cX3_book 214 = .ok (.aload_n 0, 1) := dk_42 (dk_at dksX3_book_9 0 rfl rfl)
theorem dX3_book_215 : decode cX3_book 215 = .ok (.getfield 228, 3) := dk_180 0 228 (dk_at dksX3_book_9 1 rfl rfl)
theorem dX3_book_218 : decode cX3_book 218 = .ok (.ireturn, 1) := dk_172 (dk_at dksX3_book_9 4 rfl rfl)
abbrev cX3_good : ByteArray := prog_23_method_3_code
def yX3_good : MethodName := ⟨RX3, "good", "()V"⟩
def dkwX3_good_0 : List UInt8 := [42, 3, 181, 0, 131, 42, 3, 181, 0, 134, 177]
abbrev dktX3_good_0 : List UInt8 := dkwX3_good_0 ++ []
theorem dksX3_good_0 : cX3_good.data.toList.drop 0 = dktX3_good_0 := by decide +kernel
theorem dX3_good_0 : decode cX3_good 0 = .ok (.aload_n 0, 1) := dk_42 (dk_at dksX3_good_0 0 rfl rfl)
theorem dX3_good_1 : decode cX3_good 1 = .ok (.iconst 0, 1) := dk_3 (dk_at dksX3_good_0 1 rfl rfl)
theorem dX3_good_2 : decode cX3_good 2 = .ok (.putfield 131, 3) := dk_181 0 131 (dk_at dksX3_good_0 2 rfl rfl)
theorem dX3_good_5 : decode cX3_good 5 = .ok (.aload_n 0, 1) := dk_42 (dk_at dksX3_good_0 5 rfl rfl)
theorem dX3_good_6 : decode cX3_good 6 = .ok (.iconst 0, 1) := dk_3 (dk_at dksX3_good_0 6 rfl rfl)
theorem dX3_good_7 : decode cX3_good 7 = .ok (.putfield 134, 3) := dk_181 0 134 (dk_at dksX3_good_0 7 rfl rfl)
theorem dX3_good_10 : decode cX3_good 10 = .ok (.return_, 1) := dk_177 (dk_at dksX3_good_0 10 rfl rfl)
abbrev cX3_within : ByteArray := prog_23_method_6_code
def yX3_within : MethodName := ⟨RX3, "within", "(III)Z"⟩
def dkwX3_within_0 : List UInt8 := [26, 27, 161, 0, 12, 26, 28, 163, 0, 7, 4, 167, 0, 4, 3, 172]
abbrev dktX3_within_0 : List UInt8 := dkwX3_within_0 ++ []
theorem dksX3_within_0 : cX3_within.data.toList.drop 0 = dktX3_within_0 := by decide +kernel
theorem dX3_within_0 : decode cX3_within 0 = .ok (.iload_n 0, 1) := dk_26 (dk_at dksX3_within_0 0 rfl rfl)
theorem dX3_within_1 : decode cX3_within 1 = .ok (.iload_n 1, 1) := dk_27 (dk_at dksX3_within_0 1 rfl rfl)
theorem dX3_within_2 : decode cX3_within 2 = .ok (.if_icmp .lt 12, 3) := dk_161 0 12 (dk_at dksX3_within_0 2 rfl rfl)
theorem dX3_within_5 : decode cX3_within 5 = .ok (.iload_n 0, 1) := dk_26 (dk_at dksX3_within_0 5 rfl rfl)
theorem dX3_within_6 : decode cX3_within 6 = .ok (.iload_n 2, 1) := dk_28 (dk_at dksX3_within_0 6 rfl rfl)
theorem dX3_within_7 : decode cX3_within 7 = .ok (.if_icmp .gt 7, 3) := dk_163 0 7 (dk_at dksX3_within_0 7 rfl rfl)
theorem dX3_within_10 : decode cX3_within 10 = .ok (.iconst 1, 1) := dk_4 (dk_at dksX3_within_0 10 rfl rfl)
theorem dX3_within_11 : decode cX3_within 11 = .ok (.goto 4, 3) := dk_167 0 4 (dk_at dksX3_within_0 11 rfl rfl)
theorem dX3_within_14 : decode cX3_within 14 = .ok (.iconst 0, 1) := dk_3 (dk_at dksX3_within_0 14 rfl rfl)
theorem dX3_within_15 : decode cX3_within 15 = .ok (.ireturn, 1) := dk_172 (dk_at dksX3_within_0 15 rfl rfl)
abbrev cX3_no : ByteArray := prog_23_method_4_code
def yX3_no : MethodName := ⟨RX3, "no", "(I)I"⟩
def dkwX3_no_0 : List UInt8 := [42, 27, 181, 0, 134, 2, 172]
abbrev dktX3_no_0 : List UInt8 := dkwX3_no_0 ++ []
theorem dksX3_no_0 : cX3_no.data.toList.drop 0 = dktX3_no_0 := by decide +kernel
theorem dX3_no_0 : decode cX3_no 0 = .ok (.aload_n 0, 1) := dk_42 (dk_at dksX3_no_0 0 rfl rfl)
theorem dX3_no_1 : decode cX3_no 1 = .ok (.iload_n 1, 1) := dk_27 (dk_at dksX3_no_0 1 rfl rfl)
theorem dX3_no_2 : decode cX3_no 2 = .ok (.putfield 134, 3) := dk_181 0 134 (dk_at dksX3_no_0 2 rfl rfl)
theorem dX3_no_5 : decode cX3_no 5 = .ok (.iconst (-1), 1) := dk_2 (dk_at dksX3_no_0 5 rfl rfl)
theorem dX3_no_6 : decode cX3_no 6 = .ok (.ireturn, 1) := dk_172 (dk_at dksX3_no_0 6 rfl rfl)
abbrev cX3_store : ByteArray := prog_23_method_20_code
def yX3_store : MethodName := ⟨RX3, "store", "(Z)V"⟩
def dkwX3_store_14 : List UInt8 := [180, 0, 243, 79, 42, 180, 0, 49, 28, 16, 6, 96, 42, 180, 0, 246, 79, 177]
abbrev dktX3_store_14 : List UInt8 := dkwX3_store_14 ++ []
def dkwX3_store_13 : List UInt8 := [180, 0, 237, 79, 42, 180, 0, 49, 28, 7, 96, 42, 180, 0, 240, 79, 42, 180, 0, 49, 28, 8, 96, 42]
abbrev dktX3_store_13 : List UInt8 := dkwX3_store_13 ++ dktX3_store_14
def dkwX3_store_12 : List UInt8 := [180, 0, 231, 79, 42, 180, 0, 49, 28, 5, 96, 42, 180, 0, 234, 79, 42, 180, 0, 49, 28, 6, 96, 42]
abbrev dktX3_store_12 : List UInt8 := dkwX3_store_12 ++ dktX3_store_13
def dkwX3_store_11 : List UInt8 := [181, 0, 246, 167, 0, 86, 42, 180, 0, 49, 28, 42, 180, 0, 228, 79, 42, 180, 0, 49, 28, 4, 96, 42]
abbrev dktX3_store_11 : List UInt8 := dkwX3_store_11 ++ dktX3_store_12
def dkwX3_store_10 : List UInt8 := [42, 42, 180, 0, 49, 28, 8, 96, 46, 181, 0, 243, 42, 42, 180, 0, 49, 28, 16, 6, 96, 46]
abbrev dktX3_store_10 : List UInt8 := dkwX3_store_10 ++ dktX3_store_11
def dkwX3_store_9 : List UInt8 := [42, 42, 180, 0, 49, 28, 6, 96, 46, 181, 0, 237, 42, 42, 180, 0, 49, 28, 7, 96, 46, 181, 0, 240]
abbrev dktX3_store_9 : List UInt8 := dkwX3_store_9 ++ dktX3_store_10
def dkwX3_store_8 : List UInt8 := [42, 42, 180, 0, 49, 28, 4, 96, 46, 181, 0, 231, 42, 42, 180, 0, 49, 28, 5, 96, 46, 181, 0, 234]
abbrev dktX3_store_8 : List UInt8 := dkwX3_store_8 ++ dktX3_store_9
def dkwX3_store_7 : List UInt8 := [182, 0, 224, 61, 132, 3, 1, 167, 255, 211, 27, 153, 0, 89, 42, 42, 180, 0, 49, 28, 46, 181, 0, 228]
abbrev dktX3_store_7 : List UInt8 := dkwX3_store_7 ++ dktX3_store_8
def dkwX3_store_6 : List UInt8 := [182, 0, 224, 61, 42, 42, 180, 0, 43, 29, 28, 27, 182, 0, 224, 61, 42, 42, 180, 0, 46, 29, 28, 27]
abbrev dktX3_store_6 : List UInt8 := dkwX3_store_6 ++ dktX3_store_7
def dkwX3_store_5 : List UInt8 := [132, 3, 1, 167, 255, 199, 3, 62, 29, 16, 6, 162, 0, 45, 42, 42, 180, 0, 40, 29, 28, 27]
abbrev dktX3_store_5 : List UInt8 := dkwX3_store_5 ++ dktX3_store_6
def dkwX3_store_4 : List UInt8 := [42, 42, 180, 0, 28, 29, 28, 27, 182, 0, 224, 61, 42, 42, 180, 0, 31, 29, 28, 27, 182, 0, 224, 61]
abbrev dktX3_store_4 : List UInt8 := dkwX3_store_4 ++ dktX3_store_5
def dkwX3_store_3 : List UInt8 := [42, 42, 180, 0, 19, 29, 28, 27, 182, 0, 224, 61, 42, 42, 180, 0, 25, 29, 28, 27, 182, 0, 224, 61]
abbrev dktX3_store_3 : List UInt8 := dkwX3_store_3 ++ dktX3_store_4
def dkwX3_store_2 : List UInt8 := [180, 0, 37, 29, 28, 27, 182, 0, 224, 61, 132, 3, 1, 167, 255, 199, 3, 62, 29, 16, 8, 162, 0, 57]
abbrev dktX3_store_2 : List UInt8 := dkwX3_store_2 ++ dktX3_store_3
def dkwX3_store_1 : List UInt8 := [180, 0, 22, 29, 28, 27, 182, 0, 224, 61, 42, 42, 180, 0, 34, 29, 28, 27, 182, 0, 224, 61, 42, 42]
abbrev dktX3_store_1 : List UInt8 := dkwX3_store_1 ++ dktX3_store_2
def dkwX3_store_0 : List UInt8 := [3, 61, 3, 62, 29, 16, 64, 162, 0, 57, 42, 42, 180, 0, 16, 29, 28, 27, 182, 0, 224, 61, 42, 42]
abbrev dktX3_store_0 : List UInt8 := dkwX3_store_0 ++ dktX3_store_1
theorem dksX3_store_0 : cX3_store.data.toList.drop 0 = dktX3_store_0 := by decide +kernel
theorem dksX3_store_1 : cX3_store.data.toList.drop 24 = dktX3_store_1 := dk_seg dksX3_store_0 24 rfl rfl
theorem dksX3_store_2 : cX3_store.data.toList.drop 48 = dktX3_store_2 := dk_seg dksX3_store_1 24 rfl rfl
theorem dksX3_store_3 : cX3_store.data.toList.drop 72 = dktX3_store_3 := dk_seg dksX3_store_2 24 rfl rfl
theorem dksX3_store_4 : cX3_store.data.toList.drop 96 = dktX3_store_4 := dk_seg dksX3_store_3 24 rfl rfl
theorem dksX3_store_5 : cX3_store.data.toList.drop 120 = dktX3_store_5 := dk_seg dksX3_store_4 24 rfl rfl
theorem dksX3_store_6 : cX3_store.data.toList.drop 142 = dktX3_store_6 := dk_seg dksX3_store_5 22 rfl rfl
theorem dksX3_store_7 : cX3_store.data.toList.drop 166 = dktX3_store_7 := dk_seg dksX3_store_6 24 rfl rfl
theorem dksX3_store_8 : cX3_store.data.toList.drop 190 = dktX3_store_8 := dk_seg dksX3_store_7 24 rfl rfl
theorem dksX3_store_9 : cX3_store.data.toList.drop 214 = dktX3_store_9 := dk_seg dksX3_store_8 24 rfl rfl
theorem dksX3_store_10 : cX3_store.data.toList.drop 238 = dktX3_store_10 := dk_seg dksX3_store_9 24 rfl rfl
theorem dksX3_store_11 : cX3_store.data.toList.drop 260 = dktX3_store_11 := dk_seg dksX3_store_10 22 rfl rfl
theorem dksX3_store_12 : cX3_store.data.toList.drop 284 = dktX3_store_12 := dk_seg dksX3_store_11 24 rfl rfl
theorem dksX3_store_13 : cX3_store.data.toList.drop 308 = dktX3_store_13 := dk_seg dksX3_store_12 24 rfl rfl
theorem dksX3_store_14 : cX3_store.data.toList.drop 332 = dktX3_store_14 := dk_seg dksX3_store_13 24 rfl rfl
theorem dX3_store_0 : decode cX3_store 0 = .ok (.iconst 0, 1) := dk_3 (dk_at dksX3_store_0 0 rfl rfl)
theorem dX3_store_1 : decode cX3_store 1 = .ok (.istore_n 2, 1) := dk_61 (dk_at dksX3_store_0 1 rfl rfl)
theorem dX3_store_2 : decode cX3_store 2 = .ok (.iconst 0, 1) := dk_3 (dk_at dksX3_store_0 2 rfl rfl)
theorem dX3_store_3 : decode cX3_store 3 = .ok (.istore_n 3, 1) := dk_62 (dk_at dksX3_store_0 3 rfl rfl)
theorem dX3_store_4 : decode cX3_store 4 = .ok (.iload_n 3, 1) := dk_29 (dk_at dksX3_store_0 4 rfl rfl)
theorem dX3_store_5 : decode cX3_store 5 = .ok (.bipush 64, 2) := dk_16 64 (dk_at dksX3_store_0 5 rfl rfl)
theorem dX3_store_7 : decode cX3_store 7 = .ok (.if_icmp .ge 57, 3) := dk_162 0 57 (dk_at dksX3_store_0 7 rfl rfl)
theorem dX3_store_10 : decode cX3_store 10 = .ok (.aload_n 0, 1) := dk_42 (dk_at dksX3_store_0 10 rfl rfl)
theorem dX3_store_11 : decode cX3_store 11 = .ok (.aload_n 0, 1) := dk_42 (dk_at dksX3_store_0 11 rfl rfl)
theorem dX3_store_12 : decode cX3_store 12 = .ok (.getfield 16, 3) := dk_180 0 16 (dk_at dksX3_store_0 12 rfl rfl)
theorem dX3_store_15 : decode cX3_store 15 = .ok (.iload_n 3, 1) := dk_29 (dk_at dksX3_store_0 15 rfl rfl)
theorem dX3_store_16 : decode cX3_store 16 = .ok (.iload_n 2, 1) := dk_28 (dk_at dksX3_store_0 16 rfl rfl)
theorem dX3_store_17 : decode cX3_store 17 = .ok (.iload_n 1, 1) := dk_27 (dk_at dksX3_store_0 17 rfl rfl)
theorem dX3_store_18 : decode cX3_store 18 = .ok (.invokevirtual 224, 3) := dk_182 0 224 (dk_at dksX3_store_0 18 rfl rfl)
theorem dX3_store_21 : decode cX3_store 21 = .ok (.istore_n 2, 1) := dk_61 (dk_at dksX3_store_0 21 rfl rfl)
theorem dX3_store_22 : decode cX3_store 22 = .ok (.aload_n 0, 1) := dk_42 (dk_at dksX3_store_0 22 rfl rfl)
theorem dX3_store_23 : decode cX3_store 23 = .ok (.aload_n 0, 1) := dk_42 (dk_at dksX3_store_0 23 rfl rfl)
theorem dX3_store_24 : decode cX3_store 24 = .ok (.getfield 22, 3) := dk_180 0 22 (dk_at dksX3_store_1 0 rfl rfl)
theorem dX3_store_27 : decode cX3_store 27 = .ok (.iload_n 3, 1) := dk_29 (dk_at dksX3_store_1 3 rfl rfl)
theorem dX3_store_28 : decode cX3_store 28 = .ok (.iload_n 2, 1) := dk_28 (dk_at dksX3_store_1 4 rfl rfl)
theorem dX3_store_29 : decode cX3_store 29 = .ok (.iload_n 1, 1) := dk_27 (dk_at dksX3_store_1 5 rfl rfl)
theorem dX3_store_30 : decode cX3_store 30 = .ok (.invokevirtual 224, 3) := dk_182 0 224 (dk_at dksX3_store_1 6 rfl rfl)
theorem dX3_store_33 : decode cX3_store 33 = .ok (.istore_n 2, 1) := dk_61 (dk_at dksX3_store_1 9 rfl rfl)
theorem dX3_store_34 : decode cX3_store 34 = .ok (.aload_n 0, 1) := dk_42 (dk_at dksX3_store_1 10 rfl rfl)
theorem dX3_store_35 : decode cX3_store 35 = .ok (.aload_n 0, 1) := dk_42 (dk_at dksX3_store_1 11 rfl rfl)
theorem dX3_store_36 : decode cX3_store 36 = .ok (.getfield 34, 3) := dk_180 0 34 (dk_at dksX3_store_1 12 rfl rfl)
theorem dX3_store_39 : decode cX3_store 39 = .ok (.iload_n 3, 1) := dk_29 (dk_at dksX3_store_1 15 rfl rfl)
theorem dX3_store_40 : decode cX3_store 40 = .ok (.iload_n 2, 1) := dk_28 (dk_at dksX3_store_1 16 rfl rfl)
theorem dX3_store_41 : decode cX3_store 41 = .ok (.iload_n 1, 1) := dk_27 (dk_at dksX3_store_1 17 rfl rfl)
theorem dX3_store_42 : decode cX3_store 42 = .ok (.invokevirtual 224, 3) := dk_182 0 224 (dk_at dksX3_store_1 18 rfl rfl)
theorem dX3_store_45 : decode cX3_store 45 = .ok (.istore_n 2, 1) := dk_61 (dk_at dksX3_store_1 21 rfl rfl)
theorem dX3_store_46 : decode cX3_store 46 = .ok (.aload_n 0, 1) := dk_42 (dk_at dksX3_store_1 22 rfl rfl)
theorem dX3_store_47 : decode cX3_store 47 = .ok (.aload_n 0, 1) := dk_42 (dk_at dksX3_store_1 23 rfl rfl)
theorem dX3_store_48 : decode cX3_store 48 = .ok (.getfield 37, 3) := dk_180 0 37 (dk_at dksX3_store_2 0 rfl rfl)
theorem dX3_store_51 : decode cX3_store 51 = .ok (.iload_n 3, 1) := dk_29 (dk_at dksX3_store_2 3 rfl rfl)
theorem dX3_store_52 : decode cX3_store 52 = .ok (.iload_n 2, 1) := dk_28 (dk_at dksX3_store_2 4 rfl rfl)
theorem dX3_store_53 : decode cX3_store 53 = .ok (.iload_n 1, 1) := dk_27 (dk_at dksX3_store_2 5 rfl rfl)
theorem dX3_store_54 : decode cX3_store 54 = .ok (.invokevirtual 224, 3) := dk_182 0 224 (dk_at dksX3_store_2 6 rfl rfl)
theorem dX3_store_57 : decode cX3_store 57 = .ok (.istore_n 2, 1) := dk_61 (dk_at dksX3_store_2 9 rfl rfl)
theorem dX3_store_58 : decode cX3_store 58 = .ok (.iinc 3 1, 3) := dk_132 3 1 (dk_at dksX3_store_2 10 rfl rfl)
theorem dX3_store_61 : decode cX3_store 61 = .ok (.goto (-57), 3) := dk_167 255 199 (dk_at dksX3_store_2 13 rfl rfl)
theorem dX3_store_64 : decode cX3_store 64 = .ok (.iconst 0, 1) := dk_3 (dk_at dksX3_store_2 16 rfl rfl)
theorem dX3_store_65 : decode cX3_store 65 = .ok (.istore_n 3, 1) := dk_62 (dk_at dksX3_store_2 17 rfl rfl)
theorem dX3_store_66 : decode cX3_store 66 = .ok (.iload_n 3, 1) := dk_29 (dk_at dksX3_store_2 18 rfl rfl)
theorem dX3_store_67 : decode cX3_store 67 = .ok (.bipush 8, 2) := dk_16 8 (dk_at dksX3_store_2 19 rfl rfl)
theorem dX3_store_69 : decode cX3_store 69 = .ok (.if_icmp .ge 57, 3) := dk_162 0 57 (dk_at dksX3_store_2 21 rfl rfl)
theorem dX3_store_72 : decode cX3_store 72 = .ok (.aload_n 0, 1) := dk_42 (dk_at dksX3_store_3 0 rfl rfl)
theorem dX3_store_73 : decode cX3_store 73 = .ok (.aload_n 0, 1) := dk_42 (dk_at dksX3_store_3 1 rfl rfl)
theorem dX3_store_74 : decode cX3_store 74 = .ok (.getfield 19, 3) := dk_180 0 19 (dk_at dksX3_store_3 2 rfl rfl)
theorem dX3_store_77 : decode cX3_store 77 = .ok (.iload_n 3, 1) := dk_29 (dk_at dksX3_store_3 5 rfl rfl)
theorem dX3_store_78 : decode cX3_store 78 = .ok (.iload_n 2, 1) := dk_28 (dk_at dksX3_store_3 6 rfl rfl)
theorem dX3_store_79 : decode cX3_store 79 = .ok (.iload_n 1, 1) := dk_27 (dk_at dksX3_store_3 7 rfl rfl)
theorem dX3_store_80 : decode cX3_store 80 = .ok (.invokevirtual 224, 3) := dk_182 0 224 (dk_at dksX3_store_3 8 rfl rfl)
theorem dX3_store_83 : decode cX3_store 83 = .ok (.istore_n 2, 1) := dk_61 (dk_at dksX3_store_3 11 rfl rfl)
theorem dX3_store_84 : decode cX3_store 84 = .ok (.aload_n 0, 1) := dk_42 (dk_at dksX3_store_3 12 rfl rfl)
theorem dX3_store_85 : decode cX3_store 85 = .ok (.aload_n 0, 1) := dk_42 (dk_at dksX3_store_3 13 rfl rfl)
theorem dX3_store_86 : decode cX3_store 86 = .ok (.getfield 25, 3) := dk_180 0 25 (dk_at dksX3_store_3 14 rfl rfl)
theorem dX3_store_89 : decode cX3_store 89 = .ok (.iload_n 3, 1) := dk_29 (dk_at dksX3_store_3 17 rfl rfl)
theorem dX3_store_90 : decode cX3_store 90 = .ok (.iload_n 2, 1) := dk_28 (dk_at dksX3_store_3 18 rfl rfl)
theorem dX3_store_91 : decode cX3_store 91 = .ok (.iload_n 1, 1) := dk_27 (dk_at dksX3_store_3 19 rfl rfl)
theorem dX3_store_92 : decode cX3_store 92 = .ok (.invokevirtual 224, 3) := dk_182 0 224 (dk_at dksX3_store_3 20 rfl rfl)
theorem dX3_store_95 : decode cX3_store 95 = .ok (.istore_n 2, 1) := dk_61 (dk_at dksX3_store_3 23 rfl rfl)
theorem dX3_store_96 : decode cX3_store 96 = .ok (.aload_n 0, 1) := dk_42 (dk_at dksX3_store_4 0 rfl rfl)
theorem dX3_store_97 : decode cX3_store 97 = .ok (.aload_n 0, 1) := dk_42 (dk_at dksX3_store_4 1 rfl rfl)
theorem dX3_store_98 : decode cX3_store 98 = .ok (.getfield 28, 3) := dk_180 0 28 (dk_at dksX3_store_4 2 rfl rfl)
theorem dX3_store_101 : decode cX3_store 101 = .ok (.iload_n 3, 1) := dk_29 (dk_at dksX3_store_4 5 rfl rfl)
theorem dX3_store_102 : decode cX3_store 102 = .ok (.iload_n 2, 1) := dk_28 (dk_at dksX3_store_4 6 rfl rfl)
theorem dX3_store_103 : decode cX3_store 103 = .ok (.iload_n 1, 1) := dk_27 (dk_at dksX3_store_4 7 rfl rfl)
theorem dX3_store_104 : decode cX3_store 104 = .ok (.invokevirtual 224, 3) := dk_182 0 224 (dk_at dksX3_store_4 8 rfl rfl)
theorem dX3_store_107 : decode cX3_store 107 = .ok (.istore_n 2, 1) := dk_61 (dk_at dksX3_store_4 11 rfl rfl)
theorem dX3_store_108 : decode cX3_store 108 = .ok (.aload_n 0, 1) := dk_42 (dk_at dksX3_store_4 12 rfl rfl)
theorem dX3_store_109 : decode cX3_store 109 = .ok (.aload_n 0, 1) := dk_42 (dk_at dksX3_store_4 13 rfl rfl)
theorem dX3_store_110 : decode cX3_store 110 = .ok (.getfield 31, 3) := dk_180 0 31 (dk_at dksX3_store_4 14 rfl rfl)
theorem dX3_store_113 : decode cX3_store 113 = .ok (.iload_n 3, 1) := dk_29 (dk_at dksX3_store_4 17 rfl rfl)
theorem dX3_store_114 : decode cX3_store 114 = .ok (.iload_n 2, 1) := dk_28 (dk_at dksX3_store_4 18 rfl rfl)
theorem dX3_store_115 : decode cX3_store 115 = .ok (.iload_n 1, 1) := dk_27 (dk_at dksX3_store_4 19 rfl rfl)
theorem dX3_store_116 : decode cX3_store 116 = .ok (.invokevirtual 224, 3) := dk_182 0 224 (dk_at dksX3_store_4 20 rfl rfl)
theorem dX3_store_119 : decode cX3_store 119 = .ok (.istore_n 2, 1) := dk_61 (dk_at dksX3_store_4 23 rfl rfl)
theorem dX3_store_120 : decode cX3_store 120 = .ok (.iinc 3 1, 3) := dk_132 3 1 (dk_at dksX3_store_5 0 rfl rfl)
theorem dX3_store_123 : decode cX3_store 123 = .ok (.goto (-57), 3) := dk_167 255 199 (dk_at dksX3_store_5 3 rfl rfl)
theorem dX3_store_126 : decode cX3_store 126 = .ok (.iconst 0, 1) := dk_3 (dk_at dksX3_store_5 6 rfl rfl)
theorem dX3_store_127 : decode cX3_store 127 = .ok (.istore_n 3, 1) := dk_62 (dk_at dksX3_store_5 7 rfl rfl)
theorem dX3_store_128 : decode cX3_store 128 = .ok (.iload_n 3, 1) := dk_29 (dk_at dksX3_store_5 8 rfl rfl)
theorem dX3_store_129 : decode cX3_store 129 = .ok (.bipush 6, 2) := dk_16 6 (dk_at dksX3_store_5 9 rfl rfl)
theorem dX3_store_131 : decode cX3_store 131 = .ok (.if_icmp .ge 45, 3) := dk_162 0 45 (dk_at dksX3_store_5 11 rfl rfl)
theorem dX3_store_134 : decode cX3_store 134 = .ok (.aload_n 0, 1) := dk_42 (dk_at dksX3_store_5 14 rfl rfl)
theorem dX3_store_135 : decode cX3_store 135 = .ok (.aload_n 0, 1) := dk_42 (dk_at dksX3_store_5 15 rfl rfl)
theorem dX3_store_136 : decode cX3_store 136 = .ok (.getfield 40, 3) := dk_180 0 40 (dk_at dksX3_store_5 16 rfl rfl)
theorem dX3_store_139 : decode cX3_store 139 = .ok (.iload_n 3, 1) := dk_29 (dk_at dksX3_store_5 19 rfl rfl)
theorem dX3_store_140 : decode cX3_store 140 = .ok (.iload_n 2, 1) := dk_28 (dk_at dksX3_store_5 20 rfl rfl)
theorem dX3_store_141 : decode cX3_store 141 = .ok (.iload_n 1, 1) := dk_27 (dk_at dksX3_store_5 21 rfl rfl)
theorem dX3_store_142 : decode cX3_store 142 = .ok (.invokevirtual 224, 3) := dk_182 0 224 (dk_at dksX3_store_6 0 rfl rfl)
theorem dX3_store_145 : decode cX3_store 145 = .ok (.istore_n 2, 1) := dk_61 (dk_at dksX3_store_6 3 rfl rfl)
theorem dX3_store_146 : decode cX3_store 146 = .ok (.aload_n 0, 1) := dk_42 (dk_at dksX3_store_6 4 rfl rfl)
theorem dX3_store_147 : decode cX3_store 147 = .ok (.aload_n 0, 1) := dk_42 (dk_at dksX3_store_6 5 rfl rfl)
theorem dX3_store_148 : decode cX3_store 148 = .ok (.getfield 43, 3) := dk_180 0 43 (dk_at dksX3_store_6 6 rfl rfl)
theorem dX3_store_151 : decode cX3_store 151 = .ok (.iload_n 3, 1) := dk_29 (dk_at dksX3_store_6 9 rfl rfl)
theorem dX3_store_152 : decode cX3_store 152 = .ok (.iload_n 2, 1) := dk_28 (dk_at dksX3_store_6 10 rfl rfl)
theorem dX3_store_153 : decode cX3_store 153 = .ok (.iload_n 1, 1) := dk_27 (dk_at dksX3_store_6 11 rfl rfl)
theorem dX3_store_154 : decode cX3_store 154 = .ok (.invokevirtual 224, 3) := dk_182 0 224 (dk_at dksX3_store_6 12 rfl rfl)
theorem dX3_store_157 : decode cX3_store 157 = .ok (.istore_n 2, 1) := dk_61 (dk_at dksX3_store_6 15 rfl rfl)
theorem dX3_store_158 : decode cX3_store 158 = .ok (.aload_n 0, 1) := dk_42 (dk_at dksX3_store_6 16 rfl rfl)
theorem dX3_store_159 : decode cX3_store 159 = .ok (.aload_n 0, 1) := dk_42 (dk_at dksX3_store_6 17 rfl rfl)
theorem dX3_store_160 : decode cX3_store 160 = .ok (.getfield 46, 3) := dk_180 0 46 (dk_at dksX3_store_6 18 rfl rfl)
theorem dX3_store_163 : decode cX3_store 163 = .ok (.iload_n 3, 1) := dk_29 (dk_at dksX3_store_6 21 rfl rfl)
theorem dX3_store_164 : decode cX3_store 164 = .ok (.iload_n 2, 1) := dk_28 (dk_at dksX3_store_6 22 rfl rfl)
theorem dX3_store_165 : decode cX3_store 165 = .ok (.iload_n 1, 1) := dk_27 (dk_at dksX3_store_6 23 rfl rfl)
theorem dX3_store_166 : decode cX3_store 166 = .ok (.invokevirtual 224, 3) := dk_182 0 224 (dk_at dksX3_store_7 0 rfl rfl)
theorem dX3_store_169 : decode cX3_store 169 = .ok (.istore_n 2, 1) := dk_61 (dk_at dksX3_store_7 3 rfl rfl)
theorem dX3_store_170 : decode cX3_store 170 = .ok (.iinc 3 1, 3) := dk_132 3 1 (dk_at dksX3_store_7 4 rfl rfl)
theorem dX3_store_173 : decode cX3_store 173 = .ok (.goto (-45), 3) := dk_167 255 211 (dk_at dksX3_store_7 7 rfl rfl)
theorem dX3_store_176 : decode cX3_store 176 = .ok (.iload_n 1, 1) := dk_27 (dk_at dksX3_store_7 10 rfl rfl)
theorem dX3_store_177 : decode cX3_store 177 = .ok (.ifCond .eq 89, 3) := dk_153 0 89 (dk_at dksX3_store_7 11 rfl rfl)
theorem dX3_store_180 : decode cX3_store 180 = .ok (.aload_n 0, 1) := dk_42 (dk_at dksX3_store_7 14 rfl rfl)
theorem dX3_store_181 : decode cX3_store 181 = .ok (.aload_n 0, 1) := dk_42 (dk_at dksX3_store_7 15 rfl rfl)
theorem dX3_store_182 : decode cX3_store 182 = .ok (.getfield 49, 3) := dk_180 0 49 (dk_at dksX3_store_7 16 rfl rfl)
theorem dX3_store_185 : decode cX3_store 185 = .ok (.iload_n 2, 1) := dk_28 (dk_at dksX3_store_7 19 rfl rfl)
theorem dX3_store_186 : decode cX3_store 186 = .ok (.iaload, 1) := dk_46 (dk_at dksX3_store_7 20 rfl rfl)
theorem dX3_store_187 : decode cX3_store 187 = .ok (.putfield 228, 3) := dk_181 0 228 (dk_at dksX3_store_7 21 rfl rfl)
theorem dX3_store_190 : decode cX3_store 190 = .ok (.aload_n 0, 1) := dk_42 (dk_at dksX3_store_8 0 rfl rfl)
theorem dX3_store_191 : decode cX3_store 191 = .ok (.aload_n 0, 1) := dk_42 (dk_at dksX3_store_8 1 rfl rfl)
theorem dX3_store_192 : decode cX3_store 192 = .ok (.getfield 49, 3) := dk_180 0 49 (dk_at dksX3_store_8 2 rfl rfl)
theorem dX3_store_195 : decode cX3_store 195 = .ok (.iload_n 2, 1) := dk_28 (dk_at dksX3_store_8 5 rfl rfl)
theorem dX3_store_196 : decode cX3_store 196 = .ok (.iconst 1, 1) := dk_4 (dk_at dksX3_store_8 6 rfl rfl)
theorem dX3_store_197 : decode cX3_store 197 = .ok (.iadd, 1) := dk_96 (dk_at dksX3_store_8 7 rfl rfl)
theorem dX3_store_198 : decode cX3_store 198 = .ok (.iaload, 1) := dk_46 (dk_at dksX3_store_8 8 rfl rfl)
theorem dX3_store_199 : decode cX3_store 199 = .ok (.putfield 231, 3) := dk_181 0 231 (dk_at dksX3_store_8 9 rfl rfl)
theorem dX3_store_202 : decode cX3_store 202 = .ok (.aload_n 0, 1) := dk_42 (dk_at dksX3_store_8 12 rfl rfl)
theorem dX3_store_203 : decode cX3_store 203 = .ok (.aload_n 0, 1) := dk_42 (dk_at dksX3_store_8 13 rfl rfl)
theorem dX3_store_204 : decode cX3_store 204 = .ok (.getfield 49, 3) := dk_180 0 49 (dk_at dksX3_store_8 14 rfl rfl)
theorem dX3_store_207 : decode cX3_store 207 = .ok (.iload_n 2, 1) := dk_28 (dk_at dksX3_store_8 17 rfl rfl)
theorem dX3_store_208 : decode cX3_store 208 = .ok (.iconst 2, 1) := dk_5 (dk_at dksX3_store_8 18 rfl rfl)
theorem dX3_store_209 : decode cX3_store 209 = .ok (.iadd, 1) := dk_96 (dk_at dksX3_store_8 19 rfl rfl)
theorem dX3_store_210 : decode cX3_store 210 = .ok (.iaload, 1) := dk_46 (dk_at dksX3_store_8 20 rfl rfl)
theorem dX3_store_211 : decode cX3_store 211 = .ok (.putfield 234, 3) := dk_181 0 234 (dk_at dksX3_store_8 21 rfl rfl)
theorem dX3_store_214 : decode cX3_store 214 = .ok (.aload_n 0, 1) := dk_42 (dk_at dksX3_store_9 0 rfl rfl)
theorem dX3_store_215 : decode cX3_store 215 = .ok (.aload_n 0, 1) := dk_42 (dk_at dksX3_store_9 1 rfl rfl)
theorem dX3_store_216 : decode cX3_store 216 = .ok (.getfield 49, 3) := dk_180 0 49 (dk_at dksX3_store_9 2 rfl rfl)
theorem dX3_store_219 : decode cX3_store 219 = .ok (.iload_n 2, 1) := dk_28 (dk_at dksX3_store_9 5 rfl rfl)
theorem dX3_store_220 : decode cX3_store 220 = .ok (.iconst 3, 1) := dk_6 (dk_at dksX3_store_9 6 rfl rfl)
theorem dX3_store_221 : decode cX3_store 221 = .ok (.iadd, 1) := dk_96 (dk_at dksX3_store_9 7 rfl rfl)
theorem dX3_store_222 : decode cX3_store 222 = .ok (.iaload, 1) := dk_46 (dk_at dksX3_store_9 8 rfl rfl)
theorem dX3_store_223 : decode cX3_store 223 = .ok (.putfield 237, 3) := dk_181 0 237 (dk_at dksX3_store_9 9 rfl rfl)
theorem dX3_store_226 : decode cX3_store 226 = .ok (.aload_n 0, 1) := dk_42 (dk_at dksX3_store_9 12 rfl rfl)
theorem dX3_store_227 : decode cX3_store 227 = .ok (.aload_n 0, 1) := dk_42 (dk_at dksX3_store_9 13 rfl rfl)
theorem dX3_store_228 : decode cX3_store 228 = .ok (.getfield 49, 3) := dk_180 0 49 (dk_at dksX3_store_9 14 rfl rfl)
theorem dX3_store_231 : decode cX3_store 231 = .ok (.iload_n 2, 1) := dk_28 (dk_at dksX3_store_9 17 rfl rfl)
theorem dX3_store_232 : decode cX3_store 232 = .ok (.iconst 4, 1) := dk_7 (dk_at dksX3_store_9 18 rfl rfl)
theorem dX3_store_233 : decode cX3_store 233 = .ok (.iadd, 1) := dk_96 (dk_at dksX3_store_9 19 rfl rfl)
theorem dX3_store_234 : decode cX3_store 234 = .ok (.iaload, 1) := dk_46 (dk_at dksX3_store_9 20 rfl rfl)
theorem dX3_store_235 : decode cX3_store 235 = .ok (.putfield 240, 3) := dk_181 0 240 (dk_at dksX3_store_9 21 rfl rfl)
theorem dX3_store_238 : decode cX3_store 238 = .ok (.aload_n 0, 1) := dk_42 (dk_at dksX3_store_10 0 rfl rfl)
theorem dX3_store_239 : decode cX3_store 239 = .ok (.aload_n 0, 1) := dk_42 (dk_at dksX3_store_10 1 rfl rfl)
theorem dX3_store_240 : decode cX3_store 240 = .ok (.getfield 49, 3) := dk_180 0 49 (dk_at dksX3_store_10 2 rfl rfl)
theorem dX3_store_243 : decode cX3_store 243 = .ok (.iload_n 2, 1) := dk_28 (dk_at dksX3_store_10 5 rfl rfl)
theorem dX3_store_244 : decode cX3_store 244 = .ok (.iconst 5, 1) := dk_8 (dk_at dksX3_store_10 6 rfl rfl)
theorem dX3_store_245 : decode cX3_store 245 = .ok (.iadd, 1) := dk_96 (dk_at dksX3_store_10 7 rfl rfl)
theorem dX3_store_246 : decode cX3_store 246 = .ok (.iaload, 1) := dk_46 (dk_at dksX3_store_10 8 rfl rfl)
theorem dX3_store_247 : decode cX3_store 247 = .ok (.putfield 243, 3) := dk_181 0 243 (dk_at dksX3_store_10 9 rfl rfl)
theorem dX3_store_250 : decode cX3_store 250 = .ok (.aload_n 0, 1) := dk_42 (dk_at dksX3_store_10 12 rfl rfl)
theorem dX3_store_251 : decode cX3_store 251 = .ok (.aload_n 0, 1) := dk_42 (dk_at dksX3_store_10 13 rfl rfl)
theorem dX3_store_252 : decode cX3_store 252 = .ok (.getfield 49, 3) := dk_180 0 49 (dk_at dksX3_store_10 14 rfl rfl)
theorem dX3_store_255 : decode cX3_store 255 = .ok (.iload_n 2, 1) := dk_28 (dk_at dksX3_store_10 17 rfl rfl)
theorem dX3_store_256 : decode cX3_store 256 = .ok (.bipush 6, 2) := dk_16 6 (dk_at dksX3_store_10 18 rfl rfl)
theorem dX3_store_258 : decode cX3_store 258 = .ok (.iadd, 1) := dk_96 (dk_at dksX3_store_10 20 rfl rfl)
theorem dX3_store_259 : decode cX3_store 259 = .ok (.iaload, 1) := dk_46 (dk_at dksX3_store_10 21 rfl rfl)
theorem dX3_store_260 : decode cX3_store 260 = .ok (.putfield 246, 3) := dk_181 0 246 (dk_at dksX3_store_11 0 rfl rfl)
theorem dX3_store_263 : decode cX3_store 263 = .ok (.goto 86, 3) := dk_167 0 86 (dk_at dksX3_store_11 3 rfl rfl)
theorem dX3_store_266 : decode cX3_store 266 = .ok (.aload_n 0, 1) := dk_42 (dk_at dksX3_store_11 6 rfl rfl)
theorem dX3_store_267 : decode cX3_store 267 = .ok (.getfield 49, 3) := dk_180 0 49 (dk_at dksX3_store_11 7 rfl rfl)
theorem dX3_store_270 : decode cX3_store 270 = .ok (.iload_n 2, 1) := dk_28 (dk_at dksX3_store_11 10 rfl rfl)
theorem dX3_store_271 : decode cX3_store 271 = .ok (.aload_n 0, 1) := dk_42 (dk_at dksX3_store_11 11 rfl rfl)
theorem dX3_store_272 : decode cX3_store 272 = .ok (.getfield 228, 3) := dk_180 0 228 (dk_at dksX3_store_11 12 rfl rfl)
theorem dX3_store_275 : decode cX3_store 275 = .ok (.iastore, 1) := dk_79 (dk_at dksX3_store_11 15 rfl rfl)
theorem dX3_store_276 : decode cX3_store 276 = .ok (.aload_n 0, 1) := dk_42 (dk_at dksX3_store_11 16 rfl rfl)
theorem dX3_store_277 : decode cX3_store 277 = .ok (.getfield 49, 3) := dk_180 0 49 (dk_at dksX3_store_11 17 rfl rfl)
theorem dX3_store_280 : decode cX3_store 280 = .ok (.iload_n 2, 1) := dk_28 (dk_at dksX3_store_11 20 rfl rfl)
theorem dX3_store_281 : decode cX3_store 281 = .ok (.iconst 1, 1) := dk_4 (dk_at dksX3_store_11 21 rfl rfl)
theorem dX3_store_282 : decode cX3_store 282 = .ok (.iadd, 1) := dk_96 (dk_at dksX3_store_11 22 rfl rfl)
theorem dX3_store_283 : decode cX3_store 283 = .ok (.aload_n 0, 1) := dk_42 (dk_at dksX3_store_11 23 rfl rfl)
theorem dX3_store_284 : decode cX3_store 284 = .ok (.getfield 231, 3) := dk_180 0 231 (dk_at dksX3_store_12 0 rfl rfl)
theorem dX3_store_287 : decode cX3_store 287 = .ok (.iastore, 1) := dk_79 (dk_at dksX3_store_12 3 rfl rfl)
theorem dX3_store_288 : decode cX3_store 288 = .ok (.aload_n 0, 1) := dk_42 (dk_at dksX3_store_12 4 rfl rfl)
theorem dX3_store_289 : decode cX3_store 289 = .ok (.getfield 49, 3) := dk_180 0 49 (dk_at dksX3_store_12 5 rfl rfl)
theorem dX3_store_292 : decode cX3_store 292 = .ok (.iload_n 2, 1) := dk_28 (dk_at dksX3_store_12 8 rfl rfl)
theorem dX3_store_293 : decode cX3_store 293 = .ok (.iconst 2, 1) := dk_5 (dk_at dksX3_store_12 9 rfl rfl)
theorem dX3_store_294 : decode cX3_store 294 = .ok (.iadd, 1) := dk_96 (dk_at dksX3_store_12 10 rfl rfl)
theorem dX3_store_295 : decode cX3_store 295 = .ok (.aload_n 0, 1) := dk_42 (dk_at dksX3_store_12 11 rfl rfl)
theorem dX3_store_296 : decode cX3_store 296 = .ok (.getfield 234, 3) := dk_180 0 234 (dk_at dksX3_store_12 12 rfl rfl)
theorem dX3_store_299 : decode cX3_store 299 = .ok (.iastore, 1) := dk_79 (dk_at dksX3_store_12 15 rfl rfl)
theorem dX3_store_300 : decode cX3_store 300 = .ok (.aload_n 0, 1) := dk_42 (dk_at dksX3_store_12 16 rfl rfl)
theorem dX3_store_301 : decode cX3_store 301 = .ok (.getfield 49, 3) := dk_180 0 49 (dk_at dksX3_store_12 17 rfl rfl)
theorem dX3_store_304 : decode cX3_store 304 = .ok (.iload_n 2, 1) := dk_28 (dk_at dksX3_store_12 20 rfl rfl)
theorem dX3_store_305 : decode cX3_store 305 = .ok (.iconst 3, 1) := dk_6 (dk_at dksX3_store_12 21 rfl rfl)
theorem dX3_store_306 : decode cX3_store 306 = .ok (.iadd, 1) := dk_96 (dk_at dksX3_store_12 22 rfl rfl)
theorem dX3_store_307 : decode cX3_store 307 = .ok (.aload_n 0, 1) := dk_42 (dk_at dksX3_store_12 23 rfl rfl)
theorem dX3_store_308 : decode cX3_store 308 = .ok (.getfield 237, 3) := dk_180 0 237 (dk_at dksX3_store_13 0 rfl rfl)
theorem dX3_store_311 : decode cX3_store 311 = .ok (.iastore, 1) := dk_79 (dk_at dksX3_store_13 3 rfl rfl)
theorem dX3_store_312 : decode cX3_store 312 = .ok (.aload_n 0, 1) := dk_42 (dk_at dksX3_store_13 4 rfl rfl)
theorem dX3_store_313 : decode cX3_store 313 = .ok (.getfield 49, 3) := dk_180 0 49 (dk_at dksX3_store_13 5 rfl rfl)
theorem dX3_store_316 : decode cX3_store 316 = .ok (.iload_n 2, 1) := dk_28 (dk_at dksX3_store_13 8 rfl rfl)
theorem dX3_store_317 : decode cX3_store 317 = .ok (.iconst 4, 1) := dk_7 (dk_at dksX3_store_13 9 rfl rfl)
theorem dX3_store_318 : decode cX3_store 318 = .ok (.iadd, 1) := dk_96 (dk_at dksX3_store_13 10 rfl rfl)
theorem dX3_store_319 : decode cX3_store 319 = .ok (.aload_n 0, 1) := dk_42 (dk_at dksX3_store_13 11 rfl rfl)
theorem dX3_store_320 : decode cX3_store 320 = .ok (.getfield 240, 3) := dk_180 0 240 (dk_at dksX3_store_13 12 rfl rfl)
theorem dX3_store_323 : decode cX3_store 323 = .ok (.iastore, 1) := dk_79 (dk_at dksX3_store_13 15 rfl rfl)
theorem dX3_store_324 : decode cX3_store 324 = .ok (.aload_n 0, 1) := dk_42 (dk_at dksX3_store_13 16 rfl rfl)
theorem dX3_store_325 : decode cX3_store 325 = .ok (.getfield 49, 3) := dk_180 0 49 (dk_at dksX3_store_13 17 rfl rfl)
theorem dX3_store_328 : decode cX3_store 328 = .ok (.iload_n 2, 1) := dk_28 (dk_at dksX3_store_13 20 rfl rfl)
theorem dX3_store_329 : decode cX3_store 329 = .ok (.iconst 5, 1) := dk_8 (dk_at dksX3_store_13 21 rfl rfl)
theorem dX3_store_330 : decode cX3_store 330 = .ok (.iadd, 1) := dk_96 (dk_at dksX3_store_13 22 rfl rfl)
theorem dX3_store_331 : decode cX3_store 331 = .ok (.aload_n 0, 1) := dk_42 (dk_at dksX3_store_13 23 rfl rfl)
theorem dX3_store_332 : decode cX3_store 332 = .ok (.getfield 243, 3) := dk_180 0 243 (dk_at dksX3_store_14 0 rfl rfl)
theorem dX3_store_335 : decode cX3_store 335 = .ok (.iastore, 1) := dk_79 (dk_at dksX3_store_14 3 rfl rfl)
theorem dX3_store_336 : decode cX3_store 336 = .ok (.aload_n 0, 1) := dk_42 (dk_at dksX3_store_14 4 rfl rfl)
theorem dX3_store_337 : decode cX3_store 337 = .ok (.getfield 49, 3) := dk_180 0 49 (dk_at dksX3_store_14 5 rfl rfl)
theorem dX3_store_340 : decode cX3_store 340 = .ok (.iload_n 2, 1) := dk_28 (dk_at dksX3_store_14 8 rfl rfl)
theorem dX3_store_341 : decode cX3_store 341 = .ok (.bipush 6, 2) := dk_16 6 (dk_at dksX3_store_14 9 rfl rfl)
theorem dX3_store_343 : decode cX3_store 343 = .ok (.iadd, 1) := dk_96 (dk_at dksX3_store_14 11 rfl rfl)
theorem dX3_store_344 : decode cX3_store 344 = .ok (.aload_n 0, 1) := dk_42 (dk_at dksX3_store_14 12 rfl rfl)
theorem dX3_store_345 : decode cX3_store 345 = .ok (.getfield 246, 3) := dk_180 0 246 (dk_at dksX3_store_14 13 rfl rfl)
theorem dX3_store_348 : decode cX3_store 348 = .ok (.iastore, 1) := dk_79 (dk_at dksX3_store_14 16 rfl rfl)
theorem dX3_store_349 : decode cX3_store 349 = .ok (.return_, 1) := dk_177 (dk_at dksX3_store_14 17 rfl rfl)
abbrev cX3_cell : ByteArray := prog_23_method_21_code
def yX3_cell : MethodName := ⟨RX3, "cell", "([IIIZ)I"⟩
def dkwX3_cell_1 : List UInt8 := [46, 79, 29, 4, 96, 172]
abbrev dktX3_cell_1 : List UInt8 := dkwX3_cell_1 ++ []
def dkwX3_cell_0 : List UInt8 := [21, 4, 153, 0, 15, 43, 28, 42, 180, 0, 49, 29, 46, 79, 167, 0, 12, 42, 180, 0, 49, 29, 43, 28]
abbrev dktX3_cell_0 : List UInt8 := dkwX3_cell_0 ++ dktX3_cell_1
theorem dksX3_cell_0 : cX3_cell.data.toList.drop 0 = dktX3_cell_0 := by decide +kernel
theorem dksX3_cell_1 : cX3_cell.data.toList.drop 24 = dktX3_cell_1 := dk_seg dksX3_cell_0 24 rfl rfl
theorem dX3_cell_0 : decode cX3_cell 0 = .ok (.iload 4, 2) := dk_21 4 (dk_at dksX3_cell_0 0 rfl rfl)
theorem dX3_cell_2 : decode cX3_cell 2 = .ok (.ifCond .eq 15, 3) := dk_153 0 15 (dk_at dksX3_cell_0 2 rfl rfl)
theorem dX3_cell_5 : decode cX3_cell 5 = .ok (.aload_n 1, 1) := dk_43 (dk_at dksX3_cell_0 5 rfl rfl)
theorem dX3_cell_6 : decode cX3_cell 6 = .ok (.iload_n 2, 1) := dk_28 (dk_at dksX3_cell_0 6 rfl rfl)
theorem dX3_cell_7 : decode cX3_cell 7 = .ok (.aload_n 0, 1) := dk_42 (dk_at dksX3_cell_0 7 rfl rfl)
theorem dX3_cell_8 : decode cX3_cell 8 = .ok (.getfield 49, 3) := dk_180 0 49 (dk_at dksX3_cell_0 8 rfl rfl)
theorem dX3_cell_11 : decode cX3_cell 11 = .ok (.iload_n 3, 1) := dk_29 (dk_at dksX3_cell_0 11 rfl rfl)
theorem dX3_cell_12 : decode cX3_cell 12 = .ok (.iaload, 1) := dk_46 (dk_at dksX3_cell_0 12 rfl rfl)
theorem dX3_cell_13 : decode cX3_cell 13 = .ok (.iastore, 1) := dk_79 (dk_at dksX3_cell_0 13 rfl rfl)
theorem dX3_cell_14 : decode cX3_cell 14 = .ok (.goto 12, 3) := dk_167 0 12 (dk_at dksX3_cell_0 14 rfl rfl)
theorem dX3_cell_17 : decode cX3_cell 17 = .ok (.aload_n 0, 1) := dk_42 (dk_at dksX3_cell_0 17 rfl rfl)
theorem dX3_cell_18 : decode cX3_cell 18 = .ok (.getfield 49, 3) := dk_180 0 49 (dk_at dksX3_cell_0 18 rfl rfl)
theorem dX3_cell_21 : decode cX3_cell 21 = .ok (.iload_n 3, 1) := dk_29 (dk_at dksX3_cell_0 21 rfl rfl)
theorem dX3_cell_22 : decode cX3_cell 22 = .ok (.aload_n 1, 1) := dk_43 (dk_at dksX3_cell_0 22 rfl rfl)
theorem dX3_cell_23 : decode cX3_cell 23 = .ok (.iload_n 2, 1) := dk_28 (dk_at dksX3_cell_0 23 rfl rfl)
theorem dX3_cell_24 : decode cX3_cell 24 = .ok (.iaload, 1) := dk_46 (dk_at dksX3_cell_1 0 rfl rfl)
theorem dX3_cell_25 : decode cX3_cell 25 = .ok (.iastore, 1) := dk_79 (dk_at dksX3_cell_1 1 rfl rfl)
theorem dX3_cell_26 : decode cX3_cell 26 = .ok (.iload_n 3, 1) := dk_29 (dk_at dksX3_cell_1 2 rfl rfl)
theorem dX3_cell_27 : decode cX3_cell 27 = .ok (.iconst 1, 1) := dk_4 (dk_at dksX3_cell_1 3 rfl rfl)
theorem dX3_cell_28 : decode cX3_cell 28 = .ok (.iadd, 1) := dk_96 (dk_at dksX3_cell_1 4 rfl rfl)
theorem dX3_cell_29 : decode cX3_cell 29 = .ok (.ireturn, 1) := dk_172 (dk_at dksX3_cell_1 5 rfl rfl)
abbrev cX3_begins : ByteArray := prog_23_method_12_code
def yX3_begins : MethodName := ⟨RX3, "begins", "(I)V"⟩
def dkwX3_begins_0 : List UInt8 := [42, 27, 181, 0, 140, 42, 3, 181, 0, 143, 42, 3, 181, 0, 169, 42, 182, 0, 173, 177]
abbrev dktX3_begins_0 : List UInt8 := dkwX3_begins_0 ++ []
theorem dksX3_begins_0 : cX3_begins.data.toList.drop 0 = dktX3_begins_0 := by decide +kernel
theorem dX3_begins_0 : decode cX3_begins 0 = .ok (.aload_n 0, 1) := dk_42 (dk_at dksX3_begins_0 0 rfl rfl)
theorem dX3_begins_1 : decode cX3_begins 1 = .ok (.iload_n 1, 1) := dk_27 (dk_at dksX3_begins_0 1 rfl rfl)
theorem dX3_begins_2 : decode cX3_begins 2 = .ok (.putfield 140, 3) := dk_181 0 140 (dk_at dksX3_begins_0 2 rfl rfl)
theorem dX3_begins_5 : decode cX3_begins 5 = .ok (.aload_n 0, 1) := dk_42 (dk_at dksX3_begins_0 5 rfl rfl)
theorem dX3_begins_6 : decode cX3_begins 6 = .ok (.iconst 0, 1) := dk_3 (dk_at dksX3_begins_0 6 rfl rfl)
theorem dX3_begins_7 : decode cX3_begins 7 = .ok (.putfield 143, 3) := dk_181 0 143 (dk_at dksX3_begins_0 7 rfl rfl)
theorem dX3_begins_10 : decode cX3_begins 10 = .ok (.aload_n 0, 1) := dk_42 (dk_at dksX3_begins_0 10 rfl rfl)
theorem dX3_begins_11 : decode cX3_begins 11 = .ok (.iconst 0, 1) := dk_3 (dk_at dksX3_begins_0 11 rfl rfl)
theorem dX3_begins_12 : decode cX3_begins 12 = .ok (.putfield 169, 3) := dk_181 0 169 (dk_at dksX3_begins_0 12 rfl rfl)
theorem dX3_begins_15 : decode cX3_begins 15 = .ok (.aload_n 0, 1) := dk_42 (dk_at dksX3_begins_0 15 rfl rfl)
theorem dX3_begins_16 : decode cX3_begins 16 = .ok (.invokevirtual 173, 3) := dk_182 0 173 (dk_at dksX3_begins_0 16 rfl rfl)
theorem dX3_begins_19 : decode cX3_begins 19 = .ok (.return_, 1) := dk_177 (dk_at dksX3_begins_0 19 rfl rfl)
abbrev cX3_next : ByteArray := prog_23_method_11_code
def yX3_next : MethodName := ⟨RX3, "next", "()V"⟩
def dkwX3_next_11 : List UInt8 := [160, 0, 7, 28, 167, 0, 4, 4, 181, 0, 159, 177]
abbrev dktX3_next_11 : List UInt8 := dkwX3_next_11 ++ []
def dkwX3_next_10 : List UInt8 := [159, 0, 27, 28, 16, 44, 159, 0, 21, 28, 16, 45, 159, 0, 15, 28, 16, 40, 159, 0, 9, 28, 16, 41]
abbrev dktX3_next_10 : List UInt8 := dkwX3_next_10 ++ dktX3_next_11
def dkwX3_next_9 : List UInt8 := [4, 167, 0, 4, 6, 181, 0, 159, 167, 0, 49, 42, 27, 4, 96, 181, 0, 143, 42, 28, 16, 59]
abbrev dktX3_next_9 : List UInt8 := dkwX3_next_9 ++ dktX3_next_10
def dkwX3_next_8 : List UInt8 := [100, 181, 0, 156, 132, 3, 1, 132, 1, 1, 167, 255, 214, 42, 27, 181, 0, 143, 42, 29, 7, 164, 0, 7]
abbrev dktX3_next_8 : List UInt8 := dkwX3_next_8 ++ dktX3_next_9
def dkwX3_next_7 : List UInt8 := [153, 0, 37, 29, 7, 162, 0, 23, 42, 16, 10, 42, 180, 0, 156, 104, 42, 27, 182, 0, 146, 96, 16, 48]
abbrev dktX3_next_7 : List UInt8 := dkwX3_next_7 ++ dktX3_next_8
def dkwX3_next_6 : List UInt8 := [181, 0, 159, 167, 0, 125, 28, 184, 0, 166, 153, 0, 72, 3, 62, 42, 27, 182, 0, 146, 184, 0, 166]
abbrev dktX3_next_6 : List UInt8 := dkwX3_next_6 ++ dktX3_next_7
def dkwX3_next_5 : List UInt8 := [167, 255, 209, 42, 27, 181, 0, 143, 42, 42, 180, 0, 153, 16, 8, 164, 0, 7, 4, 167, 0, 4, 5]
abbrev dktX3_next_5 : List UInt8 := dkwX3_next_5 ++ dktX3_next_6
def dkwX3_next_4 : List UInt8 := [180, 0, 153, 42, 27, 182, 0, 146, 79, 42, 89, 180, 0, 153, 4, 96, 181, 0, 153, 132, 1, 1]
abbrev dktX3_next_4 : List UInt8 := dkwX3_next_4 ++ dktX3_next_5
def dkwX3_next_3 : List UInt8 := [182, 0, 146, 184, 0, 162, 153, 0, 42, 42, 180, 0, 153, 16, 8, 162, 0, 17, 42, 180, 0, 13, 42]
abbrev dktX3_next_3 : List UInt8 := dkwX3_next_3 ++ dktX3_next_4
def dkwX3_next_2 : List UInt8 := [42, 3, 181, 0, 159, 42, 27, 181, 0, 143, 167, 0, 208, 28, 184, 0, 162, 153, 0, 79, 42, 27]
abbrev dktX3_next_2 : List UInt8 := dkwX3_next_2 ++ dktX3_next_3
def dkwX3_next_1 : List UInt8 := [181, 0, 150, 42, 27, 182, 0, 146, 61, 42, 3, 181, 0, 153, 42, 3, 181, 0, 156, 28, 2, 160, 0, 16]
abbrev dktX3_next_1 : List UInt8 := dkwX3_next_1 ++ dktX3_next_2
def dkwX3_next_0 : List UInt8 := [42, 180, 0, 143, 60, 42, 27, 182, 0, 146, 16, 32, 160, 0, 9, 132, 1, 1, 167, 255, 243, 42, 27]
abbrev dktX3_next_0 : List UInt8 := dkwX3_next_0 ++ dktX3_next_1
theorem dksX3_next_0 : cX3_next.data.toList.drop 0 = dktX3_next_0 := by decide +kernel
theorem dksX3_next_1 : cX3_next.data.toList.drop 23 = dktX3_next_1 := dk_seg dksX3_next_0 23 rfl rfl
theorem dksX3_next_2 : cX3_next.data.toList.drop 47 = dktX3_next_2 := dk_seg dksX3_next_1 24 rfl rfl
theorem dksX3_next_3 : cX3_next.data.toList.drop 69 = dktX3_next_3 := dk_seg dksX3_next_2 22 rfl rfl
theorem dksX3_next_4 : cX3_next.data.toList.drop 92 = dktX3_next_4 := dk_seg dksX3_next_3 23 rfl rfl
theorem dksX3_next_5 : cX3_next.data.toList.drop 114 = dktX3_next_5 := dk_seg dksX3_next_4 22 rfl rfl
theorem dksX3_next_6 : cX3_next.data.toList.drop 137 = dktX3_next_6 := dk_seg dksX3_next_5 23 rfl rfl
theorem dksX3_next_7 : cX3_next.data.toList.drop 160 = dktX3_next_7 := dk_seg dksX3_next_6 23 rfl rfl
theorem dksX3_next_8 : cX3_next.data.toList.drop 184 = dktX3_next_8 := dk_seg dksX3_next_7 24 rfl rfl
theorem dksX3_next_9 : cX3_next.data.toList.drop 208 = dktX3_next_9 := dk_seg dksX3_next_8 24 rfl rfl
theorem dksX3_next_10 : cX3_next.data.toList.drop 230 = dktX3_next_10 := dk_seg dksX3_next_9 22 rfl rfl
theorem dksX3_next_11 : cX3_next.data.toList.drop 254 = dktX3_next_11 := dk_seg dksX3_next_10 24 rfl rfl
theorem dX3_next_0 : decode cX3_next 0 = .ok (.aload_n 0, 1) := dk_42 (dk_at dksX3_next_0 0 rfl rfl)
theorem dX3_next_1 : decode cX3_next 1 = .ok (.getfield 143, 3) := dk_180 0 143 (dk_at dksX3_next_0 1 rfl rfl)
theorem dX3_next_4 : decode cX3_next 4 = .ok (.istore_n 1, 1) := dk_60 (dk_at dksX3_next_0 4 rfl rfl)
theorem dX3_next_5 : decode cX3_next 5 = .ok (.aload_n 0, 1) := dk_42 (dk_at dksX3_next_0 5 rfl rfl)
theorem dX3_next_6 : decode cX3_next 6 = .ok (.iload_n 1, 1) := dk_27 (dk_at dksX3_next_0 6 rfl rfl)
theorem dX3_next_7 : decode cX3_next 7 = .ok (.invokevirtual 146, 3) := dk_182 0 146 (dk_at dksX3_next_0 7 rfl rfl)
theorem dX3_next_10 : decode cX3_next 10 = .ok (.bipush 32, 2) := dk_16 32 (dk_at dksX3_next_0 10 rfl rfl)
theorem dX3_next_12 : decode cX3_next 12 = .ok (.if_icmp .ne 9, 3) := dk_160 0 9 (dk_at dksX3_next_0 12 rfl rfl)
theorem dX3_next_15 : decode cX3_next 15 = .ok (.iinc 1 1, 3) := dk_132 1 1 (dk_at dksX3_next_0 15 rfl rfl)
theorem dX3_next_18 : decode cX3_next 18 = .ok (.goto (-13), 3) := dk_167 255 243 (dk_at dksX3_next_0 18 rfl rfl)
theorem dX3_next_21 : decode cX3_next 21 = .ok (.aload_n 0, 1) := dk_42 (dk_at dksX3_next_0 21 rfl rfl)
theorem dX3_next_22 : decode cX3_next 22 = .ok (.iload_n 1, 1) := dk_27 (dk_at dksX3_next_0 22 rfl rfl)
theorem dX3_next_23 : decode cX3_next 23 = .ok (.putfield 150, 3) := dk_181 0 150 (dk_at dksX3_next_1 0 rfl rfl)
theorem dX3_next_26 : decode cX3_next 26 = .ok (.aload_n 0, 1) := dk_42 (dk_at dksX3_next_1 3 rfl rfl)
theorem dX3_next_27 : decode cX3_next 27 = .ok (.iload_n 1, 1) := dk_27 (dk_at dksX3_next_1 4 rfl rfl)
theorem dX3_next_28 : decode cX3_next 28 = .ok (.invokevirtual 146, 3) := dk_182 0 146 (dk_at dksX3_next_1 5 rfl rfl)
theorem dX3_next_31 : decode cX3_next 31 = .ok (.istore_n 2, 1) := dk_61 (dk_at dksX3_next_1 8 rfl rfl)
theorem dX3_next_32 : decode cX3_next 32 = .ok (.aload_n 0, 1) := dk_42 (dk_at dksX3_next_1 9 rfl rfl)
theorem dX3_next_33 : decode cX3_next 33 = .ok (.iconst 0, 1) := dk_3 (dk_at dksX3_next_1 10 rfl rfl)
theorem dX3_next_34 : decode cX3_next 34 = .ok (.putfield 153, 3) := dk_181 0 153 (dk_at dksX3_next_1 11 rfl rfl)
theorem dX3_next_37 : decode cX3_next 37 = .ok (.aload_n 0, 1) := dk_42 (dk_at dksX3_next_1 14 rfl rfl)
theorem dX3_next_38 : decode cX3_next 38 = .ok (.iconst 0, 1) := dk_3 (dk_at dksX3_next_1 15 rfl rfl)
theorem dX3_next_39 : decode cX3_next 39 = .ok (.putfield 156, 3) := dk_181 0 156 (dk_at dksX3_next_1 16 rfl rfl)
theorem dX3_next_42 : decode cX3_next 42 = .ok (.iload_n 2, 1) := dk_28 (dk_at dksX3_next_1 19 rfl rfl)
theorem dX3_next_43 : decode cX3_next 43 = .ok (.iconst (-1), 1) := dk_2 (dk_at dksX3_next_1 20 rfl rfl)
theorem dX3_next_44 : decode cX3_next 44 = .ok (.if_icmp .ne 16, 3) := dk_160 0 16 (dk_at dksX3_next_1 21 rfl rfl)
theorem dX3_next_47 : decode cX3_next 47 = .ok (.aload_n 0, 1) := dk_42 (dk_at dksX3_next_2 0 rfl rfl)
theorem dX3_next_48 : decode cX3_next 48 = .ok (.iconst 0, 1) := dk_3 (dk_at dksX3_next_2 1 rfl rfl)
theorem dX3_next_49 : decode cX3_next 49 = .ok (.putfield 159, 3) := dk_181 0 159 (dk_at dksX3_next_2 2 rfl rfl)
theorem dX3_next_52 : decode cX3_next 52 = .ok (.aload_n 0, 1) := dk_42 (dk_at dksX3_next_2 5 rfl rfl)
theorem dX3_next_53 : decode cX3_next 53 = .ok (.iload_n 1, 1) := dk_27 (dk_at dksX3_next_2 6 rfl rfl)
theorem dX3_next_54 : decode cX3_next 54 = .ok (.putfield 143, 3) := dk_181 0 143 (dk_at dksX3_next_2 7 rfl rfl)
theorem dX3_next_57 : decode cX3_next 57 = .ok (.goto 208, 3) := dk_167 0 208 (dk_at dksX3_next_2 10 rfl rfl)
theorem dX3_next_60 : decode cX3_next 60 = .ok (.iload_n 2, 1) := dk_28 (dk_at dksX3_next_2 13 rfl rfl)
theorem dX3_next_61 : decode cX3_next 61 = .ok (.invokestatic 162, 3) := dk_184 0 162 (dk_at dksX3_next_2 14 rfl rfl)
theorem dX3_next_64 : decode cX3_next 64 = .ok (.ifCond .eq 79, 3) := dk_153 0 79 (dk_at dksX3_next_2 17 rfl rfl)
theorem dX3_next_67 : decode cX3_next 67 = .ok (.aload_n 0, 1) := dk_42 (dk_at dksX3_next_2 20 rfl rfl)
theorem dX3_next_68 : decode cX3_next 68 = .ok (.iload_n 1, 1) := dk_27 (dk_at dksX3_next_2 21 rfl rfl)
theorem dX3_next_69 : decode cX3_next 69 = .ok (.invokevirtual 146, 3) := dk_182 0 146 (dk_at dksX3_next_3 0 rfl rfl)
theorem dX3_next_72 : decode cX3_next 72 = .ok (.invokestatic 162, 3) := dk_184 0 162 (dk_at dksX3_next_3 3 rfl rfl)
theorem dX3_next_75 : decode cX3_next 75 = .ok (.ifCond .eq 42, 3) := dk_153 0 42 (dk_at dksX3_next_3 6 rfl rfl)
theorem dX3_next_78 : decode cX3_next 78 = .ok (.aload_n 0, 1) := dk_42 (dk_at dksX3_next_3 9 rfl rfl)
theorem dX3_next_79 : decode cX3_next 79 = .ok (.getfield 153, 3) := dk_180 0 153 (dk_at dksX3_next_3 10 rfl rfl)
theorem dX3_next_82 : decode cX3_next 82 = .ok (.bipush 8, 2) := dk_16 8 (dk_at dksX3_next_3 13 rfl rfl)
theorem dX3_next_84 : decode cX3_next 84 = .ok (.if_icmp .ge 17, 3) := dk_162 0 17 (dk_at dksX3_next_3 15 rfl rfl)
theorem dX3_next_87 : decode cX3_next 87 = .ok (.aload_n 0, 1) := dk_42 (dk_at dksX3_next_3 18 rfl rfl)
theorem dX3_next_88 : decode cX3_next 88 = .ok (.getfield 13, 3) := dk_180 0 13 (dk_at dksX3_next_3 19 rfl rfl)
theorem dX3_next_91 : decode cX3_next 91 = .ok (.aload_n 0, 1) := dk_42 (dk_at dksX3_next_3 22 rfl rfl)
theorem dX3_next_92 : decode cX3_next 92 = .ok (.getfield 153, 3) := dk_180 0 153 (dk_at dksX3_next_4 0 rfl rfl)
theorem dX3_next_95 : decode cX3_next 95 = .ok (.aload_n 0, 1) := dk_42 (dk_at dksX3_next_4 3 rfl rfl)
theorem dX3_next_96 : decode cX3_next 96 = .ok (.iload_n 1, 1) := dk_27 (dk_at dksX3_next_4 4 rfl rfl)
theorem dX3_next_97 : decode cX3_next 97 = .ok (.invokevirtual 146, 3) := dk_182 0 146 (dk_at dksX3_next_4 5 rfl rfl)
theorem dX3_next_100 : decode cX3_next 100 = .ok (.iastore, 1) := dk_79 (dk_at dksX3_next_4 8 rfl rfl)
theorem dX3_next_101 : decode cX3_next 101 = .ok (.aload_n 0, 1) := dk_42 (dk_at dksX3_next_4 9 rfl rfl)
theorem dX3_next_102 : decode cX3_next 102 = .ok (.dup, 1) := dk_89 (dk_at dksX3_next_4 10 rfl rfl)
theorem dX3_next_103 : decode cX3_next 103 = .ok (.getfield 153, 3) := dk_180 0 153 (dk_at dksX3_next_4 11 rfl rfl)
theorem dX3_next_106 : decode cX3_next 106 = .ok (.iconst 1, 1) := dk_4 (dk_at dksX3_next_4 14 rfl rfl)
theorem dX3_next_107 : decode cX3_next 107 = .ok (.iadd, 1) := dk_96 (dk_at dksX3_next_4 15 rfl rfl)
theorem dX3_next_108 : decode cX3_next 108 = .ok (.putfield 153, 3) := dk_181 0 153 (dk_at dksX3_next_4 16 rfl rfl)
theorem dX3_next_111 : decode cX3_next 111 = .ok (.iinc 1 1, 3) := dk_132 1 1 (dk_at dksX3_next_4 19 rfl rfl)
theorem dX3_next_114 : decode cX3_next 114 = .ok (.goto (-47), 3) := dk_167 255 209 (dk_at dksX3_next_5 0 rfl rfl)
theorem dX3_next_117 : decode cX3_next 117 = .ok (.aload_n 0, 1) := dk_42 (dk_at dksX3_next_5 3 rfl rfl)
theorem dX3_next_118 : decode cX3_next 118 = .ok (.iload_n 1, 1) := dk_27 (dk_at dksX3_next_5 4 rfl rfl)
theorem dX3_next_119 : decode cX3_next 119 = .ok (.putfield 143, 3) := dk_181 0 143 (dk_at dksX3_next_5 5 rfl rfl)
theorem dX3_next_122 : decode cX3_next 122 = .ok (.aload_n 0, 1) := dk_42 (dk_at dksX3_next_5 8 rfl rfl)
theorem dX3_next_123 : decode cX3_next 123 = .ok (.aload_n 0, 1) := dk_42 (dk_at dksX3_next_5 9 rfl rfl)
theorem dX3_next_124 : decode cX3_next 124 = .ok (.getfield 153, 3) := dk_180 0 153 (dk_at dksX3_next_5 10 rfl rfl)
theorem dX3_next_127 : decode cX3_next 127 = .ok (.bipush 8, 2) := dk_16 8 (dk_at dksX3_next_5 13 rfl rfl)
theorem dX3_next_129 : decode cX3_next 129 = .ok (.if_icmp .le 7, 3) := dk_164 0 7 (dk_at dksX3_next_5 15 rfl rfl)
theorem dX3_next_132 : decode cX3_next 132 = .ok (.iconst 1, 1) := dk_4 (dk_at dksX3_next_5 18 rfl rfl)
theorem dX3_next_133 : decode cX3_next 133 = .ok (.goto 4, 3) := dk_167 0 4 (dk_at dksX3_next_5 19 rfl rfl)
theorem dX3_next_136 : decode cX3_next 136 = .ok (.iconst 2, 1) := dk_5 (dk_at dksX3_next_5 22 rfl rfl)
theorem dX3_next_137 : decode cX3_next 137 = .ok (.putfield 159, 3) := dk_181 0 159 (dk_at dksX3_next_6 0 rfl rfl)
theorem dX3_next_140 : decode cX3_next 140 = .ok (.goto 125, 3) := dk_167 0 125 (dk_at dksX3_next_6 3 rfl rfl)
theorem dX3_next_143 : decode cX3_next 143 = .ok (.iload_n 2, 1) := dk_28 (dk_at dksX3_next_6 6 rfl rfl)
theorem dX3_next_144 : decode cX3_next 144 = .ok (.invokestatic 166, 3) := dk_184 0 166 (dk_at dksX3_next_6 7 rfl rfl)
theorem dX3_next_147 : decode cX3_next 147 = .ok (.ifCond .eq 72, 3) := dk_153 0 72 (dk_at dksX3_next_6 10 rfl rfl)
theorem dX3_next_150 : decode cX3_next 150 = .ok (.iconst 0, 1) := dk_3 (dk_at dksX3_next_6 13 rfl rfl)
theorem dX3_next_151 : decode cX3_next 151 = .ok (.istore_n 3, 1) := dk_62 (dk_at dksX3_next_6 14 rfl rfl)
theorem dX3_next_152 : decode cX3_next 152 = .ok (.aload_n 0, 1) := dk_42 (dk_at dksX3_next_6 15 rfl rfl)
theorem dX3_next_153 : decode cX3_next 153 = .ok (.iload_n 1, 1) := dk_27 (dk_at dksX3_next_6 16 rfl rfl)
theorem dX3_next_154 : decode cX3_next 154 = .ok (.invokevirtual 146, 3) := dk_182 0 146 (dk_at dksX3_next_6 17 rfl rfl)
theorem dX3_next_157 : decode cX3_next 157 = .ok (.invokestatic 166, 3) := dk_184 0 166 (dk_at dksX3_next_6 20 rfl rfl)
theorem dX3_next_160 : decode cX3_next 160 = .ok (.ifCond .eq 37, 3) := dk_153 0 37 (dk_at dksX3_next_7 0 rfl rfl)
theorem dX3_next_163 : decode cX3_next 163 = .ok (.iload_n 3, 1) := dk_29 (dk_at dksX3_next_7 3 rfl rfl)
theorem dX3_next_164 : decode cX3_next 164 = .ok (.iconst 4, 1) := dk_7 (dk_at dksX3_next_7 4 rfl rfl)
theorem dX3_next_165 : decode cX3_next 165 = .ok (.if_icmp .ge 23, 3) := dk_162 0 23 (dk_at dksX3_next_7 5 rfl rfl)
theorem dX3_next_168 : decode cX3_next 168 = .ok (.aload_n 0, 1) := dk_42 (dk_at dksX3_next_7 8 rfl rfl)
theorem dX3_next_169 : decode cX3_next 169 = .ok (.bipush 10, 2) := dk_16 10 (dk_at dksX3_next_7 9 rfl rfl)
theorem dX3_next_171 : decode cX3_next 171 = .ok (.aload_n 0, 1) := dk_42 (dk_at dksX3_next_7 11 rfl rfl)
theorem dX3_next_172 : decode cX3_next 172 = .ok (.getfield 156, 3) := dk_180 0 156 (dk_at dksX3_next_7 12 rfl rfl)
theorem dX3_next_175 : decode cX3_next 175 = .ok (.imul, 1) := dk_104 (dk_at dksX3_next_7 15 rfl rfl)
theorem dX3_next_176 : decode cX3_next 176 = .ok (.aload_n 0, 1) := dk_42 (dk_at dksX3_next_7 16 rfl rfl)
theorem dX3_next_177 : decode cX3_next 177 = .ok (.iload_n 1, 1) := dk_27 (dk_at dksX3_next_7 17 rfl rfl)
theorem dX3_next_178 : decode cX3_next 178 = .ok (.invokevirtual 146, 3) := dk_182 0 146 (dk_at dksX3_next_7 18 rfl rfl)
theorem dX3_next_181 : decode cX3_next 181 = .ok (.iadd, 1) := dk_96 (dk_at dksX3_next_7 21 rfl rfl)
theorem dX3_next_182 : decode cX3_next 182 = .ok (.bipush 48, 2) := dk_16 48 (dk_at dksX3_next_7 22 rfl rfl)
theorem dX3_next_184 : decode cX3_next 184 = .ok (.isub, 1) := dk_100 (dk_at dksX3_next_8 0 rfl rfl)
theorem dX3_next_185 : decode cX3_next 185 = .ok (.putfield 156, 3) := dk_181 0 156 (dk_at dksX3_next_8 1 rfl rfl)
theorem dX3_next_188 : decode cX3_next 188 = .ok (.iinc 3 1, 3) := dk_132 3 1 (dk_at dksX3_next_8 4 rfl rfl)
theorem dX3_next_191 : decode cX3_next 191 = .ok (.iinc 1 1, 3) := dk_132 1 1 (dk_at dksX3_next_8 7 rfl rfl)
theorem dX3_next_194 : decode cX3_next 194 = .ok (.goto (-42), 3) := dk_167 255 214 (dk_at dksX3_next_8 10 rfl rfl)
theorem dX3_next_197 : decode cX3_next 197 = .ok (.aload_n 0, 1) := dk_42 (dk_at dksX3_next_8 13 rfl rfl)
theorem dX3_next_198 : decode cX3_next 198 = .ok (.iload_n 1, 1) := dk_27 (dk_at dksX3_next_8 14 rfl rfl)
theorem dX3_next_199 : decode cX3_next 199 = .ok (.putfield 143, 3) := dk_181 0 143 (dk_at dksX3_next_8 15 rfl rfl)
theorem dX3_next_202 : decode cX3_next 202 = .ok (.aload_n 0, 1) := dk_42 (dk_at dksX3_next_8 18 rfl rfl)
theorem dX3_next_203 : decode cX3_next 203 = .ok (.iload_n 3, 1) := dk_29 (dk_at dksX3_next_8 19 rfl rfl)
theorem dX3_next_204 : decode cX3_next 204 = .ok (.iconst 4, 1) := dk_7 (dk_at dksX3_next_8 20 rfl rfl)
theorem dX3_next_205 : decode cX3_next 205 = .ok (.if_icmp .le 7, 3) := dk_164 0 7 (dk_at dksX3_next_8 21 rfl rfl)
theorem dX3_next_208 : decode cX3_next 208 = .ok (.iconst 1, 1) := dk_4 (dk_at dksX3_next_9 0 rfl rfl)
theorem dX3_next_209 : decode cX3_next 209 = .ok (.goto 4, 3) := dk_167 0 4 (dk_at dksX3_next_9 1 rfl rfl)
theorem dX3_next_212 : decode cX3_next 212 = .ok (.iconst 3, 1) := dk_6 (dk_at dksX3_next_9 4 rfl rfl)
theorem dX3_next_213 : decode cX3_next 213 = .ok (.putfield 159, 3) := dk_181 0 159 (dk_at dksX3_next_9 5 rfl rfl)
theorem dX3_next_216 : decode cX3_next 216 = .ok (.goto 49, 3) := dk_167 0 49 (dk_at dksX3_next_9 8 rfl rfl)
theorem dX3_next_219 : decode cX3_next 219 = .ok (.aload_n 0, 1) := dk_42 (dk_at dksX3_next_9 11 rfl rfl)
theorem dX3_next_220 : decode cX3_next 220 = .ok (.iload_n 1, 1) := dk_27 (dk_at dksX3_next_9 12 rfl rfl)
theorem dX3_next_221 : decode cX3_next 221 = .ok (.iconst 1, 1) := dk_4 (dk_at dksX3_next_9 13 rfl rfl)
theorem dX3_next_222 : decode cX3_next 222 = .ok (.iadd, 1) := dk_96 (dk_at dksX3_next_9 14 rfl rfl)
theorem dX3_next_223 : decode cX3_next 223 = .ok (.putfield 143, 3) := dk_181 0 143 (dk_at dksX3_next_9 15 rfl rfl)
theorem dX3_next_226 : decode cX3_next 226 = .ok (.aload_n 0, 1) := dk_42 (dk_at dksX3_next_9 18 rfl rfl)
theorem dX3_next_227 : decode cX3_next 227 = .ok (.iload_n 2, 1) := dk_28 (dk_at dksX3_next_9 19 rfl rfl)
theorem dX3_next_228 : decode cX3_next 228 = .ok (.bipush 59, 2) := dk_16 59 (dk_at dksX3_next_9 20 rfl rfl)
theorem dX3_next_230 : decode cX3_next 230 = .ok (.if_icmp .eq 27, 3) := dk_159 0 27 (dk_at dksX3_next_10 0 rfl rfl)
theorem dX3_next_233 : decode cX3_next 233 = .ok (.iload_n 2, 1) := dk_28 (dk_at dksX3_next_10 3 rfl rfl)
theorem dX3_next_234 : decode cX3_next 234 = .ok (.bipush 44, 2) := dk_16 44 (dk_at dksX3_next_10 4 rfl rfl)
theorem dX3_next_236 : decode cX3_next 236 = .ok (.if_icmp .eq 21, 3) := dk_159 0 21 (dk_at dksX3_next_10 6 rfl rfl)
theorem dX3_next_239 : decode cX3_next 239 = .ok (.iload_n 2, 1) := dk_28 (dk_at dksX3_next_10 9 rfl rfl)
theorem dX3_next_240 : decode cX3_next 240 = .ok (.bipush 45, 2) := dk_16 45 (dk_at dksX3_next_10 10 rfl rfl)
theorem dX3_next_242 : decode cX3_next 242 = .ok (.if_icmp .eq 15, 3) := dk_159 0 15 (dk_at dksX3_next_10 12 rfl rfl)
theorem dX3_next_245 : decode cX3_next 245 = .ok (.iload_n 2, 1) := dk_28 (dk_at dksX3_next_10 15 rfl rfl)
theorem dX3_next_246 : decode cX3_next 246 = .ok (.bipush 40, 2) := dk_16 40 (dk_at dksX3_next_10 16 rfl rfl)
theorem dX3_next_248 : decode cX3_next 248 = .ok (.if_icmp .eq 9, 3) := dk_159 0 9 (dk_at dksX3_next_10 18 rfl rfl)
theorem dX3_next_251 : decode cX3_next 251 = .ok (.iload_n 2, 1) := dk_28 (dk_at dksX3_next_10 21 rfl rfl)
theorem dX3_next_252 : decode cX3_next 252 = .ok (.bipush 41, 2) := dk_16 41 (dk_at dksX3_next_10 22 rfl rfl)
theorem dX3_next_254 : decode cX3_next 254 = .ok (.if_icmp .ne 7, 3) := dk_160 0 7 (dk_at dksX3_next_11 0 rfl rfl)
theorem dX3_next_257 : decode cX3_next 257 = .ok (.iload_n 2, 1) := dk_28 (dk_at dksX3_next_11 3 rfl rfl)
theorem dX3_next_258 : decode cX3_next 258 = .ok (.goto 4, 3) := dk_167 0 4 (dk_at dksX3_next_11 4 rfl rfl)
theorem dX3_next_261 : decode cX3_next 261 = .ok (.iconst 1, 1) := dk_4 (dk_at dksX3_next_11 7 rfl rfl)
theorem dX3_next_262 : decode cX3_next 262 = .ok (.putfield 159, 3) := dk_181 0 159 (dk_at dksX3_next_11 8 rfl rfl)
theorem dX3_next_265 : decode cX3_next 265 = .ok (.return_, 1) := dk_177 (dk_at dksX3_next_11 11 rfl rfl)
abbrev cX3_look : ByteArray := prog_23_method_8_code
def yX3_look : MethodName := ⟨RX3, "look", "(I)I"⟩
def dkwX3_look_0 : List UInt8 := [27, 42, 180, 0, 140, 162, 0, 12, 42, 180, 0, 7, 27, 46, 167, 0, 4, 2, 172]
abbrev dktX3_look_0 : List UInt8 := dkwX3_look_0 ++ []
theorem dksX3_look_0 : cX3_look.data.toList.drop 0 = dktX3_look_0 := by decide +kernel
theorem dX3_look_0 : decode cX3_look 0 = .ok (.iload_n 1, 1) := dk_27 (dk_at dksX3_look_0 0 rfl rfl)
theorem dX3_look_1 : decode cX3_look 1 = .ok (.aload_n 0, 1) := dk_42 (dk_at dksX3_look_0 1 rfl rfl)
theorem dX3_look_2 : decode cX3_look 2 = .ok (.getfield 140, 3) := dk_180 0 140 (dk_at dksX3_look_0 2 rfl rfl)
theorem dX3_look_5 : decode cX3_look 5 = .ok (.if_icmp .ge 12, 3) := dk_162 0 12 (dk_at dksX3_look_0 5 rfl rfl)
theorem dX3_look_8 : decode cX3_look 8 = .ok (.aload_n 0, 1) := dk_42 (dk_at dksX3_look_0 8 rfl rfl)
theorem dX3_look_9 : decode cX3_look 9 = .ok (.getfield 7, 3) := dk_180 0 7 (dk_at dksX3_look_0 9 rfl rfl)
theorem dX3_look_12 : decode cX3_look 12 = .ok (.iload_n 1, 1) := dk_27 (dk_at dksX3_look_0 12 rfl rfl)
theorem dX3_look_13 : decode cX3_look 13 = .ok (.iaload, 1) := dk_46 (dk_at dksX3_look_0 13 rfl rfl)
theorem dX3_look_14 : decode cX3_look 14 = .ok (.goto 4, 3) := dk_167 0 4 (dk_at dksX3_look_0 14 rfl rfl)
theorem dX3_look_17 : decode cX3_look 17 = .ok (.iconst (-1), 1) := dk_2 (dk_at dksX3_look_0 17 rfl rfl)
theorem dX3_look_18 : decode cX3_look 18 = .ok (.ireturn, 1) := dk_172 (dk_at dksX3_look_0 18 rfl rfl)
abbrev cX3_isSmall : ByteArray := prog_23_method_9_code
def yX3_isSmall : MethodName := ⟨RX3, "isSmall", "(I)Z"⟩
def dkwX3_isSmall_0 : List UInt8 := [26, 16, 97, 161, 0, 13, 26, 16, 122, 163, 0, 7, 4, 167, 0, 4, 3, 172]
abbrev dktX3_isSmall_0 : List UInt8 := dkwX3_isSmall_0 ++ []
theorem dksX3_isSmall_0 : cX3_isSmall.data.toList.drop 0 = dktX3_isSmall_0 := by decide +kernel
theorem dX3_isSmall_0 : decode cX3_isSmall 0 = .ok (.iload_n 0, 1) := dk_26 (dk_at dksX3_isSmall_0 0 rfl rfl)
theorem dX3_isSmall_1 : decode cX3_isSmall 1 = .ok (.bipush 97, 2) := dk_16 97 (dk_at dksX3_isSmall_0 1 rfl rfl)
theorem dX3_isSmall_3 : decode cX3_isSmall 3 = .ok (.if_icmp .lt 13, 3) := dk_161 0 13 (dk_at dksX3_isSmall_0 3 rfl rfl)
theorem dX3_isSmall_6 : decode cX3_isSmall 6 = .ok (.iload_n 0, 1) := dk_26 (dk_at dksX3_isSmall_0 6 rfl rfl)
theorem dX3_isSmall_7 : decode cX3_isSmall 7 = .ok (.bipush 122, 2) := dk_16 122 (dk_at dksX3_isSmall_0 7 rfl rfl)
theorem dX3_isSmall_9 : decode cX3_isSmall 9 = .ok (.if_icmp .gt 7, 3) := dk_163 0 7 (dk_at dksX3_isSmall_0 9 rfl rfl)
theorem dX3_isSmall_12 : decode cX3_isSmall 12 = .ok (.iconst 1, 1) := dk_4 (dk_at dksX3_isSmall_0 12 rfl rfl)
theorem dX3_isSmall_13 : decode cX3_isSmall 13 = .ok (.goto 4, 3) := dk_167 0 4 (dk_at dksX3_isSmall_0 13 rfl rfl)
theorem dX3_isSmall_16 : decode cX3_isSmall 16 = .ok (.iconst 0, 1) := dk_3 (dk_at dksX3_isSmall_0 16 rfl rfl)
theorem dX3_isSmall_17 : decode cX3_isSmall 17 = .ok (.ireturn, 1) := dk_172 (dk_at dksX3_isSmall_0 17 rfl rfl)
abbrev cX3_isDigit : ByteArray := prog_23_method_10_code
def yX3_isDigit : MethodName := ⟨RX3, "isDigit", "(I)Z"⟩
def dkwX3_isDigit_0 : List UInt8 := [26, 16, 48, 161, 0, 13, 26, 16, 57, 163, 0, 7, 4, 167, 0, 4, 3, 172]
abbrev dktX3_isDigit_0 : List UInt8 := dkwX3_isDigit_0 ++ []
theorem dksX3_isDigit_0 : cX3_isDigit.data.toList.drop 0 = dktX3_isDigit_0 := by decide +kernel
theorem dX3_isDigit_0 : decode cX3_isDigit 0 = .ok (.iload_n 0, 1) := dk_26 (dk_at dksX3_isDigit_0 0 rfl rfl)
theorem dX3_isDigit_1 : decode cX3_isDigit 1 = .ok (.bipush 48, 2) := dk_16 48 (dk_at dksX3_isDigit_0 1 rfl rfl)
theorem dX3_isDigit_3 : decode cX3_isDigit 3 = .ok (.if_icmp .lt 13, 3) := dk_161 0 13 (dk_at dksX3_isDigit_0 3 rfl rfl)
theorem dX3_isDigit_6 : decode cX3_isDigit 6 = .ok (.iload_n 0, 1) := dk_26 (dk_at dksX3_isDigit_0 6 rfl rfl)
theorem dX3_isDigit_7 : decode cX3_isDigit 7 = .ok (.bipush 57, 2) := dk_16 57 (dk_at dksX3_isDigit_0 7 rfl rfl)
theorem dX3_isDigit_9 : decode cX3_isDigit 9 = .ok (.if_icmp .gt 7, 3) := dk_163 0 7 (dk_at dksX3_isDigit_0 9 rfl rfl)
theorem dX3_isDigit_12 : decode cX3_isDigit 12 = .ok (.iconst 1, 1) := dk_4 (dk_at dksX3_isDigit_0 12 rfl rfl)
theorem dX3_isDigit_13 : decode cX3_isDigit 13 = .ok (.goto 4, 3) := dk_167 0 4 (dk_at dksX3_isDigit_0 13 rfl rfl)
theorem dX3_isDigit_16 : decode cX3_isDigit 16 = .ok (.iconst 0, 1) := dk_3 (dk_at dksX3_isDigit_0 16 rfl rfl)
theorem dX3_isDigit_17 : decode cX3_isDigit 17 = .ok (.ireturn, 1) := dk_172 (dk_at dksX3_isDigit_0 17 rfl rfl)
abbrev cX3_line : ByteArray := prog_23_method_23_code
def yX3_line : MethodName := ⟨RX3, "line", "()V"⟩
def dkwX3_line_8 : List UInt8 := [177]
abbrev dktX3_line_8 : List UInt8 := dkwX3_line_8 ++ []
def dkwX3_line_7 : List UInt8 := [153, 0, 14, 42, 182, 0, 173, 42, 182, 1, 49, 167, 0, 13, 42, 4, 42, 180, 0, 150, 182, 0, 196, 87]
abbrev dktX3_line_7 : List UInt8 := dkwX3_line_7 ++ dktX3_line_8
def dkwX3_line_6 : List UInt8 := [182, 1, 38, 87, 42, 42, 3, 16, 99, 182, 1, 41, 181, 0, 246, 167, 0, 33, 42, 18, 204, 182, 0, 192]
abbrev dktX3_line_6 : List UInt8 := dkwX3_line_6 ++ dktX3_line_7
def dkwX3_line_5 : List UInt8 := [19, 1, 47, 182, 1, 38, 87, 42, 42, 3, 17, 1, 44, 182, 1, 41, 181, 0, 243, 42, 19, 1, 48]
abbrev dktX3_line_5 : List UInt8 := dkwX3_line_5 ++ dktX3_line_6
def dkwX3_line_4 : List UInt8 := [181, 0, 237, 42, 19, 1, 46, 182, 1, 38, 87, 42, 42, 4, 17, 1, 44, 182, 1, 41, 181, 0, 240, 42]
abbrev dktX3_line_4 : List UInt8 := dkwX3_line_4 ++ dktX3_line_5
def dkwX3_line_3 : List UInt8 := [182, 1, 41, 181, 0, 234, 42, 19, 1, 45, 182, 1, 38, 87, 42, 42, 4, 17, 3, 231, 182, 1, 41]
abbrev dktX3_line_3 : List UInt8 := dkwX3_line_3 ++ dktX3_line_4
def dkwX3_line_2 : List UInt8 := [42, 182, 0, 173, 42, 4, 181, 1, 3, 42, 19, 1, 37, 182, 1, 38, 87, 42, 42, 5, 16, 6]
abbrev dktX3_line_2 : List UInt8 := dkwX3_line_2 ++ dktX3_line_3
def dkwX3_line_1 : List UInt8 := [182, 0, 192, 153, 0, 131, 42, 180, 1, 3, 153, 0, 14, 42, 6, 42, 180, 0, 150, 182, 0, 196, 87, 177]
abbrev dktX3_line_1 : List UInt8 := dkwX3_line_1 ++ dktX3_line_2
def dkwX3_line_0 : List UInt8 := [42, 18, 200, 182, 0, 192, 153, 0, 14, 42, 182, 0, 173, 42, 182, 1, 34, 167, 0, 170, 42, 18, 202]
abbrev dktX3_line_0 : List UInt8 := dkwX3_line_0 ++ dktX3_line_1
theorem dksX3_line_0 : cX3_line.data.toList.drop 0 = dktX3_line_0 := by decide +kernel
theorem dksX3_line_1 : cX3_line.data.toList.drop 23 = dktX3_line_1 := dk_seg dksX3_line_0 23 rfl rfl
theorem dksX3_line_2 : cX3_line.data.toList.drop 47 = dktX3_line_2 := dk_seg dksX3_line_1 24 rfl rfl
theorem dksX3_line_3 : cX3_line.data.toList.drop 69 = dktX3_line_3 := dk_seg dksX3_line_2 22 rfl rfl
theorem dksX3_line_4 : cX3_line.data.toList.drop 92 = dktX3_line_4 := dk_seg dksX3_line_3 23 rfl rfl
theorem dksX3_line_5 : cX3_line.data.toList.drop 116 = dktX3_line_5 := dk_seg dksX3_line_4 24 rfl rfl
theorem dksX3_line_6 : cX3_line.data.toList.drop 139 = dktX3_line_6 := dk_seg dksX3_line_5 23 rfl rfl
theorem dksX3_line_7 : cX3_line.data.toList.drop 163 = dktX3_line_7 := dk_seg dksX3_line_6 24 rfl rfl
theorem dksX3_line_8 : cX3_line.data.toList.drop 187 = dktX3_line_8 := dk_seg dksX3_line_7 24 rfl rfl
theorem dX3_line_0 : decode cX3_line 0 = .ok (.aload_n 0, 1) := dk_42 (dk_at dksX3_line_0 0 rfl rfl)
theorem dX3_line_1 : decode cX3_line 1 = .ok (.ldc 200, 2) := dk_18 200 (dk_at dksX3_line_0 1 rfl rfl)
theorem dX3_line_3 : decode cX3_line 3 = .ok (.invokevirtual 192, 3) := dk_182 0 192 (dk_at dksX3_line_0 3 rfl rfl)
theorem dX3_line_6 : decode cX3_line 6 = .ok (.ifCond .eq 14, 3) := dk_153 0 14 (dk_at dksX3_line_0 6 rfl rfl)
theorem dX3_line_9 : decode cX3_line 9 = .ok (.aload_n 0, 1) := dk_42 (dk_at dksX3_line_0 9 rfl rfl)
theorem dX3_line_10 : decode cX3_line 10 = .ok (.invokevirtual 173, 3) := dk_182 0 173 (dk_at dksX3_line_0 10 rfl rfl)
theorem dX3_line_13 : decode cX3_line 13 = .ok (.aload_n 0, 1) := dk_42 (dk_at dksX3_line_0 13 rfl rfl)
theorem dX3_line_14 : decode cX3_line 14 = .ok (.invokevirtual 290, 3) := dk_182 1 34 (dk_at dksX3_line_0 14 rfl rfl)
theorem dX3_line_17 : decode cX3_line 17 = .ok (.goto 170, 3) := dk_167 0 170 (dk_at dksX3_line_0 17 rfl rfl)
theorem dX3_line_20 : decode cX3_line 20 = .ok (.aload_n 0, 1) := dk_42 (dk_at dksX3_line_0 20 rfl rfl)
theorem dX3_line_21 : decode cX3_line 21 = .ok (.ldc 202, 2) := dk_18 202 (dk_at dksX3_line_0 21 rfl rfl)
theorem dX3_line_23 : decode cX3_line 23 = .ok (.invokevirtual 192, 3) := dk_182 0 192 (dk_at dksX3_line_1 0 rfl rfl)
theorem dX3_line_26 : decode cX3_line 26 = .ok (.ifCond .eq 131, 3) := dk_153 0 131 (dk_at dksX3_line_1 3 rfl rfl)
theorem dX3_line_29 : decode cX3_line 29 = .ok (.aload_n 0, 1) := dk_42 (dk_at dksX3_line_1 6 rfl rfl)
theorem dX3_line_30 : decode cX3_line 30 = .ok (.getfield 259, 3) := dk_180 1 3 (dk_at dksX3_line_1 7 rfl rfl)
theorem dX3_line_33 : decode cX3_line 33 = .ok (.ifCond .eq 14, 3) := dk_153 0 14 (dk_at dksX3_line_1 10 rfl rfl)
theorem dX3_line_36 : decode cX3_line 36 = .ok (.aload_n 0, 1) := dk_42 (dk_at dksX3_line_1 13 rfl rfl)
theorem dX3_line_37 : decode cX3_line 37 = .ok (.iconst 3, 1) := dk_6 (dk_at dksX3_line_1 14 rfl rfl)
theorem dX3_line_38 : decode cX3_line 38 = .ok (.aload_n 0, 1) := dk_42 (dk_at dksX3_line_1 15 rfl rfl)
theorem dX3_line_39 : decode cX3_line 39 = .ok (.getfield 150, 3) := dk_180 0 150 (dk_at dksX3_line_1 16 rfl rfl)
theorem dX3_line_42 : decode cX3_line 42 = .ok (.invokevirtual 196, 3) := dk_182 0 196 (dk_at dksX3_line_1 19 rfl rfl)
theorem dX3_line_45 : decode cX3_line 45 = .ok (.pop, 1) := dk_87 (dk_at dksX3_line_1 22 rfl rfl)
theorem dX3_line_46 : decode cX3_line 46 = .ok (.return_, 1) := dk_177 (dk_at dksX3_line_1 23 rfl rfl)
theorem dX3_line_47 : decode cX3_line 47 = .ok (.aload_n 0, 1) := dk_42 (dk_at dksX3_line_2 0 rfl rfl)
theorem dX3_line_48 : decode cX3_line 48 = .ok (.invokevirtual 173, 3) := dk_182 0 173 (dk_at dksX3_line_2 1 rfl rfl)
theorem dX3_line_51 : decode cX3_line 51 = .ok (.aload_n 0, 1) := dk_42 (dk_at dksX3_line_2 4 rfl rfl)
theorem dX3_line_52 : decode cX3_line 52 = .ok (.iconst 1, 1) := dk_4 (dk_at dksX3_line_2 5 rfl rfl)
theorem dX3_line_53 : decode cX3_line 53 = .ok (.putfield 259, 3) := dk_181 1 3 (dk_at dksX3_line_2 6 rfl rfl)
theorem dX3_line_56 : decode cX3_line 56 = .ok (.aload_n 0, 1) := dk_42 (dk_at dksX3_line_2 9 rfl rfl)
theorem dX3_line_57 : decode cX3_line 57 = .ok (.ldc_w 293, 3) := dk_19 1 37 (dk_at dksX3_line_2 10 rfl rfl)
theorem dX3_line_60 : decode cX3_line 60 = .ok (.invokevirtual 294, 3) := dk_182 1 38 (dk_at dksX3_line_2 13 rfl rfl)
theorem dX3_line_63 : decode cX3_line 63 = .ok (.pop, 1) := dk_87 (dk_at dksX3_line_2 16 rfl rfl)
theorem dX3_line_64 : decode cX3_line 64 = .ok (.aload_n 0, 1) := dk_42 (dk_at dksX3_line_2 17 rfl rfl)
theorem dX3_line_65 : decode cX3_line 65 = .ok (.aload_n 0, 1) := dk_42 (dk_at dksX3_line_2 18 rfl rfl)
theorem dX3_line_66 : decode cX3_line 66 = .ok (.iconst 2, 1) := dk_5 (dk_at dksX3_line_2 19 rfl rfl)
theorem dX3_line_67 : decode cX3_line 67 = .ok (.bipush 6, 2) := dk_16 6 (dk_at dksX3_line_2 20 rfl rfl)
theorem dX3_line_69 : decode cX3_line 69 = .ok (.invokevirtual 297, 3) := dk_182 1 41 (dk_at dksX3_line_3 0 rfl rfl)
theorem dX3_line_72 : decode cX3_line 72 = .ok (.putfield 234, 3) := dk_181 0 234 (dk_at dksX3_line_3 3 rfl rfl)
theorem dX3_line_75 : decode cX3_line 75 = .ok (.aload_n 0, 1) := dk_42 (dk_at dksX3_line_3 6 rfl rfl)
theorem dX3_line_76 : decode cX3_line 76 = .ok (.ldc_w 301, 3) := dk_19 1 45 (dk_at dksX3_line_3 7 rfl rfl)
theorem dX3_line_79 : decode cX3_line 79 = .ok (.invokevirtual 294, 3) := dk_182 1 38 (dk_at dksX3_line_3 10 rfl rfl)
theorem dX3_line_82 : decode cX3_line 82 = .ok (.pop, 1) := dk_87 (dk_at dksX3_line_3 13 rfl rfl)
theorem dX3_line_83 : decode cX3_line 83 = .ok (.aload_n 0, 1) := dk_42 (dk_at dksX3_line_3 14 rfl rfl)
theorem dX3_line_84 : decode cX3_line 84 = .ok (.aload_n 0, 1) := dk_42 (dk_at dksX3_line_3 15 rfl rfl)
theorem dX3_line_85 : decode cX3_line 85 = .ok (.iconst 1, 1) := dk_4 (dk_at dksX3_line_3 16 rfl rfl)
theorem dX3_line_86 : decode cX3_line 86 = .ok (.sipush 999, 3) := dk_17 3 231 (dk_at dksX3_line_3 17 rfl rfl)
theorem dX3_line_89 : decode cX3_line 89 = .ok (.invokevirtual 297, 3) := dk_182 1 41 (dk_at dksX3_line_3 20 rfl rfl)
theorem dX3_line_92 : decode cX3_line 92 = .ok (.putfield 237, 3) := dk_181 0 237 (dk_at dksX3_line_4 0 rfl rfl)
theorem dX3_line_95 : decode cX3_line 95 = .ok (.aload_n 0, 1) := dk_42 (dk_at dksX3_line_4 3 rfl rfl)
theorem dX3_line_96 : decode cX3_line 96 = .ok (.ldc_w 302, 3) := dk_19 1 46 (dk_at dksX3_line_4 4 rfl rfl)
theorem dX3_line_99 : decode cX3_line 99 = .ok (.invokevirtual 294, 3) := dk_182 1 38 (dk_at dksX3_line_4 7 rfl rfl)
theorem dX3_line_102 : decode cX3_line 102 = .ok (.pop, 1) := dk_87 (dk_at dksX3_line_4 10 rfl rfl)
theorem dX3_line_103 : decode cX3_line 103 = .ok (.aload_n 0, 1) := dk_42 (dk_at dksX3_line_4 11 rfl rfl)
theorem dX3_line_104 : decode cX3_line 104 = .ok (.aload_n 0, 1) := dk_42 (dk_at dksX3_line_4 12 rfl rfl)
theorem dX3_line_105 : decode cX3_line 105 = .ok (.iconst 1, 1) := dk_4 (dk_at dksX3_line_4 13 rfl rfl)
theorem dX3_line_106 : decode cX3_line 106 = .ok (.sipush 300, 3) := dk_17 1 44 (dk_at dksX3_line_4 14 rfl rfl)
theorem dX3_line_109 : decode cX3_line 109 = .ok (.invokevirtual 297, 3) := dk_182 1 41 (dk_at dksX3_line_4 17 rfl rfl)
theorem dX3_line_112 : decode cX3_line 112 = .ok (.putfield 240, 3) := dk_181 0 240 (dk_at dksX3_line_4 20 rfl rfl)
theorem dX3_line_115 : decode cX3_line 115 = .ok (.aload_n 0, 1) := dk_42 (dk_at dksX3_line_4 23 rfl rfl)
theorem dX3_line_116 : decode cX3_line 116 = .ok (.ldc_w 303, 3) := dk_19 1 47 (dk_at dksX3_line_5 0 rfl rfl)
theorem dX3_line_119 : decode cX3_line 119 = .ok (.invokevirtual 294, 3) := dk_182 1 38 (dk_at dksX3_line_5 3 rfl rfl)
theorem dX3_line_122 : decode cX3_line 122 = .ok (.pop, 1) := dk_87 (dk_at dksX3_line_5 6 rfl rfl)
theorem dX3_line_123 : decode cX3_line 123 = .ok (.aload_n 0, 1) := dk_42 (dk_at dksX3_line_5 7 rfl rfl)
theorem dX3_line_124 : decode cX3_line 124 = .ok (.aload_n 0, 1) := dk_42 (dk_at dksX3_line_5 8 rfl rfl)
theorem dX3_line_125 : decode cX3_line 125 = .ok (.iconst 0, 1) := dk_3 (dk_at dksX3_line_5 9 rfl rfl)
theorem dX3_line_126 : decode cX3_line 126 = .ok (.sipush 300, 3) := dk_17 1 44 (dk_at dksX3_line_5 10 rfl rfl)
theorem dX3_line_129 : decode cX3_line 129 = .ok (.invokevirtual 297, 3) := dk_182 1 41 (dk_at dksX3_line_5 13 rfl rfl)
theorem dX3_line_132 : decode cX3_line 132 = .ok (.putfield 243, 3) := dk_181 0 243 (dk_at dksX3_line_5 16 rfl rfl)
theorem dX3_line_135 : decode cX3_line 135 = .ok (.aload_n 0, 1) := dk_42 (dk_at dksX3_line_5 19 rfl rfl)
theorem dX3_line_136 : decode cX3_line 136 = .ok (.ldc_w 304, 3) := dk_19 1 48 (dk_at dksX3_line_5 20 rfl rfl)
theorem dX3_line_139 : decode cX3_line 139 = .ok (.invokevirtual 294, 3) := dk_182 1 38 (dk_at dksX3_line_6 0 rfl rfl)
theorem dX3_line_142 : decode cX3_line 142 = .ok (.pop, 1) := dk_87 (dk_at dksX3_line_6 3 rfl rfl)
theorem dX3_line_143 : decode cX3_line 143 = .ok (.aload_n 0, 1) := dk_42 (dk_at dksX3_line_6 4 rfl rfl)
theorem dX3_line_144 : decode cX3_line 144 = .ok (.aload_n 0, 1) := dk_42 (dk_at dksX3_line_6 5 rfl rfl)
theorem dX3_line_145 : decode cX3_line 145 = .ok (.iconst 0, 1) := dk_3 (dk_at dksX3_line_6 6 rfl rfl)
theorem dX3_line_146 : decode cX3_line 146 = .ok (.bipush 99, 2) := dk_16 99 (dk_at dksX3_line_6 7 rfl rfl)
theorem dX3_line_148 : decode cX3_line 148 = .ok (.invokevirtual 297, 3) := dk_182 1 41 (dk_at dksX3_line_6 9 rfl rfl)
theorem dX3_line_151 : decode cX3_line 151 = .ok (.putfield 246, 3) := dk_181 0 246 (dk_at dksX3_line_6 12 rfl rfl)
theorem dX3_line_154 : decode cX3_line 154 = .ok (.goto 33, 3) := dk_167 0 33 (dk_at dksX3_line_6 15 rfl rfl)
theorem dX3_line_157 : decode cX3_line 157 = .ok (.aload_n 0, 1) := dk_42 (dk_at dksX3_line_6 18 rfl rfl)
theorem dX3_line_158 : decode cX3_line 158 = .ok (.ldc 204, 2) := dk_18 204 (dk_at dksX3_line_6 19 rfl rfl)
theorem dX3_line_160 : decode cX3_line 160 = .ok (.invokevirtual 192, 3) := dk_182 0 192 (dk_at dksX3_line_6 21 rfl rfl)
theorem dX3_line_163 : decode cX3_line 163 = .ok (.ifCond .eq 14, 3) := dk_153 0 14 (dk_at dksX3_line_7 0 rfl rfl)
theorem dX3_line_166 : decode cX3_line 166 = .ok (.aload_n 0, 1) := dk_42 (dk_at dksX3_line_7 3 rfl rfl)
theorem dX3_line_167 : decode cX3_line 167 = .ok (.invokevirtual 173, 3) := dk_182 0 173 (dk_at dksX3_line_7 4 rfl rfl)
theorem dX3_line_170 : decode cX3_line 170 = .ok (.aload_n 0, 1) := dk_42 (dk_at dksX3_line_7 7 rfl rfl)
theorem dX3_line_171 : decode cX3_line 171 = .ok (.invokevirtual 305, 3) := dk_182 1 49 (dk_at dksX3_line_7 8 rfl rfl)
theorem dX3_line_174 : decode cX3_line 174 = .ok (.goto 13, 3) := dk_167 0 13 (dk_at dksX3_line_7 11 rfl rfl)
theorem dX3_line_177 : decode cX3_line 177 = .ok (.aload_n 0, 1) := dk_42 (dk_at dksX3_line_7 14 rfl rfl)
theorem dX3_line_178 : decode cX3_line 178 = .ok (.iconst 1, 1) := dk_4 (dk_at dksX3_line_7 15 rfl rfl)
theorem dX3_line_179 : decode cX3_line 179 = .ok (.aload_n 0, 1) := dk_42 (dk_at dksX3_line_7 16 rfl rfl)
theorem dX3_line_180 : decode cX3_line 180 = .ok (.getfield 150, 3) := dk_180 0 150 (dk_at dksX3_line_7 17 rfl rfl)
theorem dX3_line_183 : decode cX3_line 183 = .ok (.invokevirtual 196, 3) := dk_182 0 196 (dk_at dksX3_line_7 20 rfl rfl)
theorem dX3_line_186 : decode cX3_line 186 = .ok (.pop, 1) := dk_87 (dk_at dksX3_line_7 23 rfl rfl)
theorem dX3_line_187 : decode cX3_line 187 = .ok (.return_, 1) := dk_177 (dk_at dksX3_line_8 0 rfl rfl)
abbrev cX3_word : ByteArray := prog_23_method_14_code
def yX3_word : MethodName := ⟨RX3, "word", "(Ljava/lang/String;)Z"⟩
def dkwX3_word_3 : List UInt8 := [167, 255, 221, 28, 172]
abbrev dktX3_word_3 : List UInt8 := dkwX3_word_3 ++ []
def dkwX3_word_2 : List UInt8 := [180, 0, 13, 29, 46, 43, 29, 182, 0, 188, 160, 0, 7, 4, 167, 0, 4, 3, 61, 132, 3, 1]
abbrev dktX3_word_2 : List UInt8 := dkwX3_word_2 ++ dktX3_word_3
def dkwX3_word_1 : List UInt8 := [159, 0, 5, 3, 172, 4, 61, 3, 62, 29, 42, 180, 0, 153, 162, 0, 33, 28, 153, 0, 21, 42]
abbrev dktX3_word_1 : List UInt8 := dkwX3_word_1 ++ dktX3_word_2
def dkwX3_word_0 : List UInt8 := [42, 180, 0, 169, 154, 0, 22, 42, 180, 0, 159, 5, 160, 0, 14, 42, 180, 0, 153, 43, 182, 0, 182]
abbrev dktX3_word_0 : List UInt8 := dkwX3_word_0 ++ dktX3_word_1
theorem dksX3_word_0 : cX3_word.data.toList.drop 0 = dktX3_word_0 := by decide +kernel
theorem dksX3_word_1 : cX3_word.data.toList.drop 23 = dktX3_word_1 := dk_seg dksX3_word_0 23 rfl rfl
theorem dksX3_word_2 : cX3_word.data.toList.drop 45 = dktX3_word_2 := dk_seg dksX3_word_1 22 rfl rfl
theorem dksX3_word_3 : cX3_word.data.toList.drop 67 = dktX3_word_3 := dk_seg dksX3_word_2 22 rfl rfl
theorem dX3_word_0 : decode cX3_word 0 = .ok (.aload_n 0, 1) := dk_42 (dk_at dksX3_word_0 0 rfl rfl)
theorem dX3_word_1 : decode cX3_word 1 = .ok (.getfield 169, 3) := dk_180 0 169 (dk_at dksX3_word_0 1 rfl rfl)
theorem dX3_word_4 : decode cX3_word 4 = .ok (.ifCond .ne 22, 3) := dk_154 0 22 (dk_at dksX3_word_0 4 rfl rfl)
theorem dX3_word_7 : decode cX3_word 7 = .ok (.aload_n 0, 1) := dk_42 (dk_at dksX3_word_0 7 rfl rfl)
theorem dX3_word_8 : decode cX3_word 8 = .ok (.getfield 159, 3) := dk_180 0 159 (dk_at dksX3_word_0 8 rfl rfl)
theorem dX3_word_11 : decode cX3_word 11 = .ok (.iconst 2, 1) := dk_5 (dk_at dksX3_word_0 11 rfl rfl)
theorem dX3_word_12 : decode cX3_word 12 = .ok (.if_icmp .ne 14, 3) := dk_160 0 14 (dk_at dksX3_word_0 12 rfl rfl)
theorem dX3_word_15 : decode cX3_word 15 = .ok (.aload_n 0, 1) := dk_42 (dk_at dksX3_word_0 15 rfl rfl)
theorem dX3_word_16 : decode cX3_word 16 = .ok (.getfield 153, 3) := dk_180 0 153 (dk_at dksX3_word_0 16 rfl rfl)
theorem dX3_word_19 : decode cX3_word 19 = .ok (.aload_n 1, 1) := dk_43 (dk_at dksX3_word_0 19 rfl rfl)
theorem dX3_word_20 : decode cX3_word 20 = .ok (.invokevirtual 182, 3) := dk_182 0 182 (dk_at dksX3_word_0 20 rfl rfl)
theorem dX3_word_23 : decode cX3_word 23 = .ok (.if_icmp .eq 5, 3) := dk_159 0 5 (dk_at dksX3_word_1 0 rfl rfl)
theorem dX3_word_26 : decode cX3_word 26 = .ok (.iconst 0, 1) := dk_3 (dk_at dksX3_word_1 3 rfl rfl)
theorem dX3_word_27 : decode cX3_word 27 = .ok (.ireturn, 1) := dk_172 (dk_at dksX3_word_1 4 rfl rfl)
theorem dX3_word_28 : decode cX3_word 28 = .ok (.iconst 1, 1) := dk_4 (dk_at dksX3_word_1 5 rfl rfl)
theorem dX3_word_29 : decode cX3_word 29 = .ok (.istore_n 2, 1) := dk_61 (dk_at dksX3_word_1 6 rfl rfl)
theorem dX3_word_30 : decode cX3_word 30 = .ok (.iconst 0, 1) := dk_3 (dk_at dksX3_word_1 7 rfl rfl)
theorem dX3_word_31 : decode cX3_word 31 = .ok (.istore_n 3, 1) := dk_62 (dk_at dksX3_word_1 8 rfl rfl)
theorem dX3_word_32 : decode cX3_word 32 = .ok (.iload_n 3, 1) := dk_29 (dk_at dksX3_word_1 9 rfl rfl)
theorem dX3_word_33 : decode cX3_word 33 = .ok (.aload_n 0, 1) := dk_42 (dk_at dksX3_word_1 10 rfl rfl)
theorem dX3_word_34 : decode cX3_word 34 = .ok (.getfield 153, 3) := dk_180 0 153 (dk_at dksX3_word_1 11 rfl rfl)
theorem dX3_word_37 : decode cX3_word 37 = .ok (.if_icmp .ge 33, 3) := dk_162 0 33 (dk_at dksX3_word_1 14 rfl rfl)
theorem dX3_word_40 : decode cX3_word 40 = .ok (.iload_n 2, 1) := dk_28 (dk_at dksX3_word_1 17 rfl rfl)
theorem dX3_word_41 : decode cX3_word 41 = .ok (.ifCond .eq 21, 3) := dk_153 0 21 (dk_at dksX3_word_1 18 rfl rfl)
theorem dX3_word_44 : decode cX3_word 44 = .ok (.aload_n 0, 1) := dk_42 (dk_at dksX3_word_1 21 rfl rfl)
theorem dX3_word_45 : decode cX3_word 45 = .ok (.getfield 13, 3) := dk_180 0 13 (dk_at dksX3_word_2 0 rfl rfl)
theorem dX3_word_48 : decode cX3_word 48 = .ok (.iload_n 3, 1) := dk_29 (dk_at dksX3_word_2 3 rfl rfl)
theorem dX3_word_49 : decode cX3_word 49 = .ok (.iaload, 1) := dk_46 (dk_at dksX3_word_2 4 rfl rfl)
theorem dX3_word_50 : decode cX3_word 50 = .ok (.aload_n 1, 1) := dk_43 (dk_at dksX3_word_2 5 rfl rfl)
theorem dX3_word_51 : decode cX3_word 51 = .ok (.iload_n 3, 1) := dk_29 (dk_at dksX3_word_2 6 rfl rfl)
theorem dX3_word_52 : decode cX3_word 52 = .ok (.invokevirtual 188, 3) := dk_182 0 188 (dk_at dksX3_word_2 7 rfl rfl)
theorem dX3_word_55 : decode cX3_word 55 = .ok (.if_icmp .ne 7, 3) := dk_160 0 7 (dk_at dksX3_word_2 10 rfl rfl)
theorem dX3_word_58 : decode cX3_word 58 = .ok (.iconst 1, 1) := dk_4 (dk_at dksX3_word_2 13 rfl rfl)
theorem dX3_word_59 : decode cX3_word 59 = .ok (.goto 4, 3) := dk_167 0 4 (dk_at dksX3_word_2 14 rfl rfl)
theorem dX3_word_62 : decode cX3_word 62 = .ok (.iconst 0, 1) := dk_3 (dk_at dksX3_word_2 17 rfl rfl)
theorem dX3_word_63 : decode cX3_word 63 = .ok (.istore_n 2, 1) := dk_61 (dk_at dksX3_word_2 18 rfl rfl)
theorem dX3_word_64 : decode cX3_word 64 = .ok (.iinc 3 1, 3) := dk_132 3 1 (dk_at dksX3_word_2 19 rfl rfl)
theorem dX3_word_67 : decode cX3_word 67 = .ok (.goto (-35), 3) := dk_167 255 221 (dk_at dksX3_word_3 0 rfl rfl)
theorem dX3_word_70 : decode cX3_word 70 = .ok (.iload_n 2, 1) := dk_28 (dk_at dksX3_word_3 3 rfl rfl)
theorem dX3_word_71 : decode cX3_word 71 = .ok (.ireturn, 1) := dk_172 (dk_at dksX3_word_3 4 rfl rfl)
abbrev cX3_groundLine : ByteArray := prog_23_method_24_code
def yX3_groundLine : MethodName := ⟨RX3, "groundLine", "()V"⟩
def dkwX3_groundLine_8 : List UInt8 := [180, 0, 169, 154, 0, 13, 42, 89, 180, 0, 228, 4, 96, 181, 0, 228, 177]
abbrev dktX3_groundLine_8 : List UInt8 := dkwX3_groundLine_8 ++ []
def dkwX3_groundLine_7 : List UInt8 := [182, 1, 38, 87, 42, 180, 0, 31, 42, 180, 0, 228, 42, 42, 180, 0, 37, 3, 182, 1, 61, 79, 42]
abbrev dktX3_groundLine_7 : List UInt8 := dkwX3_groundLine_7 ++ dktX3_groundLine_8
def dkwX3_groundLine_6 : List UInt8 := [42, 180, 0, 28, 42, 180, 0, 228, 42, 42, 180, 0, 34, 4, 182, 1, 61, 79, 42, 19, 1, 65]
abbrev dktX3_groundLine_6 : List UInt8 := dkwX3_groundLine_6 ++ dktX3_groundLine_7
def dkwX3_groundLine_5 : List UInt8 := [180, 0, 19, 42, 180, 0, 228, 42, 180, 0, 153, 79, 42, 182, 0, 173, 42, 19, 1, 60, 182, 1, 38, 87]
abbrev dktX3_groundLine_5 : List UInt8 := dkwX3_groundLine_5 ++ dktX3_groundLine_6
def dkwX3_groundLine_4 : List UInt8 := [16, 8, 42, 180, 0, 228, 104, 27, 96, 42, 180, 0, 13, 27, 46, 79, 132, 1, 1, 167, 255, 225, 42]
abbrev dktX3_groundLine_4 : List UInt8 := dkwX3_groundLine_4 ++ dktX3_groundLine_5
def dkwX3_groundLine_3 : List UInt8 := [87, 42, 180, 0, 169, 153, 0, 4, 177, 3, 60, 27, 42, 180, 0, 153, 162, 0, 29, 42, 180, 0, 16]
abbrev dktX3_groundLine_3 : List UInt8 := dkwX3_groundLine_3 ++ dktX3_groundLine_4
def dkwX3_groundLine_2 : List UInt8 := [180, 0, 169, 154, 0, 22, 42, 180, 0, 228, 16, 8, 160, 0, 13, 42, 8, 42, 180, 0, 150, 182, 0, 196]
abbrev dktX3_groundLine_2 : List UInt8 := dkwX3_groundLine_2 ++ dktX3_groundLine_3
def dkwX3_groundLine_1 : List UInt8 := [180, 0, 19, 42, 180, 0, 228, 182, 1, 56, 155, 0, 13, 42, 6, 42, 180, 0, 150, 182, 0, 196, 87, 42]
abbrev dktX3_groundLine_1 : List UInt8 := dkwX3_groundLine_1 ++ dktX3_groundLine_2
def dkwX3_groundLine_0 : List UInt8 := [42, 182, 1, 52, 154, 0, 14, 42, 4, 42, 180, 0, 150, 182, 0, 196, 87, 177, 42, 42, 180, 0, 16, 42]
abbrev dktX3_groundLine_0 : List UInt8 := dkwX3_groundLine_0 ++ dktX3_groundLine_1
theorem dksX3_groundLine_0 : cX3_groundLine.data.toList.drop 0 = dktX3_groundLine_0 := by decide +kernel
theorem dksX3_groundLine_1 : cX3_groundLine.data.toList.drop 24 = dktX3_groundLine_1 := dk_seg dksX3_groundLine_0 24 rfl rfl
theorem dksX3_groundLine_2 : cX3_groundLine.data.toList.drop 48 = dktX3_groundLine_2 := dk_seg dksX3_groundLine_1 24 rfl rfl
theorem dksX3_groundLine_3 : cX3_groundLine.data.toList.drop 72 = dktX3_groundLine_3 := dk_seg dksX3_groundLine_2 24 rfl rfl
theorem dksX3_groundLine_4 : cX3_groundLine.data.toList.drop 95 = dktX3_groundLine_4 := dk_seg dksX3_groundLine_3 23 rfl rfl
theorem dksX3_groundLine_5 : cX3_groundLine.data.toList.drop 118 = dktX3_groundLine_5 := dk_seg dksX3_groundLine_4 23 rfl rfl
theorem dksX3_groundLine_6 : cX3_groundLine.data.toList.drop 142 = dktX3_groundLine_6 := dk_seg dksX3_groundLine_5 24 rfl rfl
theorem dksX3_groundLine_7 : cX3_groundLine.data.toList.drop 164 = dktX3_groundLine_7 := dk_seg dksX3_groundLine_6 22 rfl rfl
theorem dksX3_groundLine_8 : cX3_groundLine.data.toList.drop 187 = dktX3_groundLine_8 := dk_seg dksX3_groundLine_7 23 rfl rfl
theorem dX3_groundLine_0 : decode cX3_groundLine 0 = .ok (.aload_n 0, 1) := dk_42 (dk_at dksX3_groundLine_0 0 rfl rfl)
theorem dX3_groundLine_1 : decode cX3_groundLine 1 = .ok (.invokevirtual 308, 3) := dk_182 1 52 (dk_at dksX3_groundLine_0 1 rfl rfl)
theorem dX3_groundLine_4 : decode cX3_groundLine 4 = .ok (.ifCond .ne 14, 3) := dk_154 0 14 (dk_at dksX3_groundLine_0 4 rfl rfl)
theorem dX3_groundLine_7 : decode cX3_groundLine 7 = .ok (.aload_n 0, 1) := dk_42 (dk_at dksX3_groundLine_0 7 rfl rfl)
theorem dX3_groundLine_8 : decode cX3_groundLine 8 = .ok (.iconst 1, 1) := dk_4 (dk_at dksX3_groundLine_0 8 rfl rfl)
theorem dX3_groundLine_9 : decode cX3_groundLine 9 = .ok (.aload_n 0, 1) := dk_42 (dk_at dksX3_groundLine_0 9 rfl rfl)
theorem dX3_groundLine_10 : decode cX3_groundLine 10 = .ok (.getfield 150, 3) := dk_180 0 150 (dk_at dksX3_groundLine_0 10 rfl rfl)
theorem dX3_groundLine_13 : decode cX3_groundLine 13 = .ok (.invokevirtual 196, 3) := dk_182 0 196 (dk_at dksX3_groundLine_0 13 rfl rfl)
theorem dX3_groundLine_16 : decode cX3_groundLine 16 = .ok (.pop, 1) := dk_87 (dk_at dksX3_groundLine_0 16 rfl rfl)
theorem dX3_groundLine_17 : decode cX3_groundLine 17 = .ok (.return_, 1) := dk_177 (dk_at dksX3_groundLine_0 17 rfl rfl)
theorem dX3_groundLine_18 : decode cX3_groundLine 18 = .ok (.aload_n 0, 1) := dk_42 (dk_at dksX3_groundLine_0 18 rfl rfl)
theorem dX3_groundLine_19 : decode cX3_groundLine 19 = .ok (.aload_n 0, 1) := dk_42 (dk_at dksX3_groundLine_0 19 rfl rfl)
theorem dX3_groundLine_20 : decode cX3_groundLine 20 = .ok (.getfield 16, 3) := dk_180 0 16 (dk_at dksX3_groundLine_0 20 rfl rfl)
theorem dX3_groundLine_23 : decode cX3_groundLine 23 = .ok (.aload_n 0, 1) := dk_42 (dk_at dksX3_groundLine_0 23 rfl rfl)
theorem dX3_groundLine_24 : decode cX3_groundLine 24 = .ok (.getfield 19, 3) := dk_180 0 19 (dk_at dksX3_groundLine_1 0 rfl rfl)
theorem dX3_groundLine_27 : decode cX3_groundLine 27 = .ok (.aload_n 0, 1) := dk_42 (dk_at dksX3_groundLine_1 3 rfl rfl)
theorem dX3_groundLine_28 : decode cX3_groundLine 28 = .ok (.getfield 228, 3) := dk_180 0 228 (dk_at dksX3_groundLine_1 4 rfl rfl)
theorem dX3_groundLine_31 : decode cX3_groundLine 31 = .ok (.invokevirtual 312, 3) := dk_182 1 56 (dk_at dksX3_groundLine_1 7 rfl rfl)
theorem dX3_groundLine_34 : decode cX3_groundLine 34 = .ok (.ifCond .lt 13, 3) := dk_155 0 13 (dk_at dksX3_groundLine_1 10 rfl rfl)
theorem dX3_groundLine_37 : decode cX3_groundLine 37 = .ok (.aload_n 0, 1) := dk_42 (dk_at dksX3_groundLine_1 13 rfl rfl)
theorem dX3_groundLine_38 : decode cX3_groundLine 38 = .ok (.iconst 3, 1) := dk_6 (dk_at dksX3_groundLine_1 14 rfl rfl)
theorem dX3_groundLine_39 : decode cX3_groundLine 39 = .ok (.aload_n 0, 1) := dk_42 (dk_at dksX3_groundLine_1 15 rfl rfl)
theorem dX3_groundLine_40 : decode cX3_groundLine 40 = .ok (.getfield 150, 3) := dk_180 0 150 (dk_at dksX3_groundLine_1 16 rfl rfl)
theorem dX3_groundLine_43 : decode cX3_groundLine 43 = .ok (.invokevirtual 196, 3) := dk_182 0 196 (dk_at dksX3_groundLine_1 19 rfl rfl)
theorem dX3_groundLine_46 : decode cX3_groundLine 46 = .ok (.pop, 1) := dk_87 (dk_at dksX3_groundLine_1 22 rfl rfl)
theorem dX3_groundLine_47 : decode cX3_groundLine 47 = .ok (.aload_n 0, 1) := dk_42 (dk_at dksX3_groundLine_1 23 rfl rfl)
theorem dX3_groundLine_48 : decode cX3_groundLine 48 = .ok (.getfield 169, 3) := dk_180 0 169 (dk_at dksX3_groundLine_2 0 rfl rfl)
theorem dX3_groundLine_51 : decode cX3_groundLine 51 = .ok (.ifCond .ne 22, 3) := dk_154 0 22 (dk_at dksX3_groundLine_2 3 rfl rfl)
theorem dX3_groundLine_54 : decode cX3_groundLine 54 = .ok (.aload_n 0, 1) := dk_42 (dk_at dksX3_groundLine_2 6 rfl rfl)
theorem dX3_groundLine_55 : decode cX3_groundLine 55 = .ok (.getfield 228, 3) := dk_180 0 228 (dk_at dksX3_groundLine_2 7 rfl rfl)
theorem dX3_groundLine_58 : decode cX3_groundLine 58 = .ok (.bipush 8, 2) := dk_16 8 (dk_at dksX3_groundLine_2 10 rfl rfl)
theorem dX3_groundLine_60 : decode cX3_groundLine 60 = .ok (.if_icmp .ne 13, 3) := dk_160 0 13 (dk_at dksX3_groundLine_2 12 rfl rfl)
theorem dX3_groundLine_63 : decode cX3_groundLine 63 = .ok (.aload_n 0, 1) := dk_42 (dk_at dksX3_groundLine_2 15 rfl rfl)
theorem dX3_groundLine_64 : decode cX3_groundLine 64 = .ok (.iconst 5, 1) := dk_8 (dk_at dksX3_groundLine_2 16 rfl rfl)
theorem dX3_groundLine_65 : decode cX3_groundLine 65 = .ok (.aload_n 0, 1) := dk_42 (dk_at dksX3_groundLine_2 17 rfl rfl)
theorem dX3_groundLine_66 : decode cX3_groundLine 66 = .ok (.getfield 150, 3) := dk_180 0 150 (dk_at dksX3_groundLine_2 18 rfl rfl)
theorem dX3_groundLine_69 : decode cX3_groundLine 69 = .ok (.invokevirtual 196, 3) := dk_182 0 196 (dk_at dksX3_groundLine_2 21 rfl rfl)
theorem dX3_groundLine_72 : decode cX3_groundLine 72 = .ok (.pop, 1) := dk_87 (dk_at dksX3_groundLine_3 0 rfl rfl)
theorem dX3_groundLine_73 : decode cX3_groundLine 73 = .ok (.aload_n 0, 1) := dk_42 (dk_at dksX3_groundLine_3 1 rfl rfl)
theorem dX3_groundLine_74 : decode cX3_groundLine 74 = .ok (.getfield 169, 3) := dk_180 0 169 (dk_at dksX3_groundLine_3 2 rfl rfl)
theorem dX3_groundLine_77 : decode cX3_groundLine 77 = .ok (.ifCond .eq 4, 3) := dk_153 0 4 (dk_at dksX3_groundLine_3 5 rfl rfl)
theorem dX3_groundLine_80 : decode cX3_groundLine 80 = .ok (.return_, 1) := dk_177 (dk_at dksX3_groundLine_3 8 rfl rfl)
theorem dX3_groundLine_81 : decode cX3_groundLine 81 = .ok (.iconst 0, 1) := dk_3 (dk_at dksX3_groundLine_3 9 rfl rfl)
theorem dX3_groundLine_82 : decode cX3_groundLine 82 = .ok (.istore_n 1, 1) := dk_60 (dk_at dksX3_groundLine_3 10 rfl rfl)
theorem dX3_groundLine_83 : decode cX3_groundLine 83 = .ok (.iload_n 1, 1) := dk_27 (dk_at dksX3_groundLine_3 11 rfl rfl)
theorem dX3_groundLine_84 : decode cX3_groundLine 84 = .ok (.aload_n 0, 1) := dk_42 (dk_at dksX3_groundLine_3 12 rfl rfl)
theorem dX3_groundLine_85 : decode cX3_groundLine 85 = .ok (.getfield 153, 3) := dk_180 0 153 (dk_at dksX3_groundLine_3 13 rfl rfl)
theorem dX3_groundLine_88 : decode cX3_groundLine 88 = .ok (.if_icmp .ge 29, 3) := dk_162 0 29 (dk_at dksX3_groundLine_3 16 rfl rfl)
theorem dX3_groundLine_91 : decode cX3_groundLine 91 = .ok (.aload_n 0, 1) := dk_42 (dk_at dksX3_groundLine_3 19 rfl rfl)
theorem dX3_groundLine_92 : decode cX3_groundLine 92 = .ok (.getfield 16, 3) := dk_180 0 16 (dk_at dksX3_groundLine_3 20 rfl rfl)
theorem dX3_groundLine_95 : decode cX3_groundLine 95 = .ok (.bipush 8, 2) := dk_16 8 (dk_at dksX3_groundLine_4 0 rfl rfl)
theorem dX3_groundLine_97 : decode cX3_groundLine 97 = .ok (.aload_n 0, 1) := dk_42 (dk_at dksX3_groundLine_4 2 rfl rfl)
theorem dX3_groundLine_98 : decode cX3_groundLine 98 = .ok (.getfield 228, 3) := dk_180 0 228 (dk_at dksX3_groundLine_4 3 rfl rfl)
theorem dX3_groundLine_101 : decode cX3_groundLine 101 = .ok (.imul, 1) := dk_104 (dk_at dksX3_groundLine_4 6 rfl rfl)
theorem dX3_groundLine_102 : decode cX3_groundLine 102 = .ok (.iload_n 1, 1) := dk_27 (dk_at dksX3_groundLine_4 7 rfl rfl)
theorem dX3_groundLine_103 : decode cX3_groundLine 103 = .ok (.iadd, 1) := dk_96 (dk_at dksX3_groundLine_4 8 rfl rfl)
theorem dX3_groundLine_104 : decode cX3_groundLine 104 = .ok (.aload_n 0, 1) := dk_42 (dk_at dksX3_groundLine_4 9 rfl rfl)
theorem dX3_groundLine_105 : decode cX3_groundLine 105 = .ok (.getfield 13, 3) := dk_180 0 13 (dk_at dksX3_groundLine_4 10 rfl rfl)
theorem dX3_groundLine_108 : decode cX3_groundLine 108 = .ok (.iload_n 1, 1) := dk_27 (dk_at dksX3_groundLine_4 13 rfl rfl)
theorem dX3_groundLine_109 : decode cX3_groundLine 109 = .ok (.iaload, 1) := dk_46 (dk_at dksX3_groundLine_4 14 rfl rfl)
theorem dX3_groundLine_110 : decode cX3_groundLine 110 = .ok (.iastore, 1) := dk_79 (dk_at dksX3_groundLine_4 15 rfl rfl)
theorem dX3_groundLine_111 : decode cX3_groundLine 111 = .ok (.iinc 1 1, 3) := dk_132 1 1 (dk_at dksX3_groundLine_4 16 rfl rfl)
theorem dX3_groundLine_114 : decode cX3_groundLine 114 = .ok (.goto (-31), 3) := dk_167 255 225 (dk_at dksX3_groundLine_4 19 rfl rfl)
theorem dX3_groundLine_117 : decode cX3_groundLine 117 = .ok (.aload_n 0, 1) := dk_42 (dk_at dksX3_groundLine_4 22 rfl rfl)
theorem dX3_groundLine_118 : decode cX3_groundLine 118 = .ok (.getfield 19, 3) := dk_180 0 19 (dk_at dksX3_groundLine_5 0 rfl rfl)
theorem dX3_groundLine_121 : decode cX3_groundLine 121 = .ok (.aload_n 0, 1) := dk_42 (dk_at dksX3_groundLine_5 3 rfl rfl)
theorem dX3_groundLine_122 : decode cX3_groundLine 122 = .ok (.getfield 228, 3) := dk_180 0 228 (dk_at dksX3_groundLine_5 4 rfl rfl)
theorem dX3_groundLine_125 : decode cX3_groundLine 125 = .ok (.aload_n 0, 1) := dk_42 (dk_at dksX3_groundLine_5 7 rfl rfl)
theorem dX3_groundLine_126 : decode cX3_groundLine 126 = .ok (.getfield 153, 3) := dk_180 0 153 (dk_at dksX3_groundLine_5 8 rfl rfl)
theorem dX3_groundLine_129 : decode cX3_groundLine 129 = .ok (.iastore, 1) := dk_79 (dk_at dksX3_groundLine_5 11 rfl rfl)
theorem dX3_groundLine_130 : decode cX3_groundLine 130 = .ok (.aload_n 0, 1) := dk_42 (dk_at dksX3_groundLine_5 12 rfl rfl)
theorem dX3_groundLine_131 : decode cX3_groundLine 131 = .ok (.invokevirtual 173, 3) := dk_182 0 173 (dk_at dksX3_groundLine_5 13 rfl rfl)
theorem dX3_groundLine_134 : decode cX3_groundLine 134 = .ok (.aload_n 0, 1) := dk_42 (dk_at dksX3_groundLine_5 16 rfl rfl)
theorem dX3_groundLine_135 : decode cX3_groundLine 135 = .ok (.ldc_w 316, 3) := dk_19 1 60 (dk_at dksX3_groundLine_5 17 rfl rfl)
theorem dX3_groundLine_138 : decode cX3_groundLine 138 = .ok (.invokevirtual 294, 3) := dk_182 1 38 (dk_at dksX3_groundLine_5 20 rfl rfl)
theorem dX3_groundLine_141 : decode cX3_groundLine 141 = .ok (.pop, 1) := dk_87 (dk_at dksX3_groundLine_5 23 rfl rfl)
theorem dX3_groundLine_142 : decode cX3_groundLine 142 = .ok (.aload_n 0, 1) := dk_42 (dk_at dksX3_groundLine_6 0 rfl rfl)
theorem dX3_groundLine_143 : decode cX3_groundLine 143 = .ok (.getfield 28, 3) := dk_180 0 28 (dk_at dksX3_groundLine_6 1 rfl rfl)
theorem dX3_groundLine_146 : decode cX3_groundLine 146 = .ok (.aload_n 0, 1) := dk_42 (dk_at dksX3_groundLine_6 4 rfl rfl)
theorem dX3_groundLine_147 : decode cX3_groundLine 147 = .ok (.getfield 228, 3) := dk_180 0 228 (dk_at dksX3_groundLine_6 5 rfl rfl)
theorem dX3_groundLine_150 : decode cX3_groundLine 150 = .ok (.aload_n 0, 1) := dk_42 (dk_at dksX3_groundLine_6 8 rfl rfl)
theorem dX3_groundLine_151 : decode cX3_groundLine 151 = .ok (.aload_n 0, 1) := dk_42 (dk_at dksX3_groundLine_6 9 rfl rfl)
theorem dX3_groundLine_152 : decode cX3_groundLine 152 = .ok (.getfield 34, 3) := dk_180 0 34 (dk_at dksX3_groundLine_6 10 rfl rfl)
theorem dX3_groundLine_155 : decode cX3_groundLine 155 = .ok (.iconst 1, 1) := dk_4 (dk_at dksX3_groundLine_6 13 rfl rfl)
theorem dX3_groundLine_156 : decode cX3_groundLine 156 = .ok (.invokevirtual 317, 3) := dk_182 1 61 (dk_at dksX3_groundLine_6 14 rfl rfl)
theorem dX3_groundLine_159 : decode cX3_groundLine 159 = .ok (.iastore, 1) := dk_79 (dk_at dksX3_groundLine_6 17 rfl rfl)
theorem dX3_groundLine_160 : decode cX3_groundLine 160 = .ok (.aload_n 0, 1) := dk_42 (dk_at dksX3_groundLine_6 18 rfl rfl)
theorem dX3_groundLine_161 : decode cX3_groundLine 161 = .ok (.ldc_w 321, 3) := dk_19 1 65 (dk_at dksX3_groundLine_6 19 rfl rfl)
theorem dX3_groundLine_164 : decode cX3_groundLine 164 = .ok (.invokevirtual 294, 3) := dk_182 1 38 (dk_at dksX3_groundLine_7 0 rfl rfl)
theorem dX3_groundLine_167 : decode cX3_groundLine 167 = .ok (.pop, 1) := dk_87 (dk_at dksX3_groundLine_7 3 rfl rfl)
theorem dX3_groundLine_168 : decode cX3_groundLine 168 = .ok (.aload_n 0, 1) := dk_42 (dk_at dksX3_groundLine_7 4 rfl rfl)
theorem dX3_groundLine_169 : decode cX3_groundLine 169 = .ok (.getfield 31, 3) := dk_180 0 31 (dk_at dksX3_groundLine_7 5 rfl rfl)
theorem dX3_groundLine_172 : decode cX3_groundLine 172 = .ok (.aload_n 0, 1) := dk_42 (dk_at dksX3_groundLine_7 8 rfl rfl)
theorem dX3_groundLine_173 : decode cX3_groundLine 173 = .ok (.getfield 228, 3) := dk_180 0 228 (dk_at dksX3_groundLine_7 9 rfl rfl)
theorem dX3_groundLine_176 : decode cX3_groundLine 176 = .ok (.aload_n 0, 1) := dk_42 (dk_at dksX3_groundLine_7 12 rfl rfl)
theorem dX3_groundLine_177 : decode cX3_groundLine 177 = .ok (.aload_n 0, 1) := dk_42 (dk_at dksX3_groundLine_7 13 rfl rfl)
theorem dX3_groundLine_178 : decode cX3_groundLine 178 = .ok (.getfield 37, 3) := dk_180 0 37 (dk_at dksX3_groundLine_7 14 rfl rfl)
theorem dX3_groundLine_181 : decode cX3_groundLine 181 = .ok (.iconst 0, 1) := dk_3 (dk_at dksX3_groundLine_7 17 rfl rfl)
theorem dX3_groundLine_182 : decode cX3_groundLine 182 = .ok (.invokevirtual 317, 3) := dk_182 1 61 (dk_at dksX3_groundLine_7 18 rfl rfl)
theorem dX3_groundLine_185 : decode cX3_groundLine 185 = .ok (.iastore, 1) := dk_79 (dk_at dksX3_groundLine_7 21 rfl rfl)
theorem dX3_groundLine_186 : decode cX3_groundLine 186 = .ok (.aload_n 0, 1) := dk_42 (dk_at dksX3_groundLine_7 22 rfl rfl)
theorem dX3_groundLine_187 : decode cX3_groundLine 187 = .ok (.getfield 169, 3) := dk_180 0 169 (dk_at dksX3_groundLine_8 0 rfl rfl)
theorem dX3_groundLine_190 : decode cX3_groundLine 190 = .ok (.ifCond .ne 13, 3) := dk_154 0 13 (dk_at dksX3_groundLine_8 3 rfl rfl)
theorem dX3_groundLine_193 : decode cX3_groundLine 193 = .ok (.aload_n 0, 1) := dk_42 (dk_at dksX3_groundLine_8 6 rfl rfl)
theorem dX3_groundLine_194 : decode cX3_groundLine 194 = .ok (.dup, 1) := dk_89 (dk_at dksX3_groundLine_8 7 rfl rfl)
theorem dX3_groundLine_195 : decode cX3_groundLine 195 = .ok (.getfield 228, 3) := dk_180 0 228 (dk_at dksX3_groundLine_8 8 rfl rfl)
theorem dX3_groundLine_198 : decode cX3_groundLine 198 = .ok (.iconst 1, 1) := dk_4 (dk_at dksX3_groundLine_8 11 rfl rfl)
theorem dX3_groundLine_199 : decode cX3_groundLine 199 = .ok (.iadd, 1) := dk_96 (dk_at dksX3_groundLine_8 12 rfl rfl)
theorem dX3_groundLine_200 : decode cX3_groundLine 200 = .ok (.putfield 228, 3) := dk_181 0 228 (dk_at dksX3_groundLine_8 13 rfl rfl)
theorem dX3_groundLine_203 : decode cX3_groundLine 203 = .ok (.return_, 1) := dk_177 (dk_at dksX3_groundLine_8 16 rfl rfl)
abbrev cX3_isName : ByteArray := prog_23_method_16_code
def yX3_isName : MethodName := ⟨RX3, "isName", "()Z"⟩
def dkwX3_isName_4 : List UInt8 := [42, 180, 0, 159, 5, 160, 0, 11, 27, 154, 0, 7, 4, 167, 0, 4, 3, 172]
abbrev dktX3_isName_4 : List UInt8 := dkwX3_isName_4 ++ []
def dkwX3_isName_3 : List UInt8 := [42, 18, 216, 182, 0, 192, 154, 0, 12, 42, 18, 218, 182, 0, 192, 153, 0, 7, 4, 167, 0, 4, 3, 60]
abbrev dktX3_isName_3 : List UInt8 := dkwX3_isName_3 ++ dktX3_isName_4
def dkwX3_isName_2 : List UInt8 := [182, 0, 192, 154, 0, 39, 42, 18, 212, 182, 0, 192, 154, 0, 30, 42, 18, 214, 182, 0, 192, 154, 0, 21]
abbrev dktX3_isName_2 : List UInt8 := dkwX3_isName_2 ++ dktX3_isName_3
def dkwX3_isName_1 : List UInt8 := [154, 0, 66, 42, 18, 206, 182, 0, 192, 154, 0, 57, 42, 18, 208, 182, 0, 192, 154, 0, 48, 42, 18, 210]
abbrev dktX3_isName_1 : List UInt8 := dkwX3_isName_1 ++ dktX3_isName_2
def dkwX3_isName_0 : List UInt8 := [42, 18, 200, 182, 0, 192, 154, 0, 84, 42, 18, 202, 182, 0, 192, 154, 0, 75, 42, 18, 204, 182, 0, 192]
abbrev dktX3_isName_0 : List UInt8 := dkwX3_isName_0 ++ dktX3_isName_1
theorem dksX3_isName_0 : cX3_isName.data.toList.drop 0 = dktX3_isName_0 := by decide +kernel
theorem dksX3_isName_1 : cX3_isName.data.toList.drop 24 = dktX3_isName_1 := dk_seg dksX3_isName_0 24 rfl rfl
theorem dksX3_isName_2 : cX3_isName.data.toList.drop 48 = dktX3_isName_2 := dk_seg dksX3_isName_1 24 rfl rfl
theorem dksX3_isName_3 : cX3_isName.data.toList.drop 72 = dktX3_isName_3 := dk_seg dksX3_isName_2 24 rfl rfl
theorem dksX3_isName_4 : cX3_isName.data.toList.drop 96 = dktX3_isName_4 := dk_seg dksX3_isName_3 24 rfl rfl
theorem dX3_isName_0 : decode cX3_isName 0 = .ok (.aload_n 0, 1) := dk_42 (dk_at dksX3_isName_0 0 rfl rfl)
theorem dX3_isName_1 : decode cX3_isName 1 = .ok (.ldc 200, 2) := dk_18 200 (dk_at dksX3_isName_0 1 rfl rfl)
theorem dX3_isName_3 : decode cX3_isName 3 = .ok (.invokevirtual 192, 3) := dk_182 0 192 (dk_at dksX3_isName_0 3 rfl rfl)
theorem dX3_isName_6 : decode cX3_isName 6 = .ok (.ifCond .ne 84, 3) := dk_154 0 84 (dk_at dksX3_isName_0 6 rfl rfl)
theorem dX3_isName_9 : decode cX3_isName 9 = .ok (.aload_n 0, 1) := dk_42 (dk_at dksX3_isName_0 9 rfl rfl)
theorem dX3_isName_10 : decode cX3_isName 10 = .ok (.ldc 202, 2) := dk_18 202 (dk_at dksX3_isName_0 10 rfl rfl)
theorem dX3_isName_12 : decode cX3_isName 12 = .ok (.invokevirtual 192, 3) := dk_182 0 192 (dk_at dksX3_isName_0 12 rfl rfl)
theorem dX3_isName_15 : decode cX3_isName 15 = .ok (.ifCond .ne 75, 3) := dk_154 0 75 (dk_at dksX3_isName_0 15 rfl rfl)
theorem dX3_isName_18 : decode cX3_isName 18 = .ok (.aload_n 0, 1) := dk_42 (dk_at dksX3_isName_0 18 rfl rfl)
theorem dX3_isName_19 : decode cX3_isName 19 = .ok (.ldc 204, 2) := dk_18 204 (dk_at dksX3_isName_0 19 rfl rfl)
theorem dX3_isName_21 : decode cX3_isName 21 = .ok (.invokevirtual 192, 3) := dk_182 0 192 (dk_at dksX3_isName_0 21 rfl rfl)
theorem dX3_isName_24 : decode cX3_isName 24 = .ok (.ifCond .ne 66, 3) := dk_154 0 66 (dk_at dksX3_isName_1 0 rfl rfl)
theorem dX3_isName_27 : decode cX3_isName 27 = .ok (.aload_n 0, 1) := dk_42 (dk_at dksX3_isName_1 3 rfl rfl)
theorem dX3_isName_28 : decode cX3_isName 28 = .ok (.ldc 206, 2) := dk_18 206 (dk_at dksX3_isName_1 4 rfl rfl)
theorem dX3_isName_30 : decode cX3_isName 30 = .ok (.invokevirtual 192, 3) := dk_182 0 192 (dk_at dksX3_isName_1 6 rfl rfl)
theorem dX3_isName_33 : decode cX3_isName 33 = .ok (.ifCond .ne 57, 3) := dk_154 0 57 (dk_at dksX3_isName_1 9 rfl rfl)
theorem dX3_isName_36 : decode cX3_isName 36 = .ok (.aload_n 0, 1) := dk_42 (dk_at dksX3_isName_1 12 rfl rfl)
theorem dX3_isName_37 : decode cX3_isName 37 = .ok (.ldc 208, 2) := dk_18 208 (dk_at dksX3_isName_1 13 rfl rfl)
theorem dX3_isName_39 : decode cX3_isName 39 = .ok (.invokevirtual 192, 3) := dk_182 0 192 (dk_at dksX3_isName_1 15 rfl rfl)
theorem dX3_isName_42 : decode cX3_isName 42 = .ok (.ifCond .ne 48, 3) := dk_154 0 48 (dk_at dksX3_isName_1 18 rfl rfl)
theorem dX3_isName_45 : decode cX3_isName 45 = .ok (.aload_n 0, 1) := dk_42 (dk_at dksX3_isName_1 21 rfl rfl)
theorem dX3_isName_46 : decode cX3_isName 46 = .ok (.ldc 210, 2) := dk_18 210 (dk_at dksX3_isName_1 22 rfl rfl)
theorem dX3_isName_48 : decode cX3_isName 48 = .ok (.invokevirtual 192, 3) := dk_182 0 192 (dk_at dksX3_isName_2 0 rfl rfl)
theorem dX3_isName_51 : decode cX3_isName 51 = .ok (.ifCond .ne 39, 3) := dk_154 0 39 (dk_at dksX3_isName_2 3 rfl rfl)
theorem dX3_isName_54 : decode cX3_isName 54 = .ok (.aload_n 0, 1) := dk_42 (dk_at dksX3_isName_2 6 rfl rfl)
theorem dX3_isName_55 : decode cX3_isName 55 = .ok (.ldc 212, 2) := dk_18 212 (dk_at dksX3_isName_2 7 rfl rfl)
theorem dX3_isName_57 : decode cX3_isName 57 = .ok (.invokevirtual 192, 3) := dk_182 0 192 (dk_at dksX3_isName_2 9 rfl rfl)
theorem dX3_isName_60 : decode cX3_isName 60 = .ok (.ifCond .ne 30, 3) := dk_154 0 30 (dk_at dksX3_isName_2 12 rfl rfl)
theorem dX3_isName_63 : decode cX3_isName 63 = .ok (.aload_n 0, 1) := dk_42 (dk_at dksX3_isName_2 15 rfl rfl)
theorem dX3_isName_64 : decode cX3_isName 64 = .ok (.ldc 214, 2) := dk_18 214 (dk_at dksX3_isName_2 16 rfl rfl)
theorem dX3_isName_66 : decode cX3_isName 66 = .ok (.invokevirtual 192, 3) := dk_182 0 192 (dk_at dksX3_isName_2 18 rfl rfl)
theorem dX3_isName_69 : decode cX3_isName 69 = .ok (.ifCond .ne 21, 3) := dk_154 0 21 (dk_at dksX3_isName_2 21 rfl rfl)
theorem dX3_isName_72 : decode cX3_isName 72 = .ok (.aload_n 0, 1) := dk_42 (dk_at dksX3_isName_3 0 rfl rfl)
theorem dX3_isName_73 : decode cX3_isName 73 = .ok (.ldc 216, 2) := dk_18 216 (dk_at dksX3_isName_3 1 rfl rfl)
theorem dX3_isName_75 : decode cX3_isName 75 = .ok (.invokevirtual 192, 3) := dk_182 0 192 (dk_at dksX3_isName_3 3 rfl rfl)
theorem dX3_isName_78 : decode cX3_isName 78 = .ok (.ifCond .ne 12, 3) := dk_154 0 12 (dk_at dksX3_isName_3 6 rfl rfl)
theorem dX3_isName_81 : decode cX3_isName 81 = .ok (.aload_n 0, 1) := dk_42 (dk_at dksX3_isName_3 9 rfl rfl)
theorem dX3_isName_82 : decode cX3_isName 82 = .ok (.ldc 218, 2) := dk_18 218 (dk_at dksX3_isName_3 10 rfl rfl)
theorem dX3_isName_84 : decode cX3_isName 84 = .ok (.invokevirtual 192, 3) := dk_182 0 192 (dk_at dksX3_isName_3 12 rfl rfl)
theorem dX3_isName_87 : decode cX3_isName 87 = .ok (.ifCond .eq 7, 3) := dk_153 0 7 (dk_at dksX3_isName_3 15 rfl rfl)
theorem dX3_isName_90 : decode cX3_isName 90 = .ok (.iconst 1, 1) := dk_4 (dk_at dksX3_isName_3 18 rfl rfl)
theorem dX3_isName_91 : decode cX3_isName 91 = .ok (.goto 4, 3) := dk_167 0 4 (dk_at dksX3_isName_3 19 rfl rfl)
theorem dX3_isName_94 : decode cX3_isName 94 = .ok (.iconst 0, 1) := dk_3 (dk_at dksX3_isName_3 22 rfl rfl)
theorem dX3_isName_95 : decode cX3_isName 95 = .ok (.istore_n 1, 1) := dk_60 (dk_at dksX3_isName_3 23 rfl rfl)
theorem dX3_isName_96 : decode cX3_isName 96 = .ok (.aload_n 0, 1) := dk_42 (dk_at dksX3_isName_4 0 rfl rfl)
theorem dX3_isName_97 : decode cX3_isName 97 = .ok (.getfield 159, 3) := dk_180 0 159 (dk_at dksX3_isName_4 1 rfl rfl)
theorem dX3_isName_100 : decode cX3_isName 100 = .ok (.iconst 2, 1) := dk_5 (dk_at dksX3_isName_4 4 rfl rfl)
theorem dX3_isName_101 : decode cX3_isName 101 = .ok (.if_icmp .ne 11, 3) := dk_160 0 11 (dk_at dksX3_isName_4 5 rfl rfl)
theorem dX3_isName_104 : decode cX3_isName 104 = .ok (.iload_n 1, 1) := dk_27 (dk_at dksX3_isName_4 8 rfl rfl)
theorem dX3_isName_105 : decode cX3_isName 105 = .ok (.ifCond .ne 7, 3) := dk_154 0 7 (dk_at dksX3_isName_4 9 rfl rfl)
theorem dX3_isName_108 : decode cX3_isName 108 = .ok (.iconst 1, 1) := dk_4 (dk_at dksX3_isName_4 12 rfl rfl)
theorem dX3_isName_109 : decode cX3_isName 109 = .ok (.goto 4, 3) := dk_167 0 4 (dk_at dksX3_isName_4 13 rfl rfl)
theorem dX3_isName_112 : decode cX3_isName 112 = .ok (.iconst 0, 1) := dk_3 (dk_at dksX3_isName_4 16 rfl rfl)
theorem dX3_isName_113 : decode cX3_isName 113 = .ok (.ireturn, 1) := dk_172 (dk_at dksX3_isName_4 17 rfl rfl)
abbrev cX3_wrong : ByteArray := prog_23_method_13_code
def yX3_wrong : MethodName := ⟨RX3, "wrong", "(II)Z"⟩
def dkwX3_wrong_0 : List UInt8 := [42, 180, 0, 169, 154, 0, 18, 42, 4, 181, 0, 169, 42, 27, 181, 0, 176, 42, 28, 181, 0, 179, 3, 172]
abbrev dktX3_wrong_0 : List UInt8 := dkwX3_wrong_0 ++ []
theorem dksX3_wrong_0 : cX3_wrong.data.toList.drop 0 = dktX3_wrong_0 := by decide +kernel
theorem dX3_wrong_0 : decode cX3_wrong 0 = .ok (.aload_n 0, 1) := dk_42 (dk_at dksX3_wrong_0 0 rfl rfl)
theorem dX3_wrong_1 : decode cX3_wrong 1 = .ok (.getfield 169, 3) := dk_180 0 169 (dk_at dksX3_wrong_0 1 rfl rfl)
theorem dX3_wrong_4 : decode cX3_wrong 4 = .ok (.ifCond .ne 18, 3) := dk_154 0 18 (dk_at dksX3_wrong_0 4 rfl rfl)
theorem dX3_wrong_7 : decode cX3_wrong 7 = .ok (.aload_n 0, 1) := dk_42 (dk_at dksX3_wrong_0 7 rfl rfl)
theorem dX3_wrong_8 : decode cX3_wrong 8 = .ok (.iconst 1, 1) := dk_4 (dk_at dksX3_wrong_0 8 rfl rfl)
theorem dX3_wrong_9 : decode cX3_wrong 9 = .ok (.putfield 169, 3) := dk_181 0 169 (dk_at dksX3_wrong_0 9 rfl rfl)
theorem dX3_wrong_12 : decode cX3_wrong 12 = .ok (.aload_n 0, 1) := dk_42 (dk_at dksX3_wrong_0 12 rfl rfl)
theorem dX3_wrong_13 : decode cX3_wrong 13 = .ok (.iload_n 1, 1) := dk_27 (dk_at dksX3_wrong_0 13 rfl rfl)
theorem dX3_wrong_14 : decode cX3_wrong 14 = .ok (.putfield 176, 3) := dk_181 0 176 (dk_at dksX3_wrong_0 14 rfl rfl)
theorem dX3_wrong_17 : decode cX3_wrong 17 = .ok (.aload_n 0, 1) := dk_42 (dk_at dksX3_wrong_0 17 rfl rfl)
theorem dX3_wrong_18 : decode cX3_wrong 18 = .ok (.iload_n 2, 1) := dk_28 (dk_at dksX3_wrong_0 18 rfl rfl)
theorem dX3_wrong_19 : decode cX3_wrong 19 = .ok (.putfield 179, 3) := dk_181 0 179 (dk_at dksX3_wrong_0 19 rfl rfl)
theorem dX3_wrong_22 : decode cX3_wrong 22 = .ok (.iconst 0, 1) := dk_3 (dk_at dksX3_wrong_0 22 rfl rfl)
theorem dX3_wrong_23 : decode cX3_wrong 23 = .ok (.ireturn, 1) := dk_172 (dk_at dksX3_wrong_0 23 rfl rfl)
abbrev cX3_find : ByteArray := prog_23_method_17_code
def yX3_find : MethodName := ⟨RX3, "find", "([I[II)I"⟩
def dkwX3_find_3 : List UInt8 := [132, 6, 1, 167, 255, 212, 21, 5, 153, 0, 6, 21, 4, 172, 132, 4, 1, 167, 255, 171, 2, 172]
abbrev dktX3_find_3 : List UInt8 := dkwX3_find_3 ++ []
def dkwX3_find_2 : List UInt8 := [21, 4, 104, 21, 6, 96, 46, 42, 180, 0, 13, 21, 6, 46, 160, 0, 7, 4, 167, 0, 4, 3, 54, 5]
abbrev dktX3_find_2 : List UInt8 := dkwX3_find_2 ++ dktX3_find_3
def dkwX3_find_1 : List UInt8 := [3, 54, 5, 3, 54, 6, 21, 6, 42, 180, 0, 153, 162, 0, 41, 21, 5, 153, 0, 36, 43, 16, 8]
abbrev dktX3_find_1 : List UInt8 := dkwX3_find_1 ++ dktX3_find_2
def dkwX3_find_0 : List UInt8 := [3, 54, 4, 21, 4, 29, 162, 0, 85, 44, 21, 4, 46, 42, 180, 0, 153, 160, 0, 7, 4, 167, 0, 4]
abbrev dktX3_find_0 : List UInt8 := dkwX3_find_0 ++ dktX3_find_1
theorem dksX3_find_0 : cX3_find.data.toList.drop 0 = dktX3_find_0 := by decide +kernel
theorem dksX3_find_1 : cX3_find.data.toList.drop 24 = dktX3_find_1 := dk_seg dksX3_find_0 24 rfl rfl
theorem dksX3_find_2 : cX3_find.data.toList.drop 47 = dktX3_find_2 := dk_seg dksX3_find_1 23 rfl rfl
theorem dksX3_find_3 : cX3_find.data.toList.drop 71 = dktX3_find_3 := dk_seg dksX3_find_2 24 rfl rfl
theorem dX3_find_0 : decode cX3_find 0 = .ok (.iconst 0, 1) := dk_3 (dk_at dksX3_find_0 0 rfl rfl)
theorem dX3_find_1 : decode cX3_find 1 = .ok (.istore 4, 2) := dk_54 4 (dk_at dksX3_find_0 1 rfl rfl)
theorem dX3_find_3 : decode cX3_find 3 = .ok (.iload 4, 2) := dk_21 4 (dk_at dksX3_find_0 3 rfl rfl)
theorem dX3_find_5 : decode cX3_find 5 = .ok (.iload_n 3, 1) := dk_29 (dk_at dksX3_find_0 5 rfl rfl)
theorem dX3_find_6 : decode cX3_find 6 = .ok (.if_icmp .ge 85, 3) := dk_162 0 85 (dk_at dksX3_find_0 6 rfl rfl)
theorem dX3_find_9 : decode cX3_find 9 = .ok (.aload_n 2, 1) := dk_44 (dk_at dksX3_find_0 9 rfl rfl)
theorem dX3_find_10 : decode cX3_find 10 = .ok (.iload 4, 2) := dk_21 4 (dk_at dksX3_find_0 10 rfl rfl)
theorem dX3_find_12 : decode cX3_find 12 = .ok (.iaload, 1) := dk_46 (dk_at dksX3_find_0 12 rfl rfl)
theorem dX3_find_13 : decode cX3_find 13 = .ok (.aload_n 0, 1) := dk_42 (dk_at dksX3_find_0 13 rfl rfl)
theorem dX3_find_14 : decode cX3_find 14 = .ok (.getfield 153, 3) := dk_180 0 153 (dk_at dksX3_find_0 14 rfl rfl)
theorem dX3_find_17 : decode cX3_find 17 = .ok (.if_icmp .ne 7, 3) := dk_160 0 7 (dk_at dksX3_find_0 17 rfl rfl)
theorem dX3_find_20 : decode cX3_find 20 = .ok (.iconst 1, 1) := dk_4 (dk_at dksX3_find_0 20 rfl rfl)
theorem dX3_find_21 : decode cX3_find 21 = .ok (.goto 4, 3) := dk_167 0 4 (dk_at dksX3_find_0 21 rfl rfl)
theorem dX3_find_24 : decode cX3_find 24 = .ok (.iconst 0, 1) := dk_3 (dk_at dksX3_find_1 0 rfl rfl)
theorem dX3_find_25 : decode cX3_find 25 = .ok (.istore 5, 2) := dk_54 5 (dk_at dksX3_find_1 1 rfl rfl)
theorem dX3_find_27 : decode cX3_find 27 = .ok (.iconst 0, 1) := dk_3 (dk_at dksX3_find_1 3 rfl rfl)
theorem dX3_find_28 : decode cX3_find 28 = .ok (.istore 6, 2) := dk_54 6 (dk_at dksX3_find_1 4 rfl rfl)
theorem dX3_find_30 : decode cX3_find 30 = .ok (.iload 6, 2) := dk_21 6 (dk_at dksX3_find_1 6 rfl rfl)
theorem dX3_find_32 : decode cX3_find 32 = .ok (.aload_n 0, 1) := dk_42 (dk_at dksX3_find_1 8 rfl rfl)
theorem dX3_find_33 : decode cX3_find 33 = .ok (.getfield 153, 3) := dk_180 0 153 (dk_at dksX3_find_1 9 rfl rfl)
theorem dX3_find_36 : decode cX3_find 36 = .ok (.if_icmp .ge 41, 3) := dk_162 0 41 (dk_at dksX3_find_1 12 rfl rfl)
theorem dX3_find_39 : decode cX3_find 39 = .ok (.iload 5, 2) := dk_21 5 (dk_at dksX3_find_1 15 rfl rfl)
theorem dX3_find_41 : decode cX3_find 41 = .ok (.ifCond .eq 36, 3) := dk_153 0 36 (dk_at dksX3_find_1 17 rfl rfl)
theorem dX3_find_44 : decode cX3_find 44 = .ok (.aload_n 1, 1) := dk_43 (dk_at dksX3_find_1 20 rfl rfl)
theorem dX3_find_45 : decode cX3_find 45 = .ok (.bipush 8, 2) := dk_16 8 (dk_at dksX3_find_1 21 rfl rfl)
theorem dX3_find_47 : decode cX3_find 47 = .ok (.iload 4, 2) := dk_21 4 (dk_at dksX3_find_2 0 rfl rfl)
theorem dX3_find_49 : decode cX3_find 49 = .ok (.imul, 1) := dk_104 (dk_at dksX3_find_2 2 rfl rfl)
theorem dX3_find_50 : decode cX3_find 50 = .ok (.iload 6, 2) := dk_21 6 (dk_at dksX3_find_2 3 rfl rfl)
theorem dX3_find_52 : decode cX3_find 52 = .ok (.iadd, 1) := dk_96 (dk_at dksX3_find_2 5 rfl rfl)
theorem dX3_find_53 : decode cX3_find 53 = .ok (.iaload, 1) := dk_46 (dk_at dksX3_find_2 6 rfl rfl)
theorem dX3_find_54 : decode cX3_find 54 = .ok (.aload_n 0, 1) := dk_42 (dk_at dksX3_find_2 7 rfl rfl)
theorem dX3_find_55 : decode cX3_find 55 = .ok (.getfield 13, 3) := dk_180 0 13 (dk_at dksX3_find_2 8 rfl rfl)
theorem dX3_find_58 : decode cX3_find 58 = .ok (.iload 6, 2) := dk_21 6 (dk_at dksX3_find_2 11 rfl rfl)
theorem dX3_find_60 : decode cX3_find 60 = .ok (.iaload, 1) := dk_46 (dk_at dksX3_find_2 13 rfl rfl)
theorem dX3_find_61 : decode cX3_find 61 = .ok (.if_icmp .ne 7, 3) := dk_160 0 7 (dk_at dksX3_find_2 14 rfl rfl)
theorem dX3_find_64 : decode cX3_find 64 = .ok (.iconst 1, 1) := dk_4 (dk_at dksX3_find_2 17 rfl rfl)
theorem dX3_find_65 : decode cX3_find 65 = .ok (.goto 4, 3) := dk_167 0 4 (dk_at dksX3_find_2 18 rfl rfl)
theorem dX3_find_68 : decode cX3_find 68 = .ok (.iconst 0, 1) := dk_3 (dk_at dksX3_find_2 21 rfl rfl)
theorem dX3_find_69 : decode cX3_find 69 = .ok (.istore 5, 2) := dk_54 5 (dk_at dksX3_find_2 22 rfl rfl)
theorem dX3_find_71 : decode cX3_find 71 = .ok (.iinc 6 1, 3) := dk_132 6 1 (dk_at dksX3_find_3 0 rfl rfl)
theorem dX3_find_74 : decode cX3_find 74 = .ok (.goto (-44), 3) := dk_167 255 212 (dk_at dksX3_find_3 3 rfl rfl)
theorem dX3_find_77 : decode cX3_find 77 = .ok (.iload 5, 2) := dk_21 5 (dk_at dksX3_find_3 6 rfl rfl)
theorem dX3_find_79 : decode cX3_find 79 = .ok (.ifCond .eq 6, 3) := dk_153 0 6 (dk_at dksX3_find_3 8 rfl rfl)
theorem dX3_find_82 : decode cX3_find 82 = .ok (.iload 4, 2) := dk_21 4 (dk_at dksX3_find_3 11 rfl rfl)
theorem dX3_find_84 : decode cX3_find 84 = .ok (.ireturn, 1) := dk_172 (dk_at dksX3_find_3 13 rfl rfl)
theorem dX3_find_85 : decode cX3_find 85 = .ok (.iinc 4 1, 3) := dk_132 4 1 (dk_at dksX3_find_3 14 rfl rfl)
theorem dX3_find_88 : decode cX3_find 88 = .ok (.goto (-85), 3) := dk_167 255 171 (dk_at dksX3_find_3 17 rfl rfl)
theorem dX3_find_91 : decode cX3_find 91 = .ok (.iconst (-1), 1) := dk_2 (dk_at dksX3_find_3 20 rfl rfl)
theorem dX3_find_92 : decode cX3_find 92 = .ok (.ireturn, 1) := dk_172 (dk_at dksX3_find_3 21 rfl rfl)
abbrev cX3_must : ByteArray := prog_23_method_15_code
def yX3_must : MethodName := ⟨RX3, "must", "(Ljava/lang/String;)Z"⟩
def dkwX3_must_1 : List UInt8 := [182, 0, 196, 172, 42, 182, 0, 173, 4, 172]
abbrev dktX3_must_1 : List UInt8 := dkwX3_must_1 ++ []
def dkwX3_must_0 : List UInt8 := [42, 180, 0, 169, 153, 0, 5, 3, 172, 42, 43, 182, 0, 192, 154, 0, 13, 42, 4, 42, 180, 0, 150]
abbrev dktX3_must_0 : List UInt8 := dkwX3_must_0 ++ dktX3_must_1
theorem dksX3_must_0 : cX3_must.data.toList.drop 0 = dktX3_must_0 := by decide +kernel
theorem dksX3_must_1 : cX3_must.data.toList.drop 23 = dktX3_must_1 := dk_seg dksX3_must_0 23 rfl rfl
theorem dX3_must_0 : decode cX3_must 0 = .ok (.aload_n 0, 1) := dk_42 (dk_at dksX3_must_0 0 rfl rfl)
theorem dX3_must_1 : decode cX3_must 1 = .ok (.getfield 169, 3) := dk_180 0 169 (dk_at dksX3_must_0 1 rfl rfl)
theorem dX3_must_4 : decode cX3_must 4 = .ok (.ifCond .eq 5, 3) := dk_153 0 5 (dk_at dksX3_must_0 4 rfl rfl)
theorem dX3_must_7 : decode cX3_must 7 = .ok (.iconst 0, 1) := dk_3 (dk_at dksX3_must_0 7 rfl rfl)
theorem dX3_must_8 : decode cX3_must 8 = .ok (.ireturn, 1) := dk_172 (dk_at dksX3_must_0 8 rfl rfl)
theorem dX3_must_9 : decode cX3_must 9 = .ok (.aload_n 0, 1) := dk_42 (dk_at dksX3_must_0 9 rfl rfl)
theorem dX3_must_10 : decode cX3_must 10 = .ok (.aload_n 1, 1) := dk_43 (dk_at dksX3_must_0 10 rfl rfl)
theorem dX3_must_11 : decode cX3_must 11 = .ok (.invokevirtual 192, 3) := dk_182 0 192 (dk_at dksX3_must_0 11 rfl rfl)
theorem dX3_must_14 : decode cX3_must 14 = .ok (.ifCond .ne 13, 3) := dk_154 0 13 (dk_at dksX3_must_0 14 rfl rfl)
theorem dX3_must_17 : decode cX3_must 17 = .ok (.aload_n 0, 1) := dk_42 (dk_at dksX3_must_0 17 rfl rfl)
theorem dX3_must_18 : decode cX3_must 18 = .ok (.iconst 1, 1) := dk_4 (dk_at dksX3_must_0 18 rfl rfl)
theorem dX3_must_19 : decode cX3_must 19 = .ok (.aload_n 0, 1) := dk_42 (dk_at dksX3_must_0 19 rfl rfl)
theorem dX3_must_20 : decode cX3_must 20 = .ok (.getfield 150, 3) := dk_180 0 150 (dk_at dksX3_must_0 20 rfl rfl)
theorem dX3_must_23 : decode cX3_must 23 = .ok (.invokevirtual 196, 3) := dk_182 0 196 (dk_at dksX3_must_1 0 rfl rfl)
theorem dX3_must_26 : decode cX3_must 26 = .ok (.ireturn, 1) := dk_172 (dk_at dksX3_must_1 3 rfl rfl)
theorem dX3_must_27 : decode cX3_must 27 = .ok (.aload_n 0, 1) := dk_42 (dk_at dksX3_must_1 4 rfl rfl)
theorem dX3_must_28 : decode cX3_must 28 = .ok (.invokevirtual 173, 3) := dk_182 0 173 (dk_at dksX3_must_1 5 rfl rfl)
theorem dX3_must_31 : decode cX3_must 31 = .ok (.iconst 1, 1) := dk_4 (dk_at dksX3_must_1 8 rfl rfl)
theorem dX3_must_32 : decode cX3_must 32 = .ok (.ireturn, 1) := dk_172 (dk_at dksX3_must_1 9 rfl rfl)
abbrev cX3_pairs : ByteArray := prog_23_method_25_code
def yX3_pairs : MethodName := ⟨RX3, "pairs", "([IZ)I"⟩
def dkwX3_pairs_9 : List UInt8 := [21, 4, 153, 0, 7, 42, 182, 0, 173, 167, 255, 52, 29, 172]
abbrev dktX3_pairs_9 : List UInt8 := dkwX3_pairs_9 ++ []
def dkwX3_pairs_8 : List UInt8 := [96, 21, 9, 79, 132, 3, 1, 42, 180, 0, 159, 16, 44, 160, 0, 7, 4, 167, 0, 4, 3, 54, 4]
abbrev dktX3_pairs_8 : List UInt8 := dkwX3_pairs_8 ++ dktX3_pairs_9
def dkwX3_pairs_7 : List UInt8 := [182, 1, 41, 54, 9, 42, 180, 0, 169, 153, 0, 5, 29, 172, 43, 21, 5, 21, 8, 79, 43, 21, 5, 4]
abbrev dktX3_pairs_7 : List UInt8 := dkwX3_pairs_7 ++ dktX3_pairs_8
def dkwX3_pairs_6 : List UInt8 := [104, 96, 4, 100, 46, 167, 0, 4, 3, 28, 153, 0, 9, 17, 1, 44, 167, 0, 6, 17, 0, 150]
abbrev dktX3_pairs_6 : List UInt8 := dkwX3_pairs_6 ++ dktX3_pairs_7
def dkwX3_pairs_5 : List UInt8 := [153, 0, 32, 29, 158, 0, 28, 42, 180, 0, 169, 154, 0, 21, 43, 16, 8, 42, 180, 0, 228, 104, 5, 29]
abbrev dktX3_pairs_5 : List UInt8 := dkwX3_pairs_5 ++ dktX3_pairs_6
def dkwX3_pairs_4 : List UInt8 := [54, 8, 42, 180, 0, 169, 154, 0, 16, 29, 7, 160, 0, 11, 42, 8, 21, 7, 182, 0, 196, 87, 42, 28]
abbrev dktX3_pairs_4 : List UInt8 := dkwX3_pairs_4 ++ dktX3_pairs_5
def dkwX3_pairs_3 : List UInt8 := [180, 0, 150, 54, 7, 42, 21, 6, 28, 153, 0, 9, 17, 3, 231, 167, 0, 5, 16, 90, 182, 1, 41]
abbrev dktX3_pairs_3 : List UInt8 := dkwX3_pairs_3 ++ dktX3_pairs_4
def dkwX3_pairs_2 : List UInt8 := [167, 0, 20, 43, 16, 8, 42, 180, 0, 228, 104, 5, 29, 104, 96, 5, 100, 46, 4, 96, 54, 6, 42]
abbrev dktX3_pairs_2 : List UInt8 := dkwX3_pairs_2 ++ dktX3_pairs_3
def dkwX3_pairs_1 : List UInt8 := [180, 0, 228, 104, 5, 29, 7, 162, 0, 7, 29, 167, 0, 4, 6, 104, 96, 54, 5, 29, 154, 0, 7, 3]
abbrev dktX3_pairs_1 : List UInt8 := dkwX3_pairs_1 ++ dktX3_pairs_2
def dkwX3_pairs_0 : List UInt8 := [3, 62, 42, 180, 0, 169, 154, 0, 7, 4, 167, 0, 4, 3, 54, 4, 21, 4, 153, 0, 205, 16, 8, 42]
abbrev dktX3_pairs_0 : List UInt8 := dkwX3_pairs_0 ++ dktX3_pairs_1
theorem dksX3_pairs_0 : cX3_pairs.data.toList.drop 0 = dktX3_pairs_0 := by decide +kernel
theorem dksX3_pairs_1 : cX3_pairs.data.toList.drop 24 = dktX3_pairs_1 := dk_seg dksX3_pairs_0 24 rfl rfl
theorem dksX3_pairs_2 : cX3_pairs.data.toList.drop 48 = dktX3_pairs_2 := dk_seg dksX3_pairs_1 24 rfl rfl
theorem dksX3_pairs_3 : cX3_pairs.data.toList.drop 71 = dktX3_pairs_3 := dk_seg dksX3_pairs_2 23 rfl rfl
theorem dksX3_pairs_4 : cX3_pairs.data.toList.drop 94 = dktX3_pairs_4 := dk_seg dksX3_pairs_3 23 rfl rfl
theorem dksX3_pairs_5 : cX3_pairs.data.toList.drop 118 = dktX3_pairs_5 := dk_seg dksX3_pairs_4 24 rfl rfl
theorem dksX3_pairs_6 : cX3_pairs.data.toList.drop 142 = dktX3_pairs_6 := dk_seg dksX3_pairs_5 24 rfl rfl
theorem dksX3_pairs_7 : cX3_pairs.data.toList.drop 164 = dktX3_pairs_7 := dk_seg dksX3_pairs_6 22 rfl rfl
theorem dksX3_pairs_8 : cX3_pairs.data.toList.drop 188 = dktX3_pairs_8 := dk_seg dksX3_pairs_7 24 rfl rfl
theorem dksX3_pairs_9 : cX3_pairs.data.toList.drop 211 = dktX3_pairs_9 := dk_seg dksX3_pairs_8 23 rfl rfl
theorem dX3_pairs_0 : decode cX3_pairs 0 = .ok (.iconst 0, 1) := dk_3 (dk_at dksX3_pairs_0 0 rfl rfl)
theorem dX3_pairs_1 : decode cX3_pairs 1 = .ok (.istore_n 3, 1) := dk_62 (dk_at dksX3_pairs_0 1 rfl rfl)
theorem dX3_pairs_2 : decode cX3_pairs 2 = .ok (.aload_n 0, 1) := dk_42 (dk_at dksX3_pairs_0 2 rfl rfl)
theorem dX3_pairs_3 : decode cX3_pairs 3 = .ok (.getfield 169, 3) := dk_180 0 169 (dk_at dksX3_pairs_0 3 rfl rfl)
theorem dX3_pairs_6 : decode cX3_pairs 6 = .ok (.ifCond .ne 7, 3) := dk_154 0 7 (dk_at dksX3_pairs_0 6 rfl rfl)
theorem dX3_pairs_9 : decode cX3_pairs 9 = .ok (.iconst 1, 1) := dk_4 (dk_at dksX3_pairs_0 9 rfl rfl)
theorem dX3_pairs_10 : decode cX3_pairs 10 = .ok (.goto 4, 3) := dk_167 0 4 (dk_at dksX3_pairs_0 10 rfl rfl)
theorem dX3_pairs_13 : decode cX3_pairs 13 = .ok (.iconst 0, 1) := dk_3 (dk_at dksX3_pairs_0 13 rfl rfl)
theorem dX3_pairs_14 : decode cX3_pairs 14 = .ok (.istore 4, 2) := dk_54 4 (dk_at dksX3_pairs_0 14 rfl rfl)
theorem dX3_pairs_16 : decode cX3_pairs 16 = .ok (.iload 4, 2) := dk_21 4 (dk_at dksX3_pairs_0 16 rfl rfl)
theorem dX3_pairs_18 : decode cX3_pairs 18 = .ok (.ifCond .eq 205, 3) := dk_153 0 205 (dk_at dksX3_pairs_0 18 rfl rfl)
theorem dX3_pairs_21 : decode cX3_pairs 21 = .ok (.bipush 8, 2) := dk_16 8 (dk_at dksX3_pairs_0 21 rfl rfl)
theorem dX3_pairs_23 : decode cX3_pairs 23 = .ok (.aload_n 0, 1) := dk_42 (dk_at dksX3_pairs_0 23 rfl rfl)
theorem dX3_pairs_24 : decode cX3_pairs 24 = .ok (.getfield 228, 3) := dk_180 0 228 (dk_at dksX3_pairs_1 0 rfl rfl)
theorem dX3_pairs_27 : decode cX3_pairs 27 = .ok (.imul, 1) := dk_104 (dk_at dksX3_pairs_1 3 rfl rfl)
theorem dX3_pairs_28 : decode cX3_pairs 28 = .ok (.iconst 2, 1) := dk_5 (dk_at dksX3_pairs_1 4 rfl rfl)
theorem dX3_pairs_29 : decode cX3_pairs 29 = .ok (.iload_n 3, 1) := dk_29 (dk_at dksX3_pairs_1 5 rfl rfl)
theorem dX3_pairs_30 : decode cX3_pairs 30 = .ok (.iconst 4, 1) := dk_7 (dk_at dksX3_pairs_1 6 rfl rfl)
theorem dX3_pairs_31 : decode cX3_pairs 31 = .ok (.if_icmp .ge 7, 3) := dk_162 0 7 (dk_at dksX3_pairs_1 7 rfl rfl)
theorem dX3_pairs_34 : decode cX3_pairs 34 = .ok (.iload_n 3, 1) := dk_29 (dk_at dksX3_pairs_1 10 rfl rfl)
theorem dX3_pairs_35 : decode cX3_pairs 35 = .ok (.goto 4, 3) := dk_167 0 4 (dk_at dksX3_pairs_1 11 rfl rfl)
theorem dX3_pairs_38 : decode cX3_pairs 38 = .ok (.iconst 3, 1) := dk_6 (dk_at dksX3_pairs_1 14 rfl rfl)
theorem dX3_pairs_39 : decode cX3_pairs 39 = .ok (.imul, 1) := dk_104 (dk_at dksX3_pairs_1 15 rfl rfl)
theorem dX3_pairs_40 : decode cX3_pairs 40 = .ok (.iadd, 1) := dk_96 (dk_at dksX3_pairs_1 16 rfl rfl)
theorem dX3_pairs_41 : decode cX3_pairs 41 = .ok (.istore 5, 2) := dk_54 5 (dk_at dksX3_pairs_1 17 rfl rfl)
theorem dX3_pairs_43 : decode cX3_pairs 43 = .ok (.iload_n 3, 1) := dk_29 (dk_at dksX3_pairs_1 19 rfl rfl)
theorem dX3_pairs_44 : decode cX3_pairs 44 = .ok (.ifCond .ne 7, 3) := dk_154 0 7 (dk_at dksX3_pairs_1 20 rfl rfl)
theorem dX3_pairs_47 : decode cX3_pairs 47 = .ok (.iconst 0, 1) := dk_3 (dk_at dksX3_pairs_1 23 rfl rfl)
theorem dX3_pairs_48 : decode cX3_pairs 48 = .ok (.goto 20, 3) := dk_167 0 20 (dk_at dksX3_pairs_2 0 rfl rfl)
theorem dX3_pairs_51 : decode cX3_pairs 51 = .ok (.aload_n 1, 1) := dk_43 (dk_at dksX3_pairs_2 3 rfl rfl)
theorem dX3_pairs_52 : decode cX3_pairs 52 = .ok (.bipush 8, 2) := dk_16 8 (dk_at dksX3_pairs_2 4 rfl rfl)
theorem dX3_pairs_54 : decode cX3_pairs 54 = .ok (.aload_n 0, 1) := dk_42 (dk_at dksX3_pairs_2 6 rfl rfl)
theorem dX3_pairs_55 : decode cX3_pairs 55 = .ok (.getfield 228, 3) := dk_180 0 228 (dk_at dksX3_pairs_2 7 rfl rfl)
theorem dX3_pairs_58 : decode cX3_pairs 58 = .ok (.imul, 1) := dk_104 (dk_at dksX3_pairs_2 10 rfl rfl)
theorem dX3_pairs_59 : decode cX3_pairs 59 = .ok (.iconst 2, 1) := dk_5 (dk_at dksX3_pairs_2 11 rfl rfl)
theorem dX3_pairs_60 : decode cX3_pairs 60 = .ok (.iload_n 3, 1) := dk_29 (dk_at dksX3_pairs_2 12 rfl rfl)
theorem dX3_pairs_61 : decode cX3_pairs 61 = .ok (.imul, 1) := dk_104 (dk_at dksX3_pairs_2 13 rfl rfl)
theorem dX3_pairs_62 : decode cX3_pairs 62 = .ok (.iadd, 1) := dk_96 (dk_at dksX3_pairs_2 14 rfl rfl)
theorem dX3_pairs_63 : decode cX3_pairs 63 = .ok (.iconst 2, 1) := dk_5 (dk_at dksX3_pairs_2 15 rfl rfl)
theorem dX3_pairs_64 : decode cX3_pairs 64 = .ok (.isub, 1) := dk_100 (dk_at dksX3_pairs_2 16 rfl rfl)
theorem dX3_pairs_65 : decode cX3_pairs 65 = .ok (.iaload, 1) := dk_46 (dk_at dksX3_pairs_2 17 rfl rfl)
theorem dX3_pairs_66 : decode cX3_pairs 66 = .ok (.iconst 1, 1) := dk_4 (dk_at dksX3_pairs_2 18 rfl rfl)
theorem dX3_pairs_67 : decode cX3_pairs 67 = .ok (.iadd, 1) := dk_96 (dk_at dksX3_pairs_2 19 rfl rfl)
theorem dX3_pairs_68 : decode cX3_pairs 68 = .ok (.istore 6, 2) := dk_54 6 (dk_at dksX3_pairs_2 20 rfl rfl)
theorem dX3_pairs_70 : decode cX3_pairs 70 = .ok (.aload_n 0, 1) := dk_42 (dk_at dksX3_pairs_2 22 rfl rfl)
theorem dX3_pairs_71 : decode cX3_pairs 71 = .ok (.getfield 150, 3) := dk_180 0 150 (dk_at dksX3_pairs_3 0 rfl rfl)
theorem dX3_pairs_74 : decode cX3_pairs 74 = .ok (.istore 7, 2) := dk_54 7 (dk_at dksX3_pairs_3 3 rfl rfl)
theorem dX3_pairs_76 : decode cX3_pairs 76 = .ok (.aload_n 0, 1) := dk_42 (dk_at dksX3_pairs_3 5 rfl rfl)
theorem dX3_pairs_77 : decode cX3_pairs 77 = .ok (.iload 6, 2) := dk_21 6 (dk_at dksX3_pairs_3 6 rfl rfl)
theorem dX3_pairs_79 : decode cX3_pairs 79 = .ok (.iload_n 2, 1) := dk_28 (dk_at dksX3_pairs_3 8 rfl rfl)
theorem dX3_pairs_80 : decode cX3_pairs 80 = .ok (.ifCond .eq 9, 3) := dk_153 0 9 (dk_at dksX3_pairs_3 9 rfl rfl)
theorem dX3_pairs_83 : decode cX3_pairs 83 = .ok (.sipush 999, 3) := dk_17 3 231 (dk_at dksX3_pairs_3 12 rfl rfl)
theorem dX3_pairs_86 : decode cX3_pairs 86 = .ok (.goto 5, 3) := dk_167 0 5 (dk_at dksX3_pairs_3 15 rfl rfl)
theorem dX3_pairs_89 : decode cX3_pairs 89 = .ok (.bipush 90, 2) := dk_16 90 (dk_at dksX3_pairs_3 18 rfl rfl)
theorem dX3_pairs_91 : decode cX3_pairs 91 = .ok (.invokevirtual 297, 3) := dk_182 1 41 (dk_at dksX3_pairs_3 20 rfl rfl)
theorem dX3_pairs_94 : decode cX3_pairs 94 = .ok (.istore 8, 2) := dk_54 8 (dk_at dksX3_pairs_4 0 rfl rfl)
theorem dX3_pairs_96 : decode cX3_pairs 96 = .ok (.aload_n 0, 1) := dk_42 (dk_at dksX3_pairs_4 2 rfl rfl)
theorem dX3_pairs_97 : decode cX3_pairs 97 = .ok (.getfield 169, 3) := dk_180 0 169 (dk_at dksX3_pairs_4 3 rfl rfl)
theorem dX3_pairs_100 : decode cX3_pairs 100 = .ok (.ifCond .ne 16, 3) := dk_154 0 16 (dk_at dksX3_pairs_4 6 rfl rfl)
theorem dX3_pairs_103 : decode cX3_pairs 103 = .ok (.iload_n 3, 1) := dk_29 (dk_at dksX3_pairs_4 9 rfl rfl)
theorem dX3_pairs_104 : decode cX3_pairs 104 = .ok (.iconst 4, 1) := dk_7 (dk_at dksX3_pairs_4 10 rfl rfl)
theorem dX3_pairs_105 : decode cX3_pairs 105 = .ok (.if_icmp .ne 11, 3) := dk_160 0 11 (dk_at dksX3_pairs_4 11 rfl rfl)
theorem dX3_pairs_108 : decode cX3_pairs 108 = .ok (.aload_n 0, 1) := dk_42 (dk_at dksX3_pairs_4 14 rfl rfl)
theorem dX3_pairs_109 : decode cX3_pairs 109 = .ok (.iconst 5, 1) := dk_8 (dk_at dksX3_pairs_4 15 rfl rfl)
theorem dX3_pairs_110 : decode cX3_pairs 110 = .ok (.iload 7, 2) := dk_21 7 (dk_at dksX3_pairs_4 16 rfl rfl)
theorem dX3_pairs_112 : decode cX3_pairs 112 = .ok (.invokevirtual 196, 3) := dk_182 0 196 (dk_at dksX3_pairs_4 18 rfl rfl)
theorem dX3_pairs_115 : decode cX3_pairs 115 = .ok (.pop, 1) := dk_87 (dk_at dksX3_pairs_4 21 rfl rfl)
theorem dX3_pairs_116 : decode cX3_pairs 116 = .ok (.aload_n 0, 1) := dk_42 (dk_at dksX3_pairs_4 22 rfl rfl)
theorem dX3_pairs_117 : decode cX3_pairs 117 = .ok (.iload_n 2, 1) := dk_28 (dk_at dksX3_pairs_4 23 rfl rfl)
theorem dX3_pairs_118 : decode cX3_pairs 118 = .ok (.ifCond .eq 32, 3) := dk_153 0 32 (dk_at dksX3_pairs_5 0 rfl rfl)
theorem dX3_pairs_121 : decode cX3_pairs 121 = .ok (.iload_n 3, 1) := dk_29 (dk_at dksX3_pairs_5 3 rfl rfl)
theorem dX3_pairs_122 : decode cX3_pairs 122 = .ok (.ifCond .le 28, 3) := dk_158 0 28 (dk_at dksX3_pairs_5 4 rfl rfl)
theorem dX3_pairs_125 : decode cX3_pairs 125 = .ok (.aload_n 0, 1) := dk_42 (dk_at dksX3_pairs_5 7 rfl rfl)
theorem dX3_pairs_126 : decode cX3_pairs 126 = .ok (.getfield 169, 3) := dk_180 0 169 (dk_at dksX3_pairs_5 8 rfl rfl)
theorem dX3_pairs_129 : decode cX3_pairs 129 = .ok (.ifCond .ne 21, 3) := dk_154 0 21 (dk_at dksX3_pairs_5 11 rfl rfl)
theorem dX3_pairs_132 : decode cX3_pairs 132 = .ok (.aload_n 1, 1) := dk_43 (dk_at dksX3_pairs_5 14 rfl rfl)
theorem dX3_pairs_133 : decode cX3_pairs 133 = .ok (.bipush 8, 2) := dk_16 8 (dk_at dksX3_pairs_5 15 rfl rfl)
theorem dX3_pairs_135 : decode cX3_pairs 135 = .ok (.aload_n 0, 1) := dk_42 (dk_at dksX3_pairs_5 17 rfl rfl)
theorem dX3_pairs_136 : decode cX3_pairs 136 = .ok (.getfield 228, 3) := dk_180 0 228 (dk_at dksX3_pairs_5 18 rfl rfl)
theorem dX3_pairs_139 : decode cX3_pairs 139 = .ok (.imul, 1) := dk_104 (dk_at dksX3_pairs_5 21 rfl rfl)
theorem dX3_pairs_140 : decode cX3_pairs 140 = .ok (.iconst 2, 1) := dk_5 (dk_at dksX3_pairs_5 22 rfl rfl)
theorem dX3_pairs_141 : decode cX3_pairs 141 = .ok (.iload_n 3, 1) := dk_29 (dk_at dksX3_pairs_5 23 rfl rfl)
theorem dX3_pairs_142 : decode cX3_pairs 142 = .ok (.imul, 1) := dk_104 (dk_at dksX3_pairs_6 0 rfl rfl)
theorem dX3_pairs_143 : decode cX3_pairs 143 = .ok (.iadd, 1) := dk_96 (dk_at dksX3_pairs_6 1 rfl rfl)
theorem dX3_pairs_144 : decode cX3_pairs 144 = .ok (.iconst 1, 1) := dk_4 (dk_at dksX3_pairs_6 2 rfl rfl)
theorem dX3_pairs_145 : decode cX3_pairs 145 = .ok (.isub, 1) := dk_100 (dk_at dksX3_pairs_6 3 rfl rfl)
theorem dX3_pairs_146 : decode cX3_pairs 146 = .ok (.iaload, 1) := dk_46 (dk_at dksX3_pairs_6 4 rfl rfl)
theorem dX3_pairs_147 : decode cX3_pairs 147 = .ok (.goto 4, 3) := dk_167 0 4 (dk_at dksX3_pairs_6 5 rfl rfl)
theorem dX3_pairs_150 : decode cX3_pairs 150 = .ok (.iconst 0, 1) := dk_3 (dk_at dksX3_pairs_6 8 rfl rfl)
theorem dX3_pairs_151 : decode cX3_pairs 151 = .ok (.iload_n 2, 1) := dk_28 (dk_at dksX3_pairs_6 9 rfl rfl)
theorem dX3_pairs_152 : decode cX3_pairs 152 = .ok (.ifCond .eq 9, 3) := dk_153 0 9 (dk_at dksX3_pairs_6 10 rfl rfl)
theorem dX3_pairs_155 : decode cX3_pairs 155 = .ok (.sipush 300, 3) := dk_17 1 44 (dk_at dksX3_pairs_6 13 rfl rfl)
theorem dX3_pairs_158 : decode cX3_pairs 158 = .ok (.goto 6, 3) := dk_167 0 6 (dk_at dksX3_pairs_6 16 rfl rfl)
theorem dX3_pairs_161 : decode cX3_pairs 161 = .ok (.sipush 150, 3) := dk_17 0 150 (dk_at dksX3_pairs_6 19 rfl rfl)
theorem dX3_pairs_164 : decode cX3_pairs 164 = .ok (.invokevirtual 297, 3) := dk_182 1 41 (dk_at dksX3_pairs_7 0 rfl rfl)
theorem dX3_pairs_167 : decode cX3_pairs 167 = .ok (.istore 9, 2) := dk_54 9 (dk_at dksX3_pairs_7 3 rfl rfl)
theorem dX3_pairs_169 : decode cX3_pairs 169 = .ok (.aload_n 0, 1) := dk_42 (dk_at dksX3_pairs_7 5 rfl rfl)
theorem dX3_pairs_170 : decode cX3_pairs 170 = .ok (.getfield 169, 3) := dk_180 0 169 (dk_at dksX3_pairs_7 6 rfl rfl)
theorem dX3_pairs_173 : decode cX3_pairs 173 = .ok (.ifCond .eq 5, 3) := dk_153 0 5 (dk_at dksX3_pairs_7 9 rfl rfl)
theorem dX3_pairs_176 : decode cX3_pairs 176 = .ok (.iload_n 3, 1) := dk_29 (dk_at dksX3_pairs_7 12 rfl rfl)
theorem dX3_pairs_177 : decode cX3_pairs 177 = .ok (.ireturn, 1) := dk_172 (dk_at dksX3_pairs_7 13 rfl rfl)
theorem dX3_pairs_178 : decode cX3_pairs 178 = .ok (.aload_n 1, 1) := dk_43 (dk_at dksX3_pairs_7 14 rfl rfl)
theorem dX3_pairs_179 : decode cX3_pairs 179 = .ok (.iload 5, 2) := dk_21 5 (dk_at dksX3_pairs_7 15 rfl rfl)
theorem dX3_pairs_181 : decode cX3_pairs 181 = .ok (.iload 8, 2) := dk_21 8 (dk_at dksX3_pairs_7 17 rfl rfl)
theorem dX3_pairs_183 : decode cX3_pairs 183 = .ok (.iastore, 1) := dk_79 (dk_at dksX3_pairs_7 19 rfl rfl)
theorem dX3_pairs_184 : decode cX3_pairs 184 = .ok (.aload_n 1, 1) := dk_43 (dk_at dksX3_pairs_7 20 rfl rfl)
theorem dX3_pairs_185 : decode cX3_pairs 185 = .ok (.iload 5, 2) := dk_21 5 (dk_at dksX3_pairs_7 21 rfl rfl)
theorem dX3_pairs_187 : decode cX3_pairs 187 = .ok (.iconst 1, 1) := dk_4 (dk_at dksX3_pairs_7 23 rfl rfl)
theorem dX3_pairs_188 : decode cX3_pairs 188 = .ok (.iadd, 1) := dk_96 (dk_at dksX3_pairs_8 0 rfl rfl)
theorem dX3_pairs_189 : decode cX3_pairs 189 = .ok (.iload 9, 2) := dk_21 9 (dk_at dksX3_pairs_8 1 rfl rfl)
theorem dX3_pairs_191 : decode cX3_pairs 191 = .ok (.iastore, 1) := dk_79 (dk_at dksX3_pairs_8 3 rfl rfl)
theorem dX3_pairs_192 : decode cX3_pairs 192 = .ok (.iinc 3 1, 3) := dk_132 3 1 (dk_at dksX3_pairs_8 4 rfl rfl)
theorem dX3_pairs_195 : decode cX3_pairs 195 = .ok (.aload_n 0, 1) := dk_42 (dk_at dksX3_pairs_8 7 rfl rfl)
theorem dX3_pairs_196 : decode cX3_pairs 196 = .ok (.getfield 159, 3) := dk_180 0 159 (dk_at dksX3_pairs_8 8 rfl rfl)
theorem dX3_pairs_199 : decode cX3_pairs 199 = .ok (.bipush 44, 2) := dk_16 44 (dk_at dksX3_pairs_8 11 rfl rfl)
theorem dX3_pairs_201 : decode cX3_pairs 201 = .ok (.if_icmp .ne 7, 3) := dk_160 0 7 (dk_at dksX3_pairs_8 13 rfl rfl)
theorem dX3_pairs_204 : decode cX3_pairs 204 = .ok (.iconst 1, 1) := dk_4 (dk_at dksX3_pairs_8 16 rfl rfl)
theorem dX3_pairs_205 : decode cX3_pairs 205 = .ok (.goto 4, 3) := dk_167 0 4 (dk_at dksX3_pairs_8 17 rfl rfl)
theorem dX3_pairs_208 : decode cX3_pairs 208 = .ok (.iconst 0, 1) := dk_3 (dk_at dksX3_pairs_8 20 rfl rfl)
theorem dX3_pairs_209 : decode cX3_pairs 209 = .ok (.istore 4, 2) := dk_54 4 (dk_at dksX3_pairs_8 21 rfl rfl)
theorem dX3_pairs_211 : decode cX3_pairs 211 = .ok (.iload 4, 2) := dk_21 4 (dk_at dksX3_pairs_9 0 rfl rfl)
theorem dX3_pairs_213 : decode cX3_pairs 213 = .ok (.ifCond .eq 7, 3) := dk_153 0 7 (dk_at dksX3_pairs_9 2 rfl rfl)
theorem dX3_pairs_216 : decode cX3_pairs 216 = .ok (.aload_n 0, 1) := dk_42 (dk_at dksX3_pairs_9 5 rfl rfl)
theorem dX3_pairs_217 : decode cX3_pairs 217 = .ok (.invokevirtual 173, 3) := dk_182 0 173 (dk_at dksX3_pairs_9 6 rfl rfl)
theorem dX3_pairs_220 : decode cX3_pairs 220 = .ok (.goto (-204), 3) := dk_167 255 52 (dk_at dksX3_pairs_9 9 rfl rfl)
theorem dX3_pairs_223 : decode cX3_pairs 223 = .ok (.iload_n 3, 1) := dk_29 (dk_at dksX3_pairs_9 12 rfl rfl)
theorem dX3_pairs_224 : decode cX3_pairs 224 = .ok (.ireturn, 1) := dk_172 (dk_at dksX3_pairs_9 13 rfl rfl)
abbrev cX3_number : ByteArray := prog_23_method_18_code
def yX3_number : MethodName := ⟨RX3, "number", "(II)I"⟩
def dkwX3_number_2 : List UInt8 := [180, 0, 150, 182, 0, 196, 87, 27, 172, 42, 182, 0, 173, 29, 172]
abbrev dktX3_number_2 : List UInt8 := dkwX3_number_2 ++ []
def dkwX3_number_1 : List UInt8 := [182, 0, 196, 87, 27, 172, 42, 180, 0, 156, 62, 29, 27, 28, 184, 0, 220, 154, 0, 15, 42, 7, 42]
abbrev dktX3_number_1 : List UInt8 := dkwX3_number_1 ++ dktX3_number_2
def dkwX3_number_0 : List UInt8 := [42, 180, 0, 169, 153, 0, 5, 27, 172, 42, 180, 0, 159, 6, 159, 0, 15, 42, 4, 42, 180, 0, 150]
abbrev dktX3_number_0 : List UInt8 := dkwX3_number_0 ++ dktX3_number_1
theorem dksX3_number_0 : cX3_number.data.toList.drop 0 = dktX3_number_0 := by decide +kernel
theorem dksX3_number_1 : cX3_number.data.toList.drop 23 = dktX3_number_1 := dk_seg dksX3_number_0 23 rfl rfl
theorem dksX3_number_2 : cX3_number.data.toList.drop 46 = dktX3_number_2 := dk_seg dksX3_number_1 23 rfl rfl
theorem dX3_number_0 : decode cX3_number 0 = .ok (.aload_n 0, 1) := dk_42 (dk_at dksX3_number_0 0 rfl rfl)
theorem dX3_number_1 : decode cX3_number 1 = .ok (.getfield 169, 3) := dk_180 0 169 (dk_at dksX3_number_0 1 rfl rfl)
theorem dX3_number_4 : decode cX3_number 4 = .ok (.ifCond .eq 5, 3) := dk_153 0 5 (dk_at dksX3_number_0 4 rfl rfl)
theorem dX3_number_7 : decode cX3_number 7 = .ok (.iload_n 1, 1) := dk_27 (dk_at dksX3_number_0 7 rfl rfl)
theorem dX3_number_8 : decode cX3_number 8 = .ok (.ireturn, 1) := dk_172 (dk_at dksX3_number_0 8 rfl rfl)
theorem dX3_number_9 : decode cX3_number 9 = .ok (.aload_n 0, 1) := dk_42 (dk_at dksX3_number_0 9 rfl rfl)
theorem dX3_number_10 : decode cX3_number 10 = .ok (.getfield 159, 3) := dk_180 0 159 (dk_at dksX3_number_0 10 rfl rfl)
theorem dX3_number_13 : decode cX3_number 13 = .ok (.iconst 3, 1) := dk_6 (dk_at dksX3_number_0 13 rfl rfl)
theorem dX3_number_14 : decode cX3_number 14 = .ok (.if_icmp .eq 15, 3) := dk_159 0 15 (dk_at dksX3_number_0 14 rfl rfl)
theorem dX3_number_17 : decode cX3_number 17 = .ok (.aload_n 0, 1) := dk_42 (dk_at dksX3_number_0 17 rfl rfl)
theorem dX3_number_18 : decode cX3_number 18 = .ok (.iconst 1, 1) := dk_4 (dk_at dksX3_number_0 18 rfl rfl)
theorem dX3_number_19 : decode cX3_number 19 = .ok (.aload_n 0, 1) := dk_42 (dk_at dksX3_number_0 19 rfl rfl)
theorem dX3_number_20 : decode cX3_number 20 = .ok (.getfield 150, 3) := dk_180 0 150 (dk_at dksX3_number_0 20 rfl rfl)
theorem dX3_number_23 : decode cX3_number 23 = .ok (.invokevirtual 196, 3) := dk_182 0 196 (dk_at dksX3_number_1 0 rfl rfl)
theorem dX3_number_26 : decode cX3_number 26 = .ok (.pop, 1) := dk_87 (dk_at dksX3_number_1 3 rfl rfl)
theorem dX3_number_27 : decode cX3_number 27 = .ok (.iload_n 1, 1) := dk_27 (dk_at dksX3_number_1 4 rfl rfl)
theorem dX3_number_28 : decode cX3_number 28 = .ok (.ireturn, 1) := dk_172 (dk_at dksX3_number_1 5 rfl rfl)
theorem dX3_number_29 : decode cX3_number 29 = .ok (.aload_n 0, 1) := dk_42 (dk_at dksX3_number_1 6 rfl rfl)
theorem dX3_number_30 : decode cX3_number 30 = .ok (.getfield 156, 3) := dk_180 0 156 (dk_at dksX3_number_1 7 rfl rfl)
theorem dX3_number_33 : decode cX3_number 33 = .ok (.istore_n 3, 1) := dk_62 (dk_at dksX3_number_1 10 rfl rfl)
theorem dX3_number_34 : decode cX3_number 34 = .ok (.iload_n 3, 1) := dk_29 (dk_at dksX3_number_1 11 rfl rfl)
theorem dX3_number_35 : decode cX3_number 35 = .ok (.iload_n 1, 1) := dk_27 (dk_at dksX3_number_1 12 rfl rfl)
theorem dX3_number_36 : decode cX3_number 36 = .ok (.iload_n 2, 1) := dk_28 (dk_at dksX3_number_1 13 rfl rfl)
theorem dX3_number_37 : decode cX3_number 37 = .ok (.invokestatic 220, 3) := dk_184 0 220 (dk_at dksX3_number_1 14 rfl rfl)
theorem dX3_number_40 : decode cX3_number 40 = .ok (.ifCond .ne 15, 3) := dk_154 0 15 (dk_at dksX3_number_1 17 rfl rfl)
theorem dX3_number_43 : decode cX3_number 43 = .ok (.aload_n 0, 1) := dk_42 (dk_at dksX3_number_1 20 rfl rfl)
theorem dX3_number_44 : decode cX3_number 44 = .ok (.iconst 4, 1) := dk_7 (dk_at dksX3_number_1 21 rfl rfl)
theorem dX3_number_45 : decode cX3_number 45 = .ok (.aload_n 0, 1) := dk_42 (dk_at dksX3_number_1 22 rfl rfl)
theorem dX3_number_46 : decode cX3_number 46 = .ok (.getfield 150, 3) := dk_180 0 150 (dk_at dksX3_number_2 0 rfl rfl)
theorem dX3_number_49 : decode cX3_number 49 = .ok (.invokevirtual 196, 3) := dk_182 0 196 (dk_at dksX3_number_2 3 rfl rfl)
theorem dX3_number_52 : decode cX3_number 52 = .ok (.pop, 1) := dk_87 (dk_at dksX3_number_2 6 rfl rfl)
theorem dX3_number_53 : decode cX3_number 53 = .ok (.iload_n 1, 1) := dk_27 (dk_at dksX3_number_2 7 rfl rfl)
theorem dX3_number_54 : decode cX3_number 54 = .ok (.ireturn, 1) := dk_172 (dk_at dksX3_number_2 8 rfl rfl)
theorem dX3_number_55 : decode cX3_number 55 = .ok (.aload_n 0, 1) := dk_42 (dk_at dksX3_number_2 9 rfl rfl)
theorem dX3_number_56 : decode cX3_number 56 = .ok (.invokevirtual 173, 3) := dk_182 0 173 (dk_at dksX3_number_2 10 rfl rfl)
theorem dX3_number_59 : decode cX3_number 59 = .ok (.iload_n 3, 1) := dk_29 (dk_at dksX3_number_2 13 rfl rfl)
theorem dX3_number_60 : decode cX3_number 60 = .ok (.ireturn, 1) := dk_172 (dk_at dksX3_number_2 14 rfl rfl)
abbrev cX3_tryLine : ByteArray := prog_23_method_26_code
def yX3_tryLine : MethodName := ⟨RX3, "tryLine", "()V"⟩
def dkwX3_tryLine_9 : List UInt8 := [89, 180, 0, 231, 4, 96, 181, 0, 231, 177]
abbrev dktX3_tryLine_9 : List UInt8 := dkwX3_tryLine_9 ++ []
def dkwX3_tryLine_8 : List UInt8 := [42, 180, 0, 46, 42, 180, 0, 231, 42, 4, 16, 99, 182, 1, 41, 79, 42, 180, 0, 169, 154, 0, 13, 42]
abbrev dktX3_tryLine_8 : List UInt8 := dkwX3_tryLine_8 ++ dktX3_tryLine_9
def dkwX3_tryLine_7 : List UInt8 := [42, 180, 0, 43, 42, 180, 0, 231, 42, 16, 252, 7, 182, 1, 67, 79, 42, 19, 1, 71, 182, 1, 38, 87]
abbrev dktX3_tryLine_7 : List UInt8 := dkwX3_tryLine_7 ++ dktX3_tryLine_8
def dkwX3_tryLine_6 : List UInt8 := [42, 180, 0, 40, 42, 180, 0, 231, 42, 16, 252, 7, 182, 1, 67, 79, 42, 19, 1, 70, 182, 1, 38, 87]
abbrev dktX3_tryLine_6 : List UInt8 := dkwX3_tryLine_6 ++ dktX3_tryLine_7
def dkwX3_tryLine_5 : List UInt8 := [180, 0, 25, 42, 180, 0, 231, 42, 180, 0, 153, 79, 42, 182, 0, 173, 42, 19, 1, 66, 182, 1, 38, 87]
abbrev dktX3_tryLine_5 : List UInt8 := dkwX3_tryLine_5 ++ dktX3_tryLine_6
def dkwX3_tryLine_4 : List UInt8 := [16, 8, 42, 180, 0, 231, 104, 27, 96, 42, 180, 0, 13, 27, 46, 79, 132, 1, 1, 167, 255, 225, 42]
abbrev dktX3_tryLine_4 : List UInt8 := dkwX3_tryLine_4 ++ dktX3_tryLine_5
def dkwX3_tryLine_3 : List UInt8 := [87, 42, 180, 0, 169, 153, 0, 4, 177, 3, 60, 27, 42, 180, 0, 153, 162, 0, 29, 42, 180, 0, 22]
abbrev dktX3_tryLine_3 : List UInt8 := dkwX3_tryLine_3 ++ dktX3_tryLine_4
def dkwX3_tryLine_2 : List UInt8 := [180, 0, 169, 154, 0, 22, 42, 180, 0, 231, 16, 6, 160, 0, 13, 42, 8, 42, 180, 0, 150, 182, 0, 196]
abbrev dktX3_tryLine_2 : List UInt8 := dkwX3_tryLine_2 ++ dktX3_tryLine_3
def dkwX3_tryLine_1 : List UInt8 := [180, 0, 25, 42, 180, 0, 231, 182, 1, 56, 155, 0, 13, 42, 6, 42, 180, 0, 150, 182, 0, 196, 87, 42]
abbrev dktX3_tryLine_1 : List UInt8 := dkwX3_tryLine_1 ++ dktX3_tryLine_2
def dkwX3_tryLine_0 : List UInt8 := [42, 182, 1, 52, 154, 0, 14, 42, 4, 42, 180, 0, 150, 182, 0, 196, 87, 177, 42, 42, 180, 0, 22, 42]
abbrev dktX3_tryLine_0 : List UInt8 := dkwX3_tryLine_0 ++ dktX3_tryLine_1
theorem dksX3_tryLine_0 : cX3_tryLine.data.toList.drop 0 = dktX3_tryLine_0 := by decide +kernel
theorem dksX3_tryLine_1 : cX3_tryLine.data.toList.drop 24 = dktX3_tryLine_1 := dk_seg dksX3_tryLine_0 24 rfl rfl
theorem dksX3_tryLine_2 : cX3_tryLine.data.toList.drop 48 = dktX3_tryLine_2 := dk_seg dksX3_tryLine_1 24 rfl rfl
theorem dksX3_tryLine_3 : cX3_tryLine.data.toList.drop 72 = dktX3_tryLine_3 := dk_seg dksX3_tryLine_2 24 rfl rfl
theorem dksX3_tryLine_4 : cX3_tryLine.data.toList.drop 95 = dktX3_tryLine_4 := dk_seg dksX3_tryLine_3 23 rfl rfl
theorem dksX3_tryLine_5 : cX3_tryLine.data.toList.drop 118 = dktX3_tryLine_5 := dk_seg dksX3_tryLine_4 23 rfl rfl
theorem dksX3_tryLine_6 : cX3_tryLine.data.toList.drop 142 = dktX3_tryLine_6 := dk_seg dksX3_tryLine_5 24 rfl rfl
theorem dksX3_tryLine_7 : cX3_tryLine.data.toList.drop 166 = dktX3_tryLine_7 := dk_seg dksX3_tryLine_6 24 rfl rfl
theorem dksX3_tryLine_8 : cX3_tryLine.data.toList.drop 190 = dktX3_tryLine_8 := dk_seg dksX3_tryLine_7 24 rfl rfl
theorem dksX3_tryLine_9 : cX3_tryLine.data.toList.drop 214 = dktX3_tryLine_9 := dk_seg dksX3_tryLine_8 24 rfl rfl
theorem dX3_tryLine_0 : decode cX3_tryLine 0 = .ok (.aload_n 0, 1) := dk_42 (dk_at dksX3_tryLine_0 0 rfl rfl)
theorem dX3_tryLine_1 : decode cX3_tryLine 1 = .ok (.invokevirtual 308, 3) := dk_182 1 52 (dk_at dksX3_tryLine_0 1 rfl rfl)
theorem dX3_tryLine_4 : decode cX3_tryLine 4 = .ok (.ifCond .ne 14, 3) := dk_154 0 14 (dk_at dksX3_tryLine_0 4 rfl rfl)
theorem dX3_tryLine_7 : decode cX3_tryLine 7 = .ok (.aload_n 0, 1) := dk_42 (dk_at dksX3_tryLine_0 7 rfl rfl)
theorem dX3_tryLine_8 : decode cX3_tryLine 8 = .ok (.iconst 1, 1) := dk_4 (dk_at dksX3_tryLine_0 8 rfl rfl)
theorem dX3_tryLine_9 : decode cX3_tryLine 9 = .ok (.aload_n 0, 1) := dk_42 (dk_at dksX3_tryLine_0 9 rfl rfl)
theorem dX3_tryLine_10 : decode cX3_tryLine 10 = .ok (.getfield 150, 3) := dk_180 0 150 (dk_at dksX3_tryLine_0 10 rfl rfl)
theorem dX3_tryLine_13 : decode cX3_tryLine 13 = .ok (.invokevirtual 196, 3) := dk_182 0 196 (dk_at dksX3_tryLine_0 13 rfl rfl)
theorem dX3_tryLine_16 : decode cX3_tryLine 16 = .ok (.pop, 1) := dk_87 (dk_at dksX3_tryLine_0 16 rfl rfl)
theorem dX3_tryLine_17 : decode cX3_tryLine 17 = .ok (.return_, 1) := dk_177 (dk_at dksX3_tryLine_0 17 rfl rfl)
theorem dX3_tryLine_18 : decode cX3_tryLine 18 = .ok (.aload_n 0, 1) := dk_42 (dk_at dksX3_tryLine_0 18 rfl rfl)
theorem dX3_tryLine_19 : decode cX3_tryLine 19 = .ok (.aload_n 0, 1) := dk_42 (dk_at dksX3_tryLine_0 19 rfl rfl)
theorem dX3_tryLine_20 : decode cX3_tryLine 20 = .ok (.getfield 22, 3) := dk_180 0 22 (dk_at dksX3_tryLine_0 20 rfl rfl)
theorem dX3_tryLine_23 : decode cX3_tryLine 23 = .ok (.aload_n 0, 1) := dk_42 (dk_at dksX3_tryLine_0 23 rfl rfl)
theorem dX3_tryLine_24 : decode cX3_tryLine 24 = .ok (.getfield 25, 3) := dk_180 0 25 (dk_at dksX3_tryLine_1 0 rfl rfl)
theorem dX3_tryLine_27 : decode cX3_tryLine 27 = .ok (.aload_n 0, 1) := dk_42 (dk_at dksX3_tryLine_1 3 rfl rfl)
theorem dX3_tryLine_28 : decode cX3_tryLine 28 = .ok (.getfield 231, 3) := dk_180 0 231 (dk_at dksX3_tryLine_1 4 rfl rfl)
theorem dX3_tryLine_31 : decode cX3_tryLine 31 = .ok (.invokevirtual 312, 3) := dk_182 1 56 (dk_at dksX3_tryLine_1 7 rfl rfl)
theorem dX3_tryLine_34 : decode cX3_tryLine 34 = .ok (.ifCond .lt 13, 3) := dk_155 0 13 (dk_at dksX3_tryLine_1 10 rfl rfl)
theorem dX3_tryLine_37 : decode cX3_tryLine 37 = .ok (.aload_n 0, 1) := dk_42 (dk_at dksX3_tryLine_1 13 rfl rfl)
theorem dX3_tryLine_38 : decode cX3_tryLine 38 = .ok (.iconst 3, 1) := dk_6 (dk_at dksX3_tryLine_1 14 rfl rfl)
theorem dX3_tryLine_39 : decode cX3_tryLine 39 = .ok (.aload_n 0, 1) := dk_42 (dk_at dksX3_tryLine_1 15 rfl rfl)
theorem dX3_tryLine_40 : decode cX3_tryLine 40 = .ok (.getfield 150, 3) := dk_180 0 150 (dk_at dksX3_tryLine_1 16 rfl rfl)
theorem dX3_tryLine_43 : decode cX3_tryLine 43 = .ok (.invokevirtual 196, 3) := dk_182 0 196 (dk_at dksX3_tryLine_1 19 rfl rfl)
theorem dX3_tryLine_46 : decode cX3_tryLine 46 = .ok (.pop, 1) := dk_87 (dk_at dksX3_tryLine_1 22 rfl rfl)
theorem dX3_tryLine_47 : decode cX3_tryLine 47 = .ok (.aload_n 0, 1) := dk_42 (dk_at dksX3_tryLine_1 23 rfl rfl)
theorem dX3_tryLine_48 : decode cX3_tryLine 48 = .ok (.getfield 169, 3) := dk_180 0 169 (dk_at dksX3_tryLine_2 0 rfl rfl)
theorem dX3_tryLine_51 : decode cX3_tryLine 51 = .ok (.ifCond .ne 22, 3) := dk_154 0 22 (dk_at dksX3_tryLine_2 3 rfl rfl)
theorem dX3_tryLine_54 : decode cX3_tryLine 54 = .ok (.aload_n 0, 1) := dk_42 (dk_at dksX3_tryLine_2 6 rfl rfl)
theorem dX3_tryLine_55 : decode cX3_tryLine 55 = .ok (.getfield 231, 3) := dk_180 0 231 (dk_at dksX3_tryLine_2 7 rfl rfl)
theorem dX3_tryLine_58 : decode cX3_tryLine 58 = .ok (.bipush 6, 2) := dk_16 6 (dk_at dksX3_tryLine_2 10 rfl rfl)
theorem dX3_tryLine_60 : decode cX3_tryLine 60 = .ok (.if_icmp .ne 13, 3) := dk_160 0 13 (dk_at dksX3_tryLine_2 12 rfl rfl)
theorem dX3_tryLine_63 : decode cX3_tryLine 63 = .ok (.aload_n 0, 1) := dk_42 (dk_at dksX3_tryLine_2 15 rfl rfl)
theorem dX3_tryLine_64 : decode cX3_tryLine 64 = .ok (.iconst 5, 1) := dk_8 (dk_at dksX3_tryLine_2 16 rfl rfl)
theorem dX3_tryLine_65 : decode cX3_tryLine 65 = .ok (.aload_n 0, 1) := dk_42 (dk_at dksX3_tryLine_2 17 rfl rfl)
theorem dX3_tryLine_66 : decode cX3_tryLine 66 = .ok (.getfield 150, 3) := dk_180 0 150 (dk_at dksX3_tryLine_2 18 rfl rfl)
theorem dX3_tryLine_69 : decode cX3_tryLine 69 = .ok (.invokevirtual 196, 3) := dk_182 0 196 (dk_at dksX3_tryLine_2 21 rfl rfl)
theorem dX3_tryLine_72 : decode cX3_tryLine 72 = .ok (.pop, 1) := dk_87 (dk_at dksX3_tryLine_3 0 rfl rfl)
theorem dX3_tryLine_73 : decode cX3_tryLine 73 = .ok (.aload_n 0, 1) := dk_42 (dk_at dksX3_tryLine_3 1 rfl rfl)
theorem dX3_tryLine_74 : decode cX3_tryLine 74 = .ok (.getfield 169, 3) := dk_180 0 169 (dk_at dksX3_tryLine_3 2 rfl rfl)
theorem dX3_tryLine_77 : decode cX3_tryLine 77 = .ok (.ifCond .eq 4, 3) := dk_153 0 4 (dk_at dksX3_tryLine_3 5 rfl rfl)
theorem dX3_tryLine_80 : decode cX3_tryLine 80 = .ok (.return_, 1) := dk_177 (dk_at dksX3_tryLine_3 8 rfl rfl)
theorem dX3_tryLine_81 : decode cX3_tryLine 81 = .ok (.iconst 0, 1) := dk_3 (dk_at dksX3_tryLine_3 9 rfl rfl)
theorem dX3_tryLine_82 : decode cX3_tryLine 82 = .ok (.istore_n 1, 1) := dk_60 (dk_at dksX3_tryLine_3 10 rfl rfl)
theorem dX3_tryLine_83 : decode cX3_tryLine 83 = .ok (.iload_n 1, 1) := dk_27 (dk_at dksX3_tryLine_3 11 rfl rfl)
theorem dX3_tryLine_84 : decode cX3_tryLine 84 = .ok (.aload_n 0, 1) := dk_42 (dk_at dksX3_tryLine_3 12 rfl rfl)
theorem dX3_tryLine_85 : decode cX3_tryLine 85 = .ok (.getfield 153, 3) := dk_180 0 153 (dk_at dksX3_tryLine_3 13 rfl rfl)
theorem dX3_tryLine_88 : decode cX3_tryLine 88 = .ok (.if_icmp .ge 29, 3) := dk_162 0 29 (dk_at dksX3_tryLine_3 16 rfl rfl)
theorem dX3_tryLine_91 : decode cX3_tryLine 91 = .ok (.aload_n 0, 1) := dk_42 (dk_at dksX3_tryLine_3 19 rfl rfl)
theorem dX3_tryLine_92 : decode cX3_tryLine 92 = .ok (.getfield 22, 3) := dk_180 0 22 (dk_at dksX3_tryLine_3 20 rfl rfl)
theorem dX3_tryLine_95 : decode cX3_tryLine 95 = .ok (.bipush 8, 2) := dk_16 8 (dk_at dksX3_tryLine_4 0 rfl rfl)
theorem dX3_tryLine_97 : decode cX3_tryLine 97 = .ok (.aload_n 0, 1) := dk_42 (dk_at dksX3_tryLine_4 2 rfl rfl)
theorem dX3_tryLine_98 : decode cX3_tryLine 98 = .ok (.getfield 231, 3) := dk_180 0 231 (dk_at dksX3_tryLine_4 3 rfl rfl)
theorem dX3_tryLine_101 : decode cX3_tryLine 101 = .ok (.imul, 1) := dk_104 (dk_at dksX3_tryLine_4 6 rfl rfl)
theorem dX3_tryLine_102 : decode cX3_tryLine 102 = .ok (.iload_n 1, 1) := dk_27 (dk_at dksX3_tryLine_4 7 rfl rfl)
theorem dX3_tryLine_103 : decode cX3_tryLine 103 = .ok (.iadd, 1) := dk_96 (dk_at dksX3_tryLine_4 8 rfl rfl)
theorem dX3_tryLine_104 : decode cX3_tryLine 104 = .ok (.aload_n 0, 1) := dk_42 (dk_at dksX3_tryLine_4 9 rfl rfl)
theorem dX3_tryLine_105 : decode cX3_tryLine 105 = .ok (.getfield 13, 3) := dk_180 0 13 (dk_at dksX3_tryLine_4 10 rfl rfl)
theorem dX3_tryLine_108 : decode cX3_tryLine 108 = .ok (.iload_n 1, 1) := dk_27 (dk_at dksX3_tryLine_4 13 rfl rfl)
theorem dX3_tryLine_109 : decode cX3_tryLine 109 = .ok (.iaload, 1) := dk_46 (dk_at dksX3_tryLine_4 14 rfl rfl)
theorem dX3_tryLine_110 : decode cX3_tryLine 110 = .ok (.iastore, 1) := dk_79 (dk_at dksX3_tryLine_4 15 rfl rfl)
theorem dX3_tryLine_111 : decode cX3_tryLine 111 = .ok (.iinc 1 1, 3) := dk_132 1 1 (dk_at dksX3_tryLine_4 16 rfl rfl)
theorem dX3_tryLine_114 : decode cX3_tryLine 114 = .ok (.goto (-31), 3) := dk_167 255 225 (dk_at dksX3_tryLine_4 19 rfl rfl)
theorem dX3_tryLine_117 : decode cX3_tryLine 117 = .ok (.aload_n 0, 1) := dk_42 (dk_at dksX3_tryLine_4 22 rfl rfl)
theorem dX3_tryLine_118 : decode cX3_tryLine 118 = .ok (.getfield 25, 3) := dk_180 0 25 (dk_at dksX3_tryLine_5 0 rfl rfl)
theorem dX3_tryLine_121 : decode cX3_tryLine 121 = .ok (.aload_n 0, 1) := dk_42 (dk_at dksX3_tryLine_5 3 rfl rfl)
theorem dX3_tryLine_122 : decode cX3_tryLine 122 = .ok (.getfield 231, 3) := dk_180 0 231 (dk_at dksX3_tryLine_5 4 rfl rfl)
theorem dX3_tryLine_125 : decode cX3_tryLine 125 = .ok (.aload_n 0, 1) := dk_42 (dk_at dksX3_tryLine_5 7 rfl rfl)
theorem dX3_tryLine_126 : decode cX3_tryLine 126 = .ok (.getfield 153, 3) := dk_180 0 153 (dk_at dksX3_tryLine_5 8 rfl rfl)
theorem dX3_tryLine_129 : decode cX3_tryLine 129 = .ok (.iastore, 1) := dk_79 (dk_at dksX3_tryLine_5 11 rfl rfl)
theorem dX3_tryLine_130 : decode cX3_tryLine 130 = .ok (.aload_n 0, 1) := dk_42 (dk_at dksX3_tryLine_5 12 rfl rfl)
theorem dX3_tryLine_131 : decode cX3_tryLine 131 = .ok (.invokevirtual 173, 3) := dk_182 0 173 (dk_at dksX3_tryLine_5 13 rfl rfl)
theorem dX3_tryLine_134 : decode cX3_tryLine 134 = .ok (.aload_n 0, 1) := dk_42 (dk_at dksX3_tryLine_5 16 rfl rfl)
theorem dX3_tryLine_135 : decode cX3_tryLine 135 = .ok (.ldc_w 322, 3) := dk_19 1 66 (dk_at dksX3_tryLine_5 17 rfl rfl)
theorem dX3_tryLine_138 : decode cX3_tryLine 138 = .ok (.invokevirtual 294, 3) := dk_182 1 38 (dk_at dksX3_tryLine_5 20 rfl rfl)
theorem dX3_tryLine_141 : decode cX3_tryLine 141 = .ok (.pop, 1) := dk_87 (dk_at dksX3_tryLine_5 23 rfl rfl)
theorem dX3_tryLine_142 : decode cX3_tryLine 142 = .ok (.aload_n 0, 1) := dk_42 (dk_at dksX3_tryLine_6 0 rfl rfl)
theorem dX3_tryLine_143 : decode cX3_tryLine 143 = .ok (.getfield 40, 3) := dk_180 0 40 (dk_at dksX3_tryLine_6 1 rfl rfl)
theorem dX3_tryLine_146 : decode cX3_tryLine 146 = .ok (.aload_n 0, 1) := dk_42 (dk_at dksX3_tryLine_6 4 rfl rfl)
theorem dX3_tryLine_147 : decode cX3_tryLine 147 = .ok (.getfield 231, 3) := dk_180 0 231 (dk_at dksX3_tryLine_6 5 rfl rfl)
theorem dX3_tryLine_150 : decode cX3_tryLine 150 = .ok (.aload_n 0, 1) := dk_42 (dk_at dksX3_tryLine_6 8 rfl rfl)
theorem dX3_tryLine_151 : decode cX3_tryLine 151 = .ok (.bipush (-4), 2) := dk_16 252 (dk_at dksX3_tryLine_6 9 rfl rfl)
theorem dX3_tryLine_153 : decode cX3_tryLine 153 = .ok (.iconst 4, 1) := dk_7 (dk_at dksX3_tryLine_6 11 rfl rfl)
theorem dX3_tryLine_154 : decode cX3_tryLine 154 = .ok (.invokevirtual 323, 3) := dk_182 1 67 (dk_at dksX3_tryLine_6 12 rfl rfl)
theorem dX3_tryLine_157 : decode cX3_tryLine 157 = .ok (.iastore, 1) := dk_79 (dk_at dksX3_tryLine_6 15 rfl rfl)
theorem dX3_tryLine_158 : decode cX3_tryLine 158 = .ok (.aload_n 0, 1) := dk_42 (dk_at dksX3_tryLine_6 16 rfl rfl)
theorem dX3_tryLine_159 : decode cX3_tryLine 159 = .ok (.ldc_w 326, 3) := dk_19 1 70 (dk_at dksX3_tryLine_6 17 rfl rfl)
theorem dX3_tryLine_162 : decode cX3_tryLine 162 = .ok (.invokevirtual 294, 3) := dk_182 1 38 (dk_at dksX3_tryLine_6 20 rfl rfl)
theorem dX3_tryLine_165 : decode cX3_tryLine 165 = .ok (.pop, 1) := dk_87 (dk_at dksX3_tryLine_6 23 rfl rfl)
theorem dX3_tryLine_166 : decode cX3_tryLine 166 = .ok (.aload_n 0, 1) := dk_42 (dk_at dksX3_tryLine_7 0 rfl rfl)
theorem dX3_tryLine_167 : decode cX3_tryLine 167 = .ok (.getfield 43, 3) := dk_180 0 43 (dk_at dksX3_tryLine_7 1 rfl rfl)
theorem dX3_tryLine_170 : decode cX3_tryLine 170 = .ok (.aload_n 0, 1) := dk_42 (dk_at dksX3_tryLine_7 4 rfl rfl)
theorem dX3_tryLine_171 : decode cX3_tryLine 171 = .ok (.getfield 231, 3) := dk_180 0 231 (dk_at dksX3_tryLine_7 5 rfl rfl)
theorem dX3_tryLine_174 : decode cX3_tryLine 174 = .ok (.aload_n 0, 1) := dk_42 (dk_at dksX3_tryLine_7 8 rfl rfl)
theorem dX3_tryLine_175 : decode cX3_tryLine 175 = .ok (.bipush (-4), 2) := dk_16 252 (dk_at dksX3_tryLine_7 9 rfl rfl)
theorem dX3_tryLine_177 : decode cX3_tryLine 177 = .ok (.iconst 4, 1) := dk_7 (dk_at dksX3_tryLine_7 11 rfl rfl)
theorem dX3_tryLine_178 : decode cX3_tryLine 178 = .ok (.invokevirtual 323, 3) := dk_182 1 67 (dk_at dksX3_tryLine_7 12 rfl rfl)
theorem dX3_tryLine_181 : decode cX3_tryLine 181 = .ok (.iastore, 1) := dk_79 (dk_at dksX3_tryLine_7 15 rfl rfl)
theorem dX3_tryLine_182 : decode cX3_tryLine 182 = .ok (.aload_n 0, 1) := dk_42 (dk_at dksX3_tryLine_7 16 rfl rfl)
theorem dX3_tryLine_183 : decode cX3_tryLine 183 = .ok (.ldc_w 327, 3) := dk_19 1 71 (dk_at dksX3_tryLine_7 17 rfl rfl)
theorem dX3_tryLine_186 : decode cX3_tryLine 186 = .ok (.invokevirtual 294, 3) := dk_182 1 38 (dk_at dksX3_tryLine_7 20 rfl rfl)
theorem dX3_tryLine_189 : decode cX3_tryLine 189 = .ok (.pop, 1) := dk_87 (dk_at dksX3_tryLine_7 23 rfl rfl)
theorem dX3_tryLine_190 : decode cX3_tryLine 190 = .ok (.aload_n 0, 1) := dk_42 (dk_at dksX3_tryLine_8 0 rfl rfl)
theorem dX3_tryLine_191 : decode cX3_tryLine 191 = .ok (.getfield 46, 3) := dk_180 0 46 (dk_at dksX3_tryLine_8 1 rfl rfl)
theorem dX3_tryLine_194 : decode cX3_tryLine 194 = .ok (.aload_n 0, 1) := dk_42 (dk_at dksX3_tryLine_8 4 rfl rfl)
theorem dX3_tryLine_195 : decode cX3_tryLine 195 = .ok (.getfield 231, 3) := dk_180 0 231 (dk_at dksX3_tryLine_8 5 rfl rfl)
theorem dX3_tryLine_198 : decode cX3_tryLine 198 = .ok (.aload_n 0, 1) := dk_42 (dk_at dksX3_tryLine_8 8 rfl rfl)
theorem dX3_tryLine_199 : decode cX3_tryLine 199 = .ok (.iconst 1, 1) := dk_4 (dk_at dksX3_tryLine_8 9 rfl rfl)
theorem dX3_tryLine_200 : decode cX3_tryLine 200 = .ok (.bipush 99, 2) := dk_16 99 (dk_at dksX3_tryLine_8 10 rfl rfl)
theorem dX3_tryLine_202 : decode cX3_tryLine 202 = .ok (.invokevirtual 297, 3) := dk_182 1 41 (dk_at dksX3_tryLine_8 12 rfl rfl)
theorem dX3_tryLine_205 : decode cX3_tryLine 205 = .ok (.iastore, 1) := dk_79 (dk_at dksX3_tryLine_8 15 rfl rfl)
theorem dX3_tryLine_206 : decode cX3_tryLine 206 = .ok (.aload_n 0, 1) := dk_42 (dk_at dksX3_tryLine_8 16 rfl rfl)
theorem dX3_tryLine_207 : decode cX3_tryLine 207 = .ok (.getfield 169, 3) := dk_180 0 169 (dk_at dksX3_tryLine_8 17 rfl rfl)
theorem dX3_tryLine_210 : decode cX3_tryLine 210 = .ok (.ifCond .ne 13, 3) := dk_154 0 13 (dk_at dksX3_tryLine_8 20 rfl rfl)
theorem dX3_tryLine_213 : decode cX3_tryLine 213 = .ok (.aload_n 0, 1) := dk_42 (dk_at dksX3_tryLine_8 23 rfl rfl)
theorem dX3_tryLine_214 : decode cX3_tryLine 214 = .ok (.dup, 1) := dk_89 (dk_at dksX3_tryLine_9 0 rfl rfl)
theorem dX3_tryLine_215 : decode cX3_tryLine 215 = .ok (.getfield 231, 3) := dk_180 0 231 (dk_at dksX3_tryLine_9 1 rfl rfl)
theorem dX3_tryLine_218 : decode cX3_tryLine 218 = .ok (.iconst 1, 1) := dk_4 (dk_at dksX3_tryLine_9 4 rfl rfl)
theorem dX3_tryLine_219 : decode cX3_tryLine 219 = .ok (.iadd, 1) := dk_96 (dk_at dksX3_tryLine_9 5 rfl rfl)
theorem dX3_tryLine_220 : decode cX3_tryLine 220 = .ok (.putfield 231, 3) := dk_181 0 231 (dk_at dksX3_tryLine_9 6 rfl rfl)
theorem dX3_tryLine_223 : decode cX3_tryLine 223 = .ok (.return_, 1) := dk_177 (dk_at dksX3_tryLine_9 9 rfl rfl)
abbrev cX3_signed : ByteArray := prog_23_method_19_code
def yX3_signed : MethodName := ⟨RX3, "signed", "(II)I"⟩
def dkwX3_signed_4 : List UInt8 := [172, 42, 182, 0, 173, 21, 5, 172]
abbrev dktX3_signed_4 : List UInt8 := dkwX3_signed_4 ++ []
def dkwX3_signed_3 : List UInt8 := [42, 180, 0, 156, 54, 5, 21, 5, 27, 28, 184, 0, 220, 154, 0, 12, 42, 7, 29, 182, 0, 196, 87, 3]
abbrev dktX3_signed_3 : List UInt8 := dkwX3_signed_3 ++ dktX3_signed_4
def dkwX3_signed_2 : List UInt8 := [4, 42, 180, 0, 150, 182, 0, 196, 87, 3, 172, 21, 4, 153, 0, 11, 42, 180, 0, 156, 116, 167, 0, 7]
abbrev dktX3_signed_2 : List UInt8 := dkwX3_signed_2 ++ dktX3_signed_3
def dkwX3_signed_1 : List UInt8 := [167, 0, 4, 3, 54, 4, 21, 4, 153, 0, 7, 42, 182, 0, 173, 42, 180, 0, 159, 6, 159, 0, 15, 42]
abbrev dktX3_signed_1 : List UInt8 := dkwX3_signed_1 ++ dktX3_signed_2
def dkwX3_signed_0 : List UInt8 := [42, 180, 0, 169, 153, 0, 5, 3, 172, 42, 180, 0, 150, 62, 42, 180, 0, 159, 16, 45, 160, 0, 7, 4]
abbrev dktX3_signed_0 : List UInt8 := dkwX3_signed_0 ++ dktX3_signed_1
theorem dksX3_signed_0 : cX3_signed.data.toList.drop 0 = dktX3_signed_0 := by decide +kernel
theorem dksX3_signed_1 : cX3_signed.data.toList.drop 24 = dktX3_signed_1 := dk_seg dksX3_signed_0 24 rfl rfl
theorem dksX3_signed_2 : cX3_signed.data.toList.drop 48 = dktX3_signed_2 := dk_seg dksX3_signed_1 24 rfl rfl
theorem dksX3_signed_3 : cX3_signed.data.toList.drop 72 = dktX3_signed_3 := dk_seg dksX3_signed_2 24 rfl rfl
theorem dksX3_signed_4 : cX3_signed.data.toList.drop 96 = dktX3_signed_4 := dk_seg dksX3_signed_3 24 rfl rfl
theorem dX3_signed_0 : decode cX3_signed 0 = .ok (.aload_n 0, 1) := dk_42 (dk_at dksX3_signed_0 0 rfl rfl)
theorem dX3_signed_1 : decode cX3_signed 1 = .ok (.getfield 169, 3) := dk_180 0 169 (dk_at dksX3_signed_0 1 rfl rfl)
theorem dX3_signed_4 : decode cX3_signed 4 = .ok (.ifCond .eq 5, 3) := dk_153 0 5 (dk_at dksX3_signed_0 4 rfl rfl)
theorem dX3_signed_7 : decode cX3_signed 7 = .ok (.iconst 0, 1) := dk_3 (dk_at dksX3_signed_0 7 rfl rfl)
theorem dX3_signed_8 : decode cX3_signed 8 = .ok (.ireturn, 1) := dk_172 (dk_at dksX3_signed_0 8 rfl rfl)
theorem dX3_signed_9 : decode cX3_signed 9 = .ok (.aload_n 0, 1) := dk_42 (dk_at dksX3_signed_0 9 rfl rfl)
theorem dX3_signed_10 : decode cX3_signed 10 = .ok (.getfield 150, 3) := dk_180 0 150 (dk_at dksX3_signed_0 10 rfl rfl)
theorem dX3_signed_13 : decode cX3_signed 13 = .ok (.istore_n 3, 1) := dk_62 (dk_at dksX3_signed_0 13 rfl rfl)
theorem dX3_signed_14 : decode cX3_signed 14 = .ok (.aload_n 0, 1) := dk_42 (dk_at dksX3_signed_0 14 rfl rfl)
theorem dX3_signed_15 : decode cX3_signed 15 = .ok (.getfield 159, 3) := dk_180 0 159 (dk_at dksX3_signed_0 15 rfl rfl)
theorem dX3_signed_18 : decode cX3_signed 18 = .ok (.bipush 45, 2) := dk_16 45 (dk_at dksX3_signed_0 18 rfl rfl)
theorem dX3_signed_20 : decode cX3_signed 20 = .ok (.if_icmp .ne 7, 3) := dk_160 0 7 (dk_at dksX3_signed_0 20 rfl rfl)
theorem dX3_signed_23 : decode cX3_signed 23 = .ok (.iconst 1, 1) := dk_4 (dk_at dksX3_signed_0 23 rfl rfl)
theorem dX3_signed_24 : decode cX3_signed 24 = .ok (.goto 4, 3) := dk_167 0 4 (dk_at dksX3_signed_1 0 rfl rfl)
theorem dX3_signed_27 : decode cX3_signed 27 = .ok (.iconst 0, 1) := dk_3 (dk_at dksX3_signed_1 3 rfl rfl)
theorem dX3_signed_28 : decode cX3_signed 28 = .ok (.istore 4, 2) := dk_54 4 (dk_at dksX3_signed_1 4 rfl rfl)
theorem dX3_signed_30 : decode cX3_signed 30 = .ok (.iload 4, 2) := dk_21 4 (dk_at dksX3_signed_1 6 rfl rfl)
theorem dX3_signed_32 : decode cX3_signed 32 = .ok (.ifCond .eq 7, 3) := dk_153 0 7 (dk_at dksX3_signed_1 8 rfl rfl)
theorem dX3_signed_35 : decode cX3_signed 35 = .ok (.aload_n 0, 1) := dk_42 (dk_at dksX3_signed_1 11 rfl rfl)
theorem dX3_signed_36 : decode cX3_signed 36 = .ok (.invokevirtual 173, 3) := dk_182 0 173 (dk_at dksX3_signed_1 12 rfl rfl)
theorem dX3_signed_39 : decode cX3_signed 39 = .ok (.aload_n 0, 1) := dk_42 (dk_at dksX3_signed_1 15 rfl rfl)
theorem dX3_signed_40 : decode cX3_signed 40 = .ok (.getfield 159, 3) := dk_180 0 159 (dk_at dksX3_signed_1 16 rfl rfl)
theorem dX3_signed_43 : decode cX3_signed 43 = .ok (.iconst 3, 1) := dk_6 (dk_at dksX3_signed_1 19 rfl rfl)
theorem dX3_signed_44 : decode cX3_signed 44 = .ok (.if_icmp .eq 15, 3) := dk_159 0 15 (dk_at dksX3_signed_1 20 rfl rfl)
theorem dX3_signed_47 : decode cX3_signed 47 = .ok (.aload_n 0, 1) := dk_42 (dk_at dksX3_signed_1 23 rfl rfl)
theorem dX3_signed_48 : decode cX3_signed 48 = .ok (.iconst 1, 1) := dk_4 (dk_at dksX3_signed_2 0 rfl rfl)
theorem dX3_signed_49 : decode cX3_signed 49 = .ok (.aload_n 0, 1) := dk_42 (dk_at dksX3_signed_2 1 rfl rfl)
theorem dX3_signed_50 : decode cX3_signed 50 = .ok (.getfield 150, 3) := dk_180 0 150 (dk_at dksX3_signed_2 2 rfl rfl)
theorem dX3_signed_53 : decode cX3_signed 53 = .ok (.invokevirtual 196, 3) := dk_182 0 196 (dk_at dksX3_signed_2 5 rfl rfl)
theorem dX3_signed_56 : decode cX3_signed 56 = .ok (.pop, 1) := dk_87 (dk_at dksX3_signed_2 8 rfl rfl)
theorem dX3_signed_57 : decode cX3_signed 57 = .ok (.iconst 0, 1) := dk_3 (dk_at dksX3_signed_2 9 rfl rfl)
theorem dX3_signed_58 : decode cX3_signed 58 = .ok (.ireturn, 1) := dk_172 (dk_at dksX3_signed_2 10 rfl rfl)
theorem dX3_signed_59 : decode cX3_signed 59 = .ok (.iload 4, 2) := dk_21 4 (dk_at dksX3_signed_2 11 rfl rfl)
theorem dX3_signed_61 : decode cX3_signed 61 = .ok (.ifCond .eq 11, 3) := dk_153 0 11 (dk_at dksX3_signed_2 13 rfl rfl)
theorem dX3_signed_64 : decode cX3_signed 64 = .ok (.aload_n 0, 1) := dk_42 (dk_at dksX3_signed_2 16 rfl rfl)
theorem dX3_signed_65 : decode cX3_signed 65 = .ok (.getfield 156, 3) := dk_180 0 156 (dk_at dksX3_signed_2 17 rfl rfl)
theorem dX3_signed_68 : decode cX3_signed 68 = .ok (.ineg, 1) := dk_116 (dk_at dksX3_signed_2 20 rfl rfl)
theorem dX3_signed_69 : decode cX3_signed 69 = .ok (.goto 7, 3) := dk_167 0 7 (dk_at dksX3_signed_2 21 rfl rfl)
theorem dX3_signed_72 : decode cX3_signed 72 = .ok (.aload_n 0, 1) := dk_42 (dk_at dksX3_signed_3 0 rfl rfl)
theorem dX3_signed_73 : decode cX3_signed 73 = .ok (.getfield 156, 3) := dk_180 0 156 (dk_at dksX3_signed_3 1 rfl rfl)
theorem dX3_signed_76 : decode cX3_signed 76 = .ok (.istore 5, 2) := dk_54 5 (dk_at dksX3_signed_3 4 rfl rfl)
theorem dX3_signed_78 : decode cX3_signed 78 = .ok (.iload 5, 2) := dk_21 5 (dk_at dksX3_signed_3 6 rfl rfl)
theorem dX3_signed_80 : decode cX3_signed 80 = .ok (.iload_n 1, 1) := dk_27 (dk_at dksX3_signed_3 8 rfl rfl)
theorem dX3_signed_81 : decode cX3_signed 81 = .ok (.iload_n 2, 1) := dk_28 (dk_at dksX3_signed_3 9 rfl rfl)
theorem dX3_signed_82 : decode cX3_signed 82 = .ok (.invokestatic 220, 3) := dk_184 0 220 (dk_at dksX3_signed_3 10 rfl rfl)
theorem dX3_signed_85 : decode cX3_signed 85 = .ok (.ifCond .ne 12, 3) := dk_154 0 12 (dk_at dksX3_signed_3 13 rfl rfl)
theorem dX3_signed_88 : decode cX3_signed 88 = .ok (.aload_n 0, 1) := dk_42 (dk_at dksX3_signed_3 16 rfl rfl)
theorem dX3_signed_89 : decode cX3_signed 89 = .ok (.iconst 4, 1) := dk_7 (dk_at dksX3_signed_3 17 rfl rfl)
theorem dX3_signed_90 : decode cX3_signed 90 = .ok (.iload_n 3, 1) := dk_29 (dk_at dksX3_signed_3 18 rfl rfl)
theorem dX3_signed_91 : decode cX3_signed 91 = .ok (.invokevirtual 196, 3) := dk_182 0 196 (dk_at dksX3_signed_3 19 rfl rfl)
theorem dX3_signed_94 : decode cX3_signed 94 = .ok (.pop, 1) := dk_87 (dk_at dksX3_signed_3 22 rfl rfl)
theorem dX3_signed_95 : decode cX3_signed 95 = .ok (.iconst 0, 1) := dk_3 (dk_at dksX3_signed_3 23 rfl rfl)
theorem dX3_signed_96 : decode cX3_signed 96 = .ok (.ireturn, 1) := dk_172 (dk_at dksX3_signed_4 0 rfl rfl)
theorem dX3_signed_97 : decode cX3_signed 97 = .ok (.aload_n 0, 1) := dk_42 (dk_at dksX3_signed_4 1 rfl rfl)
theorem dX3_signed_98 : decode cX3_signed 98 = .ok (.invokevirtual 173, 3) := dk_182 0 173 (dk_at dksX3_signed_4 2 rfl rfl)
theorem dX3_signed_101 : decode cX3_signed 101 = .ok (.iload 5, 2) := dk_21 5 (dk_at dksX3_signed_4 5 rfl rfl)
theorem dX3_signed_103 : decode cX3_signed 103 = .ok (.ireturn, 1) := dk_172 (dk_at dksX3_signed_4 7 rfl rfl)
abbrev cX3_fault : ByteArray := prog_23_method_27_code
def yX3_fault : MethodName := ⟨RX3, "fault", "()I"⟩
def dkwX3_fault_0 : List UInt8 := [42, 3, 181, 0, 131, 42, 180, 0, 176, 172]
abbrev dktX3_fault_0 : List UInt8 := dkwX3_fault_0 ++ []
theorem dksX3_fault_0 : cX3_fault.data.toList.drop 0 = dktX3_fault_0 := by decide +kernel
theorem dX3_fault_0 : decode cX3_fault 0 = .ok (.aload_n 0, 1) := dk_42 (dk_at dksX3_fault_0 0 rfl rfl)
theorem dX3_fault_1 : decode cX3_fault 1 = .ok (.iconst 0, 1) := dk_3 (dk_at dksX3_fault_0 1 rfl rfl)
theorem dX3_fault_2 : decode cX3_fault 2 = .ok (.putfield 131, 3) := dk_181 0 131 (dk_at dksX3_fault_0 2 rfl rfl)
theorem dX3_fault_5 : decode cX3_fault 5 = .ok (.aload_n 0, 1) := dk_42 (dk_at dksX3_fault_0 5 rfl rfl)
theorem dX3_fault_6 : decode cX3_fault 6 = .ok (.getfield 176, 3) := dk_180 0 176 (dk_at dksX3_fault_0 6 rfl rfl)
theorem dX3_fault_9 : decode cX3_fault 9 = .ok (.ireturn, 1) := dk_172 (dk_at dksX3_fault_0 9 rfl rfl)
abbrev cX3_where : ByteArray := prog_23_method_28_code
def yX3_where : MethodName := ⟨RX3, "where", "()I"⟩
def dkwX3_where_0 : List UInt8 := [42, 3, 181, 0, 131, 42, 180, 0, 134, 7, 160, 0, 10, 42, 180, 0, 179, 167, 0, 4, 2, 172]
abbrev dktX3_where_0 : List UInt8 := dkwX3_where_0 ++ []
theorem dksX3_where_0 : cX3_where.data.toList.drop 0 = dktX3_where_0 := by decide +kernel
theorem dX3_where_0 : decode cX3_where 0 = .ok (.aload_n 0, 1) := dk_42 (dk_at dksX3_where_0 0 rfl rfl)
theorem dX3_where_1 : decode cX3_where 1 = .ok (.iconst 0, 1) := dk_3 (dk_at dksX3_where_0 1 rfl rfl)
theorem dX3_where_2 : decode cX3_where 2 = .ok (.putfield 131, 3) := dk_181 0 131 (dk_at dksX3_where_0 2 rfl rfl)
theorem dX3_where_5 : decode cX3_where 5 = .ok (.aload_n 0, 1) := dk_42 (dk_at dksX3_where_0 5 rfl rfl)
theorem dX3_where_6 : decode cX3_where 6 = .ok (.getfield 134, 3) := dk_180 0 134 (dk_at dksX3_where_0 6 rfl rfl)
theorem dX3_where_9 : decode cX3_where 9 = .ok (.iconst 4, 1) := dk_7 (dk_at dksX3_where_0 9 rfl rfl)
theorem dX3_where_10 : decode cX3_where 10 = .ok (.if_icmp .ne 10, 3) := dk_160 0 10 (dk_at dksX3_where_0 10 rfl rfl)
theorem dX3_where_13 : decode cX3_where 13 = .ok (.aload_n 0, 1) := dk_42 (dk_at dksX3_where_0 13 rfl rfl)
theorem dX3_where_14 : decode cX3_where 14 = .ok (.getfield 179, 3) := dk_180 0 179 (dk_at dksX3_where_0 14 rfl rfl)
theorem dX3_where_17 : decode cX3_where 17 = .ok (.goto 4, 3) := dk_167 0 4 (dk_at dksX3_where_0 17 rfl rfl)
theorem dX3_where_20 : decode cX3_where 20 = .ok (.iconst (-1), 1) := dk_2 (dk_at dksX3_where_0 20 rfl rfl)
theorem dX3_where_21 : decode cX3_where 21 = .ok (.ireturn, 1) := dk_172 (dk_at dksX3_where_0 21 rfl rfl)
abbrev cX3_sink : ByteArray := prog_23_method_32_code
def yX3_sink : MethodName := ⟨RX3, "sink", "(II)I"⟩
def dkwX3_sink_2 : List UInt8 := [42, 5, 182, 0, 252, 172]
abbrev dktX3_sink_2 : List UInt8 := dkwX3_sink_2 ++ []
def dkwX3_sink_1 : List UInt8 := [184, 0, 220, 153, 0, 21, 42, 180, 0, 34, 27, 42, 180, 0, 28, 27, 46, 28, 184, 1, 78, 167, 0, 8]
abbrev dktX3_sink_1 : List UInt8 := dkwX3_sink_1 ++ dktX3_sink_2
def dkwX3_sink_0 : List UInt8 := [42, 182, 0, 249, 42, 27, 182, 1, 75, 154, 0, 9, 42, 4, 182, 0, 252, 172, 28, 3, 17, 3, 231]
abbrev dktX3_sink_0 : List UInt8 := dkwX3_sink_0 ++ dktX3_sink_1
theorem dksX3_sink_0 : cX3_sink.data.toList.drop 0 = dktX3_sink_0 := by decide +kernel
theorem dksX3_sink_1 : cX3_sink.data.toList.drop 23 = dktX3_sink_1 := dk_seg dksX3_sink_0 23 rfl rfl
theorem dksX3_sink_2 : cX3_sink.data.toList.drop 47 = dktX3_sink_2 := dk_seg dksX3_sink_1 24 rfl rfl
theorem dX3_sink_0 : decode cX3_sink 0 = .ok (.aload_n 0, 1) := dk_42 (dk_at dksX3_sink_0 0 rfl rfl)
theorem dX3_sink_1 : decode cX3_sink 1 = .ok (.invokevirtual 249, 3) := dk_182 0 249 (dk_at dksX3_sink_0 1 rfl rfl)
theorem dX3_sink_4 : decode cX3_sink 4 = .ok (.aload_n 0, 1) := dk_42 (dk_at dksX3_sink_0 4 rfl rfl)
theorem dX3_sink_5 : decode cX3_sink 5 = .ok (.iload_n 1, 1) := dk_27 (dk_at dksX3_sink_0 5 rfl rfl)
theorem dX3_sink_6 : decode cX3_sink 6 = .ok (.invokevirtual 331, 3) := dk_182 1 75 (dk_at dksX3_sink_0 6 rfl rfl)
theorem dX3_sink_9 : decode cX3_sink 9 = .ok (.ifCond .ne 9, 3) := dk_154 0 9 (dk_at dksX3_sink_0 9 rfl rfl)
theorem dX3_sink_12 : decode cX3_sink 12 = .ok (.aload_n 0, 1) := dk_42 (dk_at dksX3_sink_0 12 rfl rfl)
theorem dX3_sink_13 : decode cX3_sink 13 = .ok (.iconst 1, 1) := dk_4 (dk_at dksX3_sink_0 13 rfl rfl)
theorem dX3_sink_14 : decode cX3_sink 14 = .ok (.invokevirtual 252, 3) := dk_182 0 252 (dk_at dksX3_sink_0 14 rfl rfl)
theorem dX3_sink_17 : decode cX3_sink 17 = .ok (.ireturn, 1) := dk_172 (dk_at dksX3_sink_0 17 rfl rfl)
theorem dX3_sink_18 : decode cX3_sink 18 = .ok (.iload_n 2, 1) := dk_28 (dk_at dksX3_sink_0 18 rfl rfl)
theorem dX3_sink_19 : decode cX3_sink 19 = .ok (.iconst 0, 1) := dk_3 (dk_at dksX3_sink_0 19 rfl rfl)
theorem dX3_sink_20 : decode cX3_sink 20 = .ok (.sipush 999, 3) := dk_17 3 231 (dk_at dksX3_sink_0 20 rfl rfl)
theorem dX3_sink_23 : decode cX3_sink 23 = .ok (.invokestatic 220, 3) := dk_184 0 220 (dk_at dksX3_sink_1 0 rfl rfl)
theorem dX3_sink_26 : decode cX3_sink 26 = .ok (.ifCond .eq 21, 3) := dk_153 0 21 (dk_at dksX3_sink_1 3 rfl rfl)
theorem dX3_sink_29 : decode cX3_sink 29 = .ok (.aload_n 0, 1) := dk_42 (dk_at dksX3_sink_1 6 rfl rfl)
theorem dX3_sink_30 : decode cX3_sink 30 = .ok (.getfield 34, 3) := dk_180 0 34 (dk_at dksX3_sink_1 7 rfl rfl)
theorem dX3_sink_33 : decode cX3_sink 33 = .ok (.iload_n 1, 1) := dk_27 (dk_at dksX3_sink_1 10 rfl rfl)
theorem dX3_sink_34 : decode cX3_sink 34 = .ok (.aload_n 0, 1) := dk_42 (dk_at dksX3_sink_1 11 rfl rfl)
theorem dX3_sink_35 : decode cX3_sink 35 = .ok (.getfield 28, 3) := dk_180 0 28 (dk_at dksX3_sink_1 12 rfl rfl)
theorem dX3_sink_38 : decode cX3_sink 38 = .ok (.iload_n 1, 1) := dk_27 (dk_at dksX3_sink_1 15 rfl rfl)
theorem dX3_sink_39 : decode cX3_sink 39 = .ok (.iaload, 1) := dk_46 (dk_at dksX3_sink_1 16 rfl rfl)
theorem dX3_sink_40 : decode cX3_sink 40 = .ok (.iload_n 2, 1) := dk_28 (dk_at dksX3_sink_1 17 rfl rfl)
theorem dX3_sink_41 : decode cX3_sink 41 = .ok (.invokestatic 334, 3) := dk_184 1 78 (dk_at dksX3_sink_1 18 rfl rfl)
theorem dX3_sink_44 : decode cX3_sink 44 = .ok (.goto 8, 3) := dk_167 0 8 (dk_at dksX3_sink_1 21 rfl rfl)
theorem dX3_sink_47 : decode cX3_sink 47 = .ok (.aload_n 0, 1) := dk_42 (dk_at dksX3_sink_2 0 rfl rfl)
theorem dX3_sink_48 : decode cX3_sink 48 = .ok (.iconst 2, 1) := dk_5 (dk_at dksX3_sink_2 1 rfl rfl)
theorem dX3_sink_49 : decode cX3_sink 49 = .ok (.invokevirtual 252, 3) := dk_182 0 252 (dk_at dksX3_sink_2 2 rfl rfl)
theorem dX3_sink_52 : decode cX3_sink 52 = .ok (.ireturn, 1) := dk_172 (dk_at dksX3_sink_2 5 rfl rfl)
abbrev cX3_isGround : ByteArray := prog_23_method_31_code
def yX3_isGround : MethodName := ⟨RX3, "isGround", "(I)Z"⟩
def dkwX3_isGround_1 : List UInt8 := [167, 0, 4, 3, 172]
abbrev dktX3_isGround_1 : List UInt8 := dkwX3_isGround_1 ++ []
def dkwX3_isGround_0 : List UInt8 := [42, 180, 1, 13, 153, 0, 21, 27, 3, 42, 180, 0, 228, 4, 100, 184, 0, 220, 153, 0, 7, 4]
abbrev dktX3_isGround_0 : List UInt8 := dkwX3_isGround_0 ++ dktX3_isGround_1
theorem dksX3_isGround_0 : cX3_isGround.data.toList.drop 0 = dktX3_isGround_0 := by decide +kernel
theorem dksX3_isGround_1 : cX3_isGround.data.toList.drop 22 = dktX3_isGround_1 := dk_seg dksX3_isGround_0 22 rfl rfl
theorem dX3_isGround_0 : decode cX3_isGround 0 = .ok (.aload_n 0, 1) := dk_42 (dk_at dksX3_isGround_0 0 rfl rfl)
theorem dX3_isGround_1 : decode cX3_isGround 1 = .ok (.getfield 269, 3) := dk_180 1 13 (dk_at dksX3_isGround_0 1 rfl rfl)
theorem dX3_isGround_4 : decode cX3_isGround 4 = .ok (.ifCond .eq 21, 3) := dk_153 0 21 (dk_at dksX3_isGround_0 4 rfl rfl)
theorem dX3_isGround_7 : decode cX3_isGround 7 = .ok (.iload_n 1, 1) := dk_27 (dk_at dksX3_isGround_0 7 rfl rfl)
theorem dX3_isGround_8 : decode cX3_isGround 8 = .ok (.iconst 0, 1) := dk_3 (dk_at dksX3_isGround_0 8 rfl rfl)
theorem dX3_isGround_9 : decode cX3_isGround 9 = .ok (.aload_n 0, 1) := dk_42 (dk_at dksX3_isGround_0 9 rfl rfl)
theorem dX3_isGround_10 : decode cX3_isGround 10 = .ok (.getfield 228, 3) := dk_180 0 228 (dk_at dksX3_isGround_0 10 rfl rfl)
theorem dX3_isGround_13 : decode cX3_isGround 13 = .ok (.iconst 1, 1) := dk_4 (dk_at dksX3_isGround_0 13 rfl rfl)
theorem dX3_isGround_14 : decode cX3_isGround 14 = .ok (.isub, 1) := dk_100 (dk_at dksX3_isGround_0 14 rfl rfl)
theorem dX3_isGround_15 : decode cX3_isGround 15 = .ok (.invokestatic 220, 3) := dk_184 0 220 (dk_at dksX3_isGround_0 15 rfl rfl)
theorem dX3_isGround_18 : decode cX3_isGround 18 = .ok (.ifCond .eq 7, 3) := dk_153 0 7 (dk_at dksX3_isGround_0 18 rfl rfl)
theorem dX3_isGround_21 : decode cX3_isGround 21 = .ok (.iconst 1, 1) := dk_4 (dk_at dksX3_isGround_0 21 rfl rfl)
theorem dX3_isGround_22 : decode cX3_isGround 22 = .ok (.goto 4, 3) := dk_167 0 4 (dk_at dksX3_isGround_1 0 rfl rfl)
theorem dX3_isGround_25 : decode cX3_isGround 25 = .ok (.iconst 0, 1) := dk_3 (dk_at dksX3_isGround_1 3 rfl rfl)
theorem dX3_isGround_26 : decode cX3_isGround 26 = .ok (.ireturn, 1) := dk_172 (dk_at dksX3_isGround_1 4 rfl rfl)
abbrev cX3_between : ByteArray := prog_23_method_30_code
def yX3_between : MethodName := ⟨RX3, "between", "([IIII)I"⟩
def dkwX3_between_5 : List UInt8 := [21, 4, 5, 28, 104, 96, 4, 100, 46, 172]
abbrev dktX3_between_5 : List UInt8 := dkwX3_between_5 ++ []
def dkwX3_between_4 : List UInt8 := [100, 29, 21, 6, 100, 104, 21, 7, 21, 6, 100, 184, 1, 73, 96, 172, 132, 5, 1, 167, 255, 166, 42]
abbrev dktX3_between_4 : List UInt8 := dkwX3_between_4 ++ dktX3_between_5
def dkwX3_between_3 : List UInt8 := [4, 100, 46, 54, 8, 42, 21, 4, 5, 21, 5, 104, 96, 4, 96, 46, 54, 9, 21, 8, 21, 9, 21, 8]
abbrev dktX3_between_3 : List UInt8 := dkwX3_between_3 ++ dktX3_between_4
def dkwX3_between_2 : List UInt8 := [21, 5, 104, 96, 46, 54, 7, 29, 21, 7, 164, 0, 6, 167, 0, 51, 42, 21, 4, 5, 21, 5, 104, 96]
abbrev dktX3_between_2 : List UInt8 := dkwX3_between_2 ++ dktX3_between_3
def dkwX3_between_1 : List UInt8 := [21, 5, 28, 162, 0, 90, 42, 21, 4, 5, 21, 5, 104, 96, 5, 100, 46, 54, 6, 42, 21, 4, 5]
abbrev dktX3_between_1 : List UInt8 := dkwX3_between_1 ++ dktX3_between_2
def dkwX3_between_0 : List UInt8 := [16, 8, 27, 104, 54, 4, 29, 42, 21, 4, 46, 163, 0, 10, 42, 21, 4, 4, 96, 46, 172, 4, 54, 5]
abbrev dktX3_between_0 : List UInt8 := dkwX3_between_0 ++ dktX3_between_1
theorem dksX3_between_0 : cX3_between.data.toList.drop 0 = dktX3_between_0 := by decide +kernel
theorem dksX3_between_1 : cX3_between.data.toList.drop 24 = dktX3_between_1 := dk_seg dksX3_between_0 24 rfl rfl
theorem dksX3_between_2 : cX3_between.data.toList.drop 47 = dktX3_between_2 := dk_seg dksX3_between_1 23 rfl rfl
theorem dksX3_between_3 : cX3_between.data.toList.drop 71 = dktX3_between_3 := dk_seg dksX3_between_2 24 rfl rfl
theorem dksX3_between_4 : cX3_between.data.toList.drop 95 = dktX3_between_4 := dk_seg dksX3_between_3 24 rfl rfl
theorem dksX3_between_5 : cX3_between.data.toList.drop 118 = dktX3_between_5 := dk_seg dksX3_between_4 23 rfl rfl
theorem dX3_between_0 : decode cX3_between 0 = .ok (.bipush 8, 2) := dk_16 8 (dk_at dksX3_between_0 0 rfl rfl)
theorem dX3_between_2 : decode cX3_between 2 = .ok (.iload_n 1, 1) := dk_27 (dk_at dksX3_between_0 2 rfl rfl)
theorem dX3_between_3 : decode cX3_between 3 = .ok (.imul, 1) := dk_104 (dk_at dksX3_between_0 3 rfl rfl)
theorem dX3_between_4 : decode cX3_between 4 = .ok (.istore 4, 2) := dk_54 4 (dk_at dksX3_between_0 4 rfl rfl)
theorem dX3_between_6 : decode cX3_between 6 = .ok (.iload_n 3, 1) := dk_29 (dk_at dksX3_between_0 6 rfl rfl)
theorem dX3_between_7 : decode cX3_between 7 = .ok (.aload_n 0, 1) := dk_42 (dk_at dksX3_between_0 7 rfl rfl)
theorem dX3_between_8 : decode cX3_between 8 = .ok (.iload 4, 2) := dk_21 4 (dk_at dksX3_between_0 8 rfl rfl)
theorem dX3_between_10 : decode cX3_between 10 = .ok (.iaload, 1) := dk_46 (dk_at dksX3_between_0 10 rfl rfl)
theorem dX3_between_11 : decode cX3_between 11 = .ok (.if_icmp .gt 10, 3) := dk_163 0 10 (dk_at dksX3_between_0 11 rfl rfl)
theorem dX3_between_14 : decode cX3_between 14 = .ok (.aload_n 0, 1) := dk_42 (dk_at dksX3_between_0 14 rfl rfl)
theorem dX3_between_15 : decode cX3_between 15 = .ok (.iload 4, 2) := dk_21 4 (dk_at dksX3_between_0 15 rfl rfl)
theorem dX3_between_17 : decode cX3_between 17 = .ok (.iconst 1, 1) := dk_4 (dk_at dksX3_between_0 17 rfl rfl)
theorem dX3_between_18 : decode cX3_between 18 = .ok (.iadd, 1) := dk_96 (dk_at dksX3_between_0 18 rfl rfl)
theorem dX3_between_19 : decode cX3_between 19 = .ok (.iaload, 1) := dk_46 (dk_at dksX3_between_0 19 rfl rfl)
theorem dX3_between_20 : decode cX3_between 20 = .ok (.ireturn, 1) := dk_172 (dk_at dksX3_between_0 20 rfl rfl)
theorem dX3_between_21 : decode cX3_between 21 = .ok (.iconst 1, 1) := dk_4 (dk_at dksX3_between_0 21 rfl rfl)
theorem dX3_between_22 : decode cX3_between 22 = .ok (.istore 5, 2) := dk_54 5 (dk_at dksX3_between_0 22 rfl rfl)
theorem dX3_between_24 : decode cX3_between 24 = .ok (.iload 5, 2) := dk_21 5 (dk_at dksX3_between_1 0 rfl rfl)
theorem dX3_between_26 : decode cX3_between 26 = .ok (.iload_n 2, 1) := dk_28 (dk_at dksX3_between_1 2 rfl rfl)
theorem dX3_between_27 : decode cX3_between 27 = .ok (.if_icmp .ge 90, 3) := dk_162 0 90 (dk_at dksX3_between_1 3 rfl rfl)
theorem dX3_between_30 : decode cX3_between 30 = .ok (.aload_n 0, 1) := dk_42 (dk_at dksX3_between_1 6 rfl rfl)
theorem dX3_between_31 : decode cX3_between 31 = .ok (.iload 4, 2) := dk_21 4 (dk_at dksX3_between_1 7 rfl rfl)
theorem dX3_between_33 : decode cX3_between 33 = .ok (.iconst 2, 1) := dk_5 (dk_at dksX3_between_1 9 rfl rfl)
theorem dX3_between_34 : decode cX3_between 34 = .ok (.iload 5, 2) := dk_21 5 (dk_at dksX3_between_1 10 rfl rfl)
theorem dX3_between_36 : decode cX3_between 36 = .ok (.imul, 1) := dk_104 (dk_at dksX3_between_1 12 rfl rfl)
theorem dX3_between_37 : decode cX3_between 37 = .ok (.iadd, 1) := dk_96 (dk_at dksX3_between_1 13 rfl rfl)
theorem dX3_between_38 : decode cX3_between 38 = .ok (.iconst 2, 1) := dk_5 (dk_at dksX3_between_1 14 rfl rfl)
theorem dX3_between_39 : decode cX3_between 39 = .ok (.isub, 1) := dk_100 (dk_at dksX3_between_1 15 rfl rfl)
theorem dX3_between_40 : decode cX3_between 40 = .ok (.iaload, 1) := dk_46 (dk_at dksX3_between_1 16 rfl rfl)
theorem dX3_between_41 : decode cX3_between 41 = .ok (.istore 6, 2) := dk_54 6 (dk_at dksX3_between_1 17 rfl rfl)
theorem dX3_between_43 : decode cX3_between 43 = .ok (.aload_n 0, 1) := dk_42 (dk_at dksX3_between_1 19 rfl rfl)
theorem dX3_between_44 : decode cX3_between 44 = .ok (.iload 4, 2) := dk_21 4 (dk_at dksX3_between_1 20 rfl rfl)
theorem dX3_between_46 : decode cX3_between 46 = .ok (.iconst 2, 1) := dk_5 (dk_at dksX3_between_1 22 rfl rfl)
theorem dX3_between_47 : decode cX3_between 47 = .ok (.iload 5, 2) := dk_21 5 (dk_at dksX3_between_2 0 rfl rfl)
theorem dX3_between_49 : decode cX3_between 49 = .ok (.imul, 1) := dk_104 (dk_at dksX3_between_2 2 rfl rfl)
theorem dX3_between_50 : decode cX3_between 50 = .ok (.iadd, 1) := dk_96 (dk_at dksX3_between_2 3 rfl rfl)
theorem dX3_between_51 : decode cX3_between 51 = .ok (.iaload, 1) := dk_46 (dk_at dksX3_between_2 4 rfl rfl)
theorem dX3_between_52 : decode cX3_between 52 = .ok (.istore 7, 2) := dk_54 7 (dk_at dksX3_between_2 5 rfl rfl)
theorem dX3_between_54 : decode cX3_between 54 = .ok (.iload_n 3, 1) := dk_29 (dk_at dksX3_between_2 7 rfl rfl)
theorem dX3_between_55 : decode cX3_between 55 = .ok (.iload 7, 2) := dk_21 7 (dk_at dksX3_between_2 8 rfl rfl)
theorem dX3_between_57 : decode cX3_between 57 = .ok (.if_icmp .le 6, 3) := dk_164 0 6 (dk_at dksX3_between_2 10 rfl rfl)
theorem dX3_between_60 : decode cX3_between 60 = .ok (.goto 51, 3) := dk_167 0 51 (dk_at dksX3_between_2 13 rfl rfl)
theorem dX3_between_63 : decode cX3_between 63 = .ok (.aload_n 0, 1) := dk_42 (dk_at dksX3_between_2 16 rfl rfl)
theorem dX3_between_64 : decode cX3_between 64 = .ok (.iload 4, 2) := dk_21 4 (dk_at dksX3_between_2 17 rfl rfl)
theorem dX3_between_66 : decode cX3_between 66 = .ok (.iconst 2, 1) := dk_5 (dk_at dksX3_between_2 19 rfl rfl)
theorem dX3_between_67 : decode cX3_between 67 = .ok (.iload 5, 2) := dk_21 5 (dk_at dksX3_between_2 20 rfl rfl)
theorem dX3_between_69 : decode cX3_between 69 = .ok (.imul, 1) := dk_104 (dk_at dksX3_between_2 22 rfl rfl)
theorem dX3_between_70 : decode cX3_between 70 = .ok (.iadd, 1) := dk_96 (dk_at dksX3_between_2 23 rfl rfl)
theorem dX3_between_71 : decode cX3_between 71 = .ok (.iconst 1, 1) := dk_4 (dk_at dksX3_between_3 0 rfl rfl)
theorem dX3_between_72 : decode cX3_between 72 = .ok (.isub, 1) := dk_100 (dk_at dksX3_between_3 1 rfl rfl)
theorem dX3_between_73 : decode cX3_between 73 = .ok (.iaload, 1) := dk_46 (dk_at dksX3_between_3 2 rfl rfl)
theorem dX3_between_74 : decode cX3_between 74 = .ok (.istore 8, 2) := dk_54 8 (dk_at dksX3_between_3 3 rfl rfl)
theorem dX3_between_76 : decode cX3_between 76 = .ok (.aload_n 0, 1) := dk_42 (dk_at dksX3_between_3 5 rfl rfl)
theorem dX3_between_77 : decode cX3_between 77 = .ok (.iload 4, 2) := dk_21 4 (dk_at dksX3_between_3 6 rfl rfl)
theorem dX3_between_79 : decode cX3_between 79 = .ok (.iconst 2, 1) := dk_5 (dk_at dksX3_between_3 8 rfl rfl)
theorem dX3_between_80 : decode cX3_between 80 = .ok (.iload 5, 2) := dk_21 5 (dk_at dksX3_between_3 9 rfl rfl)
theorem dX3_between_82 : decode cX3_between 82 = .ok (.imul, 1) := dk_104 (dk_at dksX3_between_3 11 rfl rfl)
theorem dX3_between_83 : decode cX3_between 83 = .ok (.iadd, 1) := dk_96 (dk_at dksX3_between_3 12 rfl rfl)
theorem dX3_between_84 : decode cX3_between 84 = .ok (.iconst 1, 1) := dk_4 (dk_at dksX3_between_3 13 rfl rfl)
theorem dX3_between_85 : decode cX3_between 85 = .ok (.iadd, 1) := dk_96 (dk_at dksX3_between_3 14 rfl rfl)
theorem dX3_between_86 : decode cX3_between 86 = .ok (.iaload, 1) := dk_46 (dk_at dksX3_between_3 15 rfl rfl)
theorem dX3_between_87 : decode cX3_between 87 = .ok (.istore 9, 2) := dk_54 9 (dk_at dksX3_between_3 16 rfl rfl)
theorem dX3_between_89 : decode cX3_between 89 = .ok (.iload 8, 2) := dk_21 8 (dk_at dksX3_between_3 18 rfl rfl)
theorem dX3_between_91 : decode cX3_between 91 = .ok (.iload 9, 2) := dk_21 9 (dk_at dksX3_between_3 20 rfl rfl)
theorem dX3_between_93 : decode cX3_between 93 = .ok (.iload 8, 2) := dk_21 8 (dk_at dksX3_between_3 22 rfl rfl)
theorem dX3_between_95 : decode cX3_between 95 = .ok (.isub, 1) := dk_100 (dk_at dksX3_between_4 0 rfl rfl)
theorem dX3_between_96 : decode cX3_between 96 = .ok (.iload_n 3, 1) := dk_29 (dk_at dksX3_between_4 1 rfl rfl)
theorem dX3_between_97 : decode cX3_between 97 = .ok (.iload 6, 2) := dk_21 6 (dk_at dksX3_between_4 2 rfl rfl)
theorem dX3_between_99 : decode cX3_between 99 = .ok (.isub, 1) := dk_100 (dk_at dksX3_between_4 4 rfl rfl)
theorem dX3_between_100 : decode cX3_between 100 = .ok (.imul, 1) := dk_104 (dk_at dksX3_between_4 5 rfl rfl)
theorem dX3_between_101 : decode cX3_between 101 = .ok (.iload 7, 2) := dk_21 7 (dk_at dksX3_between_4 6 rfl rfl)
theorem dX3_between_103 : decode cX3_between 103 = .ok (.iload 6, 2) := dk_21 6 (dk_at dksX3_between_4 8 rfl rfl)
theorem dX3_between_105 : decode cX3_between 105 = .ok (.isub, 1) := dk_100 (dk_at dksX3_between_4 10 rfl rfl)
theorem dX3_between_106 : decode cX3_between 106 = .ok (.invokestatic 329, 3) := dk_184 1 73 (dk_at dksX3_between_4 11 rfl rfl)
theorem dX3_between_109 : decode cX3_between 109 = .ok (.iadd, 1) := dk_96 (dk_at dksX3_between_4 14 rfl rfl)
theorem dX3_between_110 : decode cX3_between 110 = .ok (.ireturn, 1) := dk_172 (dk_at dksX3_between_4 15 rfl rfl)
theorem dX3_between_111 : decode cX3_between 111 = .ok (.iinc 5 1, 3) := dk_132 5 1 (dk_at dksX3_between_4 16 rfl rfl)
theorem dX3_between_114 : decode cX3_between 114 = .ok (.goto (-90), 3) := dk_167 255 166 (dk_at dksX3_between_4 19 rfl rfl)
theorem dX3_between_117 : decode cX3_between 117 = .ok (.aload_n 0, 1) := dk_42 (dk_at dksX3_between_4 22 rfl rfl)
theorem dX3_between_118 : decode cX3_between 118 = .ok (.iload 4, 2) := dk_21 4 (dk_at dksX3_between_5 0 rfl rfl)
theorem dX3_between_120 : decode cX3_between 120 = .ok (.iconst 2, 1) := dk_5 (dk_at dksX3_between_5 2 rfl rfl)
theorem dX3_between_121 : decode cX3_between 121 = .ok (.iload_n 2, 1) := dk_28 (dk_at dksX3_between_5 3 rfl rfl)
theorem dX3_between_122 : decode cX3_between 122 = .ok (.imul, 1) := dk_104 (dk_at dksX3_between_5 4 rfl rfl)
theorem dX3_between_123 : decode cX3_between 123 = .ok (.iadd, 1) := dk_96 (dk_at dksX3_between_5 5 rfl rfl)
theorem dX3_between_124 : decode cX3_between 124 = .ok (.iconst 1, 1) := dk_4 (dk_at dksX3_between_5 6 rfl rfl)
theorem dX3_between_125 : decode cX3_between 125 = .ok (.isub, 1) := dk_100 (dk_at dksX3_between_5 7 rfl rfl)
theorem dX3_between_126 : decode cX3_between 126 = .ok (.iaload, 1) := dk_46 (dk_at dksX3_between_5 8 rfl rfl)
theorem dX3_between_127 : decode cX3_between 127 = .ok (.ireturn, 1) := dk_172 (dk_at dksX3_between_5 9 rfl rfl)
abbrev cX3_down : ByteArray := prog_23_method_29_code
def yX3_down : MethodName := ⟨RX3, "down", "(II)I"⟩
def dkwX3_down_0 : List UInt8 := [26, 27, 108, 61, 26, 27, 112, 153, 0, 13, 26, 156, 0, 9, 28, 4, 100, 167, 0, 4, 28, 172]
abbrev dktX3_down_0 : List UInt8 := dkwX3_down_0 ++ []
theorem dksX3_down_0 : cX3_down.data.toList.drop 0 = dktX3_down_0 := by decide +kernel
theorem dX3_down_0 : decode cX3_down 0 = .ok (.iload_n 0, 1) := dk_26 (dk_at dksX3_down_0 0 rfl rfl)
theorem dX3_down_1 : decode cX3_down 1 = .ok (.iload_n 1, 1) := dk_27 (dk_at dksX3_down_0 1 rfl rfl)
theorem dX3_down_2 : decode cX3_down 2 = .ok (.idiv, 1) := dk_108 (dk_at dksX3_down_0 2 rfl rfl)
theorem dX3_down_3 : decode cX3_down 3 = .ok (.istore_n 2, 1) := dk_61 (dk_at dksX3_down_0 3 rfl rfl)
theorem dX3_down_4 : decode cX3_down 4 = .ok (.iload_n 0, 1) := dk_26 (dk_at dksX3_down_0 4 rfl rfl)
theorem dX3_down_5 : decode cX3_down 5 = .ok (.iload_n 1, 1) := dk_27 (dk_at dksX3_down_0 5 rfl rfl)
theorem dX3_down_6 : decode cX3_down 6 = .ok (.irem, 1) := dk_112 (dk_at dksX3_down_0 6 rfl rfl)
theorem dX3_down_7 : decode cX3_down 7 = .ok (.ifCond .eq 13, 3) := dk_153 0 13 (dk_at dksX3_down_0 7 rfl rfl)
theorem dX3_down_10 : decode cX3_down 10 = .ok (.iload_n 0, 1) := dk_26 (dk_at dksX3_down_0 10 rfl rfl)
theorem dX3_down_11 : decode cX3_down 11 = .ok (.ifCond .ge 9, 3) := dk_156 0 9 (dk_at dksX3_down_0 11 rfl rfl)
theorem dX3_down_14 : decode cX3_down 14 = .ok (.iload_n 2, 1) := dk_28 (dk_at dksX3_down_0 14 rfl rfl)
theorem dX3_down_15 : decode cX3_down 15 = .ok (.iconst 1, 1) := dk_4 (dk_at dksX3_down_0 15 rfl rfl)
theorem dX3_down_16 : decode cX3_down 16 = .ok (.isub, 1) := dk_100 (dk_at dksX3_down_0 16 rfl rfl)
theorem dX3_down_17 : decode cX3_down 17 = .ok (.goto 4, 3) := dk_167 0 4 (dk_at dksX3_down_0 17 rfl rfl)
theorem dX3_down_20 : decode cX3_down 20 = .ok (.iload_n 2, 1) := dk_28 (dk_at dksX3_down_0 20 rfl rfl)
theorem dX3_down_21 : decode cX3_down 21 = .ok (.ireturn, 1) := dk_172 (dk_at dksX3_down_0 21 rfl rfl)
abbrev cX3_grip : ByteArray := prog_23_method_33_code
def yX3_grip : MethodName := ⟨RX3, "grip", "(II)I"⟩
def dkwX3_grip_2 : List UInt8 := [42, 5, 182, 0, 252, 172]
abbrev dktX3_grip_2 : List UInt8 := dkwX3_grip_2 ++ []
def dkwX3_grip_1 : List UInt8 := [184, 0, 220, 153, 0, 21, 42, 180, 0, 37, 27, 42, 180, 0, 31, 27, 46, 28, 184, 1, 78, 167, 0, 8]
abbrev dktX3_grip_1 : List UInt8 := dkwX3_grip_1 ++ dktX3_grip_2
def dkwX3_grip_0 : List UInt8 := [42, 182, 0, 249, 42, 27, 182, 1, 75, 154, 0, 9, 42, 4, 182, 0, 252, 172, 28, 3, 16, 90]
abbrev dktX3_grip_0 : List UInt8 := dkwX3_grip_0 ++ dktX3_grip_1
theorem dksX3_grip_0 : cX3_grip.data.toList.drop 0 = dktX3_grip_0 := by decide +kernel
theorem dksX3_grip_1 : cX3_grip.data.toList.drop 22 = dktX3_grip_1 := dk_seg dksX3_grip_0 22 rfl rfl
theorem dksX3_grip_2 : cX3_grip.data.toList.drop 46 = dktX3_grip_2 := dk_seg dksX3_grip_1 24 rfl rfl
theorem dX3_grip_0 : decode cX3_grip 0 = .ok (.aload_n 0, 1) := dk_42 (dk_at dksX3_grip_0 0 rfl rfl)
theorem dX3_grip_1 : decode cX3_grip 1 = .ok (.invokevirtual 249, 3) := dk_182 0 249 (dk_at dksX3_grip_0 1 rfl rfl)
theorem dX3_grip_4 : decode cX3_grip 4 = .ok (.aload_n 0, 1) := dk_42 (dk_at dksX3_grip_0 4 rfl rfl)
theorem dX3_grip_5 : decode cX3_grip 5 = .ok (.iload_n 1, 1) := dk_27 (dk_at dksX3_grip_0 5 rfl rfl)
theorem dX3_grip_6 : decode cX3_grip 6 = .ok (.invokevirtual 331, 3) := dk_182 1 75 (dk_at dksX3_grip_0 6 rfl rfl)
theorem dX3_grip_9 : decode cX3_grip 9 = .ok (.ifCond .ne 9, 3) := dk_154 0 9 (dk_at dksX3_grip_0 9 rfl rfl)
theorem dX3_grip_12 : decode cX3_grip 12 = .ok (.aload_n 0, 1) := dk_42 (dk_at dksX3_grip_0 12 rfl rfl)
theorem dX3_grip_13 : decode cX3_grip 13 = .ok (.iconst 1, 1) := dk_4 (dk_at dksX3_grip_0 13 rfl rfl)
theorem dX3_grip_14 : decode cX3_grip 14 = .ok (.invokevirtual 252, 3) := dk_182 0 252 (dk_at dksX3_grip_0 14 rfl rfl)
theorem dX3_grip_17 : decode cX3_grip 17 = .ok (.ireturn, 1) := dk_172 (dk_at dksX3_grip_0 17 rfl rfl)
theorem dX3_grip_18 : decode cX3_grip 18 = .ok (.iload_n 2, 1) := dk_28 (dk_at dksX3_grip_0 18 rfl rfl)
theorem dX3_grip_19 : decode cX3_grip 19 = .ok (.iconst 0, 1) := dk_3 (dk_at dksX3_grip_0 19 rfl rfl)
theorem dX3_grip_20 : decode cX3_grip 20 = .ok (.bipush 90, 2) := dk_16 90 (dk_at dksX3_grip_0 20 rfl rfl)
theorem dX3_grip_22 : decode cX3_grip 22 = .ok (.invokestatic 220, 3) := dk_184 0 220 (dk_at dksX3_grip_1 0 rfl rfl)
theorem dX3_grip_25 : decode cX3_grip 25 = .ok (.ifCond .eq 21, 3) := dk_153 0 21 (dk_at dksX3_grip_1 3 rfl rfl)
theorem dX3_grip_28 : decode cX3_grip 28 = .ok (.aload_n 0, 1) := dk_42 (dk_at dksX3_grip_1 6 rfl rfl)
theorem dX3_grip_29 : decode cX3_grip 29 = .ok (.getfield 37, 3) := dk_180 0 37 (dk_at dksX3_grip_1 7 rfl rfl)
theorem dX3_grip_32 : decode cX3_grip 32 = .ok (.iload_n 1, 1) := dk_27 (dk_at dksX3_grip_1 10 rfl rfl)
theorem dX3_grip_33 : decode cX3_grip 33 = .ok (.aload_n 0, 1) := dk_42 (dk_at dksX3_grip_1 11 rfl rfl)
theorem dX3_grip_34 : decode cX3_grip 34 = .ok (.getfield 31, 3) := dk_180 0 31 (dk_at dksX3_grip_1 12 rfl rfl)
theorem dX3_grip_37 : decode cX3_grip 37 = .ok (.iload_n 1, 1) := dk_27 (dk_at dksX3_grip_1 15 rfl rfl)
theorem dX3_grip_38 : decode cX3_grip 38 = .ok (.iaload, 1) := dk_46 (dk_at dksX3_grip_1 16 rfl rfl)
theorem dX3_grip_39 : decode cX3_grip 39 = .ok (.iload_n 2, 1) := dk_28 (dk_at dksX3_grip_1 17 rfl rfl)
theorem dX3_grip_40 : decode cX3_grip 40 = .ok (.invokestatic 334, 3) := dk_184 1 78 (dk_at dksX3_grip_1 18 rfl rfl)
theorem dX3_grip_43 : decode cX3_grip 43 = .ok (.goto 8, 3) := dk_167 0 8 (dk_at dksX3_grip_1 21 rfl rfl)
theorem dX3_grip_46 : decode cX3_grip 46 = .ok (.aload_n 0, 1) := dk_42 (dk_at dksX3_grip_2 0 rfl rfl)
theorem dX3_grip_47 : decode cX3_grip 47 = .ok (.iconst 2, 1) := dk_5 (dk_at dksX3_grip_2 1 rfl rfl)
theorem dX3_grip_48 : decode cX3_grip 48 = .ok (.invokevirtual 252, 3) := dk_182 0 252 (dk_at dksX3_grip_2 2 rfl rfl)
theorem dX3_grip_51 : decode cX3_grip 51 = .ok (.ireturn, 1) := dk_172 (dk_at dksX3_grip_2 5 rfl rfl)
abbrev cX3_dead : ByteArray := prog_23_method_34_code
def yX3_dead : MethodName := ⟨RX3, "dead", "(I)Z"⟩
def dkwX3_dead_2 : List UInt8 := [172]
abbrev dktX3_dead_2 : List UInt8 := dkwX3_dead_2 ++ []
def dkwX3_dead_1 : List UInt8 := [100, 184, 0, 220, 154, 0, 9, 42, 5, 182, 1, 82, 172, 42, 27, 181, 1, 28, 42, 3, 181, 1, 31, 4]
abbrev dktX3_dead_1 : List UInt8 := dkwX3_dead_1 ++ dktX3_dead_2
def dkwX3_dead_0 : List UInt8 := [42, 182, 0, 249, 42, 180, 1, 13, 154, 0, 9, 42, 4, 182, 1, 82, 172, 27, 3, 42, 180, 0, 234, 4]
abbrev dktX3_dead_0 : List UInt8 := dkwX3_dead_0 ++ dktX3_dead_1
theorem dksX3_dead_0 : cX3_dead.data.toList.drop 0 = dktX3_dead_0 := by decide +kernel
theorem dksX3_dead_1 : cX3_dead.data.toList.drop 24 = dktX3_dead_1 := dk_seg dksX3_dead_0 24 rfl rfl
theorem dksX3_dead_2 : cX3_dead.data.toList.drop 48 = dktX3_dead_2 := dk_seg dksX3_dead_1 24 rfl rfl
theorem dX3_dead_0 : decode cX3_dead 0 = .ok (.aload_n 0, 1) := dk_42 (dk_at dksX3_dead_0 0 rfl rfl)
theorem dX3_dead_1 : decode cX3_dead 1 = .ok (.invokevirtual 249, 3) := dk_182 0 249 (dk_at dksX3_dead_0 1 rfl rfl)
theorem dX3_dead_4 : decode cX3_dead 4 = .ok (.aload_n 0, 1) := dk_42 (dk_at dksX3_dead_0 4 rfl rfl)
theorem dX3_dead_5 : decode cX3_dead 5 = .ok (.getfield 269, 3) := dk_180 1 13 (dk_at dksX3_dead_0 5 rfl rfl)
theorem dX3_dead_8 : decode cX3_dead 8 = .ok (.ifCond .ne 9, 3) := dk_154 0 9 (dk_at dksX3_dead_0 8 rfl rfl)
theorem dX3_dead_11 : decode cX3_dead 11 = .ok (.aload_n 0, 1) := dk_42 (dk_at dksX3_dead_0 11 rfl rfl)
theorem dX3_dead_12 : decode cX3_dead 12 = .ok (.iconst 1, 1) := dk_4 (dk_at dksX3_dead_0 12 rfl rfl)
theorem dX3_dead_13 : decode cX3_dead 13 = .ok (.invokevirtual 338, 3) := dk_182 1 82 (dk_at dksX3_dead_0 13 rfl rfl)
theorem dX3_dead_16 : decode cX3_dead 16 = .ok (.ireturn, 1) := dk_172 (dk_at dksX3_dead_0 16 rfl rfl)
theorem dX3_dead_17 : decode cX3_dead 17 = .ok (.iload_n 1, 1) := dk_27 (dk_at dksX3_dead_0 17 rfl rfl)
theorem dX3_dead_18 : decode cX3_dead 18 = .ok (.iconst 0, 1) := dk_3 (dk_at dksX3_dead_0 18 rfl rfl)
theorem dX3_dead_19 : decode cX3_dead 19 = .ok (.aload_n 0, 1) := dk_42 (dk_at dksX3_dead_0 19 rfl rfl)
theorem dX3_dead_20 : decode cX3_dead 20 = .ok (.getfield 234, 3) := dk_180 0 234 (dk_at dksX3_dead_0 20 rfl rfl)
theorem dX3_dead_23 : decode cX3_dead 23 = .ok (.iconst 1, 1) := dk_4 (dk_at dksX3_dead_0 23 rfl rfl)
theorem dX3_dead_24 : decode cX3_dead 24 = .ok (.isub, 1) := dk_100 (dk_at dksX3_dead_1 0 rfl rfl)
theorem dX3_dead_25 : decode cX3_dead 25 = .ok (.invokestatic 220, 3) := dk_184 0 220 (dk_at dksX3_dead_1 1 rfl rfl)
theorem dX3_dead_28 : decode cX3_dead 28 = .ok (.ifCond .ne 9, 3) := dk_154 0 9 (dk_at dksX3_dead_1 4 rfl rfl)
theorem dX3_dead_31 : decode cX3_dead 31 = .ok (.aload_n 0, 1) := dk_42 (dk_at dksX3_dead_1 7 rfl rfl)
theorem dX3_dead_32 : decode cX3_dead 32 = .ok (.iconst 2, 1) := dk_5 (dk_at dksX3_dead_1 8 rfl rfl)
theorem dX3_dead_33 : decode cX3_dead 33 = .ok (.invokevirtual 338, 3) := dk_182 1 82 (dk_at dksX3_dead_1 9 rfl rfl)
theorem dX3_dead_36 : decode cX3_dead 36 = .ok (.ireturn, 1) := dk_172 (dk_at dksX3_dead_1 12 rfl rfl)
theorem dX3_dead_37 : decode cX3_dead 37 = .ok (.aload_n 0, 1) := dk_42 (dk_at dksX3_dead_1 13 rfl rfl)
theorem dX3_dead_38 : decode cX3_dead 38 = .ok (.iload_n 1, 1) := dk_27 (dk_at dksX3_dead_1 14 rfl rfl)
theorem dX3_dead_39 : decode cX3_dead 39 = .ok (.putfield 284, 3) := dk_181 1 28 (dk_at dksX3_dead_1 15 rfl rfl)
theorem dX3_dead_42 : decode cX3_dead 42 = .ok (.aload_n 0, 1) := dk_42 (dk_at dksX3_dead_1 18 rfl rfl)
theorem dX3_dead_43 : decode cX3_dead 43 = .ok (.iconst 0, 1) := dk_3 (dk_at dksX3_dead_1 19 rfl rfl)
theorem dX3_dead_44 : decode cX3_dead 44 = .ok (.putfield 287, 3) := dk_181 1 31 (dk_at dksX3_dead_1 20 rfl rfl)
theorem dX3_dead_47 : decode cX3_dead 47 = .ok (.iconst 1, 1) := dk_4 (dk_at dksX3_dead_1 23 rfl rfl)
theorem dX3_dead_48 : decode cX3_dead 48 = .ok (.ireturn, 1) := dk_172 (dk_at dksX3_dead_2 0 rfl rfl)
abbrev cX3_not : ByteArray := prog_23_method_5_code
def yX3_not : MethodName := ⟨RX3, "not", "(I)Z"⟩
def dkwX3_not_0 : List UInt8 := [42, 27, 181, 0, 134, 3, 172]
abbrev dktX3_not_0 : List UInt8 := dkwX3_not_0 ++ []
theorem dksX3_not_0 : cX3_not.data.toList.drop 0 = dktX3_not_0 := by decide +kernel
theorem dX3_not_0 : decode cX3_not 0 = .ok (.aload_n 0, 1) := dk_42 (dk_at dksX3_not_0 0 rfl rfl)
theorem dX3_not_1 : decode cX3_not 1 = .ok (.iload_n 1, 1) := dk_27 (dk_at dksX3_not_0 1 rfl rfl)
theorem dX3_not_2 : decode cX3_not 2 = .ok (.putfield 134, 3) := dk_181 0 134 (dk_at dksX3_not_0 2 rfl rfl)
theorem dX3_not_5 : decode cX3_not 5 = .ok (.iconst 0, 1) := dk_3 (dk_at dksX3_not_0 5 rfl rfl)
theorem dX3_not_6 : decode cX3_not 6 = .ok (.ireturn, 1) := dk_172 (dk_at dksX3_not_0 6 rfl rfl)
abbrev cX3_map : ByteArray := prog_23_method_35_code
def yX3_map : MethodName := ⟨RX3, "map", "(II)I"⟩
def dkwX3_map_5 : List UInt8 := [172]
abbrev dktX3_map_5 : List UInt8 := dkwX3_map_5 ++ []
def dkwX3_map_4 : List UInt8 := [79, 42, 180, 0, 55, 29, 3, 79, 42, 180, 0, 58, 29, 2, 79, 132, 3, 1, 167, 255, 226, 27, 28, 104]
abbrev dktX3_map_4 : List UInt8 := dkwX3_map_4 ++ dktX3_map_5
def dkwX3_map_3 : List UInt8 := [42, 3, 181, 1, 22, 42, 3, 181, 1, 31, 3, 62, 29, 16, 100, 162, 0, 30, 42, 180, 0, 52, 29, 3]
abbrev dktX3_map_3 : List UInt8 := dkwX3_map_3 ++ dktX3_map_4
def dkwX3_map_2 : List UInt8 := [182, 0, 252, 172, 42, 4, 181, 1, 19, 42, 27, 181, 1, 85, 42, 28, 181, 1, 88, 42, 3, 181, 1, 25]
abbrev dktX3_map_2 : List UInt8 := dkwX3_map_2 ++ dktX3_map_3
def dkwX3_map_1 : List UInt8 := [27, 4, 16, 10, 184, 0, 220, 153, 0, 13, 28, 4, 16, 10, 184, 0, 220, 154, 0, 9, 42, 5]
abbrev dktX3_map_1 : List UInt8 := dkwX3_map_1 ++ dktX3_map_2
def dkwX3_map_0 : List UInt8 := [42, 182, 0, 249, 42, 180, 1, 13, 153, 0, 10, 42, 180, 0, 228, 154, 0, 9, 42, 4, 182, 0, 252, 172]
abbrev dktX3_map_0 : List UInt8 := dkwX3_map_0 ++ dktX3_map_1
theorem dksX3_map_0 : cX3_map.data.toList.drop 0 = dktX3_map_0 := by decide +kernel
theorem dksX3_map_1 : cX3_map.data.toList.drop 24 = dktX3_map_1 := dk_seg dksX3_map_0 24 rfl rfl
theorem dksX3_map_2 : cX3_map.data.toList.drop 46 = dktX3_map_2 := dk_seg dksX3_map_1 22 rfl rfl
theorem dksX3_map_3 : cX3_map.data.toList.drop 70 = dktX3_map_3 := dk_seg dksX3_map_2 24 rfl rfl
theorem dksX3_map_4 : cX3_map.data.toList.drop 94 = dktX3_map_4 := dk_seg dksX3_map_3 24 rfl rfl
theorem dksX3_map_5 : cX3_map.data.toList.drop 118 = dktX3_map_5 := dk_seg dksX3_map_4 24 rfl rfl
theorem dX3_map_0 : decode cX3_map 0 = .ok (.aload_n 0, 1) := dk_42 (dk_at dksX3_map_0 0 rfl rfl)
theorem dX3_map_1 : decode cX3_map 1 = .ok (.invokevirtual 249, 3) := dk_182 0 249 (dk_at dksX3_map_0 1 rfl rfl)
theorem dX3_map_4 : decode cX3_map 4 = .ok (.aload_n 0, 1) := dk_42 (dk_at dksX3_map_0 4 rfl rfl)
theorem dX3_map_5 : decode cX3_map 5 = .ok (.getfield 269, 3) := dk_180 1 13 (dk_at dksX3_map_0 5 rfl rfl)
theorem dX3_map_8 : decode cX3_map 8 = .ok (.ifCond .eq 10, 3) := dk_153 0 10 (dk_at dksX3_map_0 8 rfl rfl)
theorem dX3_map_11 : decode cX3_map 11 = .ok (.aload_n 0, 1) := dk_42 (dk_at dksX3_map_0 11 rfl rfl)
theorem dX3_map_12 : decode cX3_map 12 = .ok (.getfield 228, 3) := dk_180 0 228 (dk_at dksX3_map_0 12 rfl rfl)
theorem dX3_map_15 : decode cX3_map 15 = .ok (.ifCond .ne 9, 3) := dk_154 0 9 (dk_at dksX3_map_0 15 rfl rfl)
theorem dX3_map_18 : decode cX3_map 18 = .ok (.aload_n 0, 1) := dk_42 (dk_at dksX3_map_0 18 rfl rfl)
theorem dX3_map_19 : decode cX3_map 19 = .ok (.iconst 1, 1) := dk_4 (dk_at dksX3_map_0 19 rfl rfl)
theorem dX3_map_20 : decode cX3_map 20 = .ok (.invokevirtual 252, 3) := dk_182 0 252 (dk_at dksX3_map_0 20 rfl rfl)
theorem dX3_map_23 : decode cX3_map 23 = .ok (.ireturn, 1) := dk_172 (dk_at dksX3_map_0 23 rfl rfl)
theorem dX3_map_24 : decode cX3_map 24 = .ok (.iload_n 1, 1) := dk_27 (dk_at dksX3_map_1 0 rfl rfl)
theorem dX3_map_25 : decode cX3_map 25 = .ok (.iconst 1, 1) := dk_4 (dk_at dksX3_map_1 1 rfl rfl)
theorem dX3_map_26 : decode cX3_map 26 = .ok (.bipush 10, 2) := dk_16 10 (dk_at dksX3_map_1 2 rfl rfl)
theorem dX3_map_28 : decode cX3_map 28 = .ok (.invokestatic 220, 3) := dk_184 0 220 (dk_at dksX3_map_1 4 rfl rfl)
theorem dX3_map_31 : decode cX3_map 31 = .ok (.ifCond .eq 13, 3) := dk_153 0 13 (dk_at dksX3_map_1 7 rfl rfl)
theorem dX3_map_34 : decode cX3_map 34 = .ok (.iload_n 2, 1) := dk_28 (dk_at dksX3_map_1 10 rfl rfl)
theorem dX3_map_35 : decode cX3_map 35 = .ok (.iconst 1, 1) := dk_4 (dk_at dksX3_map_1 11 rfl rfl)
theorem dX3_map_36 : decode cX3_map 36 = .ok (.bipush 10, 2) := dk_16 10 (dk_at dksX3_map_1 12 rfl rfl)
theorem dX3_map_38 : decode cX3_map 38 = .ok (.invokestatic 220, 3) := dk_184 0 220 (dk_at dksX3_map_1 14 rfl rfl)
theorem dX3_map_41 : decode cX3_map 41 = .ok (.ifCond .ne 9, 3) := dk_154 0 9 (dk_at dksX3_map_1 17 rfl rfl)
theorem dX3_map_44 : decode cX3_map 44 = .ok (.aload_n 0, 1) := dk_42 (dk_at dksX3_map_1 20 rfl rfl)
theorem dX3_map_45 : decode cX3_map 45 = .ok (.iconst 2, 1) := dk_5 (dk_at dksX3_map_1 21 rfl rfl)
theorem dX3_map_46 : decode cX3_map 46 = .ok (.invokevirtual 252, 3) := dk_182 0 252 (dk_at dksX3_map_2 0 rfl rfl)
theorem dX3_map_49 : decode cX3_map 49 = .ok (.ireturn, 1) := dk_172 (dk_at dksX3_map_2 3 rfl rfl)
theorem dX3_map_50 : decode cX3_map 50 = .ok (.aload_n 0, 1) := dk_42 (dk_at dksX3_map_2 4 rfl rfl)
theorem dX3_map_51 : decode cX3_map 51 = .ok (.iconst 1, 1) := dk_4 (dk_at dksX3_map_2 5 rfl rfl)
theorem dX3_map_52 : decode cX3_map 52 = .ok (.putfield 275, 3) := dk_181 1 19 (dk_at dksX3_map_2 6 rfl rfl)
theorem dX3_map_55 : decode cX3_map 55 = .ok (.aload_n 0, 1) := dk_42 (dk_at dksX3_map_2 9 rfl rfl)
theorem dX3_map_56 : decode cX3_map 56 = .ok (.iload_n 1, 1) := dk_27 (dk_at dksX3_map_2 10 rfl rfl)
theorem dX3_map_57 : decode cX3_map 57 = .ok (.putfield 341, 3) := dk_181 1 85 (dk_at dksX3_map_2 11 rfl rfl)
theorem dX3_map_60 : decode cX3_map 60 = .ok (.aload_n 0, 1) := dk_42 (dk_at dksX3_map_2 14 rfl rfl)
theorem dX3_map_61 : decode cX3_map 61 = .ok (.iload_n 2, 1) := dk_28 (dk_at dksX3_map_2 15 rfl rfl)
theorem dX3_map_62 : decode cX3_map 62 = .ok (.putfield 344, 3) := dk_181 1 88 (dk_at dksX3_map_2 16 rfl rfl)
theorem dX3_map_65 : decode cX3_map 65 = .ok (.aload_n 0, 1) := dk_42 (dk_at dksX3_map_2 19 rfl rfl)
theorem dX3_map_66 : decode cX3_map 66 = .ok (.iconst 0, 1) := dk_3 (dk_at dksX3_map_2 20 rfl rfl)
theorem dX3_map_67 : decode cX3_map 67 = .ok (.putfield 281, 3) := dk_181 1 25 (dk_at dksX3_map_2 21 rfl rfl)
theorem dX3_map_70 : decode cX3_map 70 = .ok (.aload_n 0, 1) := dk_42 (dk_at dksX3_map_3 0 rfl rfl)
theorem dX3_map_71 : decode cX3_map 71 = .ok (.iconst 0, 1) := dk_3 (dk_at dksX3_map_3 1 rfl rfl)
theorem dX3_map_72 : decode cX3_map 72 = .ok (.putfield 278, 3) := dk_181 1 22 (dk_at dksX3_map_3 2 rfl rfl)
theorem dX3_map_75 : decode cX3_map 75 = .ok (.aload_n 0, 1) := dk_42 (dk_at dksX3_map_3 5 rfl rfl)
theorem dX3_map_76 : decode cX3_map 76 = .ok (.iconst 0, 1) := dk_3 (dk_at dksX3_map_3 6 rfl rfl)
theorem dX3_map_77 : decode cX3_map 77 = .ok (.putfield 287, 3) := dk_181 1 31 (dk_at dksX3_map_3 7 rfl rfl)
theorem dX3_map_80 : decode cX3_map 80 = .ok (.iconst 0, 1) := dk_3 (dk_at dksX3_map_3 10 rfl rfl)
theorem dX3_map_81 : decode cX3_map 81 = .ok (.istore_n 3, 1) := dk_62 (dk_at dksX3_map_3 11 rfl rfl)
theorem dX3_map_82 : decode cX3_map 82 = .ok (.iload_n 3, 1) := dk_29 (dk_at dksX3_map_3 12 rfl rfl)
theorem dX3_map_83 : decode cX3_map 83 = .ok (.bipush 100, 2) := dk_16 100 (dk_at dksX3_map_3 13 rfl rfl)
theorem dX3_map_85 : decode cX3_map 85 = .ok (.if_icmp .ge 30, 3) := dk_162 0 30 (dk_at dksX3_map_3 15 rfl rfl)
theorem dX3_map_88 : decode cX3_map 88 = .ok (.aload_n 0, 1) := dk_42 (dk_at dksX3_map_3 18 rfl rfl)
theorem dX3_map_89 : decode cX3_map 89 = .ok (.getfield 52, 3) := dk_180 0 52 (dk_at dksX3_map_3 19 rfl rfl)
theorem dX3_map_92 : decode cX3_map 92 = .ok (.iload_n 3, 1) := dk_29 (dk_at dksX3_map_3 22 rfl rfl)
theorem dX3_map_93 : decode cX3_map 93 = .ok (.iconst 0, 1) := dk_3 (dk_at dksX3_map_3 23 rfl rfl)
theorem dX3_map_94 : decode cX3_map 94 = .ok (.iastore, 1) := dk_79 (dk_at dksX3_map_4 0 rfl rfl)
theorem dX3_map_95 : decode cX3_map 95 = .ok (.aload_n 0, 1) := dk_42 (dk_at dksX3_map_4 1 rfl rfl)
theorem dX3_map_96 : decode cX3_map 96 = .ok (.getfield 55, 3) := dk_180 0 55 (dk_at dksX3_map_4 2 rfl rfl)
theorem dX3_map_99 : decode cX3_map 99 = .ok (.iload_n 3, 1) := dk_29 (dk_at dksX3_map_4 5 rfl rfl)
theorem dX3_map_100 : decode cX3_map 100 = .ok (.iconst 0, 1) := dk_3 (dk_at dksX3_map_4 6 rfl rfl)
theorem dX3_map_101 : decode cX3_map 101 = .ok (.iastore, 1) := dk_79 (dk_at dksX3_map_4 7 rfl rfl)
theorem dX3_map_102 : decode cX3_map 102 = .ok (.aload_n 0, 1) := dk_42 (dk_at dksX3_map_4 8 rfl rfl)
theorem dX3_map_103 : decode cX3_map 103 = .ok (.getfield 58, 3) := dk_180 0 58 (dk_at dksX3_map_4 9 rfl rfl)
theorem dX3_map_106 : decode cX3_map 106 = .ok (.iload_n 3, 1) := dk_29 (dk_at dksX3_map_4 12 rfl rfl)
theorem dX3_map_107 : decode cX3_map 107 = .ok (.iconst (-1), 1) := dk_2 (dk_at dksX3_map_4 13 rfl rfl)
theorem dX3_map_108 : decode cX3_map 108 = .ok (.iastore, 1) := dk_79 (dk_at dksX3_map_4 14 rfl rfl)
theorem dX3_map_109 : decode cX3_map 109 = .ok (.iinc 3 1, 3) := dk_132 3 1 (dk_at dksX3_map_4 15 rfl rfl)
theorem dX3_map_112 : decode cX3_map 112 = .ok (.goto (-30), 3) := dk_167 255 226 (dk_at dksX3_map_4 18 rfl rfl)
theorem dX3_map_115 : decode cX3_map 115 = .ok (.iload_n 1, 1) := dk_27 (dk_at dksX3_map_4 21 rfl rfl)
theorem dX3_map_116 : decode cX3_map 116 = .ok (.iload_n 2, 1) := dk_28 (dk_at dksX3_map_4 22 rfl rfl)
theorem dX3_map_117 : decode cX3_map 117 = .ok (.imul, 1) := dk_104 (dk_at dksX3_map_4 23 rfl rfl)
theorem dX3_map_118 : decode cX3_map 118 = .ok (.ireturn, 1) := dk_172 (dk_at dksX3_map_5 0 rfl rfl)
abbrev cX3_height : ByteArray := prog_23_method_38_code
def yX3_height : MethodName := ⟨RX3, "height", "(II)Z"⟩
def dkwX3_height_2 : List UInt8 := [4, 172]
abbrev dktX3_height_2 : List UInt8 := dkwX3_height_2 ++ []
def dkwX3_height_1 : List UInt8 := [184, 0, 220, 154, 0, 9, 42, 5, 182, 1, 82, 172, 42, 180, 0, 52, 27, 28, 79, 42, 3, 181, 1, 31]
abbrev dktX3_height_1 : List UInt8 := dkwX3_height_1 ++ dktX3_height_2
def dkwX3_height_0 : List UInt8 := [42, 182, 0, 249, 42, 27, 182, 1, 91, 154, 0, 9, 42, 4, 182, 1, 82, 172, 28, 3, 17, 3, 231]
abbrev dktX3_height_0 : List UInt8 := dkwX3_height_0 ++ dktX3_height_1
theorem dksX3_height_0 : cX3_height.data.toList.drop 0 = dktX3_height_0 := by decide +kernel
theorem dksX3_height_1 : cX3_height.data.toList.drop 23 = dktX3_height_1 := dk_seg dksX3_height_0 23 rfl rfl
theorem dksX3_height_2 : cX3_height.data.toList.drop 47 = dktX3_height_2 := dk_seg dksX3_height_1 24 rfl rfl
theorem dX3_height_0 : decode cX3_height 0 = .ok (.aload_n 0, 1) := dk_42 (dk_at dksX3_height_0 0 rfl rfl)
theorem dX3_height_1 : decode cX3_height 1 = .ok (.invokevirtual 249, 3) := dk_182 0 249 (dk_at dksX3_height_0 1 rfl rfl)
theorem dX3_height_4 : decode cX3_height 4 = .ok (.aload_n 0, 1) := dk_42 (dk_at dksX3_height_0 4 rfl rfl)
theorem dX3_height_5 : decode cX3_height 5 = .ok (.iload_n 1, 1) := dk_27 (dk_at dksX3_height_0 5 rfl rfl)
theorem dX3_height_6 : decode cX3_height 6 = .ok (.invokevirtual 347, 3) := dk_182 1 91 (dk_at dksX3_height_0 6 rfl rfl)
theorem dX3_height_9 : decode cX3_height 9 = .ok (.ifCond .ne 9, 3) := dk_154 0 9 (dk_at dksX3_height_0 9 rfl rfl)
theorem dX3_height_12 : decode cX3_height 12 = .ok (.aload_n 0, 1) := dk_42 (dk_at dksX3_height_0 12 rfl rfl)
theorem dX3_height_13 : decode cX3_height 13 = .ok (.iconst 1, 1) := dk_4 (dk_at dksX3_height_0 13 rfl rfl)
theorem dX3_height_14 : decode cX3_height 14 = .ok (.invokevirtual 338, 3) := dk_182 1 82 (dk_at dksX3_height_0 14 rfl rfl)
theorem dX3_height_17 : decode cX3_height 17 = .ok (.ireturn, 1) := dk_172 (dk_at dksX3_height_0 17 rfl rfl)
theorem dX3_height_18 : decode cX3_height 18 = .ok (.iload_n 2, 1) := dk_28 (dk_at dksX3_height_0 18 rfl rfl)
theorem dX3_height_19 : decode cX3_height 19 = .ok (.iconst 0, 1) := dk_3 (dk_at dksX3_height_0 19 rfl rfl)
theorem dX3_height_20 : decode cX3_height 20 = .ok (.sipush 999, 3) := dk_17 3 231 (dk_at dksX3_height_0 20 rfl rfl)
theorem dX3_height_23 : decode cX3_height 23 = .ok (.invokestatic 220, 3) := dk_184 0 220 (dk_at dksX3_height_1 0 rfl rfl)
theorem dX3_height_26 : decode cX3_height 26 = .ok (.ifCond .ne 9, 3) := dk_154 0 9 (dk_at dksX3_height_1 3 rfl rfl)
theorem dX3_height_29 : decode cX3_height 29 = .ok (.aload_n 0, 1) := dk_42 (dk_at dksX3_height_1 6 rfl rfl)
theorem dX3_height_30 : decode cX3_height 30 = .ok (.iconst 2, 1) := dk_5 (dk_at dksX3_height_1 7 rfl rfl)
theorem dX3_height_31 : decode cX3_height 31 = .ok (.invokevirtual 338, 3) := dk_182 1 82 (dk_at dksX3_height_1 8 rfl rfl)
theorem dX3_height_34 : decode cX3_height 34 = .ok (.ireturn, 1) := dk_172 (dk_at dksX3_height_1 11 rfl rfl)
theorem dX3_height_35 : decode cX3_height 35 = .ok (.aload_n 0, 1) := dk_42 (dk_at dksX3_height_1 12 rfl rfl)
theorem dX3_height_36 : decode cX3_height 36 = .ok (.getfield 52, 3) := dk_180 0 52 (dk_at dksX3_height_1 13 rfl rfl)
theorem dX3_height_39 : decode cX3_height 39 = .ok (.iload_n 1, 1) := dk_27 (dk_at dksX3_height_1 16 rfl rfl)
theorem dX3_height_40 : decode cX3_height 40 = .ok (.iload_n 2, 1) := dk_28 (dk_at dksX3_height_1 17 rfl rfl)
theorem dX3_height_41 : decode cX3_height 41 = .ok (.iastore, 1) := dk_79 (dk_at dksX3_height_1 18 rfl rfl)
theorem dX3_height_42 : decode cX3_height 42 = .ok (.aload_n 0, 1) := dk_42 (dk_at dksX3_height_1 19 rfl rfl)
theorem dX3_height_43 : decode cX3_height 43 = .ok (.iconst 0, 1) := dk_3 (dk_at dksX3_height_1 20 rfl rfl)
theorem dX3_height_44 : decode cX3_height 44 = .ok (.putfield 287, 3) := dk_181 1 31 (dk_at dksX3_height_1 21 rfl rfl)
theorem dX3_height_47 : decode cX3_height 47 = .ok (.iconst 1, 1) := dk_4 (dk_at dksX3_height_2 0 rfl rfl)
theorem dX3_height_48 : decode cX3_height 48 = .ok (.ireturn, 1) := dk_172 (dk_at dksX3_height_2 1 rfl rfl)
abbrev cX3_isCell : ByteArray := prog_23_method_36_code
def yX3_isCell : MethodName := ⟨RX3, "isCell", "(I)Z"⟩
def dkwX3_isCell_1 : List UInt8 := [153, 0, 7, 4, 167, 0, 4, 3, 172]
abbrev dktX3_isCell_1 : List UInt8 := dkwX3_isCell_1 ++ []
def dkwX3_isCell_0 : List UInt8 := [42, 180, 1, 19, 153, 0, 26, 27, 3, 42, 180, 1, 85, 42, 180, 1, 88, 104, 4, 100, 184, 0, 220]
abbrev dktX3_isCell_0 : List UInt8 := dkwX3_isCell_0 ++ dktX3_isCell_1
theorem dksX3_isCell_0 : cX3_isCell.data.toList.drop 0 = dktX3_isCell_0 := by decide +kernel
theorem dksX3_isCell_1 : cX3_isCell.data.toList.drop 23 = dktX3_isCell_1 := dk_seg dksX3_isCell_0 23 rfl rfl
theorem dX3_isCell_0 : decode cX3_isCell 0 = .ok (.aload_n 0, 1) := dk_42 (dk_at dksX3_isCell_0 0 rfl rfl)
theorem dX3_isCell_1 : decode cX3_isCell 1 = .ok (.getfield 275, 3) := dk_180 1 19 (dk_at dksX3_isCell_0 1 rfl rfl)
theorem dX3_isCell_4 : decode cX3_isCell 4 = .ok (.ifCond .eq 26, 3) := dk_153 0 26 (dk_at dksX3_isCell_0 4 rfl rfl)
theorem dX3_isCell_7 : decode cX3_isCell 7 = .ok (.iload_n 1, 1) := dk_27 (dk_at dksX3_isCell_0 7 rfl rfl)
theorem dX3_isCell_8 : decode cX3_isCell 8 = .ok (.iconst 0, 1) := dk_3 (dk_at dksX3_isCell_0 8 rfl rfl)
theorem dX3_isCell_9 : decode cX3_isCell 9 = .ok (.aload_n 0, 1) := dk_42 (dk_at dksX3_isCell_0 9 rfl rfl)
theorem dX3_isCell_10 : decode cX3_isCell 10 = .ok (.getfield 341, 3) := dk_180 1 85 (dk_at dksX3_isCell_0 10 rfl rfl)
theorem dX3_isCell_13 : decode cX3_isCell 13 = .ok (.aload_n 0, 1) := dk_42 (dk_at dksX3_isCell_0 13 rfl rfl)
theorem dX3_isCell_14 : decode cX3_isCell 14 = .ok (.getfield 344, 3) := dk_180 1 88 (dk_at dksX3_isCell_0 14 rfl rfl)
theorem dX3_isCell_17 : decode cX3_isCell 17 = .ok (.imul, 1) := dk_104 (dk_at dksX3_isCell_0 17 rfl rfl)
theorem dX3_isCell_18 : decode cX3_isCell 18 = .ok (.iconst 1, 1) := dk_4 (dk_at dksX3_isCell_0 18 rfl rfl)
theorem dX3_isCell_19 : decode cX3_isCell 19 = .ok (.isub, 1) := dk_100 (dk_at dksX3_isCell_0 19 rfl rfl)
theorem dX3_isCell_20 : decode cX3_isCell 20 = .ok (.invokestatic 220, 3) := dk_184 0 220 (dk_at dksX3_isCell_0 20 rfl rfl)
theorem dX3_isCell_23 : decode cX3_isCell 23 = .ok (.ifCond .eq 7, 3) := dk_153 0 7 (dk_at dksX3_isCell_1 0 rfl rfl)
theorem dX3_isCell_26 : decode cX3_isCell 26 = .ok (.iconst 1, 1) := dk_4 (dk_at dksX3_isCell_1 3 rfl rfl)
theorem dX3_isCell_27 : decode cX3_isCell 27 = .ok (.goto 4, 3) := dk_167 0 4 (dk_at dksX3_isCell_1 4 rfl rfl)
theorem dX3_isCell_30 : decode cX3_isCell 30 = .ok (.iconst 0, 1) := dk_3 (dk_at dksX3_isCell_1 7 rfl rfl)
theorem dX3_isCell_31 : decode cX3_isCell 31 = .ok (.ireturn, 1) := dk_172 (dk_at dksX3_isCell_1 8 rfl rfl)
abbrev cX3_ground : ByteArray := prog_23_method_39_code
def yX3_ground : MethodName := ⟨RX3, "ground", "(II)Z"⟩
def dkwX3_ground_2 : List UInt8 := [27, 28, 79, 42, 3, 181, 1, 31, 4, 172]
abbrev dktX3_ground_2 : List UInt8 := dkwX3_ground_2 ++ []
def dkwX3_ground_1 : List UInt8 := [182, 1, 82, 172, 42, 180, 0, 58, 27, 46, 2, 159, 0, 9, 42, 8, 182, 1, 82, 172, 42, 180, 0, 55]
abbrev dktX3_ground_1 : List UInt8 := dkwX3_ground_1 ++ dktX3_ground_2
def dkwX3_ground_0 : List UInt8 := [42, 182, 0, 249, 42, 27, 182, 1, 91, 153, 0, 11, 42, 28, 182, 1, 75, 154, 0, 9, 42, 4]
abbrev dktX3_ground_0 : List UInt8 := dkwX3_ground_0 ++ dktX3_ground_1
theorem dksX3_ground_0 : cX3_ground.data.toList.drop 0 = dktX3_ground_0 := by decide +kernel
theorem dksX3_ground_1 : cX3_ground.data.toList.drop 22 = dktX3_ground_1 := dk_seg dksX3_ground_0 22 rfl rfl
theorem dksX3_ground_2 : cX3_ground.data.toList.drop 46 = dktX3_ground_2 := dk_seg dksX3_ground_1 24 rfl rfl
theorem dX3_ground_0 : decode cX3_ground 0 = .ok (.aload_n 0, 1) := dk_42 (dk_at dksX3_ground_0 0 rfl rfl)
theorem dX3_ground_1 : decode cX3_ground 1 = .ok (.invokevirtual 249, 3) := dk_182 0 249 (dk_at dksX3_ground_0 1 rfl rfl)
theorem dX3_ground_4 : decode cX3_ground 4 = .ok (.aload_n 0, 1) := dk_42 (dk_at dksX3_ground_0 4 rfl rfl)
theorem dX3_ground_5 : decode cX3_ground 5 = .ok (.iload_n 1, 1) := dk_27 (dk_at dksX3_ground_0 5 rfl rfl)
theorem dX3_ground_6 : decode cX3_ground 6 = .ok (.invokevirtual 347, 3) := dk_182 1 91 (dk_at dksX3_ground_0 6 rfl rfl)
theorem dX3_ground_9 : decode cX3_ground 9 = .ok (.ifCond .eq 11, 3) := dk_153 0 11 (dk_at dksX3_ground_0 9 rfl rfl)
theorem dX3_ground_12 : decode cX3_ground 12 = .ok (.aload_n 0, 1) := dk_42 (dk_at dksX3_ground_0 12 rfl rfl)
theorem dX3_ground_13 : decode cX3_ground 13 = .ok (.iload_n 2, 1) := dk_28 (dk_at dksX3_ground_0 13 rfl rfl)
theorem dX3_ground_14 : decode cX3_ground 14 = .ok (.invokevirtual 331, 3) := dk_182 1 75 (dk_at dksX3_ground_0 14 rfl rfl)
theorem dX3_ground_17 : decode cX3_ground 17 = .ok (.ifCond .ne 9, 3) := dk_154 0 9 (dk_at dksX3_ground_0 17 rfl rfl)
theorem dX3_ground_20 : decode cX3_ground 20 = .ok (.aload_n 0, 1) := dk_42 (dk_at dksX3_ground_0 20 rfl rfl)
theorem dX3_ground_21 : decode cX3_ground 21 = .ok (.iconst 1, 1) := dk_4 (dk_at dksX3_ground_0 21 rfl rfl)
theorem dX3_ground_22 : decode cX3_ground 22 = .ok (.invokevirtual 338, 3) := dk_182 1 82 (dk_at dksX3_ground_1 0 rfl rfl)
theorem dX3_ground_25 : decode cX3_ground 25 = .ok (.ireturn, 1) := dk_172 (dk_at dksX3_ground_1 3 rfl rfl)
theorem dX3_ground_26 : decode cX3_ground 26 = .ok (.aload_n 0, 1) := dk_42 (dk_at dksX3_ground_1 4 rfl rfl)
theorem dX3_ground_27 : decode cX3_ground 27 = .ok (.getfield 58, 3) := dk_180 0 58 (dk_at dksX3_ground_1 5 rfl rfl)
theorem dX3_ground_30 : decode cX3_ground 30 = .ok (.iload_n 1, 1) := dk_27 (dk_at dksX3_ground_1 8 rfl rfl)
theorem dX3_ground_31 : decode cX3_ground 31 = .ok (.iaload, 1) := dk_46 (dk_at dksX3_ground_1 9 rfl rfl)
theorem dX3_ground_32 : decode cX3_ground 32 = .ok (.iconst (-1), 1) := dk_2 (dk_at dksX3_ground_1 10 rfl rfl)
theorem dX3_ground_33 : decode cX3_ground 33 = .ok (.if_icmp .eq 9, 3) := dk_159 0 9 (dk_at dksX3_ground_1 11 rfl rfl)
theorem dX3_ground_36 : decode cX3_ground 36 = .ok (.aload_n 0, 1) := dk_42 (dk_at dksX3_ground_1 14 rfl rfl)
theorem dX3_ground_37 : decode cX3_ground 37 = .ok (.iconst 5, 1) := dk_8 (dk_at dksX3_ground_1 15 rfl rfl)
theorem dX3_ground_38 : decode cX3_ground 38 = .ok (.invokevirtual 338, 3) := dk_182 1 82 (dk_at dksX3_ground_1 16 rfl rfl)
theorem dX3_ground_41 : decode cX3_ground 41 = .ok (.ireturn, 1) := dk_172 (dk_at dksX3_ground_1 19 rfl rfl)
theorem dX3_ground_42 : decode cX3_ground 42 = .ok (.aload_n 0, 1) := dk_42 (dk_at dksX3_ground_1 20 rfl rfl)
theorem dX3_ground_43 : decode cX3_ground 43 = .ok (.getfield 55, 3) := dk_180 0 55 (dk_at dksX3_ground_1 21 rfl rfl)
theorem dX3_ground_46 : decode cX3_ground 46 = .ok (.iload_n 1, 1) := dk_27 (dk_at dksX3_ground_2 0 rfl rfl)
theorem dX3_ground_47 : decode cX3_ground 47 = .ok (.iload_n 2, 1) := dk_28 (dk_at dksX3_ground_2 1 rfl rfl)
theorem dX3_ground_48 : decode cX3_ground 48 = .ok (.iastore, 1) := dk_79 (dk_at dksX3_ground_2 2 rfl rfl)
theorem dX3_ground_49 : decode cX3_ground 49 = .ok (.aload_n 0, 1) := dk_42 (dk_at dksX3_ground_2 3 rfl rfl)
theorem dX3_ground_50 : decode cX3_ground 50 = .ok (.iconst 0, 1) := dk_3 (dk_at dksX3_ground_2 4 rfl rfl)
theorem dX3_ground_51 : decode cX3_ground 51 = .ok (.putfield 287, 3) := dk_181 1 31 (dk_at dksX3_ground_2 5 rfl rfl)
theorem dX3_ground_54 : decode cX3_ground 54 = .ok (.iconst 1, 1) := dk_4 (dk_at dksX3_ground_2 8 rfl rfl)
theorem dX3_ground_55 : decode cX3_ground 55 = .ok (.ireturn, 1) := dk_172 (dk_at dksX3_ground_2 9 rfl rfl)
abbrev cX3_doubt : ByteArray := prog_23_method_40_code
def yX3_doubt : MethodName := ⟨RX3, "doubt", "(I)I"⟩
def dkwX3_doubt_6 : List UInt8 := [172]
abbrev dktX3_doubt_6 : List UInt8 := dkwX3_doubt_6 ++ []
def dkwX3_doubt_5 : List UInt8 := [167, 255, 218, 42, 89, 180, 1, 25, 4, 96, 181, 1, 25, 42, 3, 181, 1, 31, 42, 180, 1, 25, 4, 100]
abbrev dktX3_doubt_5 : List UInt8 := dkwX3_doubt_5 ++ dktX3_doubt_6
def dkwX3_doubt_4 : List UInt8 := [104, 28, 96, 28, 42, 180, 0, 55, 27, 46, 160, 0, 7, 4, 167, 0, 4, 3, 79, 132, 2, 1]
abbrev dktX3_doubt_4 : List UInt8 := dkwX3_doubt_4 ++ dktX3_doubt_5
def dkwX3_doubt_3 : List UInt8 := [42, 180, 1, 25, 2, 79, 3, 61, 28, 16, 8, 162, 0, 38, 42, 180, 0, 67, 16, 8, 42, 180, 1, 25]
abbrev dktX3_doubt_3 : List UInt8 := dkwX3_doubt_3 ++ dktX3_doubt_4
def dkwX3_doubt_2 : List UInt8 := [42, 180, 0, 58, 27, 42, 180, 1, 25, 79, 42, 180, 0, 61, 42, 180, 1, 25, 27, 79, 42, 180, 0, 64]
abbrev dktX3_doubt_2 : List UInt8 := dkwX3_doubt_2 ++ dktX3_doubt_3
def dkwX3_doubt_1 : List UInt8 := [2, 159, 0, 9, 42, 8, 182, 0, 252, 172, 42, 180, 1, 25, 8, 160, 0, 9, 42, 6, 182, 0, 252, 172]
abbrev dktX3_doubt_1 : List UInt8 := dkwX3_doubt_1 ++ dktX3_doubt_2
def dkwX3_doubt_0 : List UInt8 := [42, 182, 0, 249, 42, 27, 182, 1, 91, 154, 0, 9, 42, 4, 182, 0, 252, 172, 42, 180, 0, 58, 27, 46]
abbrev dktX3_doubt_0 : List UInt8 := dkwX3_doubt_0 ++ dktX3_doubt_1
theorem dksX3_doubt_0 : cX3_doubt.data.toList.drop 0 = dktX3_doubt_0 := by decide +kernel
theorem dksX3_doubt_1 : cX3_doubt.data.toList.drop 24 = dktX3_doubt_1 := dk_seg dksX3_doubt_0 24 rfl rfl
theorem dksX3_doubt_2 : cX3_doubt.data.toList.drop 48 = dktX3_doubt_2 := dk_seg dksX3_doubt_1 24 rfl rfl
theorem dksX3_doubt_3 : cX3_doubt.data.toList.drop 72 = dktX3_doubt_3 := dk_seg dksX3_doubt_2 24 rfl rfl
theorem dksX3_doubt_4 : cX3_doubt.data.toList.drop 96 = dktX3_doubt_4 := dk_seg dksX3_doubt_3 24 rfl rfl
theorem dksX3_doubt_5 : cX3_doubt.data.toList.drop 118 = dktX3_doubt_5 := dk_seg dksX3_doubt_4 22 rfl rfl
theorem dksX3_doubt_6 : cX3_doubt.data.toList.drop 142 = dktX3_doubt_6 := dk_seg dksX3_doubt_5 24 rfl rfl
theorem dX3_doubt_0 : decode cX3_doubt 0 = .ok (.aload_n 0, 1) := dk_42 (dk_at dksX3_doubt_0 0 rfl rfl)
theorem dX3_doubt_1 : decode cX3_doubt 1 = .ok (.invokevirtual 249, 3) := dk_182 0 249 (dk_at dksX3_doubt_0 1 rfl rfl)
theorem dX3_doubt_4 : decode cX3_doubt 4 = .ok (.aload_n 0, 1) := dk_42 (dk_at dksX3_doubt_0 4 rfl rfl)
theorem dX3_doubt_5 : decode cX3_doubt 5 = .ok (.iload_n 1, 1) := dk_27 (dk_at dksX3_doubt_0 5 rfl rfl)
theorem dX3_doubt_6 : decode cX3_doubt 6 = .ok (.invokevirtual 347, 3) := dk_182 1 91 (dk_at dksX3_doubt_0 6 rfl rfl)
theorem dX3_doubt_9 : decode cX3_doubt 9 = .ok (.ifCond .ne 9, 3) := dk_154 0 9 (dk_at dksX3_doubt_0 9 rfl rfl)
theorem dX3_doubt_12 : decode cX3_doubt 12 = .ok (.aload_n 0, 1) := dk_42 (dk_at dksX3_doubt_0 12 rfl rfl)
theorem dX3_doubt_13 : decode cX3_doubt 13 = .ok (.iconst 1, 1) := dk_4 (dk_at dksX3_doubt_0 13 rfl rfl)
theorem dX3_doubt_14 : decode cX3_doubt 14 = .ok (.invokevirtual 252, 3) := dk_182 0 252 (dk_at dksX3_doubt_0 14 rfl rfl)
theorem dX3_doubt_17 : decode cX3_doubt 17 = .ok (.ireturn, 1) := dk_172 (dk_at dksX3_doubt_0 17 rfl rfl)
theorem dX3_doubt_18 : decode cX3_doubt 18 = .ok (.aload_n 0, 1) := dk_42 (dk_at dksX3_doubt_0 18 rfl rfl)
theorem dX3_doubt_19 : decode cX3_doubt 19 = .ok (.getfield 58, 3) := dk_180 0 58 (dk_at dksX3_doubt_0 19 rfl rfl)
theorem dX3_doubt_22 : decode cX3_doubt 22 = .ok (.iload_n 1, 1) := dk_27 (dk_at dksX3_doubt_0 22 rfl rfl)
theorem dX3_doubt_23 : decode cX3_doubt 23 = .ok (.iaload, 1) := dk_46 (dk_at dksX3_doubt_0 23 rfl rfl)
theorem dX3_doubt_24 : decode cX3_doubt 24 = .ok (.iconst (-1), 1) := dk_2 (dk_at dksX3_doubt_1 0 rfl rfl)
theorem dX3_doubt_25 : decode cX3_doubt 25 = .ok (.if_icmp .eq 9, 3) := dk_159 0 9 (dk_at dksX3_doubt_1 1 rfl rfl)
theorem dX3_doubt_28 : decode cX3_doubt 28 = .ok (.aload_n 0, 1) := dk_42 (dk_at dksX3_doubt_1 4 rfl rfl)
theorem dX3_doubt_29 : decode cX3_doubt 29 = .ok (.iconst 5, 1) := dk_8 (dk_at dksX3_doubt_1 5 rfl rfl)
theorem dX3_doubt_30 : decode cX3_doubt 30 = .ok (.invokevirtual 252, 3) := dk_182 0 252 (dk_at dksX3_doubt_1 6 rfl rfl)
theorem dX3_doubt_33 : decode cX3_doubt 33 = .ok (.ireturn, 1) := dk_172 (dk_at dksX3_doubt_1 9 rfl rfl)
theorem dX3_doubt_34 : decode cX3_doubt 34 = .ok (.aload_n 0, 1) := dk_42 (dk_at dksX3_doubt_1 10 rfl rfl)
theorem dX3_doubt_35 : decode cX3_doubt 35 = .ok (.getfield 281, 3) := dk_180 1 25 (dk_at dksX3_doubt_1 11 rfl rfl)
theorem dX3_doubt_38 : decode cX3_doubt 38 = .ok (.iconst 5, 1) := dk_8 (dk_at dksX3_doubt_1 14 rfl rfl)
theorem dX3_doubt_39 : decode cX3_doubt 39 = .ok (.if_icmp .ne 9, 3) := dk_160 0 9 (dk_at dksX3_doubt_1 15 rfl rfl)
theorem dX3_doubt_42 : decode cX3_doubt 42 = .ok (.aload_n 0, 1) := dk_42 (dk_at dksX3_doubt_1 18 rfl rfl)
theorem dX3_doubt_43 : decode cX3_doubt 43 = .ok (.iconst 3, 1) := dk_6 (dk_at dksX3_doubt_1 19 rfl rfl)
theorem dX3_doubt_44 : decode cX3_doubt 44 = .ok (.invokevirtual 252, 3) := dk_182 0 252 (dk_at dksX3_doubt_1 20 rfl rfl)
theorem dX3_doubt_47 : decode cX3_doubt 47 = .ok (.ireturn, 1) := dk_172 (dk_at dksX3_doubt_1 23 rfl rfl)
theorem dX3_doubt_48 : decode cX3_doubt 48 = .ok (.aload_n 0, 1) := dk_42 (dk_at dksX3_doubt_2 0 rfl rfl)
theorem dX3_doubt_49 : decode cX3_doubt 49 = .ok (.getfield 58, 3) := dk_180 0 58 (dk_at dksX3_doubt_2 1 rfl rfl)
theorem dX3_doubt_52 : decode cX3_doubt 52 = .ok (.iload_n 1, 1) := dk_27 (dk_at dksX3_doubt_2 4 rfl rfl)
theorem dX3_doubt_53 : decode cX3_doubt 53 = .ok (.aload_n 0, 1) := dk_42 (dk_at dksX3_doubt_2 5 rfl rfl)
theorem dX3_doubt_54 : decode cX3_doubt 54 = .ok (.getfield 281, 3) := dk_180 1 25 (dk_at dksX3_doubt_2 6 rfl rfl)
theorem dX3_doubt_57 : decode cX3_doubt 57 = .ok (.iastore, 1) := dk_79 (dk_at dksX3_doubt_2 9 rfl rfl)
theorem dX3_doubt_58 : decode cX3_doubt 58 = .ok (.aload_n 0, 1) := dk_42 (dk_at dksX3_doubt_2 10 rfl rfl)
theorem dX3_doubt_59 : decode cX3_doubt 59 = .ok (.getfield 61, 3) := dk_180 0 61 (dk_at dksX3_doubt_2 11 rfl rfl)
theorem dX3_doubt_62 : decode cX3_doubt 62 = .ok (.aload_n 0, 1) := dk_42 (dk_at dksX3_doubt_2 14 rfl rfl)
theorem dX3_doubt_63 : decode cX3_doubt 63 = .ok (.getfield 281, 3) := dk_180 1 25 (dk_at dksX3_doubt_2 15 rfl rfl)
theorem dX3_doubt_66 : decode cX3_doubt 66 = .ok (.iload_n 1, 1) := dk_27 (dk_at dksX3_doubt_2 18 rfl rfl)
theorem dX3_doubt_67 : decode cX3_doubt 67 = .ok (.iastore, 1) := dk_79 (dk_at dksX3_doubt_2 19 rfl rfl)
theorem dX3_doubt_68 : decode cX3_doubt 68 = .ok (.aload_n 0, 1) := dk_42 (dk_at dksX3_doubt_2 20 rfl rfl)
theorem dX3_doubt_69 : decode cX3_doubt 69 = .ok (.getfield 64, 3) := dk_180 0 64 (dk_at dksX3_doubt_2 21 rfl rfl)
theorem dX3_doubt_72 : decode cX3_doubt 72 = .ok (.aload_n 0, 1) := dk_42 (dk_at dksX3_doubt_3 0 rfl rfl)
theorem dX3_doubt_73 : decode cX3_doubt 73 = .ok (.getfield 281, 3) := dk_180 1 25 (dk_at dksX3_doubt_3 1 rfl rfl)
theorem dX3_doubt_76 : decode cX3_doubt 76 = .ok (.iconst (-1), 1) := dk_2 (dk_at dksX3_doubt_3 4 rfl rfl)
theorem dX3_doubt_77 : decode cX3_doubt 77 = .ok (.iastore, 1) := dk_79 (dk_at dksX3_doubt_3 5 rfl rfl)
theorem dX3_doubt_78 : decode cX3_doubt 78 = .ok (.iconst 0, 1) := dk_3 (dk_at dksX3_doubt_3 6 rfl rfl)
theorem dX3_doubt_79 : decode cX3_doubt 79 = .ok (.istore_n 2, 1) := dk_61 (dk_at dksX3_doubt_3 7 rfl rfl)
theorem dX3_doubt_80 : decode cX3_doubt 80 = .ok (.iload_n 2, 1) := dk_28 (dk_at dksX3_doubt_3 8 rfl rfl)
theorem dX3_doubt_81 : decode cX3_doubt 81 = .ok (.bipush 8, 2) := dk_16 8 (dk_at dksX3_doubt_3 9 rfl rfl)
theorem dX3_doubt_83 : decode cX3_doubt 83 = .ok (.if_icmp .ge 38, 3) := dk_162 0 38 (dk_at dksX3_doubt_3 11 rfl rfl)
theorem dX3_doubt_86 : decode cX3_doubt 86 = .ok (.aload_n 0, 1) := dk_42 (dk_at dksX3_doubt_3 14 rfl rfl)
theorem dX3_doubt_87 : decode cX3_doubt 87 = .ok (.getfield 67, 3) := dk_180 0 67 (dk_at dksX3_doubt_3 15 rfl rfl)
theorem dX3_doubt_90 : decode cX3_doubt 90 = .ok (.bipush 8, 2) := dk_16 8 (dk_at dksX3_doubt_3 18 rfl rfl)
theorem dX3_doubt_92 : decode cX3_doubt 92 = .ok (.aload_n 0, 1) := dk_42 (dk_at dksX3_doubt_3 20 rfl rfl)
theorem dX3_doubt_93 : decode cX3_doubt 93 = .ok (.getfield 281, 3) := dk_180 1 25 (dk_at dksX3_doubt_3 21 rfl rfl)
theorem dX3_doubt_96 : decode cX3_doubt 96 = .ok (.imul, 1) := dk_104 (dk_at dksX3_doubt_4 0 rfl rfl)
theorem dX3_doubt_97 : decode cX3_doubt 97 = .ok (.iload_n 2, 1) := dk_28 (dk_at dksX3_doubt_4 1 rfl rfl)
theorem dX3_doubt_98 : decode cX3_doubt 98 = .ok (.iadd, 1) := dk_96 (dk_at dksX3_doubt_4 2 rfl rfl)
theorem dX3_doubt_99 : decode cX3_doubt 99 = .ok (.iload_n 2, 1) := dk_28 (dk_at dksX3_doubt_4 3 rfl rfl)
theorem dX3_doubt_100 : decode cX3_doubt 100 = .ok (.aload_n 0, 1) := dk_42 (dk_at dksX3_doubt_4 4 rfl rfl)
theorem dX3_doubt_101 : decode cX3_doubt 101 = .ok (.getfield 55, 3) := dk_180 0 55 (dk_at dksX3_doubt_4 5 rfl rfl)
theorem dX3_doubt_104 : decode cX3_doubt 104 = .ok (.iload_n 1, 1) := dk_27 (dk_at dksX3_doubt_4 8 rfl rfl)
theorem dX3_doubt_105 : decode cX3_doubt 105 = .ok (.iaload, 1) := dk_46 (dk_at dksX3_doubt_4 9 rfl rfl)
theorem dX3_doubt_106 : decode cX3_doubt 106 = .ok (.if_icmp .ne 7, 3) := dk_160 0 7 (dk_at dksX3_doubt_4 10 rfl rfl)
theorem dX3_doubt_109 : decode cX3_doubt 109 = .ok (.iconst 1, 1) := dk_4 (dk_at dksX3_doubt_4 13 rfl rfl)
theorem dX3_doubt_110 : decode cX3_doubt 110 = .ok (.goto 4, 3) := dk_167 0 4 (dk_at dksX3_doubt_4 14 rfl rfl)
theorem dX3_doubt_113 : decode cX3_doubt 113 = .ok (.iconst 0, 1) := dk_3 (dk_at dksX3_doubt_4 17 rfl rfl)
theorem dX3_doubt_114 : decode cX3_doubt 114 = .ok (.iastore, 1) := dk_79 (dk_at dksX3_doubt_4 18 rfl rfl)
theorem dX3_doubt_115 : decode cX3_doubt 115 = .ok (.iinc 2 1, 3) := dk_132 2 1 (dk_at dksX3_doubt_4 19 rfl rfl)
theorem dX3_doubt_118 : decode cX3_doubt 118 = .ok (.goto (-38), 3) := dk_167 255 218 (dk_at dksX3_doubt_5 0 rfl rfl)
theorem dX3_doubt_121 : decode cX3_doubt 121 = .ok (.aload_n 0, 1) := dk_42 (dk_at dksX3_doubt_5 3 rfl rfl)
theorem dX3_doubt_122 : decode cX3_doubt 122 = .ok (.dup, 1) := dk_89 (dk_at dksX3_doubt_5 4 rfl rfl)
theorem dX3_doubt_123 : decode cX3_doubt 123 = .ok (.getfield 281, 3) := dk_180 1 25 (dk_at dksX3_doubt_5 5 rfl rfl)
theorem dX3_doubt_126 : decode cX3_doubt 126 = .ok (.iconst 1, 1) := dk_4 (dk_at dksX3_doubt_5 8 rfl rfl)
theorem dX3_doubt_127 : decode cX3_doubt 127 = .ok (.iadd, 1) := dk_96 (dk_at dksX3_doubt_5 9 rfl rfl)
theorem dX3_doubt_128 : decode cX3_doubt 128 = .ok (.putfield 281, 3) := dk_181 1 25 (dk_at dksX3_doubt_5 10 rfl rfl)
theorem dX3_doubt_131 : decode cX3_doubt 131 = .ok (.aload_n 0, 1) := dk_42 (dk_at dksX3_doubt_5 13 rfl rfl)
theorem dX3_doubt_132 : decode cX3_doubt 132 = .ok (.iconst 0, 1) := dk_3 (dk_at dksX3_doubt_5 14 rfl rfl)
theorem dX3_doubt_133 : decode cX3_doubt 133 = .ok (.putfield 287, 3) := dk_181 1 31 (dk_at dksX3_doubt_5 15 rfl rfl)
theorem dX3_doubt_136 : decode cX3_doubt 136 = .ok (.aload_n 0, 1) := dk_42 (dk_at dksX3_doubt_5 18 rfl rfl)
theorem dX3_doubt_137 : decode cX3_doubt 137 = .ok (.getfield 281, 3) := dk_180 1 25 (dk_at dksX3_doubt_5 19 rfl rfl)
theorem dX3_doubt_140 : decode cX3_doubt 140 = .ok (.iconst 1, 1) := dk_4 (dk_at dksX3_doubt_5 22 rfl rfl)
theorem dX3_doubt_141 : decode cX3_doubt 141 = .ok (.isub, 1) := dk_100 (dk_at dksX3_doubt_5 23 rfl rfl)
theorem dX3_doubt_142 : decode cX3_doubt 142 = .ok (.ireturn, 1) := dk_172 (dk_at dksX3_doubt_6 0 rfl rfl)
abbrev cX3_weigh : ByteArray := prog_23_method_41_code
def yX3_weigh : MethodName := ⟨RX3, "weigh", "(III)Z"⟩
def dkwX3_weigh_6 : List UInt8 := [28, 96, 29, 79, 42, 3, 181, 1, 31, 4, 172]
abbrev dktX3_weigh_6 : List UInt8 := dkwX3_weigh_6 ++ []
def dkwX3_weigh_5 : List UInt8 := [42, 180, 0, 64, 27, 46, 28, 160, 0, 9, 42, 8, 182, 1, 82, 172, 42, 180, 0, 67, 16, 8, 27, 104]
abbrev dktX3_weigh_5 : List UInt8 := dkwX3_weigh_5 ++ dktX3_weigh_6
def dkwX3_weigh_4 : List UInt8 := [54, 4, 132, 5, 1, 167, 255, 215, 21, 4, 4, 161, 0, 23, 21, 4, 6, 163, 0, 17, 29, 154, 0, 19]
abbrev dktX3_weigh_4 : List UInt8 := dkwX3_weigh_4 ++ dktX3_weigh_5
def dkwX3_weigh_3 : List UInt8 := [159, 0, 22, 42, 180, 0, 67, 16, 8, 27, 104, 21, 5, 96, 46, 158, 0, 7, 4, 167, 0, 4, 3, 96]
abbrev dktX3_weigh_3 : List UInt8 := dkwX3_weigh_3 ++ dktX3_weigh_4
def dkwX3_weigh_2 : List UInt8 := [4, 167, 0, 4, 3, 54, 4, 3, 54, 5, 21, 5, 16, 8, 162, 0, 40, 21, 4, 21, 5, 28]
abbrev dktX3_weigh_2 : List UInt8 := dkwX3_weigh_2 ++ dktX3_weigh_3
def dkwX3_weigh_1 : List UInt8 := [182, 1, 82, 172, 29, 3, 16, 9, 184, 0, 220, 154, 0, 9, 42, 5, 182, 1, 82, 172, 29, 158, 0, 7]
abbrev dktX3_weigh_1 : List UInt8 := dkwX3_weigh_1 ++ dktX3_weigh_2
def dkwX3_weigh_0 : List UInt8 := [42, 182, 0, 249, 42, 27, 182, 1, 94, 153, 0, 11, 42, 28, 182, 1, 75, 154, 0, 9, 42, 4]
abbrev dktX3_weigh_0 : List UInt8 := dkwX3_weigh_0 ++ dktX3_weigh_1
theorem dksX3_weigh_0 : cX3_weigh.data.toList.drop 0 = dktX3_weigh_0 := by decide +kernel
theorem dksX3_weigh_1 : cX3_weigh.data.toList.drop 22 = dktX3_weigh_1 := dk_seg dksX3_weigh_0 22 rfl rfl
theorem dksX3_weigh_2 : cX3_weigh.data.toList.drop 46 = dktX3_weigh_2 := dk_seg dksX3_weigh_1 24 rfl rfl
theorem dksX3_weigh_3 : cX3_weigh.data.toList.drop 68 = dktX3_weigh_3 := dk_seg dksX3_weigh_2 22 rfl rfl
theorem dksX3_weigh_4 : cX3_weigh.data.toList.drop 92 = dktX3_weigh_4 := dk_seg dksX3_weigh_3 24 rfl rfl
theorem dksX3_weigh_5 : cX3_weigh.data.toList.drop 116 = dktX3_weigh_5 := dk_seg dksX3_weigh_4 24 rfl rfl
theorem dksX3_weigh_6 : cX3_weigh.data.toList.drop 140 = dktX3_weigh_6 := dk_seg dksX3_weigh_5 24 rfl rfl
theorem dX3_weigh_0 : decode cX3_weigh 0 = .ok (.aload_n 0, 1) := dk_42 (dk_at dksX3_weigh_0 0 rfl rfl)
theorem dX3_weigh_1 : decode cX3_weigh 1 = .ok (.invokevirtual 249, 3) := dk_182 0 249 (dk_at dksX3_weigh_0 1 rfl rfl)
theorem dX3_weigh_4 : decode cX3_weigh 4 = .ok (.aload_n 0, 1) := dk_42 (dk_at dksX3_weigh_0 4 rfl rfl)
theorem dX3_weigh_5 : decode cX3_weigh 5 = .ok (.iload_n 1, 1) := dk_27 (dk_at dksX3_weigh_0 5 rfl rfl)
theorem dX3_weigh_6 : decode cX3_weigh 6 = .ok (.invokevirtual 350, 3) := dk_182 1 94 (dk_at dksX3_weigh_0 6 rfl rfl)
theorem dX3_weigh_9 : decode cX3_weigh 9 = .ok (.ifCond .eq 11, 3) := dk_153 0 11 (dk_at dksX3_weigh_0 9 rfl rfl)
theorem dX3_weigh_12 : decode cX3_weigh 12 = .ok (.aload_n 0, 1) := dk_42 (dk_at dksX3_weigh_0 12 rfl rfl)
theorem dX3_weigh_13 : decode cX3_weigh 13 = .ok (.iload_n 2, 1) := dk_28 (dk_at dksX3_weigh_0 13 rfl rfl)
theorem dX3_weigh_14 : decode cX3_weigh 14 = .ok (.invokevirtual 331, 3) := dk_182 1 75 (dk_at dksX3_weigh_0 14 rfl rfl)
theorem dX3_weigh_17 : decode cX3_weigh 17 = .ok (.ifCond .ne 9, 3) := dk_154 0 9 (dk_at dksX3_weigh_0 17 rfl rfl)
theorem dX3_weigh_20 : decode cX3_weigh 20 = .ok (.aload_n 0, 1) := dk_42 (dk_at dksX3_weigh_0 20 rfl rfl)
theorem dX3_weigh_21 : decode cX3_weigh 21 = .ok (.iconst 1, 1) := dk_4 (dk_at dksX3_weigh_0 21 rfl rfl)
theorem dX3_weigh_22 : decode cX3_weigh 22 = .ok (.invokevirtual 338, 3) := dk_182 1 82 (dk_at dksX3_weigh_1 0 rfl rfl)
theorem dX3_weigh_25 : decode cX3_weigh 25 = .ok (.ireturn, 1) := dk_172 (dk_at dksX3_weigh_1 3 rfl rfl)
theorem dX3_weigh_26 : decode cX3_weigh 26 = .ok (.iload_n 3, 1) := dk_29 (dk_at dksX3_weigh_1 4 rfl rfl)
theorem dX3_weigh_27 : decode cX3_weigh 27 = .ok (.iconst 0, 1) := dk_3 (dk_at dksX3_weigh_1 5 rfl rfl)
theorem dX3_weigh_28 : decode cX3_weigh 28 = .ok (.bipush 9, 2) := dk_16 9 (dk_at dksX3_weigh_1 6 rfl rfl)
theorem dX3_weigh_30 : decode cX3_weigh 30 = .ok (.invokestatic 220, 3) := dk_184 0 220 (dk_at dksX3_weigh_1 8 rfl rfl)
theorem dX3_weigh_33 : decode cX3_weigh 33 = .ok (.ifCond .ne 9, 3) := dk_154 0 9 (dk_at dksX3_weigh_1 11 rfl rfl)
theorem dX3_weigh_36 : decode cX3_weigh 36 = .ok (.aload_n 0, 1) := dk_42 (dk_at dksX3_weigh_1 14 rfl rfl)
theorem dX3_weigh_37 : decode cX3_weigh 37 = .ok (.iconst 2, 1) := dk_5 (dk_at dksX3_weigh_1 15 rfl rfl)
theorem dX3_weigh_38 : decode cX3_weigh 38 = .ok (.invokevirtual 338, 3) := dk_182 1 82 (dk_at dksX3_weigh_1 16 rfl rfl)
theorem dX3_weigh_41 : decode cX3_weigh 41 = .ok (.ireturn, 1) := dk_172 (dk_at dksX3_weigh_1 19 rfl rfl)
theorem dX3_weigh_42 : decode cX3_weigh 42 = .ok (.iload_n 3, 1) := dk_29 (dk_at dksX3_weigh_1 20 rfl rfl)
theorem dX3_weigh_43 : decode cX3_weigh 43 = .ok (.ifCond .le 7, 3) := dk_158 0 7 (dk_at dksX3_weigh_1 21 rfl rfl)
theorem dX3_weigh_46 : decode cX3_weigh 46 = .ok (.iconst 1, 1) := dk_4 (dk_at dksX3_weigh_2 0 rfl rfl)
theorem dX3_weigh_47 : decode cX3_weigh 47 = .ok (.goto 4, 3) := dk_167 0 4 (dk_at dksX3_weigh_2 1 rfl rfl)
theorem dX3_weigh_50 : decode cX3_weigh 50 = .ok (.iconst 0, 1) := dk_3 (dk_at dksX3_weigh_2 4 rfl rfl)
theorem dX3_weigh_51 : decode cX3_weigh 51 = .ok (.istore 4, 2) := dk_54 4 (dk_at dksX3_weigh_2 5 rfl rfl)
theorem dX3_weigh_53 : decode cX3_weigh 53 = .ok (.iconst 0, 1) := dk_3 (dk_at dksX3_weigh_2 7 rfl rfl)
theorem dX3_weigh_54 : decode cX3_weigh 54 = .ok (.istore 5, 2) := dk_54 5 (dk_at dksX3_weigh_2 8 rfl rfl)
theorem dX3_weigh_56 : decode cX3_weigh 56 = .ok (.iload 5, 2) := dk_21 5 (dk_at dksX3_weigh_2 10 rfl rfl)
theorem dX3_weigh_58 : decode cX3_weigh 58 = .ok (.bipush 8, 2) := dk_16 8 (dk_at dksX3_weigh_2 12 rfl rfl)
theorem dX3_weigh_60 : decode cX3_weigh 60 = .ok (.if_icmp .ge 40, 3) := dk_162 0 40 (dk_at dksX3_weigh_2 14 rfl rfl)
theorem dX3_weigh_63 : decode cX3_weigh 63 = .ok (.iload 4, 2) := dk_21 4 (dk_at dksX3_weigh_2 17 rfl rfl)
theorem dX3_weigh_65 : decode cX3_weigh 65 = .ok (.iload 5, 2) := dk_21 5 (dk_at dksX3_weigh_2 19 rfl rfl)
theorem dX3_weigh_67 : decode cX3_weigh 67 = .ok (.iload_n 2, 1) := dk_28 (dk_at dksX3_weigh_2 21 rfl rfl)
theorem dX3_weigh_68 : decode cX3_weigh 68 = .ok (.if_icmp .eq 22, 3) := dk_159 0 22 (dk_at dksX3_weigh_3 0 rfl rfl)
theorem dX3_weigh_71 : decode cX3_weigh 71 = .ok (.aload_n 0, 1) := dk_42 (dk_at dksX3_weigh_3 3 rfl rfl)
theorem dX3_weigh_72 : decode cX3_weigh 72 = .ok (.getfield 67, 3) := dk_180 0 67 (dk_at dksX3_weigh_3 4 rfl rfl)
theorem dX3_weigh_75 : decode cX3_weigh 75 = .ok (.bipush 8, 2) := dk_16 8 (dk_at dksX3_weigh_3 7 rfl rfl)
theorem dX3_weigh_77 : decode cX3_weigh 77 = .ok (.iload_n 1, 1) := dk_27 (dk_at dksX3_weigh_3 9 rfl rfl)
theorem dX3_weigh_78 : decode cX3_weigh 78 = .ok (.imul, 1) := dk_104 (dk_at dksX3_weigh_3 10 rfl rfl)
theorem dX3_weigh_79 : decode cX3_weigh 79 = .ok (.iload 5, 2) := dk_21 5 (dk_at dksX3_weigh_3 11 rfl rfl)
theorem dX3_weigh_81 : decode cX3_weigh 81 = .ok (.iadd, 1) := dk_96 (dk_at dksX3_weigh_3 13 rfl rfl)
theorem dX3_weigh_82 : decode cX3_weigh 82 = .ok (.iaload, 1) := dk_46 (dk_at dksX3_weigh_3 14 rfl rfl)
theorem dX3_weigh_83 : decode cX3_weigh 83 = .ok (.ifCond .le 7, 3) := dk_158 0 7 (dk_at dksX3_weigh_3 15 rfl rfl)
theorem dX3_weigh_86 : decode cX3_weigh 86 = .ok (.iconst 1, 1) := dk_4 (dk_at dksX3_weigh_3 18 rfl rfl)
theorem dX3_weigh_87 : decode cX3_weigh 87 = .ok (.goto 4, 3) := dk_167 0 4 (dk_at dksX3_weigh_3 19 rfl rfl)
theorem dX3_weigh_90 : decode cX3_weigh 90 = .ok (.iconst 0, 1) := dk_3 (dk_at dksX3_weigh_3 22 rfl rfl)
theorem dX3_weigh_91 : decode cX3_weigh 91 = .ok (.iadd, 1) := dk_96 (dk_at dksX3_weigh_3 23 rfl rfl)
theorem dX3_weigh_92 : decode cX3_weigh 92 = .ok (.istore 4, 2) := dk_54 4 (dk_at dksX3_weigh_4 0 rfl rfl)
theorem dX3_weigh_94 : decode cX3_weigh 94 = .ok (.iinc 5 1, 3) := dk_132 5 1 (dk_at dksX3_weigh_4 2 rfl rfl)
theorem dX3_weigh_97 : decode cX3_weigh 97 = .ok (.goto (-41), 3) := dk_167 255 215 (dk_at dksX3_weigh_4 5 rfl rfl)
theorem dX3_weigh_100 : decode cX3_weigh 100 = .ok (.iload 4, 2) := dk_21 4 (dk_at dksX3_weigh_4 8 rfl rfl)
theorem dX3_weigh_102 : decode cX3_weigh 102 = .ok (.iconst 1, 1) := dk_4 (dk_at dksX3_weigh_4 10 rfl rfl)
theorem dX3_weigh_103 : decode cX3_weigh 103 = .ok (.if_icmp .lt 23, 3) := dk_161 0 23 (dk_at dksX3_weigh_4 11 rfl rfl)
theorem dX3_weigh_106 : decode cX3_weigh 106 = .ok (.iload 4, 2) := dk_21 4 (dk_at dksX3_weigh_4 14 rfl rfl)
theorem dX3_weigh_108 : decode cX3_weigh 108 = .ok (.iconst 3, 1) := dk_6 (dk_at dksX3_weigh_4 16 rfl rfl)
theorem dX3_weigh_109 : decode cX3_weigh 109 = .ok (.if_icmp .gt 17, 3) := dk_163 0 17 (dk_at dksX3_weigh_4 17 rfl rfl)
theorem dX3_weigh_112 : decode cX3_weigh 112 = .ok (.iload_n 3, 1) := dk_29 (dk_at dksX3_weigh_4 20 rfl rfl)
theorem dX3_weigh_113 : decode cX3_weigh 113 = .ok (.ifCond .ne 19, 3) := dk_154 0 19 (dk_at dksX3_weigh_4 21 rfl rfl)
theorem dX3_weigh_116 : decode cX3_weigh 116 = .ok (.aload_n 0, 1) := dk_42 (dk_at dksX3_weigh_5 0 rfl rfl)
theorem dX3_weigh_117 : decode cX3_weigh 117 = .ok (.getfield 64, 3) := dk_180 0 64 (dk_at dksX3_weigh_5 1 rfl rfl)
theorem dX3_weigh_120 : decode cX3_weigh 120 = .ok (.iload_n 1, 1) := dk_27 (dk_at dksX3_weigh_5 4 rfl rfl)
theorem dX3_weigh_121 : decode cX3_weigh 121 = .ok (.iaload, 1) := dk_46 (dk_at dksX3_weigh_5 5 rfl rfl)
theorem dX3_weigh_122 : decode cX3_weigh 122 = .ok (.iload_n 2, 1) := dk_28 (dk_at dksX3_weigh_5 6 rfl rfl)
theorem dX3_weigh_123 : decode cX3_weigh 123 = .ok (.if_icmp .ne 9, 3) := dk_160 0 9 (dk_at dksX3_weigh_5 7 rfl rfl)
theorem dX3_weigh_126 : decode cX3_weigh 126 = .ok (.aload_n 0, 1) := dk_42 (dk_at dksX3_weigh_5 10 rfl rfl)
theorem dX3_weigh_127 : decode cX3_weigh 127 = .ok (.iconst 5, 1) := dk_8 (dk_at dksX3_weigh_5 11 rfl rfl)
theorem dX3_weigh_128 : decode cX3_weigh 128 = .ok (.invokevirtual 338, 3) := dk_182 1 82 (dk_at dksX3_weigh_5 12 rfl rfl)
theorem dX3_weigh_131 : decode cX3_weigh 131 = .ok (.ireturn, 1) := dk_172 (dk_at dksX3_weigh_5 15 rfl rfl)
theorem dX3_weigh_132 : decode cX3_weigh 132 = .ok (.aload_n 0, 1) := dk_42 (dk_at dksX3_weigh_5 16 rfl rfl)
theorem dX3_weigh_133 : decode cX3_weigh 133 = .ok (.getfield 67, 3) := dk_180 0 67 (dk_at dksX3_weigh_5 17 rfl rfl)
theorem dX3_weigh_136 : decode cX3_weigh 136 = .ok (.bipush 8, 2) := dk_16 8 (dk_at dksX3_weigh_5 20 rfl rfl)
theorem dX3_weigh_138 : decode cX3_weigh 138 = .ok (.iload_n 1, 1) := dk_27 (dk_at dksX3_weigh_5 22 rfl rfl)
theorem dX3_weigh_139 : decode cX3_weigh 139 = .ok (.imul, 1) := dk_104 (dk_at dksX3_weigh_5 23 rfl rfl)
theorem dX3_weigh_140 : decode cX3_weigh 140 = .ok (.iload_n 2, 1) := dk_28 (dk_at dksX3_weigh_6 0 rfl rfl)
theorem dX3_weigh_141 : decode cX3_weigh 141 = .ok (.iadd, 1) := dk_96 (dk_at dksX3_weigh_6 1 rfl rfl)
theorem dX3_weigh_142 : decode cX3_weigh 142 = .ok (.iload_n 3, 1) := dk_29 (dk_at dksX3_weigh_6 2 rfl rfl)
theorem dX3_weigh_143 : decode cX3_weigh 143 = .ok (.iastore, 1) := dk_79 (dk_at dksX3_weigh_6 3 rfl rfl)
theorem dX3_weigh_144 : decode cX3_weigh 144 = .ok (.aload_n 0, 1) := dk_42 (dk_at dksX3_weigh_6 4 rfl rfl)
theorem dX3_weigh_145 : decode cX3_weigh 145 = .ok (.iconst 0, 1) := dk_3 (dk_at dksX3_weigh_6 5 rfl rfl)
theorem dX3_weigh_146 : decode cX3_weigh 146 = .ok (.putfield 287, 3) := dk_181 1 31 (dk_at dksX3_weigh_6 6 rfl rfl)
theorem dX3_weigh_149 : decode cX3_weigh 149 = .ok (.iconst 1, 1) := dk_4 (dk_at dksX3_weigh_6 9 rfl rfl)
theorem dX3_weigh_150 : decode cX3_weigh 150 = .ok (.ireturn, 1) := dk_172 (dk_at dksX3_weigh_6 10 rfl rfl)
abbrev cX3_isDoubt : ByteArray := prog_23_method_37_code
def yX3_isDoubt : MethodName := ⟨RX3, "isDoubt", "(I)Z"⟩
def dkwX3_isDoubt_1 : List UInt8 := [167, 0, 4, 3, 172]
abbrev dktX3_isDoubt_1 : List UInt8 := dkwX3_isDoubt_1 ++ []
def dkwX3_isDoubt_0 : List UInt8 := [42, 180, 1, 19, 153, 0, 21, 27, 3, 42, 180, 1, 25, 4, 100, 184, 0, 220, 153, 0, 7, 4]
abbrev dktX3_isDoubt_0 : List UInt8 := dkwX3_isDoubt_0 ++ dktX3_isDoubt_1
theorem dksX3_isDoubt_0 : cX3_isDoubt.data.toList.drop 0 = dktX3_isDoubt_0 := by decide +kernel
theorem dksX3_isDoubt_1 : cX3_isDoubt.data.toList.drop 22 = dktX3_isDoubt_1 := dk_seg dksX3_isDoubt_0 22 rfl rfl
theorem dX3_isDoubt_0 : decode cX3_isDoubt 0 = .ok (.aload_n 0, 1) := dk_42 (dk_at dksX3_isDoubt_0 0 rfl rfl)
theorem dX3_isDoubt_1 : decode cX3_isDoubt 1 = .ok (.getfield 275, 3) := dk_180 1 19 (dk_at dksX3_isDoubt_0 1 rfl rfl)
theorem dX3_isDoubt_4 : decode cX3_isDoubt 4 = .ok (.ifCond .eq 21, 3) := dk_153 0 21 (dk_at dksX3_isDoubt_0 4 rfl rfl)
theorem dX3_isDoubt_7 : decode cX3_isDoubt 7 = .ok (.iload_n 1, 1) := dk_27 (dk_at dksX3_isDoubt_0 7 rfl rfl)
theorem dX3_isDoubt_8 : decode cX3_isDoubt 8 = .ok (.iconst 0, 1) := dk_3 (dk_at dksX3_isDoubt_0 8 rfl rfl)
theorem dX3_isDoubt_9 : decode cX3_isDoubt 9 = .ok (.aload_n 0, 1) := dk_42 (dk_at dksX3_isDoubt_0 9 rfl rfl)
theorem dX3_isDoubt_10 : decode cX3_isDoubt 10 = .ok (.getfield 281, 3) := dk_180 1 25 (dk_at dksX3_isDoubt_0 10 rfl rfl)
theorem dX3_isDoubt_13 : decode cX3_isDoubt 13 = .ok (.iconst 1, 1) := dk_4 (dk_at dksX3_isDoubt_0 13 rfl rfl)
theorem dX3_isDoubt_14 : decode cX3_isDoubt 14 = .ok (.isub, 1) := dk_100 (dk_at dksX3_isDoubt_0 14 rfl rfl)
theorem dX3_isDoubt_15 : decode cX3_isDoubt 15 = .ok (.invokestatic 220, 3) := dk_184 0 220 (dk_at dksX3_isDoubt_0 15 rfl rfl)
theorem dX3_isDoubt_18 : decode cX3_isDoubt 18 = .ok (.ifCond .eq 7, 3) := dk_153 0 7 (dk_at dksX3_isDoubt_0 18 rfl rfl)
theorem dX3_isDoubt_21 : decode cX3_isDoubt 21 = .ok (.iconst 1, 1) := dk_4 (dk_at dksX3_isDoubt_0 21 rfl rfl)
theorem dX3_isDoubt_22 : decode cX3_isDoubt 22 = .ok (.goto 4, 3) := dk_167 0 4 (dk_at dksX3_isDoubt_1 0 rfl rfl)
theorem dX3_isDoubt_25 : decode cX3_isDoubt 25 = .ok (.iconst 0, 1) := dk_3 (dk_at dksX3_isDoubt_1 3 rfl rfl)
theorem dX3_isDoubt_26 : decode cX3_isDoubt 26 = .ok (.ireturn, 1) := dk_172 (dk_at dksX3_isDoubt_1 4 rfl rfl)
abbrev cX3_told : ByteArray := prog_23_method_42_code
def yX3_told : MethodName := ⟨RX3, "told", "(II)Z"⟩
def dkwX3_told_2 : List UInt8 := [42, 180, 0, 64, 27, 28, 79, 42, 3, 181, 1, 31, 4, 172]
abbrev dktX3_told_2 : List UInt8 := dkwX3_told_2 ++ []
def dkwX3_told_1 : List UInt8 := [182, 1, 82, 172, 42, 180, 0, 67, 16, 8, 27, 104, 28, 96, 46, 154, 0, 9, 42, 8, 182, 1, 82, 172]
abbrev dktX3_told_1 : List UInt8 := dkwX3_told_1 ++ dktX3_told_2
def dkwX3_told_0 : List UInt8 := [42, 182, 0, 249, 42, 27, 182, 1, 94, 153, 0, 11, 42, 28, 182, 1, 75, 154, 0, 9, 42, 4]
abbrev dktX3_told_0 : List UInt8 := dkwX3_told_0 ++ dktX3_told_1
theorem dksX3_told_0 : cX3_told.data.toList.drop 0 = dktX3_told_0 := by decide +kernel
theorem dksX3_told_1 : cX3_told.data.toList.drop 22 = dktX3_told_1 := dk_seg dksX3_told_0 22 rfl rfl
theorem dksX3_told_2 : cX3_told.data.toList.drop 46 = dktX3_told_2 := dk_seg dksX3_told_1 24 rfl rfl
theorem dX3_told_0 : decode cX3_told 0 = .ok (.aload_n 0, 1) := dk_42 (dk_at dksX3_told_0 0 rfl rfl)
theorem dX3_told_1 : decode cX3_told 1 = .ok (.invokevirtual 249, 3) := dk_182 0 249 (dk_at dksX3_told_0 1 rfl rfl)
theorem dX3_told_4 : decode cX3_told 4 = .ok (.aload_n 0, 1) := dk_42 (dk_at dksX3_told_0 4 rfl rfl)
theorem dX3_told_5 : decode cX3_told 5 = .ok (.iload_n 1, 1) := dk_27 (dk_at dksX3_told_0 5 rfl rfl)
theorem dX3_told_6 : decode cX3_told 6 = .ok (.invokevirtual 350, 3) := dk_182 1 94 (dk_at dksX3_told_0 6 rfl rfl)
theorem dX3_told_9 : decode cX3_told 9 = .ok (.ifCond .eq 11, 3) := dk_153 0 11 (dk_at dksX3_told_0 9 rfl rfl)
theorem dX3_told_12 : decode cX3_told 12 = .ok (.aload_n 0, 1) := dk_42 (dk_at dksX3_told_0 12 rfl rfl)
theorem dX3_told_13 : decode cX3_told 13 = .ok (.iload_n 2, 1) := dk_28 (dk_at dksX3_told_0 13 rfl rfl)
theorem dX3_told_14 : decode cX3_told 14 = .ok (.invokevirtual 331, 3) := dk_182 1 75 (dk_at dksX3_told_0 14 rfl rfl)
theorem dX3_told_17 : decode cX3_told 17 = .ok (.ifCond .ne 9, 3) := dk_154 0 9 (dk_at dksX3_told_0 17 rfl rfl)
theorem dX3_told_20 : decode cX3_told 20 = .ok (.aload_n 0, 1) := dk_42 (dk_at dksX3_told_0 20 rfl rfl)
theorem dX3_told_21 : decode cX3_told 21 = .ok (.iconst 1, 1) := dk_4 (dk_at dksX3_told_0 21 rfl rfl)
theorem dX3_told_22 : decode cX3_told 22 = .ok (.invokevirtual 338, 3) := dk_182 1 82 (dk_at dksX3_told_1 0 rfl rfl)
theorem dX3_told_25 : decode cX3_told 25 = .ok (.ireturn, 1) := dk_172 (dk_at dksX3_told_1 3 rfl rfl)
theorem dX3_told_26 : decode cX3_told 26 = .ok (.aload_n 0, 1) := dk_42 (dk_at dksX3_told_1 4 rfl rfl)
theorem dX3_told_27 : decode cX3_told 27 = .ok (.getfield 67, 3) := dk_180 0 67 (dk_at dksX3_told_1 5 rfl rfl)
theorem dX3_told_30 : decode cX3_told 30 = .ok (.bipush 8, 2) := dk_16 8 (dk_at dksX3_told_1 8 rfl rfl)
theorem dX3_told_32 : decode cX3_told 32 = .ok (.iload_n 1, 1) := dk_27 (dk_at dksX3_told_1 10 rfl rfl)
theorem dX3_told_33 : decode cX3_told 33 = .ok (.imul, 1) := dk_104 (dk_at dksX3_told_1 11 rfl rfl)
theorem dX3_told_34 : decode cX3_told 34 = .ok (.iload_n 2, 1) := dk_28 (dk_at dksX3_told_1 12 rfl rfl)
theorem dX3_told_35 : decode cX3_told 35 = .ok (.iadd, 1) := dk_96 (dk_at dksX3_told_1 13 rfl rfl)
theorem dX3_told_36 : decode cX3_told 36 = .ok (.iaload, 1) := dk_46 (dk_at dksX3_told_1 14 rfl rfl)
theorem dX3_told_37 : decode cX3_told 37 = .ok (.ifCond .ne 9, 3) := dk_154 0 9 (dk_at dksX3_told_1 15 rfl rfl)
theorem dX3_told_40 : decode cX3_told 40 = .ok (.aload_n 0, 1) := dk_42 (dk_at dksX3_told_1 18 rfl rfl)
theorem dX3_told_41 : decode cX3_told 41 = .ok (.iconst 5, 1) := dk_8 (dk_at dksX3_told_1 19 rfl rfl)
theorem dX3_told_42 : decode cX3_told 42 = .ok (.invokevirtual 338, 3) := dk_182 1 82 (dk_at dksX3_told_1 20 rfl rfl)
theorem dX3_told_45 : decode cX3_told 45 = .ok (.ireturn, 1) := dk_172 (dk_at dksX3_told_1 23 rfl rfl)
theorem dX3_told_46 : decode cX3_told 46 = .ok (.aload_n 0, 1) := dk_42 (dk_at dksX3_told_2 0 rfl rfl)
theorem dX3_told_47 : decode cX3_told 47 = .ok (.getfield 64, 3) := dk_180 0 64 (dk_at dksX3_told_2 1 rfl rfl)
theorem dX3_told_50 : decode cX3_told 50 = .ok (.iload_n 1, 1) := dk_27 (dk_at dksX3_told_2 4 rfl rfl)
theorem dX3_told_51 : decode cX3_told 51 = .ok (.iload_n 2, 1) := dk_28 (dk_at dksX3_told_2 5 rfl rfl)
theorem dX3_told_52 : decode cX3_told 52 = .ok (.iastore, 1) := dk_79 (dk_at dksX3_told_2 6 rfl rfl)
theorem dX3_told_53 : decode cX3_told 53 = .ok (.aload_n 0, 1) := dk_42 (dk_at dksX3_told_2 7 rfl rfl)
theorem dX3_told_54 : decode cX3_told 54 = .ok (.iconst 0, 1) := dk_3 (dk_at dksX3_told_2 8 rfl rfl)
theorem dX3_told_55 : decode cX3_told 55 = .ok (.putfield 287, 3) := dk_181 1 31 (dk_at dksX3_told_2 9 rfl rfl)
theorem dX3_told_58 : decode cX3_told 58 = .ok (.iconst 1, 1) := dk_4 (dk_at dksX3_told_2 12 rfl rfl)
theorem dX3_told_59 : decode cX3_told 59 = .ok (.ireturn, 1) := dk_172 (dk_at dksX3_told_2 13 rfl rfl)
abbrev cX3_forget : ByteArray := prog_23_method_43_code
def yX3_forget : MethodName := ⟨RX3, "forget", "(I)Z"⟩
def dkwX3_forget_1 : List UInt8 := [2, 160, 0, 9, 42, 8, 182, 1, 82, 172, 42, 180, 0, 64, 27, 2, 79, 42, 3, 181, 1, 31, 4, 172]
abbrev dktX3_forget_1 : List UInt8 := dkwX3_forget_1 ++ []
def dkwX3_forget_0 : List UInt8 := [42, 182, 0, 249, 42, 27, 182, 1, 94, 154, 0, 9, 42, 4, 182, 1, 82, 172, 42, 180, 0, 64, 27, 46]
abbrev dktX3_forget_0 : List UInt8 := dkwX3_forget_0 ++ dktX3_forget_1
theorem dksX3_forget_0 : cX3_forget.data.toList.drop 0 = dktX3_forget_0 := by decide +kernel
theorem dksX3_forget_1 : cX3_forget.data.toList.drop 24 = dktX3_forget_1 := dk_seg dksX3_forget_0 24 rfl rfl
theorem dX3_forget_0 : decode cX3_forget 0 = .ok (.aload_n 0, 1) := dk_42 (dk_at dksX3_forget_0 0 rfl rfl)
theorem dX3_forget_1 : decode cX3_forget 1 = .ok (.invokevirtual 249, 3) := dk_182 0 249 (dk_at dksX3_forget_0 1 rfl rfl)
theorem dX3_forget_4 : decode cX3_forget 4 = .ok (.aload_n 0, 1) := dk_42 (dk_at dksX3_forget_0 4 rfl rfl)
theorem dX3_forget_5 : decode cX3_forget 5 = .ok (.iload_n 1, 1) := dk_27 (dk_at dksX3_forget_0 5 rfl rfl)
theorem dX3_forget_6 : decode cX3_forget 6 = .ok (.invokevirtual 350, 3) := dk_182 1 94 (dk_at dksX3_forget_0 6 rfl rfl)
theorem dX3_forget_9 : decode cX3_forget 9 = .ok (.ifCond .ne 9, 3) := dk_154 0 9 (dk_at dksX3_forget_0 9 rfl rfl)
theorem dX3_forget_12 : decode cX3_forget 12 = .ok (.aload_n 0, 1) := dk_42 (dk_at dksX3_forget_0 12 rfl rfl)
theorem dX3_forget_13 : decode cX3_forget 13 = .ok (.iconst 1, 1) := dk_4 (dk_at dksX3_forget_0 13 rfl rfl)
theorem dX3_forget_14 : decode cX3_forget 14 = .ok (.invokevirtual 338, 3) := dk_182 1 82 (dk_at dksX3_forget_0 14 rfl rfl)
theorem dX3_forget_17 : decode cX3_forget 17 = .ok (.ireturn, 1) := dk_172 (dk_at dksX3_forget_0 17 rfl rfl)
theorem dX3_forget_18 : decode cX3_forget 18 = .ok (.aload_n 0, 1) := dk_42 (dk_at dksX3_forget_0 18 rfl rfl)
theorem dX3_forget_19 : decode cX3_forget 19 = .ok (.getfield 64, 3) := dk_180 0 64 (dk_at dksX3_forget_0 19 rfl rfl)
theorem dX3_forget_22 : decode cX3_forget 22 = .ok (.iload_n 1, 1) := dk_27 (dk_at dksX3_forget_0 22 rfl rfl)
theorem dX3_forget_23 : decode cX3_forget 23 = .ok (.iaload, 1) := dk_46 (dk_at dksX3_forget_0 23 rfl rfl)
theorem dX3_forget_24 : decode cX3_forget 24 = .ok (.iconst (-1), 1) := dk_2 (dk_at dksX3_forget_1 0 rfl rfl)
theorem dX3_forget_25 : decode cX3_forget 25 = .ok (.if_icmp .ne 9, 3) := dk_160 0 9 (dk_at dksX3_forget_1 1 rfl rfl)
theorem dX3_forget_28 : decode cX3_forget 28 = .ok (.aload_n 0, 1) := dk_42 (dk_at dksX3_forget_1 4 rfl rfl)
theorem dX3_forget_29 : decode cX3_forget 29 = .ok (.iconst 5, 1) := dk_8 (dk_at dksX3_forget_1 5 rfl rfl)
theorem dX3_forget_30 : decode cX3_forget 30 = .ok (.invokevirtual 338, 3) := dk_182 1 82 (dk_at dksX3_forget_1 6 rfl rfl)
theorem dX3_forget_33 : decode cX3_forget 33 = .ok (.ireturn, 1) := dk_172 (dk_at dksX3_forget_1 9 rfl rfl)
theorem dX3_forget_34 : decode cX3_forget 34 = .ok (.aload_n 0, 1) := dk_42 (dk_at dksX3_forget_1 10 rfl rfl)
theorem dX3_forget_35 : decode cX3_forget 35 = .ok (.getfield 64, 3) := dk_180 0 64 (dk_at dksX3_forget_1 11 rfl rfl)
theorem dX3_forget_38 : decode cX3_forget 38 = .ok (.iload_n 1, 1) := dk_27 (dk_at dksX3_forget_1 14 rfl rfl)
theorem dX3_forget_39 : decode cX3_forget 39 = .ok (.iconst (-1), 1) := dk_2 (dk_at dksX3_forget_1 15 rfl rfl)
theorem dX3_forget_40 : decode cX3_forget 40 = .ok (.iastore, 1) := dk_79 (dk_at dksX3_forget_1 16 rfl rfl)
theorem dX3_forget_41 : decode cX3_forget 41 = .ok (.aload_n 0, 1) := dk_42 (dk_at dksX3_forget_1 17 rfl rfl)
theorem dX3_forget_42 : decode cX3_forget 42 = .ok (.iconst 0, 1) := dk_3 (dk_at dksX3_forget_1 18 rfl rfl)
theorem dX3_forget_43 : decode cX3_forget 43 = .ok (.putfield 287, 3) := dk_181 1 31 (dk_at dksX3_forget_1 19 rfl rfl)
theorem dX3_forget_46 : decode cX3_forget 46 = .ok (.iconst 1, 1) := dk_4 (dk_at dksX3_forget_1 22 rfl rfl)
theorem dX3_forget_47 : decode cX3_forget 47 = .ok (.ireturn, 1) := dk_172 (dk_at dksX3_forget_1 23 rfl rfl)
abbrev cX3_of : ByteArray := prog_23_method_44_code
def yX3_of : MethodName := ⟨RX3, "of", "(II)I"⟩
def dkwX3_of_3 : List UInt8 := [29, 46, 172, 28, 5, 160, 0, 17, 29, 2, 160, 0, 8, 16, 254, 167, 0, 8, 29, 167, 0, 4, 2, 172]
abbrev dktX3_of_3 : List UInt8 := dkwX3_of_3 ++ []
def dkwX3_of_2 : List UInt8 := [27, 46, 167, 0, 24, 42, 180, 0, 64, 29, 46, 2, 160, 0, 8, 16, 254, 167, 0, 9, 42, 180, 0, 64]
abbrev dktX3_of_2 : List UInt8 := dkwX3_of_2 ++ dktX3_of_3
def dkwX3_of_1 : List UInt8 := [154, 0, 10, 42, 180, 0, 52, 27, 46, 172, 28, 4, 160, 0, 39, 29, 2, 160, 0, 12, 42, 180, 0, 55]
abbrev dktX3_of_1 : List UInt8 := dkwX3_of_1 ++ dktX3_of_2
def dkwX3_of_0 : List UInt8 := [42, 3, 181, 0, 131, 42, 27, 182, 1, 91, 154, 0, 5, 2, 172, 42, 180, 0, 58, 27, 46, 62, 28]
abbrev dktX3_of_0 : List UInt8 := dkwX3_of_0 ++ dktX3_of_1
theorem dksX3_of_0 : cX3_of.data.toList.drop 0 = dktX3_of_0 := by decide +kernel
theorem dksX3_of_1 : cX3_of.data.toList.drop 23 = dktX3_of_1 := dk_seg dksX3_of_0 23 rfl rfl
theorem dksX3_of_2 : cX3_of.data.toList.drop 47 = dktX3_of_2 := dk_seg dksX3_of_1 24 rfl rfl
theorem dksX3_of_3 : cX3_of.data.toList.drop 71 = dktX3_of_3 := dk_seg dksX3_of_2 24 rfl rfl
theorem dX3_of_0 : decode cX3_of 0 = .ok (.aload_n 0, 1) := dk_42 (dk_at dksX3_of_0 0 rfl rfl)
theorem dX3_of_1 : decode cX3_of 1 = .ok (.iconst 0, 1) := dk_3 (dk_at dksX3_of_0 1 rfl rfl)
theorem dX3_of_2 : decode cX3_of 2 = .ok (.putfield 131, 3) := dk_181 0 131 (dk_at dksX3_of_0 2 rfl rfl)
theorem dX3_of_5 : decode cX3_of 5 = .ok (.aload_n 0, 1) := dk_42 (dk_at dksX3_of_0 5 rfl rfl)
theorem dX3_of_6 : decode cX3_of 6 = .ok (.iload_n 1, 1) := dk_27 (dk_at dksX3_of_0 6 rfl rfl)
theorem dX3_of_7 : decode cX3_of 7 = .ok (.invokevirtual 347, 3) := dk_182 1 91 (dk_at dksX3_of_0 7 rfl rfl)
theorem dX3_of_10 : decode cX3_of 10 = .ok (.ifCond .ne 5, 3) := dk_154 0 5 (dk_at dksX3_of_0 10 rfl rfl)
theorem dX3_of_13 : decode cX3_of 13 = .ok (.iconst (-1), 1) := dk_2 (dk_at dksX3_of_0 13 rfl rfl)
theorem dX3_of_14 : decode cX3_of 14 = .ok (.ireturn, 1) := dk_172 (dk_at dksX3_of_0 14 rfl rfl)
theorem dX3_of_15 : decode cX3_of 15 = .ok (.aload_n 0, 1) := dk_42 (dk_at dksX3_of_0 15 rfl rfl)
theorem dX3_of_16 : decode cX3_of 16 = .ok (.getfield 58, 3) := dk_180 0 58 (dk_at dksX3_of_0 16 rfl rfl)
theorem dX3_of_19 : decode cX3_of 19 = .ok (.iload_n 1, 1) := dk_27 (dk_at dksX3_of_0 19 rfl rfl)
theorem dX3_of_20 : decode cX3_of 20 = .ok (.iaload, 1) := dk_46 (dk_at dksX3_of_0 20 rfl rfl)
theorem dX3_of_21 : decode cX3_of 21 = .ok (.istore_n 3, 1) := dk_62 (dk_at dksX3_of_0 21 rfl rfl)
theorem dX3_of_22 : decode cX3_of 22 = .ok (.iload_n 2, 1) := dk_28 (dk_at dksX3_of_0 22 rfl rfl)
theorem dX3_of_23 : decode cX3_of 23 = .ok (.ifCond .ne 10, 3) := dk_154 0 10 (dk_at dksX3_of_1 0 rfl rfl)
theorem dX3_of_26 : decode cX3_of 26 = .ok (.aload_n 0, 1) := dk_42 (dk_at dksX3_of_1 3 rfl rfl)
theorem dX3_of_27 : decode cX3_of 27 = .ok (.getfield 52, 3) := dk_180 0 52 (dk_at dksX3_of_1 4 rfl rfl)
theorem dX3_of_30 : decode cX3_of 30 = .ok (.iload_n 1, 1) := dk_27 (dk_at dksX3_of_1 7 rfl rfl)
theorem dX3_of_31 : decode cX3_of 31 = .ok (.iaload, 1) := dk_46 (dk_at dksX3_of_1 8 rfl rfl)
theorem dX3_of_32 : decode cX3_of 32 = .ok (.ireturn, 1) := dk_172 (dk_at dksX3_of_1 9 rfl rfl)
theorem dX3_of_33 : decode cX3_of 33 = .ok (.iload_n 2, 1) := dk_28 (dk_at dksX3_of_1 10 rfl rfl)
theorem dX3_of_34 : decode cX3_of 34 = .ok (.iconst 1, 1) := dk_4 (dk_at dksX3_of_1 11 rfl rfl)
theorem dX3_of_35 : decode cX3_of 35 = .ok (.if_icmp .ne 39, 3) := dk_160 0 39 (dk_at dksX3_of_1 12 rfl rfl)
theorem dX3_of_38 : decode cX3_of 38 = .ok (.iload_n 3, 1) := dk_29 (dk_at dksX3_of_1 15 rfl rfl)
theorem dX3_of_39 : decode cX3_of 39 = .ok (.iconst (-1), 1) := dk_2 (dk_at dksX3_of_1 16 rfl rfl)
theorem dX3_of_40 : decode cX3_of 40 = .ok (.if_icmp .ne 12, 3) := dk_160 0 12 (dk_at dksX3_of_1 17 rfl rfl)
theorem dX3_of_43 : decode cX3_of 43 = .ok (.aload_n 0, 1) := dk_42 (dk_at dksX3_of_1 20 rfl rfl)
theorem dX3_of_44 : decode cX3_of 44 = .ok (.getfield 55, 3) := dk_180 0 55 (dk_at dksX3_of_1 21 rfl rfl)
theorem dX3_of_47 : decode cX3_of 47 = .ok (.iload_n 1, 1) := dk_27 (dk_at dksX3_of_2 0 rfl rfl)
theorem dX3_of_48 : decode cX3_of 48 = .ok (.iaload, 1) := dk_46 (dk_at dksX3_of_2 1 rfl rfl)
theorem dX3_of_49 : decode cX3_of 49 = .ok (.goto 24, 3) := dk_167 0 24 (dk_at dksX3_of_2 2 rfl rfl)
theorem dX3_of_52 : decode cX3_of 52 = .ok (.aload_n 0, 1) := dk_42 (dk_at dksX3_of_2 5 rfl rfl)
theorem dX3_of_53 : decode cX3_of 53 = .ok (.getfield 64, 3) := dk_180 0 64 (dk_at dksX3_of_2 6 rfl rfl)
theorem dX3_of_56 : decode cX3_of 56 = .ok (.iload_n 3, 1) := dk_29 (dk_at dksX3_of_2 9 rfl rfl)
theorem dX3_of_57 : decode cX3_of 57 = .ok (.iaload, 1) := dk_46 (dk_at dksX3_of_2 10 rfl rfl)
theorem dX3_of_58 : decode cX3_of 58 = .ok (.iconst (-1), 1) := dk_2 (dk_at dksX3_of_2 11 rfl rfl)
theorem dX3_of_59 : decode cX3_of 59 = .ok (.if_icmp .ne 8, 3) := dk_160 0 8 (dk_at dksX3_of_2 12 rfl rfl)
theorem dX3_of_62 : decode cX3_of 62 = .ok (.bipush (-2), 2) := dk_16 254 (dk_at dksX3_of_2 15 rfl rfl)
theorem dX3_of_64 : decode cX3_of 64 = .ok (.goto 9, 3) := dk_167 0 9 (dk_at dksX3_of_2 17 rfl rfl)
theorem dX3_of_67 : decode cX3_of 67 = .ok (.aload_n 0, 1) := dk_42 (dk_at dksX3_of_2 20 rfl rfl)
theorem dX3_of_68 : decode cX3_of 68 = .ok (.getfield 64, 3) := dk_180 0 64 (dk_at dksX3_of_2 21 rfl rfl)
theorem dX3_of_71 : decode cX3_of 71 = .ok (.iload_n 3, 1) := dk_29 (dk_at dksX3_of_3 0 rfl rfl)
theorem dX3_of_72 : decode cX3_of 72 = .ok (.iaload, 1) := dk_46 (dk_at dksX3_of_3 1 rfl rfl)
theorem dX3_of_73 : decode cX3_of 73 = .ok (.ireturn, 1) := dk_172 (dk_at dksX3_of_3 2 rfl rfl)
theorem dX3_of_74 : decode cX3_of 74 = .ok (.iload_n 2, 1) := dk_28 (dk_at dksX3_of_3 3 rfl rfl)
theorem dX3_of_75 : decode cX3_of 75 = .ok (.iconst 2, 1) := dk_5 (dk_at dksX3_of_3 4 rfl rfl)
theorem dX3_of_76 : decode cX3_of 76 = .ok (.if_icmp .ne 17, 3) := dk_160 0 17 (dk_at dksX3_of_3 5 rfl rfl)
theorem dX3_of_79 : decode cX3_of 79 = .ok (.iload_n 3, 1) := dk_29 (dk_at dksX3_of_3 8 rfl rfl)
theorem dX3_of_80 : decode cX3_of 80 = .ok (.iconst (-1), 1) := dk_2 (dk_at dksX3_of_3 9 rfl rfl)
theorem dX3_of_81 : decode cX3_of 81 = .ok (.if_icmp .ne 8, 3) := dk_160 0 8 (dk_at dksX3_of_3 10 rfl rfl)
theorem dX3_of_84 : decode cX3_of 84 = .ok (.bipush (-2), 2) := dk_16 254 (dk_at dksX3_of_3 13 rfl rfl)
theorem dX3_of_86 : decode cX3_of 86 = .ok (.goto 8, 3) := dk_167 0 8 (dk_at dksX3_of_3 15 rfl rfl)
theorem dX3_of_89 : decode cX3_of 89 = .ok (.iload_n 3, 1) := dk_29 (dk_at dksX3_of_3 18 rfl rfl)
theorem dX3_of_90 : decode cX3_of 90 = .ok (.goto 4, 3) := dk_167 0 4 (dk_at dksX3_of_3 19 rfl rfl)
theorem dX3_of_93 : decode cX3_of 93 = .ok (.iconst (-1), 1) := dk_2 (dk_at dksX3_of_3 22 rfl rfl)
theorem dX3_of_94 : decode cX3_of 94 = .ok (.ireturn, 1) := dk_172 (dk_at dksX3_of_3 23 rfl rfl)
abbrev cX3_step : ByteArray := prog_23_method_50_code
def yX3_step : MethodName := ⟨RX3, "step", "(IIII)I"⟩
def dkwX3_step_5 : List UInt8 := [167, 0, 10, 42, 27, 28, 29, 182, 1, 110, 172]
abbrev dktX3_step_5 : List UInt8 := dkwX3_step_5 ++ []
def dkwX3_step_4 : List UInt8 := [21, 4, 4, 160, 0, 8, 21, 6, 167, 0, 26, 21, 4, 5, 160, 0, 13, 42, 21, 6, 29, 182, 1, 103]
abbrev dktX3_step_4 : List UInt8 := dkwX3_step_4 ++ dktX3_step_5
def dkwX3_step_3 : List UInt8 := [42, 180, 0, 52, 42, 27, 28, 182, 1, 97, 46, 42, 180, 0, 52, 27, 46, 100, 29, 182, 1, 100, 54, 6]
abbrev dktX3_step_3 : List UInt8 := dkwX3_step_3 ++ dktX3_step_4
def dkwX3_step_2 : List UInt8 := [28, 29, 182, 1, 106, 54, 5, 21, 4, 154, 0, 6, 21, 5, 172, 21, 5, 158, 0, 6, 16, 254, 172, 42]
abbrev dktX3_step_2 : List UInt8 := dkwX3_step_2 ++ dktX3_step_3
def dkwX3_step_1 : List UInt8 := [182, 1, 75, 153, 0, 13, 21, 4, 3, 6, 184, 0, 220, 154, 0, 9, 42, 4, 182, 0, 252, 172, 42, 27]
abbrev dktX3_step_1 : List UInt8 := dkwX3_step_1 ++ dktX3_step_2
def dkwX3_step_0 : List UInt8 := [42, 182, 0, 249, 42, 27, 182, 1, 91, 153, 0, 30, 28, 3, 6, 184, 0, 220, 153, 0, 21, 42, 29]
abbrev dktX3_step_0 : List UInt8 := dkwX3_step_0 ++ dktX3_step_1
theorem dksX3_step_0 : cX3_step.data.toList.drop 0 = dktX3_step_0 := by decide +kernel
theorem dksX3_step_1 : cX3_step.data.toList.drop 23 = dktX3_step_1 := dk_seg dksX3_step_0 23 rfl rfl
theorem dksX3_step_2 : cX3_step.data.toList.drop 47 = dktX3_step_2 := dk_seg dksX3_step_1 24 rfl rfl
theorem dksX3_step_3 : cX3_step.data.toList.drop 71 = dktX3_step_3 := dk_seg dksX3_step_2 24 rfl rfl
theorem dksX3_step_4 : cX3_step.data.toList.drop 95 = dktX3_step_4 := dk_seg dksX3_step_3 24 rfl rfl
theorem dksX3_step_5 : cX3_step.data.toList.drop 119 = dktX3_step_5 := dk_seg dksX3_step_4 24 rfl rfl
theorem dX3_step_0 : decode cX3_step 0 = .ok (.aload_n 0, 1) := dk_42 (dk_at dksX3_step_0 0 rfl rfl)
theorem dX3_step_1 : decode cX3_step 1 = .ok (.invokevirtual 249, 3) := dk_182 0 249 (dk_at dksX3_step_0 1 rfl rfl)
theorem dX3_step_4 : decode cX3_step 4 = .ok (.aload_n 0, 1) := dk_42 (dk_at dksX3_step_0 4 rfl rfl)
theorem dX3_step_5 : decode cX3_step 5 = .ok (.iload_n 1, 1) := dk_27 (dk_at dksX3_step_0 5 rfl rfl)
theorem dX3_step_6 : decode cX3_step 6 = .ok (.invokevirtual 347, 3) := dk_182 1 91 (dk_at dksX3_step_0 6 rfl rfl)
theorem dX3_step_9 : decode cX3_step 9 = .ok (.ifCond .eq 30, 3) := dk_153 0 30 (dk_at dksX3_step_0 9 rfl rfl)
theorem dX3_step_12 : decode cX3_step 12 = .ok (.iload_n 2, 1) := dk_28 (dk_at dksX3_step_0 12 rfl rfl)
theorem dX3_step_13 : decode cX3_step 13 = .ok (.iconst 0, 1) := dk_3 (dk_at dksX3_step_0 13 rfl rfl)
theorem dX3_step_14 : decode cX3_step 14 = .ok (.iconst 3, 1) := dk_6 (dk_at dksX3_step_0 14 rfl rfl)
theorem dX3_step_15 : decode cX3_step 15 = .ok (.invokestatic 220, 3) := dk_184 0 220 (dk_at dksX3_step_0 15 rfl rfl)
theorem dX3_step_18 : decode cX3_step 18 = .ok (.ifCond .eq 21, 3) := dk_153 0 21 (dk_at dksX3_step_0 18 rfl rfl)
theorem dX3_step_21 : decode cX3_step 21 = .ok (.aload_n 0, 1) := dk_42 (dk_at dksX3_step_0 21 rfl rfl)
theorem dX3_step_22 : decode cX3_step 22 = .ok (.iload_n 3, 1) := dk_29 (dk_at dksX3_step_0 22 rfl rfl)
theorem dX3_step_23 : decode cX3_step 23 = .ok (.invokevirtual 331, 3) := dk_182 1 75 (dk_at dksX3_step_1 0 rfl rfl)
theorem dX3_step_26 : decode cX3_step 26 = .ok (.ifCond .eq 13, 3) := dk_153 0 13 (dk_at dksX3_step_1 3 rfl rfl)
theorem dX3_step_29 : decode cX3_step 29 = .ok (.iload 4, 2) := dk_21 4 (dk_at dksX3_step_1 6 rfl rfl)
theorem dX3_step_31 : decode cX3_step 31 = .ok (.iconst 0, 1) := dk_3 (dk_at dksX3_step_1 8 rfl rfl)
theorem dX3_step_32 : decode cX3_step 32 = .ok (.iconst 3, 1) := dk_6 (dk_at dksX3_step_1 9 rfl rfl)
theorem dX3_step_33 : decode cX3_step 33 = .ok (.invokestatic 220, 3) := dk_184 0 220 (dk_at dksX3_step_1 10 rfl rfl)
theorem dX3_step_36 : decode cX3_step 36 = .ok (.ifCond .ne 9, 3) := dk_154 0 9 (dk_at dksX3_step_1 13 rfl rfl)
theorem dX3_step_39 : decode cX3_step 39 = .ok (.aload_n 0, 1) := dk_42 (dk_at dksX3_step_1 16 rfl rfl)
theorem dX3_step_40 : decode cX3_step 40 = .ok (.iconst 1, 1) := dk_4 (dk_at dksX3_step_1 17 rfl rfl)
theorem dX3_step_41 : decode cX3_step 41 = .ok (.invokevirtual 252, 3) := dk_182 0 252 (dk_at dksX3_step_1 18 rfl rfl)
theorem dX3_step_44 : decode cX3_step 44 = .ok (.ireturn, 1) := dk_172 (dk_at dksX3_step_1 21 rfl rfl)
theorem dX3_step_45 : decode cX3_step 45 = .ok (.aload_n 0, 1) := dk_42 (dk_at dksX3_step_1 22 rfl rfl)
theorem dX3_step_46 : decode cX3_step 46 = .ok (.iload_n 1, 1) := dk_27 (dk_at dksX3_step_1 23 rfl rfl)
theorem dX3_step_47 : decode cX3_step 47 = .ok (.iload_n 2, 1) := dk_28 (dk_at dksX3_step_2 0 rfl rfl)
theorem dX3_step_48 : decode cX3_step 48 = .ok (.iload_n 3, 1) := dk_29 (dk_at dksX3_step_2 1 rfl rfl)
theorem dX3_step_49 : decode cX3_step 49 = .ok (.invokevirtual 362, 3) := dk_182 1 106 (dk_at dksX3_step_2 2 rfl rfl)
theorem dX3_step_52 : decode cX3_step 52 = .ok (.istore 5, 2) := dk_54 5 (dk_at dksX3_step_2 5 rfl rfl)
theorem dX3_step_54 : decode cX3_step 54 = .ok (.iload 4, 2) := dk_21 4 (dk_at dksX3_step_2 7 rfl rfl)
theorem dX3_step_56 : decode cX3_step 56 = .ok (.ifCond .ne 6, 3) := dk_154 0 6 (dk_at dksX3_step_2 9 rfl rfl)
theorem dX3_step_59 : decode cX3_step 59 = .ok (.iload 5, 2) := dk_21 5 (dk_at dksX3_step_2 12 rfl rfl)
theorem dX3_step_61 : decode cX3_step 61 = .ok (.ireturn, 1) := dk_172 (dk_at dksX3_step_2 14 rfl rfl)
theorem dX3_step_62 : decode cX3_step 62 = .ok (.iload 5, 2) := dk_21 5 (dk_at dksX3_step_2 15 rfl rfl)
theorem dX3_step_64 : decode cX3_step 64 = .ok (.ifCond .le 6, 3) := dk_158 0 6 (dk_at dksX3_step_2 17 rfl rfl)
theorem dX3_step_67 : decode cX3_step 67 = .ok (.bipush (-2), 2) := dk_16 254 (dk_at dksX3_step_2 20 rfl rfl)
theorem dX3_step_69 : decode cX3_step 69 = .ok (.ireturn, 1) := dk_172 (dk_at dksX3_step_2 22 rfl rfl)
theorem dX3_step_70 : decode cX3_step 70 = .ok (.aload_n 0, 1) := dk_42 (dk_at dksX3_step_2 23 rfl rfl)
theorem dX3_step_71 : decode cX3_step 71 = .ok (.aload_n 0, 1) := dk_42 (dk_at dksX3_step_3 0 rfl rfl)
theorem dX3_step_72 : decode cX3_step 72 = .ok (.getfield 52, 3) := dk_180 0 52 (dk_at dksX3_step_3 1 rfl rfl)
theorem dX3_step_75 : decode cX3_step 75 = .ok (.aload_n 0, 1) := dk_42 (dk_at dksX3_step_3 4 rfl rfl)
theorem dX3_step_76 : decode cX3_step 76 = .ok (.iload_n 1, 1) := dk_27 (dk_at dksX3_step_3 5 rfl rfl)
theorem dX3_step_77 : decode cX3_step 77 = .ok (.iload_n 2, 1) := dk_28 (dk_at dksX3_step_3 6 rfl rfl)
theorem dX3_step_78 : decode cX3_step 78 = .ok (.invokevirtual 353, 3) := dk_182 1 97 (dk_at dksX3_step_3 7 rfl rfl)
theorem dX3_step_81 : decode cX3_step 81 = .ok (.iaload, 1) := dk_46 (dk_at dksX3_step_3 10 rfl rfl)
theorem dX3_step_82 : decode cX3_step 82 = .ok (.aload_n 0, 1) := dk_42 (dk_at dksX3_step_3 11 rfl rfl)
theorem dX3_step_83 : decode cX3_step 83 = .ok (.getfield 52, 3) := dk_180 0 52 (dk_at dksX3_step_3 12 rfl rfl)
theorem dX3_step_86 : decode cX3_step 86 = .ok (.iload_n 1, 1) := dk_27 (dk_at dksX3_step_3 15 rfl rfl)
theorem dX3_step_87 : decode cX3_step 87 = .ok (.iaload, 1) := dk_46 (dk_at dksX3_step_3 16 rfl rfl)
theorem dX3_step_88 : decode cX3_step 88 = .ok (.isub, 1) := dk_100 (dk_at dksX3_step_3 17 rfl rfl)
theorem dX3_step_89 : decode cX3_step 89 = .ok (.iload_n 3, 1) := dk_29 (dk_at dksX3_step_3 18 rfl rfl)
theorem dX3_step_90 : decode cX3_step 90 = .ok (.invokevirtual 356, 3) := dk_182 1 100 (dk_at dksX3_step_3 19 rfl rfl)
theorem dX3_step_93 : decode cX3_step 93 = .ok (.istore 6, 2) := dk_54 6 (dk_at dksX3_step_3 22 rfl rfl)
theorem dX3_step_95 : decode cX3_step 95 = .ok (.iload 4, 2) := dk_21 4 (dk_at dksX3_step_4 0 rfl rfl)
theorem dX3_step_97 : decode cX3_step 97 = .ok (.iconst 1, 1) := dk_4 (dk_at dksX3_step_4 2 rfl rfl)
theorem dX3_step_98 : decode cX3_step 98 = .ok (.if_icmp .ne 8, 3) := dk_160 0 8 (dk_at dksX3_step_4 3 rfl rfl)
theorem dX3_step_101 : decode cX3_step 101 = .ok (.iload 6, 2) := dk_21 6 (dk_at dksX3_step_4 6 rfl rfl)
theorem dX3_step_103 : decode cX3_step 103 = .ok (.goto 26, 3) := dk_167 0 26 (dk_at dksX3_step_4 8 rfl rfl)
theorem dX3_step_106 : decode cX3_step 106 = .ok (.iload 4, 2) := dk_21 4 (dk_at dksX3_step_4 11 rfl rfl)
theorem dX3_step_108 : decode cX3_step 108 = .ok (.iconst 2, 1) := dk_5 (dk_at dksX3_step_4 13 rfl rfl)
theorem dX3_step_109 : decode cX3_step 109 = .ok (.if_icmp .ne 13, 3) := dk_160 0 13 (dk_at dksX3_step_4 14 rfl rfl)
theorem dX3_step_112 : decode cX3_step 112 = .ok (.aload_n 0, 1) := dk_42 (dk_at dksX3_step_4 17 rfl rfl)
theorem dX3_step_113 : decode cX3_step 113 = .ok (.iload 6, 2) := dk_21 6 (dk_at dksX3_step_4 18 rfl rfl)
theorem dX3_step_115 : decode cX3_step 115 = .ok (.iload_n 3, 1) := dk_29 (dk_at dksX3_step_4 20 rfl rfl)
theorem dX3_step_116 : decode cX3_step 116 = .ok (.invokevirtual 359, 3) := dk_182 1 103 (dk_at dksX3_step_4 21 rfl rfl)
theorem dX3_step_119 : decode cX3_step 119 = .ok (.goto 10, 3) := dk_167 0 10 (dk_at dksX3_step_5 0 rfl rfl)
theorem dX3_step_122 : decode cX3_step 122 = .ok (.aload_n 0, 1) := dk_42 (dk_at dksX3_step_5 3 rfl rfl)
theorem dX3_step_123 : decode cX3_step 123 = .ok (.iload_n 1, 1) := dk_27 (dk_at dksX3_step_5 4 rfl rfl)
theorem dX3_step_124 : decode cX3_step 124 = .ok (.iload_n 2, 1) := dk_28 (dk_at dksX3_step_5 5 rfl rfl)
theorem dX3_step_125 : decode cX3_step 125 = .ok (.iload_n 3, 1) := dk_29 (dk_at dksX3_step_5 6 rfl rfl)
theorem dX3_step_126 : decode cX3_step 126 = .ok (.invokevirtual 366, 3) := dk_182 1 110 (dk_at dksX3_step_5 7 rfl rfl)
theorem dX3_step_129 : decode cX3_step 129 = .ok (.ireturn, 1) := dk_172 (dk_at dksX3_step_5 10 rfl rfl)
abbrev cX3_barred : ByteArray := prog_23_method_48_code
def yX3_barred : MethodName := ⟨RX3, "barred", "(III)I"⟩
def dkwX3_barred_4 : List UInt8 := [182, 1, 103, 156, 0, 7, 7, 167, 0, 4, 3, 172]
abbrev dktX3_barred_4 : List UInt8 := dkwX3_barred_4 ++ []
def dkwX3_barred_3 : List UInt8 := [108, 184, 1, 78, 42, 180, 0, 240, 164, 0, 5, 6, 172, 42, 42, 21, 5, 29, 182, 1, 100, 29]
abbrev dktX3_barred_3 : List UInt8 := dkwX3_barred_3 ++ dktX3_barred_4
def dkwX3_barred_2 : List UInt8 := [164, 0, 5, 5, 172, 42, 180, 0, 34, 29, 42, 180, 0, 28, 29, 46, 42, 180, 0, 237, 42, 180, 0, 234]
abbrev dktX3_barred_2 : List UInt8 := dkwX3_barred_2 ++ dktX3_barred_3
def dkwX3_barred_1 : List UInt8 := [180, 0, 52, 27, 46, 100, 54, 5, 21, 5, 42, 180, 0, 243, 163, 0, 13, 21, 5, 116, 42, 180, 0, 243]
abbrev dktX3_barred_1 : List UInt8 := dkwX3_barred_1 ++ dktX3_barred_2
def dkwX3_barred_0 : List UInt8 := [42, 27, 28, 182, 1, 97, 54, 4, 21, 4, 156, 0, 5, 4, 172, 42, 180, 0, 52, 21, 4, 46, 42]
abbrev dktX3_barred_0 : List UInt8 := dkwX3_barred_0 ++ dktX3_barred_1
theorem dksX3_barred_0 : cX3_barred.data.toList.drop 0 = dktX3_barred_0 := by decide +kernel
theorem dksX3_barred_1 : cX3_barred.data.toList.drop 23 = dktX3_barred_1 := dk_seg dksX3_barred_0 23 rfl rfl
theorem dksX3_barred_2 : cX3_barred.data.toList.drop 47 = dktX3_barred_2 := dk_seg dksX3_barred_1 24 rfl rfl
theorem dksX3_barred_3 : cX3_barred.data.toList.drop 71 = dktX3_barred_3 := dk_seg dksX3_barred_2 24 rfl rfl
theorem dksX3_barred_4 : cX3_barred.data.toList.drop 93 = dktX3_barred_4 := dk_seg dksX3_barred_3 22 rfl rfl
theorem dX3_barred_0 : decode cX3_barred 0 = .ok (.aload_n 0, 1) := dk_42 (dk_at dksX3_barred_0 0 rfl rfl)
theorem dX3_barred_1 : decode cX3_barred 1 = .ok (.iload_n 1, 1) := dk_27 (dk_at dksX3_barred_0 1 rfl rfl)
theorem dX3_barred_2 : decode cX3_barred 2 = .ok (.iload_n 2, 1) := dk_28 (dk_at dksX3_barred_0 2 rfl rfl)
theorem dX3_barred_3 : decode cX3_barred 3 = .ok (.invokevirtual 353, 3) := dk_182 1 97 (dk_at dksX3_barred_0 3 rfl rfl)
theorem dX3_barred_6 : decode cX3_barred 6 = .ok (.istore 4, 2) := dk_54 4 (dk_at dksX3_barred_0 6 rfl rfl)
theorem dX3_barred_8 : decode cX3_barred 8 = .ok (.iload 4, 2) := dk_21 4 (dk_at dksX3_barred_0 8 rfl rfl)
theorem dX3_barred_10 : decode cX3_barred 10 = .ok (.ifCond .ge 5, 3) := dk_156 0 5 (dk_at dksX3_barred_0 10 rfl rfl)
theorem dX3_barred_13 : decode cX3_barred 13 = .ok (.iconst 1, 1) := dk_4 (dk_at dksX3_barred_0 13 rfl rfl)
theorem dX3_barred_14 : decode cX3_barred 14 = .ok (.ireturn, 1) := dk_172 (dk_at dksX3_barred_0 14 rfl rfl)
theorem dX3_barred_15 : decode cX3_barred 15 = .ok (.aload_n 0, 1) := dk_42 (dk_at dksX3_barred_0 15 rfl rfl)
theorem dX3_barred_16 : decode cX3_barred 16 = .ok (.getfield 52, 3) := dk_180 0 52 (dk_at dksX3_barred_0 16 rfl rfl)
theorem dX3_barred_19 : decode cX3_barred 19 = .ok (.iload 4, 2) := dk_21 4 (dk_at dksX3_barred_0 19 rfl rfl)
theorem dX3_barred_21 : decode cX3_barred 21 = .ok (.iaload, 1) := dk_46 (dk_at dksX3_barred_0 21 rfl rfl)
theorem dX3_barred_22 : decode cX3_barred 22 = .ok (.aload_n 0, 1) := dk_42 (dk_at dksX3_barred_0 22 rfl rfl)
theorem dX3_barred_23 : decode cX3_barred 23 = .ok (.getfield 52, 3) := dk_180 0 52 (dk_at dksX3_barred_1 0 rfl rfl)
theorem dX3_barred_26 : decode cX3_barred 26 = .ok (.iload_n 1, 1) := dk_27 (dk_at dksX3_barred_1 3 rfl rfl)
theorem dX3_barred_27 : decode cX3_barred 27 = .ok (.iaload, 1) := dk_46 (dk_at dksX3_barred_1 4 rfl rfl)
theorem dX3_barred_28 : decode cX3_barred 28 = .ok (.isub, 1) := dk_100 (dk_at dksX3_barred_1 5 rfl rfl)
theorem dX3_barred_29 : decode cX3_barred 29 = .ok (.istore 5, 2) := dk_54 5 (dk_at dksX3_barred_1 6 rfl rfl)
theorem dX3_barred_31 : decode cX3_barred 31 = .ok (.iload 5, 2) := dk_21 5 (dk_at dksX3_barred_1 8 rfl rfl)
theorem dX3_barred_33 : decode cX3_barred 33 = .ok (.aload_n 0, 1) := dk_42 (dk_at dksX3_barred_1 10 rfl rfl)
theorem dX3_barred_34 : decode cX3_barred 34 = .ok (.getfield 243, 3) := dk_180 0 243 (dk_at dksX3_barred_1 11 rfl rfl)
theorem dX3_barred_37 : decode cX3_barred 37 = .ok (.if_icmp .gt 13, 3) := dk_163 0 13 (dk_at dksX3_barred_1 14 rfl rfl)
theorem dX3_barred_40 : decode cX3_barred 40 = .ok (.iload 5, 2) := dk_21 5 (dk_at dksX3_barred_1 17 rfl rfl)
theorem dX3_barred_42 : decode cX3_barred 42 = .ok (.ineg, 1) := dk_116 (dk_at dksX3_barred_1 19 rfl rfl)
theorem dX3_barred_43 : decode cX3_barred 43 = .ok (.aload_n 0, 1) := dk_42 (dk_at dksX3_barred_1 20 rfl rfl)
theorem dX3_barred_44 : decode cX3_barred 44 = .ok (.getfield 243, 3) := dk_180 0 243 (dk_at dksX3_barred_1 21 rfl rfl)
theorem dX3_barred_47 : decode cX3_barred 47 = .ok (.if_icmp .le 5, 3) := dk_164 0 5 (dk_at dksX3_barred_2 0 rfl rfl)
theorem dX3_barred_50 : decode cX3_barred 50 = .ok (.iconst 2, 1) := dk_5 (dk_at dksX3_barred_2 3 rfl rfl)
theorem dX3_barred_51 : decode cX3_barred 51 = .ok (.ireturn, 1) := dk_172 (dk_at dksX3_barred_2 4 rfl rfl)
theorem dX3_barred_52 : decode cX3_barred 52 = .ok (.aload_n 0, 1) := dk_42 (dk_at dksX3_barred_2 5 rfl rfl)
theorem dX3_barred_53 : decode cX3_barred 53 = .ok (.getfield 34, 3) := dk_180 0 34 (dk_at dksX3_barred_2 6 rfl rfl)
theorem dX3_barred_56 : decode cX3_barred 56 = .ok (.iload_n 3, 1) := dk_29 (dk_at dksX3_barred_2 9 rfl rfl)
theorem dX3_barred_57 : decode cX3_barred 57 = .ok (.aload_n 0, 1) := dk_42 (dk_at dksX3_barred_2 10 rfl rfl)
theorem dX3_barred_58 : decode cX3_barred 58 = .ok (.getfield 28, 3) := dk_180 0 28 (dk_at dksX3_barred_2 11 rfl rfl)
theorem dX3_barred_61 : decode cX3_barred 61 = .ok (.iload_n 3, 1) := dk_29 (dk_at dksX3_barred_2 14 rfl rfl)
theorem dX3_barred_62 : decode cX3_barred 62 = .ok (.iaload, 1) := dk_46 (dk_at dksX3_barred_2 15 rfl rfl)
theorem dX3_barred_63 : decode cX3_barred 63 = .ok (.aload_n 0, 1) := dk_42 (dk_at dksX3_barred_2 16 rfl rfl)
theorem dX3_barred_64 : decode cX3_barred 64 = .ok (.getfield 237, 3) := dk_180 0 237 (dk_at dksX3_barred_2 17 rfl rfl)
theorem dX3_barred_67 : decode cX3_barred 67 = .ok (.aload_n 0, 1) := dk_42 (dk_at dksX3_barred_2 20 rfl rfl)
theorem dX3_barred_68 : decode cX3_barred 68 = .ok (.getfield 234, 3) := dk_180 0 234 (dk_at dksX3_barred_2 21 rfl rfl)
theorem dX3_barred_71 : decode cX3_barred 71 = .ok (.idiv, 1) := dk_108 (dk_at dksX3_barred_3 0 rfl rfl)
theorem dX3_barred_72 : decode cX3_barred 72 = .ok (.invokestatic 334, 3) := dk_184 1 78 (dk_at dksX3_barred_3 1 rfl rfl)
theorem dX3_barred_75 : decode cX3_barred 75 = .ok (.aload_n 0, 1) := dk_42 (dk_at dksX3_barred_3 4 rfl rfl)
theorem dX3_barred_76 : decode cX3_barred 76 = .ok (.getfield 240, 3) := dk_180 0 240 (dk_at dksX3_barred_3 5 rfl rfl)
theorem dX3_barred_79 : decode cX3_barred 79 = .ok (.if_icmp .le 5, 3) := dk_164 0 5 (dk_at dksX3_barred_3 8 rfl rfl)
theorem dX3_barred_82 : decode cX3_barred 82 = .ok (.iconst 3, 1) := dk_6 (dk_at dksX3_barred_3 11 rfl rfl)
theorem dX3_barred_83 : decode cX3_barred 83 = .ok (.ireturn, 1) := dk_172 (dk_at dksX3_barred_3 12 rfl rfl)
theorem dX3_barred_84 : decode cX3_barred 84 = .ok (.aload_n 0, 1) := dk_42 (dk_at dksX3_barred_3 13 rfl rfl)
theorem dX3_barred_85 : decode cX3_barred 85 = .ok (.aload_n 0, 1) := dk_42 (dk_at dksX3_barred_3 14 rfl rfl)
theorem dX3_barred_86 : decode cX3_barred 86 = .ok (.iload 5, 2) := dk_21 5 (dk_at dksX3_barred_3 15 rfl rfl)
theorem dX3_barred_88 : decode cX3_barred 88 = .ok (.iload_n 3, 1) := dk_29 (dk_at dksX3_barred_3 17 rfl rfl)
theorem dX3_barred_89 : decode cX3_barred 89 = .ok (.invokevirtual 356, 3) := dk_182 1 100 (dk_at dksX3_barred_3 18 rfl rfl)
theorem dX3_barred_92 : decode cX3_barred 92 = .ok (.iload_n 3, 1) := dk_29 (dk_at dksX3_barred_3 21 rfl rfl)
theorem dX3_barred_93 : decode cX3_barred 93 = .ok (.invokevirtual 359, 3) := dk_182 1 103 (dk_at dksX3_barred_4 0 rfl rfl)
theorem dX3_barred_96 : decode cX3_barred 96 = .ok (.ifCond .ge 7, 3) := dk_156 0 7 (dk_at dksX3_barred_4 3 rfl rfl)
theorem dX3_barred_99 : decode cX3_barred 99 = .ok (.iconst 4, 1) := dk_7 (dk_at dksX3_barred_4 6 rfl rfl)
theorem dX3_barred_100 : decode cX3_barred 100 = .ok (.goto 4, 3) := dk_167 0 4 (dk_at dksX3_barred_4 7 rfl rfl)
theorem dX3_barred_103 : decode cX3_barred 103 = .ok (.iconst 0, 1) := dk_3 (dk_at dksX3_barred_4 10 rfl rfl)
theorem dX3_barred_104 : decode cX3_barred 104 = .ok (.ireturn, 1) := dk_172 (dk_at dksX3_barred_4 11 rfl rfl)
abbrev cX3_beside : ByteArray := prog_23_method_45_code
def yX3_beside : MethodName := ⟨RX3, "beside", "(II)I"⟩
def dkwX3_beside_4 : List UInt8 := [2, 172]
abbrev dktX3_beside_4 : List UInt8 := dkwX3_beside_4 ++ []
def dkwX3_beside_3 : List UInt8 := [42, 180, 1, 88, 4, 100, 184, 0, 220, 153, 0, 15, 42, 180, 1, 85, 21, 4, 104, 29, 96, 167, 0, 4]
abbrev dktX3_beside_3 : List UInt8 := dkwX3_beside_3 ++ dktX3_beside_4
def dkwX3_beside_2 : List UInt8 := [167, 0, 4, 3, 96, 54, 4, 29, 3, 42, 180, 1, 85, 4, 100, 184, 0, 220, 153, 0, 30, 21, 4, 3]
abbrev dktX3_beside_2 : List UInt8 := dkwX3_beside_2 ++ dktX3_beside_3
def dkwX3_beside_1 : List UInt8 := [96, 62, 27, 42, 180, 1, 85, 108, 28, 5, 160, 0, 7, 2, 167, 0, 13, 28, 6, 160, 0, 7, 4]
abbrev dktX3_beside_1 : List UInt8 := dkwX3_beside_1 ++ dktX3_beside_2
def dkwX3_beside_0 : List UInt8 := [27, 42, 180, 1, 85, 112, 28, 154, 0, 7, 4, 167, 0, 13, 28, 4, 160, 0, 7, 2, 167, 0, 4, 3]
abbrev dktX3_beside_0 : List UInt8 := dkwX3_beside_0 ++ dktX3_beside_1
theorem dksX3_beside_0 : cX3_beside.data.toList.drop 0 = dktX3_beside_0 := by decide +kernel
theorem dksX3_beside_1 : cX3_beside.data.toList.drop 24 = dktX3_beside_1 := dk_seg dksX3_beside_0 24 rfl rfl
theorem dksX3_beside_2 : cX3_beside.data.toList.drop 47 = dktX3_beside_2 := dk_seg dksX3_beside_1 23 rfl rfl
theorem dksX3_beside_3 : cX3_beside.data.toList.drop 71 = dktX3_beside_3 := dk_seg dksX3_beside_2 24 rfl rfl
theorem dksX3_beside_4 : cX3_beside.data.toList.drop 95 = dktX3_beside_4 := dk_seg dksX3_beside_3 24 rfl rfl
theorem dX3_beside_0 : decode cX3_beside 0 = .ok (.iload_n 1, 1) := dk_27 (dk_at dksX3_beside_0 0 rfl rfl)
theorem dX3_beside_1 : decode cX3_beside 1 = .ok (.aload_n 0, 1) := dk_42 (dk_at dksX3_beside_0 1 rfl rfl)
theorem dX3_beside_2 : decode cX3_beside 2 = .ok (.getfield 341, 3) := dk_180 1 85 (dk_at dksX3_beside_0 2 rfl rfl)
theorem dX3_beside_5 : decode cX3_beside 5 = .ok (.irem, 1) := dk_112 (dk_at dksX3_beside_0 5 rfl rfl)
theorem dX3_beside_6 : decode cX3_beside 6 = .ok (.iload_n 2, 1) := dk_28 (dk_at dksX3_beside_0 6 rfl rfl)
theorem dX3_beside_7 : decode cX3_beside 7 = .ok (.ifCond .ne 7, 3) := dk_154 0 7 (dk_at dksX3_beside_0 7 rfl rfl)
theorem dX3_beside_10 : decode cX3_beside 10 = .ok (.iconst 1, 1) := dk_4 (dk_at dksX3_beside_0 10 rfl rfl)
theorem dX3_beside_11 : decode cX3_beside 11 = .ok (.goto 13, 3) := dk_167 0 13 (dk_at dksX3_beside_0 11 rfl rfl)
theorem dX3_beside_14 : decode cX3_beside 14 = .ok (.iload_n 2, 1) := dk_28 (dk_at dksX3_beside_0 14 rfl rfl)
theorem dX3_beside_15 : decode cX3_beside 15 = .ok (.iconst 1, 1) := dk_4 (dk_at dksX3_beside_0 15 rfl rfl)
theorem dX3_beside_16 : decode cX3_beside 16 = .ok (.if_icmp .ne 7, 3) := dk_160 0 7 (dk_at dksX3_beside_0 16 rfl rfl)
theorem dX3_beside_19 : decode cX3_beside 19 = .ok (.iconst (-1), 1) := dk_2 (dk_at dksX3_beside_0 19 rfl rfl)
theorem dX3_beside_20 : decode cX3_beside 20 = .ok (.goto 4, 3) := dk_167 0 4 (dk_at dksX3_beside_0 20 rfl rfl)
theorem dX3_beside_23 : decode cX3_beside 23 = .ok (.iconst 0, 1) := dk_3 (dk_at dksX3_beside_0 23 rfl rfl)
theorem dX3_beside_24 : decode cX3_beside 24 = .ok (.iadd, 1) := dk_96 (dk_at dksX3_beside_1 0 rfl rfl)
theorem dX3_beside_25 : decode cX3_beside 25 = .ok (.istore_n 3, 1) := dk_62 (dk_at dksX3_beside_1 1 rfl rfl)
theorem dX3_beside_26 : decode cX3_beside 26 = .ok (.iload_n 1, 1) := dk_27 (dk_at dksX3_beside_1 2 rfl rfl)
theorem dX3_beside_27 : decode cX3_beside 27 = .ok (.aload_n 0, 1) := dk_42 (dk_at dksX3_beside_1 3 rfl rfl)
theorem dX3_beside_28 : decode cX3_beside 28 = .ok (.getfield 341, 3) := dk_180 1 85 (dk_at dksX3_beside_1 4 rfl rfl)
theorem dX3_beside_31 : decode cX3_beside 31 = .ok (.idiv, 1) := dk_108 (dk_at dksX3_beside_1 7 rfl rfl)
theorem dX3_beside_32 : decode cX3_beside 32 = .ok (.iload_n 2, 1) := dk_28 (dk_at dksX3_beside_1 8 rfl rfl)
theorem dX3_beside_33 : decode cX3_beside 33 = .ok (.iconst 2, 1) := dk_5 (dk_at dksX3_beside_1 9 rfl rfl)
theorem dX3_beside_34 : decode cX3_beside 34 = .ok (.if_icmp .ne 7, 3) := dk_160 0 7 (dk_at dksX3_beside_1 10 rfl rfl)
theorem dX3_beside_37 : decode cX3_beside 37 = .ok (.iconst (-1), 1) := dk_2 (dk_at dksX3_beside_1 13 rfl rfl)
theorem dX3_beside_38 : decode cX3_beside 38 = .ok (.goto 13, 3) := dk_167 0 13 (dk_at dksX3_beside_1 14 rfl rfl)
theorem dX3_beside_41 : decode cX3_beside 41 = .ok (.iload_n 2, 1) := dk_28 (dk_at dksX3_beside_1 17 rfl rfl)
theorem dX3_beside_42 : decode cX3_beside 42 = .ok (.iconst 3, 1) := dk_6 (dk_at dksX3_beside_1 18 rfl rfl)
theorem dX3_beside_43 : decode cX3_beside 43 = .ok (.if_icmp .ne 7, 3) := dk_160 0 7 (dk_at dksX3_beside_1 19 rfl rfl)
theorem dX3_beside_46 : decode cX3_beside 46 = .ok (.iconst 1, 1) := dk_4 (dk_at dksX3_beside_1 22 rfl rfl)
theorem dX3_beside_47 : decode cX3_beside 47 = .ok (.goto 4, 3) := dk_167 0 4 (dk_at dksX3_beside_2 0 rfl rfl)
theorem dX3_beside_50 : decode cX3_beside 50 = .ok (.iconst 0, 1) := dk_3 (dk_at dksX3_beside_2 3 rfl rfl)
theorem dX3_beside_51 : decode cX3_beside 51 = .ok (.iadd, 1) := dk_96 (dk_at dksX3_beside_2 4 rfl rfl)
theorem dX3_beside_52 : decode cX3_beside 52 = .ok (.istore 4, 2) := dk_54 4 (dk_at dksX3_beside_2 5 rfl rfl)
theorem dX3_beside_54 : decode cX3_beside 54 = .ok (.iload_n 3, 1) := dk_29 (dk_at dksX3_beside_2 7 rfl rfl)
theorem dX3_beside_55 : decode cX3_beside 55 = .ok (.iconst 0, 1) := dk_3 (dk_at dksX3_beside_2 8 rfl rfl)
theorem dX3_beside_56 : decode cX3_beside 56 = .ok (.aload_n 0, 1) := dk_42 (dk_at dksX3_beside_2 9 rfl rfl)
theorem dX3_beside_57 : decode cX3_beside 57 = .ok (.getfield 341, 3) := dk_180 1 85 (dk_at dksX3_beside_2 10 rfl rfl)
theorem dX3_beside_60 : decode cX3_beside 60 = .ok (.iconst 1, 1) := dk_4 (dk_at dksX3_beside_2 13 rfl rfl)
theorem dX3_beside_61 : decode cX3_beside 61 = .ok (.isub, 1) := dk_100 (dk_at dksX3_beside_2 14 rfl rfl)
theorem dX3_beside_62 : decode cX3_beside 62 = .ok (.invokestatic 220, 3) := dk_184 0 220 (dk_at dksX3_beside_2 15 rfl rfl)
theorem dX3_beside_65 : decode cX3_beside 65 = .ok (.ifCond .eq 30, 3) := dk_153 0 30 (dk_at dksX3_beside_2 18 rfl rfl)
theorem dX3_beside_68 : decode cX3_beside 68 = .ok (.iload 4, 2) := dk_21 4 (dk_at dksX3_beside_2 21 rfl rfl)
theorem dX3_beside_70 : decode cX3_beside 70 = .ok (.iconst 0, 1) := dk_3 (dk_at dksX3_beside_2 23 rfl rfl)
theorem dX3_beside_71 : decode cX3_beside 71 = .ok (.aload_n 0, 1) := dk_42 (dk_at dksX3_beside_3 0 rfl rfl)
theorem dX3_beside_72 : decode cX3_beside 72 = .ok (.getfield 344, 3) := dk_180 1 88 (dk_at dksX3_beside_3 1 rfl rfl)
theorem dX3_beside_75 : decode cX3_beside 75 = .ok (.iconst 1, 1) := dk_4 (dk_at dksX3_beside_3 4 rfl rfl)
theorem dX3_beside_76 : decode cX3_beside 76 = .ok (.isub, 1) := dk_100 (dk_at dksX3_beside_3 5 rfl rfl)
theorem dX3_beside_77 : decode cX3_beside 77 = .ok (.invokestatic 220, 3) := dk_184 0 220 (dk_at dksX3_beside_3 6 rfl rfl)
theorem dX3_beside_80 : decode cX3_beside 80 = .ok (.ifCond .eq 15, 3) := dk_153 0 15 (dk_at dksX3_beside_3 9 rfl rfl)
theorem dX3_beside_83 : decode cX3_beside 83 = .ok (.aload_n 0, 1) := dk_42 (dk_at dksX3_beside_3 12 rfl rfl)
theorem dX3_beside_84 : decode cX3_beside 84 = .ok (.getfield 341, 3) := dk_180 1 85 (dk_at dksX3_beside_3 13 rfl rfl)
theorem dX3_beside_87 : decode cX3_beside 87 = .ok (.iload 4, 2) := dk_21 4 (dk_at dksX3_beside_3 16 rfl rfl)
theorem dX3_beside_89 : decode cX3_beside 89 = .ok (.imul, 1) := dk_104 (dk_at dksX3_beside_3 18 rfl rfl)
theorem dX3_beside_90 : decode cX3_beside 90 = .ok (.iload_n 3, 1) := dk_29 (dk_at dksX3_beside_3 19 rfl rfl)
theorem dX3_beside_91 : decode cX3_beside 91 = .ok (.iadd, 1) := dk_96 (dk_at dksX3_beside_3 20 rfl rfl)
theorem dX3_beside_92 : decode cX3_beside 92 = .ok (.goto 4, 3) := dk_167 0 4 (dk_at dksX3_beside_3 21 rfl rfl)
theorem dX3_beside_95 : decode cX3_beside 95 = .ok (.iconst (-1), 1) := dk_2 (dk_at dksX3_beside_4 0 rfl rfl)
theorem dX3_beside_96 : decode cX3_beside 96 = .ok (.ireturn, 1) := dk_172 (dk_at dksX3_beside_4 1 rfl rfl)
abbrev cX3_need : ByteArray := prog_23_method_46_code
def yX3_need : MethodName := ⟨RX3, "need", "(II)I"⟩
def dkwX3_need_2 : List UInt8 := [96, 54, 4, 21, 4, 156, 0, 7, 3, 167, 0, 5, 21, 4, 172]
abbrev dktX3_need_2 : List UInt8 := dkwX3_need_2 ++ []
def dkwX3_need_1 : List UInt8 := [28, 46, 29, 184, 1, 78, 96, 104, 16, 10, 184, 1, 73, 42, 180, 1, 28, 29, 104, 42, 180, 0, 246, 104]
abbrev dktX3_need_1 : List UInt8 := dkwX3_need_1 ++ dktX3_need_2
def dkwX3_need_0 : List UInt8 := [42, 180, 0, 237, 42, 180, 0, 234, 108, 62, 42, 180, 0, 237, 27, 42, 180, 0, 34, 28, 42, 180, 0, 28]
abbrev dktX3_need_0 : List UInt8 := dkwX3_need_0 ++ dktX3_need_1
theorem dksX3_need_0 : cX3_need.data.toList.drop 0 = dktX3_need_0 := by decide +kernel
theorem dksX3_need_1 : cX3_need.data.toList.drop 24 = dktX3_need_1 := dk_seg dksX3_need_0 24 rfl rfl
theorem dksX3_need_2 : cX3_need.data.toList.drop 48 = dktX3_need_2 := dk_seg dksX3_need_1 24 rfl rfl
theorem dX3_need_0 : decode cX3_need 0 = .ok (.aload_n 0, 1) := dk_42 (dk_at dksX3_need_0 0 rfl rfl)
theorem dX3_need_1 : decode cX3_need 1 = .ok (.getfield 237, 3) := dk_180 0 237 (dk_at dksX3_need_0 1 rfl rfl)
theorem dX3_need_4 : decode cX3_need 4 = .ok (.aload_n 0, 1) := dk_42 (dk_at dksX3_need_0 4 rfl rfl)
theorem dX3_need_5 : decode cX3_need 5 = .ok (.getfield 234, 3) := dk_180 0 234 (dk_at dksX3_need_0 5 rfl rfl)
theorem dX3_need_8 : decode cX3_need 8 = .ok (.idiv, 1) := dk_108 (dk_at dksX3_need_0 8 rfl rfl)
theorem dX3_need_9 : decode cX3_need 9 = .ok (.istore_n 3, 1) := dk_62 (dk_at dksX3_need_0 9 rfl rfl)
theorem dX3_need_10 : decode cX3_need 10 = .ok (.aload_n 0, 1) := dk_42 (dk_at dksX3_need_0 10 rfl rfl)
theorem dX3_need_11 : decode cX3_need 11 = .ok (.getfield 237, 3) := dk_180 0 237 (dk_at dksX3_need_0 11 rfl rfl)
theorem dX3_need_14 : decode cX3_need 14 = .ok (.iload_n 1, 1) := dk_27 (dk_at dksX3_need_0 14 rfl rfl)
theorem dX3_need_15 : decode cX3_need 15 = .ok (.aload_n 0, 1) := dk_42 (dk_at dksX3_need_0 15 rfl rfl)
theorem dX3_need_16 : decode cX3_need 16 = .ok (.getfield 34, 3) := dk_180 0 34 (dk_at dksX3_need_0 16 rfl rfl)
theorem dX3_need_19 : decode cX3_need 19 = .ok (.iload_n 2, 1) := dk_28 (dk_at dksX3_need_0 19 rfl rfl)
theorem dX3_need_20 : decode cX3_need 20 = .ok (.aload_n 0, 1) := dk_42 (dk_at dksX3_need_0 20 rfl rfl)
theorem dX3_need_21 : decode cX3_need 21 = .ok (.getfield 28, 3) := dk_180 0 28 (dk_at dksX3_need_0 21 rfl rfl)
theorem dX3_need_24 : decode cX3_need 24 = .ok (.iload_n 2, 1) := dk_28 (dk_at dksX3_need_1 0 rfl rfl)
theorem dX3_need_25 : decode cX3_need 25 = .ok (.iaload, 1) := dk_46 (dk_at dksX3_need_1 1 rfl rfl)
theorem dX3_need_26 : decode cX3_need 26 = .ok (.iload_n 3, 1) := dk_29 (dk_at dksX3_need_1 2 rfl rfl)
theorem dX3_need_27 : decode cX3_need 27 = .ok (.invokestatic 334, 3) := dk_184 1 78 (dk_at dksX3_need_1 3 rfl rfl)
theorem dX3_need_30 : decode cX3_need 30 = .ok (.iadd, 1) := dk_96 (dk_at dksX3_need_1 6 rfl rfl)
theorem dX3_need_31 : decode cX3_need 31 = .ok (.imul, 1) := dk_104 (dk_at dksX3_need_1 7 rfl rfl)
theorem dX3_need_32 : decode cX3_need 32 = .ok (.bipush 10, 2) := dk_16 10 (dk_at dksX3_need_1 8 rfl rfl)
theorem dX3_need_34 : decode cX3_need 34 = .ok (.invokestatic 329, 3) := dk_184 1 73 (dk_at dksX3_need_1 10 rfl rfl)
theorem dX3_need_37 : decode cX3_need 37 = .ok (.aload_n 0, 1) := dk_42 (dk_at dksX3_need_1 13 rfl rfl)
theorem dX3_need_38 : decode cX3_need 38 = .ok (.getfield 284, 3) := dk_180 1 28 (dk_at dksX3_need_1 14 rfl rfl)
theorem dX3_need_41 : decode cX3_need 41 = .ok (.iload_n 3, 1) := dk_29 (dk_at dksX3_need_1 17 rfl rfl)
theorem dX3_need_42 : decode cX3_need 42 = .ok (.imul, 1) := dk_104 (dk_at dksX3_need_1 18 rfl rfl)
theorem dX3_need_43 : decode cX3_need 43 = .ok (.aload_n 0, 1) := dk_42 (dk_at dksX3_need_1 19 rfl rfl)
theorem dX3_need_44 : decode cX3_need 44 = .ok (.getfield 246, 3) := dk_180 0 246 (dk_at dksX3_need_1 20 rfl rfl)
theorem dX3_need_47 : decode cX3_need 47 = .ok (.imul, 1) := dk_104 (dk_at dksX3_need_1 23 rfl rfl)
theorem dX3_need_48 : decode cX3_need 48 = .ok (.iadd, 1) := dk_96 (dk_at dksX3_need_2 0 rfl rfl)
theorem dX3_need_49 : decode cX3_need 49 = .ok (.istore 4, 2) := dk_54 4 (dk_at dksX3_need_2 1 rfl rfl)
theorem dX3_need_51 : decode cX3_need 51 = .ok (.iload 4, 2) := dk_21 4 (dk_at dksX3_need_2 3 rfl rfl)
theorem dX3_need_53 : decode cX3_need 53 = .ok (.ifCond .ge 7, 3) := dk_156 0 7 (dk_at dksX3_need_2 5 rfl rfl)
theorem dX3_need_56 : decode cX3_need 56 = .ok (.iconst 0, 1) := dk_3 (dk_at dksX3_need_2 8 rfl rfl)
theorem dX3_need_57 : decode cX3_need 57 = .ok (.goto 5, 3) := dk_167 0 5 (dk_at dksX3_need_2 9 rfl rfl)
theorem dX3_need_60 : decode cX3_need 60 = .ok (.iload 4, 2) := dk_21 4 (dk_at dksX3_need_2 12 rfl rfl)
theorem dX3_need_62 : decode cX3_need 62 = .ok (.ireturn, 1) := dk_172 (dk_at dksX3_need_2 14 rfl rfl)
abbrev cX3_slip : ByteArray := prog_23_method_47_code
def yX3_slip : MethodName := ⟨RX3, "slip", "(II)I"⟩
def dkwX3_slip_2 : List UInt8 := [104, 27, 161, 0, 6, 21, 4, 172, 132, 4, 1, 167, 255, 221, 2, 172]
abbrev dktX3_slip_2 : List UInt8 := dkwX3_slip_2 ++ []
def dkwX3_slip_1 : List UInt8 := [21, 4, 16, 90, 163, 0, 34, 29, 42, 180, 0, 37, 28, 42, 180, 0, 31, 28, 46, 21, 4, 184, 1, 78]
abbrev dktX3_slip_1 : List UInt8 := dkwX3_slip_1 ++ dktX3_slip_2
def dkwX3_slip_0 : List UInt8 := [42, 180, 0, 237, 42, 180, 0, 234, 108, 42, 180, 0, 234, 42, 180, 1, 28, 100, 104, 62, 3, 54, 4]
abbrev dktX3_slip_0 : List UInt8 := dkwX3_slip_0 ++ dktX3_slip_1
theorem dksX3_slip_0 : cX3_slip.data.toList.drop 0 = dktX3_slip_0 := by decide +kernel
theorem dksX3_slip_1 : cX3_slip.data.toList.drop 23 = dktX3_slip_1 := dk_seg dksX3_slip_0 23 rfl rfl
theorem dksX3_slip_2 : cX3_slip.data.toList.drop 47 = dktX3_slip_2 := dk_seg dksX3_slip_1 24 rfl rfl
theorem dX3_slip_0 : decode cX3_slip 0 = .ok (.aload_n 0, 1) := dk_42 (dk_at dksX3_slip_0 0 rfl rfl)
theorem dX3_slip_1 : decode cX3_slip 1 = .ok (.getfield 237, 3) := dk_180 0 237 (dk_at dksX3_slip_0 1 rfl rfl)
theorem dX3_slip_4 : decode cX3_slip 4 = .ok (.aload_n 0, 1) := dk_42 (dk_at dksX3_slip_0 4 rfl rfl)
theorem dX3_slip_5 : decode cX3_slip 5 = .ok (.getfield 234, 3) := dk_180 0 234 (dk_at dksX3_slip_0 5 rfl rfl)
theorem dX3_slip_8 : decode cX3_slip 8 = .ok (.idiv, 1) := dk_108 (dk_at dksX3_slip_0 8 rfl rfl)
theorem dX3_slip_9 : decode cX3_slip 9 = .ok (.aload_n 0, 1) := dk_42 (dk_at dksX3_slip_0 9 rfl rfl)
theorem dX3_slip_10 : decode cX3_slip 10 = .ok (.getfield 234, 3) := dk_180 0 234 (dk_at dksX3_slip_0 10 rfl rfl)
theorem dX3_slip_13 : decode cX3_slip 13 = .ok (.aload_n 0, 1) := dk_42 (dk_at dksX3_slip_0 13 rfl rfl)
theorem dX3_slip_14 : decode cX3_slip 14 = .ok (.getfield 284, 3) := dk_180 1 28 (dk_at dksX3_slip_0 14 rfl rfl)
theorem dX3_slip_17 : decode cX3_slip 17 = .ok (.isub, 1) := dk_100 (dk_at dksX3_slip_0 17 rfl rfl)
theorem dX3_slip_18 : decode cX3_slip 18 = .ok (.imul, 1) := dk_104 (dk_at dksX3_slip_0 18 rfl rfl)
theorem dX3_slip_19 : decode cX3_slip 19 = .ok (.istore_n 3, 1) := dk_62 (dk_at dksX3_slip_0 19 rfl rfl)
theorem dX3_slip_20 : decode cX3_slip 20 = .ok (.iconst 0, 1) := dk_3 (dk_at dksX3_slip_0 20 rfl rfl)
theorem dX3_slip_21 : decode cX3_slip 21 = .ok (.istore 4, 2) := dk_54 4 (dk_at dksX3_slip_0 21 rfl rfl)
theorem dX3_slip_23 : decode cX3_slip 23 = .ok (.iload 4, 2) := dk_21 4 (dk_at dksX3_slip_1 0 rfl rfl)
theorem dX3_slip_25 : decode cX3_slip 25 = .ok (.bipush 90, 2) := dk_16 90 (dk_at dksX3_slip_1 2 rfl rfl)
theorem dX3_slip_27 : decode cX3_slip 27 = .ok (.if_icmp .gt 34, 3) := dk_163 0 34 (dk_at dksX3_slip_1 4 rfl rfl)
theorem dX3_slip_30 : decode cX3_slip 30 = .ok (.iload_n 3, 1) := dk_29 (dk_at dksX3_slip_1 7 rfl rfl)
theorem dX3_slip_31 : decode cX3_slip 31 = .ok (.aload_n 0, 1) := dk_42 (dk_at dksX3_slip_1 8 rfl rfl)
theorem dX3_slip_32 : decode cX3_slip 32 = .ok (.getfield 37, 3) := dk_180 0 37 (dk_at dksX3_slip_1 9 rfl rfl)
theorem dX3_slip_35 : decode cX3_slip 35 = .ok (.iload_n 2, 1) := dk_28 (dk_at dksX3_slip_1 12 rfl rfl)
theorem dX3_slip_36 : decode cX3_slip 36 = .ok (.aload_n 0, 1) := dk_42 (dk_at dksX3_slip_1 13 rfl rfl)
theorem dX3_slip_37 : decode cX3_slip 37 = .ok (.getfield 31, 3) := dk_180 0 31 (dk_at dksX3_slip_1 14 rfl rfl)
theorem dX3_slip_40 : decode cX3_slip 40 = .ok (.iload_n 2, 1) := dk_28 (dk_at dksX3_slip_1 17 rfl rfl)
theorem dX3_slip_41 : decode cX3_slip 41 = .ok (.iaload, 1) := dk_46 (dk_at dksX3_slip_1 18 rfl rfl)
theorem dX3_slip_42 : decode cX3_slip 42 = .ok (.iload 4, 2) := dk_21 4 (dk_at dksX3_slip_1 19 rfl rfl)
theorem dX3_slip_44 : decode cX3_slip 44 = .ok (.invokestatic 334, 3) := dk_184 1 78 (dk_at dksX3_slip_1 21 rfl rfl)
theorem dX3_slip_47 : decode cX3_slip 47 = .ok (.imul, 1) := dk_104 (dk_at dksX3_slip_2 0 rfl rfl)
theorem dX3_slip_48 : decode cX3_slip 48 = .ok (.iload_n 1, 1) := dk_27 (dk_at dksX3_slip_2 1 rfl rfl)
theorem dX3_slip_49 : decode cX3_slip 49 = .ok (.if_icmp .lt 6, 3) := dk_161 0 6 (dk_at dksX3_slip_2 2 rfl rfl)
theorem dX3_slip_52 : decode cX3_slip 52 = .ok (.iload 4, 2) := dk_21 4 (dk_at dksX3_slip_2 5 rfl rfl)
theorem dX3_slip_54 : decode cX3_slip 54 = .ok (.ireturn, 1) := dk_172 (dk_at dksX3_slip_2 7 rfl rfl)
theorem dX3_slip_55 : decode cX3_slip 55 = .ok (.iinc 4 1, 3) := dk_132 4 1 (dk_at dksX3_slip_2 8 rfl rfl)
theorem dX3_slip_58 : decode cX3_slip 58 = .ok (.goto (-35), 3) := dk_167 255 221 (dk_at dksX3_slip_2 11 rfl rfl)
theorem dX3_slip_61 : decode cX3_slip 61 = .ok (.iconst (-1), 1) := dk_2 (dk_at dksX3_slip_2 14 rfl rfl)
theorem dX3_slip_62 : decode cX3_slip 62 = .ok (.ireturn, 1) := dk_172 (dk_at dksX3_slip_2 15 rfl rfl)
abbrev cX3_cost : ByteArray := prog_23_method_49_code
def yX3_cost : MethodName := ⟨RX3, "cost", "(III)I"⟩
def dkwX3_cost_1 : List UInt8 := [54, 4, 17, 3, 232, 21, 4, 96, 16, 100, 42, 21, 4, 29, 182, 1, 103, 100, 108, 4, 96, 172]
abbrev dktX3_cost_1 : List UInt8 := dkwX3_cost_1 ++ []
def dkwX3_cost_0 : List UInt8 := [42, 42, 180, 0, 52, 42, 27, 28, 182, 1, 97, 46, 42, 180, 0, 52, 27, 46, 100, 29, 182, 1, 100]
abbrev dktX3_cost_0 : List UInt8 := dkwX3_cost_0 ++ dktX3_cost_1
theorem dksX3_cost_0 : cX3_cost.data.toList.drop 0 = dktX3_cost_0 := by decide +kernel
theorem dksX3_cost_1 : cX3_cost.data.toList.drop 23 = dktX3_cost_1 := dk_seg dksX3_cost_0 23 rfl rfl
theorem dX3_cost_0 : decode cX3_cost 0 = .ok (.aload_n 0, 1) := dk_42 (dk_at dksX3_cost_0 0 rfl rfl)
theorem dX3_cost_1 : decode cX3_cost 1 = .ok (.aload_n 0, 1) := dk_42 (dk_at dksX3_cost_0 1 rfl rfl)
theorem dX3_cost_2 : decode cX3_cost 2 = .ok (.getfield 52, 3) := dk_180 0 52 (dk_at dksX3_cost_0 2 rfl rfl)
theorem dX3_cost_5 : decode cX3_cost 5 = .ok (.aload_n 0, 1) := dk_42 (dk_at dksX3_cost_0 5 rfl rfl)
theorem dX3_cost_6 : decode cX3_cost 6 = .ok (.iload_n 1, 1) := dk_27 (dk_at dksX3_cost_0 6 rfl rfl)
theorem dX3_cost_7 : decode cX3_cost 7 = .ok (.iload_n 2, 1) := dk_28 (dk_at dksX3_cost_0 7 rfl rfl)
theorem dX3_cost_8 : decode cX3_cost 8 = .ok (.invokevirtual 353, 3) := dk_182 1 97 (dk_at dksX3_cost_0 8 rfl rfl)
theorem dX3_cost_11 : decode cX3_cost 11 = .ok (.iaload, 1) := dk_46 (dk_at dksX3_cost_0 11 rfl rfl)
theorem dX3_cost_12 : decode cX3_cost 12 = .ok (.aload_n 0, 1) := dk_42 (dk_at dksX3_cost_0 12 rfl rfl)
theorem dX3_cost_13 : decode cX3_cost 13 = .ok (.getfield 52, 3) := dk_180 0 52 (dk_at dksX3_cost_0 13 rfl rfl)
theorem dX3_cost_16 : decode cX3_cost 16 = .ok (.iload_n 1, 1) := dk_27 (dk_at dksX3_cost_0 16 rfl rfl)
theorem dX3_cost_17 : decode cX3_cost 17 = .ok (.iaload, 1) := dk_46 (dk_at dksX3_cost_0 17 rfl rfl)
theorem dX3_cost_18 : decode cX3_cost 18 = .ok (.isub, 1) := dk_100 (dk_at dksX3_cost_0 18 rfl rfl)
theorem dX3_cost_19 : decode cX3_cost 19 = .ok (.iload_n 3, 1) := dk_29 (dk_at dksX3_cost_0 19 rfl rfl)
theorem dX3_cost_20 : decode cX3_cost 20 = .ok (.invokevirtual 356, 3) := dk_182 1 100 (dk_at dksX3_cost_0 20 rfl rfl)
theorem dX3_cost_23 : decode cX3_cost 23 = .ok (.istore 4, 2) := dk_54 4 (dk_at dksX3_cost_1 0 rfl rfl)
theorem dX3_cost_25 : decode cX3_cost 25 = .ok (.sipush 1000, 3) := dk_17 3 232 (dk_at dksX3_cost_1 2 rfl rfl)
theorem dX3_cost_28 : decode cX3_cost 28 = .ok (.iload 4, 2) := dk_21 4 (dk_at dksX3_cost_1 5 rfl rfl)
theorem dX3_cost_30 : decode cX3_cost 30 = .ok (.iadd, 1) := dk_96 (dk_at dksX3_cost_1 7 rfl rfl)
theorem dX3_cost_31 : decode cX3_cost 31 = .ok (.bipush 100, 2) := dk_16 100 (dk_at dksX3_cost_1 8 rfl rfl)
theorem dX3_cost_33 : decode cX3_cost 33 = .ok (.aload_n 0, 1) := dk_42 (dk_at dksX3_cost_1 10 rfl rfl)
theorem dX3_cost_34 : decode cX3_cost 34 = .ok (.iload 4, 2) := dk_21 4 (dk_at dksX3_cost_1 11 rfl rfl)
theorem dX3_cost_36 : decode cX3_cost 36 = .ok (.iload_n 3, 1) := dk_29 (dk_at dksX3_cost_1 13 rfl rfl)
theorem dX3_cost_37 : decode cX3_cost 37 = .ok (.invokevirtual 359, 3) := dk_182 1 103 (dk_at dksX3_cost_1 14 rfl rfl)
theorem dX3_cost_40 : decode cX3_cost 40 = .ok (.isub, 1) := dk_100 (dk_at dksX3_cost_1 17 rfl rfl)
theorem dX3_cost_41 : decode cX3_cost 41 = .ok (.idiv, 1) := dk_108 (dk_at dksX3_cost_1 18 rfl rfl)
theorem dX3_cost_42 : decode cX3_cost 42 = .ok (.iconst 1, 1) := dk_4 (dk_at dksX3_cost_1 19 rfl rfl)
theorem dX3_cost_43 : decode cX3_cost 43 = .ok (.iadd, 1) := dk_96 (dk_at dksX3_cost_1 20 rfl rfl)
theorem dX3_cost_44 : decode cX3_cost 44 = .ok (.ireturn, 1) := dk_172 (dk_at dksX3_cost_1 21 rfl rfl)
abbrev cX3_worst : ByteArray := prog_23_method_68_code
def yX3_worst : MethodName := ⟨RX3, "worst", "(II)I"⟩
def dkwX3_worst_2 : List UInt8 := [167, 0, 5, 33, 136, 172]
abbrev dktX3_worst_2 : List UInt8 := dkwX3_worst_2 ++ []
def dkwX3_worst_1 : List UInt8 := [182, 0, 252, 172, 42, 27, 28, 3, 182, 1, 170, 66, 33, 9, 148, 156, 0, 12, 42, 16, 6, 182, 0, 252]
abbrev dktX3_worst_1 : List UInt8 := dkwX3_worst_1 ++ dktX3_worst_2
def dkwX3_worst_0 : List UInt8 := [42, 182, 0, 249, 42, 27, 182, 1, 91, 153, 0, 11, 42, 28, 182, 1, 91, 154, 0, 9, 42, 4]
abbrev dktX3_worst_0 : List UInt8 := dkwX3_worst_0 ++ dktX3_worst_1
theorem dksX3_worst_0 : cX3_worst.data.toList.drop 0 = dktX3_worst_0 := by decide +kernel
theorem dksX3_worst_1 : cX3_worst.data.toList.drop 22 = dktX3_worst_1 := dk_seg dksX3_worst_0 22 rfl rfl
theorem dksX3_worst_2 : cX3_worst.data.toList.drop 46 = dktX3_worst_2 := dk_seg dksX3_worst_1 24 rfl rfl
theorem dX3_worst_0 : decode cX3_worst 0 = .ok (.aload_n 0, 1) := dk_42 (dk_at dksX3_worst_0 0 rfl rfl)
theorem dX3_worst_1 : decode cX3_worst 1 = .ok (.invokevirtual 249, 3) := dk_182 0 249 (dk_at dksX3_worst_0 1 rfl rfl)
theorem dX3_worst_4 : decode cX3_worst 4 = .ok (.aload_n 0, 1) := dk_42 (dk_at dksX3_worst_0 4 rfl rfl)
theorem dX3_worst_5 : decode cX3_worst 5 = .ok (.iload_n 1, 1) := dk_27 (dk_at dksX3_worst_0 5 rfl rfl)
theorem dX3_worst_6 : decode cX3_worst 6 = .ok (.invokevirtual 347, 3) := dk_182 1 91 (dk_at dksX3_worst_0 6 rfl rfl)
theorem dX3_worst_9 : decode cX3_worst 9 = .ok (.ifCond .eq 11, 3) := dk_153 0 11 (dk_at dksX3_worst_0 9 rfl rfl)
theorem dX3_worst_12 : decode cX3_worst 12 = .ok (.aload_n 0, 1) := dk_42 (dk_at dksX3_worst_0 12 rfl rfl)
theorem dX3_worst_13 : decode cX3_worst 13 = .ok (.iload_n 2, 1) := dk_28 (dk_at dksX3_worst_0 13 rfl rfl)
theorem dX3_worst_14 : decode cX3_worst 14 = .ok (.invokevirtual 347, 3) := dk_182 1 91 (dk_at dksX3_worst_0 14 rfl rfl)
theorem dX3_worst_17 : decode cX3_worst 17 = .ok (.ifCond .ne 9, 3) := dk_154 0 9 (dk_at dksX3_worst_0 17 rfl rfl)
theorem dX3_worst_20 : decode cX3_worst 20 = .ok (.aload_n 0, 1) := dk_42 (dk_at dksX3_worst_0 20 rfl rfl)
theorem dX3_worst_21 : decode cX3_worst 21 = .ok (.iconst 1, 1) := dk_4 (dk_at dksX3_worst_0 21 rfl rfl)
theorem dX3_worst_22 : decode cX3_worst 22 = .ok (.invokevirtual 252, 3) := dk_182 0 252 (dk_at dksX3_worst_1 0 rfl rfl)
theorem dX3_worst_25 : decode cX3_worst 25 = .ok (.ireturn, 1) := dk_172 (dk_at dksX3_worst_1 3 rfl rfl)
theorem dX3_worst_26 : decode cX3_worst 26 = .ok (.aload_n 0, 1) := dk_42 (dk_at dksX3_worst_1 4 rfl rfl)
theorem dX3_worst_27 : decode cX3_worst 27 = .ok (.iload_n 1, 1) := dk_27 (dk_at dksX3_worst_1 5 rfl rfl)
theorem dX3_worst_28 : decode cX3_worst 28 = .ok (.iload_n 2, 1) := dk_28 (dk_at dksX3_worst_1 6 rfl rfl)
theorem dX3_worst_29 : decode cX3_worst 29 = .ok (.iconst 0, 1) := dk_3 (dk_at dksX3_worst_1 7 rfl rfl)
theorem dX3_worst_30 : decode cX3_worst 30 = .ok (.invokevirtual 426, 3) := dk_182 1 170 (dk_at dksX3_worst_1 8 rfl rfl)
theorem dX3_worst_33 : decode cX3_worst 33 = .ok (.lstore_n 3, 1) := dk_66 (dk_at dksX3_worst_1 11 rfl rfl)
theorem dX3_worst_34 : decode cX3_worst 34 = .ok (.lload_n 3, 1) := dk_33 (dk_at dksX3_worst_1 12 rfl rfl)
theorem dX3_worst_35 : decode cX3_worst 35 = .ok (.lconst 0, 1) := dk_9 (dk_at dksX3_worst_1 13 rfl rfl)
theorem dX3_worst_36 : decode cX3_worst 36 = .ok (.lcmp, 1) := dk_148 (dk_at dksX3_worst_1 14 rfl rfl)
theorem dX3_worst_37 : decode cX3_worst 37 = .ok (.ifCond .ge 12, 3) := dk_156 0 12 (dk_at dksX3_worst_1 15 rfl rfl)
theorem dX3_worst_40 : decode cX3_worst 40 = .ok (.aload_n 0, 1) := dk_42 (dk_at dksX3_worst_1 18 rfl rfl)
theorem dX3_worst_41 : decode cX3_worst 41 = .ok (.bipush 6, 2) := dk_16 6 (dk_at dksX3_worst_1 19 rfl rfl)
theorem dX3_worst_43 : decode cX3_worst 43 = .ok (.invokevirtual 252, 3) := dk_182 0 252 (dk_at dksX3_worst_1 21 rfl rfl)
theorem dX3_worst_46 : decode cX3_worst 46 = .ok (.goto 5, 3) := dk_167 0 5 (dk_at dksX3_worst_2 0 rfl rfl)
theorem dX3_worst_49 : decode cX3_worst 49 = .ok (.lload_n 3, 1) := dk_33 (dk_at dksX3_worst_2 3 rfl rfl)
theorem dX3_worst_50 : decode cX3_worst 50 = .ok (.l2i, 1) := dk_136 (dk_at dksX3_worst_2 4 rfl rfl)
theorem dX3_worst_51 : decode cX3_worst 51 = .ok (.ireturn, 1) := dk_172 (dk_at dksX3_worst_2 5 rfl rfl)
abbrev cX3_from : ByteArray := prog_23_method_67_code
def yX3_from : MethodName := ⟨RX3, "from", "(IIZ)J"⟩
def dkwX3_from_1 : List UInt8 := [20, 1, 134, 148, 155, 0, 9, 20, 1, 168, 167, 0, 5, 22, 4, 173]
abbrev dktX3_from_1 : List UInt8 := dkwX3_from_1 ++ []
def dkwX3_from_0 : List UInt8 := [42, 28, 29, 182, 1, 161, 42, 180, 0, 74, 16, 100, 42, 182, 1, 165, 104, 27, 96, 47, 55, 4, 22, 4]
abbrev dktX3_from_0 : List UInt8 := dkwX3_from_0 ++ dktX3_from_1
theorem dksX3_from_0 : cX3_from.data.toList.drop 0 = dktX3_from_0 := by decide +kernel
theorem dksX3_from_1 : cX3_from.data.toList.drop 24 = dktX3_from_1 := dk_seg dksX3_from_0 24 rfl rfl
theorem dX3_from_0 : decode cX3_from 0 = .ok (.aload_n 0, 1) := dk_42 (dk_at dksX3_from_0 0 rfl rfl)
theorem dX3_from_1 : decode cX3_from 1 = .ok (.iload_n 2, 1) := dk_28 (dk_at dksX3_from_0 1 rfl rfl)
theorem dX3_from_2 : decode cX3_from 2 = .ok (.iload_n 3, 1) := dk_29 (dk_at dksX3_from_0 2 rfl rfl)
theorem dX3_from_3 : decode cX3_from 3 = .ok (.invokevirtual 417, 3) := dk_182 1 161 (dk_at dksX3_from_0 3 rfl rfl)
theorem dX3_from_6 : decode cX3_from 6 = .ok (.aload_n 0, 1) := dk_42 (dk_at dksX3_from_0 6 rfl rfl)
theorem dX3_from_7 : decode cX3_from 7 = .ok (.getfield 74, 3) := dk_180 0 74 (dk_at dksX3_from_0 7 rfl rfl)
theorem dX3_from_10 : decode cX3_from 10 = .ok (.bipush 100, 2) := dk_16 100 (dk_at dksX3_from_0 10 rfl rfl)
theorem dX3_from_12 : decode cX3_from 12 = .ok (.aload_n 0, 1) := dk_42 (dk_at dksX3_from_0 12 rfl rfl)
theorem dX3_from_13 : decode cX3_from 13 = .ok (.invokevirtual 421, 3) := dk_182 1 165 (dk_at dksX3_from_0 13 rfl rfl)
theorem dX3_from_16 : decode cX3_from 16 = .ok (.imul, 1) := dk_104 (dk_at dksX3_from_0 16 rfl rfl)
theorem dX3_from_17 : decode cX3_from 17 = .ok (.iload_n 1, 1) := dk_27 (dk_at dksX3_from_0 17 rfl rfl)
theorem dX3_from_18 : decode cX3_from 18 = .ok (.iadd, 1) := dk_96 (dk_at dksX3_from_0 18 rfl rfl)
theorem dX3_from_19 : decode cX3_from 19 = .ok (.laload, 1) := dk_47 (dk_at dksX3_from_0 19 rfl rfl)
theorem dX3_from_20 : decode cX3_from 20 = .ok (.lstore 4, 2) := dk_55 4 (dk_at dksX3_from_0 20 rfl rfl)
theorem dX3_from_22 : decode cX3_from 22 = .ok (.lload 4, 2) := dk_22 4 (dk_at dksX3_from_0 22 rfl rfl)
theorem dX3_from_24 : decode cX3_from 24 = .ok (.ldc2_w 390, 3) := dk_20 1 134 (dk_at dksX3_from_1 0 rfl rfl)
theorem dX3_from_27 : decode cX3_from 27 = .ok (.lcmp, 1) := dk_148 (dk_at dksX3_from_1 3 rfl rfl)
theorem dX3_from_28 : decode cX3_from 28 = .ok (.ifCond .lt 9, 3) := dk_155 0 9 (dk_at dksX3_from_1 4 rfl rfl)
theorem dX3_from_31 : decode cX3_from 31 = .ok (.ldc2_w 424, 3) := dk_20 1 168 (dk_at dksX3_from_1 7 rfl rfl)
theorem dX3_from_34 : decode cX3_from 34 = .ok (.goto 5, 3) := dk_167 0 5 (dk_at dksX3_from_1 10 rfl rfl)
theorem dX3_from_37 : decode cX3_from 37 = .ok (.lload 4, 2) := dk_22 4 (dk_at dksX3_from_1 13 rfl rfl)
theorem dX3_from_39 : decode cX3_from 39 = .ok (.lreturn, 1) := dk_173 (dk_at dksX3_from_1 15 rfl rfl)
abbrev cX3_solve : ByteArray := prog_23_method_65_code
def yX3_solve : MethodName := ⟨RX3, "solve", "(IZ)V"⟩
def dkwX3_solve_11 : List UInt8 := [22, 8, 80, 132, 7, 1, 167, 255, 164, 167, 255, 150, 132, 3, 255, 167, 255, 30, 177]
abbrev dktX3_solve_11 : List UInt8 := dkwX3_solve_11 ++ []
def dkwX3_solve_10 : List UInt8 := [96, 47, 148, 156, 0, 7, 4, 167, 0, 4, 3, 54, 6, 42, 180, 0, 74, 16, 100, 29, 104, 21, 7, 96]
abbrev dktX3_solve_10 : List UInt8 := dkwX3_solve_10 ++ dktX3_solve_11
def dkwX3_solve_9 : List UInt8 := [22, 4, 182, 1, 157, 55, 8, 21, 6, 154, 0, 21, 22, 8, 42, 180, 0, 74, 16, 100, 29, 104, 21, 7]
abbrev dktX3_solve_9 : List UInt8 := dkwX3_solve_9 ++ dktX3_solve_10
def dkwX3_solve_8 : List UInt8 := [21, 7, 27, 159, 0, 72, 42, 21, 7, 29, 182, 1, 148, 2, 159, 0, 6, 167, 0, 58, 42, 29, 21, 7]
abbrev dktX3_solve_8 : List UInt8 := dkwX3_solve_8 ++ dktX3_solve_9
def dkwX3_solve_7 : List UInt8 := [153, 0, 107, 3, 54, 6, 3, 54, 7, 21, 7, 42, 180, 1, 85, 42, 180, 1, 88, 104, 162, 0, 84]
abbrev dktX3_solve_7 : List UInt8 := dkwX3_solve_7 ++ dktX3_solve_8
def dkwX3_solve_6 : List UInt8 := [167, 255, 186, 28, 153, 0, 11, 42, 29, 182, 1, 155, 167, 0, 4, 10, 55, 4, 4, 54, 6, 21, 6]
abbrev dktX3_solve_6 : List UInt8 := dkwX3_solve_6 ++ dktX3_solve_7
def dkwX3_solve_5 : List UInt8 := [160, 0, 9, 20, 1, 134, 167, 0, 13, 42, 29, 21, 4, 21, 5, 28, 182, 1, 151, 80, 132, 4, 1]
abbrev dktX3_solve_5 : List UInt8 := dkwX3_solve_5 ++ dktX3_solve_6
def dkwX3_solve_4 : List UInt8 := [180, 0, 74, 16, 100, 29, 104, 21, 4, 96, 21, 4, 27, 160, 0, 7, 9, 167, 0, 25, 21, 5, 2]
abbrev dktX3_solve_4 : List UInt8 := dkwX3_solve_4 ++ dktX3_solve_5
def dkwX3_solve_3 : List UInt8 := [42, 180, 1, 85, 42, 180, 1, 88, 104, 162, 0, 62, 42, 21, 4, 29, 182, 1, 148, 54, 5, 42]
abbrev dktX3_solve_3 : List UInt8 := dkwX3_solve_3 ++ dktX3_solve_4
def dkwX3_solve_2 : List UInt8 := [155, 0, 228, 42, 29, 182, 1, 142, 154, 0, 6, 167, 0, 211, 42, 29, 182, 1, 145, 3, 54, 4, 21, 4]
abbrev dktX3_solve_2 : List UInt8 := dkwX3_solve_2 ++ dktX3_solve_3
def dkwX3_solve_1 : List UInt8 := [42, 4, 181, 1, 31, 42, 27, 181, 0, 78, 42, 28, 181, 1, 136, 42, 182, 1, 139, 17, 3, 255, 62, 29]
abbrev dktX3_solve_1 : List UInt8 := dkwX3_solve_1 ++ dktX3_solve_2
def dkwX3_solve_0 : List UInt8 := [42, 180, 1, 31, 153, 0, 20, 42, 180, 0, 78, 27, 160, 0, 12, 42, 180, 1, 136, 28, 160, 0, 4, 177]
abbrev dktX3_solve_0 : List UInt8 := dkwX3_solve_0 ++ dktX3_solve_1
theorem dksX3_solve_0 : cX3_solve.data.toList.drop 0 = dktX3_solve_0 := by decide +kernel
theorem dksX3_solve_1 : cX3_solve.data.toList.drop 24 = dktX3_solve_1 := dk_seg dksX3_solve_0 24 rfl rfl
theorem dksX3_solve_2 : cX3_solve.data.toList.drop 48 = dktX3_solve_2 := dk_seg dksX3_solve_1 24 rfl rfl
theorem dksX3_solve_3 : cX3_solve.data.toList.drop 72 = dktX3_solve_3 := dk_seg dksX3_solve_2 24 rfl rfl
theorem dksX3_solve_4 : cX3_solve.data.toList.drop 94 = dktX3_solve_4 := dk_seg dksX3_solve_3 22 rfl rfl
theorem dksX3_solve_5 : cX3_solve.data.toList.drop 117 = dktX3_solve_5 := dk_seg dksX3_solve_4 23 rfl rfl
theorem dksX3_solve_6 : cX3_solve.data.toList.drop 140 = dktX3_solve_6 := dk_seg dksX3_solve_5 23 rfl rfl
theorem dksX3_solve_7 : cX3_solve.data.toList.drop 163 = dktX3_solve_7 := dk_seg dksX3_solve_6 23 rfl rfl
theorem dksX3_solve_8 : cX3_solve.data.toList.drop 186 = dktX3_solve_8 := dk_seg dksX3_solve_7 23 rfl rfl
theorem dksX3_solve_9 : cX3_solve.data.toList.drop 210 = dktX3_solve_9 := dk_seg dksX3_solve_8 24 rfl rfl
theorem dksX3_solve_10 : cX3_solve.data.toList.drop 234 = dktX3_solve_10 := dk_seg dksX3_solve_9 24 rfl rfl
theorem dksX3_solve_11 : cX3_solve.data.toList.drop 258 = dktX3_solve_11 := dk_seg dksX3_solve_10 24 rfl rfl
theorem dX3_solve_0 : decode cX3_solve 0 = .ok (.aload_n 0, 1) := dk_42 (dk_at dksX3_solve_0 0 rfl rfl)
theorem dX3_solve_1 : decode cX3_solve 1 = .ok (.getfield 287, 3) := dk_180 1 31 (dk_at dksX3_solve_0 1 rfl rfl)
theorem dX3_solve_4 : decode cX3_solve 4 = .ok (.ifCond .eq 20, 3) := dk_153 0 20 (dk_at dksX3_solve_0 4 rfl rfl)
theorem dX3_solve_7 : decode cX3_solve 7 = .ok (.aload_n 0, 1) := dk_42 (dk_at dksX3_solve_0 7 rfl rfl)
theorem dX3_solve_8 : decode cX3_solve 8 = .ok (.getfield 78, 3) := dk_180 0 78 (dk_at dksX3_solve_0 8 rfl rfl)
theorem dX3_solve_11 : decode cX3_solve 11 = .ok (.iload_n 1, 1) := dk_27 (dk_at dksX3_solve_0 11 rfl rfl)
theorem dX3_solve_12 : decode cX3_solve 12 = .ok (.if_icmp .ne 12, 3) := dk_160 0 12 (dk_at dksX3_solve_0 12 rfl rfl)
theorem dX3_solve_15 : decode cX3_solve 15 = .ok (.aload_n 0, 1) := dk_42 (dk_at dksX3_solve_0 15 rfl rfl)
theorem dX3_solve_16 : decode cX3_solve 16 = .ok (.getfield 392, 3) := dk_180 1 136 (dk_at dksX3_solve_0 16 rfl rfl)
theorem dX3_solve_19 : decode cX3_solve 19 = .ok (.iload_n 2, 1) := dk_28 (dk_at dksX3_solve_0 19 rfl rfl)
theorem dX3_solve_20 : decode cX3_solve 20 = .ok (.if_icmp .ne 4, 3) := dk_160 0 4 (dk_at dksX3_solve_0 20 rfl rfl)
theorem dX3_solve_23 : decode cX3_solve 23 = .ok (.return_, 1) := dk_177 (dk_at dksX3_solve_0 23 rfl rfl)
theorem dX3_solve_24 : decode cX3_solve 24 = .ok (.aload_n 0, 1) := dk_42 (dk_at dksX3_solve_1 0 rfl rfl)
theorem dX3_solve_25 : decode cX3_solve 25 = .ok (.iconst 1, 1) := dk_4 (dk_at dksX3_solve_1 1 rfl rfl)
theorem dX3_solve_26 : decode cX3_solve 26 = .ok (.putfield 287, 3) := dk_181 1 31 (dk_at dksX3_solve_1 2 rfl rfl)
theorem dX3_solve_29 : decode cX3_solve 29 = .ok (.aload_n 0, 1) := dk_42 (dk_at dksX3_solve_1 5 rfl rfl)
theorem dX3_solve_30 : decode cX3_solve 30 = .ok (.iload_n 1, 1) := dk_27 (dk_at dksX3_solve_1 6 rfl rfl)
theorem dX3_solve_31 : decode cX3_solve 31 = .ok (.putfield 78, 3) := dk_181 0 78 (dk_at dksX3_solve_1 7 rfl rfl)
theorem dX3_solve_34 : decode cX3_solve 34 = .ok (.aload_n 0, 1) := dk_42 (dk_at dksX3_solve_1 10 rfl rfl)
theorem dX3_solve_35 : decode cX3_solve 35 = .ok (.iload_n 2, 1) := dk_28 (dk_at dksX3_solve_1 11 rfl rfl)
theorem dX3_solve_36 : decode cX3_solve 36 = .ok (.putfield 392, 3) := dk_181 1 136 (dk_at dksX3_solve_1 12 rfl rfl)
theorem dX3_solve_39 : decode cX3_solve 39 = .ok (.aload_n 0, 1) := dk_42 (dk_at dksX3_solve_1 15 rfl rfl)
theorem dX3_solve_40 : decode cX3_solve 40 = .ok (.invokevirtual 395, 3) := dk_182 1 139 (dk_at dksX3_solve_1 16 rfl rfl)
theorem dX3_solve_43 : decode cX3_solve 43 = .ok (.sipush 1023, 3) := dk_17 3 255 (dk_at dksX3_solve_1 19 rfl rfl)
theorem dX3_solve_46 : decode cX3_solve 46 = .ok (.istore_n 3, 1) := dk_62 (dk_at dksX3_solve_1 22 rfl rfl)
theorem dX3_solve_47 : decode cX3_solve 47 = .ok (.iload_n 3, 1) := dk_29 (dk_at dksX3_solve_1 23 rfl rfl)
theorem dX3_solve_48 : decode cX3_solve 48 = .ok (.ifCond .lt 228, 3) := dk_155 0 228 (dk_at dksX3_solve_2 0 rfl rfl)
theorem dX3_solve_51 : decode cX3_solve 51 = .ok (.aload_n 0, 1) := dk_42 (dk_at dksX3_solve_2 3 rfl rfl)
theorem dX3_solve_52 : decode cX3_solve 52 = .ok (.iload_n 3, 1) := dk_29 (dk_at dksX3_solve_2 4 rfl rfl)
theorem dX3_solve_53 : decode cX3_solve 53 = .ok (.invokevirtual 398, 3) := dk_182 1 142 (dk_at dksX3_solve_2 5 rfl rfl)
theorem dX3_solve_56 : decode cX3_solve 56 = .ok (.ifCond .ne 6, 3) := dk_154 0 6 (dk_at dksX3_solve_2 8 rfl rfl)
theorem dX3_solve_59 : decode cX3_solve 59 = .ok (.goto 211, 3) := dk_167 0 211 (dk_at dksX3_solve_2 11 rfl rfl)
theorem dX3_solve_62 : decode cX3_solve 62 = .ok (.aload_n 0, 1) := dk_42 (dk_at dksX3_solve_2 14 rfl rfl)
theorem dX3_solve_63 : decode cX3_solve 63 = .ok (.iload_n 3, 1) := dk_29 (dk_at dksX3_solve_2 15 rfl rfl)
theorem dX3_solve_64 : decode cX3_solve 64 = .ok (.invokevirtual 401, 3) := dk_182 1 145 (dk_at dksX3_solve_2 16 rfl rfl)
theorem dX3_solve_67 : decode cX3_solve 67 = .ok (.iconst 0, 1) := dk_3 (dk_at dksX3_solve_2 19 rfl rfl)
theorem dX3_solve_68 : decode cX3_solve 68 = .ok (.istore 4, 2) := dk_54 4 (dk_at dksX3_solve_2 20 rfl rfl)
theorem dX3_solve_70 : decode cX3_solve 70 = .ok (.iload 4, 2) := dk_21 4 (dk_at dksX3_solve_2 22 rfl rfl)
theorem dX3_solve_72 : decode cX3_solve 72 = .ok (.aload_n 0, 1) := dk_42 (dk_at dksX3_solve_3 0 rfl rfl)
theorem dX3_solve_73 : decode cX3_solve 73 = .ok (.getfield 341, 3) := dk_180 1 85 (dk_at dksX3_solve_3 1 rfl rfl)
theorem dX3_solve_76 : decode cX3_solve 76 = .ok (.aload_n 0, 1) := dk_42 (dk_at dksX3_solve_3 4 rfl rfl)
theorem dX3_solve_77 : decode cX3_solve 77 = .ok (.getfield 344, 3) := dk_180 1 88 (dk_at dksX3_solve_3 5 rfl rfl)
theorem dX3_solve_80 : decode cX3_solve 80 = .ok (.imul, 1) := dk_104 (dk_at dksX3_solve_3 8 rfl rfl)
theorem dX3_solve_81 : decode cX3_solve 81 = .ok (.if_icmp .ge 62, 3) := dk_162 0 62 (dk_at dksX3_solve_3 9 rfl rfl)
theorem dX3_solve_84 : decode cX3_solve 84 = .ok (.aload_n 0, 1) := dk_42 (dk_at dksX3_solve_3 12 rfl rfl)
theorem dX3_solve_85 : decode cX3_solve 85 = .ok (.iload 4, 2) := dk_21 4 (dk_at dksX3_solve_3 13 rfl rfl)
theorem dX3_solve_87 : decode cX3_solve 87 = .ok (.iload_n 3, 1) := dk_29 (dk_at dksX3_solve_3 15 rfl rfl)
theorem dX3_solve_88 : decode cX3_solve 88 = .ok (.invokevirtual 404, 3) := dk_182 1 148 (dk_at dksX3_solve_3 16 rfl rfl)
theorem dX3_solve_91 : decode cX3_solve 91 = .ok (.istore 5, 2) := dk_54 5 (dk_at dksX3_solve_3 19 rfl rfl)
theorem dX3_solve_93 : decode cX3_solve 93 = .ok (.aload_n 0, 1) := dk_42 (dk_at dksX3_solve_3 21 rfl rfl)
theorem dX3_solve_94 : decode cX3_solve 94 = .ok (.getfield 74, 3) := dk_180 0 74 (dk_at dksX3_solve_4 0 rfl rfl)
theorem dX3_solve_97 : decode cX3_solve 97 = .ok (.bipush 100, 2) := dk_16 100 (dk_at dksX3_solve_4 3 rfl rfl)
theorem dX3_solve_99 : decode cX3_solve 99 = .ok (.iload_n 3, 1) := dk_29 (dk_at dksX3_solve_4 5 rfl rfl)
theorem dX3_solve_100 : decode cX3_solve 100 = .ok (.imul, 1) := dk_104 (dk_at dksX3_solve_4 6 rfl rfl)
theorem dX3_solve_101 : decode cX3_solve 101 = .ok (.iload 4, 2) := dk_21 4 (dk_at dksX3_solve_4 7 rfl rfl)
theorem dX3_solve_103 : decode cX3_solve 103 = .ok (.iadd, 1) := dk_96 (dk_at dksX3_solve_4 9 rfl rfl)
theorem dX3_solve_104 : decode cX3_solve 104 = .ok (.iload 4, 2) := dk_21 4 (dk_at dksX3_solve_4 10 rfl rfl)
theorem dX3_solve_106 : decode cX3_solve 106 = .ok (.iload_n 1, 1) := dk_27 (dk_at dksX3_solve_4 12 rfl rfl)
theorem dX3_solve_107 : decode cX3_solve 107 = .ok (.if_icmp .ne 7, 3) := dk_160 0 7 (dk_at dksX3_solve_4 13 rfl rfl)
theorem dX3_solve_110 : decode cX3_solve 110 = .ok (.lconst 0, 1) := dk_9 (dk_at dksX3_solve_4 16 rfl rfl)
theorem dX3_solve_111 : decode cX3_solve 111 = .ok (.goto 25, 3) := dk_167 0 25 (dk_at dksX3_solve_4 17 rfl rfl)
theorem dX3_solve_114 : decode cX3_solve 114 = .ok (.iload 5, 2) := dk_21 5 (dk_at dksX3_solve_4 20 rfl rfl)
theorem dX3_solve_116 : decode cX3_solve 116 = .ok (.iconst (-1), 1) := dk_2 (dk_at dksX3_solve_4 22 rfl rfl)
theorem dX3_solve_117 : decode cX3_solve 117 = .ok (.if_icmp .ne 9, 3) := dk_160 0 9 (dk_at dksX3_solve_5 0 rfl rfl)
theorem dX3_solve_120 : decode cX3_solve 120 = .ok (.ldc2_w 390, 3) := dk_20 1 134 (dk_at dksX3_solve_5 3 rfl rfl)
theorem dX3_solve_123 : decode cX3_solve 123 = .ok (.goto 13, 3) := dk_167 0 13 (dk_at dksX3_solve_5 6 rfl rfl)
theorem dX3_solve_126 : decode cX3_solve 126 = .ok (.aload_n 0, 1) := dk_42 (dk_at dksX3_solve_5 9 rfl rfl)
theorem dX3_solve_127 : decode cX3_solve 127 = .ok (.iload_n 3, 1) := dk_29 (dk_at dksX3_solve_5 10 rfl rfl)
theorem dX3_solve_128 : decode cX3_solve 128 = .ok (.iload 4, 2) := dk_21 4 (dk_at dksX3_solve_5 11 rfl rfl)
theorem dX3_solve_130 : decode cX3_solve 130 = .ok (.iload 5, 2) := dk_21 5 (dk_at dksX3_solve_5 13 rfl rfl)
theorem dX3_solve_132 : decode cX3_solve 132 = .ok (.iload_n 2, 1) := dk_28 (dk_at dksX3_solve_5 15 rfl rfl)
theorem dX3_solve_133 : decode cX3_solve 133 = .ok (.invokevirtual 407, 3) := dk_182 1 151 (dk_at dksX3_solve_5 16 rfl rfl)
theorem dX3_solve_136 : decode cX3_solve 136 = .ok (.lastore, 1) := dk_80 (dk_at dksX3_solve_5 19 rfl rfl)
theorem dX3_solve_137 : decode cX3_solve 137 = .ok (.iinc 4 1, 3) := dk_132 4 1 (dk_at dksX3_solve_5 20 rfl rfl)
theorem dX3_solve_140 : decode cX3_solve 140 = .ok (.goto (-70), 3) := dk_167 255 186 (dk_at dksX3_solve_6 0 rfl rfl)
theorem dX3_solve_143 : decode cX3_solve 143 = .ok (.iload_n 2, 1) := dk_28 (dk_at dksX3_solve_6 3 rfl rfl)
theorem dX3_solve_144 : decode cX3_solve 144 = .ok (.ifCond .eq 11, 3) := dk_153 0 11 (dk_at dksX3_solve_6 4 rfl rfl)
theorem dX3_solve_147 : decode cX3_solve 147 = .ok (.aload_n 0, 1) := dk_42 (dk_at dksX3_solve_6 7 rfl rfl)
theorem dX3_solve_148 : decode cX3_solve 148 = .ok (.iload_n 3, 1) := dk_29 (dk_at dksX3_solve_6 8 rfl rfl)
theorem dX3_solve_149 : decode cX3_solve 149 = .ok (.invokevirtual 411, 3) := dk_182 1 155 (dk_at dksX3_solve_6 9 rfl rfl)
theorem dX3_solve_152 : decode cX3_solve 152 = .ok (.goto 4, 3) := dk_167 0 4 (dk_at dksX3_solve_6 12 rfl rfl)
theorem dX3_solve_155 : decode cX3_solve 155 = .ok (.lconst 1, 1) := dk_10 (dk_at dksX3_solve_6 15 rfl rfl)
theorem dX3_solve_156 : decode cX3_solve 156 = .ok (.lstore 4, 2) := dk_55 4 (dk_at dksX3_solve_6 16 rfl rfl)
theorem dX3_solve_158 : decode cX3_solve 158 = .ok (.iconst 1, 1) := dk_4 (dk_at dksX3_solve_6 18 rfl rfl)
theorem dX3_solve_159 : decode cX3_solve 159 = .ok (.istore 6, 2) := dk_54 6 (dk_at dksX3_solve_6 19 rfl rfl)
theorem dX3_solve_161 : decode cX3_solve 161 = .ok (.iload 6, 2) := dk_21 6 (dk_at dksX3_solve_6 21 rfl rfl)
theorem dX3_solve_163 : decode cX3_solve 163 = .ok (.ifCond .eq 107, 3) := dk_153 0 107 (dk_at dksX3_solve_7 0 rfl rfl)
theorem dX3_solve_166 : decode cX3_solve 166 = .ok (.iconst 0, 1) := dk_3 (dk_at dksX3_solve_7 3 rfl rfl)
theorem dX3_solve_167 : decode cX3_solve 167 = .ok (.istore 6, 2) := dk_54 6 (dk_at dksX3_solve_7 4 rfl rfl)
theorem dX3_solve_169 : decode cX3_solve 169 = .ok (.iconst 0, 1) := dk_3 (dk_at dksX3_solve_7 6 rfl rfl)
theorem dX3_solve_170 : decode cX3_solve 170 = .ok (.istore 7, 2) := dk_54 7 (dk_at dksX3_solve_7 7 rfl rfl)
theorem dX3_solve_172 : decode cX3_solve 172 = .ok (.iload 7, 2) := dk_21 7 (dk_at dksX3_solve_7 9 rfl rfl)
theorem dX3_solve_174 : decode cX3_solve 174 = .ok (.aload_n 0, 1) := dk_42 (dk_at dksX3_solve_7 11 rfl rfl)
theorem dX3_solve_175 : decode cX3_solve 175 = .ok (.getfield 341, 3) := dk_180 1 85 (dk_at dksX3_solve_7 12 rfl rfl)
theorem dX3_solve_178 : decode cX3_solve 178 = .ok (.aload_n 0, 1) := dk_42 (dk_at dksX3_solve_7 15 rfl rfl)
theorem dX3_solve_179 : decode cX3_solve 179 = .ok (.getfield 344, 3) := dk_180 1 88 (dk_at dksX3_solve_7 16 rfl rfl)
theorem dX3_solve_182 : decode cX3_solve 182 = .ok (.imul, 1) := dk_104 (dk_at dksX3_solve_7 19 rfl rfl)
theorem dX3_solve_183 : decode cX3_solve 183 = .ok (.if_icmp .ge 84, 3) := dk_162 0 84 (dk_at dksX3_solve_7 20 rfl rfl)
theorem dX3_solve_186 : decode cX3_solve 186 = .ok (.iload 7, 2) := dk_21 7 (dk_at dksX3_solve_8 0 rfl rfl)
theorem dX3_solve_188 : decode cX3_solve 188 = .ok (.iload_n 1, 1) := dk_27 (dk_at dksX3_solve_8 2 rfl rfl)
theorem dX3_solve_189 : decode cX3_solve 189 = .ok (.if_icmp .eq 72, 3) := dk_159 0 72 (dk_at dksX3_solve_8 3 rfl rfl)
theorem dX3_solve_192 : decode cX3_solve 192 = .ok (.aload_n 0, 1) := dk_42 (dk_at dksX3_solve_8 6 rfl rfl)
theorem dX3_solve_193 : decode cX3_solve 193 = .ok (.iload 7, 2) := dk_21 7 (dk_at dksX3_solve_8 7 rfl rfl)
theorem dX3_solve_195 : decode cX3_solve 195 = .ok (.iload_n 3, 1) := dk_29 (dk_at dksX3_solve_8 9 rfl rfl)
theorem dX3_solve_196 : decode cX3_solve 196 = .ok (.invokevirtual 404, 3) := dk_182 1 148 (dk_at dksX3_solve_8 10 rfl rfl)
theorem dX3_solve_199 : decode cX3_solve 199 = .ok (.iconst (-1), 1) := dk_2 (dk_at dksX3_solve_8 13 rfl rfl)
theorem dX3_solve_200 : decode cX3_solve 200 = .ok (.if_icmp .eq 6, 3) := dk_159 0 6 (dk_at dksX3_solve_8 14 rfl rfl)
theorem dX3_solve_203 : decode cX3_solve 203 = .ok (.goto 58, 3) := dk_167 0 58 (dk_at dksX3_solve_8 17 rfl rfl)
theorem dX3_solve_206 : decode cX3_solve 206 = .ok (.aload_n 0, 1) := dk_42 (dk_at dksX3_solve_8 20 rfl rfl)
theorem dX3_solve_207 : decode cX3_solve 207 = .ok (.iload_n 3, 1) := dk_29 (dk_at dksX3_solve_8 21 rfl rfl)
theorem dX3_solve_208 : decode cX3_solve 208 = .ok (.iload 7, 2) := dk_21 7 (dk_at dksX3_solve_8 22 rfl rfl)
theorem dX3_solve_210 : decode cX3_solve 210 = .ok (.lload 4, 2) := dk_22 4 (dk_at dksX3_solve_9 0 rfl rfl)
theorem dX3_solve_212 : decode cX3_solve 212 = .ok (.invokevirtual 413, 3) := dk_182 1 157 (dk_at dksX3_solve_9 2 rfl rfl)
theorem dX3_solve_215 : decode cX3_solve 215 = .ok (.lstore 8, 2) := dk_55 8 (dk_at dksX3_solve_9 5 rfl rfl)
theorem dX3_solve_217 : decode cX3_solve 217 = .ok (.iload 6, 2) := dk_21 6 (dk_at dksX3_solve_9 7 rfl rfl)
theorem dX3_solve_219 : decode cX3_solve 219 = .ok (.ifCond .ne 21, 3) := dk_154 0 21 (dk_at dksX3_solve_9 9 rfl rfl)
theorem dX3_solve_222 : decode cX3_solve 222 = .ok (.lload 8, 2) := dk_22 8 (dk_at dksX3_solve_9 12 rfl rfl)
theorem dX3_solve_224 : decode cX3_solve 224 = .ok (.aload_n 0, 1) := dk_42 (dk_at dksX3_solve_9 14 rfl rfl)
theorem dX3_solve_225 : decode cX3_solve 225 = .ok (.getfield 74, 3) := dk_180 0 74 (dk_at dksX3_solve_9 15 rfl rfl)
theorem dX3_solve_228 : decode cX3_solve 228 = .ok (.bipush 100, 2) := dk_16 100 (dk_at dksX3_solve_9 18 rfl rfl)
theorem dX3_solve_230 : decode cX3_solve 230 = .ok (.iload_n 3, 1) := dk_29 (dk_at dksX3_solve_9 20 rfl rfl)
theorem dX3_solve_231 : decode cX3_solve 231 = .ok (.imul, 1) := dk_104 (dk_at dksX3_solve_9 21 rfl rfl)
theorem dX3_solve_232 : decode cX3_solve 232 = .ok (.iload 7, 2) := dk_21 7 (dk_at dksX3_solve_9 22 rfl rfl)
theorem dX3_solve_234 : decode cX3_solve 234 = .ok (.iadd, 1) := dk_96 (dk_at dksX3_solve_10 0 rfl rfl)
theorem dX3_solve_235 : decode cX3_solve 235 = .ok (.laload, 1) := dk_47 (dk_at dksX3_solve_10 1 rfl rfl)
theorem dX3_solve_236 : decode cX3_solve 236 = .ok (.lcmp, 1) := dk_148 (dk_at dksX3_solve_10 2 rfl rfl)
theorem dX3_solve_237 : decode cX3_solve 237 = .ok (.ifCond .ge 7, 3) := dk_156 0 7 (dk_at dksX3_solve_10 3 rfl rfl)
theorem dX3_solve_240 : decode cX3_solve 240 = .ok (.iconst 1, 1) := dk_4 (dk_at dksX3_solve_10 6 rfl rfl)
theorem dX3_solve_241 : decode cX3_solve 241 = .ok (.goto 4, 3) := dk_167 0 4 (dk_at dksX3_solve_10 7 rfl rfl)
theorem dX3_solve_244 : decode cX3_solve 244 = .ok (.iconst 0, 1) := dk_3 (dk_at dksX3_solve_10 10 rfl rfl)
theorem dX3_solve_245 : decode cX3_solve 245 = .ok (.istore 6, 2) := dk_54 6 (dk_at dksX3_solve_10 11 rfl rfl)
theorem dX3_solve_247 : decode cX3_solve 247 = .ok (.aload_n 0, 1) := dk_42 (dk_at dksX3_solve_10 13 rfl rfl)
theorem dX3_solve_248 : decode cX3_solve 248 = .ok (.getfield 74, 3) := dk_180 0 74 (dk_at dksX3_solve_10 14 rfl rfl)
theorem dX3_solve_251 : decode cX3_solve 251 = .ok (.bipush 100, 2) := dk_16 100 (dk_at dksX3_solve_10 17 rfl rfl)
theorem dX3_solve_253 : decode cX3_solve 253 = .ok (.iload_n 3, 1) := dk_29 (dk_at dksX3_solve_10 19 rfl rfl)
theorem dX3_solve_254 : decode cX3_solve 254 = .ok (.imul, 1) := dk_104 (dk_at dksX3_solve_10 20 rfl rfl)
theorem dX3_solve_255 : decode cX3_solve 255 = .ok (.iload 7, 2) := dk_21 7 (dk_at dksX3_solve_10 21 rfl rfl)
theorem dX3_solve_257 : decode cX3_solve 257 = .ok (.iadd, 1) := dk_96 (dk_at dksX3_solve_10 23 rfl rfl)
theorem dX3_solve_258 : decode cX3_solve 258 = .ok (.lload 8, 2) := dk_22 8 (dk_at dksX3_solve_11 0 rfl rfl)
theorem dX3_solve_260 : decode cX3_solve 260 = .ok (.lastore, 1) := dk_80 (dk_at dksX3_solve_11 2 rfl rfl)
theorem dX3_solve_261 : decode cX3_solve 261 = .ok (.iinc 7 1, 3) := dk_132 7 1 (dk_at dksX3_solve_11 3 rfl rfl)
theorem dX3_solve_264 : decode cX3_solve 264 = .ok (.goto (-92), 3) := dk_167 255 164 (dk_at dksX3_solve_11 6 rfl rfl)
theorem dX3_solve_267 : decode cX3_solve 267 = .ok (.goto (-106), 3) := dk_167 255 150 (dk_at dksX3_solve_11 9 rfl rfl)
theorem dX3_solve_270 : decode cX3_solve 270 = .ok (.iinc 3 (-1), 3) := dk_132 3 255 (dk_at dksX3_solve_11 12 rfl rfl)
theorem dX3_solve_273 : decode cX3_solve 273 = .ok (.goto (-226), 3) := dk_167 255 30 (dk_at dksX3_solve_11 15 rfl rfl)
theorem dX3_solve_276 : decode cX3_solve 276 = .ok (.return_, 1) := dk_177 (dk_at dksX3_solve_11 18 rfl rfl)
abbrev cX3_prepares : ByteArray := prog_23_method_62_code
def yX3_prepares : MethodName := ⟨RX3, "prepares", "()V"⟩
def dkwX3_prepares_5 : List UInt8 := [167, 0, 4, 3, 79, 132, 3, 1, 167, 255, 208, 132, 2, 1, 167, 255, 195, 132, 1, 1, 167, 255, 126, 177]
abbrev dktX3_prepares_5 : List UInt8 := dkwX3_prepares_5 ++ []
def dkwX3_prepares_4 : List UInt8 := [28, 104, 96, 29, 96, 42, 27, 28, 29, 182, 1, 106, 154, 0, 13, 42, 27, 28, 29, 182, 1, 110]
abbrev dktX3_prepares_4 : List UInt8 := dkwX3_prepares_4 ++ dktX3_prepares_5
def dkwX3_prepares_3 : List UInt8 := [7, 162, 0, 62, 3, 62, 29, 42, 180, 0, 228, 162, 0, 46, 42, 180, 0, 122, 16, 32, 27, 104, 16, 8]
abbrev dktX3_prepares_3 : List UInt8 := dkwX3_prepares_3 ++ dktX3_prepares_4
def dkwX3_prepares_2 : List UInt8 := [182, 1, 128, 153, 0, 9, 4, 28, 120, 167, 0, 4, 3, 128, 79, 132, 2, 1, 167, 255, 220, 3, 61, 28]
abbrev dktX3_prepares_2 : List UInt8 := dkwX3_prepares_2 ++ dktX3_prepares_3
def dkwX3_prepares_1 : List UInt8 := [3, 79, 3, 61, 28, 42, 180, 1, 25, 162, 0, 34, 42, 180, 0, 125, 27, 92, 46, 42, 27, 28]
abbrev dktX3_prepares_1 : List UInt8 := dkwX3_prepares_1 ++ dktX3_prepares_2
def dkwX3_prepares_0 : List UInt8 := [42, 182, 1, 125, 3, 60, 27, 42, 180, 1, 85, 42, 180, 1, 88, 104, 162, 0, 123, 42, 180, 0, 125, 27]
abbrev dktX3_prepares_0 : List UInt8 := dkwX3_prepares_0 ++ dktX3_prepares_1
theorem dksX3_prepares_0 : cX3_prepares.data.toList.drop 0 = dktX3_prepares_0 := by decide +kernel
theorem dksX3_prepares_1 : cX3_prepares.data.toList.drop 24 = dktX3_prepares_1 := dk_seg dksX3_prepares_0 24 rfl rfl
theorem dksX3_prepares_2 : cX3_prepares.data.toList.drop 46 = dktX3_prepares_2 := dk_seg dksX3_prepares_1 22 rfl rfl
theorem dksX3_prepares_3 : cX3_prepares.data.toList.drop 70 = dktX3_prepares_3 := dk_seg dksX3_prepares_2 24 rfl rfl
theorem dksX3_prepares_4 : cX3_prepares.data.toList.drop 94 = dktX3_prepares_4 := dk_seg dksX3_prepares_3 24 rfl rfl
theorem dksX3_prepares_5 : cX3_prepares.data.toList.drop 116 = dktX3_prepares_5 := dk_seg dksX3_prepares_4 22 rfl rfl
theorem dX3_prepares_0 : decode cX3_prepares 0 = .ok (.aload_n 0, 1) := dk_42 (dk_at dksX3_prepares_0 0 rfl rfl)
theorem dX3_prepares_1 : decode cX3_prepares 1 = .ok (.invokevirtual 381, 3) := dk_182 1 125 (dk_at dksX3_prepares_0 1 rfl rfl)
theorem dX3_prepares_4 : decode cX3_prepares 4 = .ok (.iconst 0, 1) := dk_3 (dk_at dksX3_prepares_0 4 rfl rfl)
theorem dX3_prepares_5 : decode cX3_prepares 5 = .ok (.istore_n 1, 1) := dk_60 (dk_at dksX3_prepares_0 5 rfl rfl)
theorem dX3_prepares_6 : decode cX3_prepares 6 = .ok (.iload_n 1, 1) := dk_27 (dk_at dksX3_prepares_0 6 rfl rfl)
theorem dX3_prepares_7 : decode cX3_prepares 7 = .ok (.aload_n 0, 1) := dk_42 (dk_at dksX3_prepares_0 7 rfl rfl)
theorem dX3_prepares_8 : decode cX3_prepares 8 = .ok (.getfield 341, 3) := dk_180 1 85 (dk_at dksX3_prepares_0 8 rfl rfl)
theorem dX3_prepares_11 : decode cX3_prepares 11 = .ok (.aload_n 0, 1) := dk_42 (dk_at dksX3_prepares_0 11 rfl rfl)
theorem dX3_prepares_12 : decode cX3_prepares 12 = .ok (.getfield 344, 3) := dk_180 1 88 (dk_at dksX3_prepares_0 12 rfl rfl)
theorem dX3_prepares_15 : decode cX3_prepares 15 = .ok (.imul, 1) := dk_104 (dk_at dksX3_prepares_0 15 rfl rfl)
theorem dX3_prepares_16 : decode cX3_prepares 16 = .ok (.if_icmp .ge 123, 3) := dk_162 0 123 (dk_at dksX3_prepares_0 16 rfl rfl)
theorem dX3_prepares_19 : decode cX3_prepares 19 = .ok (.aload_n 0, 1) := dk_42 (dk_at dksX3_prepares_0 19 rfl rfl)
theorem dX3_prepares_20 : decode cX3_prepares 20 = .ok (.getfield 125, 3) := dk_180 0 125 (dk_at dksX3_prepares_0 20 rfl rfl)
theorem dX3_prepares_23 : decode cX3_prepares 23 = .ok (.iload_n 1, 1) := dk_27 (dk_at dksX3_prepares_0 23 rfl rfl)
theorem dX3_prepares_24 : decode cX3_prepares 24 = .ok (.iconst 0, 1) := dk_3 (dk_at dksX3_prepares_1 0 rfl rfl)
theorem dX3_prepares_25 : decode cX3_prepares 25 = .ok (.iastore, 1) := dk_79 (dk_at dksX3_prepares_1 1 rfl rfl)
theorem dX3_prepares_26 : decode cX3_prepares 26 = .ok (.iconst 0, 1) := dk_3 (dk_at dksX3_prepares_1 2 rfl rfl)
theorem dX3_prepares_27 : decode cX3_prepares 27 = .ok (.istore_n 2, 1) := dk_61 (dk_at dksX3_prepares_1 3 rfl rfl)
theorem dX3_prepares_28 : decode cX3_prepares 28 = .ok (.iload_n 2, 1) := dk_28 (dk_at dksX3_prepares_1 4 rfl rfl)
theorem dX3_prepares_29 : decode cX3_prepares 29 = .ok (.aload_n 0, 1) := dk_42 (dk_at dksX3_prepares_1 5 rfl rfl)
theorem dX3_prepares_30 : decode cX3_prepares 30 = .ok (.getfield 281, 3) := dk_180 1 25 (dk_at dksX3_prepares_1 6 rfl rfl)
theorem dX3_prepares_33 : decode cX3_prepares 33 = .ok (.if_icmp .ge 34, 3) := dk_162 0 34 (dk_at dksX3_prepares_1 9 rfl rfl)
theorem dX3_prepares_36 : decode cX3_prepares 36 = .ok (.aload_n 0, 1) := dk_42 (dk_at dksX3_prepares_1 12 rfl rfl)
theorem dX3_prepares_37 : decode cX3_prepares 37 = .ok (.getfield 125, 3) := dk_180 0 125 (dk_at dksX3_prepares_1 13 rfl rfl)
theorem dX3_prepares_40 : decode cX3_prepares 40 = .ok (.iload_n 1, 1) := dk_27 (dk_at dksX3_prepares_1 16 rfl rfl)
theorem dX3_prepares_41 : decode cX3_prepares 41 = .ok (.dup2, 1) := dk_92 (dk_at dksX3_prepares_1 17 rfl rfl)
theorem dX3_prepares_42 : decode cX3_prepares 42 = .ok (.iaload, 1) := dk_46 (dk_at dksX3_prepares_1 18 rfl rfl)
theorem dX3_prepares_43 : decode cX3_prepares 43 = .ok (.aload_n 0, 1) := dk_42 (dk_at dksX3_prepares_1 19 rfl rfl)
theorem dX3_prepares_44 : decode cX3_prepares 44 = .ok (.iload_n 1, 1) := dk_27 (dk_at dksX3_prepares_1 20 rfl rfl)
theorem dX3_prepares_45 : decode cX3_prepares 45 = .ok (.iload_n 2, 1) := dk_28 (dk_at dksX3_prepares_1 21 rfl rfl)
theorem dX3_prepares_46 : decode cX3_prepares 46 = .ok (.invokevirtual 384, 3) := dk_182 1 128 (dk_at dksX3_prepares_2 0 rfl rfl)
theorem dX3_prepares_49 : decode cX3_prepares 49 = .ok (.ifCond .eq 9, 3) := dk_153 0 9 (dk_at dksX3_prepares_2 3 rfl rfl)
theorem dX3_prepares_52 : decode cX3_prepares 52 = .ok (.iconst 1, 1) := dk_4 (dk_at dksX3_prepares_2 6 rfl rfl)
theorem dX3_prepares_53 : decode cX3_prepares 53 = .ok (.iload_n 2, 1) := dk_28 (dk_at dksX3_prepares_2 7 rfl rfl)
theorem dX3_prepares_54 : decode cX3_prepares 54 = .ok (.ishl, 1) := dk_120 (dk_at dksX3_prepares_2 8 rfl rfl)
theorem dX3_prepares_55 : decode cX3_prepares 55 = .ok (.goto 4, 3) := dk_167 0 4 (dk_at dksX3_prepares_2 9 rfl rfl)
theorem dX3_prepares_58 : decode cX3_prepares 58 = .ok (.iconst 0, 1) := dk_3 (dk_at dksX3_prepares_2 12 rfl rfl)
theorem dX3_prepares_59 : decode cX3_prepares 59 = .ok (.ior, 1) := dk_128 (dk_at dksX3_prepares_2 13 rfl rfl)
theorem dX3_prepares_60 : decode cX3_prepares 60 = .ok (.iastore, 1) := dk_79 (dk_at dksX3_prepares_2 14 rfl rfl)
theorem dX3_prepares_61 : decode cX3_prepares 61 = .ok (.iinc 2 1, 3) := dk_132 2 1 (dk_at dksX3_prepares_2 15 rfl rfl)
theorem dX3_prepares_64 : decode cX3_prepares 64 = .ok (.goto (-36), 3) := dk_167 255 220 (dk_at dksX3_prepares_2 18 rfl rfl)
theorem dX3_prepares_67 : decode cX3_prepares 67 = .ok (.iconst 0, 1) := dk_3 (dk_at dksX3_prepares_2 21 rfl rfl)
theorem dX3_prepares_68 : decode cX3_prepares 68 = .ok (.istore_n 2, 1) := dk_61 (dk_at dksX3_prepares_2 22 rfl rfl)
theorem dX3_prepares_69 : decode cX3_prepares 69 = .ok (.iload_n 2, 1) := dk_28 (dk_at dksX3_prepares_2 23 rfl rfl)
theorem dX3_prepares_70 : decode cX3_prepares 70 = .ok (.iconst 4, 1) := dk_7 (dk_at dksX3_prepares_3 0 rfl rfl)
theorem dX3_prepares_71 : decode cX3_prepares 71 = .ok (.if_icmp .ge 62, 3) := dk_162 0 62 (dk_at dksX3_prepares_3 1 rfl rfl)
theorem dX3_prepares_74 : decode cX3_prepares 74 = .ok (.iconst 0, 1) := dk_3 (dk_at dksX3_prepares_3 4 rfl rfl)
theorem dX3_prepares_75 : decode cX3_prepares 75 = .ok (.istore_n 3, 1) := dk_62 (dk_at dksX3_prepares_3 5 rfl rfl)
theorem dX3_prepares_76 : decode cX3_prepares 76 = .ok (.iload_n 3, 1) := dk_29 (dk_at dksX3_prepares_3 6 rfl rfl)
theorem dX3_prepares_77 : decode cX3_prepares 77 = .ok (.aload_n 0, 1) := dk_42 (dk_at dksX3_prepares_3 7 rfl rfl)
theorem dX3_prepares_78 : decode cX3_prepares 78 = .ok (.getfield 228, 3) := dk_180 0 228 (dk_at dksX3_prepares_3 8 rfl rfl)
theorem dX3_prepares_81 : decode cX3_prepares 81 = .ok (.if_icmp .ge 46, 3) := dk_162 0 46 (dk_at dksX3_prepares_3 11 rfl rfl)
theorem dX3_prepares_84 : decode cX3_prepares 84 = .ok (.aload_n 0, 1) := dk_42 (dk_at dksX3_prepares_3 14 rfl rfl)
theorem dX3_prepares_85 : decode cX3_prepares 85 = .ok (.getfield 122, 3) := dk_180 0 122 (dk_at dksX3_prepares_3 15 rfl rfl)
theorem dX3_prepares_88 : decode cX3_prepares 88 = .ok (.bipush 32, 2) := dk_16 32 (dk_at dksX3_prepares_3 18 rfl rfl)
theorem dX3_prepares_90 : decode cX3_prepares 90 = .ok (.iload_n 1, 1) := dk_27 (dk_at dksX3_prepares_3 20 rfl rfl)
theorem dX3_prepares_91 : decode cX3_prepares 91 = .ok (.imul, 1) := dk_104 (dk_at dksX3_prepares_3 21 rfl rfl)
theorem dX3_prepares_92 : decode cX3_prepares 92 = .ok (.bipush 8, 2) := dk_16 8 (dk_at dksX3_prepares_3 22 rfl rfl)
theorem dX3_prepares_94 : decode cX3_prepares 94 = .ok (.iload_n 2, 1) := dk_28 (dk_at dksX3_prepares_4 0 rfl rfl)
theorem dX3_prepares_95 : decode cX3_prepares 95 = .ok (.imul, 1) := dk_104 (dk_at dksX3_prepares_4 1 rfl rfl)
theorem dX3_prepares_96 : decode cX3_prepares 96 = .ok (.iadd, 1) := dk_96 (dk_at dksX3_prepares_4 2 rfl rfl)
theorem dX3_prepares_97 : decode cX3_prepares 97 = .ok (.iload_n 3, 1) := dk_29 (dk_at dksX3_prepares_4 3 rfl rfl)
theorem dX3_prepares_98 : decode cX3_prepares 98 = .ok (.iadd, 1) := dk_96 (dk_at dksX3_prepares_4 4 rfl rfl)
theorem dX3_prepares_99 : decode cX3_prepares 99 = .ok (.aload_n 0, 1) := dk_42 (dk_at dksX3_prepares_4 5 rfl rfl)
theorem dX3_prepares_100 : decode cX3_prepares 100 = .ok (.iload_n 1, 1) := dk_27 (dk_at dksX3_prepares_4 6 rfl rfl)
theorem dX3_prepares_101 : decode cX3_prepares 101 = .ok (.iload_n 2, 1) := dk_28 (dk_at dksX3_prepares_4 7 rfl rfl)
theorem dX3_prepares_102 : decode cX3_prepares 102 = .ok (.iload_n 3, 1) := dk_29 (dk_at dksX3_prepares_4 8 rfl rfl)
theorem dX3_prepares_103 : decode cX3_prepares 103 = .ok (.invokevirtual 362, 3) := dk_182 1 106 (dk_at dksX3_prepares_4 9 rfl rfl)
theorem dX3_prepares_106 : decode cX3_prepares 106 = .ok (.ifCond .ne 13, 3) := dk_154 0 13 (dk_at dksX3_prepares_4 12 rfl rfl)
theorem dX3_prepares_109 : decode cX3_prepares 109 = .ok (.aload_n 0, 1) := dk_42 (dk_at dksX3_prepares_4 15 rfl rfl)
theorem dX3_prepares_110 : decode cX3_prepares 110 = .ok (.iload_n 1, 1) := dk_27 (dk_at dksX3_prepares_4 16 rfl rfl)
theorem dX3_prepares_111 : decode cX3_prepares 111 = .ok (.iload_n 2, 1) := dk_28 (dk_at dksX3_prepares_4 17 rfl rfl)
theorem dX3_prepares_112 : decode cX3_prepares 112 = .ok (.iload_n 3, 1) := dk_29 (dk_at dksX3_prepares_4 18 rfl rfl)
theorem dX3_prepares_113 : decode cX3_prepares 113 = .ok (.invokevirtual 366, 3) := dk_182 1 110 (dk_at dksX3_prepares_4 19 rfl rfl)
theorem dX3_prepares_116 : decode cX3_prepares 116 = .ok (.goto 4, 3) := dk_167 0 4 (dk_at dksX3_prepares_5 0 rfl rfl)
theorem dX3_prepares_119 : decode cX3_prepares 119 = .ok (.iconst 0, 1) := dk_3 (dk_at dksX3_prepares_5 3 rfl rfl)
theorem dX3_prepares_120 : decode cX3_prepares 120 = .ok (.iastore, 1) := dk_79 (dk_at dksX3_prepares_5 4 rfl rfl)
theorem dX3_prepares_121 : decode cX3_prepares 121 = .ok (.iinc 3 1, 3) := dk_132 3 1 (dk_at dksX3_prepares_5 5 rfl rfl)
theorem dX3_prepares_124 : decode cX3_prepares 124 = .ok (.goto (-48), 3) := dk_167 255 208 (dk_at dksX3_prepares_5 8 rfl rfl)
theorem dX3_prepares_127 : decode cX3_prepares 127 = .ok (.iinc 2 1, 3) := dk_132 2 1 (dk_at dksX3_prepares_5 11 rfl rfl)
theorem dX3_prepares_130 : decode cX3_prepares 130 = .ok (.goto (-61), 3) := dk_167 255 195 (dk_at dksX3_prepares_5 14 rfl rfl)
theorem dX3_prepares_133 : decode cX3_prepares 133 = .ok (.iinc 1 1, 3) := dk_132 1 1 (dk_at dksX3_prepares_5 17 rfl rfl)
theorem dX3_prepares_136 : decode cX3_prepares 136 = .ok (.goto (-130), 3) := dk_167 255 126 (dk_at dksX3_prepares_5 20 rfl rfl)
theorem dX3_prepares_139 : decode cX3_prepares 139 = .ok (.return_, 1) := dk_177 (dk_at dksX3_prepares_5 23 rfl rfl)
abbrev cX3_lists : ByteArray := prog_23_method_53_code
def yX3_lists : MethodName := ⟨RX3, "lists", "()V"⟩
def dkwX3_lists_3 : List UInt8 := [132, 2, 1, 167, 255, 204, 132, 1, 1, 167, 255, 181, 177]
abbrev dktX3_lists_3 : List UInt8 := dkwX3_lists_3 ++ []
def dkwX3_lists_2 : List UInt8 := [7, 27, 104, 42, 180, 0, 85, 27, 46, 96, 28, 79, 42, 180, 0, 85, 27, 92, 46, 4, 96, 79]
abbrev dktX3_lists_2 : List UInt8 := dkwX3_lists_2 ++ dktX3_lists_3
def dkwX3_lists_1 : List UInt8 := [162, 0, 52, 42, 180, 0, 67, 16, 8, 27, 104, 28, 96, 46, 154, 0, 6, 167, 0, 29, 42, 180, 0, 82]
abbrev dktX3_lists_1 : List UInt8 := dkwX3_lists_1 ++ dktX3_lists_2
def dkwX3_lists_0 : List UInt8 := [3, 60, 27, 42, 180, 1, 25, 162, 0, 73, 42, 180, 0, 85, 27, 3, 79, 3, 61, 28, 16, 8]
abbrev dktX3_lists_0 : List UInt8 := dkwX3_lists_0 ++ dktX3_lists_1
theorem dksX3_lists_0 : cX3_lists.data.toList.drop 0 = dktX3_lists_0 := by decide +kernel
theorem dksX3_lists_1 : cX3_lists.data.toList.drop 22 = dktX3_lists_1 := dk_seg dksX3_lists_0 22 rfl rfl
theorem dksX3_lists_2 : cX3_lists.data.toList.drop 46 = dktX3_lists_2 := dk_seg dksX3_lists_1 24 rfl rfl
theorem dksX3_lists_3 : cX3_lists.data.toList.drop 68 = dktX3_lists_3 := dk_seg dksX3_lists_2 22 rfl rfl
theorem dX3_lists_0 : decode cX3_lists 0 = .ok (.iconst 0, 1) := dk_3 (dk_at dksX3_lists_0 0 rfl rfl)
theorem dX3_lists_1 : decode cX3_lists 1 = .ok (.istore_n 1, 1) := dk_60 (dk_at dksX3_lists_0 1 rfl rfl)
theorem dX3_lists_2 : decode cX3_lists 2 = .ok (.iload_n 1, 1) := dk_27 (dk_at dksX3_lists_0 2 rfl rfl)
theorem dX3_lists_3 : decode cX3_lists 3 = .ok (.aload_n 0, 1) := dk_42 (dk_at dksX3_lists_0 3 rfl rfl)
theorem dX3_lists_4 : decode cX3_lists 4 = .ok (.getfield 281, 3) := dk_180 1 25 (dk_at dksX3_lists_0 4 rfl rfl)
theorem dX3_lists_7 : decode cX3_lists 7 = .ok (.if_icmp .ge 73, 3) := dk_162 0 73 (dk_at dksX3_lists_0 7 rfl rfl)
theorem dX3_lists_10 : decode cX3_lists 10 = .ok (.aload_n 0, 1) := dk_42 (dk_at dksX3_lists_0 10 rfl rfl)
theorem dX3_lists_11 : decode cX3_lists 11 = .ok (.getfield 85, 3) := dk_180 0 85 (dk_at dksX3_lists_0 11 rfl rfl)
theorem dX3_lists_14 : decode cX3_lists 14 = .ok (.iload_n 1, 1) := dk_27 (dk_at dksX3_lists_0 14 rfl rfl)
theorem dX3_lists_15 : decode cX3_lists 15 = .ok (.iconst 0, 1) := dk_3 (dk_at dksX3_lists_0 15 rfl rfl)
theorem dX3_lists_16 : decode cX3_lists 16 = .ok (.iastore, 1) := dk_79 (dk_at dksX3_lists_0 16 rfl rfl)
theorem dX3_lists_17 : decode cX3_lists 17 = .ok (.iconst 0, 1) := dk_3 (dk_at dksX3_lists_0 17 rfl rfl)
theorem dX3_lists_18 : decode cX3_lists 18 = .ok (.istore_n 2, 1) := dk_61 (dk_at dksX3_lists_0 18 rfl rfl)
theorem dX3_lists_19 : decode cX3_lists 19 = .ok (.iload_n 2, 1) := dk_28 (dk_at dksX3_lists_0 19 rfl rfl)
theorem dX3_lists_20 : decode cX3_lists 20 = .ok (.bipush 8, 2) := dk_16 8 (dk_at dksX3_lists_0 20 rfl rfl)
theorem dX3_lists_22 : decode cX3_lists 22 = .ok (.if_icmp .ge 52, 3) := dk_162 0 52 (dk_at dksX3_lists_1 0 rfl rfl)
theorem dX3_lists_25 : decode cX3_lists 25 = .ok (.aload_n 0, 1) := dk_42 (dk_at dksX3_lists_1 3 rfl rfl)
theorem dX3_lists_26 : decode cX3_lists 26 = .ok (.getfield 67, 3) := dk_180 0 67 (dk_at dksX3_lists_1 4 rfl rfl)
theorem dX3_lists_29 : decode cX3_lists 29 = .ok (.bipush 8, 2) := dk_16 8 (dk_at dksX3_lists_1 7 rfl rfl)
theorem dX3_lists_31 : decode cX3_lists 31 = .ok (.iload_n 1, 1) := dk_27 (dk_at dksX3_lists_1 9 rfl rfl)
theorem dX3_lists_32 : decode cX3_lists 32 = .ok (.imul, 1) := dk_104 (dk_at dksX3_lists_1 10 rfl rfl)
theorem dX3_lists_33 : decode cX3_lists 33 = .ok (.iload_n 2, 1) := dk_28 (dk_at dksX3_lists_1 11 rfl rfl)
theorem dX3_lists_34 : decode cX3_lists 34 = .ok (.iadd, 1) := dk_96 (dk_at dksX3_lists_1 12 rfl rfl)
theorem dX3_lists_35 : decode cX3_lists 35 = .ok (.iaload, 1) := dk_46 (dk_at dksX3_lists_1 13 rfl rfl)
theorem dX3_lists_36 : decode cX3_lists 36 = .ok (.ifCond .ne 6, 3) := dk_154 0 6 (dk_at dksX3_lists_1 14 rfl rfl)
theorem dX3_lists_39 : decode cX3_lists 39 = .ok (.goto 29, 3) := dk_167 0 29 (dk_at dksX3_lists_1 17 rfl rfl)
theorem dX3_lists_42 : decode cX3_lists 42 = .ok (.aload_n 0, 1) := dk_42 (dk_at dksX3_lists_1 20 rfl rfl)
theorem dX3_lists_43 : decode cX3_lists 43 = .ok (.getfield 82, 3) := dk_180 0 82 (dk_at dksX3_lists_1 21 rfl rfl)
theorem dX3_lists_46 : decode cX3_lists 46 = .ok (.iconst 4, 1) := dk_7 (dk_at dksX3_lists_2 0 rfl rfl)
theorem dX3_lists_47 : decode cX3_lists 47 = .ok (.iload_n 1, 1) := dk_27 (dk_at dksX3_lists_2 1 rfl rfl)
theorem dX3_lists_48 : decode cX3_lists 48 = .ok (.imul, 1) := dk_104 (dk_at dksX3_lists_2 2 rfl rfl)
theorem dX3_lists_49 : decode cX3_lists 49 = .ok (.aload_n 0, 1) := dk_42 (dk_at dksX3_lists_2 3 rfl rfl)
theorem dX3_lists_50 : decode cX3_lists 50 = .ok (.getfield 85, 3) := dk_180 0 85 (dk_at dksX3_lists_2 4 rfl rfl)
theorem dX3_lists_53 : decode cX3_lists 53 = .ok (.iload_n 1, 1) := dk_27 (dk_at dksX3_lists_2 7 rfl rfl)
theorem dX3_lists_54 : decode cX3_lists 54 = .ok (.iaload, 1) := dk_46 (dk_at dksX3_lists_2 8 rfl rfl)
theorem dX3_lists_55 : decode cX3_lists 55 = .ok (.iadd, 1) := dk_96 (dk_at dksX3_lists_2 9 rfl rfl)
theorem dX3_lists_56 : decode cX3_lists 56 = .ok (.iload_n 2, 1) := dk_28 (dk_at dksX3_lists_2 10 rfl rfl)
theorem dX3_lists_57 : decode cX3_lists 57 = .ok (.iastore, 1) := dk_79 (dk_at dksX3_lists_2 11 rfl rfl)
theorem dX3_lists_58 : decode cX3_lists 58 = .ok (.aload_n 0, 1) := dk_42 (dk_at dksX3_lists_2 12 rfl rfl)
theorem dX3_lists_59 : decode cX3_lists 59 = .ok (.getfield 85, 3) := dk_180 0 85 (dk_at dksX3_lists_2 13 rfl rfl)
theorem dX3_lists_62 : decode cX3_lists 62 = .ok (.iload_n 1, 1) := dk_27 (dk_at dksX3_lists_2 16 rfl rfl)
theorem dX3_lists_63 : decode cX3_lists 63 = .ok (.dup2, 1) := dk_92 (dk_at dksX3_lists_2 17 rfl rfl)
theorem dX3_lists_64 : decode cX3_lists 64 = .ok (.iaload, 1) := dk_46 (dk_at dksX3_lists_2 18 rfl rfl)
theorem dX3_lists_65 : decode cX3_lists 65 = .ok (.iconst 1, 1) := dk_4 (dk_at dksX3_lists_2 19 rfl rfl)
theorem dX3_lists_66 : decode cX3_lists 66 = .ok (.iadd, 1) := dk_96 (dk_at dksX3_lists_2 20 rfl rfl)
theorem dX3_lists_67 : decode cX3_lists 67 = .ok (.iastore, 1) := dk_79 (dk_at dksX3_lists_2 21 rfl rfl)
theorem dX3_lists_68 : decode cX3_lists 68 = .ok (.iinc 2 1, 3) := dk_132 2 1 (dk_at dksX3_lists_3 0 rfl rfl)
theorem dX3_lists_71 : decode cX3_lists 71 = .ok (.goto (-52), 3) := dk_167 255 204 (dk_at dksX3_lists_3 3 rfl rfl)
theorem dX3_lists_74 : decode cX3_lists 74 = .ok (.iinc 1 1, 3) := dk_132 1 1 (dk_at dksX3_lists_3 6 rfl rfl)
theorem dX3_lists_77 : decode cX3_lists 77 = .ok (.goto (-75), 3) := dk_167 255 181 (dk_at dksX3_lists_3 9 rfl rfl)
theorem dX3_lists_80 : decode cX3_lists 80 = .ok (.return_, 1) := dk_177 (dk_at dksX3_lists_3 12 rfl rfl)
abbrev cX3_isNear : ByteArray := prog_23_method_59_code
def yX3_isNear : MethodName := ⟨RX3, "isNear", "(II)Z"⟩
def dkwX3_isNear_2 : List UInt8 := [62, 132, 4, 1, 167, 255, 221, 29, 172]
abbrev dktX3_isNear_2 : List UInt8 := dkwX3_isNear_2 ++ []
def dkwX3_isNear_1 : List UInt8 := [154, 0, 19, 42, 27, 21, 4, 182, 1, 97, 42, 180, 0, 61, 28, 46, 160, 0, 7, 4, 167, 0, 4, 3]
abbrev dktX3_isNear_1 : List UInt8 := dkwX3_isNear_1 ++ dktX3_isNear_2
def dkwX3_isNear_0 : List UInt8 := [42, 180, 0, 61, 28, 46, 27, 160, 0, 5, 4, 172, 3, 62, 3, 54, 4, 21, 4, 7, 162, 0, 35, 29]
abbrev dktX3_isNear_0 : List UInt8 := dkwX3_isNear_0 ++ dktX3_isNear_1
theorem dksX3_isNear_0 : cX3_isNear.data.toList.drop 0 = dktX3_isNear_0 := by decide +kernel
theorem dksX3_isNear_1 : cX3_isNear.data.toList.drop 24 = dktX3_isNear_1 := dk_seg dksX3_isNear_0 24 rfl rfl
theorem dksX3_isNear_2 : cX3_isNear.data.toList.drop 48 = dktX3_isNear_2 := dk_seg dksX3_isNear_1 24 rfl rfl
theorem dX3_isNear_0 : decode cX3_isNear 0 = .ok (.aload_n 0, 1) := dk_42 (dk_at dksX3_isNear_0 0 rfl rfl)
theorem dX3_isNear_1 : decode cX3_isNear 1 = .ok (.getfield 61, 3) := dk_180 0 61 (dk_at dksX3_isNear_0 1 rfl rfl)
theorem dX3_isNear_4 : decode cX3_isNear 4 = .ok (.iload_n 2, 1) := dk_28 (dk_at dksX3_isNear_0 4 rfl rfl)
theorem dX3_isNear_5 : decode cX3_isNear 5 = .ok (.iaload, 1) := dk_46 (dk_at dksX3_isNear_0 5 rfl rfl)
theorem dX3_isNear_6 : decode cX3_isNear 6 = .ok (.iload_n 1, 1) := dk_27 (dk_at dksX3_isNear_0 6 rfl rfl)
theorem dX3_isNear_7 : decode cX3_isNear 7 = .ok (.if_icmp .ne 5, 3) := dk_160 0 5 (dk_at dksX3_isNear_0 7 rfl rfl)
theorem dX3_isNear_10 : decode cX3_isNear 10 = .ok (.iconst 1, 1) := dk_4 (dk_at dksX3_isNear_0 10 rfl rfl)
theorem dX3_isNear_11 : decode cX3_isNear 11 = .ok (.ireturn, 1) := dk_172 (dk_at dksX3_isNear_0 11 rfl rfl)
theorem dX3_isNear_12 : decode cX3_isNear 12 = .ok (.iconst 0, 1) := dk_3 (dk_at dksX3_isNear_0 12 rfl rfl)
theorem dX3_isNear_13 : decode cX3_isNear 13 = .ok (.istore_n 3, 1) := dk_62 (dk_at dksX3_isNear_0 13 rfl rfl)
theorem dX3_isNear_14 : decode cX3_isNear 14 = .ok (.iconst 0, 1) := dk_3 (dk_at dksX3_isNear_0 14 rfl rfl)
theorem dX3_isNear_15 : decode cX3_isNear 15 = .ok (.istore 4, 2) := dk_54 4 (dk_at dksX3_isNear_0 15 rfl rfl)
theorem dX3_isNear_17 : decode cX3_isNear 17 = .ok (.iload 4, 2) := dk_21 4 (dk_at dksX3_isNear_0 17 rfl rfl)
theorem dX3_isNear_19 : decode cX3_isNear 19 = .ok (.iconst 4, 1) := dk_7 (dk_at dksX3_isNear_0 19 rfl rfl)
theorem dX3_isNear_20 : decode cX3_isNear 20 = .ok (.if_icmp .ge 35, 3) := dk_162 0 35 (dk_at dksX3_isNear_0 20 rfl rfl)
theorem dX3_isNear_23 : decode cX3_isNear 23 = .ok (.iload_n 3, 1) := dk_29 (dk_at dksX3_isNear_0 23 rfl rfl)
theorem dX3_isNear_24 : decode cX3_isNear 24 = .ok (.ifCond .ne 19, 3) := dk_154 0 19 (dk_at dksX3_isNear_1 0 rfl rfl)
theorem dX3_isNear_27 : decode cX3_isNear 27 = .ok (.aload_n 0, 1) := dk_42 (dk_at dksX3_isNear_1 3 rfl rfl)
theorem dX3_isNear_28 : decode cX3_isNear 28 = .ok (.iload_n 1, 1) := dk_27 (dk_at dksX3_isNear_1 4 rfl rfl)
theorem dX3_isNear_29 : decode cX3_isNear 29 = .ok (.iload 4, 2) := dk_21 4 (dk_at dksX3_isNear_1 5 rfl rfl)
theorem dX3_isNear_31 : decode cX3_isNear 31 = .ok (.invokevirtual 353, 3) := dk_182 1 97 (dk_at dksX3_isNear_1 7 rfl rfl)
theorem dX3_isNear_34 : decode cX3_isNear 34 = .ok (.aload_n 0, 1) := dk_42 (dk_at dksX3_isNear_1 10 rfl rfl)
theorem dX3_isNear_35 : decode cX3_isNear 35 = .ok (.getfield 61, 3) := dk_180 0 61 (dk_at dksX3_isNear_1 11 rfl rfl)
theorem dX3_isNear_38 : decode cX3_isNear 38 = .ok (.iload_n 2, 1) := dk_28 (dk_at dksX3_isNear_1 14 rfl rfl)
theorem dX3_isNear_39 : decode cX3_isNear 39 = .ok (.iaload, 1) := dk_46 (dk_at dksX3_isNear_1 15 rfl rfl)
theorem dX3_isNear_40 : decode cX3_isNear 40 = .ok (.if_icmp .ne 7, 3) := dk_160 0 7 (dk_at dksX3_isNear_1 16 rfl rfl)
theorem dX3_isNear_43 : decode cX3_isNear 43 = .ok (.iconst 1, 1) := dk_4 (dk_at dksX3_isNear_1 19 rfl rfl)
theorem dX3_isNear_44 : decode cX3_isNear 44 = .ok (.goto 4, 3) := dk_167 0 4 (dk_at dksX3_isNear_1 20 rfl rfl)
theorem dX3_isNear_47 : decode cX3_isNear 47 = .ok (.iconst 0, 1) := dk_3 (dk_at dksX3_isNear_1 23 rfl rfl)
theorem dX3_isNear_48 : decode cX3_isNear 48 = .ok (.istore_n 3, 1) := dk_62 (dk_at dksX3_isNear_2 0 rfl rfl)
theorem dX3_isNear_49 : decode cX3_isNear 49 = .ok (.iinc 4 1, 3) := dk_132 4 1 (dk_at dksX3_isNear_2 1 rfl rfl)
theorem dX3_isNear_52 : decode cX3_isNear 52 = .ok (.goto (-35), 3) := dk_167 255 221 (dk_at dksX3_isNear_2 4 rfl rfl)
theorem dX3_isNear_55 : decode cX3_isNear 55 = .ok (.iload_n 3, 1) := dk_29 (dk_at dksX3_isNear_2 7 rfl rfl)
theorem dX3_isNear_56 : decode cX3_isNear 56 = .ok (.ireturn, 1) := dk_172 (dk_at dksX3_isNear_2 8 rfl rfl)
abbrev cX3_canBe : ByteArray := prog_23_method_58_code
def yX3_canBe : MethodName := ⟨RX3, "canBe", "(I)Z"⟩
def dkwX3_canBe_3 : List UInt8 := [29, 96, 4, 100, 46, 42, 180, 0, 64, 28, 46, 159, 0, 5, 3, 172, 132, 2, 1, 167, 255, 170, 4, 172]
abbrev dktX3_canBe_3 : List UInt8 := dkwX3_canBe_3 ++ []
def dkwX3_canBe_2 : List UInt8 := [162, 0, 40, 42, 180, 0, 64, 28, 46, 2, 159, 0, 30, 29, 153, 0, 24, 42, 180, 0, 82, 7, 28, 104]
abbrev dktX3_canBe_2 : List UInt8 := dkwX3_canBe_2 ++ dktX3_canBe_3
def dkwX3_canBe_1 : List UInt8 := [158, 0, 18, 167, 0, 13, 29, 42, 180, 0, 85, 28, 46, 164, 0, 5, 3, 172, 28, 42, 180, 1, 25]
abbrev dktX3_canBe_1 : List UInt8 := dkwX3_canBe_1 ++ dktX3_canBe_2
def dkwX3_canBe_0 : List UInt8 := [3, 61, 28, 8, 162, 0, 87, 27, 28, 184, 1, 118, 62, 28, 42, 180, 1, 25, 161, 0, 10, 29]
abbrev dktX3_canBe_0 : List UInt8 := dkwX3_canBe_0 ++ dktX3_canBe_1
theorem dksX3_canBe_0 : cX3_canBe.data.toList.drop 0 = dktX3_canBe_0 := by decide +kernel
theorem dksX3_canBe_1 : cX3_canBe.data.toList.drop 22 = dktX3_canBe_1 := dk_seg dksX3_canBe_0 22 rfl rfl
theorem dksX3_canBe_2 : cX3_canBe.data.toList.drop 45 = dktX3_canBe_2 := dk_seg dksX3_canBe_1 23 rfl rfl
theorem dksX3_canBe_3 : cX3_canBe.data.toList.drop 69 = dktX3_canBe_3 := dk_seg dksX3_canBe_2 24 rfl rfl
theorem dX3_canBe_0 : decode cX3_canBe 0 = .ok (.iconst 0, 1) := dk_3 (dk_at dksX3_canBe_0 0 rfl rfl)
theorem dX3_canBe_1 : decode cX3_canBe 1 = .ok (.istore_n 2, 1) := dk_61 (dk_at dksX3_canBe_0 1 rfl rfl)
theorem dX3_canBe_2 : decode cX3_canBe 2 = .ok (.iload_n 2, 1) := dk_28 (dk_at dksX3_canBe_0 2 rfl rfl)
theorem dX3_canBe_3 : decode cX3_canBe 3 = .ok (.iconst 5, 1) := dk_8 (dk_at dksX3_canBe_0 3 rfl rfl)
theorem dX3_canBe_4 : decode cX3_canBe 4 = .ok (.if_icmp .ge 87, 3) := dk_162 0 87 (dk_at dksX3_canBe_0 4 rfl rfl)
theorem dX3_canBe_7 : decode cX3_canBe 7 = .ok (.iload_n 1, 1) := dk_27 (dk_at dksX3_canBe_0 7 rfl rfl)
theorem dX3_canBe_8 : decode cX3_canBe 8 = .ok (.iload_n 2, 1) := dk_28 (dk_at dksX3_canBe_0 8 rfl rfl)
theorem dX3_canBe_9 : decode cX3_canBe 9 = .ok (.invokestatic 374, 3) := dk_184 1 118 (dk_at dksX3_canBe_0 9 rfl rfl)
theorem dX3_canBe_12 : decode cX3_canBe 12 = .ok (.istore_n 3, 1) := dk_62 (dk_at dksX3_canBe_0 12 rfl rfl)
theorem dX3_canBe_13 : decode cX3_canBe 13 = .ok (.iload_n 2, 1) := dk_28 (dk_at dksX3_canBe_0 13 rfl rfl)
theorem dX3_canBe_14 : decode cX3_canBe 14 = .ok (.aload_n 0, 1) := dk_42 (dk_at dksX3_canBe_0 14 rfl rfl)
theorem dX3_canBe_15 : decode cX3_canBe 15 = .ok (.getfield 281, 3) := dk_180 1 25 (dk_at dksX3_canBe_0 15 rfl rfl)
theorem dX3_canBe_18 : decode cX3_canBe 18 = .ok (.if_icmp .lt 10, 3) := dk_161 0 10 (dk_at dksX3_canBe_0 18 rfl rfl)
theorem dX3_canBe_21 : decode cX3_canBe 21 = .ok (.iload_n 3, 1) := dk_29 (dk_at dksX3_canBe_0 21 rfl rfl)
theorem dX3_canBe_22 : decode cX3_canBe 22 = .ok (.ifCond .le 18, 3) := dk_158 0 18 (dk_at dksX3_canBe_1 0 rfl rfl)
theorem dX3_canBe_25 : decode cX3_canBe 25 = .ok (.goto 13, 3) := dk_167 0 13 (dk_at dksX3_canBe_1 3 rfl rfl)
theorem dX3_canBe_28 : decode cX3_canBe 28 = .ok (.iload_n 3, 1) := dk_29 (dk_at dksX3_canBe_1 6 rfl rfl)
theorem dX3_canBe_29 : decode cX3_canBe 29 = .ok (.aload_n 0, 1) := dk_42 (dk_at dksX3_canBe_1 7 rfl rfl)
theorem dX3_canBe_30 : decode cX3_canBe 30 = .ok (.getfield 85, 3) := dk_180 0 85 (dk_at dksX3_canBe_1 8 rfl rfl)
theorem dX3_canBe_33 : decode cX3_canBe 33 = .ok (.iload_n 2, 1) := dk_28 (dk_at dksX3_canBe_1 11 rfl rfl)
theorem dX3_canBe_34 : decode cX3_canBe 34 = .ok (.iaload, 1) := dk_46 (dk_at dksX3_canBe_1 12 rfl rfl)
theorem dX3_canBe_35 : decode cX3_canBe 35 = .ok (.if_icmp .le 5, 3) := dk_164 0 5 (dk_at dksX3_canBe_1 13 rfl rfl)
theorem dX3_canBe_38 : decode cX3_canBe 38 = .ok (.iconst 0, 1) := dk_3 (dk_at dksX3_canBe_1 16 rfl rfl)
theorem dX3_canBe_39 : decode cX3_canBe 39 = .ok (.ireturn, 1) := dk_172 (dk_at dksX3_canBe_1 17 rfl rfl)
theorem dX3_canBe_40 : decode cX3_canBe 40 = .ok (.iload_n 2, 1) := dk_28 (dk_at dksX3_canBe_1 18 rfl rfl)
theorem dX3_canBe_41 : decode cX3_canBe 41 = .ok (.aload_n 0, 1) := dk_42 (dk_at dksX3_canBe_1 19 rfl rfl)
theorem dX3_canBe_42 : decode cX3_canBe 42 = .ok (.getfield 281, 3) := dk_180 1 25 (dk_at dksX3_canBe_1 20 rfl rfl)
theorem dX3_canBe_45 : decode cX3_canBe 45 = .ok (.if_icmp .ge 40, 3) := dk_162 0 40 (dk_at dksX3_canBe_2 0 rfl rfl)
theorem dX3_canBe_48 : decode cX3_canBe 48 = .ok (.aload_n 0, 1) := dk_42 (dk_at dksX3_canBe_2 3 rfl rfl)
theorem dX3_canBe_49 : decode cX3_canBe 49 = .ok (.getfield 64, 3) := dk_180 0 64 (dk_at dksX3_canBe_2 4 rfl rfl)
theorem dX3_canBe_52 : decode cX3_canBe 52 = .ok (.iload_n 2, 1) := dk_28 (dk_at dksX3_canBe_2 7 rfl rfl)
theorem dX3_canBe_53 : decode cX3_canBe 53 = .ok (.iaload, 1) := dk_46 (dk_at dksX3_canBe_2 8 rfl rfl)
theorem dX3_canBe_54 : decode cX3_canBe 54 = .ok (.iconst (-1), 1) := dk_2 (dk_at dksX3_canBe_2 9 rfl rfl)
theorem dX3_canBe_55 : decode cX3_canBe 55 = .ok (.if_icmp .eq 30, 3) := dk_159 0 30 (dk_at dksX3_canBe_2 10 rfl rfl)
theorem dX3_canBe_58 : decode cX3_canBe 58 = .ok (.iload_n 3, 1) := dk_29 (dk_at dksX3_canBe_2 13 rfl rfl)
theorem dX3_canBe_59 : decode cX3_canBe 59 = .ok (.ifCond .eq 24, 3) := dk_153 0 24 (dk_at dksX3_canBe_2 14 rfl rfl)
theorem dX3_canBe_62 : decode cX3_canBe 62 = .ok (.aload_n 0, 1) := dk_42 (dk_at dksX3_canBe_2 17 rfl rfl)
theorem dX3_canBe_63 : decode cX3_canBe 63 = .ok (.getfield 82, 3) := dk_180 0 82 (dk_at dksX3_canBe_2 18 rfl rfl)
theorem dX3_canBe_66 : decode cX3_canBe 66 = .ok (.iconst 4, 1) := dk_7 (dk_at dksX3_canBe_2 21 rfl rfl)
theorem dX3_canBe_67 : decode cX3_canBe 67 = .ok (.iload_n 2, 1) := dk_28 (dk_at dksX3_canBe_2 22 rfl rfl)
theorem dX3_canBe_68 : decode cX3_canBe 68 = .ok (.imul, 1) := dk_104 (dk_at dksX3_canBe_2 23 rfl rfl)
theorem dX3_canBe_69 : decode cX3_canBe 69 = .ok (.iload_n 3, 1) := dk_29 (dk_at dksX3_canBe_3 0 rfl rfl)
theorem dX3_canBe_70 : decode cX3_canBe 70 = .ok (.iadd, 1) := dk_96 (dk_at dksX3_canBe_3 1 rfl rfl)
theorem dX3_canBe_71 : decode cX3_canBe 71 = .ok (.iconst 1, 1) := dk_4 (dk_at dksX3_canBe_3 2 rfl rfl)
theorem dX3_canBe_72 : decode cX3_canBe 72 = .ok (.isub, 1) := dk_100 (dk_at dksX3_canBe_3 3 rfl rfl)
theorem dX3_canBe_73 : decode cX3_canBe 73 = .ok (.iaload, 1) := dk_46 (dk_at dksX3_canBe_3 4 rfl rfl)
theorem dX3_canBe_74 : decode cX3_canBe 74 = .ok (.aload_n 0, 1) := dk_42 (dk_at dksX3_canBe_3 5 rfl rfl)
theorem dX3_canBe_75 : decode cX3_canBe 75 = .ok (.getfield 64, 3) := dk_180 0 64 (dk_at dksX3_canBe_3 6 rfl rfl)
theorem dX3_canBe_78 : decode cX3_canBe 78 = .ok (.iload_n 2, 1) := dk_28 (dk_at dksX3_canBe_3 9 rfl rfl)
theorem dX3_canBe_79 : decode cX3_canBe 79 = .ok (.iaload, 1) := dk_46 (dk_at dksX3_canBe_3 10 rfl rfl)
theorem dX3_canBe_80 : decode cX3_canBe 80 = .ok (.if_icmp .eq 5, 3) := dk_159 0 5 (dk_at dksX3_canBe_3 11 rfl rfl)
theorem dX3_canBe_83 : decode cX3_canBe 83 = .ok (.iconst 0, 1) := dk_3 (dk_at dksX3_canBe_3 14 rfl rfl)
theorem dX3_canBe_84 : decode cX3_canBe 84 = .ok (.ireturn, 1) := dk_172 (dk_at dksX3_canBe_3 15 rfl rfl)
theorem dX3_canBe_85 : decode cX3_canBe 85 = .ok (.iinc 2 1, 3) := dk_132 2 1 (dk_at dksX3_canBe_3 16 rfl rfl)
theorem dX3_canBe_88 : decode cX3_canBe 88 = .ok (.goto (-86), 3) := dk_167 255 170 (dk_at dksX3_canBe_3 19 rfl rfl)
theorem dX3_canBe_91 : decode cX3_canBe 91 = .ok (.iconst 1, 1) := dk_4 (dk_at dksX3_canBe_3 22 rfl rfl)
theorem dX3_canBe_92 : decode cX3_canBe 92 = .ok (.ireturn, 1) := dk_172 (dk_at dksX3_canBe_3 23 rfl rfl)
abbrev cX3_digit : ByteArray := prog_23_method_52_code
def yX3_digit : MethodName := ⟨RX3, "digit", "(II)I"⟩
def dkwX3_digit_0 : List UInt8 := [26, 5, 27, 104, 122, 6, 126, 172]
abbrev dktX3_digit_0 : List UInt8 := dkwX3_digit_0 ++ []
theorem dksX3_digit_0 : cX3_digit.data.toList.drop 0 = dktX3_digit_0 := by decide +kernel
theorem dX3_digit_0 : decode cX3_digit 0 = .ok (.iload_n 0, 1) := dk_26 (dk_at dksX3_digit_0 0 rfl rfl)
theorem dX3_digit_1 : decode cX3_digit 1 = .ok (.iconst 2, 1) := dk_5 (dk_at dksX3_digit_0 1 rfl rfl)
theorem dX3_digit_2 : decode cX3_digit 2 = .ok (.iload_n 1, 1) := dk_27 (dk_at dksX3_digit_0 2 rfl rfl)
theorem dX3_digit_3 : decode cX3_digit 3 = .ok (.imul, 1) := dk_104 (dk_at dksX3_digit_0 3 rfl rfl)
theorem dX3_digit_4 : decode cX3_digit 4 = .ok (.ishr, 1) := dk_122 (dk_at dksX3_digit_0 4 rfl rfl)
theorem dX3_digit_5 : decode cX3_digit 5 = .ok (.iconst 3, 1) := dk_6 (dk_at dksX3_digit_0 5 rfl rfl)
theorem dX3_digit_6 : decode cX3_digit 6 = .ok (.iand, 1) := dk_126 (dk_at dksX3_digit_0 6 rfl rfl)
theorem dX3_digit_7 : decode cX3_digit 7 = .ok (.ireturn, 1) := dk_172 (dk_at dksX3_digit_0 7 rfl rfl)
abbrev cX3_lays : ByteArray := prog_23_method_63_code
def yX3_lays : MethodName := ⟨RX3, "lays", "(I)V"⟩
def dkwX3_lays_4 : List UInt8 := [96, 42, 21, 4, 27, 182, 1, 131, 96, 46, 79, 132, 3, 1, 167, 255, 164, 132, 2, 1, 167, 255, 143, 177]
abbrev dktX3_lays_4 : List UInt8 := dkwX3_lays_4 ++ []
def dkwX3_lays_3 : List UInt8 := [167, 0, 35, 42, 180, 0, 119, 7, 28, 104, 29, 96, 42, 180, 0, 122, 16, 32, 28, 104, 16, 8, 29, 104]
abbrev dktX3_lays_3 : List UInt8 := dkwX3_lays_3 ++ dktX3_lays_4
def dkwX3_lays_2 : List UInt8 := [180, 0, 58, 21, 4, 46, 2, 159, 0, 20, 27, 42, 180, 0, 58, 21, 4, 46, 184, 1, 118, 154, 0, 6]
abbrev dktX3_lays_2 : List UInt8 := dkwX3_lays_2 ++ dktX3_lays_3
def dkwX3_lays_1 : List UInt8 := [29, 182, 1, 97, 54, 4, 42, 180, 0, 119, 7, 28, 104, 29, 96, 3, 79, 21, 4, 155, 0, 63, 42]
abbrev dktX3_lays_1 : List UInt8 := dkwX3_lays_1 ++ dktX3_lays_2
def dkwX3_lays_0 : List UInt8 := [3, 61, 28, 42, 180, 1, 85, 42, 180, 1, 88, 104, 162, 0, 106, 3, 62, 29, 7, 162, 0, 93, 42, 28]
abbrev dktX3_lays_0 : List UInt8 := dkwX3_lays_0 ++ dktX3_lays_1
theorem dksX3_lays_0 : cX3_lays.data.toList.drop 0 = dktX3_lays_0 := by decide +kernel
theorem dksX3_lays_1 : cX3_lays.data.toList.drop 24 = dktX3_lays_1 := dk_seg dksX3_lays_0 24 rfl rfl
theorem dksX3_lays_2 : cX3_lays.data.toList.drop 47 = dktX3_lays_2 := dk_seg dksX3_lays_1 23 rfl rfl
theorem dksX3_lays_3 : cX3_lays.data.toList.drop 71 = dktX3_lays_3 := dk_seg dksX3_lays_2 24 rfl rfl
theorem dksX3_lays_4 : cX3_lays.data.toList.drop 95 = dktX3_lays_4 := dk_seg dksX3_lays_3 24 rfl rfl
theorem dX3_lays_0 : decode cX3_lays 0 = .ok (.iconst 0, 1) := dk_3 (dk_at dksX3_lays_0 0 rfl rfl)
theorem dX3_lays_1 : decode cX3_lays 1 = .ok (.istore_n 2, 1) := dk_61 (dk_at dksX3_lays_0 1 rfl rfl)
theorem dX3_lays_2 : decode cX3_lays 2 = .ok (.iload_n 2, 1) := dk_28 (dk_at dksX3_lays_0 2 rfl rfl)
theorem dX3_lays_3 : decode cX3_lays 3 = .ok (.aload_n 0, 1) := dk_42 (dk_at dksX3_lays_0 3 rfl rfl)
theorem dX3_lays_4 : decode cX3_lays 4 = .ok (.getfield 341, 3) := dk_180 1 85 (dk_at dksX3_lays_0 4 rfl rfl)
theorem dX3_lays_7 : decode cX3_lays 7 = .ok (.aload_n 0, 1) := dk_42 (dk_at dksX3_lays_0 7 rfl rfl)
theorem dX3_lays_8 : decode cX3_lays 8 = .ok (.getfield 344, 3) := dk_180 1 88 (dk_at dksX3_lays_0 8 rfl rfl)
theorem dX3_lays_11 : decode cX3_lays 11 = .ok (.imul, 1) := dk_104 (dk_at dksX3_lays_0 11 rfl rfl)
theorem dX3_lays_12 : decode cX3_lays 12 = .ok (.if_icmp .ge 106, 3) := dk_162 0 106 (dk_at dksX3_lays_0 12 rfl rfl)
theorem dX3_lays_15 : decode cX3_lays 15 = .ok (.iconst 0, 1) := dk_3 (dk_at dksX3_lays_0 15 rfl rfl)
theorem dX3_lays_16 : decode cX3_lays 16 = .ok (.istore_n 3, 1) := dk_62 (dk_at dksX3_lays_0 16 rfl rfl)
theorem dX3_lays_17 : decode cX3_lays 17 = .ok (.iload_n 3, 1) := dk_29 (dk_at dksX3_lays_0 17 rfl rfl)
theorem dX3_lays_18 : decode cX3_lays 18 = .ok (.iconst 4, 1) := dk_7 (dk_at dksX3_lays_0 18 rfl rfl)
theorem dX3_lays_19 : decode cX3_lays 19 = .ok (.if_icmp .ge 93, 3) := dk_162 0 93 (dk_at dksX3_lays_0 19 rfl rfl)
theorem dX3_lays_22 : decode cX3_lays 22 = .ok (.aload_n 0, 1) := dk_42 (dk_at dksX3_lays_0 22 rfl rfl)
theorem dX3_lays_23 : decode cX3_lays 23 = .ok (.iload_n 2, 1) := dk_28 (dk_at dksX3_lays_0 23 rfl rfl)
theorem dX3_lays_24 : decode cX3_lays 24 = .ok (.iload_n 3, 1) := dk_29 (dk_at dksX3_lays_1 0 rfl rfl)
theorem dX3_lays_25 : decode cX3_lays 25 = .ok (.invokevirtual 353, 3) := dk_182 1 97 (dk_at dksX3_lays_1 1 rfl rfl)
theorem dX3_lays_28 : decode cX3_lays 28 = .ok (.istore 4, 2) := dk_54 4 (dk_at dksX3_lays_1 4 rfl rfl)
theorem dX3_lays_30 : decode cX3_lays 30 = .ok (.aload_n 0, 1) := dk_42 (dk_at dksX3_lays_1 6 rfl rfl)
theorem dX3_lays_31 : decode cX3_lays 31 = .ok (.getfield 119, 3) := dk_180 0 119 (dk_at dksX3_lays_1 7 rfl rfl)
theorem dX3_lays_34 : decode cX3_lays 34 = .ok (.iconst 4, 1) := dk_7 (dk_at dksX3_lays_1 10 rfl rfl)
theorem dX3_lays_35 : decode cX3_lays 35 = .ok (.iload_n 2, 1) := dk_28 (dk_at dksX3_lays_1 11 rfl rfl)
theorem dX3_lays_36 : decode cX3_lays 36 = .ok (.imul, 1) := dk_104 (dk_at dksX3_lays_1 12 rfl rfl)
theorem dX3_lays_37 : decode cX3_lays 37 = .ok (.iload_n 3, 1) := dk_29 (dk_at dksX3_lays_1 13 rfl rfl)
theorem dX3_lays_38 : decode cX3_lays 38 = .ok (.iadd, 1) := dk_96 (dk_at dksX3_lays_1 14 rfl rfl)
theorem dX3_lays_39 : decode cX3_lays 39 = .ok (.iconst 0, 1) := dk_3 (dk_at dksX3_lays_1 15 rfl rfl)
theorem dX3_lays_40 : decode cX3_lays 40 = .ok (.iastore, 1) := dk_79 (dk_at dksX3_lays_1 16 rfl rfl)
theorem dX3_lays_41 : decode cX3_lays 41 = .ok (.iload 4, 2) := dk_21 4 (dk_at dksX3_lays_1 17 rfl rfl)
theorem dX3_lays_43 : decode cX3_lays 43 = .ok (.ifCond .lt 63, 3) := dk_155 0 63 (dk_at dksX3_lays_1 19 rfl rfl)
theorem dX3_lays_46 : decode cX3_lays 46 = .ok (.aload_n 0, 1) := dk_42 (dk_at dksX3_lays_1 22 rfl rfl)
theorem dX3_lays_47 : decode cX3_lays 47 = .ok (.getfield 58, 3) := dk_180 0 58 (dk_at dksX3_lays_2 0 rfl rfl)
theorem dX3_lays_50 : decode cX3_lays 50 = .ok (.iload 4, 2) := dk_21 4 (dk_at dksX3_lays_2 3 rfl rfl)
theorem dX3_lays_52 : decode cX3_lays 52 = .ok (.iaload, 1) := dk_46 (dk_at dksX3_lays_2 5 rfl rfl)
theorem dX3_lays_53 : decode cX3_lays 53 = .ok (.iconst (-1), 1) := dk_2 (dk_at dksX3_lays_2 6 rfl rfl)
theorem dX3_lays_54 : decode cX3_lays 54 = .ok (.if_icmp .eq 20, 3) := dk_159 0 20 (dk_at dksX3_lays_2 7 rfl rfl)
theorem dX3_lays_57 : decode cX3_lays 57 = .ok (.iload_n 1, 1) := dk_27 (dk_at dksX3_lays_2 10 rfl rfl)
theorem dX3_lays_58 : decode cX3_lays 58 = .ok (.aload_n 0, 1) := dk_42 (dk_at dksX3_lays_2 11 rfl rfl)
theorem dX3_lays_59 : decode cX3_lays 59 = .ok (.getfield 58, 3) := dk_180 0 58 (dk_at dksX3_lays_2 12 rfl rfl)
theorem dX3_lays_62 : decode cX3_lays 62 = .ok (.iload 4, 2) := dk_21 4 (dk_at dksX3_lays_2 15 rfl rfl)
theorem dX3_lays_64 : decode cX3_lays 64 = .ok (.iaload, 1) := dk_46 (dk_at dksX3_lays_2 17 rfl rfl)
theorem dX3_lays_65 : decode cX3_lays 65 = .ok (.invokestatic 374, 3) := dk_184 1 118 (dk_at dksX3_lays_2 18 rfl rfl)
theorem dX3_lays_68 : decode cX3_lays 68 = .ok (.ifCond .ne 6, 3) := dk_154 0 6 (dk_at dksX3_lays_2 21 rfl rfl)
theorem dX3_lays_71 : decode cX3_lays 71 = .ok (.goto 35, 3) := dk_167 0 35 (dk_at dksX3_lays_3 0 rfl rfl)
theorem dX3_lays_74 : decode cX3_lays 74 = .ok (.aload_n 0, 1) := dk_42 (dk_at dksX3_lays_3 3 rfl rfl)
theorem dX3_lays_75 : decode cX3_lays 75 = .ok (.getfield 119, 3) := dk_180 0 119 (dk_at dksX3_lays_3 4 rfl rfl)
theorem dX3_lays_78 : decode cX3_lays 78 = .ok (.iconst 4, 1) := dk_7 (dk_at dksX3_lays_3 7 rfl rfl)
theorem dX3_lays_79 : decode cX3_lays 79 = .ok (.iload_n 2, 1) := dk_28 (dk_at dksX3_lays_3 8 rfl rfl)
theorem dX3_lays_80 : decode cX3_lays 80 = .ok (.imul, 1) := dk_104 (dk_at dksX3_lays_3 9 rfl rfl)
theorem dX3_lays_81 : decode cX3_lays 81 = .ok (.iload_n 3, 1) := dk_29 (dk_at dksX3_lays_3 10 rfl rfl)
theorem dX3_lays_82 : decode cX3_lays 82 = .ok (.iadd, 1) := dk_96 (dk_at dksX3_lays_3 11 rfl rfl)
theorem dX3_lays_83 : decode cX3_lays 83 = .ok (.aload_n 0, 1) := dk_42 (dk_at dksX3_lays_3 12 rfl rfl)
theorem dX3_lays_84 : decode cX3_lays 84 = .ok (.getfield 122, 3) := dk_180 0 122 (dk_at dksX3_lays_3 13 rfl rfl)
theorem dX3_lays_87 : decode cX3_lays 87 = .ok (.bipush 32, 2) := dk_16 32 (dk_at dksX3_lays_3 16 rfl rfl)
theorem dX3_lays_89 : decode cX3_lays 89 = .ok (.iload_n 2, 1) := dk_28 (dk_at dksX3_lays_3 18 rfl rfl)
theorem dX3_lays_90 : decode cX3_lays 90 = .ok (.imul, 1) := dk_104 (dk_at dksX3_lays_3 19 rfl rfl)
theorem dX3_lays_91 : decode cX3_lays 91 = .ok (.bipush 8, 2) := dk_16 8 (dk_at dksX3_lays_3 20 rfl rfl)
theorem dX3_lays_93 : decode cX3_lays 93 = .ok (.iload_n 3, 1) := dk_29 (dk_at dksX3_lays_3 22 rfl rfl)
theorem dX3_lays_94 : decode cX3_lays 94 = .ok (.imul, 1) := dk_104 (dk_at dksX3_lays_3 23 rfl rfl)
theorem dX3_lays_95 : decode cX3_lays 95 = .ok (.iadd, 1) := dk_96 (dk_at dksX3_lays_4 0 rfl rfl)
theorem dX3_lays_96 : decode cX3_lays 96 = .ok (.aload_n 0, 1) := dk_42 (dk_at dksX3_lays_4 1 rfl rfl)
theorem dX3_lays_97 : decode cX3_lays 97 = .ok (.iload 4, 2) := dk_21 4 (dk_at dksX3_lays_4 2 rfl rfl)
theorem dX3_lays_99 : decode cX3_lays 99 = .ok (.iload_n 1, 1) := dk_27 (dk_at dksX3_lays_4 4 rfl rfl)
theorem dX3_lays_100 : decode cX3_lays 100 = .ok (.invokevirtual 387, 3) := dk_182 1 131 (dk_at dksX3_lays_4 5 rfl rfl)
theorem dX3_lays_103 : decode cX3_lays 103 = .ok (.iadd, 1) := dk_96 (dk_at dksX3_lays_4 8 rfl rfl)
theorem dX3_lays_104 : decode cX3_lays 104 = .ok (.iaload, 1) := dk_46 (dk_at dksX3_lays_4 9 rfl rfl)
theorem dX3_lays_105 : decode cX3_lays 105 = .ok (.iastore, 1) := dk_79 (dk_at dksX3_lays_4 10 rfl rfl)
theorem dX3_lays_106 : decode cX3_lays 106 = .ok (.iinc 3 1, 3) := dk_132 3 1 (dk_at dksX3_lays_4 11 rfl rfl)
theorem dX3_lays_109 : decode cX3_lays 109 = .ok (.goto (-92), 3) := dk_167 255 164 (dk_at dksX3_lays_4 14 rfl rfl)
theorem dX3_lays_112 : decode cX3_lays 112 = .ok (.iinc 2 1, 3) := dk_132 2 1 (dk_at dksX3_lays_4 17 rfl rfl)
theorem dX3_lays_115 : decode cX3_lays 115 = .ok (.goto (-113), 3) := dk_167 255 143 (dk_at dksX3_lays_4 20 rfl rfl)
theorem dX3_lays_118 : decode cX3_lays 118 = .ok (.return_, 1) := dk_177 (dk_at dksX3_lays_4 23 rfl rfl)
abbrev cX3_floorOf : ByteArray := prog_23_method_61_code
def yX3_floorOf : MethodName := ⟨RX3, "floorOf", "(II)I"⟩
def dkwX3_floorOf_1 : List UInt8 := [180, 0, 82, 7, 29, 104, 28, 29, 184, 1, 118, 96, 4, 100, 46, 172]
abbrev dktX3_floorOf_1 : List UInt8 := dkwX3_floorOf_1 ++ []
def dkwX3_floorOf_0 : List UInt8 := [42, 180, 0, 58, 27, 46, 62, 29, 2, 160, 0, 12, 42, 180, 0, 55, 27, 46, 167, 0, 19, 42]
abbrev dktX3_floorOf_0 : List UInt8 := dkwX3_floorOf_0 ++ dktX3_floorOf_1
theorem dksX3_floorOf_0 : cX3_floorOf.data.toList.drop 0 = dktX3_floorOf_0 := by decide +kernel
theorem dksX3_floorOf_1 : cX3_floorOf.data.toList.drop 22 = dktX3_floorOf_1 := dk_seg dksX3_floorOf_0 22 rfl rfl
theorem dX3_floorOf_0 : decode cX3_floorOf 0 = .ok (.aload_n 0, 1) := dk_42 (dk_at dksX3_floorOf_0 0 rfl rfl)
theorem dX3_floorOf_1 : decode cX3_floorOf 1 = .ok (.getfield 58, 3) := dk_180 0 58 (dk_at dksX3_floorOf_0 1 rfl rfl)
theorem dX3_floorOf_4 : decode cX3_floorOf 4 = .ok (.iload_n 1, 1) := dk_27 (dk_at dksX3_floorOf_0 4 rfl rfl)
theorem dX3_floorOf_5 : decode cX3_floorOf 5 = .ok (.iaload, 1) := dk_46 (dk_at dksX3_floorOf_0 5 rfl rfl)
theorem dX3_floorOf_6 : decode cX3_floorOf 6 = .ok (.istore_n 3, 1) := dk_62 (dk_at dksX3_floorOf_0 6 rfl rfl)
theorem dX3_floorOf_7 : decode cX3_floorOf 7 = .ok (.iload_n 3, 1) := dk_29 (dk_at dksX3_floorOf_0 7 rfl rfl)
theorem dX3_floorOf_8 : decode cX3_floorOf 8 = .ok (.iconst (-1), 1) := dk_2 (dk_at dksX3_floorOf_0 8 rfl rfl)
theorem dX3_floorOf_9 : decode cX3_floorOf 9 = .ok (.if_icmp .ne 12, 3) := dk_160 0 12 (dk_at dksX3_floorOf_0 9 rfl rfl)
theorem dX3_floorOf_12 : decode cX3_floorOf 12 = .ok (.aload_n 0, 1) := dk_42 (dk_at dksX3_floorOf_0 12 rfl rfl)
theorem dX3_floorOf_13 : decode cX3_floorOf 13 = .ok (.getfield 55, 3) := dk_180 0 55 (dk_at dksX3_floorOf_0 13 rfl rfl)
theorem dX3_floorOf_16 : decode cX3_floorOf 16 = .ok (.iload_n 1, 1) := dk_27 (dk_at dksX3_floorOf_0 16 rfl rfl)
theorem dX3_floorOf_17 : decode cX3_floorOf 17 = .ok (.iaload, 1) := dk_46 (dk_at dksX3_floorOf_0 17 rfl rfl)
theorem dX3_floorOf_18 : decode cX3_floorOf 18 = .ok (.goto 19, 3) := dk_167 0 19 (dk_at dksX3_floorOf_0 18 rfl rfl)
theorem dX3_floorOf_21 : decode cX3_floorOf 21 = .ok (.aload_n 0, 1) := dk_42 (dk_at dksX3_floorOf_0 21 rfl rfl)
theorem dX3_floorOf_22 : decode cX3_floorOf 22 = .ok (.getfield 82, 3) := dk_180 0 82 (dk_at dksX3_floorOf_1 0 rfl rfl)
theorem dX3_floorOf_25 : decode cX3_floorOf 25 = .ok (.iconst 4, 1) := dk_7 (dk_at dksX3_floorOf_1 3 rfl rfl)
theorem dX3_floorOf_26 : decode cX3_floorOf 26 = .ok (.iload_n 3, 1) := dk_29 (dk_at dksX3_floorOf_1 4 rfl rfl)
theorem dX3_floorOf_27 : decode cX3_floorOf 27 = .ok (.imul, 1) := dk_104 (dk_at dksX3_floorOf_1 5 rfl rfl)
theorem dX3_floorOf_28 : decode cX3_floorOf 28 = .ok (.iload_n 2, 1) := dk_28 (dk_at dksX3_floorOf_1 6 rfl rfl)
theorem dX3_floorOf_29 : decode cX3_floorOf 29 = .ok (.iload_n 3, 1) := dk_29 (dk_at dksX3_floorOf_1 7 rfl rfl)
theorem dX3_floorOf_30 : decode cX3_floorOf 30 = .ok (.invokestatic 374, 3) := dk_184 1 118 (dk_at dksX3_floorOf_1 8 rfl rfl)
theorem dX3_floorOf_33 : decode cX3_floorOf 33 = .ok (.iadd, 1) := dk_96 (dk_at dksX3_floorOf_1 11 rfl rfl)
theorem dX3_floorOf_34 : decode cX3_floorOf 34 = .ok (.iconst 1, 1) := dk_4 (dk_at dksX3_floorOf_1 12 rfl rfl)
theorem dX3_floorOf_35 : decode cX3_floorOf 35 = .ok (.isub, 1) := dk_100 (dk_at dksX3_floorOf_1 13 rfl rfl)
theorem dX3_floorOf_36 : decode cX3_floorOf 36 = .ok (.iaload, 1) := dk_46 (dk_at dksX3_floorOf_1 14 rfl rfl)
theorem dX3_floorOf_37 : decode cX3_floorOf 37 = .ok (.ireturn, 1) := dk_172 (dk_at dksX3_floorOf_1 15 rfl rfl)
abbrev cX3_news : ByteArray := prog_23_method_60_code
def yX3_news : MethodName := ⟨RX3, "news", "(II)I"⟩
def dkwX3_news_1 : List UInt8 := [29, 122, 4, 126, 4, 160, 0, 5, 29, 172, 132, 3, 1, 167, 255, 221, 2, 172]
abbrev dktX3_news_1 : List UInt8 := dkwX3_news_1 ++ []
def dkwX3_news_0 : List UInt8 := [3, 62, 29, 42, 180, 1, 25, 162, 0, 33, 28, 29, 184, 1, 118, 154, 0, 19, 42, 180, 0, 125, 27, 46]
abbrev dktX3_news_0 : List UInt8 := dkwX3_news_0 ++ dktX3_news_1
theorem dksX3_news_0 : cX3_news.data.toList.drop 0 = dktX3_news_0 := by decide +kernel
theorem dksX3_news_1 : cX3_news.data.toList.drop 24 = dktX3_news_1 := dk_seg dksX3_news_0 24 rfl rfl
theorem dX3_news_0 : decode cX3_news 0 = .ok (.iconst 0, 1) := dk_3 (dk_at dksX3_news_0 0 rfl rfl)
theorem dX3_news_1 : decode cX3_news 1 = .ok (.istore_n 3, 1) := dk_62 (dk_at dksX3_news_0 1 rfl rfl)
theorem dX3_news_2 : decode cX3_news 2 = .ok (.iload_n 3, 1) := dk_29 (dk_at dksX3_news_0 2 rfl rfl)
theorem dX3_news_3 : decode cX3_news 3 = .ok (.aload_n 0, 1) := dk_42 (dk_at dksX3_news_0 3 rfl rfl)
theorem dX3_news_4 : decode cX3_news 4 = .ok (.getfield 281, 3) := dk_180 1 25 (dk_at dksX3_news_0 4 rfl rfl)
theorem dX3_news_7 : decode cX3_news 7 = .ok (.if_icmp .ge 33, 3) := dk_162 0 33 (dk_at dksX3_news_0 7 rfl rfl)
theorem dX3_news_10 : decode cX3_news 10 = .ok (.iload_n 2, 1) := dk_28 (dk_at dksX3_news_0 10 rfl rfl)
theorem dX3_news_11 : decode cX3_news 11 = .ok (.iload_n 3, 1) := dk_29 (dk_at dksX3_news_0 11 rfl rfl)
theorem dX3_news_12 : decode cX3_news 12 = .ok (.invokestatic 374, 3) := dk_184 1 118 (dk_at dksX3_news_0 12 rfl rfl)
theorem dX3_news_15 : decode cX3_news 15 = .ok (.ifCond .ne 19, 3) := dk_154 0 19 (dk_at dksX3_news_0 15 rfl rfl)
theorem dX3_news_18 : decode cX3_news 18 = .ok (.aload_n 0, 1) := dk_42 (dk_at dksX3_news_0 18 rfl rfl)
theorem dX3_news_19 : decode cX3_news 19 = .ok (.getfield 125, 3) := dk_180 0 125 (dk_at dksX3_news_0 19 rfl rfl)
theorem dX3_news_22 : decode cX3_news 22 = .ok (.iload_n 1, 1) := dk_27 (dk_at dksX3_news_0 22 rfl rfl)
theorem dX3_news_23 : decode cX3_news 23 = .ok (.iaload, 1) := dk_46 (dk_at dksX3_news_0 23 rfl rfl)
theorem dX3_news_24 : decode cX3_news 24 = .ok (.iload_n 3, 1) := dk_29 (dk_at dksX3_news_1 0 rfl rfl)
theorem dX3_news_25 : decode cX3_news 25 = .ok (.ishr, 1) := dk_122 (dk_at dksX3_news_1 1 rfl rfl)
theorem dX3_news_26 : decode cX3_news 26 = .ok (.iconst 1, 1) := dk_4 (dk_at dksX3_news_1 2 rfl rfl)
theorem dX3_news_27 : decode cX3_news 27 = .ok (.iand, 1) := dk_126 (dk_at dksX3_news_1 3 rfl rfl)
theorem dX3_news_28 : decode cX3_news 28 = .ok (.iconst 1, 1) := dk_4 (dk_at dksX3_news_1 4 rfl rfl)
theorem dX3_news_29 : decode cX3_news 29 = .ok (.if_icmp .ne 5, 3) := dk_160 0 5 (dk_at dksX3_news_1 5 rfl rfl)
theorem dX3_news_32 : decode cX3_news 32 = .ok (.iload_n 3, 1) := dk_29 (dk_at dksX3_news_1 8 rfl rfl)
theorem dX3_news_33 : decode cX3_news 33 = .ok (.ireturn, 1) := dk_172 (dk_at dksX3_news_1 9 rfl rfl)
theorem dX3_news_34 : decode cX3_news 34 = .ok (.iinc 3 1, 3) := dk_132 3 1 (dk_at dksX3_news_1 10 rfl rfl)
theorem dX3_news_37 : decode cX3_news 37 = .ok (.goto (-35), 3) := dk_167 255 221 (dk_at dksX3_news_1 13 rfl rfl)
theorem dX3_news_40 : decode cX3_news 40 = .ok (.iconst (-1), 1) := dk_2 (dk_at dksX3_news_1 16 rfl rfl)
theorem dX3_news_41 : decode cX3_news 41 = .ok (.ireturn, 1) := dk_172 (dk_at dksX3_news_1 17 rfl rfl)
abbrev cX3_over : ByteArray := prog_23_method_64_code
def yX3_over : MethodName := ⟨RX3, "over", "(IIIZ)J"⟩
def dkwX3_over_4 : List UInt8 := [132, 7, 1, 167, 255, 167, 22, 5, 173]
abbrev dktX3_over_4 : List UInt8 := dkwX3_over_4 ++ []
def dkwX3_over_3 : List UInt8 := [105, 97, 167, 0, 18, 22, 8, 22, 5, 148, 158, 0, 8, 22, 8, 167, 0, 5, 22, 5, 55, 5]
abbrev dktX3_over_3 : List UInt8 := dkwX3_over_3 ++ dktX3_over_4
def dkwX3_over_2 : List UInt8 := [155, 0, 7, 20, 1, 134, 173, 21, 4, 153, 0, 20, 22, 5, 42, 29, 21, 7, 182, 1, 115, 133, 22, 8]
abbrev dktX3_over_2 : List UInt8 := dkwX3_over_2 ++ dktX3_over_3
def dkwX3_over_1 : List UInt8 := [21, 7, 4, 96, 29, 184, 1, 112, 104, 96, 104, 28, 96, 47, 55, 8, 22, 8, 20, 1, 134, 148]
abbrev dktX3_over_1 : List UInt8 := dkwX3_over_1 ++ dktX3_over_2
def dkwX3_over_0 : List UInt8 := [9, 55, 5, 3, 54, 7, 21, 7, 42, 180, 0, 85, 29, 46, 162, 0, 84, 42, 180, 0, 74, 16, 100, 27]
abbrev dktX3_over_0 : List UInt8 := dkwX3_over_0 ++ dktX3_over_1
theorem dksX3_over_0 : cX3_over.data.toList.drop 0 = dktX3_over_0 := by decide +kernel
theorem dksX3_over_1 : cX3_over.data.toList.drop 24 = dktX3_over_1 := dk_seg dksX3_over_0 24 rfl rfl
theorem dksX3_over_2 : cX3_over.data.toList.drop 46 = dktX3_over_2 := dk_seg dksX3_over_1 22 rfl rfl
theorem dksX3_over_3 : cX3_over.data.toList.drop 70 = dktX3_over_3 := dk_seg dksX3_over_2 24 rfl rfl
theorem dksX3_over_4 : cX3_over.data.toList.drop 92 = dktX3_over_4 := dk_seg dksX3_over_3 22 rfl rfl
theorem dX3_over_0 : decode cX3_over 0 = .ok (.lconst 0, 1) := dk_9 (dk_at dksX3_over_0 0 rfl rfl)
theorem dX3_over_1 : decode cX3_over 1 = .ok (.lstore 5, 2) := dk_55 5 (dk_at dksX3_over_0 1 rfl rfl)
theorem dX3_over_3 : decode cX3_over 3 = .ok (.iconst 0, 1) := dk_3 (dk_at dksX3_over_0 3 rfl rfl)
theorem dX3_over_4 : decode cX3_over 4 = .ok (.istore 7, 2) := dk_54 7 (dk_at dksX3_over_0 4 rfl rfl)
theorem dX3_over_6 : decode cX3_over 6 = .ok (.iload 7, 2) := dk_21 7 (dk_at dksX3_over_0 6 rfl rfl)
theorem dX3_over_8 : decode cX3_over 8 = .ok (.aload_n 0, 1) := dk_42 (dk_at dksX3_over_0 8 rfl rfl)
theorem dX3_over_9 : decode cX3_over 9 = .ok (.getfield 85, 3) := dk_180 0 85 (dk_at dksX3_over_0 9 rfl rfl)
theorem dX3_over_12 : decode cX3_over 12 = .ok (.iload_n 3, 1) := dk_29 (dk_at dksX3_over_0 12 rfl rfl)
theorem dX3_over_13 : decode cX3_over 13 = .ok (.iaload, 1) := dk_46 (dk_at dksX3_over_0 13 rfl rfl)
theorem dX3_over_14 : decode cX3_over 14 = .ok (.if_icmp .ge 84, 3) := dk_162 0 84 (dk_at dksX3_over_0 14 rfl rfl)
theorem dX3_over_17 : decode cX3_over 17 = .ok (.aload_n 0, 1) := dk_42 (dk_at dksX3_over_0 17 rfl rfl)
theorem dX3_over_18 : decode cX3_over 18 = .ok (.getfield 74, 3) := dk_180 0 74 (dk_at dksX3_over_0 18 rfl rfl)
theorem dX3_over_21 : decode cX3_over 21 = .ok (.bipush 100, 2) := dk_16 100 (dk_at dksX3_over_0 21 rfl rfl)
theorem dX3_over_23 : decode cX3_over 23 = .ok (.iload_n 1, 1) := dk_27 (dk_at dksX3_over_0 23 rfl rfl)
theorem dX3_over_24 : decode cX3_over 24 = .ok (.iload 7, 2) := dk_21 7 (dk_at dksX3_over_1 0 rfl rfl)
theorem dX3_over_26 : decode cX3_over 26 = .ok (.iconst 1, 1) := dk_4 (dk_at dksX3_over_1 2 rfl rfl)
theorem dX3_over_27 : decode cX3_over 27 = .ok (.iadd, 1) := dk_96 (dk_at dksX3_over_1 3 rfl rfl)
theorem dX3_over_28 : decode cX3_over 28 = .ok (.iload_n 3, 1) := dk_29 (dk_at dksX3_over_1 4 rfl rfl)
theorem dX3_over_29 : decode cX3_over 29 = .ok (.invokestatic 368, 3) := dk_184 1 112 (dk_at dksX3_over_1 5 rfl rfl)
theorem dX3_over_32 : decode cX3_over 32 = .ok (.imul, 1) := dk_104 (dk_at dksX3_over_1 8 rfl rfl)
theorem dX3_over_33 : decode cX3_over 33 = .ok (.iadd, 1) := dk_96 (dk_at dksX3_over_1 9 rfl rfl)
theorem dX3_over_34 : decode cX3_over 34 = .ok (.imul, 1) := dk_104 (dk_at dksX3_over_1 10 rfl rfl)
theorem dX3_over_35 : decode cX3_over 35 = .ok (.iload_n 2, 1) := dk_28 (dk_at dksX3_over_1 11 rfl rfl)
theorem dX3_over_36 : decode cX3_over 36 = .ok (.iadd, 1) := dk_96 (dk_at dksX3_over_1 12 rfl rfl)
theorem dX3_over_37 : decode cX3_over 37 = .ok (.laload, 1) := dk_47 (dk_at dksX3_over_1 13 rfl rfl)
theorem dX3_over_38 : decode cX3_over 38 = .ok (.lstore 8, 2) := dk_55 8 (dk_at dksX3_over_1 14 rfl rfl)
theorem dX3_over_40 : decode cX3_over 40 = .ok (.lload 8, 2) := dk_22 8 (dk_at dksX3_over_1 16 rfl rfl)
theorem dX3_over_42 : decode cX3_over 42 = .ok (.ldc2_w 390, 3) := dk_20 1 134 (dk_at dksX3_over_1 18 rfl rfl)
theorem dX3_over_45 : decode cX3_over 45 = .ok (.lcmp, 1) := dk_148 (dk_at dksX3_over_1 21 rfl rfl)
theorem dX3_over_46 : decode cX3_over 46 = .ok (.ifCond .lt 7, 3) := dk_155 0 7 (dk_at dksX3_over_2 0 rfl rfl)
theorem dX3_over_49 : decode cX3_over 49 = .ok (.ldc2_w 390, 3) := dk_20 1 134 (dk_at dksX3_over_2 3 rfl rfl)
theorem dX3_over_52 : decode cX3_over 52 = .ok (.lreturn, 1) := dk_173 (dk_at dksX3_over_2 6 rfl rfl)
theorem dX3_over_53 : decode cX3_over 53 = .ok (.iload 4, 2) := dk_21 4 (dk_at dksX3_over_2 7 rfl rfl)
theorem dX3_over_55 : decode cX3_over 55 = .ok (.ifCond .eq 20, 3) := dk_153 0 20 (dk_at dksX3_over_2 9 rfl rfl)
theorem dX3_over_58 : decode cX3_over 58 = .ok (.lload 5, 2) := dk_22 5 (dk_at dksX3_over_2 12 rfl rfl)
theorem dX3_over_60 : decode cX3_over 60 = .ok (.aload_n 0, 1) := dk_42 (dk_at dksX3_over_2 14 rfl rfl)
theorem dX3_over_61 : decode cX3_over 61 = .ok (.iload_n 3, 1) := dk_29 (dk_at dksX3_over_2 15 rfl rfl)
theorem dX3_over_62 : decode cX3_over 62 = .ok (.iload 7, 2) := dk_21 7 (dk_at dksX3_over_2 16 rfl rfl)
theorem dX3_over_64 : decode cX3_over 64 = .ok (.invokevirtual 371, 3) := dk_182 1 115 (dk_at dksX3_over_2 18 rfl rfl)
theorem dX3_over_67 : decode cX3_over 67 = .ok (.i2l, 1) := dk_133 (dk_at dksX3_over_2 21 rfl rfl)
theorem dX3_over_68 : decode cX3_over 68 = .ok (.lload 8, 2) := dk_22 8 (dk_at dksX3_over_2 22 rfl rfl)
theorem dX3_over_70 : decode cX3_over 70 = .ok (.lmul, 1) := dk_105 (dk_at dksX3_over_3 0 rfl rfl)
theorem dX3_over_71 : decode cX3_over 71 = .ok (.ladd, 1) := dk_97 (dk_at dksX3_over_3 1 rfl rfl)
theorem dX3_over_72 : decode cX3_over 72 = .ok (.goto 18, 3) := dk_167 0 18 (dk_at dksX3_over_3 2 rfl rfl)
theorem dX3_over_75 : decode cX3_over 75 = .ok (.lload 8, 2) := dk_22 8 (dk_at dksX3_over_3 5 rfl rfl)
theorem dX3_over_77 : decode cX3_over 77 = .ok (.lload 5, 2) := dk_22 5 (dk_at dksX3_over_3 7 rfl rfl)
theorem dX3_over_79 : decode cX3_over 79 = .ok (.lcmp, 1) := dk_148 (dk_at dksX3_over_3 9 rfl rfl)
theorem dX3_over_80 : decode cX3_over 80 = .ok (.ifCond .le 8, 3) := dk_158 0 8 (dk_at dksX3_over_3 10 rfl rfl)
theorem dX3_over_83 : decode cX3_over 83 = .ok (.lload 8, 2) := dk_22 8 (dk_at dksX3_over_3 13 rfl rfl)
theorem dX3_over_85 : decode cX3_over 85 = .ok (.goto 5, 3) := dk_167 0 5 (dk_at dksX3_over_3 15 rfl rfl)
theorem dX3_over_88 : decode cX3_over 88 = .ok (.lload 5, 2) := dk_22 5 (dk_at dksX3_over_3 18 rfl rfl)
theorem dX3_over_90 : decode cX3_over 90 = .ok (.lstore 5, 2) := dk_55 5 (dk_at dksX3_over_3 20 rfl rfl)
theorem dX3_over_92 : decode cX3_over 92 = .ok (.iinc 7 1, 3) := dk_132 7 1 (dk_at dksX3_over_4 0 rfl rfl)
theorem dX3_over_95 : decode cX3_over 95 = .ok (.goto (-89), 3) := dk_167 255 167 (dk_at dksX3_over_4 3 rfl rfl)
theorem dX3_over_98 : decode cX3_over 98 = .ok (.lload 5, 2) := dk_22 5 (dk_at dksX3_over_4 6 rfl rfl)
theorem dX3_over_100 : decode cX3_over 100 = .ok (.lreturn, 1) := dk_173 (dk_at dksX3_over_4 8 rfl rfl)
abbrev cX3_power : ByteArray := prog_23_method_51_code
def yX3_power : MethodName := ⟨RX3, "power", "(I)I"⟩
def dkwX3_power_0 : List UInt8 := [4, 5, 26, 104, 120, 172]
abbrev dktX3_power_0 : List UInt8 := dkwX3_power_0 ++ []
theorem dksX3_power_0 : cX3_power.data.toList.drop 0 = dktX3_power_0 := by decide +kernel
theorem dX3_power_0 : decode cX3_power 0 = .ok (.iconst 1, 1) := dk_4 (dk_at dksX3_power_0 0 rfl rfl)
theorem dX3_power_1 : decode cX3_power 1 = .ok (.iconst 2, 1) := dk_5 (dk_at dksX3_power_0 1 rfl rfl)
theorem dX3_power_2 : decode cX3_power 2 = .ok (.iload_n 0, 1) := dk_26 (dk_at dksX3_power_0 2 rfl rfl)
theorem dX3_power_3 : decode cX3_power 3 = .ok (.imul, 1) := dk_104 (dk_at dksX3_power_0 3 rfl rfl)
theorem dX3_power_4 : decode cX3_power 4 = .ok (.ishl, 1) := dk_120 (dk_at dksX3_power_0 4 rfl rfl)
theorem dX3_power_5 : decode cX3_power 5 = .ok (.ireturn, 1) := dk_172 (dk_at dksX3_power_0 5 rfl rfl)
abbrev cX3_weightOf : ByteArray := prog_23_method_55_code
def yX3_weightOf : MethodName := ⟨RX3, "weightOf", "(II)I"⟩
def dkwX3_weightOf_0 : List UInt8 := [42, 180, 0, 67, 16, 8, 27, 104, 42, 180, 0, 82, 7, 27, 104, 28, 96, 46, 96, 46, 172]
abbrev dktX3_weightOf_0 : List UInt8 := dkwX3_weightOf_0 ++ []
theorem dksX3_weightOf_0 : cX3_weightOf.data.toList.drop 0 = dktX3_weightOf_0 := by decide +kernel
theorem dX3_weightOf_0 : decode cX3_weightOf 0 = .ok (.aload_n 0, 1) := dk_42 (dk_at dksX3_weightOf_0 0 rfl rfl)
theorem dX3_weightOf_1 : decode cX3_weightOf 1 = .ok (.getfield 67, 3) := dk_180 0 67 (dk_at dksX3_weightOf_0 1 rfl rfl)
theorem dX3_weightOf_4 : decode cX3_weightOf 4 = .ok (.bipush 8, 2) := dk_16 8 (dk_at dksX3_weightOf_0 4 rfl rfl)
theorem dX3_weightOf_6 : decode cX3_weightOf 6 = .ok (.iload_n 1, 1) := dk_27 (dk_at dksX3_weightOf_0 6 rfl rfl)
theorem dX3_weightOf_7 : decode cX3_weightOf 7 = .ok (.imul, 1) := dk_104 (dk_at dksX3_weightOf_0 7 rfl rfl)
theorem dX3_weightOf_8 : decode cX3_weightOf 8 = .ok (.aload_n 0, 1) := dk_42 (dk_at dksX3_weightOf_0 8 rfl rfl)
theorem dX3_weightOf_9 : decode cX3_weightOf 9 = .ok (.getfield 82, 3) := dk_180 0 82 (dk_at dksX3_weightOf_0 9 rfl rfl)
theorem dX3_weightOf_12 : decode cX3_weightOf 12 = .ok (.iconst 4, 1) := dk_7 (dk_at dksX3_weightOf_0 12 rfl rfl)
theorem dX3_weightOf_13 : decode cX3_weightOf 13 = .ok (.iload_n 1, 1) := dk_27 (dk_at dksX3_weightOf_0 13 rfl rfl)
theorem dX3_weightOf_14 : decode cX3_weightOf 14 = .ok (.imul, 1) := dk_104 (dk_at dksX3_weightOf_0 14 rfl rfl)
theorem dX3_weightOf_15 : decode cX3_weightOf 15 = .ok (.iload_n 2, 1) := dk_28 (dk_at dksX3_weightOf_0 15 rfl rfl)
theorem dX3_weightOf_16 : decode cX3_weightOf 16 = .ok (.iadd, 1) := dk_96 (dk_at dksX3_weightOf_0 16 rfl rfl)
theorem dX3_weightOf_17 : decode cX3_weightOf 17 = .ok (.iaload, 1) := dk_46 (dk_at dksX3_weightOf_0 17 rfl rfl)
theorem dX3_weightOf_18 : decode cX3_weightOf 18 = .ok (.iadd, 1) := dk_96 (dk_at dksX3_weightOf_0 18 rfl rfl)
theorem dX3_weightOf_19 : decode cX3_weightOf 19 = .ok (.iaload, 1) := dk_46 (dk_at dksX3_weightOf_0 19 rfl rfl)
theorem dX3_weightOf_20 : decode cX3_weightOf 20 = .ok (.ireturn, 1) := dk_172 (dk_at dksX3_weightOf_0 20 rfl rfl)
abbrev cX3_left : ByteArray := prog_23_method_57_code
def yX3_left : MethodName := ⟨RX3, "left", "(I)J"⟩
def dkwX3_left_1 : List UInt8 := [42, 21, 4, 182, 1, 121, 105, 167, 0, 4, 32, 65, 132, 4, 1, 167, 255, 222, 32, 173]
abbrev dktX3_left_1 : List UInt8 := dkwX3_left_1 ++ []
def dkwX3_left_0 : List UInt8 := [10, 65, 3, 54, 4, 21, 4, 42, 180, 1, 25, 162, 0, 31, 27, 21, 4, 184, 1, 118, 154, 0, 14, 32]
abbrev dktX3_left_0 : List UInt8 := dkwX3_left_0 ++ dktX3_left_1
theorem dksX3_left_0 : cX3_left.data.toList.drop 0 = dktX3_left_0 := by decide +kernel
theorem dksX3_left_1 : cX3_left.data.toList.drop 24 = dktX3_left_1 := dk_seg dksX3_left_0 24 rfl rfl
theorem dX3_left_0 : decode cX3_left 0 = .ok (.lconst 1, 1) := dk_10 (dk_at dksX3_left_0 0 rfl rfl)
theorem dX3_left_1 : decode cX3_left 1 = .ok (.lstore_n 2, 1) := dk_65 (dk_at dksX3_left_0 1 rfl rfl)
theorem dX3_left_2 : decode cX3_left 2 = .ok (.iconst 0, 1) := dk_3 (dk_at dksX3_left_0 2 rfl rfl)
theorem dX3_left_3 : decode cX3_left 3 = .ok (.istore 4, 2) := dk_54 4 (dk_at dksX3_left_0 3 rfl rfl)
theorem dX3_left_5 : decode cX3_left 5 = .ok (.iload 4, 2) := dk_21 4 (dk_at dksX3_left_0 5 rfl rfl)
theorem dX3_left_7 : decode cX3_left 7 = .ok (.aload_n 0, 1) := dk_42 (dk_at dksX3_left_0 7 rfl rfl)
theorem dX3_left_8 : decode cX3_left 8 = .ok (.getfield 281, 3) := dk_180 1 25 (dk_at dksX3_left_0 8 rfl rfl)
theorem dX3_left_11 : decode cX3_left 11 = .ok (.if_icmp .ge 31, 3) := dk_162 0 31 (dk_at dksX3_left_0 11 rfl rfl)
theorem dX3_left_14 : decode cX3_left 14 = .ok (.iload_n 1, 1) := dk_27 (dk_at dksX3_left_0 14 rfl rfl)
theorem dX3_left_15 : decode cX3_left 15 = .ok (.iload 4, 2) := dk_21 4 (dk_at dksX3_left_0 15 rfl rfl)
theorem dX3_left_17 : decode cX3_left 17 = .ok (.invokestatic 374, 3) := dk_184 1 118 (dk_at dksX3_left_0 17 rfl rfl)
theorem dX3_left_20 : decode cX3_left 20 = .ok (.ifCond .ne 14, 3) := dk_154 0 14 (dk_at dksX3_left_0 20 rfl rfl)
theorem dX3_left_23 : decode cX3_left 23 = .ok (.lload_n 2, 1) := dk_32 (dk_at dksX3_left_0 23 rfl rfl)
theorem dX3_left_24 : decode cX3_left 24 = .ok (.aload_n 0, 1) := dk_42 (dk_at dksX3_left_1 0 rfl rfl)
theorem dX3_left_25 : decode cX3_left 25 = .ok (.iload 4, 2) := dk_21 4 (dk_at dksX3_left_1 1 rfl rfl)
theorem dX3_left_27 : decode cX3_left 27 = .ok (.invokevirtual 377, 3) := dk_182 1 121 (dk_at dksX3_left_1 3 rfl rfl)
theorem dX3_left_30 : decode cX3_left 30 = .ok (.lmul, 1) := dk_105 (dk_at dksX3_left_1 6 rfl rfl)
theorem dX3_left_31 : decode cX3_left 31 = .ok (.goto 4, 3) := dk_167 0 4 (dk_at dksX3_left_1 7 rfl rfl)
theorem dX3_left_34 : decode cX3_left 34 = .ok (.lload_n 2, 1) := dk_32 (dk_at dksX3_left_1 10 rfl rfl)
theorem dX3_left_35 : decode cX3_left 35 = .ok (.lstore_n 2, 1) := dk_65 (dk_at dksX3_left_1 11 rfl rfl)
theorem dX3_left_36 : decode cX3_left 36 = .ok (.iinc 4 1, 3) := dk_132 4 1 (dk_at dksX3_left_1 12 rfl rfl)
theorem dX3_left_39 : decode cX3_left 39 = .ok (.goto (-34), 3) := dk_167 255 222 (dk_at dksX3_left_1 15 rfl rfl)
theorem dX3_left_42 : decode cX3_left 42 = .ok (.lload_n 2, 1) := dk_32 (dk_at dksX3_left_1 18 rfl rfl)
theorem dX3_left_43 : decode cX3_left 43 = .ok (.lreturn, 1) := dk_173 (dk_at dksX3_left_1 19 rfl rfl)
abbrev cX3_allOf : ByteArray := prog_23_method_56_code
def yX3_allOf : MethodName := ⟨RX3, "allOf", "(I)J"⟩
def dkwX3_allOf_1 : List UInt8 := [133, 97, 65, 132, 4, 1, 167, 255, 231, 32, 173]
abbrev dktX3_allOf_1 : List UInt8 := dkwX3_allOf_1 ++ []
def dkwX3_allOf_0 : List UInt8 := [9, 65, 3, 54, 4, 21, 4, 42, 180, 0, 85, 27, 46, 162, 0, 20, 32, 42, 27, 21, 4, 182, 1, 115]
abbrev dktX3_allOf_0 : List UInt8 := dkwX3_allOf_0 ++ dktX3_allOf_1
theorem dksX3_allOf_0 : cX3_allOf.data.toList.drop 0 = dktX3_allOf_0 := by decide +kernel
theorem dksX3_allOf_1 : cX3_allOf.data.toList.drop 24 = dktX3_allOf_1 := dk_seg dksX3_allOf_0 24 rfl rfl
theorem dX3_allOf_0 : decode cX3_allOf 0 = .ok (.lconst 0, 1) := dk_9 (dk_at dksX3_allOf_0 0 rfl rfl)
theorem dX3_allOf_1 : decode cX3_allOf 1 = .ok (.lstore_n 2, 1) := dk_65 (dk_at dksX3_allOf_0 1 rfl rfl)
theorem dX3_allOf_2 : decode cX3_allOf 2 = .ok (.iconst 0, 1) := dk_3 (dk_at dksX3_allOf_0 2 rfl rfl)
theorem dX3_allOf_3 : decode cX3_allOf 3 = .ok (.istore 4, 2) := dk_54 4 (dk_at dksX3_allOf_0 3 rfl rfl)
theorem dX3_allOf_5 : decode cX3_allOf 5 = .ok (.iload 4, 2) := dk_21 4 (dk_at dksX3_allOf_0 5 rfl rfl)
theorem dX3_allOf_7 : decode cX3_allOf 7 = .ok (.aload_n 0, 1) := dk_42 (dk_at dksX3_allOf_0 7 rfl rfl)
theorem dX3_allOf_8 : decode cX3_allOf 8 = .ok (.getfield 85, 3) := dk_180 0 85 (dk_at dksX3_allOf_0 8 rfl rfl)
theorem dX3_allOf_11 : decode cX3_allOf 11 = .ok (.iload_n 1, 1) := dk_27 (dk_at dksX3_allOf_0 11 rfl rfl)
theorem dX3_allOf_12 : decode cX3_allOf 12 = .ok (.iaload, 1) := dk_46 (dk_at dksX3_allOf_0 12 rfl rfl)
theorem dX3_allOf_13 : decode cX3_allOf 13 = .ok (.if_icmp .ge 20, 3) := dk_162 0 20 (dk_at dksX3_allOf_0 13 rfl rfl)
theorem dX3_allOf_16 : decode cX3_allOf 16 = .ok (.lload_n 2, 1) := dk_32 (dk_at dksX3_allOf_0 16 rfl rfl)
theorem dX3_allOf_17 : decode cX3_allOf 17 = .ok (.aload_n 0, 1) := dk_42 (dk_at dksX3_allOf_0 17 rfl rfl)
theorem dX3_allOf_18 : decode cX3_allOf 18 = .ok (.iload_n 1, 1) := dk_27 (dk_at dksX3_allOf_0 18 rfl rfl)
theorem dX3_allOf_19 : decode cX3_allOf 19 = .ok (.iload 4, 2) := dk_21 4 (dk_at dksX3_allOf_0 19 rfl rfl)
theorem dX3_allOf_21 : decode cX3_allOf 21 = .ok (.invokevirtual 371, 3) := dk_182 1 115 (dk_at dksX3_allOf_0 21 rfl rfl)
theorem dX3_allOf_24 : decode cX3_allOf 24 = .ok (.i2l, 1) := dk_133 (dk_at dksX3_allOf_1 0 rfl rfl)
theorem dX3_allOf_25 : decode cX3_allOf 25 = .ok (.ladd, 1) := dk_97 (dk_at dksX3_allOf_1 1 rfl rfl)
theorem dX3_allOf_26 : decode cX3_allOf 26 = .ok (.lstore_n 2, 1) := dk_65 (dk_at dksX3_allOf_1 2 rfl rfl)
theorem dX3_allOf_27 : decode cX3_allOf 27 = .ok (.iinc 4 1, 3) := dk_132 4 1 (dk_at dksX3_allOf_1 3 rfl rfl)
theorem dX3_allOf_30 : decode cX3_allOf 30 = .ok (.goto (-25), 3) := dk_167 255 231 (dk_at dksX3_allOf_1 6 rfl rfl)
theorem dX3_allOf_33 : decode cX3_allOf 33 = .ok (.lload_n 2, 1) := dk_32 (dk_at dksX3_allOf_1 9 rfl rfl)
theorem dX3_allOf_34 : decode cX3_allOf 34 = .ok (.lreturn, 1) := dk_173 (dk_at dksX3_allOf_1 10 rfl rfl)
abbrev cX3_lower : ByteArray := prog_23_method_66_code
def yX3_lower : MethodName := ⟨RX3, "lower", "(IIJ)J"⟩
def dkwX3_lower_4 : List UInt8 := [180, 0, 119, 7, 28, 104, 21, 7, 96, 46, 133, 105, 97, 55, 5, 132, 7, 1, 167, 255, 160, 22, 5, 173]
abbrev dktX3_lower_4 : List UInt8 := dkwX3_lower_4 ++ []
def dkwX3_lower_3 : List UInt8 := [180, 0, 119, 7, 28, 104, 21, 7, 96, 46, 133, 105, 97, 22, 5, 148, 156, 0, 22, 22, 8, 33, 42]
abbrev dktX3_lower_3 : List UInt8 := dkwX3_lower_3 ++ dktX3_lower_4
def dkwX3_lower_2 : List UInt8 := [42, 28, 21, 7, 182, 1, 97, 96, 47, 55, 8, 22, 8, 20, 1, 134, 148, 156, 0, 45, 22, 8, 33, 42]
abbrev dktX3_lower_2 : List UInt8 := dkwX3_lower_2 ++ dktX3_lower_3
def dkwX3_lower_1 : List UInt8 := [180, 0, 119, 7, 28, 104, 21, 7, 96, 46, 154, 0, 6, 167, 0, 73, 42, 180, 0, 74, 16, 100, 27, 104]
abbrev dktX3_lower_1 : List UInt8 := dkwX3_lower_1 ++ dktX3_lower_2
def dkwX3_lower_0 : List UInt8 := [42, 180, 0, 74, 16, 100, 27, 104, 28, 96, 47, 55, 5, 3, 54, 7, 21, 7, 7, 162, 0, 96, 42]
abbrev dktX3_lower_0 : List UInt8 := dkwX3_lower_0 ++ dktX3_lower_1
theorem dksX3_lower_0 : cX3_lower.data.toList.drop 0 = dktX3_lower_0 := by decide +kernel
theorem dksX3_lower_1 : cX3_lower.data.toList.drop 23 = dktX3_lower_1 := dk_seg dksX3_lower_0 23 rfl rfl
theorem dksX3_lower_2 : cX3_lower.data.toList.drop 47 = dktX3_lower_2 := dk_seg dksX3_lower_1 24 rfl rfl
theorem dksX3_lower_3 : cX3_lower.data.toList.drop 71 = dktX3_lower_3 := dk_seg dksX3_lower_2 24 rfl rfl
theorem dksX3_lower_4 : cX3_lower.data.toList.drop 94 = dktX3_lower_4 := dk_seg dksX3_lower_3 23 rfl rfl
theorem dX3_lower_0 : decode cX3_lower 0 = .ok (.aload_n 0, 1) := dk_42 (dk_at dksX3_lower_0 0 rfl rfl)
theorem dX3_lower_1 : decode cX3_lower 1 = .ok (.getfield 74, 3) := dk_180 0 74 (dk_at dksX3_lower_0 1 rfl rfl)
theorem dX3_lower_4 : decode cX3_lower 4 = .ok (.bipush 100, 2) := dk_16 100 (dk_at dksX3_lower_0 4 rfl rfl)
theorem dX3_lower_6 : decode cX3_lower 6 = .ok (.iload_n 1, 1) := dk_27 (dk_at dksX3_lower_0 6 rfl rfl)
theorem dX3_lower_7 : decode cX3_lower 7 = .ok (.imul, 1) := dk_104 (dk_at dksX3_lower_0 7 rfl rfl)
theorem dX3_lower_8 : decode cX3_lower 8 = .ok (.iload_n 2, 1) := dk_28 (dk_at dksX3_lower_0 8 rfl rfl)
theorem dX3_lower_9 : decode cX3_lower 9 = .ok (.iadd, 1) := dk_96 (dk_at dksX3_lower_0 9 rfl rfl)
theorem dX3_lower_10 : decode cX3_lower 10 = .ok (.laload, 1) := dk_47 (dk_at dksX3_lower_0 10 rfl rfl)
theorem dX3_lower_11 : decode cX3_lower 11 = .ok (.lstore 5, 2) := dk_55 5 (dk_at dksX3_lower_0 11 rfl rfl)
theorem dX3_lower_13 : decode cX3_lower 13 = .ok (.iconst 0, 1) := dk_3 (dk_at dksX3_lower_0 13 rfl rfl)
theorem dX3_lower_14 : decode cX3_lower 14 = .ok (.istore 7, 2) := dk_54 7 (dk_at dksX3_lower_0 14 rfl rfl)
theorem dX3_lower_16 : decode cX3_lower 16 = .ok (.iload 7, 2) := dk_21 7 (dk_at dksX3_lower_0 16 rfl rfl)
theorem dX3_lower_18 : decode cX3_lower 18 = .ok (.iconst 4, 1) := dk_7 (dk_at dksX3_lower_0 18 rfl rfl)
theorem dX3_lower_19 : decode cX3_lower 19 = .ok (.if_icmp .ge 96, 3) := dk_162 0 96 (dk_at dksX3_lower_0 19 rfl rfl)
theorem dX3_lower_22 : decode cX3_lower 22 = .ok (.aload_n 0, 1) := dk_42 (dk_at dksX3_lower_0 22 rfl rfl)
theorem dX3_lower_23 : decode cX3_lower 23 = .ok (.getfield 119, 3) := dk_180 0 119 (dk_at dksX3_lower_1 0 rfl rfl)
theorem dX3_lower_26 : decode cX3_lower 26 = .ok (.iconst 4, 1) := dk_7 (dk_at dksX3_lower_1 3 rfl rfl)
theorem dX3_lower_27 : decode cX3_lower 27 = .ok (.iload_n 2, 1) := dk_28 (dk_at dksX3_lower_1 4 rfl rfl)
theorem dX3_lower_28 : decode cX3_lower 28 = .ok (.imul, 1) := dk_104 (dk_at dksX3_lower_1 5 rfl rfl)
theorem dX3_lower_29 : decode cX3_lower 29 = .ok (.iload 7, 2) := dk_21 7 (dk_at dksX3_lower_1 6 rfl rfl)
theorem dX3_lower_31 : decode cX3_lower 31 = .ok (.iadd, 1) := dk_96 (dk_at dksX3_lower_1 8 rfl rfl)
theorem dX3_lower_32 : decode cX3_lower 32 = .ok (.iaload, 1) := dk_46 (dk_at dksX3_lower_1 9 rfl rfl)
theorem dX3_lower_33 : decode cX3_lower 33 = .ok (.ifCond .ne 6, 3) := dk_154 0 6 (dk_at dksX3_lower_1 10 rfl rfl)
theorem dX3_lower_36 : decode cX3_lower 36 = .ok (.goto 73, 3) := dk_167 0 73 (dk_at dksX3_lower_1 13 rfl rfl)
theorem dX3_lower_39 : decode cX3_lower 39 = .ok (.aload_n 0, 1) := dk_42 (dk_at dksX3_lower_1 16 rfl rfl)
theorem dX3_lower_40 : decode cX3_lower 40 = .ok (.getfield 74, 3) := dk_180 0 74 (dk_at dksX3_lower_1 17 rfl rfl)
theorem dX3_lower_43 : decode cX3_lower 43 = .ok (.bipush 100, 2) := dk_16 100 (dk_at dksX3_lower_1 20 rfl rfl)
theorem dX3_lower_45 : decode cX3_lower 45 = .ok (.iload_n 1, 1) := dk_27 (dk_at dksX3_lower_1 22 rfl rfl)
theorem dX3_lower_46 : decode cX3_lower 46 = .ok (.imul, 1) := dk_104 (dk_at dksX3_lower_1 23 rfl rfl)
theorem dX3_lower_47 : decode cX3_lower 47 = .ok (.aload_n 0, 1) := dk_42 (dk_at dksX3_lower_2 0 rfl rfl)
theorem dX3_lower_48 : decode cX3_lower 48 = .ok (.iload_n 2, 1) := dk_28 (dk_at dksX3_lower_2 1 rfl rfl)
theorem dX3_lower_49 : decode cX3_lower 49 = .ok (.iload 7, 2) := dk_21 7 (dk_at dksX3_lower_2 2 rfl rfl)
theorem dX3_lower_51 : decode cX3_lower 51 = .ok (.invokevirtual 353, 3) := dk_182 1 97 (dk_at dksX3_lower_2 4 rfl rfl)
theorem dX3_lower_54 : decode cX3_lower 54 = .ok (.iadd, 1) := dk_96 (dk_at dksX3_lower_2 7 rfl rfl)
theorem dX3_lower_55 : decode cX3_lower 55 = .ok (.laload, 1) := dk_47 (dk_at dksX3_lower_2 8 rfl rfl)
theorem dX3_lower_56 : decode cX3_lower 56 = .ok (.lstore 8, 2) := dk_55 8 (dk_at dksX3_lower_2 9 rfl rfl)
theorem dX3_lower_58 : decode cX3_lower 58 = .ok (.lload 8, 2) := dk_22 8 (dk_at dksX3_lower_2 11 rfl rfl)
theorem dX3_lower_60 : decode cX3_lower 60 = .ok (.ldc2_w 390, 3) := dk_20 1 134 (dk_at dksX3_lower_2 13 rfl rfl)
theorem dX3_lower_63 : decode cX3_lower 63 = .ok (.lcmp, 1) := dk_148 (dk_at dksX3_lower_2 16 rfl rfl)
theorem dX3_lower_64 : decode cX3_lower 64 = .ok (.ifCond .ge 45, 3) := dk_156 0 45 (dk_at dksX3_lower_2 17 rfl rfl)
theorem dX3_lower_67 : decode cX3_lower 67 = .ok (.lload 8, 2) := dk_22 8 (dk_at dksX3_lower_2 20 rfl rfl)
theorem dX3_lower_69 : decode cX3_lower 69 = .ok (.lload_n 3, 1) := dk_33 (dk_at dksX3_lower_2 22 rfl rfl)
theorem dX3_lower_70 : decode cX3_lower 70 = .ok (.aload_n 0, 1) := dk_42 (dk_at dksX3_lower_2 23 rfl rfl)
theorem dX3_lower_71 : decode cX3_lower 71 = .ok (.getfield 119, 3) := dk_180 0 119 (dk_at dksX3_lower_3 0 rfl rfl)
theorem dX3_lower_74 : decode cX3_lower 74 = .ok (.iconst 4, 1) := dk_7 (dk_at dksX3_lower_3 3 rfl rfl)
theorem dX3_lower_75 : decode cX3_lower 75 = .ok (.iload_n 2, 1) := dk_28 (dk_at dksX3_lower_3 4 rfl rfl)
theorem dX3_lower_76 : decode cX3_lower 76 = .ok (.imul, 1) := dk_104 (dk_at dksX3_lower_3 5 rfl rfl)
theorem dX3_lower_77 : decode cX3_lower 77 = .ok (.iload 7, 2) := dk_21 7 (dk_at dksX3_lower_3 6 rfl rfl)
theorem dX3_lower_79 : decode cX3_lower 79 = .ok (.iadd, 1) := dk_96 (dk_at dksX3_lower_3 8 rfl rfl)
theorem dX3_lower_80 : decode cX3_lower 80 = .ok (.iaload, 1) := dk_46 (dk_at dksX3_lower_3 9 rfl rfl)
theorem dX3_lower_81 : decode cX3_lower 81 = .ok (.i2l, 1) := dk_133 (dk_at dksX3_lower_3 10 rfl rfl)
theorem dX3_lower_82 : decode cX3_lower 82 = .ok (.lmul, 1) := dk_105 (dk_at dksX3_lower_3 11 rfl rfl)
theorem dX3_lower_83 : decode cX3_lower 83 = .ok (.ladd, 1) := dk_97 (dk_at dksX3_lower_3 12 rfl rfl)
theorem dX3_lower_84 : decode cX3_lower 84 = .ok (.lload 5, 2) := dk_22 5 (dk_at dksX3_lower_3 13 rfl rfl)
theorem dX3_lower_86 : decode cX3_lower 86 = .ok (.lcmp, 1) := dk_148 (dk_at dksX3_lower_3 15 rfl rfl)
theorem dX3_lower_87 : decode cX3_lower 87 = .ok (.ifCond .ge 22, 3) := dk_156 0 22 (dk_at dksX3_lower_3 16 rfl rfl)
theorem dX3_lower_90 : decode cX3_lower 90 = .ok (.lload 8, 2) := dk_22 8 (dk_at dksX3_lower_3 19 rfl rfl)
theorem dX3_lower_92 : decode cX3_lower 92 = .ok (.lload_n 3, 1) := dk_33 (dk_at dksX3_lower_3 21 rfl rfl)
theorem dX3_lower_93 : decode cX3_lower 93 = .ok (.aload_n 0, 1) := dk_42 (dk_at dksX3_lower_3 22 rfl rfl)
theorem dX3_lower_94 : decode cX3_lower 94 = .ok (.getfield 119, 3) := dk_180 0 119 (dk_at dksX3_lower_4 0 rfl rfl)
theorem dX3_lower_97 : decode cX3_lower 97 = .ok (.iconst 4, 1) := dk_7 (dk_at dksX3_lower_4 3 rfl rfl)
theorem dX3_lower_98 : decode cX3_lower 98 = .ok (.iload_n 2, 1) := dk_28 (dk_at dksX3_lower_4 4 rfl rfl)
theorem dX3_lower_99 : decode cX3_lower 99 = .ok (.imul, 1) := dk_104 (dk_at dksX3_lower_4 5 rfl rfl)
theorem dX3_lower_100 : decode cX3_lower 100 = .ok (.iload 7, 2) := dk_21 7 (dk_at dksX3_lower_4 6 rfl rfl)
theorem dX3_lower_102 : decode cX3_lower 102 = .ok (.iadd, 1) := dk_96 (dk_at dksX3_lower_4 8 rfl rfl)
theorem dX3_lower_103 : decode cX3_lower 103 = .ok (.iaload, 1) := dk_46 (dk_at dksX3_lower_4 9 rfl rfl)
theorem dX3_lower_104 : decode cX3_lower 104 = .ok (.i2l, 1) := dk_133 (dk_at dksX3_lower_4 10 rfl rfl)
theorem dX3_lower_105 : decode cX3_lower 105 = .ok (.lmul, 1) := dk_105 (dk_at dksX3_lower_4 11 rfl rfl)
theorem dX3_lower_106 : decode cX3_lower 106 = .ok (.ladd, 1) := dk_97 (dk_at dksX3_lower_4 12 rfl rfl)
theorem dX3_lower_107 : decode cX3_lower 107 = .ok (.lstore 5, 2) := dk_55 5 (dk_at dksX3_lower_4 13 rfl rfl)
theorem dX3_lower_109 : decode cX3_lower 109 = .ok (.iinc 7 1, 3) := dk_132 7 1 (dk_at dksX3_lower_4 15 rfl rfl)
theorem dX3_lower_112 : decode cX3_lower 112 = .ok (.goto (-96), 3) := dk_167 255 160 (dk_at dksX3_lower_4 18 rfl rfl)
theorem dX3_lower_115 : decode cX3_lower 115 = .ok (.lload 5, 2) := dk_22 5 (dk_at dksX3_lower_4 21 rfl rfl)
theorem dX3_lower_117 : decode cX3_lower 117 = .ok (.lreturn, 1) := dk_173 (dk_at dksX3_lower_4 23 rfl rfl)
abbrev cX3_base : ByteArray := prog_23_method_54_code
def yX3_base : MethodName := ⟨RX3, "base", "()I"⟩
def dkwX3_base_2 : List UInt8 := [184, 1, 112, 104, 96, 60, 132, 3, 1, 167, 255, 213, 132, 2, 1, 167, 255, 197, 27, 172]
abbrev dktX3_base_2 : List UInt8 := dkwX3_base_2 ++ []
def dkwX3_base_1 : List UInt8 := [42, 180, 0, 64, 28, 46, 42, 180, 0, 82, 7, 28, 104, 29, 96, 46, 160, 0, 14, 27, 29, 4, 96, 28]
abbrev dktX3_base_1 : List UInt8 := dkwX3_base_1 ++ dktX3_base_2
def dkwX3_base_0 : List UInt8 := [3, 60, 3, 61, 28, 42, 180, 1, 25, 162, 0, 57, 3, 62, 29, 42, 180, 0, 85, 28, 46, 162, 0, 39]
abbrev dktX3_base_0 : List UInt8 := dkwX3_base_0 ++ dktX3_base_1
theorem dksX3_base_0 : cX3_base.data.toList.drop 0 = dktX3_base_0 := by decide +kernel
theorem dksX3_base_1 : cX3_base.data.toList.drop 24 = dktX3_base_1 := dk_seg dksX3_base_0 24 rfl rfl
theorem dksX3_base_2 : cX3_base.data.toList.drop 48 = dktX3_base_2 := dk_seg dksX3_base_1 24 rfl rfl
theorem dX3_base_0 : decode cX3_base 0 = .ok (.iconst 0, 1) := dk_3 (dk_at dksX3_base_0 0 rfl rfl)
theorem dX3_base_1 : decode cX3_base 1 = .ok (.istore_n 1, 1) := dk_60 (dk_at dksX3_base_0 1 rfl rfl)
theorem dX3_base_2 : decode cX3_base 2 = .ok (.iconst 0, 1) := dk_3 (dk_at dksX3_base_0 2 rfl rfl)
theorem dX3_base_3 : decode cX3_base 3 = .ok (.istore_n 2, 1) := dk_61 (dk_at dksX3_base_0 3 rfl rfl)
theorem dX3_base_4 : decode cX3_base 4 = .ok (.iload_n 2, 1) := dk_28 (dk_at dksX3_base_0 4 rfl rfl)
theorem dX3_base_5 : decode cX3_base 5 = .ok (.aload_n 0, 1) := dk_42 (dk_at dksX3_base_0 5 rfl rfl)
theorem dX3_base_6 : decode cX3_base 6 = .ok (.getfield 281, 3) := dk_180 1 25 (dk_at dksX3_base_0 6 rfl rfl)
theorem dX3_base_9 : decode cX3_base 9 = .ok (.if_icmp .ge 57, 3) := dk_162 0 57 (dk_at dksX3_base_0 9 rfl rfl)
theorem dX3_base_12 : decode cX3_base 12 = .ok (.iconst 0, 1) := dk_3 (dk_at dksX3_base_0 12 rfl rfl)
theorem dX3_base_13 : decode cX3_base 13 = .ok (.istore_n 3, 1) := dk_62 (dk_at dksX3_base_0 13 rfl rfl)
theorem dX3_base_14 : decode cX3_base 14 = .ok (.iload_n 3, 1) := dk_29 (dk_at dksX3_base_0 14 rfl rfl)
theorem dX3_base_15 : decode cX3_base 15 = .ok (.aload_n 0, 1) := dk_42 (dk_at dksX3_base_0 15 rfl rfl)
theorem dX3_base_16 : decode cX3_base 16 = .ok (.getfield 85, 3) := dk_180 0 85 (dk_at dksX3_base_0 16 rfl rfl)
theorem dX3_base_19 : decode cX3_base 19 = .ok (.iload_n 2, 1) := dk_28 (dk_at dksX3_base_0 19 rfl rfl)
theorem dX3_base_20 : decode cX3_base 20 = .ok (.iaload, 1) := dk_46 (dk_at dksX3_base_0 20 rfl rfl)
theorem dX3_base_21 : decode cX3_base 21 = .ok (.if_icmp .ge 39, 3) := dk_162 0 39 (dk_at dksX3_base_0 21 rfl rfl)
theorem dX3_base_24 : decode cX3_base 24 = .ok (.aload_n 0, 1) := dk_42 (dk_at dksX3_base_1 0 rfl rfl)
theorem dX3_base_25 : decode cX3_base 25 = .ok (.getfield 64, 3) := dk_180 0 64 (dk_at dksX3_base_1 1 rfl rfl)
theorem dX3_base_28 : decode cX3_base 28 = .ok (.iload_n 2, 1) := dk_28 (dk_at dksX3_base_1 4 rfl rfl)
theorem dX3_base_29 : decode cX3_base 29 = .ok (.iaload, 1) := dk_46 (dk_at dksX3_base_1 5 rfl rfl)
theorem dX3_base_30 : decode cX3_base 30 = .ok (.aload_n 0, 1) := dk_42 (dk_at dksX3_base_1 6 rfl rfl)
theorem dX3_base_31 : decode cX3_base 31 = .ok (.getfield 82, 3) := dk_180 0 82 (dk_at dksX3_base_1 7 rfl rfl)
theorem dX3_base_34 : decode cX3_base 34 = .ok (.iconst 4, 1) := dk_7 (dk_at dksX3_base_1 10 rfl rfl)
theorem dX3_base_35 : decode cX3_base 35 = .ok (.iload_n 2, 1) := dk_28 (dk_at dksX3_base_1 11 rfl rfl)
theorem dX3_base_36 : decode cX3_base 36 = .ok (.imul, 1) := dk_104 (dk_at dksX3_base_1 12 rfl rfl)
theorem dX3_base_37 : decode cX3_base 37 = .ok (.iload_n 3, 1) := dk_29 (dk_at dksX3_base_1 13 rfl rfl)
theorem dX3_base_38 : decode cX3_base 38 = .ok (.iadd, 1) := dk_96 (dk_at dksX3_base_1 14 rfl rfl)
theorem dX3_base_39 : decode cX3_base 39 = .ok (.iaload, 1) := dk_46 (dk_at dksX3_base_1 15 rfl rfl)
theorem dX3_base_40 : decode cX3_base 40 = .ok (.if_icmp .ne 14, 3) := dk_160 0 14 (dk_at dksX3_base_1 16 rfl rfl)
theorem dX3_base_43 : decode cX3_base 43 = .ok (.iload_n 1, 1) := dk_27 (dk_at dksX3_base_1 19 rfl rfl)
theorem dX3_base_44 : decode cX3_base 44 = .ok (.iload_n 3, 1) := dk_29 (dk_at dksX3_base_1 20 rfl rfl)
theorem dX3_base_45 : decode cX3_base 45 = .ok (.iconst 1, 1) := dk_4 (dk_at dksX3_base_1 21 rfl rfl)
theorem dX3_base_46 : decode cX3_base 46 = .ok (.iadd, 1) := dk_96 (dk_at dksX3_base_1 22 rfl rfl)
theorem dX3_base_47 : decode cX3_base 47 = .ok (.iload_n 2, 1) := dk_28 (dk_at dksX3_base_1 23 rfl rfl)
theorem dX3_base_48 : decode cX3_base 48 = .ok (.invokestatic 368, 3) := dk_184 1 112 (dk_at dksX3_base_2 0 rfl rfl)
theorem dX3_base_51 : decode cX3_base 51 = .ok (.imul, 1) := dk_104 (dk_at dksX3_base_2 3 rfl rfl)
theorem dX3_base_52 : decode cX3_base 52 = .ok (.iadd, 1) := dk_96 (dk_at dksX3_base_2 4 rfl rfl)
theorem dX3_base_53 : decode cX3_base 53 = .ok (.istore_n 1, 1) := dk_60 (dk_at dksX3_base_2 5 rfl rfl)
theorem dX3_base_54 : decode cX3_base 54 = .ok (.iinc 3 1, 3) := dk_132 3 1 (dk_at dksX3_base_2 6 rfl rfl)
theorem dX3_base_57 : decode cX3_base 57 = .ok (.goto (-43), 3) := dk_167 255 213 (dk_at dksX3_base_2 9 rfl rfl)
theorem dX3_base_60 : decode cX3_base 60 = .ok (.iinc 2 1, 3) := dk_132 2 1 (dk_at dksX3_base_2 12 rfl rfl)
theorem dX3_base_63 : decode cX3_base 63 = .ok (.goto (-59), 3) := dk_167 255 197 (dk_at dksX3_base_2 15 rfl rfl)
theorem dX3_base_66 : decode cX3_base 66 = .ok (.iload_n 1, 1) := dk_27 (dk_at dksX3_base_2 18 rfl rfl)
theorem dX3_base_67 : decode cX3_base 67 = .ok (.ireturn, 1) := dk_172 (dk_at dksX3_base_2 19 rfl rfl)
abbrev cX3_mean : ByteArray := prog_23_method_71_code
def yX3_mean : MethodName := ⟨RX3, "mean", "(IIZ)J"⟩
def dkwX3_mean_2 : List UInt8 := [16, 6, 181, 0, 134, 20, 1, 178, 173, 22, 4, 42, 42, 182, 1, 165, 182, 1, 155, 29, 184, 1, 180, 173]
abbrev dktX3_mean_2 : List UInt8 := dkwX3_mean_2 ++ []
def dkwX3_mean_1 : List UInt8 := [181, 0, 134, 20, 1, 178, 173, 42, 27, 28, 4, 182, 1, 170, 55, 4, 22, 4, 9, 148, 156, 0, 13, 42]
abbrev dktX3_mean_1 : List UInt8 := dkwX3_mean_1 ++ dktX3_mean_2
def dkwX3_mean_0 : List UInt8 := [42, 182, 0, 249, 42, 27, 182, 1, 91, 153, 0, 11, 42, 28, 182, 1, 91, 154, 0, 12, 42, 4]
abbrev dktX3_mean_0 : List UInt8 := dkwX3_mean_0 ++ dktX3_mean_1
theorem dksX3_mean_0 : cX3_mean.data.toList.drop 0 = dktX3_mean_0 := by decide +kernel
theorem dksX3_mean_1 : cX3_mean.data.toList.drop 22 = dktX3_mean_1 := dk_seg dksX3_mean_0 22 rfl rfl
theorem dksX3_mean_2 : cX3_mean.data.toList.drop 46 = dktX3_mean_2 := dk_seg dksX3_mean_1 24 rfl rfl
theorem dX3_mean_0 : decode cX3_mean 0 = .ok (.aload_n 0, 1) := dk_42 (dk_at dksX3_mean_0 0 rfl rfl)
theorem dX3_mean_1 : decode cX3_mean 1 = .ok (.invokevirtual 249, 3) := dk_182 0 249 (dk_at dksX3_mean_0 1 rfl rfl)
theorem dX3_mean_4 : decode cX3_mean 4 = .ok (.aload_n 0, 1) := dk_42 (dk_at dksX3_mean_0 4 rfl rfl)
theorem dX3_mean_5 : decode cX3_mean 5 = .ok (.iload_n 1, 1) := dk_27 (dk_at dksX3_mean_0 5 rfl rfl)
theorem dX3_mean_6 : decode cX3_mean 6 = .ok (.invokevirtual 347, 3) := dk_182 1 91 (dk_at dksX3_mean_0 6 rfl rfl)
theorem dX3_mean_9 : decode cX3_mean 9 = .ok (.ifCond .eq 11, 3) := dk_153 0 11 (dk_at dksX3_mean_0 9 rfl rfl)
theorem dX3_mean_12 : decode cX3_mean 12 = .ok (.aload_n 0, 1) := dk_42 (dk_at dksX3_mean_0 12 rfl rfl)
theorem dX3_mean_13 : decode cX3_mean 13 = .ok (.iload_n 2, 1) := dk_28 (dk_at dksX3_mean_0 13 rfl rfl)
theorem dX3_mean_14 : decode cX3_mean 14 = .ok (.invokevirtual 347, 3) := dk_182 1 91 (dk_at dksX3_mean_0 14 rfl rfl)
theorem dX3_mean_17 : decode cX3_mean 17 = .ok (.ifCond .ne 12, 3) := dk_154 0 12 (dk_at dksX3_mean_0 17 rfl rfl)
theorem dX3_mean_20 : decode cX3_mean 20 = .ok (.aload_n 0, 1) := dk_42 (dk_at dksX3_mean_0 20 rfl rfl)
theorem dX3_mean_21 : decode cX3_mean 21 = .ok (.iconst 1, 1) := dk_4 (dk_at dksX3_mean_0 21 rfl rfl)
theorem dX3_mean_22 : decode cX3_mean 22 = .ok (.putfield 134, 3) := dk_181 0 134 (dk_at dksX3_mean_1 0 rfl rfl)
theorem dX3_mean_25 : decode cX3_mean 25 = .ok (.ldc2_w 434, 3) := dk_20 1 178 (dk_at dksX3_mean_1 3 rfl rfl)
theorem dX3_mean_28 : decode cX3_mean 28 = .ok (.lreturn, 1) := dk_173 (dk_at dksX3_mean_1 6 rfl rfl)
theorem dX3_mean_29 : decode cX3_mean 29 = .ok (.aload_n 0, 1) := dk_42 (dk_at dksX3_mean_1 7 rfl rfl)
theorem dX3_mean_30 : decode cX3_mean 30 = .ok (.iload_n 1, 1) := dk_27 (dk_at dksX3_mean_1 8 rfl rfl)
theorem dX3_mean_31 : decode cX3_mean 31 = .ok (.iload_n 2, 1) := dk_28 (dk_at dksX3_mean_1 9 rfl rfl)
theorem dX3_mean_32 : decode cX3_mean 32 = .ok (.iconst 1, 1) := dk_4 (dk_at dksX3_mean_1 10 rfl rfl)
theorem dX3_mean_33 : decode cX3_mean 33 = .ok (.invokevirtual 426, 3) := dk_182 1 170 (dk_at dksX3_mean_1 11 rfl rfl)
theorem dX3_mean_36 : decode cX3_mean 36 = .ok (.lstore 4, 2) := dk_55 4 (dk_at dksX3_mean_1 14 rfl rfl)
theorem dX3_mean_38 : decode cX3_mean 38 = .ok (.lload 4, 2) := dk_22 4 (dk_at dksX3_mean_1 16 rfl rfl)
theorem dX3_mean_40 : decode cX3_mean 40 = .ok (.lconst 0, 1) := dk_9 (dk_at dksX3_mean_1 18 rfl rfl)
theorem dX3_mean_41 : decode cX3_mean 41 = .ok (.lcmp, 1) := dk_148 (dk_at dksX3_mean_1 19 rfl rfl)
theorem dX3_mean_42 : decode cX3_mean 42 = .ok (.ifCond .ge 13, 3) := dk_156 0 13 (dk_at dksX3_mean_1 20 rfl rfl)
theorem dX3_mean_45 : decode cX3_mean 45 = .ok (.aload_n 0, 1) := dk_42 (dk_at dksX3_mean_1 23 rfl rfl)
theorem dX3_mean_46 : decode cX3_mean 46 = .ok (.bipush 6, 2) := dk_16 6 (dk_at dksX3_mean_2 0 rfl rfl)
theorem dX3_mean_48 : decode cX3_mean 48 = .ok (.putfield 134, 3) := dk_181 0 134 (dk_at dksX3_mean_2 2 rfl rfl)
theorem dX3_mean_51 : decode cX3_mean 51 = .ok (.ldc2_w 434, 3) := dk_20 1 178 (dk_at dksX3_mean_2 5 rfl rfl)
theorem dX3_mean_54 : decode cX3_mean 54 = .ok (.lreturn, 1) := dk_173 (dk_at dksX3_mean_2 8 rfl rfl)
theorem dX3_mean_55 : decode cX3_mean 55 = .ok (.lload 4, 2) := dk_22 4 (dk_at dksX3_mean_2 9 rfl rfl)
theorem dX3_mean_57 : decode cX3_mean 57 = .ok (.aload_n 0, 1) := dk_42 (dk_at dksX3_mean_2 11 rfl rfl)
theorem dX3_mean_58 : decode cX3_mean 58 = .ok (.aload_n 0, 1) := dk_42 (dk_at dksX3_mean_2 12 rfl rfl)
theorem dX3_mean_59 : decode cX3_mean 59 = .ok (.invokevirtual 421, 3) := dk_182 1 165 (dk_at dksX3_mean_2 13 rfl rfl)
theorem dX3_mean_62 : decode cX3_mean 62 = .ok (.invokevirtual 411, 3) := dk_182 1 155 (dk_at dksX3_mean_2 16 rfl rfl)
theorem dX3_mean_65 : decode cX3_mean 65 = .ok (.iload_n 3, 1) := dk_29 (dk_at dksX3_mean_2 19 rfl rfl)
theorem dX3_mean_66 : decode cX3_mean 66 = .ok (.invokestatic 436, 3) := dk_184 1 180 (dk_at dksX3_mean_2 20 rfl rfl)
theorem dX3_mean_69 : decode cX3_mean 69 = .ok (.lreturn, 1) := dk_173 (dk_at dksX3_mean_2 23 rfl rfl)
abbrev cX3_part : ByteArray := prog_23_method_70_code
def yX3_part : MethodName := ⟨RX3, "part", "(JJZ)J"⟩
def dkwX3_part_0 : List UInt8 := [30, 32, 184, 1, 174, 55, 5, 21, 4, 153, 0, 10, 32, 22, 5, 109, 167, 0, 7, 30, 22, 5, 109, 173]
abbrev dktX3_part_0 : List UInt8 := dkwX3_part_0 ++ []
theorem dksX3_part_0 : cX3_part.data.toList.drop 0 = dktX3_part_0 := by decide +kernel
theorem dX3_part_0 : decode cX3_part 0 = .ok (.lload_n 0, 1) := dk_30 (dk_at dksX3_part_0 0 rfl rfl)
theorem dX3_part_1 : decode cX3_part 1 = .ok (.lload_n 2, 1) := dk_32 (dk_at dksX3_part_0 1 rfl rfl)
theorem dX3_part_2 : decode cX3_part 2 = .ok (.invokestatic 430, 3) := dk_184 1 174 (dk_at dksX3_part_0 2 rfl rfl)
theorem dX3_part_5 : decode cX3_part 5 = .ok (.lstore 5, 2) := dk_55 5 (dk_at dksX3_part_0 5 rfl rfl)
theorem dX3_part_7 : decode cX3_part 7 = .ok (.iload 4, 2) := dk_21 4 (dk_at dksX3_part_0 7 rfl rfl)
theorem dX3_part_9 : decode cX3_part 9 = .ok (.ifCond .eq 10, 3) := dk_153 0 10 (dk_at dksX3_part_0 9 rfl rfl)
theorem dX3_part_12 : decode cX3_part 12 = .ok (.lload_n 2, 1) := dk_32 (dk_at dksX3_part_0 12 rfl rfl)
theorem dX3_part_13 : decode cX3_part 13 = .ok (.lload 5, 2) := dk_22 5 (dk_at dksX3_part_0 13 rfl rfl)
theorem dX3_part_15 : decode cX3_part 15 = .ok (.ldiv, 1) := dk_109 (dk_at dksX3_part_0 15 rfl rfl)
theorem dX3_part_16 : decode cX3_part 16 = .ok (.goto 7, 3) := dk_167 0 7 (dk_at dksX3_part_0 16 rfl rfl)
theorem dX3_part_19 : decode cX3_part 19 = .ok (.lload_n 0, 1) := dk_30 (dk_at dksX3_part_0 19 rfl rfl)
theorem dX3_part_20 : decode cX3_part 20 = .ok (.lload 5, 2) := dk_22 5 (dk_at dksX3_part_0 20 rfl rfl)
theorem dX3_part_22 : decode cX3_part 22 = .ok (.ldiv, 1) := dk_109 (dk_at dksX3_part_0 22 rfl rfl)
theorem dX3_part_23 : decode cX3_part 23 = .ok (.lreturn, 1) := dk_173 (dk_at dksX3_part_0 23 rfl rfl)
abbrev cX3_common : ByteArray := prog_23_method_69_code
def yX3_common : MethodName := ⟨RX3, "common", "(JJ)J"⟩
def dkwX3_common_1 : List UInt8 := [22, 4, 22, 6, 113, 55, 8, 22, 6, 55, 4, 22, 8, 55, 6, 167, 255, 234, 22, 4, 173]
abbrev dktX3_common_1 : List UInt8 := dkwX3_common_1 ++ []
def dkwX3_common_0 : List UInt8 := [30, 9, 148, 156, 0, 8, 30, 117, 167, 0, 4, 30, 55, 4, 32, 55, 6, 22, 6, 9, 148, 153, 0, 21]
abbrev dktX3_common_0 : List UInt8 := dkwX3_common_0 ++ dktX3_common_1
theorem dksX3_common_0 : cX3_common.data.toList.drop 0 = dktX3_common_0 := by decide +kernel
theorem dksX3_common_1 : cX3_common.data.toList.drop 24 = dktX3_common_1 := dk_seg dksX3_common_0 24 rfl rfl
theorem dX3_common_0 : decode cX3_common 0 = .ok (.lload_n 0, 1) := dk_30 (dk_at dksX3_common_0 0 rfl rfl)
theorem dX3_common_1 : decode cX3_common 1 = .ok (.lconst 0, 1) := dk_9 (dk_at dksX3_common_0 1 rfl rfl)
theorem dX3_common_2 : decode cX3_common 2 = .ok (.lcmp, 1) := dk_148 (dk_at dksX3_common_0 2 rfl rfl)
theorem dX3_common_3 : decode cX3_common 3 = .ok (.ifCond .ge 8, 3) := dk_156 0 8 (dk_at dksX3_common_0 3 rfl rfl)
theorem dX3_common_6 : decode cX3_common 6 = .ok (.lload_n 0, 1) := dk_30 (dk_at dksX3_common_0 6 rfl rfl)
theorem dX3_common_7 : decode cX3_common 7 = .ok (.lneg, 1) := dk_117 (dk_at dksX3_common_0 7 rfl rfl)
theorem dX3_common_8 : decode cX3_common 8 = .ok (.goto 4, 3) := dk_167 0 4 (dk_at dksX3_common_0 8 rfl rfl)
theorem dX3_common_11 : decode cX3_common 11 = .ok (.lload_n 0, 1) := dk_30 (dk_at dksX3_common_0 11 rfl rfl)
theorem dX3_common_12 : decode cX3_common 12 = .ok (.lstore 4, 2) := dk_55 4 (dk_at dksX3_common_0 12 rfl rfl)
theorem dX3_common_14 : decode cX3_common 14 = .ok (.lload_n 2, 1) := dk_32 (dk_at dksX3_common_0 14 rfl rfl)
theorem dX3_common_15 : decode cX3_common 15 = .ok (.lstore 6, 2) := dk_55 6 (dk_at dksX3_common_0 15 rfl rfl)
theorem dX3_common_17 : decode cX3_common 17 = .ok (.lload 6, 2) := dk_22 6 (dk_at dksX3_common_0 17 rfl rfl)
theorem dX3_common_19 : decode cX3_common 19 = .ok (.lconst 0, 1) := dk_9 (dk_at dksX3_common_0 19 rfl rfl)
theorem dX3_common_20 : decode cX3_common 20 = .ok (.lcmp, 1) := dk_148 (dk_at dksX3_common_0 20 rfl rfl)
theorem dX3_common_21 : decode cX3_common 21 = .ok (.ifCond .eq 21, 3) := dk_153 0 21 (dk_at dksX3_common_0 21 rfl rfl)
theorem dX3_common_24 : decode cX3_common 24 = .ok (.lload 4, 2) := dk_22 4 (dk_at dksX3_common_1 0 rfl rfl)
theorem dX3_common_26 : decode cX3_common 26 = .ok (.lload 6, 2) := dk_22 6 (dk_at dksX3_common_1 2 rfl rfl)
theorem dX3_common_28 : decode cX3_common 28 = .ok (.lrem, 1) := dk_113 (dk_at dksX3_common_1 4 rfl rfl)
theorem dX3_common_29 : decode cX3_common 29 = .ok (.lstore 8, 2) := dk_55 8 (dk_at dksX3_common_1 5 rfl rfl)
theorem dX3_common_31 : decode cX3_common 31 = .ok (.lload 6, 2) := dk_22 6 (dk_at dksX3_common_1 7 rfl rfl)
theorem dX3_common_33 : decode cX3_common 33 = .ok (.lstore 4, 2) := dk_55 4 (dk_at dksX3_common_1 9 rfl rfl)
theorem dX3_common_35 : decode cX3_common 35 = .ok (.lload 8, 2) := dk_22 8 (dk_at dksX3_common_1 11 rfl rfl)
theorem dX3_common_37 : decode cX3_common 37 = .ok (.lstore 6, 2) := dk_55 6 (dk_at dksX3_common_1 13 rfl rfl)
theorem dX3_common_39 : decode cX3_common 39 = .ok (.goto (-22), 3) := dk_167 255 234 (dk_at dksX3_common_1 15 rfl rfl)
theorem dX3_common_42 : decode cX3_common 42 = .ok (.lload 4, 2) := dk_22 4 (dk_at dksX3_common_1 18 rfl rfl)
theorem dX3_common_44 : decode cX3_common 44 = .ok (.lreturn, 1) := dk_173 (dk_at dksX3_common_1 20 rfl rfl)
abbrev cX3_way : ByteArray := prog_23_method_73_code
def yX3_way : MethodName := ⟨RX3, "way", "(IIZ)I"⟩
def dkwX3_way_4 : List UInt8 := [42, 182, 1, 165, 182, 1, 184, 172]
abbrev dktX3_way_4 : List UInt8 := dkwX3_way_4 ++ []
def dkwX3_way_3 : List UInt8 := [167, 255, 217, 42, 27, 28, 29, 182, 1, 170, 9, 148, 156, 0, 10, 42, 16, 6, 182, 0, 252, 172, 42, 27]
abbrev dktX3_way_3 : List UInt8 := dkwX3_way_3 ++ dktX3_way_4
def dkwX3_way_2 : List UInt8 := [160, 0, 19, 42, 27, 21, 4, 182, 1, 128, 153, 0, 9, 42, 8, 182, 0, 252, 172, 132, 4, 1]
abbrev dktX3_way_2 : List UInt8 := dkwX3_way_2 ++ dktX3_way_3
def dkwX3_way_1 : List UInt8 := [182, 0, 252, 172, 3, 54, 4, 21, 4, 42, 180, 1, 25, 162, 0, 36, 42, 180, 0, 64, 21, 4, 46, 2]
abbrev dktX3_way_1 : List UInt8 := dkwX3_way_1 ++ dktX3_way_2
def dkwX3_way_0 : List UInt8 := [42, 182, 0, 249, 42, 27, 182, 1, 91, 153, 0, 11, 42, 28, 182, 1, 91, 154, 0, 9, 42, 4]
abbrev dktX3_way_0 : List UInt8 := dkwX3_way_0 ++ dktX3_way_1
theorem dksX3_way_0 : cX3_way.data.toList.drop 0 = dktX3_way_0 := by decide +kernel
theorem dksX3_way_1 : cX3_way.data.toList.drop 22 = dktX3_way_1 := dk_seg dksX3_way_0 22 rfl rfl
theorem dksX3_way_2 : cX3_way.data.toList.drop 46 = dktX3_way_2 := dk_seg dksX3_way_1 24 rfl rfl
theorem dksX3_way_3 : cX3_way.data.toList.drop 68 = dktX3_way_3 := dk_seg dksX3_way_2 22 rfl rfl
theorem dksX3_way_4 : cX3_way.data.toList.drop 92 = dktX3_way_4 := dk_seg dksX3_way_3 24 rfl rfl
theorem dX3_way_0 : decode cX3_way 0 = .ok (.aload_n 0, 1) := dk_42 (dk_at dksX3_way_0 0 rfl rfl)
theorem dX3_way_1 : decode cX3_way 1 = .ok (.invokevirtual 249, 3) := dk_182 0 249 (dk_at dksX3_way_0 1 rfl rfl)
theorem dX3_way_4 : decode cX3_way 4 = .ok (.aload_n 0, 1) := dk_42 (dk_at dksX3_way_0 4 rfl rfl)
theorem dX3_way_5 : decode cX3_way 5 = .ok (.iload_n 1, 1) := dk_27 (dk_at dksX3_way_0 5 rfl rfl)
theorem dX3_way_6 : decode cX3_way 6 = .ok (.invokevirtual 347, 3) := dk_182 1 91 (dk_at dksX3_way_0 6 rfl rfl)
theorem dX3_way_9 : decode cX3_way 9 = .ok (.ifCond .eq 11, 3) := dk_153 0 11 (dk_at dksX3_way_0 9 rfl rfl)
theorem dX3_way_12 : decode cX3_way 12 = .ok (.aload_n 0, 1) := dk_42 (dk_at dksX3_way_0 12 rfl rfl)
theorem dX3_way_13 : decode cX3_way 13 = .ok (.iload_n 2, 1) := dk_28 (dk_at dksX3_way_0 13 rfl rfl)
theorem dX3_way_14 : decode cX3_way 14 = .ok (.invokevirtual 347, 3) := dk_182 1 91 (dk_at dksX3_way_0 14 rfl rfl)
theorem dX3_way_17 : decode cX3_way 17 = .ok (.ifCond .ne 9, 3) := dk_154 0 9 (dk_at dksX3_way_0 17 rfl rfl)
theorem dX3_way_20 : decode cX3_way 20 = .ok (.aload_n 0, 1) := dk_42 (dk_at dksX3_way_0 20 rfl rfl)
theorem dX3_way_21 : decode cX3_way 21 = .ok (.iconst 1, 1) := dk_4 (dk_at dksX3_way_0 21 rfl rfl)
theorem dX3_way_22 : decode cX3_way 22 = .ok (.invokevirtual 252, 3) := dk_182 0 252 (dk_at dksX3_way_1 0 rfl rfl)
theorem dX3_way_25 : decode cX3_way 25 = .ok (.ireturn, 1) := dk_172 (dk_at dksX3_way_1 3 rfl rfl)
theorem dX3_way_26 : decode cX3_way 26 = .ok (.iconst 0, 1) := dk_3 (dk_at dksX3_way_1 4 rfl rfl)
theorem dX3_way_27 : decode cX3_way 27 = .ok (.istore 4, 2) := dk_54 4 (dk_at dksX3_way_1 5 rfl rfl)
theorem dX3_way_29 : decode cX3_way 29 = .ok (.iload 4, 2) := dk_21 4 (dk_at dksX3_way_1 7 rfl rfl)
theorem dX3_way_31 : decode cX3_way 31 = .ok (.aload_n 0, 1) := dk_42 (dk_at dksX3_way_1 9 rfl rfl)
theorem dX3_way_32 : decode cX3_way 32 = .ok (.getfield 281, 3) := dk_180 1 25 (dk_at dksX3_way_1 10 rfl rfl)
theorem dX3_way_35 : decode cX3_way 35 = .ok (.if_icmp .ge 36, 3) := dk_162 0 36 (dk_at dksX3_way_1 13 rfl rfl)
theorem dX3_way_38 : decode cX3_way 38 = .ok (.aload_n 0, 1) := dk_42 (dk_at dksX3_way_1 16 rfl rfl)
theorem dX3_way_39 : decode cX3_way 39 = .ok (.getfield 64, 3) := dk_180 0 64 (dk_at dksX3_way_1 17 rfl rfl)
theorem dX3_way_42 : decode cX3_way 42 = .ok (.iload 4, 2) := dk_21 4 (dk_at dksX3_way_1 20 rfl rfl)
theorem dX3_way_44 : decode cX3_way 44 = .ok (.iaload, 1) := dk_46 (dk_at dksX3_way_1 22 rfl rfl)
theorem dX3_way_45 : decode cX3_way 45 = .ok (.iconst (-1), 1) := dk_2 (dk_at dksX3_way_1 23 rfl rfl)
theorem dX3_way_46 : decode cX3_way 46 = .ok (.if_icmp .ne 19, 3) := dk_160 0 19 (dk_at dksX3_way_2 0 rfl rfl)
theorem dX3_way_49 : decode cX3_way 49 = .ok (.aload_n 0, 1) := dk_42 (dk_at dksX3_way_2 3 rfl rfl)
theorem dX3_way_50 : decode cX3_way 50 = .ok (.iload_n 1, 1) := dk_27 (dk_at dksX3_way_2 4 rfl rfl)
theorem dX3_way_51 : decode cX3_way 51 = .ok (.iload 4, 2) := dk_21 4 (dk_at dksX3_way_2 5 rfl rfl)
theorem dX3_way_53 : decode cX3_way 53 = .ok (.invokevirtual 384, 3) := dk_182 1 128 (dk_at dksX3_way_2 7 rfl rfl)
theorem dX3_way_56 : decode cX3_way 56 = .ok (.ifCond .eq 9, 3) := dk_153 0 9 (dk_at dksX3_way_2 10 rfl rfl)
theorem dX3_way_59 : decode cX3_way 59 = .ok (.aload_n 0, 1) := dk_42 (dk_at dksX3_way_2 13 rfl rfl)
theorem dX3_way_60 : decode cX3_way 60 = .ok (.iconst 5, 1) := dk_8 (dk_at dksX3_way_2 14 rfl rfl)
theorem dX3_way_61 : decode cX3_way 61 = .ok (.invokevirtual 252, 3) := dk_182 0 252 (dk_at dksX3_way_2 15 rfl rfl)
theorem dX3_way_64 : decode cX3_way 64 = .ok (.ireturn, 1) := dk_172 (dk_at dksX3_way_2 18 rfl rfl)
theorem dX3_way_65 : decode cX3_way 65 = .ok (.iinc 4 1, 3) := dk_132 4 1 (dk_at dksX3_way_2 19 rfl rfl)
theorem dX3_way_68 : decode cX3_way 68 = .ok (.goto (-39), 3) := dk_167 255 217 (dk_at dksX3_way_3 0 rfl rfl)
theorem dX3_way_71 : decode cX3_way 71 = .ok (.aload_n 0, 1) := dk_42 (dk_at dksX3_way_3 3 rfl rfl)
theorem dX3_way_72 : decode cX3_way 72 = .ok (.iload_n 1, 1) := dk_27 (dk_at dksX3_way_3 4 rfl rfl)
theorem dX3_way_73 : decode cX3_way 73 = .ok (.iload_n 2, 1) := dk_28 (dk_at dksX3_way_3 5 rfl rfl)
theorem dX3_way_74 : decode cX3_way 74 = .ok (.iload_n 3, 1) := dk_29 (dk_at dksX3_way_3 6 rfl rfl)
theorem dX3_way_75 : decode cX3_way 75 = .ok (.invokevirtual 426, 3) := dk_182 1 170 (dk_at dksX3_way_3 7 rfl rfl)
theorem dX3_way_78 : decode cX3_way 78 = .ok (.lconst 0, 1) := dk_9 (dk_at dksX3_way_3 10 rfl rfl)
theorem dX3_way_79 : decode cX3_way 79 = .ok (.lcmp, 1) := dk_148 (dk_at dksX3_way_3 11 rfl rfl)
theorem dX3_way_80 : decode cX3_way 80 = .ok (.ifCond .ge 10, 3) := dk_156 0 10 (dk_at dksX3_way_3 12 rfl rfl)
theorem dX3_way_83 : decode cX3_way 83 = .ok (.aload_n 0, 1) := dk_42 (dk_at dksX3_way_3 15 rfl rfl)
theorem dX3_way_84 : decode cX3_way 84 = .ok (.bipush 6, 2) := dk_16 6 (dk_at dksX3_way_3 16 rfl rfl)
theorem dX3_way_86 : decode cX3_way 86 = .ok (.invokevirtual 252, 3) := dk_182 0 252 (dk_at dksX3_way_3 18 rfl rfl)
theorem dX3_way_89 : decode cX3_way 89 = .ok (.ireturn, 1) := dk_172 (dk_at dksX3_way_3 21 rfl rfl)
theorem dX3_way_90 : decode cX3_way 90 = .ok (.aload_n 0, 1) := dk_42 (dk_at dksX3_way_3 22 rfl rfl)
theorem dX3_way_91 : decode cX3_way 91 = .ok (.iload_n 1, 1) := dk_27 (dk_at dksX3_way_3 23 rfl rfl)
theorem dX3_way_92 : decode cX3_way 92 = .ok (.aload_n 0, 1) := dk_42 (dk_at dksX3_way_4 0 rfl rfl)
theorem dX3_way_93 : decode cX3_way 93 = .ok (.invokevirtual 421, 3) := dk_182 1 165 (dk_at dksX3_way_4 1 rfl rfl)
theorem dX3_way_96 : decode cX3_way 96 = .ok (.invokevirtual 440, 3) := dk_182 1 184 (dk_at dksX3_way_4 4 rfl rfl)
theorem dX3_way_99 : decode cX3_way 99 = .ok (.ireturn, 1) := dk_172 (dk_at dksX3_way_4 7 rfl rfl)
abbrev cX3_stepOf : ByteArray := prog_23_method_72_code
def yX3_stepOf : MethodName := ⟨RX3, "stepOf", "(II)I"⟩
def dkwX3_stepOf_5 : List UInt8 := [21, 5, 172, 132, 5, 1, 167, 255, 167, 7, 172]
abbrev dktX3_stepOf_5 : List UInt8 := dkwX3_stepOf_5 ++ []
def dkwX3_stepOf_4 : List UInt8 := [27, 104, 21, 5, 96, 46, 133, 105, 97, 42, 180, 0, 74, 16, 100, 28, 104, 27, 96, 47, 148, 154, 0, 6]
abbrev dktX3_stepOf_4 : List UInt8 := dkwX3_stepOf_4 ++ dktX3_stepOf_5
def dkwX3_stepOf_3 : List UInt8 := [182, 1, 97, 96, 47, 55, 6, 22, 6, 20, 1, 134, 148, 156, 0, 38, 22, 6, 33, 42, 180, 0, 119, 7]
abbrev dktX3_stepOf_3 : List UInt8 := dkwX3_stepOf_3 ++ dktX3_stepOf_4
def dkwX3_stepOf_2 : List UInt8 := [21, 5, 96, 46, 154, 0, 6, 167, 0, 66, 42, 180, 0, 74, 16, 100, 28, 104, 42, 27, 21, 5]
abbrev dktX3_stepOf_2 : List UInt8 := dkwX3_stepOf_2 ++ dktX3_stepOf_3
def dkwX3_stepOf_1 : List UInt8 := [182, 1, 155, 167, 0, 4, 10, 66, 3, 54, 5, 21, 5, 7, 162, 0, 89, 42, 180, 0, 119, 7, 27, 104]
abbrev dktX3_stepOf_1 : List UInt8 := dkwX3_stepOf_1 ++ dktX3_stepOf_2
def dkwX3_stepOf_0 : List UInt8 := [27, 42, 180, 0, 78, 160, 0, 5, 7, 172, 42, 28, 182, 1, 145, 42, 180, 1, 136, 153, 0, 11, 42, 28]
abbrev dktX3_stepOf_0 : List UInt8 := dkwX3_stepOf_0 ++ dktX3_stepOf_1
theorem dksX3_stepOf_0 : cX3_stepOf.data.toList.drop 0 = dktX3_stepOf_0 := by decide +kernel
theorem dksX3_stepOf_1 : cX3_stepOf.data.toList.drop 24 = dktX3_stepOf_1 := dk_seg dksX3_stepOf_0 24 rfl rfl
theorem dksX3_stepOf_2 : cX3_stepOf.data.toList.drop 48 = dktX3_stepOf_2 := dk_seg dksX3_stepOf_1 24 rfl rfl
theorem dksX3_stepOf_3 : cX3_stepOf.data.toList.drop 70 = dktX3_stepOf_3 := dk_seg dksX3_stepOf_2 22 rfl rfl
theorem dksX3_stepOf_4 : cX3_stepOf.data.toList.drop 94 = dktX3_stepOf_4 := dk_seg dksX3_stepOf_3 24 rfl rfl
theorem dksX3_stepOf_5 : cX3_stepOf.data.toList.drop 118 = dktX3_stepOf_5 := dk_seg dksX3_stepOf_4 24 rfl rfl
theorem dX3_stepOf_0 : decode cX3_stepOf 0 = .ok (.iload_n 1, 1) := dk_27 (dk_at dksX3_stepOf_0 0 rfl rfl)
theorem dX3_stepOf_1 : decode cX3_stepOf 1 = .ok (.aload_n 0, 1) := dk_42 (dk_at dksX3_stepOf_0 1 rfl rfl)
theorem dX3_stepOf_2 : decode cX3_stepOf 2 = .ok (.getfield 78, 3) := dk_180 0 78 (dk_at dksX3_stepOf_0 2 rfl rfl)
theorem dX3_stepOf_5 : decode cX3_stepOf 5 = .ok (.if_icmp .ne 5, 3) := dk_160 0 5 (dk_at dksX3_stepOf_0 5 rfl rfl)
theorem dX3_stepOf_8 : decode cX3_stepOf 8 = .ok (.iconst 4, 1) := dk_7 (dk_at dksX3_stepOf_0 8 rfl rfl)
theorem dX3_stepOf_9 : decode cX3_stepOf 9 = .ok (.ireturn, 1) := dk_172 (dk_at dksX3_stepOf_0 9 rfl rfl)
theorem dX3_stepOf_10 : decode cX3_stepOf 10 = .ok (.aload_n 0, 1) := dk_42 (dk_at dksX3_stepOf_0 10 rfl rfl)
theorem dX3_stepOf_11 : decode cX3_stepOf 11 = .ok (.iload_n 2, 1) := dk_28 (dk_at dksX3_stepOf_0 11 rfl rfl)
theorem dX3_stepOf_12 : decode cX3_stepOf 12 = .ok (.invokevirtual 401, 3) := dk_182 1 145 (dk_at dksX3_stepOf_0 12 rfl rfl)
theorem dX3_stepOf_15 : decode cX3_stepOf 15 = .ok (.aload_n 0, 1) := dk_42 (dk_at dksX3_stepOf_0 15 rfl rfl)
theorem dX3_stepOf_16 : decode cX3_stepOf 16 = .ok (.getfield 392, 3) := dk_180 1 136 (dk_at dksX3_stepOf_0 16 rfl rfl)
theorem dX3_stepOf_19 : decode cX3_stepOf 19 = .ok (.ifCond .eq 11, 3) := dk_153 0 11 (dk_at dksX3_stepOf_0 19 rfl rfl)
theorem dX3_stepOf_22 : decode cX3_stepOf 22 = .ok (.aload_n 0, 1) := dk_42 (dk_at dksX3_stepOf_0 22 rfl rfl)
theorem dX3_stepOf_23 : decode cX3_stepOf 23 = .ok (.iload_n 2, 1) := dk_28 (dk_at dksX3_stepOf_0 23 rfl rfl)
theorem dX3_stepOf_24 : decode cX3_stepOf 24 = .ok (.invokevirtual 411, 3) := dk_182 1 155 (dk_at dksX3_stepOf_1 0 rfl rfl)
theorem dX3_stepOf_27 : decode cX3_stepOf 27 = .ok (.goto 4, 3) := dk_167 0 4 (dk_at dksX3_stepOf_1 3 rfl rfl)
theorem dX3_stepOf_30 : decode cX3_stepOf 30 = .ok (.lconst 1, 1) := dk_10 (dk_at dksX3_stepOf_1 6 rfl rfl)
theorem dX3_stepOf_31 : decode cX3_stepOf 31 = .ok (.lstore_n 3, 1) := dk_66 (dk_at dksX3_stepOf_1 7 rfl rfl)
theorem dX3_stepOf_32 : decode cX3_stepOf 32 = .ok (.iconst 0, 1) := dk_3 (dk_at dksX3_stepOf_1 8 rfl rfl)
theorem dX3_stepOf_33 : decode cX3_stepOf 33 = .ok (.istore 5, 2) := dk_54 5 (dk_at dksX3_stepOf_1 9 rfl rfl)
theorem dX3_stepOf_35 : decode cX3_stepOf 35 = .ok (.iload 5, 2) := dk_21 5 (dk_at dksX3_stepOf_1 11 rfl rfl)
theorem dX3_stepOf_37 : decode cX3_stepOf 37 = .ok (.iconst 4, 1) := dk_7 (dk_at dksX3_stepOf_1 13 rfl rfl)
theorem dX3_stepOf_38 : decode cX3_stepOf 38 = .ok (.if_icmp .ge 89, 3) := dk_162 0 89 (dk_at dksX3_stepOf_1 14 rfl rfl)
theorem dX3_stepOf_41 : decode cX3_stepOf 41 = .ok (.aload_n 0, 1) := dk_42 (dk_at dksX3_stepOf_1 17 rfl rfl)
theorem dX3_stepOf_42 : decode cX3_stepOf 42 = .ok (.getfield 119, 3) := dk_180 0 119 (dk_at dksX3_stepOf_1 18 rfl rfl)
theorem dX3_stepOf_45 : decode cX3_stepOf 45 = .ok (.iconst 4, 1) := dk_7 (dk_at dksX3_stepOf_1 21 rfl rfl)
theorem dX3_stepOf_46 : decode cX3_stepOf 46 = .ok (.iload_n 1, 1) := dk_27 (dk_at dksX3_stepOf_1 22 rfl rfl)
theorem dX3_stepOf_47 : decode cX3_stepOf 47 = .ok (.imul, 1) := dk_104 (dk_at dksX3_stepOf_1 23 rfl rfl)
theorem dX3_stepOf_48 : decode cX3_stepOf 48 = .ok (.iload 5, 2) := dk_21 5 (dk_at dksX3_stepOf_2 0 rfl rfl)
theorem dX3_stepOf_50 : decode cX3_stepOf 50 = .ok (.iadd, 1) := dk_96 (dk_at dksX3_stepOf_2 2 rfl rfl)
theorem dX3_stepOf_51 : decode cX3_stepOf 51 = .ok (.iaload, 1) := dk_46 (dk_at dksX3_stepOf_2 3 rfl rfl)
theorem dX3_stepOf_52 : decode cX3_stepOf 52 = .ok (.ifCond .ne 6, 3) := dk_154 0 6 (dk_at dksX3_stepOf_2 4 rfl rfl)
theorem dX3_stepOf_55 : decode cX3_stepOf 55 = .ok (.goto 66, 3) := dk_167 0 66 (dk_at dksX3_stepOf_2 7 rfl rfl)
theorem dX3_stepOf_58 : decode cX3_stepOf 58 = .ok (.aload_n 0, 1) := dk_42 (dk_at dksX3_stepOf_2 10 rfl rfl)
theorem dX3_stepOf_59 : decode cX3_stepOf 59 = .ok (.getfield 74, 3) := dk_180 0 74 (dk_at dksX3_stepOf_2 11 rfl rfl)
theorem dX3_stepOf_62 : decode cX3_stepOf 62 = .ok (.bipush 100, 2) := dk_16 100 (dk_at dksX3_stepOf_2 14 rfl rfl)
theorem dX3_stepOf_64 : decode cX3_stepOf 64 = .ok (.iload_n 2, 1) := dk_28 (dk_at dksX3_stepOf_2 16 rfl rfl)
theorem dX3_stepOf_65 : decode cX3_stepOf 65 = .ok (.imul, 1) := dk_104 (dk_at dksX3_stepOf_2 17 rfl rfl)
theorem dX3_stepOf_66 : decode cX3_stepOf 66 = .ok (.aload_n 0, 1) := dk_42 (dk_at dksX3_stepOf_2 18 rfl rfl)
theorem dX3_stepOf_67 : decode cX3_stepOf 67 = .ok (.iload_n 1, 1) := dk_27 (dk_at dksX3_stepOf_2 19 rfl rfl)
theorem dX3_stepOf_68 : decode cX3_stepOf 68 = .ok (.iload 5, 2) := dk_21 5 (dk_at dksX3_stepOf_2 20 rfl rfl)
theorem dX3_stepOf_70 : decode cX3_stepOf 70 = .ok (.invokevirtual 353, 3) := dk_182 1 97 (dk_at dksX3_stepOf_3 0 rfl rfl)
theorem dX3_stepOf_73 : decode cX3_stepOf 73 = .ok (.iadd, 1) := dk_96 (dk_at dksX3_stepOf_3 3 rfl rfl)
theorem dX3_stepOf_74 : decode cX3_stepOf 74 = .ok (.laload, 1) := dk_47 (dk_at dksX3_stepOf_3 4 rfl rfl)
theorem dX3_stepOf_75 : decode cX3_stepOf 75 = .ok (.lstore 6, 2) := dk_55 6 (dk_at dksX3_stepOf_3 5 rfl rfl)
theorem dX3_stepOf_77 : decode cX3_stepOf 77 = .ok (.lload 6, 2) := dk_22 6 (dk_at dksX3_stepOf_3 7 rfl rfl)
theorem dX3_stepOf_79 : decode cX3_stepOf 79 = .ok (.ldc2_w 390, 3) := dk_20 1 134 (dk_at dksX3_stepOf_3 9 rfl rfl)
theorem dX3_stepOf_82 : decode cX3_stepOf 82 = .ok (.lcmp, 1) := dk_148 (dk_at dksX3_stepOf_3 12 rfl rfl)
theorem dX3_stepOf_83 : decode cX3_stepOf 83 = .ok (.ifCond .ge 38, 3) := dk_156 0 38 (dk_at dksX3_stepOf_3 13 rfl rfl)
theorem dX3_stepOf_86 : decode cX3_stepOf 86 = .ok (.lload 6, 2) := dk_22 6 (dk_at dksX3_stepOf_3 16 rfl rfl)
theorem dX3_stepOf_88 : decode cX3_stepOf 88 = .ok (.lload_n 3, 1) := dk_33 (dk_at dksX3_stepOf_3 18 rfl rfl)
theorem dX3_stepOf_89 : decode cX3_stepOf 89 = .ok (.aload_n 0, 1) := dk_42 (dk_at dksX3_stepOf_3 19 rfl rfl)
theorem dX3_stepOf_90 : decode cX3_stepOf 90 = .ok (.getfield 119, 3) := dk_180 0 119 (dk_at dksX3_stepOf_3 20 rfl rfl)
theorem dX3_stepOf_93 : decode cX3_stepOf 93 = .ok (.iconst 4, 1) := dk_7 (dk_at dksX3_stepOf_3 23 rfl rfl)
theorem dX3_stepOf_94 : decode cX3_stepOf 94 = .ok (.iload_n 1, 1) := dk_27 (dk_at dksX3_stepOf_4 0 rfl rfl)
theorem dX3_stepOf_95 : decode cX3_stepOf 95 = .ok (.imul, 1) := dk_104 (dk_at dksX3_stepOf_4 1 rfl rfl)
theorem dX3_stepOf_96 : decode cX3_stepOf 96 = .ok (.iload 5, 2) := dk_21 5 (dk_at dksX3_stepOf_4 2 rfl rfl)
theorem dX3_stepOf_98 : decode cX3_stepOf 98 = .ok (.iadd, 1) := dk_96 (dk_at dksX3_stepOf_4 4 rfl rfl)
theorem dX3_stepOf_99 : decode cX3_stepOf 99 = .ok (.iaload, 1) := dk_46 (dk_at dksX3_stepOf_4 5 rfl rfl)
theorem dX3_stepOf_100 : decode cX3_stepOf 100 = .ok (.i2l, 1) := dk_133 (dk_at dksX3_stepOf_4 6 rfl rfl)
theorem dX3_stepOf_101 : decode cX3_stepOf 101 = .ok (.lmul, 1) := dk_105 (dk_at dksX3_stepOf_4 7 rfl rfl)
theorem dX3_stepOf_102 : decode cX3_stepOf 102 = .ok (.ladd, 1) := dk_97 (dk_at dksX3_stepOf_4 8 rfl rfl)
theorem dX3_stepOf_103 : decode cX3_stepOf 103 = .ok (.aload_n 0, 1) := dk_42 (dk_at dksX3_stepOf_4 9 rfl rfl)
theorem dX3_stepOf_104 : decode cX3_stepOf 104 = .ok (.getfield 74, 3) := dk_180 0 74 (dk_at dksX3_stepOf_4 10 rfl rfl)
theorem dX3_stepOf_107 : decode cX3_stepOf 107 = .ok (.bipush 100, 2) := dk_16 100 (dk_at dksX3_stepOf_4 13 rfl rfl)
theorem dX3_stepOf_109 : decode cX3_stepOf 109 = .ok (.iload_n 2, 1) := dk_28 (dk_at dksX3_stepOf_4 15 rfl rfl)
theorem dX3_stepOf_110 : decode cX3_stepOf 110 = .ok (.imul, 1) := dk_104 (dk_at dksX3_stepOf_4 16 rfl rfl)
theorem dX3_stepOf_111 : decode cX3_stepOf 111 = .ok (.iload_n 1, 1) := dk_27 (dk_at dksX3_stepOf_4 17 rfl rfl)
theorem dX3_stepOf_112 : decode cX3_stepOf 112 = .ok (.iadd, 1) := dk_96 (dk_at dksX3_stepOf_4 18 rfl rfl)
theorem dX3_stepOf_113 : decode cX3_stepOf 113 = .ok (.laload, 1) := dk_47 (dk_at dksX3_stepOf_4 19 rfl rfl)
theorem dX3_stepOf_114 : decode cX3_stepOf 114 = .ok (.lcmp, 1) := dk_148 (dk_at dksX3_stepOf_4 20 rfl rfl)
theorem dX3_stepOf_115 : decode cX3_stepOf 115 = .ok (.ifCond .ne 6, 3) := dk_154 0 6 (dk_at dksX3_stepOf_4 21 rfl rfl)
theorem dX3_stepOf_118 : decode cX3_stepOf 118 = .ok (.iload 5, 2) := dk_21 5 (dk_at dksX3_stepOf_5 0 rfl rfl)
theorem dX3_stepOf_120 : decode cX3_stepOf 120 = .ok (.ireturn, 1) := dk_172 (dk_at dksX3_stepOf_5 2 rfl rfl)
theorem dX3_stepOf_121 : decode cX3_stepOf 121 = .ok (.iinc 5 1, 3) := dk_132 5 1 (dk_at dksX3_stepOf_5 3 rfl rfl)
theorem dX3_stepOf_124 : decode cX3_stepOf 124 = .ok (.goto (-89), 3) := dk_167 255 167 (dk_at dksX3_stepOf_5 6 rfl rfl)
theorem dX3_stepOf_127 : decode cX3_stepOf 127 = .ok (.iconst 4, 1) := dk_7 (dk_at dksX3_stepOf_5 9 rfl rfl)
theorem dX3_stepOf_128 : decode cX3_stepOf 128 = .ok (.ireturn, 1) := dk_172 (dk_at dksX3_stepOf_5 10 rfl rfl)
abbrev cX3_truths : ByteArray := prog_23_method_75_code
def yX3_truths : MethodName := ⟨RX3, "truths", "()I"⟩
def dkwX3_truths_0 : List UInt8 := [42, 3, 181, 0, 131, 42, 180, 1, 19, 154, 0, 5, 3, 172, 42, 182, 1, 125, 42, 182, 1, 187, 172]
abbrev dktX3_truths_0 : List UInt8 := dkwX3_truths_0 ++ []
theorem dksX3_truths_0 : cX3_truths.data.toList.drop 0 = dktX3_truths_0 := by decide +kernel
theorem dX3_truths_0 : decode cX3_truths 0 = .ok (.aload_n 0, 1) := dk_42 (dk_at dksX3_truths_0 0 rfl rfl)
theorem dX3_truths_1 : decode cX3_truths 1 = .ok (.iconst 0, 1) := dk_3 (dk_at dksX3_truths_0 1 rfl rfl)
theorem dX3_truths_2 : decode cX3_truths 2 = .ok (.putfield 131, 3) := dk_181 0 131 (dk_at dksX3_truths_0 2 rfl rfl)
theorem dX3_truths_5 : decode cX3_truths 5 = .ok (.aload_n 0, 1) := dk_42 (dk_at dksX3_truths_0 5 rfl rfl)
theorem dX3_truths_6 : decode cX3_truths 6 = .ok (.getfield 275, 3) := dk_180 1 19 (dk_at dksX3_truths_0 6 rfl rfl)
theorem dX3_truths_9 : decode cX3_truths 9 = .ok (.ifCond .ne 5, 3) := dk_154 0 5 (dk_at dksX3_truths_0 9 rfl rfl)
theorem dX3_truths_12 : decode cX3_truths 12 = .ok (.iconst 0, 1) := dk_3 (dk_at dksX3_truths_0 12 rfl rfl)
theorem dX3_truths_13 : decode cX3_truths 13 = .ok (.ireturn, 1) := dk_172 (dk_at dksX3_truths_0 13 rfl rfl)
theorem dX3_truths_14 : decode cX3_truths 14 = .ok (.aload_n 0, 1) := dk_42 (dk_at dksX3_truths_0 14 rfl rfl)
theorem dX3_truths_15 : decode cX3_truths 15 = .ok (.invokevirtual 381, 3) := dk_182 1 125 (dk_at dksX3_truths_0 15 rfl rfl)
theorem dX3_truths_18 : decode cX3_truths 18 = .ok (.aload_n 0, 1) := dk_42 (dk_at dksX3_truths_0 18 rfl rfl)
theorem dX3_truths_19 : decode cX3_truths 19 = .ok (.invokevirtual 443, 3) := dk_182 1 187 (dk_at dksX3_truths_0 19 rfl rfl)
theorem dX3_truths_22 : decode cX3_truths 22 = .ok (.ireturn, 1) := dk_172 (dk_at dksX3_truths_0 22 rfl rfl)
abbrev cX3_truthMany : ByteArray := prog_23_method_74_code
def yX3_truthMany : MethodName := ⟨RX3, "truthMany", "()I"⟩
def dkwX3_truthMany_1 : List UInt8 := [180, 0, 85, 28, 46, 104, 167, 0, 4, 27, 60, 132, 2, 1, 167, 255, 222, 27, 172]
abbrev dktX3_truthMany_1 : List UInt8 := dkwX3_truthMany_1 ++ []
def dkwX3_truthMany_0 : List UInt8 := [4, 60, 3, 61, 28, 42, 180, 1, 25, 162, 0, 32, 42, 180, 0, 64, 28, 46, 2, 160, 0, 14, 27, 42]
abbrev dktX3_truthMany_0 : List UInt8 := dkwX3_truthMany_0 ++ dktX3_truthMany_1
theorem dksX3_truthMany_0 : cX3_truthMany.data.toList.drop 0 = dktX3_truthMany_0 := by decide +kernel
theorem dksX3_truthMany_1 : cX3_truthMany.data.toList.drop 24 = dktX3_truthMany_1 := dk_seg dksX3_truthMany_0 24 rfl rfl
theorem dX3_truthMany_0 : decode cX3_truthMany 0 = .ok (.iconst 1, 1) := dk_4 (dk_at dksX3_truthMany_0 0 rfl rfl)
theorem dX3_truthMany_1 : decode cX3_truthMany 1 = .ok (.istore_n 1, 1) := dk_60 (dk_at dksX3_truthMany_0 1 rfl rfl)
theorem dX3_truthMany_2 : decode cX3_truthMany 2 = .ok (.iconst 0, 1) := dk_3 (dk_at dksX3_truthMany_0 2 rfl rfl)
theorem dX3_truthMany_3 : decode cX3_truthMany 3 = .ok (.istore_n 2, 1) := dk_61 (dk_at dksX3_truthMany_0 3 rfl rfl)
theorem dX3_truthMany_4 : decode cX3_truthMany 4 = .ok (.iload_n 2, 1) := dk_28 (dk_at dksX3_truthMany_0 4 rfl rfl)
theorem dX3_truthMany_5 : decode cX3_truthMany 5 = .ok (.aload_n 0, 1) := dk_42 (dk_at dksX3_truthMany_0 5 rfl rfl)
theorem dX3_truthMany_6 : decode cX3_truthMany 6 = .ok (.getfield 281, 3) := dk_180 1 25 (dk_at dksX3_truthMany_0 6 rfl rfl)
theorem dX3_truthMany_9 : decode cX3_truthMany 9 = .ok (.if_icmp .ge 32, 3) := dk_162 0 32 (dk_at dksX3_truthMany_0 9 rfl rfl)
theorem dX3_truthMany_12 : decode cX3_truthMany 12 = .ok (.aload_n 0, 1) := dk_42 (dk_at dksX3_truthMany_0 12 rfl rfl)
theorem dX3_truthMany_13 : decode cX3_truthMany 13 = .ok (.getfield 64, 3) := dk_180 0 64 (dk_at dksX3_truthMany_0 13 rfl rfl)
theorem dX3_truthMany_16 : decode cX3_truthMany 16 = .ok (.iload_n 2, 1) := dk_28 (dk_at dksX3_truthMany_0 16 rfl rfl)
theorem dX3_truthMany_17 : decode cX3_truthMany 17 = .ok (.iaload, 1) := dk_46 (dk_at dksX3_truthMany_0 17 rfl rfl)
theorem dX3_truthMany_18 : decode cX3_truthMany 18 = .ok (.iconst (-1), 1) := dk_2 (dk_at dksX3_truthMany_0 18 rfl rfl)
theorem dX3_truthMany_19 : decode cX3_truthMany 19 = .ok (.if_icmp .ne 14, 3) := dk_160 0 14 (dk_at dksX3_truthMany_0 19 rfl rfl)
theorem dX3_truthMany_22 : decode cX3_truthMany 22 = .ok (.iload_n 1, 1) := dk_27 (dk_at dksX3_truthMany_0 22 rfl rfl)
theorem dX3_truthMany_23 : decode cX3_truthMany 23 = .ok (.aload_n 0, 1) := dk_42 (dk_at dksX3_truthMany_0 23 rfl rfl)
theorem dX3_truthMany_24 : decode cX3_truthMany 24 = .ok (.getfield 85, 3) := dk_180 0 85 (dk_at dksX3_truthMany_1 0 rfl rfl)
theorem dX3_truthMany_27 : decode cX3_truthMany 27 = .ok (.iload_n 2, 1) := dk_28 (dk_at dksX3_truthMany_1 3 rfl rfl)
theorem dX3_truthMany_28 : decode cX3_truthMany 28 = .ok (.iaload, 1) := dk_46 (dk_at dksX3_truthMany_1 4 rfl rfl)
theorem dX3_truthMany_29 : decode cX3_truthMany 29 = .ok (.imul, 1) := dk_104 (dk_at dksX3_truthMany_1 5 rfl rfl)
theorem dX3_truthMany_30 : decode cX3_truthMany 30 = .ok (.goto 4, 3) := dk_167 0 4 (dk_at dksX3_truthMany_1 6 rfl rfl)
theorem dX3_truthMany_33 : decode cX3_truthMany 33 = .ok (.iload_n 1, 1) := dk_27 (dk_at dksX3_truthMany_1 9 rfl rfl)
theorem dX3_truthMany_34 : decode cX3_truthMany 34 = .ok (.istore_n 1, 1) := dk_60 (dk_at dksX3_truthMany_1 10 rfl rfl)
theorem dX3_truthMany_35 : decode cX3_truthMany 35 = .ok (.iinc 2 1, 3) := dk_132 2 1 (dk_at dksX3_truthMany_1 11 rfl rfl)
theorem dX3_truthMany_38 : decode cX3_truthMany 38 = .ok (.goto (-34), 3) := dk_167 255 222 (dk_at dksX3_truthMany_1 14 rfl rfl)
theorem dX3_truthMany_41 : decode cX3_truthMany 41 = .ok (.iload_n 1, 1) := dk_27 (dk_at dksX3_truthMany_1 17 rfl rfl)
theorem dX3_truthMany_42 : decode cX3_truthMany 42 = .ok (.ireturn, 1) := dk_172 (dk_at dksX3_truthMany_1 18 rfl rfl)
abbrev cX3_truth : ByteArray := prog_23_method_77_code
def yX3_truth : MethodName := ⟨RX3, "truth", "(II)I"⟩
def dkwX3_truth_2 : List UInt8 := [182, 1, 190, 28, 184, 1, 118, 96, 4, 100, 46, 172]
abbrev dktX3_truth_2 : List UInt8 := dkwX3_truth_2 ++ []
def dkwX3_truth_1 : List UInt8 := [182, 1, 187, 4, 100, 184, 0, 220, 154, 0, 5, 2, 172, 42, 180, 0, 82, 7, 28, 104, 42, 27]
abbrev dktX3_truth_1 : List UInt8 := dkwX3_truth_1 ++ dktX3_truth_2
def dkwX3_truth_0 : List UInt8 := [42, 3, 181, 0, 131, 42, 28, 182, 1, 94, 154, 0, 5, 2, 172, 42, 182, 1, 125, 27, 3, 42]
abbrev dktX3_truth_0 : List UInt8 := dkwX3_truth_0 ++ dktX3_truth_1
theorem dksX3_truth_0 : cX3_truth.data.toList.drop 0 = dktX3_truth_0 := by decide +kernel
theorem dksX3_truth_1 : cX3_truth.data.toList.drop 22 = dktX3_truth_1 := dk_seg dksX3_truth_0 22 rfl rfl
theorem dksX3_truth_2 : cX3_truth.data.toList.drop 44 = dktX3_truth_2 := dk_seg dksX3_truth_1 22 rfl rfl
theorem dX3_truth_0 : decode cX3_truth 0 = .ok (.aload_n 0, 1) := dk_42 (dk_at dksX3_truth_0 0 rfl rfl)
theorem dX3_truth_1 : decode cX3_truth 1 = .ok (.iconst 0, 1) := dk_3 (dk_at dksX3_truth_0 1 rfl rfl)
theorem dX3_truth_2 : decode cX3_truth 2 = .ok (.putfield 131, 3) := dk_181 0 131 (dk_at dksX3_truth_0 2 rfl rfl)
theorem dX3_truth_5 : decode cX3_truth 5 = .ok (.aload_n 0, 1) := dk_42 (dk_at dksX3_truth_0 5 rfl rfl)
theorem dX3_truth_6 : decode cX3_truth 6 = .ok (.iload_n 2, 1) := dk_28 (dk_at dksX3_truth_0 6 rfl rfl)
theorem dX3_truth_7 : decode cX3_truth 7 = .ok (.invokevirtual 350, 3) := dk_182 1 94 (dk_at dksX3_truth_0 7 rfl rfl)
theorem dX3_truth_10 : decode cX3_truth 10 = .ok (.ifCond .ne 5, 3) := dk_154 0 5 (dk_at dksX3_truth_0 10 rfl rfl)
theorem dX3_truth_13 : decode cX3_truth 13 = .ok (.iconst (-1), 1) := dk_2 (dk_at dksX3_truth_0 13 rfl rfl)
theorem dX3_truth_14 : decode cX3_truth 14 = .ok (.ireturn, 1) := dk_172 (dk_at dksX3_truth_0 14 rfl rfl)
theorem dX3_truth_15 : decode cX3_truth 15 = .ok (.aload_n 0, 1) := dk_42 (dk_at dksX3_truth_0 15 rfl rfl)
theorem dX3_truth_16 : decode cX3_truth 16 = .ok (.invokevirtual 381, 3) := dk_182 1 125 (dk_at dksX3_truth_0 16 rfl rfl)
theorem dX3_truth_19 : decode cX3_truth 19 = .ok (.iload_n 1, 1) := dk_27 (dk_at dksX3_truth_0 19 rfl rfl)
theorem dX3_truth_20 : decode cX3_truth 20 = .ok (.iconst 0, 1) := dk_3 (dk_at dksX3_truth_0 20 rfl rfl)
theorem dX3_truth_21 : decode cX3_truth 21 = .ok (.aload_n 0, 1) := dk_42 (dk_at dksX3_truth_0 21 rfl rfl)
theorem dX3_truth_22 : decode cX3_truth 22 = .ok (.invokevirtual 443, 3) := dk_182 1 187 (dk_at dksX3_truth_1 0 rfl rfl)
theorem dX3_truth_25 : decode cX3_truth 25 = .ok (.iconst 1, 1) := dk_4 (dk_at dksX3_truth_1 3 rfl rfl)
theorem dX3_truth_26 : decode cX3_truth 26 = .ok (.isub, 1) := dk_100 (dk_at dksX3_truth_1 4 rfl rfl)
theorem dX3_truth_27 : decode cX3_truth 27 = .ok (.invokestatic 220, 3) := dk_184 0 220 (dk_at dksX3_truth_1 5 rfl rfl)
theorem dX3_truth_30 : decode cX3_truth 30 = .ok (.ifCond .ne 5, 3) := dk_154 0 5 (dk_at dksX3_truth_1 8 rfl rfl)
theorem dX3_truth_33 : decode cX3_truth 33 = .ok (.iconst (-1), 1) := dk_2 (dk_at dksX3_truth_1 11 rfl rfl)
theorem dX3_truth_34 : decode cX3_truth 34 = .ok (.ireturn, 1) := dk_172 (dk_at dksX3_truth_1 12 rfl rfl)
theorem dX3_truth_35 : decode cX3_truth 35 = .ok (.aload_n 0, 1) := dk_42 (dk_at dksX3_truth_1 13 rfl rfl)
theorem dX3_truth_36 : decode cX3_truth 36 = .ok (.getfield 82, 3) := dk_180 0 82 (dk_at dksX3_truth_1 14 rfl rfl)
theorem dX3_truth_39 : decode cX3_truth 39 = .ok (.iconst 4, 1) := dk_7 (dk_at dksX3_truth_1 17 rfl rfl)
theorem dX3_truth_40 : decode cX3_truth 40 = .ok (.iload_n 2, 1) := dk_28 (dk_at dksX3_truth_1 18 rfl rfl)
theorem dX3_truth_41 : decode cX3_truth 41 = .ok (.imul, 1) := dk_104 (dk_at dksX3_truth_1 19 rfl rfl)
theorem dX3_truth_42 : decode cX3_truth 42 = .ok (.aload_n 0, 1) := dk_42 (dk_at dksX3_truth_1 20 rfl rfl)
theorem dX3_truth_43 : decode cX3_truth 43 = .ok (.iload_n 1, 1) := dk_27 (dk_at dksX3_truth_1 21 rfl rfl)
theorem dX3_truth_44 : decode cX3_truth 44 = .ok (.invokevirtual 446, 3) := dk_182 1 190 (dk_at dksX3_truth_2 0 rfl rfl)
theorem dX3_truth_47 : decode cX3_truth 47 = .ok (.iload_n 2, 1) := dk_28 (dk_at dksX3_truth_2 3 rfl rfl)
theorem dX3_truth_48 : decode cX3_truth 48 = .ok (.invokestatic 374, 3) := dk_184 1 118 (dk_at dksX3_truth_2 4 rfl rfl)
theorem dX3_truth_51 : decode cX3_truth 51 = .ok (.iadd, 1) := dk_96 (dk_at dksX3_truth_2 7 rfl rfl)
theorem dX3_truth_52 : decode cX3_truth 52 = .ok (.iconst 1, 1) := dk_4 (dk_at dksX3_truth_2 8 rfl rfl)
theorem dX3_truth_53 : decode cX3_truth 53 = .ok (.isub, 1) := dk_100 (dk_at dksX3_truth_2 9 rfl rfl)
theorem dX3_truth_54 : decode cX3_truth 54 = .ok (.iaload, 1) := dk_46 (dk_at dksX3_truth_2 10 rfl rfl)
theorem dX3_truth_55 : decode cX3_truth 55 = .ok (.ireturn, 1) := dk_172 (dk_at dksX3_truth_2 11 rfl rfl)
abbrev cX3_all : ByteArray := prog_23_method_76_code
def yX3_all : MethodName := ⟨RX3, "all", "(I)I"⟩
def dkwX3_all_2 : List UInt8 := [184, 1, 112, 104, 96, 61, 29, 42, 180, 0, 85, 21, 4, 46, 108, 62, 132, 4, 255, 167, 255, 204, 28, 172]
abbrev dktX3_all_2 : List UInt8 := dkwX3_all_2 ++ []
def dkwX3_all_1 : List UInt8 := [21, 4, 46, 2, 159, 0, 6, 167, 0, 33, 28, 29, 42, 180, 0, 85, 21, 4, 46, 112, 4, 96, 21, 4]
abbrev dktX3_all_1 : List UInt8 := dkwX3_all_1 ++ dktX3_all_2
def dkwX3_all_0 : List UInt8 := [42, 182, 1, 165, 61, 27, 62, 42, 180, 1, 25, 4, 100, 54, 4, 21, 4, 155, 0, 53, 42, 180, 0, 64]
abbrev dktX3_all_0 : List UInt8 := dkwX3_all_0 ++ dktX3_all_1
theorem dksX3_all_0 : cX3_all.data.toList.drop 0 = dktX3_all_0 := by decide +kernel
theorem dksX3_all_1 : cX3_all.data.toList.drop 24 = dktX3_all_1 := dk_seg dksX3_all_0 24 rfl rfl
theorem dksX3_all_2 : cX3_all.data.toList.drop 48 = dktX3_all_2 := dk_seg dksX3_all_1 24 rfl rfl
theorem dX3_all_0 : decode cX3_all 0 = .ok (.aload_n 0, 1) := dk_42 (dk_at dksX3_all_0 0 rfl rfl)
theorem dX3_all_1 : decode cX3_all 1 = .ok (.invokevirtual 421, 3) := dk_182 1 165 (dk_at dksX3_all_0 1 rfl rfl)
theorem dX3_all_4 : decode cX3_all 4 = .ok (.istore_n 2, 1) := dk_61 (dk_at dksX3_all_0 4 rfl rfl)
theorem dX3_all_5 : decode cX3_all 5 = .ok (.iload_n 1, 1) := dk_27 (dk_at dksX3_all_0 5 rfl rfl)
theorem dX3_all_6 : decode cX3_all 6 = .ok (.istore_n 3, 1) := dk_62 (dk_at dksX3_all_0 6 rfl rfl)
theorem dX3_all_7 : decode cX3_all 7 = .ok (.aload_n 0, 1) := dk_42 (dk_at dksX3_all_0 7 rfl rfl)
theorem dX3_all_8 : decode cX3_all 8 = .ok (.getfield 281, 3) := dk_180 1 25 (dk_at dksX3_all_0 8 rfl rfl)
theorem dX3_all_11 : decode cX3_all 11 = .ok (.iconst 1, 1) := dk_4 (dk_at dksX3_all_0 11 rfl rfl)
theorem dX3_all_12 : decode cX3_all 12 = .ok (.isub, 1) := dk_100 (dk_at dksX3_all_0 12 rfl rfl)
theorem dX3_all_13 : decode cX3_all 13 = .ok (.istore 4, 2) := dk_54 4 (dk_at dksX3_all_0 13 rfl rfl)
theorem dX3_all_15 : decode cX3_all 15 = .ok (.iload 4, 2) := dk_21 4 (dk_at dksX3_all_0 15 rfl rfl)
theorem dX3_all_17 : decode cX3_all 17 = .ok (.ifCond .lt 53, 3) := dk_155 0 53 (dk_at dksX3_all_0 17 rfl rfl)
theorem dX3_all_20 : decode cX3_all 20 = .ok (.aload_n 0, 1) := dk_42 (dk_at dksX3_all_0 20 rfl rfl)
theorem dX3_all_21 : decode cX3_all 21 = .ok (.getfield 64, 3) := dk_180 0 64 (dk_at dksX3_all_0 21 rfl rfl)
theorem dX3_all_24 : decode cX3_all 24 = .ok (.iload 4, 2) := dk_21 4 (dk_at dksX3_all_1 0 rfl rfl)
theorem dX3_all_26 : decode cX3_all 26 = .ok (.iaload, 1) := dk_46 (dk_at dksX3_all_1 2 rfl rfl)
theorem dX3_all_27 : decode cX3_all 27 = .ok (.iconst (-1), 1) := dk_2 (dk_at dksX3_all_1 3 rfl rfl)
theorem dX3_all_28 : decode cX3_all 28 = .ok (.if_icmp .eq 6, 3) := dk_159 0 6 (dk_at dksX3_all_1 4 rfl rfl)
theorem dX3_all_31 : decode cX3_all 31 = .ok (.goto 33, 3) := dk_167 0 33 (dk_at dksX3_all_1 7 rfl rfl)
theorem dX3_all_34 : decode cX3_all 34 = .ok (.iload_n 2, 1) := dk_28 (dk_at dksX3_all_1 10 rfl rfl)
theorem dX3_all_35 : decode cX3_all 35 = .ok (.iload_n 3, 1) := dk_29 (dk_at dksX3_all_1 11 rfl rfl)
theorem dX3_all_36 : decode cX3_all 36 = .ok (.aload_n 0, 1) := dk_42 (dk_at dksX3_all_1 12 rfl rfl)
theorem dX3_all_37 : decode cX3_all 37 = .ok (.getfield 85, 3) := dk_180 0 85 (dk_at dksX3_all_1 13 rfl rfl)
theorem dX3_all_40 : decode cX3_all 40 = .ok (.iload 4, 2) := dk_21 4 (dk_at dksX3_all_1 16 rfl rfl)
theorem dX3_all_42 : decode cX3_all 42 = .ok (.iaload, 1) := dk_46 (dk_at dksX3_all_1 18 rfl rfl)
theorem dX3_all_43 : decode cX3_all 43 = .ok (.irem, 1) := dk_112 (dk_at dksX3_all_1 19 rfl rfl)
theorem dX3_all_44 : decode cX3_all 44 = .ok (.iconst 1, 1) := dk_4 (dk_at dksX3_all_1 20 rfl rfl)
theorem dX3_all_45 : decode cX3_all 45 = .ok (.iadd, 1) := dk_96 (dk_at dksX3_all_1 21 rfl rfl)
theorem dX3_all_46 : decode cX3_all 46 = .ok (.iload 4, 2) := dk_21 4 (dk_at dksX3_all_1 22 rfl rfl)
theorem dX3_all_48 : decode cX3_all 48 = .ok (.invokestatic 368, 3) := dk_184 1 112 (dk_at dksX3_all_2 0 rfl rfl)
theorem dX3_all_51 : decode cX3_all 51 = .ok (.imul, 1) := dk_104 (dk_at dksX3_all_2 3 rfl rfl)
theorem dX3_all_52 : decode cX3_all 52 = .ok (.iadd, 1) := dk_96 (dk_at dksX3_all_2 4 rfl rfl)
theorem dX3_all_53 : decode cX3_all 53 = .ok (.istore_n 2, 1) := dk_61 (dk_at dksX3_all_2 5 rfl rfl)
theorem dX3_all_54 : decode cX3_all 54 = .ok (.iload_n 3, 1) := dk_29 (dk_at dksX3_all_2 6 rfl rfl)
theorem dX3_all_55 : decode cX3_all 55 = .ok (.aload_n 0, 1) := dk_42 (dk_at dksX3_all_2 7 rfl rfl)
theorem dX3_all_56 : decode cX3_all 56 = .ok (.getfield 85, 3) := dk_180 0 85 (dk_at dksX3_all_2 8 rfl rfl)
theorem dX3_all_59 : decode cX3_all 59 = .ok (.iload 4, 2) := dk_21 4 (dk_at dksX3_all_2 11 rfl rfl)
theorem dX3_all_61 : decode cX3_all 61 = .ok (.iaload, 1) := dk_46 (dk_at dksX3_all_2 13 rfl rfl)
theorem dX3_all_62 : decode cX3_all 62 = .ok (.idiv, 1) := dk_108 (dk_at dksX3_all_2 14 rfl rfl)
theorem dX3_all_63 : decode cX3_all 63 = .ok (.istore_n 3, 1) := dk_62 (dk_at dksX3_all_2 15 rfl rfl)
theorem dX3_all_64 : decode cX3_all 64 = .ok (.iinc 4 (-1), 3) := dk_132 4 255 (dk_at dksX3_all_2 16 rfl rfl)
theorem dX3_all_67 : decode cX3_all 67 = .ok (.goto (-52), 3) := dk_167 255 204 (dk_at dksX3_all_2 19 rfl rfl)
theorem dX3_all_70 : decode cX3_all 70 = .ok (.iload_n 2, 1) := dk_28 (dk_at dksX3_all_2 22 rfl rfl)
theorem dX3_all_71 : decode cX3_all 71 = .ok (.ireturn, 1) := dk_172 (dk_at dksX3_all_2 23 rfl rfl)
abbrev cX3_run : ByteArray := prog_23_method_80_code
def yX3_run : MethodName := ⟨RX3, "run", "(IIZI)I"⟩
def dkwX3_run_3 : List UInt8 := [42, 4, 181, 1, 199, 42, 27, 21, 4, 182, 1, 202, 172]
abbrev dktX3_run_3 : List UInt8 := dkwX3_run_3 ++ []
def dkwX3_run_2 : List UInt8 := [4, 182, 0, 252, 172, 42, 27, 28, 29, 182, 1, 170, 9, 148, 156, 0, 10, 42, 16, 6, 182, 0, 252, 172]
abbrev dktX3_run_2 : List UInt8 := dkwX3_run_2 ++ dktX3_run_3
def dkwX3_run_1 : List UInt8 := [182, 0, 252, 172, 42, 182, 1, 125, 21, 4, 3, 42, 182, 1, 187, 4, 100, 184, 0, 220, 154, 0, 9, 42]
abbrev dktX3_run_1 : List UInt8 := dkwX3_run_1 ++ dktX3_run_2
def dkwX3_run_0 : List UInt8 := [42, 182, 0, 249, 42, 27, 182, 1, 91, 153, 0, 11, 42, 28, 182, 1, 91, 154, 0, 9, 42, 4]
abbrev dktX3_run_0 : List UInt8 := dkwX3_run_0 ++ dktX3_run_1
theorem dksX3_run_0 : cX3_run.data.toList.drop 0 = dktX3_run_0 := by decide +kernel
theorem dksX3_run_1 : cX3_run.data.toList.drop 22 = dktX3_run_1 := dk_seg dksX3_run_0 22 rfl rfl
theorem dksX3_run_2 : cX3_run.data.toList.drop 46 = dktX3_run_2 := dk_seg dksX3_run_1 24 rfl rfl
theorem dksX3_run_3 : cX3_run.data.toList.drop 70 = dktX3_run_3 := dk_seg dksX3_run_2 24 rfl rfl
theorem dX3_run_0 : decode cX3_run 0 = .ok (.aload_n 0, 1) := dk_42 (dk_at dksX3_run_0 0 rfl rfl)
theorem dX3_run_1 : decode cX3_run 1 = .ok (.invokevirtual 249, 3) := dk_182 0 249 (dk_at dksX3_run_0 1 rfl rfl)
theorem dX3_run_4 : decode cX3_run 4 = .ok (.aload_n 0, 1) := dk_42 (dk_at dksX3_run_0 4 rfl rfl)
theorem dX3_run_5 : decode cX3_run 5 = .ok (.iload_n 1, 1) := dk_27 (dk_at dksX3_run_0 5 rfl rfl)
theorem dX3_run_6 : decode cX3_run 6 = .ok (.invokevirtual 347, 3) := dk_182 1 91 (dk_at dksX3_run_0 6 rfl rfl)
theorem dX3_run_9 : decode cX3_run 9 = .ok (.ifCond .eq 11, 3) := dk_153 0 11 (dk_at dksX3_run_0 9 rfl rfl)
theorem dX3_run_12 : decode cX3_run 12 = .ok (.aload_n 0, 1) := dk_42 (dk_at dksX3_run_0 12 rfl rfl)
theorem dX3_run_13 : decode cX3_run 13 = .ok (.iload_n 2, 1) := dk_28 (dk_at dksX3_run_0 13 rfl rfl)
theorem dX3_run_14 : decode cX3_run 14 = .ok (.invokevirtual 347, 3) := dk_182 1 91 (dk_at dksX3_run_0 14 rfl rfl)
theorem dX3_run_17 : decode cX3_run 17 = .ok (.ifCond .ne 9, 3) := dk_154 0 9 (dk_at dksX3_run_0 17 rfl rfl)
theorem dX3_run_20 : decode cX3_run 20 = .ok (.aload_n 0, 1) := dk_42 (dk_at dksX3_run_0 20 rfl rfl)
theorem dX3_run_21 : decode cX3_run 21 = .ok (.iconst 1, 1) := dk_4 (dk_at dksX3_run_0 21 rfl rfl)
theorem dX3_run_22 : decode cX3_run 22 = .ok (.invokevirtual 252, 3) := dk_182 0 252 (dk_at dksX3_run_1 0 rfl rfl)
theorem dX3_run_25 : decode cX3_run 25 = .ok (.ireturn, 1) := dk_172 (dk_at dksX3_run_1 3 rfl rfl)
theorem dX3_run_26 : decode cX3_run 26 = .ok (.aload_n 0, 1) := dk_42 (dk_at dksX3_run_1 4 rfl rfl)
theorem dX3_run_27 : decode cX3_run 27 = .ok (.invokevirtual 381, 3) := dk_182 1 125 (dk_at dksX3_run_1 5 rfl rfl)
theorem dX3_run_30 : decode cX3_run 30 = .ok (.iload 4, 2) := dk_21 4 (dk_at dksX3_run_1 8 rfl rfl)
theorem dX3_run_32 : decode cX3_run 32 = .ok (.iconst 0, 1) := dk_3 (dk_at dksX3_run_1 10 rfl rfl)
theorem dX3_run_33 : decode cX3_run 33 = .ok (.aload_n 0, 1) := dk_42 (dk_at dksX3_run_1 11 rfl rfl)
theorem dX3_run_34 : decode cX3_run 34 = .ok (.invokevirtual 443, 3) := dk_182 1 187 (dk_at dksX3_run_1 12 rfl rfl)
theorem dX3_run_37 : decode cX3_run 37 = .ok (.iconst 1, 1) := dk_4 (dk_at dksX3_run_1 15 rfl rfl)
theorem dX3_run_38 : decode cX3_run 38 = .ok (.isub, 1) := dk_100 (dk_at dksX3_run_1 16 rfl rfl)
theorem dX3_run_39 : decode cX3_run 39 = .ok (.invokestatic 220, 3) := dk_184 0 220 (dk_at dksX3_run_1 17 rfl rfl)
theorem dX3_run_42 : decode cX3_run 42 = .ok (.ifCond .ne 9, 3) := dk_154 0 9 (dk_at dksX3_run_1 20 rfl rfl)
theorem dX3_run_45 : decode cX3_run 45 = .ok (.aload_n 0, 1) := dk_42 (dk_at dksX3_run_1 23 rfl rfl)
theorem dX3_run_46 : decode cX3_run 46 = .ok (.iconst 1, 1) := dk_4 (dk_at dksX3_run_2 0 rfl rfl)
theorem dX3_run_47 : decode cX3_run 47 = .ok (.invokevirtual 252, 3) := dk_182 0 252 (dk_at dksX3_run_2 1 rfl rfl)
theorem dX3_run_50 : decode cX3_run 50 = .ok (.ireturn, 1) := dk_172 (dk_at dksX3_run_2 4 rfl rfl)
theorem dX3_run_51 : decode cX3_run 51 = .ok (.aload_n 0, 1) := dk_42 (dk_at dksX3_run_2 5 rfl rfl)
theorem dX3_run_52 : decode cX3_run 52 = .ok (.iload_n 1, 1) := dk_27 (dk_at dksX3_run_2 6 rfl rfl)
theorem dX3_run_53 : decode cX3_run 53 = .ok (.iload_n 2, 1) := dk_28 (dk_at dksX3_run_2 7 rfl rfl)
theorem dX3_run_54 : decode cX3_run 54 = .ok (.iload_n 3, 1) := dk_29 (dk_at dksX3_run_2 8 rfl rfl)
theorem dX3_run_55 : decode cX3_run 55 = .ok (.invokevirtual 426, 3) := dk_182 1 170 (dk_at dksX3_run_2 9 rfl rfl)
theorem dX3_run_58 : decode cX3_run 58 = .ok (.lconst 0, 1) := dk_9 (dk_at dksX3_run_2 12 rfl rfl)
theorem dX3_run_59 : decode cX3_run 59 = .ok (.lcmp, 1) := dk_148 (dk_at dksX3_run_2 13 rfl rfl)
theorem dX3_run_60 : decode cX3_run 60 = .ok (.ifCond .ge 10, 3) := dk_156 0 10 (dk_at dksX3_run_2 14 rfl rfl)
theorem dX3_run_63 : decode cX3_run 63 = .ok (.aload_n 0, 1) := dk_42 (dk_at dksX3_run_2 17 rfl rfl)
theorem dX3_run_64 : decode cX3_run 64 = .ok (.bipush 6, 2) := dk_16 6 (dk_at dksX3_run_2 18 rfl rfl)
theorem dX3_run_66 : decode cX3_run 66 = .ok (.invokevirtual 252, 3) := dk_182 0 252 (dk_at dksX3_run_2 20 rfl rfl)
theorem dX3_run_69 : decode cX3_run 69 = .ok (.ireturn, 1) := dk_172 (dk_at dksX3_run_2 23 rfl rfl)
theorem dX3_run_70 : decode cX3_run 70 = .ok (.aload_n 0, 1) := dk_42 (dk_at dksX3_run_3 0 rfl rfl)
theorem dX3_run_71 : decode cX3_run 71 = .ok (.iconst 1, 1) := dk_4 (dk_at dksX3_run_3 1 rfl rfl)
theorem dX3_run_72 : decode cX3_run 72 = .ok (.putfield 455, 3) := dk_181 1 199 (dk_at dksX3_run_3 2 rfl rfl)
theorem dX3_run_75 : decode cX3_run 75 = .ok (.aload_n 0, 1) := dk_42 (dk_at dksX3_run_3 5 rfl rfl)
theorem dX3_run_76 : decode cX3_run 76 = .ok (.iload_n 1, 1) := dk_27 (dk_at dksX3_run_3 6 rfl rfl)
theorem dX3_run_77 : decode cX3_run 77 = .ok (.iload 4, 2) := dk_21 4 (dk_at dksX3_run_3 7 rfl rfl)
theorem dX3_run_79 : decode cX3_run 79 = .ok (.invokevirtual 458, 3) := dk_182 1 202 (dk_at dksX3_run_3 9 rfl rfl)
theorem dX3_run_82 : decode cX3_run 82 = .ok (.ireturn, 1) := dk_172 (dk_at dksX3_run_3 12 rfl rfl)
abbrev cX3_goes : ByteArray := prog_23_method_79_code
def yX3_goes : MethodName := ⟨RX3, "goes", "(II)I"⟩
def dkwX3_goes_5 : List UInt8 := [182, 1, 97, 54, 5, 167, 255, 161, 21, 6, 172]
abbrev dktX3_goes_5 : List UInt8 := dkwX3_goes_5 ++ []
def dkwX3_goes_4 : List UInt8 := [21, 6, 42, 180, 0, 119, 7, 21, 5, 104, 21, 8, 96, 46, 96, 54, 6, 42, 21, 5, 21, 8]
abbrev dktX3_goes_4 : List UInt8 := dkwX3_goes_4 ++ dktX3_goes_5
def dkwX3_goes_3 : List UInt8 := [54, 8, 21, 8, 7, 162, 0, 7, 4, 167, 0, 4, 3, 54, 7, 21, 7, 154, 0, 6, 167, 255, 191]
abbrev dktX3_goes_3 : List UInt8 := dkwX3_goes_3 ++ dktX3_goes_4
def dkwX3_goes_2 : List UInt8 := [96, 181, 1, 193, 42, 21, 4, 21, 5, 29, 182, 1, 196, 54, 4, 42, 21, 5, 21, 4, 182, 1, 184]
abbrev dktX3_goes_2 : List UInt8 := dkwX3_goes_2 ++ dktX3_goes_3
def dkwX3_goes_1 : List UInt8 := [54, 7, 21, 7, 153, 0, 96, 42, 180, 0, 88, 42, 180, 1, 193, 21, 5, 79, 42, 89, 180, 1, 193, 4]
abbrev dktX3_goes_1 : List UInt8 := dkwX3_goes_1 ++ dktX3_goes_2
def dkwX3_goes_0 : List UInt8 := [42, 28, 182, 1, 190, 62, 42, 182, 1, 165, 54, 4, 27, 54, 5, 3, 54, 6, 42, 3, 181, 1, 193, 4]
abbrev dktX3_goes_0 : List UInt8 := dkwX3_goes_0 ++ dktX3_goes_1
theorem dksX3_goes_0 : cX3_goes.data.toList.drop 0 = dktX3_goes_0 := by decide +kernel
theorem dksX3_goes_1 : cX3_goes.data.toList.drop 24 = dktX3_goes_1 := dk_seg dksX3_goes_0 24 rfl rfl
theorem dksX3_goes_2 : cX3_goes.data.toList.drop 48 = dktX3_goes_2 := dk_seg dksX3_goes_1 24 rfl rfl
theorem dksX3_goes_3 : cX3_goes.data.toList.drop 71 = dktX3_goes_3 := dk_seg dksX3_goes_2 23 rfl rfl
theorem dksX3_goes_4 : cX3_goes.data.toList.drop 94 = dktX3_goes_4 := dk_seg dksX3_goes_3 23 rfl rfl
theorem dksX3_goes_5 : cX3_goes.data.toList.drop 116 = dktX3_goes_5 := dk_seg dksX3_goes_4 22 rfl rfl
theorem dX3_goes_0 : decode cX3_goes 0 = .ok (.aload_n 0, 1) := dk_42 (dk_at dksX3_goes_0 0 rfl rfl)
theorem dX3_goes_1 : decode cX3_goes 1 = .ok (.iload_n 2, 1) := dk_28 (dk_at dksX3_goes_0 1 rfl rfl)
theorem dX3_goes_2 : decode cX3_goes 2 = .ok (.invokevirtual 446, 3) := dk_182 1 190 (dk_at dksX3_goes_0 2 rfl rfl)
theorem dX3_goes_5 : decode cX3_goes 5 = .ok (.istore_n 3, 1) := dk_62 (dk_at dksX3_goes_0 5 rfl rfl)
theorem dX3_goes_6 : decode cX3_goes 6 = .ok (.aload_n 0, 1) := dk_42 (dk_at dksX3_goes_0 6 rfl rfl)
theorem dX3_goes_7 : decode cX3_goes 7 = .ok (.invokevirtual 421, 3) := dk_182 1 165 (dk_at dksX3_goes_0 7 rfl rfl)
theorem dX3_goes_10 : decode cX3_goes 10 = .ok (.istore 4, 2) := dk_54 4 (dk_at dksX3_goes_0 10 rfl rfl)
theorem dX3_goes_12 : decode cX3_goes 12 = .ok (.iload_n 1, 1) := dk_27 (dk_at dksX3_goes_0 12 rfl rfl)
theorem dX3_goes_13 : decode cX3_goes 13 = .ok (.istore 5, 2) := dk_54 5 (dk_at dksX3_goes_0 13 rfl rfl)
theorem dX3_goes_15 : decode cX3_goes 15 = .ok (.iconst 0, 1) := dk_3 (dk_at dksX3_goes_0 15 rfl rfl)
theorem dX3_goes_16 : decode cX3_goes 16 = .ok (.istore 6, 2) := dk_54 6 (dk_at dksX3_goes_0 16 rfl rfl)
theorem dX3_goes_18 : decode cX3_goes 18 = .ok (.aload_n 0, 1) := dk_42 (dk_at dksX3_goes_0 18 rfl rfl)
theorem dX3_goes_19 : decode cX3_goes 19 = .ok (.iconst 0, 1) := dk_3 (dk_at dksX3_goes_0 19 rfl rfl)
theorem dX3_goes_20 : decode cX3_goes 20 = .ok (.putfield 449, 3) := dk_181 1 193 (dk_at dksX3_goes_0 20 rfl rfl)
theorem dX3_goes_23 : decode cX3_goes 23 = .ok (.iconst 1, 1) := dk_4 (dk_at dksX3_goes_0 23 rfl rfl)
theorem dX3_goes_24 : decode cX3_goes 24 = .ok (.istore 7, 2) := dk_54 7 (dk_at dksX3_goes_1 0 rfl rfl)
theorem dX3_goes_26 : decode cX3_goes 26 = .ok (.iload 7, 2) := dk_21 7 (dk_at dksX3_goes_1 2 rfl rfl)
theorem dX3_goes_28 : decode cX3_goes 28 = .ok (.ifCond .eq 96, 3) := dk_153 0 96 (dk_at dksX3_goes_1 4 rfl rfl)
theorem dX3_goes_31 : decode cX3_goes 31 = .ok (.aload_n 0, 1) := dk_42 (dk_at dksX3_goes_1 7 rfl rfl)
theorem dX3_goes_32 : decode cX3_goes 32 = .ok (.getfield 88, 3) := dk_180 0 88 (dk_at dksX3_goes_1 8 rfl rfl)
theorem dX3_goes_35 : decode cX3_goes 35 = .ok (.aload_n 0, 1) := dk_42 (dk_at dksX3_goes_1 11 rfl rfl)
theorem dX3_goes_36 : decode cX3_goes 36 = .ok (.getfield 449, 3) := dk_180 1 193 (dk_at dksX3_goes_1 12 rfl rfl)
theorem dX3_goes_39 : decode cX3_goes 39 = .ok (.iload 5, 2) := dk_21 5 (dk_at dksX3_goes_1 15 rfl rfl)
theorem dX3_goes_41 : decode cX3_goes 41 = .ok (.iastore, 1) := dk_79 (dk_at dksX3_goes_1 17 rfl rfl)
theorem dX3_goes_42 : decode cX3_goes 42 = .ok (.aload_n 0, 1) := dk_42 (dk_at dksX3_goes_1 18 rfl rfl)
theorem dX3_goes_43 : decode cX3_goes 43 = .ok (.dup, 1) := dk_89 (dk_at dksX3_goes_1 19 rfl rfl)
theorem dX3_goes_44 : decode cX3_goes 44 = .ok (.getfield 449, 3) := dk_180 1 193 (dk_at dksX3_goes_1 20 rfl rfl)
theorem dX3_goes_47 : decode cX3_goes 47 = .ok (.iconst 1, 1) := dk_4 (dk_at dksX3_goes_1 23 rfl rfl)
theorem dX3_goes_48 : decode cX3_goes 48 = .ok (.iadd, 1) := dk_96 (dk_at dksX3_goes_2 0 rfl rfl)
theorem dX3_goes_49 : decode cX3_goes 49 = .ok (.putfield 449, 3) := dk_181 1 193 (dk_at dksX3_goes_2 1 rfl rfl)
theorem dX3_goes_52 : decode cX3_goes 52 = .ok (.aload_n 0, 1) := dk_42 (dk_at dksX3_goes_2 4 rfl rfl)
theorem dX3_goes_53 : decode cX3_goes 53 = .ok (.iload 4, 2) := dk_21 4 (dk_at dksX3_goes_2 5 rfl rfl)
theorem dX3_goes_55 : decode cX3_goes 55 = .ok (.iload 5, 2) := dk_21 5 (dk_at dksX3_goes_2 7 rfl rfl)
theorem dX3_goes_57 : decode cX3_goes 57 = .ok (.iload_n 3, 1) := dk_29 (dk_at dksX3_goes_2 9 rfl rfl)
theorem dX3_goes_58 : decode cX3_goes 58 = .ok (.invokevirtual 452, 3) := dk_182 1 196 (dk_at dksX3_goes_2 10 rfl rfl)
theorem dX3_goes_61 : decode cX3_goes 61 = .ok (.istore 4, 2) := dk_54 4 (dk_at dksX3_goes_2 13 rfl rfl)
theorem dX3_goes_63 : decode cX3_goes 63 = .ok (.aload_n 0, 1) := dk_42 (dk_at dksX3_goes_2 15 rfl rfl)
theorem dX3_goes_64 : decode cX3_goes 64 = .ok (.iload 5, 2) := dk_21 5 (dk_at dksX3_goes_2 16 rfl rfl)
theorem dX3_goes_66 : decode cX3_goes 66 = .ok (.iload 4, 2) := dk_21 4 (dk_at dksX3_goes_2 18 rfl rfl)
theorem dX3_goes_68 : decode cX3_goes 68 = .ok (.invokevirtual 440, 3) := dk_182 1 184 (dk_at dksX3_goes_2 20 rfl rfl)
theorem dX3_goes_71 : decode cX3_goes 71 = .ok (.istore 8, 2) := dk_54 8 (dk_at dksX3_goes_3 0 rfl rfl)
theorem dX3_goes_73 : decode cX3_goes 73 = .ok (.iload 8, 2) := dk_21 8 (dk_at dksX3_goes_3 2 rfl rfl)
theorem dX3_goes_75 : decode cX3_goes 75 = .ok (.iconst 4, 1) := dk_7 (dk_at dksX3_goes_3 4 rfl rfl)
theorem dX3_goes_76 : decode cX3_goes 76 = .ok (.if_icmp .ge 7, 3) := dk_162 0 7 (dk_at dksX3_goes_3 5 rfl rfl)
theorem dX3_goes_79 : decode cX3_goes 79 = .ok (.iconst 1, 1) := dk_4 (dk_at dksX3_goes_3 8 rfl rfl)
theorem dX3_goes_80 : decode cX3_goes 80 = .ok (.goto 4, 3) := dk_167 0 4 (dk_at dksX3_goes_3 9 rfl rfl)
theorem dX3_goes_83 : decode cX3_goes 83 = .ok (.iconst 0, 1) := dk_3 (dk_at dksX3_goes_3 12 rfl rfl)
theorem dX3_goes_84 : decode cX3_goes 84 = .ok (.istore 7, 2) := dk_54 7 (dk_at dksX3_goes_3 13 rfl rfl)
theorem dX3_goes_86 : decode cX3_goes 86 = .ok (.iload 7, 2) := dk_21 7 (dk_at dksX3_goes_3 15 rfl rfl)
theorem dX3_goes_88 : decode cX3_goes 88 = .ok (.ifCond .ne 6, 3) := dk_154 0 6 (dk_at dksX3_goes_3 17 rfl rfl)
theorem dX3_goes_91 : decode cX3_goes 91 = .ok (.goto (-65), 3) := dk_167 255 191 (dk_at dksX3_goes_3 20 rfl rfl)
theorem dX3_goes_94 : decode cX3_goes 94 = .ok (.iload 6, 2) := dk_21 6 (dk_at dksX3_goes_4 0 rfl rfl)
theorem dX3_goes_96 : decode cX3_goes 96 = .ok (.aload_n 0, 1) := dk_42 (dk_at dksX3_goes_4 2 rfl rfl)
theorem dX3_goes_97 : decode cX3_goes 97 = .ok (.getfield 119, 3) := dk_180 0 119 (dk_at dksX3_goes_4 3 rfl rfl)
theorem dX3_goes_100 : decode cX3_goes 100 = .ok (.iconst 4, 1) := dk_7 (dk_at dksX3_goes_4 6 rfl rfl)
theorem dX3_goes_101 : decode cX3_goes 101 = .ok (.iload 5, 2) := dk_21 5 (dk_at dksX3_goes_4 7 rfl rfl)
theorem dX3_goes_103 : decode cX3_goes 103 = .ok (.imul, 1) := dk_104 (dk_at dksX3_goes_4 9 rfl rfl)
theorem dX3_goes_104 : decode cX3_goes 104 = .ok (.iload 8, 2) := dk_21 8 (dk_at dksX3_goes_4 10 rfl rfl)
theorem dX3_goes_106 : decode cX3_goes 106 = .ok (.iadd, 1) := dk_96 (dk_at dksX3_goes_4 12 rfl rfl)
theorem dX3_goes_107 : decode cX3_goes 107 = .ok (.iaload, 1) := dk_46 (dk_at dksX3_goes_4 13 rfl rfl)
theorem dX3_goes_108 : decode cX3_goes 108 = .ok (.iadd, 1) := dk_96 (dk_at dksX3_goes_4 14 rfl rfl)
theorem dX3_goes_109 : decode cX3_goes 109 = .ok (.istore 6, 2) := dk_54 6 (dk_at dksX3_goes_4 15 rfl rfl)
theorem dX3_goes_111 : decode cX3_goes 111 = .ok (.aload_n 0, 1) := dk_42 (dk_at dksX3_goes_4 17 rfl rfl)
theorem dX3_goes_112 : decode cX3_goes 112 = .ok (.iload 5, 2) := dk_21 5 (dk_at dksX3_goes_4 18 rfl rfl)
theorem dX3_goes_114 : decode cX3_goes 114 = .ok (.iload 8, 2) := dk_21 8 (dk_at dksX3_goes_4 20 rfl rfl)
theorem dX3_goes_116 : decode cX3_goes 116 = .ok (.invokevirtual 353, 3) := dk_182 1 97 (dk_at dksX3_goes_5 0 rfl rfl)
theorem dX3_goes_119 : decode cX3_goes 119 = .ok (.istore 5, 2) := dk_54 5 (dk_at dksX3_goes_5 3 rfl rfl)
theorem dX3_goes_121 : decode cX3_goes 121 = .ok (.goto (-95), 3) := dk_167 255 161 (dk_at dksX3_goes_5 5 rfl rfl)
theorem dX3_goes_124 : decode cX3_goes 124 = .ok (.iload 6, 2) := dk_21 6 (dk_at dksX3_goes_5 8 rfl rfl)
theorem dX3_goes_126 : decode cX3_goes 126 = .ok (.ireturn, 1) := dk_172 (dk_at dksX3_goes_5 10 rfl rfl)
abbrev cX3_sees : ByteArray := prog_23_method_78_code
def yX3_sees : MethodName := ⟨RX3, "sees", "(III)I"⟩
def dkwX3_sees_2 : List UInt8 := [184, 1, 112, 104, 96, 54, 4, 132, 5, 1, 167, 255, 207, 21, 4, 172]
abbrev dktX3_sees_2 : List UInt8 := dkwX3_sees_2 ++ []
def dkwX3_sees_1 : List UInt8 := [154, 0, 30, 42, 28, 21, 5, 182, 1, 128, 153, 0, 20, 21, 4, 29, 21, 5, 184, 1, 118, 21, 5]
abbrev dktX3_sees_1 : List UInt8 := dkwX3_sees_1 ++ dktX3_sees_2
def dkwX3_sees_0 : List UInt8 := [27, 54, 4, 3, 54, 5, 21, 5, 42, 180, 1, 25, 162, 0, 46, 21, 4, 21, 5, 184, 1, 118]
abbrev dktX3_sees_0 : List UInt8 := dkwX3_sees_0 ++ dktX3_sees_1
theorem dksX3_sees_0 : cX3_sees.data.toList.drop 0 = dktX3_sees_0 := by decide +kernel
theorem dksX3_sees_1 : cX3_sees.data.toList.drop 22 = dktX3_sees_1 := dk_seg dksX3_sees_0 22 rfl rfl
theorem dksX3_sees_2 : cX3_sees.data.toList.drop 45 = dktX3_sees_2 := dk_seg dksX3_sees_1 23 rfl rfl
theorem dX3_sees_0 : decode cX3_sees 0 = .ok (.iload_n 1, 1) := dk_27 (dk_at dksX3_sees_0 0 rfl rfl)
theorem dX3_sees_1 : decode cX3_sees 1 = .ok (.istore 4, 2) := dk_54 4 (dk_at dksX3_sees_0 1 rfl rfl)
theorem dX3_sees_3 : decode cX3_sees 3 = .ok (.iconst 0, 1) := dk_3 (dk_at dksX3_sees_0 3 rfl rfl)
theorem dX3_sees_4 : decode cX3_sees 4 = .ok (.istore 5, 2) := dk_54 5 (dk_at dksX3_sees_0 4 rfl rfl)
theorem dX3_sees_6 : decode cX3_sees 6 = .ok (.iload 5, 2) := dk_21 5 (dk_at dksX3_sees_0 6 rfl rfl)
theorem dX3_sees_8 : decode cX3_sees 8 = .ok (.aload_n 0, 1) := dk_42 (dk_at dksX3_sees_0 8 rfl rfl)
theorem dX3_sees_9 : decode cX3_sees 9 = .ok (.getfield 281, 3) := dk_180 1 25 (dk_at dksX3_sees_0 9 rfl rfl)
theorem dX3_sees_12 : decode cX3_sees 12 = .ok (.if_icmp .ge 46, 3) := dk_162 0 46 (dk_at dksX3_sees_0 12 rfl rfl)
theorem dX3_sees_15 : decode cX3_sees 15 = .ok (.iload 4, 2) := dk_21 4 (dk_at dksX3_sees_0 15 rfl rfl)
theorem dX3_sees_17 : decode cX3_sees 17 = .ok (.iload 5, 2) := dk_21 5 (dk_at dksX3_sees_0 17 rfl rfl)
theorem dX3_sees_19 : decode cX3_sees 19 = .ok (.invokestatic 374, 3) := dk_184 1 118 (dk_at dksX3_sees_0 19 rfl rfl)
theorem dX3_sees_22 : decode cX3_sees 22 = .ok (.ifCond .ne 30, 3) := dk_154 0 30 (dk_at dksX3_sees_1 0 rfl rfl)
theorem dX3_sees_25 : decode cX3_sees 25 = .ok (.aload_n 0, 1) := dk_42 (dk_at dksX3_sees_1 3 rfl rfl)
theorem dX3_sees_26 : decode cX3_sees 26 = .ok (.iload_n 2, 1) := dk_28 (dk_at dksX3_sees_1 4 rfl rfl)
theorem dX3_sees_27 : decode cX3_sees 27 = .ok (.iload 5, 2) := dk_21 5 (dk_at dksX3_sees_1 5 rfl rfl)
theorem dX3_sees_29 : decode cX3_sees 29 = .ok (.invokevirtual 384, 3) := dk_182 1 128 (dk_at dksX3_sees_1 7 rfl rfl)
theorem dX3_sees_32 : decode cX3_sees 32 = .ok (.ifCond .eq 20, 3) := dk_153 0 20 (dk_at dksX3_sees_1 10 rfl rfl)
theorem dX3_sees_35 : decode cX3_sees 35 = .ok (.iload 4, 2) := dk_21 4 (dk_at dksX3_sees_1 13 rfl rfl)
theorem dX3_sees_37 : decode cX3_sees 37 = .ok (.iload_n 3, 1) := dk_29 (dk_at dksX3_sees_1 15 rfl rfl)
theorem dX3_sees_38 : decode cX3_sees 38 = .ok (.iload 5, 2) := dk_21 5 (dk_at dksX3_sees_1 16 rfl rfl)
theorem dX3_sees_40 : decode cX3_sees 40 = .ok (.invokestatic 374, 3) := dk_184 1 118 (dk_at dksX3_sees_1 18 rfl rfl)
theorem dX3_sees_43 : decode cX3_sees 43 = .ok (.iload 5, 2) := dk_21 5 (dk_at dksX3_sees_1 21 rfl rfl)
theorem dX3_sees_45 : decode cX3_sees 45 = .ok (.invokestatic 368, 3) := dk_184 1 112 (dk_at dksX3_sees_2 0 rfl rfl)
theorem dX3_sees_48 : decode cX3_sees 48 = .ok (.imul, 1) := dk_104 (dk_at dksX3_sees_2 3 rfl rfl)
theorem dX3_sees_49 : decode cX3_sees 49 = .ok (.iadd, 1) := dk_96 (dk_at dksX3_sees_2 4 rfl rfl)
theorem dX3_sees_50 : decode cX3_sees 50 = .ok (.istore 4, 2) := dk_54 4 (dk_at dksX3_sees_2 5 rfl rfl)
theorem dX3_sees_52 : decode cX3_sees 52 = .ok (.iinc 5 1, 3) := dk_132 5 1 (dk_at dksX3_sees_2 7 rfl rfl)
theorem dX3_sees_55 : decode cX3_sees 55 = .ok (.goto (-49), 3) := dk_167 255 207 (dk_at dksX3_sees_2 10 rfl rfl)
theorem dX3_sees_58 : decode cX3_sees 58 = .ok (.iload 4, 2) := dk_21 4 (dk_at dksX3_sees_2 13 rfl rfl)
theorem dX3_sees_60 : decode cX3_sees 60 = .ok (.ireturn, 1) := dk_172 (dk_at dksX3_sees_2 15 rfl rfl)
abbrev cX3_led : ByteArray := prog_23_method_81_code
def yX3_led : MethodName := ⟨RX3, "led", "(I)I"⟩
def dkwX3_led_2 : List UInt8 := [172]
abbrev dktX3_led_2 : List UInt8 := dkwX3_led_2 ++ []
def dkwX3_led_1 : List UInt8 := [167, 0, 4, 4, 181, 0, 131, 42, 180, 0, 131, 158, 0, 7, 3, 167, 0, 9, 42, 180, 0, 88, 27, 46]
abbrev dktX3_led_1 : List UInt8 := dkwX3_led_1 ++ dktX3_led_2
def dkwX3_led_0 : List UInt8 := [42, 42, 180, 1, 199, 153, 0, 21, 27, 3, 42, 180, 1, 193, 4, 100, 184, 0, 220, 153, 0, 7, 3]
abbrev dktX3_led_0 : List UInt8 := dkwX3_led_0 ++ dktX3_led_1
theorem dksX3_led_0 : cX3_led.data.toList.drop 0 = dktX3_led_0 := by decide +kernel
theorem dksX3_led_1 : cX3_led.data.toList.drop 23 = dktX3_led_1 := dk_seg dksX3_led_0 23 rfl rfl
theorem dksX3_led_2 : cX3_led.data.toList.drop 47 = dktX3_led_2 := dk_seg dksX3_led_1 24 rfl rfl
theorem dX3_led_0 : decode cX3_led 0 = .ok (.aload_n 0, 1) := dk_42 (dk_at dksX3_led_0 0 rfl rfl)
theorem dX3_led_1 : decode cX3_led 1 = .ok (.aload_n 0, 1) := dk_42 (dk_at dksX3_led_0 1 rfl rfl)
theorem dX3_led_2 : decode cX3_led 2 = .ok (.getfield 455, 3) := dk_180 1 199 (dk_at dksX3_led_0 2 rfl rfl)
theorem dX3_led_5 : decode cX3_led 5 = .ok (.ifCond .eq 21, 3) := dk_153 0 21 (dk_at dksX3_led_0 5 rfl rfl)
theorem dX3_led_8 : decode cX3_led 8 = .ok (.iload_n 1, 1) := dk_27 (dk_at dksX3_led_0 8 rfl rfl)
theorem dX3_led_9 : decode cX3_led 9 = .ok (.iconst 0, 1) := dk_3 (dk_at dksX3_led_0 9 rfl rfl)
theorem dX3_led_10 : decode cX3_led 10 = .ok (.aload_n 0, 1) := dk_42 (dk_at dksX3_led_0 10 rfl rfl)
theorem dX3_led_11 : decode cX3_led 11 = .ok (.getfield 449, 3) := dk_180 1 193 (dk_at dksX3_led_0 11 rfl rfl)
theorem dX3_led_14 : decode cX3_led 14 = .ok (.iconst 1, 1) := dk_4 (dk_at dksX3_led_0 14 rfl rfl)
theorem dX3_led_15 : decode cX3_led 15 = .ok (.isub, 1) := dk_100 (dk_at dksX3_led_0 15 rfl rfl)
theorem dX3_led_16 : decode cX3_led 16 = .ok (.invokestatic 220, 3) := dk_184 0 220 (dk_at dksX3_led_0 16 rfl rfl)
theorem dX3_led_19 : decode cX3_led 19 = .ok (.ifCond .eq 7, 3) := dk_153 0 7 (dk_at dksX3_led_0 19 rfl rfl)
theorem dX3_led_22 : decode cX3_led 22 = .ok (.iconst 0, 1) := dk_3 (dk_at dksX3_led_0 22 rfl rfl)
theorem dX3_led_23 : decode cX3_led 23 = .ok (.goto 4, 3) := dk_167 0 4 (dk_at dksX3_led_1 0 rfl rfl)
theorem dX3_led_26 : decode cX3_led 26 = .ok (.iconst 1, 1) := dk_4 (dk_at dksX3_led_1 3 rfl rfl)
theorem dX3_led_27 : decode cX3_led 27 = .ok (.putfield 131, 3) := dk_181 0 131 (dk_at dksX3_led_1 4 rfl rfl)
theorem dX3_led_30 : decode cX3_led 30 = .ok (.aload_n 0, 1) := dk_42 (dk_at dksX3_led_1 7 rfl rfl)
theorem dX3_led_31 : decode cX3_led 31 = .ok (.getfield 131, 3) := dk_180 0 131 (dk_at dksX3_led_1 8 rfl rfl)
theorem dX3_led_34 : decode cX3_led 34 = .ok (.ifCond .le 7, 3) := dk_158 0 7 (dk_at dksX3_led_1 11 rfl rfl)
theorem dX3_led_37 : decode cX3_led 37 = .ok (.iconst 0, 1) := dk_3 (dk_at dksX3_led_1 14 rfl rfl)
theorem dX3_led_38 : decode cX3_led 38 = .ok (.goto 9, 3) := dk_167 0 9 (dk_at dksX3_led_1 15 rfl rfl)
theorem dX3_led_41 : decode cX3_led 41 = .ok (.aload_n 0, 1) := dk_42 (dk_at dksX3_led_1 18 rfl rfl)
theorem dX3_led_42 : decode cX3_led 42 = .ok (.getfield 88, 3) := dk_180 0 88 (dk_at dksX3_led_1 19 rfl rfl)
theorem dX3_led_45 : decode cX3_led 45 = .ok (.iload_n 1, 1) := dk_27 (dk_at dksX3_led_1 22 rfl rfl)
theorem dX3_led_46 : decode cX3_led 46 = .ok (.iaload, 1) := dk_46 (dk_at dksX3_led_1 23 rfl rfl)
theorem dX3_led_47 : decode cX3_led 47 = .ok (.ireturn, 1) := dk_172 (dk_at dksX3_led_2 0 rfl rfl)
abbrev cX3_regret : ByteArray := prog_23_method_82_code
def yX3_regret : MethodName := ⟨RX3, "regret", "(II)I"⟩
def dkwX3_regret_7 : List UInt8 := [21, 5, 42, 180, 0, 128, 21, 5, 46, 79, 132, 5, 1, 167, 255, 233, 21, 4, 172]
abbrev dktX3_regret_7 : List UInt8 := dkwX3_regret_7 ++ []
def dkwX3_regret_6 : List UInt8 := [132, 5, 1, 167, 255, 201, 42, 29, 181, 1, 193, 3, 54, 5, 21, 5, 29, 162, 0, 23, 42, 180, 0, 88]
abbrev dktX3_regret_6 : List UInt8 := dkwX3_regret_6 ++ dktX3_regret_7
def dkwX3_regret_5 : List UInt8 := [96, 47, 136, 100, 54, 6, 21, 6, 21, 4, 164, 0, 8, 21, 6, 167, 0, 5, 21, 4, 54, 4]
abbrev dktX3_regret_5 : List UInt8 := dkwX3_regret_5 ++ dktX3_regret_6
def dkwX3_regret_4 : List UInt8 := [162, 0, 52, 42, 27, 21, 5, 182, 1, 202, 42, 180, 0, 74, 16, 100, 42, 21, 5, 182, 1, 190, 104, 27]
abbrev dktX3_regret_4 : List UInt8 := dkwX3_regret_4 ++ dktX3_regret_5
def dkwX3_regret_3 : List UInt8 := [21, 4, 46, 79, 132, 4, 1, 167, 255, 233, 3, 54, 4, 3, 54, 5, 21, 5, 42, 182, 1, 187]
abbrev dktX3_regret_3 : List UInt8 := dkwX3_regret_3 ++ dktX3_regret_4
def dkwX3_regret_2 : List UInt8 := [180, 1, 193, 62, 3, 54, 4, 21, 4, 29, 162, 0, 23, 42, 180, 0, 128, 21, 4, 42, 180, 0, 88]
abbrev dktX3_regret_2 : List UInt8 := dkwX3_regret_2 ++ dktX3_regret_3
def dkwX3_regret_1 : List UInt8 := [182, 0, 252, 172, 42, 27, 28, 3, 182, 1, 170, 9, 148, 156, 0, 10, 42, 16, 6, 182, 0, 252, 172, 42]
abbrev dktX3_regret_1 : List UInt8 := dkwX3_regret_1 ++ dktX3_regret_2
def dkwX3_regret_0 : List UInt8 := [42, 182, 0, 249, 42, 27, 182, 1, 91, 153, 0, 11, 42, 28, 182, 1, 91, 154, 0, 9, 42, 4]
abbrev dktX3_regret_0 : List UInt8 := dkwX3_regret_0 ++ dktX3_regret_1
theorem dksX3_regret_0 : cX3_regret.data.toList.drop 0 = dktX3_regret_0 := by decide +kernel
theorem dksX3_regret_1 : cX3_regret.data.toList.drop 22 = dktX3_regret_1 := dk_seg dksX3_regret_0 22 rfl rfl
theorem dksX3_regret_2 : cX3_regret.data.toList.drop 46 = dktX3_regret_2 := dk_seg dksX3_regret_1 24 rfl rfl
theorem dksX3_regret_3 : cX3_regret.data.toList.drop 69 = dktX3_regret_3 := dk_seg dksX3_regret_2 23 rfl rfl
theorem dksX3_regret_4 : cX3_regret.data.toList.drop 91 = dktX3_regret_4 := dk_seg dksX3_regret_3 22 rfl rfl
theorem dksX3_regret_5 : cX3_regret.data.toList.drop 115 = dktX3_regret_5 := dk_seg dksX3_regret_4 24 rfl rfl
theorem dksX3_regret_6 : cX3_regret.data.toList.drop 137 = dktX3_regret_6 := dk_seg dksX3_regret_5 22 rfl rfl
theorem dksX3_regret_7 : cX3_regret.data.toList.drop 161 = dktX3_regret_7 := dk_seg dksX3_regret_6 24 rfl rfl
theorem dX3_regret_0 : decode cX3_regret 0 = .ok (.aload_n 0, 1) := dk_42 (dk_at dksX3_regret_0 0 rfl rfl)
theorem dX3_regret_1 : decode cX3_regret 1 = .ok (.invokevirtual 249, 3) := dk_182 0 249 (dk_at dksX3_regret_0 1 rfl rfl)
theorem dX3_regret_4 : decode cX3_regret 4 = .ok (.aload_n 0, 1) := dk_42 (dk_at dksX3_regret_0 4 rfl rfl)
theorem dX3_regret_5 : decode cX3_regret 5 = .ok (.iload_n 1, 1) := dk_27 (dk_at dksX3_regret_0 5 rfl rfl)
theorem dX3_regret_6 : decode cX3_regret 6 = .ok (.invokevirtual 347, 3) := dk_182 1 91 (dk_at dksX3_regret_0 6 rfl rfl)
theorem dX3_regret_9 : decode cX3_regret 9 = .ok (.ifCond .eq 11, 3) := dk_153 0 11 (dk_at dksX3_regret_0 9 rfl rfl)
theorem dX3_regret_12 : decode cX3_regret 12 = .ok (.aload_n 0, 1) := dk_42 (dk_at dksX3_regret_0 12 rfl rfl)
theorem dX3_regret_13 : decode cX3_regret 13 = .ok (.iload_n 2, 1) := dk_28 (dk_at dksX3_regret_0 13 rfl rfl)
theorem dX3_regret_14 : decode cX3_regret 14 = .ok (.invokevirtual 347, 3) := dk_182 1 91 (dk_at dksX3_regret_0 14 rfl rfl)
theorem dX3_regret_17 : decode cX3_regret 17 = .ok (.ifCond .ne 9, 3) := dk_154 0 9 (dk_at dksX3_regret_0 17 rfl rfl)
theorem dX3_regret_20 : decode cX3_regret 20 = .ok (.aload_n 0, 1) := dk_42 (dk_at dksX3_regret_0 20 rfl rfl)
theorem dX3_regret_21 : decode cX3_regret 21 = .ok (.iconst 1, 1) := dk_4 (dk_at dksX3_regret_0 21 rfl rfl)
theorem dX3_regret_22 : decode cX3_regret 22 = .ok (.invokevirtual 252, 3) := dk_182 0 252 (dk_at dksX3_regret_1 0 rfl rfl)
theorem dX3_regret_25 : decode cX3_regret 25 = .ok (.ireturn, 1) := dk_172 (dk_at dksX3_regret_1 3 rfl rfl)
theorem dX3_regret_26 : decode cX3_regret 26 = .ok (.aload_n 0, 1) := dk_42 (dk_at dksX3_regret_1 4 rfl rfl)
theorem dX3_regret_27 : decode cX3_regret 27 = .ok (.iload_n 1, 1) := dk_27 (dk_at dksX3_regret_1 5 rfl rfl)
theorem dX3_regret_28 : decode cX3_regret 28 = .ok (.iload_n 2, 1) := dk_28 (dk_at dksX3_regret_1 6 rfl rfl)
theorem dX3_regret_29 : decode cX3_regret 29 = .ok (.iconst 0, 1) := dk_3 (dk_at dksX3_regret_1 7 rfl rfl)
theorem dX3_regret_30 : decode cX3_regret 30 = .ok (.invokevirtual 426, 3) := dk_182 1 170 (dk_at dksX3_regret_1 8 rfl rfl)
theorem dX3_regret_33 : decode cX3_regret 33 = .ok (.lconst 0, 1) := dk_9 (dk_at dksX3_regret_1 11 rfl rfl)
theorem dX3_regret_34 : decode cX3_regret 34 = .ok (.lcmp, 1) := dk_148 (dk_at dksX3_regret_1 12 rfl rfl)
theorem dX3_regret_35 : decode cX3_regret 35 = .ok (.ifCond .ge 10, 3) := dk_156 0 10 (dk_at dksX3_regret_1 13 rfl rfl)
theorem dX3_regret_38 : decode cX3_regret 38 = .ok (.aload_n 0, 1) := dk_42 (dk_at dksX3_regret_1 16 rfl rfl)
theorem dX3_regret_39 : decode cX3_regret 39 = .ok (.bipush 6, 2) := dk_16 6 (dk_at dksX3_regret_1 17 rfl rfl)
theorem dX3_regret_41 : decode cX3_regret 41 = .ok (.invokevirtual 252, 3) := dk_182 0 252 (dk_at dksX3_regret_1 19 rfl rfl)
theorem dX3_regret_44 : decode cX3_regret 44 = .ok (.ireturn, 1) := dk_172 (dk_at dksX3_regret_1 22 rfl rfl)
theorem dX3_regret_45 : decode cX3_regret 45 = .ok (.aload_n 0, 1) := dk_42 (dk_at dksX3_regret_1 23 rfl rfl)
theorem dX3_regret_46 : decode cX3_regret 46 = .ok (.getfield 449, 3) := dk_180 1 193 (dk_at dksX3_regret_2 0 rfl rfl)
theorem dX3_regret_49 : decode cX3_regret 49 = .ok (.istore_n 3, 1) := dk_62 (dk_at dksX3_regret_2 3 rfl rfl)
theorem dX3_regret_50 : decode cX3_regret 50 = .ok (.iconst 0, 1) := dk_3 (dk_at dksX3_regret_2 4 rfl rfl)
theorem dX3_regret_51 : decode cX3_regret 51 = .ok (.istore 4, 2) := dk_54 4 (dk_at dksX3_regret_2 5 rfl rfl)
theorem dX3_regret_53 : decode cX3_regret 53 = .ok (.iload 4, 2) := dk_21 4 (dk_at dksX3_regret_2 7 rfl rfl)
theorem dX3_regret_55 : decode cX3_regret 55 = .ok (.iload_n 3, 1) := dk_29 (dk_at dksX3_regret_2 9 rfl rfl)
theorem dX3_regret_56 : decode cX3_regret 56 = .ok (.if_icmp .ge 23, 3) := dk_162 0 23 (dk_at dksX3_regret_2 10 rfl rfl)
theorem dX3_regret_59 : decode cX3_regret 59 = .ok (.aload_n 0, 1) := dk_42 (dk_at dksX3_regret_2 13 rfl rfl)
theorem dX3_regret_60 : decode cX3_regret 60 = .ok (.getfield 128, 3) := dk_180 0 128 (dk_at dksX3_regret_2 14 rfl rfl)
theorem dX3_regret_63 : decode cX3_regret 63 = .ok (.iload 4, 2) := dk_21 4 (dk_at dksX3_regret_2 17 rfl rfl)
theorem dX3_regret_65 : decode cX3_regret 65 = .ok (.aload_n 0, 1) := dk_42 (dk_at dksX3_regret_2 19 rfl rfl)
theorem dX3_regret_66 : decode cX3_regret 66 = .ok (.getfield 88, 3) := dk_180 0 88 (dk_at dksX3_regret_2 20 rfl rfl)
theorem dX3_regret_69 : decode cX3_regret 69 = .ok (.iload 4, 2) := dk_21 4 (dk_at dksX3_regret_3 0 rfl rfl)
theorem dX3_regret_71 : decode cX3_regret 71 = .ok (.iaload, 1) := dk_46 (dk_at dksX3_regret_3 2 rfl rfl)
theorem dX3_regret_72 : decode cX3_regret 72 = .ok (.iastore, 1) := dk_79 (dk_at dksX3_regret_3 3 rfl rfl)
theorem dX3_regret_73 : decode cX3_regret 73 = .ok (.iinc 4 1, 3) := dk_132 4 1 (dk_at dksX3_regret_3 4 rfl rfl)
theorem dX3_regret_76 : decode cX3_regret 76 = .ok (.goto (-23), 3) := dk_167 255 233 (dk_at dksX3_regret_3 7 rfl rfl)
theorem dX3_regret_79 : decode cX3_regret 79 = .ok (.iconst 0, 1) := dk_3 (dk_at dksX3_regret_3 10 rfl rfl)
theorem dX3_regret_80 : decode cX3_regret 80 = .ok (.istore 4, 2) := dk_54 4 (dk_at dksX3_regret_3 11 rfl rfl)
theorem dX3_regret_82 : decode cX3_regret 82 = .ok (.iconst 0, 1) := dk_3 (dk_at dksX3_regret_3 13 rfl rfl)
theorem dX3_regret_83 : decode cX3_regret 83 = .ok (.istore 5, 2) := dk_54 5 (dk_at dksX3_regret_3 14 rfl rfl)
theorem dX3_regret_85 : decode cX3_regret 85 = .ok (.iload 5, 2) := dk_21 5 (dk_at dksX3_regret_3 16 rfl rfl)
theorem dX3_regret_87 : decode cX3_regret 87 = .ok (.aload_n 0, 1) := dk_42 (dk_at dksX3_regret_3 18 rfl rfl)
theorem dX3_regret_88 : decode cX3_regret 88 = .ok (.invokevirtual 443, 3) := dk_182 1 187 (dk_at dksX3_regret_3 19 rfl rfl)
theorem dX3_regret_91 : decode cX3_regret 91 = .ok (.if_icmp .ge 52, 3) := dk_162 0 52 (dk_at dksX3_regret_4 0 rfl rfl)
theorem dX3_regret_94 : decode cX3_regret 94 = .ok (.aload_n 0, 1) := dk_42 (dk_at dksX3_regret_4 3 rfl rfl)
theorem dX3_regret_95 : decode cX3_regret 95 = .ok (.iload_n 1, 1) := dk_27 (dk_at dksX3_regret_4 4 rfl rfl)
theorem dX3_regret_96 : decode cX3_regret 96 = .ok (.iload 5, 2) := dk_21 5 (dk_at dksX3_regret_4 5 rfl rfl)
theorem dX3_regret_98 : decode cX3_regret 98 = .ok (.invokevirtual 458, 3) := dk_182 1 202 (dk_at dksX3_regret_4 7 rfl rfl)
theorem dX3_regret_101 : decode cX3_regret 101 = .ok (.aload_n 0, 1) := dk_42 (dk_at dksX3_regret_4 10 rfl rfl)
theorem dX3_regret_102 : decode cX3_regret 102 = .ok (.getfield 74, 3) := dk_180 0 74 (dk_at dksX3_regret_4 11 rfl rfl)
theorem dX3_regret_105 : decode cX3_regret 105 = .ok (.bipush 100, 2) := dk_16 100 (dk_at dksX3_regret_4 14 rfl rfl)
theorem dX3_regret_107 : decode cX3_regret 107 = .ok (.aload_n 0, 1) := dk_42 (dk_at dksX3_regret_4 16 rfl rfl)
theorem dX3_regret_108 : decode cX3_regret 108 = .ok (.iload 5, 2) := dk_21 5 (dk_at dksX3_regret_4 17 rfl rfl)
theorem dX3_regret_110 : decode cX3_regret 110 = .ok (.invokevirtual 446, 3) := dk_182 1 190 (dk_at dksX3_regret_4 19 rfl rfl)
theorem dX3_regret_113 : decode cX3_regret 113 = .ok (.imul, 1) := dk_104 (dk_at dksX3_regret_4 22 rfl rfl)
theorem dX3_regret_114 : decode cX3_regret 114 = .ok (.iload_n 1, 1) := dk_27 (dk_at dksX3_regret_4 23 rfl rfl)
theorem dX3_regret_115 : decode cX3_regret 115 = .ok (.iadd, 1) := dk_96 (dk_at dksX3_regret_5 0 rfl rfl)
theorem dX3_regret_116 : decode cX3_regret 116 = .ok (.laload, 1) := dk_47 (dk_at dksX3_regret_5 1 rfl rfl)
theorem dX3_regret_117 : decode cX3_regret 117 = .ok (.l2i, 1) := dk_136 (dk_at dksX3_regret_5 2 rfl rfl)
theorem dX3_regret_118 : decode cX3_regret 118 = .ok (.isub, 1) := dk_100 (dk_at dksX3_regret_5 3 rfl rfl)
theorem dX3_regret_119 : decode cX3_regret 119 = .ok (.istore 6, 2) := dk_54 6 (dk_at dksX3_regret_5 4 rfl rfl)
theorem dX3_regret_121 : decode cX3_regret 121 = .ok (.iload 6, 2) := dk_21 6 (dk_at dksX3_regret_5 6 rfl rfl)
theorem dX3_regret_123 : decode cX3_regret 123 = .ok (.iload 4, 2) := dk_21 4 (dk_at dksX3_regret_5 8 rfl rfl)
theorem dX3_regret_125 : decode cX3_regret 125 = .ok (.if_icmp .le 8, 3) := dk_164 0 8 (dk_at dksX3_regret_5 10 rfl rfl)
theorem dX3_regret_128 : decode cX3_regret 128 = .ok (.iload 6, 2) := dk_21 6 (dk_at dksX3_regret_5 13 rfl rfl)
theorem dX3_regret_130 : decode cX3_regret 130 = .ok (.goto 5, 3) := dk_167 0 5 (dk_at dksX3_regret_5 15 rfl rfl)
theorem dX3_regret_133 : decode cX3_regret 133 = .ok (.iload 4, 2) := dk_21 4 (dk_at dksX3_regret_5 18 rfl rfl)
theorem dX3_regret_135 : decode cX3_regret 135 = .ok (.istore 4, 2) := dk_54 4 (dk_at dksX3_regret_5 20 rfl rfl)
theorem dX3_regret_137 : decode cX3_regret 137 = .ok (.iinc 5 1, 3) := dk_132 5 1 (dk_at dksX3_regret_6 0 rfl rfl)
theorem dX3_regret_140 : decode cX3_regret 140 = .ok (.goto (-55), 3) := dk_167 255 201 (dk_at dksX3_regret_6 3 rfl rfl)
theorem dX3_regret_143 : decode cX3_regret 143 = .ok (.aload_n 0, 1) := dk_42 (dk_at dksX3_regret_6 6 rfl rfl)
theorem dX3_regret_144 : decode cX3_regret 144 = .ok (.iload_n 3, 1) := dk_29 (dk_at dksX3_regret_6 7 rfl rfl)
theorem dX3_regret_145 : decode cX3_regret 145 = .ok (.putfield 449, 3) := dk_181 1 193 (dk_at dksX3_regret_6 8 rfl rfl)
theorem dX3_regret_148 : decode cX3_regret 148 = .ok (.iconst 0, 1) := dk_3 (dk_at dksX3_regret_6 11 rfl rfl)
theorem dX3_regret_149 : decode cX3_regret 149 = .ok (.istore 5, 2) := dk_54 5 (dk_at dksX3_regret_6 12 rfl rfl)
theorem dX3_regret_151 : decode cX3_regret 151 = .ok (.iload 5, 2) := dk_21 5 (dk_at dksX3_regret_6 14 rfl rfl)
theorem dX3_regret_153 : decode cX3_regret 153 = .ok (.iload_n 3, 1) := dk_29 (dk_at dksX3_regret_6 16 rfl rfl)
theorem dX3_regret_154 : decode cX3_regret 154 = .ok (.if_icmp .ge 23, 3) := dk_162 0 23 (dk_at dksX3_regret_6 17 rfl rfl)
theorem dX3_regret_157 : decode cX3_regret 157 = .ok (.aload_n 0, 1) := dk_42 (dk_at dksX3_regret_6 20 rfl rfl)
theorem dX3_regret_158 : decode cX3_regret 158 = .ok (.getfield 88, 3) := dk_180 0 88 (dk_at dksX3_regret_6 21 rfl rfl)
theorem dX3_regret_161 : decode cX3_regret 161 = .ok (.iload 5, 2) := dk_21 5 (dk_at dksX3_regret_7 0 rfl rfl)
theorem dX3_regret_163 : decode cX3_regret 163 = .ok (.aload_n 0, 1) := dk_42 (dk_at dksX3_regret_7 2 rfl rfl)
theorem dX3_regret_164 : decode cX3_regret 164 = .ok (.getfield 128, 3) := dk_180 0 128 (dk_at dksX3_regret_7 3 rfl rfl)
theorem dX3_regret_167 : decode cX3_regret 167 = .ok (.iload 5, 2) := dk_21 5 (dk_at dksX3_regret_7 6 rfl rfl)
theorem dX3_regret_169 : decode cX3_regret 169 = .ok (.iaload, 1) := dk_46 (dk_at dksX3_regret_7 8 rfl rfl)
theorem dX3_regret_170 : decode cX3_regret 170 = .ok (.iastore, 1) := dk_79 (dk_at dksX3_regret_7 9 rfl rfl)
theorem dX3_regret_171 : decode cX3_regret 171 = .ok (.iinc 5 1, 3) := dk_132 5 1 (dk_at dksX3_regret_7 10 rfl rfl)
theorem dX3_regret_174 : decode cX3_regret 174 = .ok (.goto (-23), 3) := dk_167 255 233 (dk_at dksX3_regret_7 13 rfl rfl)
theorem dX3_regret_177 : decode cX3_regret 177 = .ok (.iload 4, 2) := dk_21 4 (dk_at dksX3_regret_7 16 rfl rfl)
theorem dX3_regret_179 : decode cX3_regret 179 = .ok (.ireturn, 1) := dk_172 (dk_at dksX3_regret_7 18 rfl rfl)
abbrev cX3_worth : ByteArray := prog_23_method_83_code
def yX3_worth : MethodName := ⟨RX3, "worth", "(IIIZ)J"⟩
def dkwX3_worth_7 : List UInt8 := [173]
abbrev dktX3_worth_7 : List UInt8 := dkwX3_worth_7 ++ []
def dkwX3_worth_6 : List UInt8 := [96, 104, 28, 96, 47, 105, 101, 55, 5, 132, 10, 1, 167, 255, 206, 22, 5, 22, 8, 21, 4, 184, 1, 180]
abbrev dktX3_worth_6 : List UInt8 := dkwX3_worth_6 ++ dktX3_worth_7
def dkwX3_worth_5 : List UInt8 := [27, 21, 10, 182, 1, 115, 133, 42, 180, 0, 74, 16, 100, 21, 7, 21, 10, 4, 96, 27, 184, 1, 112, 104]
abbrev dktX3_worth_5 : List UInt8 := dkwX3_worth_5 ++ dktX3_worth_6
def dkwX3_worth_4 : List UInt8 := [21, 7, 182, 1, 155, 55, 8, 3, 54, 10, 21, 10, 42, 180, 0, 85, 27, 46, 162, 0, 45, 22, 5, 42]
abbrev dktX3_worth_4 : List UInt8 := dkwX3_worth_4 ++ dktX3_worth_5
def dkwX3_worth_3 : List UInt8 := [22, 5, 9, 148, 156, 0, 13, 42, 16, 6, 181, 0, 134, 20, 1, 178, 173, 42, 182, 1, 165, 54, 7, 42]
abbrev dktX3_worth_3 : List UInt8 := dkwX3_worth_3 ++ dktX3_worth_4
def dkwX3_worth_2 : List UInt8 := [3, 181, 0, 134, 42, 180, 0, 134, 158, 0, 7, 20, 1, 178, 173, 42, 28, 29, 4, 182, 1, 170, 55, 5]
abbrev dktX3_worth_2 : List UInt8 := dkwX3_worth_2 ++ dktX3_worth_3
def dkwX3_worth_1 : List UInt8 := [182, 1, 91, 154, 0, 7, 4, 167, 0, 18, 42, 180, 0, 64, 27, 46, 2, 159, 0, 7, 8, 167, 0, 4]
abbrev dktX3_worth_1 : List UInt8 := dkwX3_worth_1 ++ dktX3_worth_2
def dkwX3_worth_0 : List UInt8 := [42, 182, 0, 249, 42, 42, 27, 182, 1, 94, 153, 0, 19, 42, 28, 182, 1, 91, 153, 0, 11, 42, 29]
abbrev dktX3_worth_0 : List UInt8 := dkwX3_worth_0 ++ dktX3_worth_1
theorem dksX3_worth_0 : cX3_worth.data.toList.drop 0 = dktX3_worth_0 := by decide +kernel
theorem dksX3_worth_1 : cX3_worth.data.toList.drop 23 = dktX3_worth_1 := dk_seg dksX3_worth_0 23 rfl rfl
theorem dksX3_worth_2 : cX3_worth.data.toList.drop 47 = dktX3_worth_2 := dk_seg dksX3_worth_1 24 rfl rfl
theorem dksX3_worth_3 : cX3_worth.data.toList.drop 71 = dktX3_worth_3 := dk_seg dksX3_worth_2 24 rfl rfl
theorem dksX3_worth_4 : cX3_worth.data.toList.drop 95 = dktX3_worth_4 := dk_seg dksX3_worth_3 24 rfl rfl
theorem dksX3_worth_5 : cX3_worth.data.toList.drop 119 = dktX3_worth_5 := dk_seg dksX3_worth_4 24 rfl rfl
theorem dksX3_worth_6 : cX3_worth.data.toList.drop 143 = dktX3_worth_6 := dk_seg dksX3_worth_5 24 rfl rfl
theorem dksX3_worth_7 : cX3_worth.data.toList.drop 167 = dktX3_worth_7 := dk_seg dksX3_worth_6 24 rfl rfl
theorem dX3_worth_0 : decode cX3_worth 0 = .ok (.aload_n 0, 1) := dk_42 (dk_at dksX3_worth_0 0 rfl rfl)
theorem dX3_worth_1 : decode cX3_worth 1 = .ok (.invokevirtual 249, 3) := dk_182 0 249 (dk_at dksX3_worth_0 1 rfl rfl)
theorem dX3_worth_4 : decode cX3_worth 4 = .ok (.aload_n 0, 1) := dk_42 (dk_at dksX3_worth_0 4 rfl rfl)
theorem dX3_worth_5 : decode cX3_worth 5 = .ok (.aload_n 0, 1) := dk_42 (dk_at dksX3_worth_0 5 rfl rfl)
theorem dX3_worth_6 : decode cX3_worth 6 = .ok (.iload_n 1, 1) := dk_27 (dk_at dksX3_worth_0 6 rfl rfl)
theorem dX3_worth_7 : decode cX3_worth 7 = .ok (.invokevirtual 350, 3) := dk_182 1 94 (dk_at dksX3_worth_0 7 rfl rfl)
theorem dX3_worth_10 : decode cX3_worth 10 = .ok (.ifCond .eq 19, 3) := dk_153 0 19 (dk_at dksX3_worth_0 10 rfl rfl)
theorem dX3_worth_13 : decode cX3_worth 13 = .ok (.aload_n 0, 1) := dk_42 (dk_at dksX3_worth_0 13 rfl rfl)
theorem dX3_worth_14 : decode cX3_worth 14 = .ok (.iload_n 2, 1) := dk_28 (dk_at dksX3_worth_0 14 rfl rfl)
theorem dX3_worth_15 : decode cX3_worth 15 = .ok (.invokevirtual 347, 3) := dk_182 1 91 (dk_at dksX3_worth_0 15 rfl rfl)
theorem dX3_worth_18 : decode cX3_worth 18 = .ok (.ifCond .eq 11, 3) := dk_153 0 11 (dk_at dksX3_worth_0 18 rfl rfl)
theorem dX3_worth_21 : decode cX3_worth 21 = .ok (.aload_n 0, 1) := dk_42 (dk_at dksX3_worth_0 21 rfl rfl)
theorem dX3_worth_22 : decode cX3_worth 22 = .ok (.iload_n 3, 1) := dk_29 (dk_at dksX3_worth_0 22 rfl rfl)
theorem dX3_worth_23 : decode cX3_worth 23 = .ok (.invokevirtual 347, 3) := dk_182 1 91 (dk_at dksX3_worth_1 0 rfl rfl)
theorem dX3_worth_26 : decode cX3_worth 26 = .ok (.ifCond .ne 7, 3) := dk_154 0 7 (dk_at dksX3_worth_1 3 rfl rfl)
theorem dX3_worth_29 : decode cX3_worth 29 = .ok (.iconst 1, 1) := dk_4 (dk_at dksX3_worth_1 6 rfl rfl)
theorem dX3_worth_30 : decode cX3_worth 30 = .ok (.goto 18, 3) := dk_167 0 18 (dk_at dksX3_worth_1 7 rfl rfl)
theorem dX3_worth_33 : decode cX3_worth 33 = .ok (.aload_n 0, 1) := dk_42 (dk_at dksX3_worth_1 10 rfl rfl)
theorem dX3_worth_34 : decode cX3_worth 34 = .ok (.getfield 64, 3) := dk_180 0 64 (dk_at dksX3_worth_1 11 rfl rfl)
theorem dX3_worth_37 : decode cX3_worth 37 = .ok (.iload_n 1, 1) := dk_27 (dk_at dksX3_worth_1 14 rfl rfl)
theorem dX3_worth_38 : decode cX3_worth 38 = .ok (.iaload, 1) := dk_46 (dk_at dksX3_worth_1 15 rfl rfl)
theorem dX3_worth_39 : decode cX3_worth 39 = .ok (.iconst (-1), 1) := dk_2 (dk_at dksX3_worth_1 16 rfl rfl)
theorem dX3_worth_40 : decode cX3_worth 40 = .ok (.if_icmp .eq 7, 3) := dk_159 0 7 (dk_at dksX3_worth_1 17 rfl rfl)
theorem dX3_worth_43 : decode cX3_worth 43 = .ok (.iconst 5, 1) := dk_8 (dk_at dksX3_worth_1 20 rfl rfl)
theorem dX3_worth_44 : decode cX3_worth 44 = .ok (.goto 4, 3) := dk_167 0 4 (dk_at dksX3_worth_1 21 rfl rfl)
theorem dX3_worth_47 : decode cX3_worth 47 = .ok (.iconst 0, 1) := dk_3 (dk_at dksX3_worth_2 0 rfl rfl)
theorem dX3_worth_48 : decode cX3_worth 48 = .ok (.putfield 134, 3) := dk_181 0 134 (dk_at dksX3_worth_2 1 rfl rfl)
theorem dX3_worth_51 : decode cX3_worth 51 = .ok (.aload_n 0, 1) := dk_42 (dk_at dksX3_worth_2 4 rfl rfl)
theorem dX3_worth_52 : decode cX3_worth 52 = .ok (.getfield 134, 3) := dk_180 0 134 (dk_at dksX3_worth_2 5 rfl rfl)
theorem dX3_worth_55 : decode cX3_worth 55 = .ok (.ifCond .le 7, 3) := dk_158 0 7 (dk_at dksX3_worth_2 8 rfl rfl)
theorem dX3_worth_58 : decode cX3_worth 58 = .ok (.ldc2_w 434, 3) := dk_20 1 178 (dk_at dksX3_worth_2 11 rfl rfl)
theorem dX3_worth_61 : decode cX3_worth 61 = .ok (.lreturn, 1) := dk_173 (dk_at dksX3_worth_2 14 rfl rfl)
theorem dX3_worth_62 : decode cX3_worth 62 = .ok (.aload_n 0, 1) := dk_42 (dk_at dksX3_worth_2 15 rfl rfl)
theorem dX3_worth_63 : decode cX3_worth 63 = .ok (.iload_n 2, 1) := dk_28 (dk_at dksX3_worth_2 16 rfl rfl)
theorem dX3_worth_64 : decode cX3_worth 64 = .ok (.iload_n 3, 1) := dk_29 (dk_at dksX3_worth_2 17 rfl rfl)
theorem dX3_worth_65 : decode cX3_worth 65 = .ok (.iconst 1, 1) := dk_4 (dk_at dksX3_worth_2 18 rfl rfl)
theorem dX3_worth_66 : decode cX3_worth 66 = .ok (.invokevirtual 426, 3) := dk_182 1 170 (dk_at dksX3_worth_2 19 rfl rfl)
theorem dX3_worth_69 : decode cX3_worth 69 = .ok (.lstore 5, 2) := dk_55 5 (dk_at dksX3_worth_2 22 rfl rfl)
theorem dX3_worth_71 : decode cX3_worth 71 = .ok (.lload 5, 2) := dk_22 5 (dk_at dksX3_worth_3 0 rfl rfl)
theorem dX3_worth_73 : decode cX3_worth 73 = .ok (.lconst 0, 1) := dk_9 (dk_at dksX3_worth_3 2 rfl rfl)
theorem dX3_worth_74 : decode cX3_worth 74 = .ok (.lcmp, 1) := dk_148 (dk_at dksX3_worth_3 3 rfl rfl)
theorem dX3_worth_75 : decode cX3_worth 75 = .ok (.ifCond .ge 13, 3) := dk_156 0 13 (dk_at dksX3_worth_3 4 rfl rfl)
theorem dX3_worth_78 : decode cX3_worth 78 = .ok (.aload_n 0, 1) := dk_42 (dk_at dksX3_worth_3 7 rfl rfl)
theorem dX3_worth_79 : decode cX3_worth 79 = .ok (.bipush 6, 2) := dk_16 6 (dk_at dksX3_worth_3 8 rfl rfl)
theorem dX3_worth_81 : decode cX3_worth 81 = .ok (.putfield 134, 3) := dk_181 0 134 (dk_at dksX3_worth_3 10 rfl rfl)
theorem dX3_worth_84 : decode cX3_worth 84 = .ok (.ldc2_w 434, 3) := dk_20 1 178 (dk_at dksX3_worth_3 13 rfl rfl)
theorem dX3_worth_87 : decode cX3_worth 87 = .ok (.lreturn, 1) := dk_173 (dk_at dksX3_worth_3 16 rfl rfl)
theorem dX3_worth_88 : decode cX3_worth 88 = .ok (.aload_n 0, 1) := dk_42 (dk_at dksX3_worth_3 17 rfl rfl)
theorem dX3_worth_89 : decode cX3_worth 89 = .ok (.invokevirtual 421, 3) := dk_182 1 165 (dk_at dksX3_worth_3 18 rfl rfl)
theorem dX3_worth_92 : decode cX3_worth 92 = .ok (.istore 7, 2) := dk_54 7 (dk_at dksX3_worth_3 21 rfl rfl)
theorem dX3_worth_94 : decode cX3_worth 94 = .ok (.aload_n 0, 1) := dk_42 (dk_at dksX3_worth_3 23 rfl rfl)
theorem dX3_worth_95 : decode cX3_worth 95 = .ok (.iload 7, 2) := dk_21 7 (dk_at dksX3_worth_4 0 rfl rfl)
theorem dX3_worth_97 : decode cX3_worth 97 = .ok (.invokevirtual 411, 3) := dk_182 1 155 (dk_at dksX3_worth_4 2 rfl rfl)
theorem dX3_worth_100 : decode cX3_worth 100 = .ok (.lstore 8, 2) := dk_55 8 (dk_at dksX3_worth_4 5 rfl rfl)
theorem dX3_worth_102 : decode cX3_worth 102 = .ok (.iconst 0, 1) := dk_3 (dk_at dksX3_worth_4 7 rfl rfl)
theorem dX3_worth_103 : decode cX3_worth 103 = .ok (.istore 10, 2) := dk_54 10 (dk_at dksX3_worth_4 8 rfl rfl)
theorem dX3_worth_105 : decode cX3_worth 105 = .ok (.iload 10, 2) := dk_21 10 (dk_at dksX3_worth_4 10 rfl rfl)
theorem dX3_worth_107 : decode cX3_worth 107 = .ok (.aload_n 0, 1) := dk_42 (dk_at dksX3_worth_4 12 rfl rfl)
theorem dX3_worth_108 : decode cX3_worth 108 = .ok (.getfield 85, 3) := dk_180 0 85 (dk_at dksX3_worth_4 13 rfl rfl)
theorem dX3_worth_111 : decode cX3_worth 111 = .ok (.iload_n 1, 1) := dk_27 (dk_at dksX3_worth_4 16 rfl rfl)
theorem dX3_worth_112 : decode cX3_worth 112 = .ok (.iaload, 1) := dk_46 (dk_at dksX3_worth_4 17 rfl rfl)
theorem dX3_worth_113 : decode cX3_worth 113 = .ok (.if_icmp .ge 45, 3) := dk_162 0 45 (dk_at dksX3_worth_4 18 rfl rfl)
theorem dX3_worth_116 : decode cX3_worth 116 = .ok (.lload 5, 2) := dk_22 5 (dk_at dksX3_worth_4 21 rfl rfl)
theorem dX3_worth_118 : decode cX3_worth 118 = .ok (.aload_n 0, 1) := dk_42 (dk_at dksX3_worth_4 23 rfl rfl)
theorem dX3_worth_119 : decode cX3_worth 119 = .ok (.iload_n 1, 1) := dk_27 (dk_at dksX3_worth_5 0 rfl rfl)
theorem dX3_worth_120 : decode cX3_worth 120 = .ok (.iload 10, 2) := dk_21 10 (dk_at dksX3_worth_5 1 rfl rfl)
theorem dX3_worth_122 : decode cX3_worth 122 = .ok (.invokevirtual 371, 3) := dk_182 1 115 (dk_at dksX3_worth_5 3 rfl rfl)
theorem dX3_worth_125 : decode cX3_worth 125 = .ok (.i2l, 1) := dk_133 (dk_at dksX3_worth_5 6 rfl rfl)
theorem dX3_worth_126 : decode cX3_worth 126 = .ok (.aload_n 0, 1) := dk_42 (dk_at dksX3_worth_5 7 rfl rfl)
theorem dX3_worth_127 : decode cX3_worth 127 = .ok (.getfield 74, 3) := dk_180 0 74 (dk_at dksX3_worth_5 8 rfl rfl)
theorem dX3_worth_130 : decode cX3_worth 130 = .ok (.bipush 100, 2) := dk_16 100 (dk_at dksX3_worth_5 11 rfl rfl)
theorem dX3_worth_132 : decode cX3_worth 132 = .ok (.iload 7, 2) := dk_21 7 (dk_at dksX3_worth_5 13 rfl rfl)
theorem dX3_worth_134 : decode cX3_worth 134 = .ok (.iload 10, 2) := dk_21 10 (dk_at dksX3_worth_5 15 rfl rfl)
theorem dX3_worth_136 : decode cX3_worth 136 = .ok (.iconst 1, 1) := dk_4 (dk_at dksX3_worth_5 17 rfl rfl)
theorem dX3_worth_137 : decode cX3_worth 137 = .ok (.iadd, 1) := dk_96 (dk_at dksX3_worth_5 18 rfl rfl)
theorem dX3_worth_138 : decode cX3_worth 138 = .ok (.iload_n 1, 1) := dk_27 (dk_at dksX3_worth_5 19 rfl rfl)
theorem dX3_worth_139 : decode cX3_worth 139 = .ok (.invokestatic 368, 3) := dk_184 1 112 (dk_at dksX3_worth_5 20 rfl rfl)
theorem dX3_worth_142 : decode cX3_worth 142 = .ok (.imul, 1) := dk_104 (dk_at dksX3_worth_5 23 rfl rfl)
theorem dX3_worth_143 : decode cX3_worth 143 = .ok (.iadd, 1) := dk_96 (dk_at dksX3_worth_6 0 rfl rfl)
theorem dX3_worth_144 : decode cX3_worth 144 = .ok (.imul, 1) := dk_104 (dk_at dksX3_worth_6 1 rfl rfl)
theorem dX3_worth_145 : decode cX3_worth 145 = .ok (.iload_n 2, 1) := dk_28 (dk_at dksX3_worth_6 2 rfl rfl)
theorem dX3_worth_146 : decode cX3_worth 146 = .ok (.iadd, 1) := dk_96 (dk_at dksX3_worth_6 3 rfl rfl)
theorem dX3_worth_147 : decode cX3_worth 147 = .ok (.laload, 1) := dk_47 (dk_at dksX3_worth_6 4 rfl rfl)
theorem dX3_worth_148 : decode cX3_worth 148 = .ok (.lmul, 1) := dk_105 (dk_at dksX3_worth_6 5 rfl rfl)
theorem dX3_worth_149 : decode cX3_worth 149 = .ok (.lsub, 1) := dk_101 (dk_at dksX3_worth_6 6 rfl rfl)
theorem dX3_worth_150 : decode cX3_worth 150 = .ok (.lstore 5, 2) := dk_55 5 (dk_at dksX3_worth_6 7 rfl rfl)
theorem dX3_worth_152 : decode cX3_worth 152 = .ok (.iinc 10 1, 3) := dk_132 10 1 (dk_at dksX3_worth_6 9 rfl rfl)
theorem dX3_worth_155 : decode cX3_worth 155 = .ok (.goto (-50), 3) := dk_167 255 206 (dk_at dksX3_worth_6 12 rfl rfl)
theorem dX3_worth_158 : decode cX3_worth 158 = .ok (.lload 5, 2) := dk_22 5 (dk_at dksX3_worth_6 15 rfl rfl)
theorem dX3_worth_160 : decode cX3_worth 160 = .ok (.lload 8, 2) := dk_22 8 (dk_at dksX3_worth_6 17 rfl rfl)
theorem dX3_worth_162 : decode cX3_worth 162 = .ok (.iload 4, 2) := dk_21 4 (dk_at dksX3_worth_6 19 rfl rfl)
theorem dX3_worth_164 : decode cX3_worth 164 = .ok (.invokestatic 436, 3) := dk_184 1 180 (dk_at dksX3_worth_6 21 rfl rfl)
theorem dX3_worth_167 : decode cX3_worth 167 = .ok (.lreturn, 1) := dk_173 (dk_at dksX3_worth_7 0 rfl rfl)
abbrev cX3_spared : ByteArray := prog_23_method_84_code
def yX3_spared : MethodName := ⟨RX3, "spared", "(III)I"⟩
def dkwX3_spared_6 : List UInt8 := [22, 7, 55, 7, 132, 9, 1, 167, 255, 199, 22, 5, 22, 7, 101, 136, 172]
abbrev dktX3_spared_6 : List UInt8 := dkwX3_spared_6 ++ []
def dkwX3_spared_5 : List UInt8 := [184, 1, 112, 104, 96, 104, 28, 96, 47, 55, 10, 22, 10, 22, 7, 148, 158, 0, 8, 22, 10, 167, 0, 5]
abbrev dktX3_spared_5 : List UInt8 := dkwX3_spared_5 ++ dktX3_spared_6
def dkwX3_spared_4 : List UInt8 := [180, 0, 85, 27, 46, 162, 0, 52, 42, 180, 0, 74, 16, 100, 42, 182, 1, 165, 21, 9, 4, 96, 27]
abbrev dktX3_spared_4 : List UInt8 := dkwX3_spared_4 ++ dktX3_spared_5
def dkwX3_spared_3 : List UInt8 := [22, 5, 9, 148, 156, 0, 10, 42, 16, 6, 182, 0, 252, 172, 9, 55, 7, 3, 54, 9, 21, 9, 42]
abbrev dktX3_spared_3 : List UInt8 := dkwX3_spared_3 ++ dktX3_spared_4
def dkwX3_spared_2 : List UInt8 := [3, 54, 4, 21, 4, 158, 0, 10, 42, 21, 4, 182, 0, 252, 172, 42, 28, 29, 3, 182, 1, 170, 55, 5]
abbrev dktX3_spared_2 : List UInt8 := dkwX3_spared_2 ++ dktX3_spared_3
def dkwX3_spared_1 : List UInt8 := [182, 1, 91, 154, 0, 7, 4, 167, 0, 18, 42, 180, 0, 64, 27, 46, 2, 159, 0, 7, 8, 167, 0, 4]
abbrev dktX3_spared_1 : List UInt8 := dkwX3_spared_1 ++ dktX3_spared_2
def dkwX3_spared_0 : List UInt8 := [42, 182, 0, 249, 42, 27, 182, 1, 94, 153, 0, 19, 42, 28, 182, 1, 91, 153, 0, 11, 42, 29]
abbrev dktX3_spared_0 : List UInt8 := dkwX3_spared_0 ++ dktX3_spared_1
theorem dksX3_spared_0 : cX3_spared.data.toList.drop 0 = dktX3_spared_0 := by decide +kernel
theorem dksX3_spared_1 : cX3_spared.data.toList.drop 22 = dktX3_spared_1 := dk_seg dksX3_spared_0 22 rfl rfl
theorem dksX3_spared_2 : cX3_spared.data.toList.drop 46 = dktX3_spared_2 := dk_seg dksX3_spared_1 24 rfl rfl
theorem dksX3_spared_3 : cX3_spared.data.toList.drop 70 = dktX3_spared_3 := dk_seg dksX3_spared_2 24 rfl rfl
theorem dksX3_spared_4 : cX3_spared.data.toList.drop 93 = dktX3_spared_4 := dk_seg dksX3_spared_3 23 rfl rfl
theorem dksX3_spared_5 : cX3_spared.data.toList.drop 116 = dktX3_spared_5 := dk_seg dksX3_spared_4 23 rfl rfl
theorem dksX3_spared_6 : cX3_spared.data.toList.drop 140 = dktX3_spared_6 := dk_seg dksX3_spared_5 24 rfl rfl
theorem dX3_spared_0 : decode cX3_spared 0 = .ok (.aload_n 0, 1) := dk_42 (dk_at dksX3_spared_0 0 rfl rfl)
theorem dX3_spared_1 : decode cX3_spared 1 = .ok (.invokevirtual 249, 3) := dk_182 0 249 (dk_at dksX3_spared_0 1 rfl rfl)
theorem dX3_spared_4 : decode cX3_spared 4 = .ok (.aload_n 0, 1) := dk_42 (dk_at dksX3_spared_0 4 rfl rfl)
theorem dX3_spared_5 : decode cX3_spared 5 = .ok (.iload_n 1, 1) := dk_27 (dk_at dksX3_spared_0 5 rfl rfl)
theorem dX3_spared_6 : decode cX3_spared 6 = .ok (.invokevirtual 350, 3) := dk_182 1 94 (dk_at dksX3_spared_0 6 rfl rfl)
theorem dX3_spared_9 : decode cX3_spared 9 = .ok (.ifCond .eq 19, 3) := dk_153 0 19 (dk_at dksX3_spared_0 9 rfl rfl)
theorem dX3_spared_12 : decode cX3_spared 12 = .ok (.aload_n 0, 1) := dk_42 (dk_at dksX3_spared_0 12 rfl rfl)
theorem dX3_spared_13 : decode cX3_spared 13 = .ok (.iload_n 2, 1) := dk_28 (dk_at dksX3_spared_0 13 rfl rfl)
theorem dX3_spared_14 : decode cX3_spared 14 = .ok (.invokevirtual 347, 3) := dk_182 1 91 (dk_at dksX3_spared_0 14 rfl rfl)
theorem dX3_spared_17 : decode cX3_spared 17 = .ok (.ifCond .eq 11, 3) := dk_153 0 11 (dk_at dksX3_spared_0 17 rfl rfl)
theorem dX3_spared_20 : decode cX3_spared 20 = .ok (.aload_n 0, 1) := dk_42 (dk_at dksX3_spared_0 20 rfl rfl)
theorem dX3_spared_21 : decode cX3_spared 21 = .ok (.iload_n 3, 1) := dk_29 (dk_at dksX3_spared_0 21 rfl rfl)
theorem dX3_spared_22 : decode cX3_spared 22 = .ok (.invokevirtual 347, 3) := dk_182 1 91 (dk_at dksX3_spared_1 0 rfl rfl)
theorem dX3_spared_25 : decode cX3_spared 25 = .ok (.ifCond .ne 7, 3) := dk_154 0 7 (dk_at dksX3_spared_1 3 rfl rfl)
theorem dX3_spared_28 : decode cX3_spared 28 = .ok (.iconst 1, 1) := dk_4 (dk_at dksX3_spared_1 6 rfl rfl)
theorem dX3_spared_29 : decode cX3_spared 29 = .ok (.goto 18, 3) := dk_167 0 18 (dk_at dksX3_spared_1 7 rfl rfl)
theorem dX3_spared_32 : decode cX3_spared 32 = .ok (.aload_n 0, 1) := dk_42 (dk_at dksX3_spared_1 10 rfl rfl)
theorem dX3_spared_33 : decode cX3_spared 33 = .ok (.getfield 64, 3) := dk_180 0 64 (dk_at dksX3_spared_1 11 rfl rfl)
theorem dX3_spared_36 : decode cX3_spared 36 = .ok (.iload_n 1, 1) := dk_27 (dk_at dksX3_spared_1 14 rfl rfl)
theorem dX3_spared_37 : decode cX3_spared 37 = .ok (.iaload, 1) := dk_46 (dk_at dksX3_spared_1 15 rfl rfl)
theorem dX3_spared_38 : decode cX3_spared 38 = .ok (.iconst (-1), 1) := dk_2 (dk_at dksX3_spared_1 16 rfl rfl)
theorem dX3_spared_39 : decode cX3_spared 39 = .ok (.if_icmp .eq 7, 3) := dk_159 0 7 (dk_at dksX3_spared_1 17 rfl rfl)
theorem dX3_spared_42 : decode cX3_spared 42 = .ok (.iconst 5, 1) := dk_8 (dk_at dksX3_spared_1 20 rfl rfl)
theorem dX3_spared_43 : decode cX3_spared 43 = .ok (.goto 4, 3) := dk_167 0 4 (dk_at dksX3_spared_1 21 rfl rfl)
theorem dX3_spared_46 : decode cX3_spared 46 = .ok (.iconst 0, 1) := dk_3 (dk_at dksX3_spared_2 0 rfl rfl)
theorem dX3_spared_47 : decode cX3_spared 47 = .ok (.istore 4, 2) := dk_54 4 (dk_at dksX3_spared_2 1 rfl rfl)
theorem dX3_spared_49 : decode cX3_spared 49 = .ok (.iload 4, 2) := dk_21 4 (dk_at dksX3_spared_2 3 rfl rfl)
theorem dX3_spared_51 : decode cX3_spared 51 = .ok (.ifCond .le 10, 3) := dk_158 0 10 (dk_at dksX3_spared_2 5 rfl rfl)
theorem dX3_spared_54 : decode cX3_spared 54 = .ok (.aload_n 0, 1) := dk_42 (dk_at dksX3_spared_2 8 rfl rfl)
theorem dX3_spared_55 : decode cX3_spared 55 = .ok (.iload 4, 2) := dk_21 4 (dk_at dksX3_spared_2 9 rfl rfl)
theorem dX3_spared_57 : decode cX3_spared 57 = .ok (.invokevirtual 252, 3) := dk_182 0 252 (dk_at dksX3_spared_2 11 rfl rfl)
theorem dX3_spared_60 : decode cX3_spared 60 = .ok (.ireturn, 1) := dk_172 (dk_at dksX3_spared_2 14 rfl rfl)
theorem dX3_spared_61 : decode cX3_spared 61 = .ok (.aload_n 0, 1) := dk_42 (dk_at dksX3_spared_2 15 rfl rfl)
theorem dX3_spared_62 : decode cX3_spared 62 = .ok (.iload_n 2, 1) := dk_28 (dk_at dksX3_spared_2 16 rfl rfl)
theorem dX3_spared_63 : decode cX3_spared 63 = .ok (.iload_n 3, 1) := dk_29 (dk_at dksX3_spared_2 17 rfl rfl)
theorem dX3_spared_64 : decode cX3_spared 64 = .ok (.iconst 0, 1) := dk_3 (dk_at dksX3_spared_2 18 rfl rfl)
theorem dX3_spared_65 : decode cX3_spared 65 = .ok (.invokevirtual 426, 3) := dk_182 1 170 (dk_at dksX3_spared_2 19 rfl rfl)
theorem dX3_spared_68 : decode cX3_spared 68 = .ok (.lstore 5, 2) := dk_55 5 (dk_at dksX3_spared_2 22 rfl rfl)
theorem dX3_spared_70 : decode cX3_spared 70 = .ok (.lload 5, 2) := dk_22 5 (dk_at dksX3_spared_3 0 rfl rfl)
theorem dX3_spared_72 : decode cX3_spared 72 = .ok (.lconst 0, 1) := dk_9 (dk_at dksX3_spared_3 2 rfl rfl)
theorem dX3_spared_73 : decode cX3_spared 73 = .ok (.lcmp, 1) := dk_148 (dk_at dksX3_spared_3 3 rfl rfl)
theorem dX3_spared_74 : decode cX3_spared 74 = .ok (.ifCond .ge 10, 3) := dk_156 0 10 (dk_at dksX3_spared_3 4 rfl rfl)
theorem dX3_spared_77 : decode cX3_spared 77 = .ok (.aload_n 0, 1) := dk_42 (dk_at dksX3_spared_3 7 rfl rfl)
theorem dX3_spared_78 : decode cX3_spared 78 = .ok (.bipush 6, 2) := dk_16 6 (dk_at dksX3_spared_3 8 rfl rfl)
theorem dX3_spared_80 : decode cX3_spared 80 = .ok (.invokevirtual 252, 3) := dk_182 0 252 (dk_at dksX3_spared_3 10 rfl rfl)
theorem dX3_spared_83 : decode cX3_spared 83 = .ok (.ireturn, 1) := dk_172 (dk_at dksX3_spared_3 13 rfl rfl)
theorem dX3_spared_84 : decode cX3_spared 84 = .ok (.lconst 0, 1) := dk_9 (dk_at dksX3_spared_3 14 rfl rfl)
theorem dX3_spared_85 : decode cX3_spared 85 = .ok (.lstore 7, 2) := dk_55 7 (dk_at dksX3_spared_3 15 rfl rfl)
theorem dX3_spared_87 : decode cX3_spared 87 = .ok (.iconst 0, 1) := dk_3 (dk_at dksX3_spared_3 17 rfl rfl)
theorem dX3_spared_88 : decode cX3_spared 88 = .ok (.istore 9, 2) := dk_54 9 (dk_at dksX3_spared_3 18 rfl rfl)
theorem dX3_spared_90 : decode cX3_spared 90 = .ok (.iload 9, 2) := dk_21 9 (dk_at dksX3_spared_3 20 rfl rfl)
theorem dX3_spared_92 : decode cX3_spared 92 = .ok (.aload_n 0, 1) := dk_42 (dk_at dksX3_spared_3 22 rfl rfl)
theorem dX3_spared_93 : decode cX3_spared 93 = .ok (.getfield 85, 3) := dk_180 0 85 (dk_at dksX3_spared_4 0 rfl rfl)
theorem dX3_spared_96 : decode cX3_spared 96 = .ok (.iload_n 1, 1) := dk_27 (dk_at dksX3_spared_4 3 rfl rfl)
theorem dX3_spared_97 : decode cX3_spared 97 = .ok (.iaload, 1) := dk_46 (dk_at dksX3_spared_4 4 rfl rfl)
theorem dX3_spared_98 : decode cX3_spared 98 = .ok (.if_icmp .ge 52, 3) := dk_162 0 52 (dk_at dksX3_spared_4 5 rfl rfl)
theorem dX3_spared_101 : decode cX3_spared 101 = .ok (.aload_n 0, 1) := dk_42 (dk_at dksX3_spared_4 8 rfl rfl)
theorem dX3_spared_102 : decode cX3_spared 102 = .ok (.getfield 74, 3) := dk_180 0 74 (dk_at dksX3_spared_4 9 rfl rfl)
theorem dX3_spared_105 : decode cX3_spared 105 = .ok (.bipush 100, 2) := dk_16 100 (dk_at dksX3_spared_4 12 rfl rfl)
theorem dX3_spared_107 : decode cX3_spared 107 = .ok (.aload_n 0, 1) := dk_42 (dk_at dksX3_spared_4 14 rfl rfl)
theorem dX3_spared_108 : decode cX3_spared 108 = .ok (.invokevirtual 421, 3) := dk_182 1 165 (dk_at dksX3_spared_4 15 rfl rfl)
theorem dX3_spared_111 : decode cX3_spared 111 = .ok (.iload 9, 2) := dk_21 9 (dk_at dksX3_spared_4 18 rfl rfl)
theorem dX3_spared_113 : decode cX3_spared 113 = .ok (.iconst 1, 1) := dk_4 (dk_at dksX3_spared_4 20 rfl rfl)
theorem dX3_spared_114 : decode cX3_spared 114 = .ok (.iadd, 1) := dk_96 (dk_at dksX3_spared_4 21 rfl rfl)
theorem dX3_spared_115 : decode cX3_spared 115 = .ok (.iload_n 1, 1) := dk_27 (dk_at dksX3_spared_4 22 rfl rfl)
theorem dX3_spared_116 : decode cX3_spared 116 = .ok (.invokestatic 368, 3) := dk_184 1 112 (dk_at dksX3_spared_5 0 rfl rfl)
theorem dX3_spared_119 : decode cX3_spared 119 = .ok (.imul, 1) := dk_104 (dk_at dksX3_spared_5 3 rfl rfl)
theorem dX3_spared_120 : decode cX3_spared 120 = .ok (.iadd, 1) := dk_96 (dk_at dksX3_spared_5 4 rfl rfl)
theorem dX3_spared_121 : decode cX3_spared 121 = .ok (.imul, 1) := dk_104 (dk_at dksX3_spared_5 5 rfl rfl)
theorem dX3_spared_122 : decode cX3_spared 122 = .ok (.iload_n 2, 1) := dk_28 (dk_at dksX3_spared_5 6 rfl rfl)
theorem dX3_spared_123 : decode cX3_spared 123 = .ok (.iadd, 1) := dk_96 (dk_at dksX3_spared_5 7 rfl rfl)
theorem dX3_spared_124 : decode cX3_spared 124 = .ok (.laload, 1) := dk_47 (dk_at dksX3_spared_5 8 rfl rfl)
theorem dX3_spared_125 : decode cX3_spared 125 = .ok (.lstore 10, 2) := dk_55 10 (dk_at dksX3_spared_5 9 rfl rfl)
theorem dX3_spared_127 : decode cX3_spared 127 = .ok (.lload 10, 2) := dk_22 10 (dk_at dksX3_spared_5 11 rfl rfl)
theorem dX3_spared_129 : decode cX3_spared 129 = .ok (.lload 7, 2) := dk_22 7 (dk_at dksX3_spared_5 13 rfl rfl)
theorem dX3_spared_131 : decode cX3_spared 131 = .ok (.lcmp, 1) := dk_148 (dk_at dksX3_spared_5 15 rfl rfl)
theorem dX3_spared_132 : decode cX3_spared 132 = .ok (.ifCond .le 8, 3) := dk_158 0 8 (dk_at dksX3_spared_5 16 rfl rfl)
theorem dX3_spared_135 : decode cX3_spared 135 = .ok (.lload 10, 2) := dk_22 10 (dk_at dksX3_spared_5 19 rfl rfl)
theorem dX3_spared_137 : decode cX3_spared 137 = .ok (.goto 5, 3) := dk_167 0 5 (dk_at dksX3_spared_5 21 rfl rfl)
theorem dX3_spared_140 : decode cX3_spared 140 = .ok (.lload 7, 2) := dk_22 7 (dk_at dksX3_spared_6 0 rfl rfl)
theorem dX3_spared_142 : decode cX3_spared 142 = .ok (.lstore 7, 2) := dk_55 7 (dk_at dksX3_spared_6 2 rfl rfl)
theorem dX3_spared_144 : decode cX3_spared 144 = .ok (.iinc 9 1, 3) := dk_132 9 1 (dk_at dksX3_spared_6 4 rfl rfl)
theorem dX3_spared_147 : decode cX3_spared 147 = .ok (.goto (-57), 3) := dk_167 255 199 (dk_at dksX3_spared_6 7 rfl rfl)
theorem dX3_spared_150 : decode cX3_spared 150 = .ok (.lload 5, 2) := dk_22 5 (dk_at dksX3_spared_6 10 rfl rfl)
theorem dX3_spared_152 : decode cX3_spared 152 = .ok (.lload 7, 2) := dk_22 7 (dk_at dksX3_spared_6 12 rfl rfl)
theorem dX3_spared_154 : decode cX3_spared 154 = .ok (.lsub, 1) := dk_101 (dk_at dksX3_spared_6 14 rfl rfl)
theorem dX3_spared_155 : decode cX3_spared 155 = .ok (.l2i, 1) := dk_136 (dk_at dksX3_spared_6 15 rfl rfl)
theorem dX3_spared_156 : decode cX3_spared 156 = .ok (.ireturn, 1) := dk_172 (dk_at dksX3_spared_6 16 rfl rfl)
abbrev cX3_plan : ByteArray := prog_23_method_90_code
def yX3_plan : MethodName := ⟨RX3, "plan", "(I)I"⟩
def dkwX3_plan_5 : List UInt8 := [180, 1, 22, 4, 100, 172]
abbrev dktX3_plan_5 : List UInt8 := dkwX3_plan_5 ++ []
def dkwX3_plan_4 : List UInt8 := [180, 0, 94, 42, 180, 1, 22, 42, 180, 1, 205, 79, 42, 89, 180, 1, 22, 4, 96, 181, 1, 22, 42]
abbrev dktX3_plan_4 : List UInt8 := dkwX3_plan_4 ++ dktX3_plan_5
def dkwX3_plan_3 : List UInt8 := [42, 7, 182, 0, 252, 172, 42, 180, 1, 22, 16, 8, 160, 0, 9, 42, 6, 182, 0, 252, 172, 42]
abbrev dktX3_plan_3 : List UInt8 := dkwX3_plan_3 ++ dktX3_plan_4
def dkwX3_plan_2 : List UInt8 := [181, 1, 205, 42, 3, 181, 1, 211, 42, 27, 182, 1, 6, 42, 182, 1, 224, 42, 180, 0, 169, 153, 0, 9]
abbrev dktX3_plan_2 : List UInt8 := dkwX3_plan_2 ++ dktX3_plan_3
def dkwX3_plan_1 : List UInt8 := [184, 0, 220, 154, 0, 9, 42, 5, 182, 0, 252, 172, 42, 3, 181, 0, 137, 42, 3, 181, 0, 176, 42, 3]
abbrev dktX3_plan_1 : List UInt8 := dkwX3_plan_1 ++ dktX3_plan_2
def dkwX3_plan_0 : List UInt8 := [42, 182, 0, 249, 42, 180, 1, 19, 154, 0, 9, 42, 4, 182, 0, 252, 172, 27, 3, 42, 180, 0, 137]
abbrev dktX3_plan_0 : List UInt8 := dkwX3_plan_0 ++ dktX3_plan_1
theorem dksX3_plan_0 : cX3_plan.data.toList.drop 0 = dktX3_plan_0 := by decide +kernel
theorem dksX3_plan_1 : cX3_plan.data.toList.drop 23 = dktX3_plan_1 := dk_seg dksX3_plan_0 23 rfl rfl
theorem dksX3_plan_2 : cX3_plan.data.toList.drop 47 = dktX3_plan_2 := dk_seg dksX3_plan_1 24 rfl rfl
theorem dksX3_plan_3 : cX3_plan.data.toList.drop 71 = dktX3_plan_3 := dk_seg dksX3_plan_2 24 rfl rfl
theorem dksX3_plan_4 : cX3_plan.data.toList.drop 93 = dktX3_plan_4 := dk_seg dksX3_plan_3 22 rfl rfl
theorem dksX3_plan_5 : cX3_plan.data.toList.drop 116 = dktX3_plan_5 := dk_seg dksX3_plan_4 23 rfl rfl
theorem dX3_plan_0 : decode cX3_plan 0 = .ok (.aload_n 0, 1) := dk_42 (dk_at dksX3_plan_0 0 rfl rfl)
theorem dX3_plan_1 : decode cX3_plan 1 = .ok (.invokevirtual 249, 3) := dk_182 0 249 (dk_at dksX3_plan_0 1 rfl rfl)
theorem dX3_plan_4 : decode cX3_plan 4 = .ok (.aload_n 0, 1) := dk_42 (dk_at dksX3_plan_0 4 rfl rfl)
theorem dX3_plan_5 : decode cX3_plan 5 = .ok (.getfield 275, 3) := dk_180 1 19 (dk_at dksX3_plan_0 5 rfl rfl)
theorem dX3_plan_8 : decode cX3_plan 8 = .ok (.ifCond .ne 9, 3) := dk_154 0 9 (dk_at dksX3_plan_0 8 rfl rfl)
theorem dX3_plan_11 : decode cX3_plan 11 = .ok (.aload_n 0, 1) := dk_42 (dk_at dksX3_plan_0 11 rfl rfl)
theorem dX3_plan_12 : decode cX3_plan 12 = .ok (.iconst 1, 1) := dk_4 (dk_at dksX3_plan_0 12 rfl rfl)
theorem dX3_plan_13 : decode cX3_plan 13 = .ok (.invokevirtual 252, 3) := dk_182 0 252 (dk_at dksX3_plan_0 13 rfl rfl)
theorem dX3_plan_16 : decode cX3_plan 16 = .ok (.ireturn, 1) := dk_172 (dk_at dksX3_plan_0 16 rfl rfl)
theorem dX3_plan_17 : decode cX3_plan 17 = .ok (.iload_n 1, 1) := dk_27 (dk_at dksX3_plan_0 17 rfl rfl)
theorem dX3_plan_18 : decode cX3_plan 18 = .ok (.iconst 0, 1) := dk_3 (dk_at dksX3_plan_0 18 rfl rfl)
theorem dX3_plan_19 : decode cX3_plan 19 = .ok (.aload_n 0, 1) := dk_42 (dk_at dksX3_plan_0 19 rfl rfl)
theorem dX3_plan_20 : decode cX3_plan 20 = .ok (.getfield 137, 3) := dk_180 0 137 (dk_at dksX3_plan_0 20 rfl rfl)
theorem dX3_plan_23 : decode cX3_plan 23 = .ok (.invokestatic 220, 3) := dk_184 0 220 (dk_at dksX3_plan_1 0 rfl rfl)
theorem dX3_plan_26 : decode cX3_plan 26 = .ok (.ifCond .ne 9, 3) := dk_154 0 9 (dk_at dksX3_plan_1 3 rfl rfl)
theorem dX3_plan_29 : decode cX3_plan 29 = .ok (.aload_n 0, 1) := dk_42 (dk_at dksX3_plan_1 6 rfl rfl)
theorem dX3_plan_30 : decode cX3_plan 30 = .ok (.iconst 2, 1) := dk_5 (dk_at dksX3_plan_1 7 rfl rfl)
theorem dX3_plan_31 : decode cX3_plan 31 = .ok (.invokevirtual 252, 3) := dk_182 0 252 (dk_at dksX3_plan_1 8 rfl rfl)
theorem dX3_plan_34 : decode cX3_plan 34 = .ok (.ireturn, 1) := dk_172 (dk_at dksX3_plan_1 11 rfl rfl)
theorem dX3_plan_35 : decode cX3_plan 35 = .ok (.aload_n 0, 1) := dk_42 (dk_at dksX3_plan_1 12 rfl rfl)
theorem dX3_plan_36 : decode cX3_plan 36 = .ok (.iconst 0, 1) := dk_3 (dk_at dksX3_plan_1 13 rfl rfl)
theorem dX3_plan_37 : decode cX3_plan 37 = .ok (.putfield 137, 3) := dk_181 0 137 (dk_at dksX3_plan_1 14 rfl rfl)
theorem dX3_plan_40 : decode cX3_plan 40 = .ok (.aload_n 0, 1) := dk_42 (dk_at dksX3_plan_1 17 rfl rfl)
theorem dX3_plan_41 : decode cX3_plan 41 = .ok (.iconst 0, 1) := dk_3 (dk_at dksX3_plan_1 18 rfl rfl)
theorem dX3_plan_42 : decode cX3_plan 42 = .ok (.putfield 176, 3) := dk_181 0 176 (dk_at dksX3_plan_1 19 rfl rfl)
theorem dX3_plan_45 : decode cX3_plan 45 = .ok (.aload_n 0, 1) := dk_42 (dk_at dksX3_plan_1 22 rfl rfl)
theorem dX3_plan_46 : decode cX3_plan 46 = .ok (.iconst 0, 1) := dk_3 (dk_at dksX3_plan_1 23 rfl rfl)
theorem dX3_plan_47 : decode cX3_plan 47 = .ok (.putfield 461, 3) := dk_181 1 205 (dk_at dksX3_plan_2 0 rfl rfl)
theorem dX3_plan_50 : decode cX3_plan 50 = .ok (.aload_n 0, 1) := dk_42 (dk_at dksX3_plan_2 3 rfl rfl)
theorem dX3_plan_51 : decode cX3_plan 51 = .ok (.iconst 0, 1) := dk_3 (dk_at dksX3_plan_2 4 rfl rfl)
theorem dX3_plan_52 : decode cX3_plan 52 = .ok (.putfield 467, 3) := dk_181 1 211 (dk_at dksX3_plan_2 5 rfl rfl)
theorem dX3_plan_55 : decode cX3_plan 55 = .ok (.aload_n 0, 1) := dk_42 (dk_at dksX3_plan_2 8 rfl rfl)
theorem dX3_plan_56 : decode cX3_plan 56 = .ok (.iload_n 1, 1) := dk_27 (dk_at dksX3_plan_2 9 rfl rfl)
theorem dX3_plan_57 : decode cX3_plan 57 = .ok (.invokevirtual 262, 3) := dk_182 1 6 (dk_at dksX3_plan_2 10 rfl rfl)
theorem dX3_plan_60 : decode cX3_plan 60 = .ok (.aload_n 0, 1) := dk_42 (dk_at dksX3_plan_2 13 rfl rfl)
theorem dX3_plan_61 : decode cX3_plan 61 = .ok (.invokevirtual 480, 3) := dk_182 1 224 (dk_at dksX3_plan_2 14 rfl rfl)
theorem dX3_plan_64 : decode cX3_plan 64 = .ok (.aload_n 0, 1) := dk_42 (dk_at dksX3_plan_2 17 rfl rfl)
theorem dX3_plan_65 : decode cX3_plan 65 = .ok (.getfield 169, 3) := dk_180 0 169 (dk_at dksX3_plan_2 18 rfl rfl)
theorem dX3_plan_68 : decode cX3_plan 68 = .ok (.ifCond .eq 9, 3) := dk_153 0 9 (dk_at dksX3_plan_2 21 rfl rfl)
theorem dX3_plan_71 : decode cX3_plan 71 = .ok (.aload_n 0, 1) := dk_42 (dk_at dksX3_plan_3 0 rfl rfl)
theorem dX3_plan_72 : decode cX3_plan 72 = .ok (.iconst 4, 1) := dk_7 (dk_at dksX3_plan_3 1 rfl rfl)
theorem dX3_plan_73 : decode cX3_plan 73 = .ok (.invokevirtual 252, 3) := dk_182 0 252 (dk_at dksX3_plan_3 2 rfl rfl)
theorem dX3_plan_76 : decode cX3_plan 76 = .ok (.ireturn, 1) := dk_172 (dk_at dksX3_plan_3 5 rfl rfl)
theorem dX3_plan_77 : decode cX3_plan 77 = .ok (.aload_n 0, 1) := dk_42 (dk_at dksX3_plan_3 6 rfl rfl)
theorem dX3_plan_78 : decode cX3_plan 78 = .ok (.getfield 278, 3) := dk_180 1 22 (dk_at dksX3_plan_3 7 rfl rfl)
theorem dX3_plan_81 : decode cX3_plan 81 = .ok (.bipush 8, 2) := dk_16 8 (dk_at dksX3_plan_3 10 rfl rfl)
theorem dX3_plan_83 : decode cX3_plan 83 = .ok (.if_icmp .ne 9, 3) := dk_160 0 9 (dk_at dksX3_plan_3 12 rfl rfl)
theorem dX3_plan_86 : decode cX3_plan 86 = .ok (.aload_n 0, 1) := dk_42 (dk_at dksX3_plan_3 15 rfl rfl)
theorem dX3_plan_87 : decode cX3_plan 87 = .ok (.iconst 3, 1) := dk_6 (dk_at dksX3_plan_3 16 rfl rfl)
theorem dX3_plan_88 : decode cX3_plan 88 = .ok (.invokevirtual 252, 3) := dk_182 0 252 (dk_at dksX3_plan_3 17 rfl rfl)
theorem dX3_plan_91 : decode cX3_plan 91 = .ok (.ireturn, 1) := dk_172 (dk_at dksX3_plan_3 20 rfl rfl)
theorem dX3_plan_92 : decode cX3_plan 92 = .ok (.aload_n 0, 1) := dk_42 (dk_at dksX3_plan_3 21 rfl rfl)
theorem dX3_plan_93 : decode cX3_plan 93 = .ok (.getfield 94, 3) := dk_180 0 94 (dk_at dksX3_plan_4 0 rfl rfl)
theorem dX3_plan_96 : decode cX3_plan 96 = .ok (.aload_n 0, 1) := dk_42 (dk_at dksX3_plan_4 3 rfl rfl)
theorem dX3_plan_97 : decode cX3_plan 97 = .ok (.getfield 278, 3) := dk_180 1 22 (dk_at dksX3_plan_4 4 rfl rfl)
theorem dX3_plan_100 : decode cX3_plan 100 = .ok (.aload_n 0, 1) := dk_42 (dk_at dksX3_plan_4 7 rfl rfl)
theorem dX3_plan_101 : decode cX3_plan 101 = .ok (.getfield 461, 3) := dk_180 1 205 (dk_at dksX3_plan_4 8 rfl rfl)
theorem dX3_plan_104 : decode cX3_plan 104 = .ok (.iastore, 1) := dk_79 (dk_at dksX3_plan_4 11 rfl rfl)
theorem dX3_plan_105 : decode cX3_plan 105 = .ok (.aload_n 0, 1) := dk_42 (dk_at dksX3_plan_4 12 rfl rfl)
theorem dX3_plan_106 : decode cX3_plan 106 = .ok (.dup, 1) := dk_89 (dk_at dksX3_plan_4 13 rfl rfl)
theorem dX3_plan_107 : decode cX3_plan 107 = .ok (.getfield 278, 3) := dk_180 1 22 (dk_at dksX3_plan_4 14 rfl rfl)
theorem dX3_plan_110 : decode cX3_plan 110 = .ok (.iconst 1, 1) := dk_4 (dk_at dksX3_plan_4 17 rfl rfl)
theorem dX3_plan_111 : decode cX3_plan 111 = .ok (.iadd, 1) := dk_96 (dk_at dksX3_plan_4 18 rfl rfl)
theorem dX3_plan_112 : decode cX3_plan 112 = .ok (.putfield 278, 3) := dk_181 1 22 (dk_at dksX3_plan_4 19 rfl rfl)
theorem dX3_plan_115 : decode cX3_plan 115 = .ok (.aload_n 0, 1) := dk_42 (dk_at dksX3_plan_4 22 rfl rfl)
theorem dX3_plan_116 : decode cX3_plan 116 = .ok (.getfield 278, 3) := dk_180 1 22 (dk_at dksX3_plan_5 0 rfl rfl)
theorem dX3_plan_119 : decode cX3_plan 119 = .ok (.iconst 1, 1) := dk_4 (dk_at dksX3_plan_5 3 rfl rfl)
theorem dX3_plan_120 : decode cX3_plan 120 = .ok (.isub, 1) := dk_100 (dk_at dksX3_plan_5 4 rfl rfl)
theorem dX3_plan_121 : decode cX3_plan 121 = .ok (.ireturn, 1) := dk_172 (dk_at dksX3_plan_5 5 rfl rfl)
abbrev cX3_reads : ByteArray := prog_23_method_89_code
def yX3_reads : MethodName := ⟨RX3, "reads", "()V"⟩
def dkwX3_reads_10 : List UInt8 := [42, 4, 42, 180, 0, 150, 182, 0, 196, 87, 177]
abbrev dktX3_reads_10 : List UInt8 := dkwX3_reads_10 ++ []
def dkwX3_reads_9 : List UInt8 := [3, 61, 28, 153, 0, 7, 42, 182, 0, 173, 167, 255, 40, 27, 157, 0, 10, 42, 180, 0, 159, 153, 0, 13]
abbrev dktX3_reads_9 : List UInt8 := dkwX3_reads_9 ++ dktX3_reads_10
def dkwX3_reads_8 : List UInt8 := [167, 255, 105, 21, 4, 154, 0, 6, 167, 255, 66, 42, 180, 0, 159, 16, 59, 160, 0, 7, 4, 167, 0, 4]
abbrev dktX3_reads_8 : List UInt8 := dkwX3_reads_8 ++ dktX3_reads_9
def dkwX3_reads_7 : List UInt8 := [27, 51, 153, 0, 12, 42, 180, 0, 100, 27, 46, 167, 0, 9, 42, 180, 0, 97, 27, 46, 182, 1, 221]
abbrev dktX3_reads_7 : List UInt8 := dkwX3_reads_7 ++ dktX3_reads_8
def dkwX3_reads_6 : List UInt8 := [182, 1, 221, 42, 180, 0, 103, 27, 4, 84, 132, 1, 1, 3, 54, 4, 167, 0, 31, 42, 42, 180, 0, 103]
abbrev dktX3_reads_6 : List UInt8 := dkwX3_reads_6 ++ dktX3_reads_7
def dkwX3_reads_5 : List UInt8 := [182, 0, 173, 42, 180, 0, 100, 27, 42, 5, 3, 3, 3, 182, 1, 214, 79, 42, 42, 180, 0, 97, 27, 46]
abbrev dktX3_reads_5 : List UInt8 := dkwX3_reads_5 ++ dktX3_reads_6
def dkwX3_reads_4 : List UInt8 := [182, 0, 173, 42, 180, 0, 159, 16, 40, 159, 0, 14, 42, 4, 42, 180, 0, 150, 182, 0, 196, 87, 177, 42]
abbrev dktX3_reads_4 : List UInt8 := dkwX3_reads_4 ++ dktX3_reads_5
def dkwX3_reads_3 : List UInt8 := [42, 18, 210, 182, 0, 192, 153, 0, 7, 4, 167, 0, 4, 3, 54, 5, 21, 5, 153, 0, 71, 42]
abbrev dktX3_reads_3 : List UInt8 := dkwX3_reads_3 ++ dktX3_reads_4
def dkwX3_reads_2 : List UInt8 := [180, 0, 159, 16, 41, 160, 0, 139, 42, 182, 0, 173, 132, 1, 255, 42, 180, 0, 103, 27, 51, 154, 0, 16]
abbrev dktX3_reads_2 : List UInt8 := dkwX3_reads_2 ++ dktX3_reads_3
def dkwX3_reads_1 : List UInt8 := [153, 0, 9, 132, 1, 1, 167, 255, 231, 4, 54, 4, 21, 4, 153, 0, 152, 27, 158, 0, 148, 42]
abbrev dktX3_reads_1 : List UInt8 := dkwX3_reads_1 ++ dktX3_reads_2
def dkwX3_reads_0 : List UInt8 := [3, 60, 4, 61, 28, 153, 0, 218, 42, 27, 182, 1, 218, 62, 42, 180, 0, 169, 153, 0, 4, 177, 29]
abbrev dktX3_reads_0 : List UInt8 := dkwX3_reads_0 ++ dktX3_reads_1
theorem dksX3_reads_0 : cX3_reads.data.toList.drop 0 = dktX3_reads_0 := by decide +kernel
theorem dksX3_reads_1 : cX3_reads.data.toList.drop 23 = dktX3_reads_1 := dk_seg dksX3_reads_0 23 rfl rfl
theorem dksX3_reads_2 : cX3_reads.data.toList.drop 45 = dktX3_reads_2 := dk_seg dksX3_reads_1 22 rfl rfl
theorem dksX3_reads_3 : cX3_reads.data.toList.drop 69 = dktX3_reads_3 := dk_seg dksX3_reads_2 24 rfl rfl
theorem dksX3_reads_4 : cX3_reads.data.toList.drop 91 = dktX3_reads_4 := dk_seg dksX3_reads_3 22 rfl rfl
theorem dksX3_reads_5 : cX3_reads.data.toList.drop 115 = dktX3_reads_5 := dk_seg dksX3_reads_4 24 rfl rfl
theorem dksX3_reads_6 : cX3_reads.data.toList.drop 139 = dktX3_reads_6 := dk_seg dksX3_reads_5 24 rfl rfl
theorem dksX3_reads_7 : cX3_reads.data.toList.drop 163 = dktX3_reads_7 := dk_seg dksX3_reads_6 24 rfl rfl
theorem dksX3_reads_8 : cX3_reads.data.toList.drop 186 = dktX3_reads_8 := dk_seg dksX3_reads_7 23 rfl rfl
theorem dksX3_reads_9 : cX3_reads.data.toList.drop 210 = dktX3_reads_9 := dk_seg dksX3_reads_8 24 rfl rfl
theorem dksX3_reads_10 : cX3_reads.data.toList.drop 234 = dktX3_reads_10 := dk_seg dksX3_reads_9 24 rfl rfl
theorem dX3_reads_0 : decode cX3_reads 0 = .ok (.iconst 0, 1) := dk_3 (dk_at dksX3_reads_0 0 rfl rfl)
theorem dX3_reads_1 : decode cX3_reads 1 = .ok (.istore_n 1, 1) := dk_60 (dk_at dksX3_reads_0 1 rfl rfl)
theorem dX3_reads_2 : decode cX3_reads 2 = .ok (.iconst 1, 1) := dk_4 (dk_at dksX3_reads_0 2 rfl rfl)
theorem dX3_reads_3 : decode cX3_reads 3 = .ok (.istore_n 2, 1) := dk_61 (dk_at dksX3_reads_0 3 rfl rfl)
theorem dX3_reads_4 : decode cX3_reads 4 = .ok (.iload_n 2, 1) := dk_28 (dk_at dksX3_reads_0 4 rfl rfl)
theorem dX3_reads_5 : decode cX3_reads 5 = .ok (.ifCond .eq 218, 3) := dk_153 0 218 (dk_at dksX3_reads_0 5 rfl rfl)
theorem dX3_reads_8 : decode cX3_reads 8 = .ok (.aload_n 0, 1) := dk_42 (dk_at dksX3_reads_0 8 rfl rfl)
theorem dX3_reads_9 : decode cX3_reads 9 = .ok (.iload_n 1, 1) := dk_27 (dk_at dksX3_reads_0 9 rfl rfl)
theorem dX3_reads_10 : decode cX3_reads 10 = .ok (.invokevirtual 474, 3) := dk_182 1 218 (dk_at dksX3_reads_0 10 rfl rfl)
theorem dX3_reads_13 : decode cX3_reads 13 = .ok (.istore_n 3, 1) := dk_62 (dk_at dksX3_reads_0 13 rfl rfl)
theorem dX3_reads_14 : decode cX3_reads 14 = .ok (.aload_n 0, 1) := dk_42 (dk_at dksX3_reads_0 14 rfl rfl)
theorem dX3_reads_15 : decode cX3_reads 15 = .ok (.getfield 169, 3) := dk_180 0 169 (dk_at dksX3_reads_0 15 rfl rfl)
theorem dX3_reads_18 : decode cX3_reads 18 = .ok (.ifCond .eq 4, 3) := dk_153 0 4 (dk_at dksX3_reads_0 18 rfl rfl)
theorem dX3_reads_21 : decode cX3_reads 21 = .ok (.return_, 1) := dk_177 (dk_at dksX3_reads_0 21 rfl rfl)
theorem dX3_reads_22 : decode cX3_reads 22 = .ok (.iload_n 3, 1) := dk_29 (dk_at dksX3_reads_0 22 rfl rfl)
theorem dX3_reads_23 : decode cX3_reads 23 = .ok (.ifCond .eq 9, 3) := dk_153 0 9 (dk_at dksX3_reads_1 0 rfl rfl)
theorem dX3_reads_26 : decode cX3_reads 26 = .ok (.iinc 1 1, 3) := dk_132 1 1 (dk_at dksX3_reads_1 3 rfl rfl)
theorem dX3_reads_29 : decode cX3_reads 29 = .ok (.goto (-25), 3) := dk_167 255 231 (dk_at dksX3_reads_1 6 rfl rfl)
theorem dX3_reads_32 : decode cX3_reads 32 = .ok (.iconst 1, 1) := dk_4 (dk_at dksX3_reads_1 9 rfl rfl)
theorem dX3_reads_33 : decode cX3_reads 33 = .ok (.istore 4, 2) := dk_54 4 (dk_at dksX3_reads_1 10 rfl rfl)
theorem dX3_reads_35 : decode cX3_reads 35 = .ok (.iload 4, 2) := dk_21 4 (dk_at dksX3_reads_1 12 rfl rfl)
theorem dX3_reads_37 : decode cX3_reads 37 = .ok (.ifCond .eq 152, 3) := dk_153 0 152 (dk_at dksX3_reads_1 14 rfl rfl)
theorem dX3_reads_40 : decode cX3_reads 40 = .ok (.iload_n 1, 1) := dk_27 (dk_at dksX3_reads_1 17 rfl rfl)
theorem dX3_reads_41 : decode cX3_reads 41 = .ok (.ifCond .le 148, 3) := dk_158 0 148 (dk_at dksX3_reads_1 18 rfl rfl)
theorem dX3_reads_44 : decode cX3_reads 44 = .ok (.aload_n 0, 1) := dk_42 (dk_at dksX3_reads_1 21 rfl rfl)
theorem dX3_reads_45 : decode cX3_reads 45 = .ok (.getfield 159, 3) := dk_180 0 159 (dk_at dksX3_reads_2 0 rfl rfl)
theorem dX3_reads_48 : decode cX3_reads 48 = .ok (.bipush 41, 2) := dk_16 41 (dk_at dksX3_reads_2 3 rfl rfl)
theorem dX3_reads_50 : decode cX3_reads 50 = .ok (.if_icmp .ne 139, 3) := dk_160 0 139 (dk_at dksX3_reads_2 5 rfl rfl)
theorem dX3_reads_53 : decode cX3_reads 53 = .ok (.aload_n 0, 1) := dk_42 (dk_at dksX3_reads_2 8 rfl rfl)
theorem dX3_reads_54 : decode cX3_reads 54 = .ok (.invokevirtual 173, 3) := dk_182 0 173 (dk_at dksX3_reads_2 9 rfl rfl)
theorem dX3_reads_57 : decode cX3_reads 57 = .ok (.iinc 1 (-1), 3) := dk_132 1 255 (dk_at dksX3_reads_2 12 rfl rfl)
theorem dX3_reads_60 : decode cX3_reads 60 = .ok (.aload_n 0, 1) := dk_42 (dk_at dksX3_reads_2 15 rfl rfl)
theorem dX3_reads_61 : decode cX3_reads 61 = .ok (.getfield 103, 3) := dk_180 0 103 (dk_at dksX3_reads_2 16 rfl rfl)
theorem dX3_reads_64 : decode cX3_reads 64 = .ok (.iload_n 1, 1) := dk_27 (dk_at dksX3_reads_2 19 rfl rfl)
theorem dX3_reads_65 : decode cX3_reads 65 = .ok (.baload, 1) := dk_51 (dk_at dksX3_reads_2 20 rfl rfl)
theorem dX3_reads_66 : decode cX3_reads 66 = .ok (.ifCond .ne 16, 3) := dk_154 0 16 (dk_at dksX3_reads_2 21 rfl rfl)
theorem dX3_reads_69 : decode cX3_reads 69 = .ok (.aload_n 0, 1) := dk_42 (dk_at dksX3_reads_3 0 rfl rfl)
theorem dX3_reads_70 : decode cX3_reads 70 = .ok (.ldc 210, 2) := dk_18 210 (dk_at dksX3_reads_3 1 rfl rfl)
theorem dX3_reads_72 : decode cX3_reads 72 = .ok (.invokevirtual 192, 3) := dk_182 0 192 (dk_at dksX3_reads_3 3 rfl rfl)
theorem dX3_reads_75 : decode cX3_reads 75 = .ok (.ifCond .eq 7, 3) := dk_153 0 7 (dk_at dksX3_reads_3 6 rfl rfl)
theorem dX3_reads_78 : decode cX3_reads 78 = .ok (.iconst 1, 1) := dk_4 (dk_at dksX3_reads_3 9 rfl rfl)
theorem dX3_reads_79 : decode cX3_reads 79 = .ok (.goto 4, 3) := dk_167 0 4 (dk_at dksX3_reads_3 10 rfl rfl)
theorem dX3_reads_82 : decode cX3_reads 82 = .ok (.iconst 0, 1) := dk_3 (dk_at dksX3_reads_3 13 rfl rfl)
theorem dX3_reads_83 : decode cX3_reads 83 = .ok (.istore 5, 2) := dk_54 5 (dk_at dksX3_reads_3 14 rfl rfl)
theorem dX3_reads_85 : decode cX3_reads 85 = .ok (.iload 5, 2) := dk_21 5 (dk_at dksX3_reads_3 16 rfl rfl)
theorem dX3_reads_87 : decode cX3_reads 87 = .ok (.ifCond .eq 71, 3) := dk_153 0 71 (dk_at dksX3_reads_3 18 rfl rfl)
theorem dX3_reads_90 : decode cX3_reads 90 = .ok (.aload_n 0, 1) := dk_42 (dk_at dksX3_reads_3 21 rfl rfl)
theorem dX3_reads_91 : decode cX3_reads 91 = .ok (.invokevirtual 173, 3) := dk_182 0 173 (dk_at dksX3_reads_4 0 rfl rfl)
theorem dX3_reads_94 : decode cX3_reads 94 = .ok (.aload_n 0, 1) := dk_42 (dk_at dksX3_reads_4 3 rfl rfl)
theorem dX3_reads_95 : decode cX3_reads 95 = .ok (.getfield 159, 3) := dk_180 0 159 (dk_at dksX3_reads_4 4 rfl rfl)
theorem dX3_reads_98 : decode cX3_reads 98 = .ok (.bipush 40, 2) := dk_16 40 (dk_at dksX3_reads_4 7 rfl rfl)
theorem dX3_reads_100 : decode cX3_reads 100 = .ok (.if_icmp .eq 14, 3) := dk_159 0 14 (dk_at dksX3_reads_4 9 rfl rfl)
theorem dX3_reads_103 : decode cX3_reads 103 = .ok (.aload_n 0, 1) := dk_42 (dk_at dksX3_reads_4 12 rfl rfl)
theorem dX3_reads_104 : decode cX3_reads 104 = .ok (.iconst 1, 1) := dk_4 (dk_at dksX3_reads_4 13 rfl rfl)
theorem dX3_reads_105 : decode cX3_reads 105 = .ok (.aload_n 0, 1) := dk_42 (dk_at dksX3_reads_4 14 rfl rfl)
theorem dX3_reads_106 : decode cX3_reads 106 = .ok (.getfield 150, 3) := dk_180 0 150 (dk_at dksX3_reads_4 15 rfl rfl)
theorem dX3_reads_109 : decode cX3_reads 109 = .ok (.invokevirtual 196, 3) := dk_182 0 196 (dk_at dksX3_reads_4 18 rfl rfl)
theorem dX3_reads_112 : decode cX3_reads 112 = .ok (.pop, 1) := dk_87 (dk_at dksX3_reads_4 21 rfl rfl)
theorem dX3_reads_113 : decode cX3_reads 113 = .ok (.return_, 1) := dk_177 (dk_at dksX3_reads_4 22 rfl rfl)
theorem dX3_reads_114 : decode cX3_reads 114 = .ok (.aload_n 0, 1) := dk_42 (dk_at dksX3_reads_4 23 rfl rfl)
theorem dX3_reads_115 : decode cX3_reads 115 = .ok (.invokevirtual 173, 3) := dk_182 0 173 (dk_at dksX3_reads_5 0 rfl rfl)
theorem dX3_reads_118 : decode cX3_reads 118 = .ok (.aload_n 0, 1) := dk_42 (dk_at dksX3_reads_5 3 rfl rfl)
theorem dX3_reads_119 : decode cX3_reads 119 = .ok (.getfield 100, 3) := dk_180 0 100 (dk_at dksX3_reads_5 4 rfl rfl)
theorem dX3_reads_122 : decode cX3_reads 122 = .ok (.iload_n 1, 1) := dk_27 (dk_at dksX3_reads_5 7 rfl rfl)
theorem dX3_reads_123 : decode cX3_reads 123 = .ok (.aload_n 0, 1) := dk_42 (dk_at dksX3_reads_5 8 rfl rfl)
theorem dX3_reads_124 : decode cX3_reads 124 = .ok (.iconst 2, 1) := dk_5 (dk_at dksX3_reads_5 9 rfl rfl)
theorem dX3_reads_125 : decode cX3_reads 125 = .ok (.iconst 0, 1) := dk_3 (dk_at dksX3_reads_5 10 rfl rfl)
theorem dX3_reads_126 : decode cX3_reads 126 = .ok (.iconst 0, 1) := dk_3 (dk_at dksX3_reads_5 11 rfl rfl)
theorem dX3_reads_127 : decode cX3_reads 127 = .ok (.iconst 0, 1) := dk_3 (dk_at dksX3_reads_5 12 rfl rfl)
theorem dX3_reads_128 : decode cX3_reads 128 = .ok (.invokevirtual 470, 3) := dk_182 1 214 (dk_at dksX3_reads_5 13 rfl rfl)
theorem dX3_reads_131 : decode cX3_reads 131 = .ok (.iastore, 1) := dk_79 (dk_at dksX3_reads_5 16 rfl rfl)
theorem dX3_reads_132 : decode cX3_reads 132 = .ok (.aload_n 0, 1) := dk_42 (dk_at dksX3_reads_5 17 rfl rfl)
theorem dX3_reads_133 : decode cX3_reads 133 = .ok (.aload_n 0, 1) := dk_42 (dk_at dksX3_reads_5 18 rfl rfl)
theorem dX3_reads_134 : decode cX3_reads 134 = .ok (.getfield 97, 3) := dk_180 0 97 (dk_at dksX3_reads_5 19 rfl rfl)
theorem dX3_reads_137 : decode cX3_reads 137 = .ok (.iload_n 1, 1) := dk_27 (dk_at dksX3_reads_5 22 rfl rfl)
theorem dX3_reads_138 : decode cX3_reads 138 = .ok (.iaload, 1) := dk_46 (dk_at dksX3_reads_5 23 rfl rfl)
theorem dX3_reads_139 : decode cX3_reads 139 = .ok (.invokevirtual 477, 3) := dk_182 1 221 (dk_at dksX3_reads_6 0 rfl rfl)
theorem dX3_reads_142 : decode cX3_reads 142 = .ok (.aload_n 0, 1) := dk_42 (dk_at dksX3_reads_6 3 rfl rfl)
theorem dX3_reads_143 : decode cX3_reads 143 = .ok (.getfield 103, 3) := dk_180 0 103 (dk_at dksX3_reads_6 4 rfl rfl)
theorem dX3_reads_146 : decode cX3_reads 146 = .ok (.iload_n 1, 1) := dk_27 (dk_at dksX3_reads_6 7 rfl rfl)
theorem dX3_reads_147 : decode cX3_reads 147 = .ok (.iconst 1, 1) := dk_4 (dk_at dksX3_reads_6 8 rfl rfl)
theorem dX3_reads_148 : decode cX3_reads 148 = .ok (.bastore, 1) := dk_84 (dk_at dksX3_reads_6 9 rfl rfl)
theorem dX3_reads_149 : decode cX3_reads 149 = .ok (.iinc 1 1, 3) := dk_132 1 1 (dk_at dksX3_reads_6 10 rfl rfl)
theorem dX3_reads_152 : decode cX3_reads 152 = .ok (.iconst 0, 1) := dk_3 (dk_at dksX3_reads_6 13 rfl rfl)
theorem dX3_reads_153 : decode cX3_reads 153 = .ok (.istore 4, 2) := dk_54 4 (dk_at dksX3_reads_6 14 rfl rfl)
theorem dX3_reads_155 : decode cX3_reads 155 = .ok (.goto 31, 3) := dk_167 0 31 (dk_at dksX3_reads_6 16 rfl rfl)
theorem dX3_reads_158 : decode cX3_reads 158 = .ok (.aload_n 0, 1) := dk_42 (dk_at dksX3_reads_6 19 rfl rfl)
theorem dX3_reads_159 : decode cX3_reads 159 = .ok (.aload_n 0, 1) := dk_42 (dk_at dksX3_reads_6 20 rfl rfl)
theorem dX3_reads_160 : decode cX3_reads 160 = .ok (.getfield 103, 3) := dk_180 0 103 (dk_at dksX3_reads_6 21 rfl rfl)
theorem dX3_reads_163 : decode cX3_reads 163 = .ok (.iload_n 1, 1) := dk_27 (dk_at dksX3_reads_7 0 rfl rfl)
theorem dX3_reads_164 : decode cX3_reads 164 = .ok (.baload, 1) := dk_51 (dk_at dksX3_reads_7 1 rfl rfl)
theorem dX3_reads_165 : decode cX3_reads 165 = .ok (.ifCond .eq 12, 3) := dk_153 0 12 (dk_at dksX3_reads_7 2 rfl rfl)
theorem dX3_reads_168 : decode cX3_reads 168 = .ok (.aload_n 0, 1) := dk_42 (dk_at dksX3_reads_7 5 rfl rfl)
theorem dX3_reads_169 : decode cX3_reads 169 = .ok (.getfield 100, 3) := dk_180 0 100 (dk_at dksX3_reads_7 6 rfl rfl)
theorem dX3_reads_172 : decode cX3_reads 172 = .ok (.iload_n 1, 1) := dk_27 (dk_at dksX3_reads_7 9 rfl rfl)
theorem dX3_reads_173 : decode cX3_reads 173 = .ok (.iaload, 1) := dk_46 (dk_at dksX3_reads_7 10 rfl rfl)
theorem dX3_reads_174 : decode cX3_reads 174 = .ok (.goto 9, 3) := dk_167 0 9 (dk_at dksX3_reads_7 11 rfl rfl)
theorem dX3_reads_177 : decode cX3_reads 177 = .ok (.aload_n 0, 1) := dk_42 (dk_at dksX3_reads_7 14 rfl rfl)
theorem dX3_reads_178 : decode cX3_reads 178 = .ok (.getfield 97, 3) := dk_180 0 97 (dk_at dksX3_reads_7 15 rfl rfl)
theorem dX3_reads_181 : decode cX3_reads 181 = .ok (.iload_n 1, 1) := dk_27 (dk_at dksX3_reads_7 18 rfl rfl)
theorem dX3_reads_182 : decode cX3_reads 182 = .ok (.iaload, 1) := dk_46 (dk_at dksX3_reads_7 19 rfl rfl)
theorem dX3_reads_183 : decode cX3_reads 183 = .ok (.invokevirtual 477, 3) := dk_182 1 221 (dk_at dksX3_reads_7 20 rfl rfl)
theorem dX3_reads_186 : decode cX3_reads 186 = .ok (.goto (-151), 3) := dk_167 255 105 (dk_at dksX3_reads_8 0 rfl rfl)
theorem dX3_reads_189 : decode cX3_reads 189 = .ok (.iload 4, 2) := dk_21 4 (dk_at dksX3_reads_8 3 rfl rfl)
theorem dX3_reads_191 : decode cX3_reads 191 = .ok (.ifCond .ne 6, 3) := dk_154 0 6 (dk_at dksX3_reads_8 5 rfl rfl)
theorem dX3_reads_194 : decode cX3_reads 194 = .ok (.goto (-190), 3) := dk_167 255 66 (dk_at dksX3_reads_8 8 rfl rfl)
theorem dX3_reads_197 : decode cX3_reads 197 = .ok (.aload_n 0, 1) := dk_42 (dk_at dksX3_reads_8 11 rfl rfl)
theorem dX3_reads_198 : decode cX3_reads 198 = .ok (.getfield 159, 3) := dk_180 0 159 (dk_at dksX3_reads_8 12 rfl rfl)
theorem dX3_reads_201 : decode cX3_reads 201 = .ok (.bipush 59, 2) := dk_16 59 (dk_at dksX3_reads_8 15 rfl rfl)
theorem dX3_reads_203 : decode cX3_reads 203 = .ok (.if_icmp .ne 7, 3) := dk_160 0 7 (dk_at dksX3_reads_8 17 rfl rfl)
theorem dX3_reads_206 : decode cX3_reads 206 = .ok (.iconst 1, 1) := dk_4 (dk_at dksX3_reads_8 20 rfl rfl)
theorem dX3_reads_207 : decode cX3_reads 207 = .ok (.goto 4, 3) := dk_167 0 4 (dk_at dksX3_reads_8 21 rfl rfl)
theorem dX3_reads_210 : decode cX3_reads 210 = .ok (.iconst 0, 1) := dk_3 (dk_at dksX3_reads_9 0 rfl rfl)
theorem dX3_reads_211 : decode cX3_reads 211 = .ok (.istore_n 2, 1) := dk_61 (dk_at dksX3_reads_9 1 rfl rfl)
theorem dX3_reads_212 : decode cX3_reads 212 = .ok (.iload_n 2, 1) := dk_28 (dk_at dksX3_reads_9 2 rfl rfl)
theorem dX3_reads_213 : decode cX3_reads 213 = .ok (.ifCond .eq 7, 3) := dk_153 0 7 (dk_at dksX3_reads_9 3 rfl rfl)
theorem dX3_reads_216 : decode cX3_reads 216 = .ok (.aload_n 0, 1) := dk_42 (dk_at dksX3_reads_9 6 rfl rfl)
theorem dX3_reads_217 : decode cX3_reads 217 = .ok (.invokevirtual 173, 3) := dk_182 0 173 (dk_at dksX3_reads_9 7 rfl rfl)
theorem dX3_reads_220 : decode cX3_reads 220 = .ok (.goto (-216), 3) := dk_167 255 40 (dk_at dksX3_reads_9 10 rfl rfl)
theorem dX3_reads_223 : decode cX3_reads 223 = .ok (.iload_n 1, 1) := dk_27 (dk_at dksX3_reads_9 13 rfl rfl)
theorem dX3_reads_224 : decode cX3_reads 224 = .ok (.ifCond .gt 10, 3) := dk_157 0 10 (dk_at dksX3_reads_9 14 rfl rfl)
theorem dX3_reads_227 : decode cX3_reads 227 = .ok (.aload_n 0, 1) := dk_42 (dk_at dksX3_reads_9 17 rfl rfl)
theorem dX3_reads_228 : decode cX3_reads 228 = .ok (.getfield 159, 3) := dk_180 0 159 (dk_at dksX3_reads_9 18 rfl rfl)
theorem dX3_reads_231 : decode cX3_reads 231 = .ok (.ifCond .eq 13, 3) := dk_153 0 13 (dk_at dksX3_reads_9 21 rfl rfl)
theorem dX3_reads_234 : decode cX3_reads 234 = .ok (.aload_n 0, 1) := dk_42 (dk_at dksX3_reads_10 0 rfl rfl)
theorem dX3_reads_235 : decode cX3_reads 235 = .ok (.iconst 1, 1) := dk_4 (dk_at dksX3_reads_10 1 rfl rfl)
theorem dX3_reads_236 : decode cX3_reads 236 = .ok (.aload_n 0, 1) := dk_42 (dk_at dksX3_reads_10 2 rfl rfl)
theorem dX3_reads_237 : decode cX3_reads 237 = .ok (.getfield 150, 3) := dk_180 0 150 (dk_at dksX3_reads_10 3 rfl rfl)
theorem dX3_reads_240 : decode cX3_reads 240 = .ok (.invokevirtual 196, 3) := dk_182 0 196 (dk_at dksX3_reads_10 6 rfl rfl)
theorem dX3_reads_243 : decode cX3_reads 243 = .ok (.pop, 1) := dk_87 (dk_at dksX3_reads_10 9 rfl rfl)
theorem dX3_reads_244 : decode cX3_reads 244 = .ok (.return_, 1) := dk_177 (dk_at dksX3_reads_10 10 rfl rfl)
abbrev cX3_opens : ByteArray := prog_23_method_88_code
def yX3_opens : MethodName := ⟨RX3, "opens", "(I)Z"⟩
def dkwX3_opens_12 : List UInt8 := [172]
abbrev dktX3_opens_12 : List UInt8 := dkwX3_opens_12 ++ []
def dkwX3_opens_11 : List UInt8 := [42, 180, 0, 97, 27, 42, 4, 21, 4, 21, 5, 3, 182, 1, 214, 79, 42, 180, 0, 103, 27, 3, 84, 4]
abbrev dktX3_opens_11 : List UInt8 := dkwX3_opens_11 ++ dktX3_opens_12
def dkwX3_opens_10 : List UInt8 := [182, 0, 196, 172, 27, 16, 6, 160, 0, 13, 42, 8, 42, 180, 0, 150, 182, 0, 196, 172, 42, 182, 0, 173]
abbrev dktX3_opens_10 : List UInt8 := dkwX3_opens_10 ++ dktX3_opens_11
def dkwX3_opens_9 : List UInt8 := [182, 0, 196, 172, 42, 182, 0, 173, 42, 180, 0, 159, 16, 40, 159, 0, 13, 42, 4, 42, 180, 0, 150]
abbrev dktX3_opens_9 : List UInt8 := dkwX3_opens_9 ++ dktX3_opens_10
def dkwX3_opens_8 : List UInt8 := [180, 0, 19, 42, 180, 0, 228, 182, 1, 56, 54, 5, 21, 5, 156, 0, 13, 42, 5, 42, 180, 0, 150]
abbrev dktX3_opens_8 : List UInt8 := dkwX3_opens_8 ++ dktX3_opens_9
def dkwX3_opens_7 : List UInt8 := [42, 182, 1, 52, 154, 0, 13, 42, 4, 42, 180, 0, 150, 182, 0, 196, 172, 42, 42, 180, 0, 16, 42]
abbrev dktX3_opens_7 : List UInt8 := dkwX3_opens_7 ++ dktX3_opens_8
def dkwX3_opens_6 : List UInt8 := [182, 0, 196, 172, 42, 182, 0, 173, 42, 18, 208, 182, 1, 38, 87, 42, 180, 0, 169, 153, 0, 5, 3, 172]
abbrev dktX3_opens_6 : List UInt8 := dkwX3_opens_6 ++ dktX3_opens_7
def dkwX3_opens_5 : List UInt8 := [172, 42, 180, 0, 156, 54, 4, 21, 4, 42, 180, 1, 25, 161, 0, 13, 42, 5, 42, 180, 0, 150]
abbrev dktX3_opens_5 : List UInt8 := dkwX3_opens_5 ++ dktX3_opens_6
def dkwX3_opens_4 : List UInt8 := [3, 182, 1, 214, 87, 3, 172, 42, 180, 0, 159, 6, 159, 0, 13, 42, 4, 42, 180, 0, 150, 182, 0, 196]
abbrev dktX3_opens_4 : List UInt8 := dkwX3_opens_4 ++ dktX3_opens_5
def dkwX3_opens_3 : List UInt8 := [54, 4, 42, 180, 0, 159, 6, 160, 0, 12, 42, 4, 16, 9, 182, 1, 41, 54, 4, 42, 3, 28, 21, 4]
abbrev dktX3_opens_3 : List UInt8 := dkwX3_opens_3 ++ dktX3_opens_4
def dkwX3_opens_2 : List UInt8 := [182, 0, 196, 172, 42, 89, 180, 1, 211, 4, 96, 181, 1, 211, 42, 182, 0, 173, 29, 154, 0, 35, 4]
abbrev dktX3_opens_2 : List UInt8 := dkwX3_opens_2 ++ dktX3_opens_3
def dkwX3_opens_1 : List UInt8 := [180, 0, 150, 182, 0, 196, 172, 42, 180, 1, 211, 16, 40, 160, 0, 13, 42, 8, 42, 180, 0, 150]
abbrev dktX3_opens_1 : List UInt8 := dkwX3_opens_1 ++ dktX3_opens_2
def dkwX3_opens_0 : List UInt8 := [42, 182, 1, 208, 61, 42, 18, 206, 182, 0, 192, 62, 28, 156, 0, 17, 29, 154, 0, 13, 42, 4, 42]
abbrev dktX3_opens_0 : List UInt8 := dkwX3_opens_0 ++ dktX3_opens_1
theorem dksX3_opens_0 : cX3_opens.data.toList.drop 0 = dktX3_opens_0 := by decide +kernel
theorem dksX3_opens_1 : cX3_opens.data.toList.drop 23 = dktX3_opens_1 := dk_seg dksX3_opens_0 23 rfl rfl
theorem dksX3_opens_2 : cX3_opens.data.toList.drop 45 = dktX3_opens_2 := dk_seg dksX3_opens_1 22 rfl rfl
theorem dksX3_opens_3 : cX3_opens.data.toList.drop 68 = dktX3_opens_3 := dk_seg dksX3_opens_2 23 rfl rfl
theorem dksX3_opens_4 : cX3_opens.data.toList.drop 92 = dktX3_opens_4 := dk_seg dksX3_opens_3 24 rfl rfl
theorem dksX3_opens_5 : cX3_opens.data.toList.drop 116 = dktX3_opens_5 := dk_seg dksX3_opens_4 24 rfl rfl
theorem dksX3_opens_6 : cX3_opens.data.toList.drop 138 = dktX3_opens_6 := dk_seg dksX3_opens_5 22 rfl rfl
theorem dksX3_opens_7 : cX3_opens.data.toList.drop 162 = dktX3_opens_7 := dk_seg dksX3_opens_6 24 rfl rfl
theorem dksX3_opens_8 : cX3_opens.data.toList.drop 185 = dktX3_opens_8 := dk_seg dksX3_opens_7 23 rfl rfl
theorem dksX3_opens_9 : cX3_opens.data.toList.drop 208 = dktX3_opens_9 := dk_seg dksX3_opens_8 23 rfl rfl
theorem dksX3_opens_10 : cX3_opens.data.toList.drop 231 = dktX3_opens_10 := dk_seg dksX3_opens_9 23 rfl rfl
theorem dksX3_opens_11 : cX3_opens.data.toList.drop 255 = dktX3_opens_11 := dk_seg dksX3_opens_10 24 rfl rfl
theorem dksX3_opens_12 : cX3_opens.data.toList.drop 279 = dktX3_opens_12 := dk_seg dksX3_opens_11 24 rfl rfl
theorem dX3_opens_0 : decode cX3_opens 0 = .ok (.aload_n 0, 1) := dk_42 (dk_at dksX3_opens_0 0 rfl rfl)
theorem dX3_opens_1 : decode cX3_opens 1 = .ok (.invokevirtual 464, 3) := dk_182 1 208 (dk_at dksX3_opens_0 1 rfl rfl)
theorem dX3_opens_4 : decode cX3_opens 4 = .ok (.istore_n 2, 1) := dk_61 (dk_at dksX3_opens_0 4 rfl rfl)
theorem dX3_opens_5 : decode cX3_opens 5 = .ok (.aload_n 0, 1) := dk_42 (dk_at dksX3_opens_0 5 rfl rfl)
theorem dX3_opens_6 : decode cX3_opens 6 = .ok (.ldc 206, 2) := dk_18 206 (dk_at dksX3_opens_0 6 rfl rfl)
theorem dX3_opens_8 : decode cX3_opens 8 = .ok (.invokevirtual 192, 3) := dk_182 0 192 (dk_at dksX3_opens_0 8 rfl rfl)
theorem dX3_opens_11 : decode cX3_opens 11 = .ok (.istore_n 3, 1) := dk_62 (dk_at dksX3_opens_0 11 rfl rfl)
theorem dX3_opens_12 : decode cX3_opens 12 = .ok (.iload_n 2, 1) := dk_28 (dk_at dksX3_opens_0 12 rfl rfl)
theorem dX3_opens_13 : decode cX3_opens 13 = .ok (.ifCond .ge 17, 3) := dk_156 0 17 (dk_at dksX3_opens_0 13 rfl rfl)
theorem dX3_opens_16 : decode cX3_opens 16 = .ok (.iload_n 3, 1) := dk_29 (dk_at dksX3_opens_0 16 rfl rfl)
theorem dX3_opens_17 : decode cX3_opens 17 = .ok (.ifCond .ne 13, 3) := dk_154 0 13 (dk_at dksX3_opens_0 17 rfl rfl)
theorem dX3_opens_20 : decode cX3_opens 20 = .ok (.aload_n 0, 1) := dk_42 (dk_at dksX3_opens_0 20 rfl rfl)
theorem dX3_opens_21 : decode cX3_opens 21 = .ok (.iconst 1, 1) := dk_4 (dk_at dksX3_opens_0 21 rfl rfl)
theorem dX3_opens_22 : decode cX3_opens 22 = .ok (.aload_n 0, 1) := dk_42 (dk_at dksX3_opens_0 22 rfl rfl)
theorem dX3_opens_23 : decode cX3_opens 23 = .ok (.getfield 150, 3) := dk_180 0 150 (dk_at dksX3_opens_1 0 rfl rfl)
theorem dX3_opens_26 : decode cX3_opens 26 = .ok (.invokevirtual 196, 3) := dk_182 0 196 (dk_at dksX3_opens_1 3 rfl rfl)
theorem dX3_opens_29 : decode cX3_opens 29 = .ok (.ireturn, 1) := dk_172 (dk_at dksX3_opens_1 6 rfl rfl)
theorem dX3_opens_30 : decode cX3_opens 30 = .ok (.aload_n 0, 1) := dk_42 (dk_at dksX3_opens_1 7 rfl rfl)
theorem dX3_opens_31 : decode cX3_opens 31 = .ok (.getfield 467, 3) := dk_180 1 211 (dk_at dksX3_opens_1 8 rfl rfl)
theorem dX3_opens_34 : decode cX3_opens 34 = .ok (.bipush 40, 2) := dk_16 40 (dk_at dksX3_opens_1 11 rfl rfl)
theorem dX3_opens_36 : decode cX3_opens 36 = .ok (.if_icmp .ne 13, 3) := dk_160 0 13 (dk_at dksX3_opens_1 13 rfl rfl)
theorem dX3_opens_39 : decode cX3_opens 39 = .ok (.aload_n 0, 1) := dk_42 (dk_at dksX3_opens_1 16 rfl rfl)
theorem dX3_opens_40 : decode cX3_opens 40 = .ok (.iconst 5, 1) := dk_8 (dk_at dksX3_opens_1 17 rfl rfl)
theorem dX3_opens_41 : decode cX3_opens 41 = .ok (.aload_n 0, 1) := dk_42 (dk_at dksX3_opens_1 18 rfl rfl)
theorem dX3_opens_42 : decode cX3_opens 42 = .ok (.getfield 150, 3) := dk_180 0 150 (dk_at dksX3_opens_1 19 rfl rfl)
theorem dX3_opens_45 : decode cX3_opens 45 = .ok (.invokevirtual 196, 3) := dk_182 0 196 (dk_at dksX3_opens_2 0 rfl rfl)
theorem dX3_opens_48 : decode cX3_opens 48 = .ok (.ireturn, 1) := dk_172 (dk_at dksX3_opens_2 3 rfl rfl)
theorem dX3_opens_49 : decode cX3_opens 49 = .ok (.aload_n 0, 1) := dk_42 (dk_at dksX3_opens_2 4 rfl rfl)
theorem dX3_opens_50 : decode cX3_opens 50 = .ok (.dup, 1) := dk_89 (dk_at dksX3_opens_2 5 rfl rfl)
theorem dX3_opens_51 : decode cX3_opens 51 = .ok (.getfield 467, 3) := dk_180 1 211 (dk_at dksX3_opens_2 6 rfl rfl)
theorem dX3_opens_54 : decode cX3_opens 54 = .ok (.iconst 1, 1) := dk_4 (dk_at dksX3_opens_2 9 rfl rfl)
theorem dX3_opens_55 : decode cX3_opens 55 = .ok (.iadd, 1) := dk_96 (dk_at dksX3_opens_2 10 rfl rfl)
theorem dX3_opens_56 : decode cX3_opens 56 = .ok (.putfield 467, 3) := dk_181 1 211 (dk_at dksX3_opens_2 11 rfl rfl)
theorem dX3_opens_59 : decode cX3_opens 59 = .ok (.aload_n 0, 1) := dk_42 (dk_at dksX3_opens_2 14 rfl rfl)
theorem dX3_opens_60 : decode cX3_opens 60 = .ok (.invokevirtual 173, 3) := dk_182 0 173 (dk_at dksX3_opens_2 15 rfl rfl)
theorem dX3_opens_63 : decode cX3_opens 63 = .ok (.iload_n 3, 1) := dk_29 (dk_at dksX3_opens_2 18 rfl rfl)
theorem dX3_opens_64 : decode cX3_opens 64 = .ok (.ifCond .ne 35, 3) := dk_154 0 35 (dk_at dksX3_opens_2 19 rfl rfl)
theorem dX3_opens_67 : decode cX3_opens 67 = .ok (.iconst 1, 1) := dk_4 (dk_at dksX3_opens_2 22 rfl rfl)
theorem dX3_opens_68 : decode cX3_opens 68 = .ok (.istore 4, 2) := dk_54 4 (dk_at dksX3_opens_3 0 rfl rfl)
theorem dX3_opens_70 : decode cX3_opens 70 = .ok (.aload_n 0, 1) := dk_42 (dk_at dksX3_opens_3 2 rfl rfl)
theorem dX3_opens_71 : decode cX3_opens 71 = .ok (.getfield 159, 3) := dk_180 0 159 (dk_at dksX3_opens_3 3 rfl rfl)
theorem dX3_opens_74 : decode cX3_opens 74 = .ok (.iconst 3, 1) := dk_6 (dk_at dksX3_opens_3 6 rfl rfl)
theorem dX3_opens_75 : decode cX3_opens 75 = .ok (.if_icmp .ne 12, 3) := dk_160 0 12 (dk_at dksX3_opens_3 7 rfl rfl)
theorem dX3_opens_78 : decode cX3_opens 78 = .ok (.aload_n 0, 1) := dk_42 (dk_at dksX3_opens_3 10 rfl rfl)
theorem dX3_opens_79 : decode cX3_opens 79 = .ok (.iconst 1, 1) := dk_4 (dk_at dksX3_opens_3 11 rfl rfl)
theorem dX3_opens_80 : decode cX3_opens 80 = .ok (.bipush 9, 2) := dk_16 9 (dk_at dksX3_opens_3 12 rfl rfl)
theorem dX3_opens_82 : decode cX3_opens 82 = .ok (.invokevirtual 297, 3) := dk_182 1 41 (dk_at dksX3_opens_3 14 rfl rfl)
theorem dX3_opens_85 : decode cX3_opens 85 = .ok (.istore 4, 2) := dk_54 4 (dk_at dksX3_opens_3 17 rfl rfl)
theorem dX3_opens_87 : decode cX3_opens 87 = .ok (.aload_n 0, 1) := dk_42 (dk_at dksX3_opens_3 19 rfl rfl)
theorem dX3_opens_88 : decode cX3_opens 88 = .ok (.iconst 0, 1) := dk_3 (dk_at dksX3_opens_3 20 rfl rfl)
theorem dX3_opens_89 : decode cX3_opens 89 = .ok (.iload_n 2, 1) := dk_28 (dk_at dksX3_opens_3 21 rfl rfl)
theorem dX3_opens_90 : decode cX3_opens 90 = .ok (.iload 4, 2) := dk_21 4 (dk_at dksX3_opens_3 22 rfl rfl)
theorem dX3_opens_92 : decode cX3_opens 92 = .ok (.iconst 0, 1) := dk_3 (dk_at dksX3_opens_4 0 rfl rfl)
theorem dX3_opens_93 : decode cX3_opens 93 = .ok (.invokevirtual 470, 3) := dk_182 1 214 (dk_at dksX3_opens_4 1 rfl rfl)
theorem dX3_opens_96 : decode cX3_opens 96 = .ok (.pop, 1) := dk_87 (dk_at dksX3_opens_4 4 rfl rfl)
theorem dX3_opens_97 : decode cX3_opens 97 = .ok (.iconst 0, 1) := dk_3 (dk_at dksX3_opens_4 5 rfl rfl)
theorem dX3_opens_98 : decode cX3_opens 98 = .ok (.ireturn, 1) := dk_172 (dk_at dksX3_opens_4 6 rfl rfl)
theorem dX3_opens_99 : decode cX3_opens 99 = .ok (.aload_n 0, 1) := dk_42 (dk_at dksX3_opens_4 7 rfl rfl)
theorem dX3_opens_100 : decode cX3_opens 100 = .ok (.getfield 159, 3) := dk_180 0 159 (dk_at dksX3_opens_4 8 rfl rfl)
theorem dX3_opens_103 : decode cX3_opens 103 = .ok (.iconst 3, 1) := dk_6 (dk_at dksX3_opens_4 11 rfl rfl)
theorem dX3_opens_104 : decode cX3_opens 104 = .ok (.if_icmp .eq 13, 3) := dk_159 0 13 (dk_at dksX3_opens_4 12 rfl rfl)
theorem dX3_opens_107 : decode cX3_opens 107 = .ok (.aload_n 0, 1) := dk_42 (dk_at dksX3_opens_4 15 rfl rfl)
theorem dX3_opens_108 : decode cX3_opens 108 = .ok (.iconst 1, 1) := dk_4 (dk_at dksX3_opens_4 16 rfl rfl)
theorem dX3_opens_109 : decode cX3_opens 109 = .ok (.aload_n 0, 1) := dk_42 (dk_at dksX3_opens_4 17 rfl rfl)
theorem dX3_opens_110 : decode cX3_opens 110 = .ok (.getfield 150, 3) := dk_180 0 150 (dk_at dksX3_opens_4 18 rfl rfl)
theorem dX3_opens_113 : decode cX3_opens 113 = .ok (.invokevirtual 196, 3) := dk_182 0 196 (dk_at dksX3_opens_4 21 rfl rfl)
theorem dX3_opens_116 : decode cX3_opens 116 = .ok (.ireturn, 1) := dk_172 (dk_at dksX3_opens_5 0 rfl rfl)
theorem dX3_opens_117 : decode cX3_opens 117 = .ok (.aload_n 0, 1) := dk_42 (dk_at dksX3_opens_5 1 rfl rfl)
theorem dX3_opens_118 : decode cX3_opens 118 = .ok (.getfield 156, 3) := dk_180 0 156 (dk_at dksX3_opens_5 2 rfl rfl)
theorem dX3_opens_121 : decode cX3_opens 121 = .ok (.istore 4, 2) := dk_54 4 (dk_at dksX3_opens_5 5 rfl rfl)
theorem dX3_opens_123 : decode cX3_opens 123 = .ok (.iload 4, 2) := dk_21 4 (dk_at dksX3_opens_5 7 rfl rfl)
theorem dX3_opens_125 : decode cX3_opens 125 = .ok (.aload_n 0, 1) := dk_42 (dk_at dksX3_opens_5 9 rfl rfl)
theorem dX3_opens_126 : decode cX3_opens 126 = .ok (.getfield 281, 3) := dk_180 1 25 (dk_at dksX3_opens_5 10 rfl rfl)
theorem dX3_opens_129 : decode cX3_opens 129 = .ok (.if_icmp .lt 13, 3) := dk_161 0 13 (dk_at dksX3_opens_5 13 rfl rfl)
theorem dX3_opens_132 : decode cX3_opens 132 = .ok (.aload_n 0, 1) := dk_42 (dk_at dksX3_opens_5 16 rfl rfl)
theorem dX3_opens_133 : decode cX3_opens 133 = .ok (.iconst 2, 1) := dk_5 (dk_at dksX3_opens_5 17 rfl rfl)
theorem dX3_opens_134 : decode cX3_opens 134 = .ok (.aload_n 0, 1) := dk_42 (dk_at dksX3_opens_5 18 rfl rfl)
theorem dX3_opens_135 : decode cX3_opens 135 = .ok (.getfield 150, 3) := dk_180 0 150 (dk_at dksX3_opens_5 19 rfl rfl)
theorem dX3_opens_138 : decode cX3_opens 138 = .ok (.invokevirtual 196, 3) := dk_182 0 196 (dk_at dksX3_opens_6 0 rfl rfl)
theorem dX3_opens_141 : decode cX3_opens 141 = .ok (.ireturn, 1) := dk_172 (dk_at dksX3_opens_6 3 rfl rfl)
theorem dX3_opens_142 : decode cX3_opens 142 = .ok (.aload_n 0, 1) := dk_42 (dk_at dksX3_opens_6 4 rfl rfl)
theorem dX3_opens_143 : decode cX3_opens 143 = .ok (.invokevirtual 173, 3) := dk_182 0 173 (dk_at dksX3_opens_6 5 rfl rfl)
theorem dX3_opens_146 : decode cX3_opens 146 = .ok (.aload_n 0, 1) := dk_42 (dk_at dksX3_opens_6 8 rfl rfl)
theorem dX3_opens_147 : decode cX3_opens 147 = .ok (.ldc 208, 2) := dk_18 208 (dk_at dksX3_opens_6 9 rfl rfl)
theorem dX3_opens_149 : decode cX3_opens 149 = .ok (.invokevirtual 294, 3) := dk_182 1 38 (dk_at dksX3_opens_6 11 rfl rfl)
theorem dX3_opens_152 : decode cX3_opens 152 = .ok (.pop, 1) := dk_87 (dk_at dksX3_opens_6 14 rfl rfl)
theorem dX3_opens_153 : decode cX3_opens 153 = .ok (.aload_n 0, 1) := dk_42 (dk_at dksX3_opens_6 15 rfl rfl)
theorem dX3_opens_154 : decode cX3_opens 154 = .ok (.getfield 169, 3) := dk_180 0 169 (dk_at dksX3_opens_6 16 rfl rfl)
theorem dX3_opens_157 : decode cX3_opens 157 = .ok (.ifCond .eq 5, 3) := dk_153 0 5 (dk_at dksX3_opens_6 19 rfl rfl)
theorem dX3_opens_160 : decode cX3_opens 160 = .ok (.iconst 0, 1) := dk_3 (dk_at dksX3_opens_6 22 rfl rfl)
theorem dX3_opens_161 : decode cX3_opens 161 = .ok (.ireturn, 1) := dk_172 (dk_at dksX3_opens_6 23 rfl rfl)
theorem dX3_opens_162 : decode cX3_opens 162 = .ok (.aload_n 0, 1) := dk_42 (dk_at dksX3_opens_7 0 rfl rfl)
theorem dX3_opens_163 : decode cX3_opens 163 = .ok (.invokevirtual 308, 3) := dk_182 1 52 (dk_at dksX3_opens_7 1 rfl rfl)
theorem dX3_opens_166 : decode cX3_opens 166 = .ok (.ifCond .ne 13, 3) := dk_154 0 13 (dk_at dksX3_opens_7 4 rfl rfl)
theorem dX3_opens_169 : decode cX3_opens 169 = .ok (.aload_n 0, 1) := dk_42 (dk_at dksX3_opens_7 7 rfl rfl)
theorem dX3_opens_170 : decode cX3_opens 170 = .ok (.iconst 1, 1) := dk_4 (dk_at dksX3_opens_7 8 rfl rfl)
theorem dX3_opens_171 : decode cX3_opens 171 = .ok (.aload_n 0, 1) := dk_42 (dk_at dksX3_opens_7 9 rfl rfl)
theorem dX3_opens_172 : decode cX3_opens 172 = .ok (.getfield 150, 3) := dk_180 0 150 (dk_at dksX3_opens_7 10 rfl rfl)
theorem dX3_opens_175 : decode cX3_opens 175 = .ok (.invokevirtual 196, 3) := dk_182 0 196 (dk_at dksX3_opens_7 13 rfl rfl)
theorem dX3_opens_178 : decode cX3_opens 178 = .ok (.ireturn, 1) := dk_172 (dk_at dksX3_opens_7 16 rfl rfl)
theorem dX3_opens_179 : decode cX3_opens 179 = .ok (.aload_n 0, 1) := dk_42 (dk_at dksX3_opens_7 17 rfl rfl)
theorem dX3_opens_180 : decode cX3_opens 180 = .ok (.aload_n 0, 1) := dk_42 (dk_at dksX3_opens_7 18 rfl rfl)
theorem dX3_opens_181 : decode cX3_opens 181 = .ok (.getfield 16, 3) := dk_180 0 16 (dk_at dksX3_opens_7 19 rfl rfl)
theorem dX3_opens_184 : decode cX3_opens 184 = .ok (.aload_n 0, 1) := dk_42 (dk_at dksX3_opens_7 22 rfl rfl)
theorem dX3_opens_185 : decode cX3_opens 185 = .ok (.getfield 19, 3) := dk_180 0 19 (dk_at dksX3_opens_8 0 rfl rfl)
theorem dX3_opens_188 : decode cX3_opens 188 = .ok (.aload_n 0, 1) := dk_42 (dk_at dksX3_opens_8 3 rfl rfl)
theorem dX3_opens_189 : decode cX3_opens 189 = .ok (.getfield 228, 3) := dk_180 0 228 (dk_at dksX3_opens_8 4 rfl rfl)
theorem dX3_opens_192 : decode cX3_opens 192 = .ok (.invokevirtual 312, 3) := dk_182 1 56 (dk_at dksX3_opens_8 7 rfl rfl)
theorem dX3_opens_195 : decode cX3_opens 195 = .ok (.istore 5, 2) := dk_54 5 (dk_at dksX3_opens_8 10 rfl rfl)
theorem dX3_opens_197 : decode cX3_opens 197 = .ok (.iload 5, 2) := dk_21 5 (dk_at dksX3_opens_8 12 rfl rfl)
theorem dX3_opens_199 : decode cX3_opens 199 = .ok (.ifCond .ge 13, 3) := dk_156 0 13 (dk_at dksX3_opens_8 14 rfl rfl)
theorem dX3_opens_202 : decode cX3_opens 202 = .ok (.aload_n 0, 1) := dk_42 (dk_at dksX3_opens_8 17 rfl rfl)
theorem dX3_opens_203 : decode cX3_opens 203 = .ok (.iconst 2, 1) := dk_5 (dk_at dksX3_opens_8 18 rfl rfl)
theorem dX3_opens_204 : decode cX3_opens 204 = .ok (.aload_n 0, 1) := dk_42 (dk_at dksX3_opens_8 19 rfl rfl)
theorem dX3_opens_205 : decode cX3_opens 205 = .ok (.getfield 150, 3) := dk_180 0 150 (dk_at dksX3_opens_8 20 rfl rfl)
theorem dX3_opens_208 : decode cX3_opens 208 = .ok (.invokevirtual 196, 3) := dk_182 0 196 (dk_at dksX3_opens_9 0 rfl rfl)
theorem dX3_opens_211 : decode cX3_opens 211 = .ok (.ireturn, 1) := dk_172 (dk_at dksX3_opens_9 3 rfl rfl)
theorem dX3_opens_212 : decode cX3_opens 212 = .ok (.aload_n 0, 1) := dk_42 (dk_at dksX3_opens_9 4 rfl rfl)
theorem dX3_opens_213 : decode cX3_opens 213 = .ok (.invokevirtual 173, 3) := dk_182 0 173 (dk_at dksX3_opens_9 5 rfl rfl)
theorem dX3_opens_216 : decode cX3_opens 216 = .ok (.aload_n 0, 1) := dk_42 (dk_at dksX3_opens_9 8 rfl rfl)
theorem dX3_opens_217 : decode cX3_opens 217 = .ok (.getfield 159, 3) := dk_180 0 159 (dk_at dksX3_opens_9 9 rfl rfl)
theorem dX3_opens_220 : decode cX3_opens 220 = .ok (.bipush 40, 2) := dk_16 40 (dk_at dksX3_opens_9 12 rfl rfl)
theorem dX3_opens_222 : decode cX3_opens 222 = .ok (.if_icmp .eq 13, 3) := dk_159 0 13 (dk_at dksX3_opens_9 14 rfl rfl)
theorem dX3_opens_225 : decode cX3_opens 225 = .ok (.aload_n 0, 1) := dk_42 (dk_at dksX3_opens_9 17 rfl rfl)
theorem dX3_opens_226 : decode cX3_opens 226 = .ok (.iconst 1, 1) := dk_4 (dk_at dksX3_opens_9 18 rfl rfl)
theorem dX3_opens_227 : decode cX3_opens 227 = .ok (.aload_n 0, 1) := dk_42 (dk_at dksX3_opens_9 19 rfl rfl)
theorem dX3_opens_228 : decode cX3_opens 228 = .ok (.getfield 150, 3) := dk_180 0 150 (dk_at dksX3_opens_9 20 rfl rfl)
theorem dX3_opens_231 : decode cX3_opens 231 = .ok (.invokevirtual 196, 3) := dk_182 0 196 (dk_at dksX3_opens_10 0 rfl rfl)
theorem dX3_opens_234 : decode cX3_opens 234 = .ok (.ireturn, 1) := dk_172 (dk_at dksX3_opens_10 3 rfl rfl)
theorem dX3_opens_235 : decode cX3_opens 235 = .ok (.iload_n 1, 1) := dk_27 (dk_at dksX3_opens_10 4 rfl rfl)
theorem dX3_opens_236 : decode cX3_opens 236 = .ok (.bipush 6, 2) := dk_16 6 (dk_at dksX3_opens_10 5 rfl rfl)
theorem dX3_opens_238 : decode cX3_opens 238 = .ok (.if_icmp .ne 13, 3) := dk_160 0 13 (dk_at dksX3_opens_10 7 rfl rfl)
theorem dX3_opens_241 : decode cX3_opens 241 = .ok (.aload_n 0, 1) := dk_42 (dk_at dksX3_opens_10 10 rfl rfl)
theorem dX3_opens_242 : decode cX3_opens 242 = .ok (.iconst 5, 1) := dk_8 (dk_at dksX3_opens_10 11 rfl rfl)
theorem dX3_opens_243 : decode cX3_opens 243 = .ok (.aload_n 0, 1) := dk_42 (dk_at dksX3_opens_10 12 rfl rfl)
theorem dX3_opens_244 : decode cX3_opens 244 = .ok (.getfield 150, 3) := dk_180 0 150 (dk_at dksX3_opens_10 13 rfl rfl)
theorem dX3_opens_247 : decode cX3_opens 247 = .ok (.invokevirtual 196, 3) := dk_182 0 196 (dk_at dksX3_opens_10 16 rfl rfl)
theorem dX3_opens_250 : decode cX3_opens 250 = .ok (.ireturn, 1) := dk_172 (dk_at dksX3_opens_10 19 rfl rfl)
theorem dX3_opens_251 : decode cX3_opens 251 = .ok (.aload_n 0, 1) := dk_42 (dk_at dksX3_opens_10 20 rfl rfl)
theorem dX3_opens_252 : decode cX3_opens 252 = .ok (.invokevirtual 173, 3) := dk_182 0 173 (dk_at dksX3_opens_10 21 rfl rfl)
theorem dX3_opens_255 : decode cX3_opens 255 = .ok (.aload_n 0, 1) := dk_42 (dk_at dksX3_opens_11 0 rfl rfl)
theorem dX3_opens_256 : decode cX3_opens 256 = .ok (.getfield 97, 3) := dk_180 0 97 (dk_at dksX3_opens_11 1 rfl rfl)
theorem dX3_opens_259 : decode cX3_opens 259 = .ok (.iload_n 1, 1) := dk_27 (dk_at dksX3_opens_11 4 rfl rfl)
theorem dX3_opens_260 : decode cX3_opens 260 = .ok (.aload_n 0, 1) := dk_42 (dk_at dksX3_opens_11 5 rfl rfl)
theorem dX3_opens_261 : decode cX3_opens 261 = .ok (.iconst 1, 1) := dk_4 (dk_at dksX3_opens_11 6 rfl rfl)
theorem dX3_opens_262 : decode cX3_opens 262 = .ok (.iload 4, 2) := dk_21 4 (dk_at dksX3_opens_11 7 rfl rfl)
theorem dX3_opens_264 : decode cX3_opens 264 = .ok (.iload 5, 2) := dk_21 5 (dk_at dksX3_opens_11 9 rfl rfl)
theorem dX3_opens_266 : decode cX3_opens 266 = .ok (.iconst 0, 1) := dk_3 (dk_at dksX3_opens_11 11 rfl rfl)
theorem dX3_opens_267 : decode cX3_opens 267 = .ok (.invokevirtual 470, 3) := dk_182 1 214 (dk_at dksX3_opens_11 12 rfl rfl)
theorem dX3_opens_270 : decode cX3_opens 270 = .ok (.iastore, 1) := dk_79 (dk_at dksX3_opens_11 15 rfl rfl)
theorem dX3_opens_271 : decode cX3_opens 271 = .ok (.aload_n 0, 1) := dk_42 (dk_at dksX3_opens_11 16 rfl rfl)
theorem dX3_opens_272 : decode cX3_opens 272 = .ok (.getfield 103, 3) := dk_180 0 103 (dk_at dksX3_opens_11 17 rfl rfl)
theorem dX3_opens_275 : decode cX3_opens 275 = .ok (.iload_n 1, 1) := dk_27 (dk_at dksX3_opens_11 20 rfl rfl)
theorem dX3_opens_276 : decode cX3_opens 276 = .ok (.iconst 0, 1) := dk_3 (dk_at dksX3_opens_11 21 rfl rfl)
theorem dX3_opens_277 : decode cX3_opens 277 = .ok (.bastore, 1) := dk_84 (dk_at dksX3_opens_11 22 rfl rfl)
theorem dX3_opens_278 : decode cX3_opens 278 = .ok (.iconst 1, 1) := dk_4 (dk_at dksX3_opens_11 23 rfl rfl)
theorem dX3_opens_279 : decode cX3_opens 279 = .ok (.ireturn, 1) := dk_172 (dk_at dksX3_opens_12 0 rfl rfl)
abbrev cX3_wayWord : ByteArray := prog_23_method_87_code
def yX3_wayWord : MethodName := ⟨RX3, "wayWord", "()I"⟩
def dkwX3_wayWord_2 : List UInt8 := [153, 0, 7, 6, 167, 0, 4, 2, 172]
abbrev dktX3_wayWord_2 : List UInt8 := dkwX3_wayWord_2 ++ []
def dkwX3_wayWord_1 : List UInt8 := [167, 0, 30, 42, 18, 216, 182, 0, 192, 153, 0, 7, 5, 167, 0, 17, 42, 18, 218, 182, 0, 192]
abbrev dktX3_wayWord_1 : List UInt8 := dkwX3_wayWord_1 ++ dktX3_wayWord_2
def dkwX3_wayWord_0 : List UInt8 := [42, 18, 212, 182, 0, 192, 153, 0, 7, 3, 167, 0, 43, 42, 18, 214, 182, 0, 192, 153, 0, 7, 4]
abbrev dktX3_wayWord_0 : List UInt8 := dkwX3_wayWord_0 ++ dktX3_wayWord_1
theorem dksX3_wayWord_0 : cX3_wayWord.data.toList.drop 0 = dktX3_wayWord_0 := by decide +kernel
theorem dksX3_wayWord_1 : cX3_wayWord.data.toList.drop 23 = dktX3_wayWord_1 := dk_seg dksX3_wayWord_0 23 rfl rfl
theorem dksX3_wayWord_2 : cX3_wayWord.data.toList.drop 45 = dktX3_wayWord_2 := dk_seg dksX3_wayWord_1 22 rfl rfl
theorem dX3_wayWord_0 : decode cX3_wayWord 0 = .ok (.aload_n 0, 1) := dk_42 (dk_at dksX3_wayWord_0 0 rfl rfl)
theorem dX3_wayWord_1 : decode cX3_wayWord 1 = .ok (.ldc 212, 2) := dk_18 212 (dk_at dksX3_wayWord_0 1 rfl rfl)
theorem dX3_wayWord_3 : decode cX3_wayWord 3 = .ok (.invokevirtual 192, 3) := dk_182 0 192 (dk_at dksX3_wayWord_0 3 rfl rfl)
theorem dX3_wayWord_6 : decode cX3_wayWord 6 = .ok (.ifCond .eq 7, 3) := dk_153 0 7 (dk_at dksX3_wayWord_0 6 rfl rfl)
theorem dX3_wayWord_9 : decode cX3_wayWord 9 = .ok (.iconst 0, 1) := dk_3 (dk_at dksX3_wayWord_0 9 rfl rfl)
theorem dX3_wayWord_10 : decode cX3_wayWord 10 = .ok (.goto 43, 3) := dk_167 0 43 (dk_at dksX3_wayWord_0 10 rfl rfl)
theorem dX3_wayWord_13 : decode cX3_wayWord 13 = .ok (.aload_n 0, 1) := dk_42 (dk_at dksX3_wayWord_0 13 rfl rfl)
theorem dX3_wayWord_14 : decode cX3_wayWord 14 = .ok (.ldc 214, 2) := dk_18 214 (dk_at dksX3_wayWord_0 14 rfl rfl)
theorem dX3_wayWord_16 : decode cX3_wayWord 16 = .ok (.invokevirtual 192, 3) := dk_182 0 192 (dk_at dksX3_wayWord_0 16 rfl rfl)
theorem dX3_wayWord_19 : decode cX3_wayWord 19 = .ok (.ifCond .eq 7, 3) := dk_153 0 7 (dk_at dksX3_wayWord_0 19 rfl rfl)
theorem dX3_wayWord_22 : decode cX3_wayWord 22 = .ok (.iconst 1, 1) := dk_4 (dk_at dksX3_wayWord_0 22 rfl rfl)
theorem dX3_wayWord_23 : decode cX3_wayWord 23 = .ok (.goto 30, 3) := dk_167 0 30 (dk_at dksX3_wayWord_1 0 rfl rfl)
theorem dX3_wayWord_26 : decode cX3_wayWord 26 = .ok (.aload_n 0, 1) := dk_42 (dk_at dksX3_wayWord_1 3 rfl rfl)
theorem dX3_wayWord_27 : decode cX3_wayWord 27 = .ok (.ldc 216, 2) := dk_18 216 (dk_at dksX3_wayWord_1 4 rfl rfl)
theorem dX3_wayWord_29 : decode cX3_wayWord 29 = .ok (.invokevirtual 192, 3) := dk_182 0 192 (dk_at dksX3_wayWord_1 6 rfl rfl)
theorem dX3_wayWord_32 : decode cX3_wayWord 32 = .ok (.ifCond .eq 7, 3) := dk_153 0 7 (dk_at dksX3_wayWord_1 9 rfl rfl)
theorem dX3_wayWord_35 : decode cX3_wayWord 35 = .ok (.iconst 2, 1) := dk_5 (dk_at dksX3_wayWord_1 12 rfl rfl)
theorem dX3_wayWord_36 : decode cX3_wayWord 36 = .ok (.goto 17, 3) := dk_167 0 17 (dk_at dksX3_wayWord_1 13 rfl rfl)
theorem dX3_wayWord_39 : decode cX3_wayWord 39 = .ok (.aload_n 0, 1) := dk_42 (dk_at dksX3_wayWord_1 16 rfl rfl)
theorem dX3_wayWord_40 : decode cX3_wayWord 40 = .ok (.ldc 218, 2) := dk_18 218 (dk_at dksX3_wayWord_1 17 rfl rfl)
theorem dX3_wayWord_42 : decode cX3_wayWord 42 = .ok (.invokevirtual 192, 3) := dk_182 0 192 (dk_at dksX3_wayWord_1 19 rfl rfl)
theorem dX3_wayWord_45 : decode cX3_wayWord 45 = .ok (.ifCond .eq 7, 3) := dk_153 0 7 (dk_at dksX3_wayWord_2 0 rfl rfl)
theorem dX3_wayWord_48 : decode cX3_wayWord 48 = .ok (.iconst 3, 1) := dk_6 (dk_at dksX3_wayWord_2 3 rfl rfl)
theorem dX3_wayWord_49 : decode cX3_wayWord 49 = .ok (.goto 4, 3) := dk_167 0 4 (dk_at dksX3_wayWord_2 4 rfl rfl)
theorem dX3_wayWord_52 : decode cX3_wayWord 52 = .ok (.iconst (-1), 1) := dk_2 (dk_at dksX3_wayWord_2 7 rfl rfl)
theorem dX3_wayWord_53 : decode cX3_wayWord 53 = .ok (.ireturn, 1) := dk_172 (dk_at dksX3_wayWord_2 8 rfl rfl)
abbrev cX3_order : ByteArray := prog_23_method_85_code
def yX3_order : MethodName := ⟨RX3, "order", "(IIII)I"⟩
def dkwX3_order_3 : List UInt8 := [21, 5, 6, 96, 21, 4, 79, 42, 89, 180, 1, 205, 4, 96, 181, 1, 205, 42, 180, 1, 205, 4, 100, 172]
abbrev dktX3_order_3 : List UInt8 := dkwX3_order_3 ++ []
def dkwX3_order_2 : List UInt8 := [180, 0, 91, 21, 5, 4, 96, 28, 79, 42, 180, 0, 91, 21, 5, 5, 96, 29, 79, 42, 180, 0, 91]
abbrev dktX3_order_2 : List UInt8 := dkwX3_order_2 ++ dktX3_order_3
def dkwX3_order_1 : List UInt8 := [162, 0, 52, 42, 180, 1, 205, 17, 0, 128, 162, 0, 42, 42, 180, 0, 91, 21, 5, 27, 79, 42]
abbrev dktX3_order_1 : List UInt8 := dkwX3_order_1 ++ dktX3_order_2
def dkwX3_order_0 : List UInt8 := [17, 2, 0, 42, 180, 1, 22, 104, 7, 42, 180, 1, 205, 104, 96, 54, 5, 42, 180, 1, 22, 16, 8]
abbrev dktX3_order_0 : List UInt8 := dkwX3_order_0 ++ dktX3_order_1
theorem dksX3_order_0 : cX3_order.data.toList.drop 0 = dktX3_order_0 := by decide +kernel
theorem dksX3_order_1 : cX3_order.data.toList.drop 23 = dktX3_order_1 := dk_seg dksX3_order_0 23 rfl rfl
theorem dksX3_order_2 : cX3_order.data.toList.drop 45 = dktX3_order_2 := dk_seg dksX3_order_1 22 rfl rfl
theorem dksX3_order_3 : cX3_order.data.toList.drop 68 = dktX3_order_3 := dk_seg dksX3_order_2 23 rfl rfl
theorem dX3_order_0 : decode cX3_order 0 = .ok (.sipush 512, 3) := dk_17 2 0 (dk_at dksX3_order_0 0 rfl rfl)
theorem dX3_order_3 : decode cX3_order 3 = .ok (.aload_n 0, 1) := dk_42 (dk_at dksX3_order_0 3 rfl rfl)
theorem dX3_order_4 : decode cX3_order 4 = .ok (.getfield 278, 3) := dk_180 1 22 (dk_at dksX3_order_0 4 rfl rfl)
theorem dX3_order_7 : decode cX3_order 7 = .ok (.imul, 1) := dk_104 (dk_at dksX3_order_0 7 rfl rfl)
theorem dX3_order_8 : decode cX3_order 8 = .ok (.iconst 4, 1) := dk_7 (dk_at dksX3_order_0 8 rfl rfl)
theorem dX3_order_9 : decode cX3_order 9 = .ok (.aload_n 0, 1) := dk_42 (dk_at dksX3_order_0 9 rfl rfl)
theorem dX3_order_10 : decode cX3_order 10 = .ok (.getfield 461, 3) := dk_180 1 205 (dk_at dksX3_order_0 10 rfl rfl)
theorem dX3_order_13 : decode cX3_order 13 = .ok (.imul, 1) := dk_104 (dk_at dksX3_order_0 13 rfl rfl)
theorem dX3_order_14 : decode cX3_order 14 = .ok (.iadd, 1) := dk_96 (dk_at dksX3_order_0 14 rfl rfl)
theorem dX3_order_15 : decode cX3_order 15 = .ok (.istore 5, 2) := dk_54 5 (dk_at dksX3_order_0 15 rfl rfl)
theorem dX3_order_17 : decode cX3_order 17 = .ok (.aload_n 0, 1) := dk_42 (dk_at dksX3_order_0 17 rfl rfl)
theorem dX3_order_18 : decode cX3_order 18 = .ok (.getfield 278, 3) := dk_180 1 22 (dk_at dksX3_order_0 18 rfl rfl)
theorem dX3_order_21 : decode cX3_order 21 = .ok (.bipush 8, 2) := dk_16 8 (dk_at dksX3_order_0 21 rfl rfl)
theorem dX3_order_23 : decode cX3_order 23 = .ok (.if_icmp .ge 52, 3) := dk_162 0 52 (dk_at dksX3_order_1 0 rfl rfl)
theorem dX3_order_26 : decode cX3_order 26 = .ok (.aload_n 0, 1) := dk_42 (dk_at dksX3_order_1 3 rfl rfl)
theorem dX3_order_27 : decode cX3_order 27 = .ok (.getfield 461, 3) := dk_180 1 205 (dk_at dksX3_order_1 4 rfl rfl)
theorem dX3_order_30 : decode cX3_order 30 = .ok (.sipush 128, 3) := dk_17 0 128 (dk_at dksX3_order_1 7 rfl rfl)
theorem dX3_order_33 : decode cX3_order 33 = .ok (.if_icmp .ge 42, 3) := dk_162 0 42 (dk_at dksX3_order_1 10 rfl rfl)
theorem dX3_order_36 : decode cX3_order 36 = .ok (.aload_n 0, 1) := dk_42 (dk_at dksX3_order_1 13 rfl rfl)
theorem dX3_order_37 : decode cX3_order 37 = .ok (.getfield 91, 3) := dk_180 0 91 (dk_at dksX3_order_1 14 rfl rfl)
theorem dX3_order_40 : decode cX3_order 40 = .ok (.iload 5, 2) := dk_21 5 (dk_at dksX3_order_1 17 rfl rfl)
theorem dX3_order_42 : decode cX3_order 42 = .ok (.iload_n 1, 1) := dk_27 (dk_at dksX3_order_1 19 rfl rfl)
theorem dX3_order_43 : decode cX3_order 43 = .ok (.iastore, 1) := dk_79 (dk_at dksX3_order_1 20 rfl rfl)
theorem dX3_order_44 : decode cX3_order 44 = .ok (.aload_n 0, 1) := dk_42 (dk_at dksX3_order_1 21 rfl rfl)
theorem dX3_order_45 : decode cX3_order 45 = .ok (.getfield 91, 3) := dk_180 0 91 (dk_at dksX3_order_2 0 rfl rfl)
theorem dX3_order_48 : decode cX3_order 48 = .ok (.iload 5, 2) := dk_21 5 (dk_at dksX3_order_2 3 rfl rfl)
theorem dX3_order_50 : decode cX3_order 50 = .ok (.iconst 1, 1) := dk_4 (dk_at dksX3_order_2 5 rfl rfl)
theorem dX3_order_51 : decode cX3_order 51 = .ok (.iadd, 1) := dk_96 (dk_at dksX3_order_2 6 rfl rfl)
theorem dX3_order_52 : decode cX3_order 52 = .ok (.iload_n 2, 1) := dk_28 (dk_at dksX3_order_2 7 rfl rfl)
theorem dX3_order_53 : decode cX3_order 53 = .ok (.iastore, 1) := dk_79 (dk_at dksX3_order_2 8 rfl rfl)
theorem dX3_order_54 : decode cX3_order 54 = .ok (.aload_n 0, 1) := dk_42 (dk_at dksX3_order_2 9 rfl rfl)
theorem dX3_order_55 : decode cX3_order 55 = .ok (.getfield 91, 3) := dk_180 0 91 (dk_at dksX3_order_2 10 rfl rfl)
theorem dX3_order_58 : decode cX3_order 58 = .ok (.iload 5, 2) := dk_21 5 (dk_at dksX3_order_2 13 rfl rfl)
theorem dX3_order_60 : decode cX3_order 60 = .ok (.iconst 2, 1) := dk_5 (dk_at dksX3_order_2 15 rfl rfl)
theorem dX3_order_61 : decode cX3_order 61 = .ok (.iadd, 1) := dk_96 (dk_at dksX3_order_2 16 rfl rfl)
theorem dX3_order_62 : decode cX3_order 62 = .ok (.iload_n 3, 1) := dk_29 (dk_at dksX3_order_2 17 rfl rfl)
theorem dX3_order_63 : decode cX3_order 63 = .ok (.iastore, 1) := dk_79 (dk_at dksX3_order_2 18 rfl rfl)
theorem dX3_order_64 : decode cX3_order 64 = .ok (.aload_n 0, 1) := dk_42 (dk_at dksX3_order_2 19 rfl rfl)
theorem dX3_order_65 : decode cX3_order 65 = .ok (.getfield 91, 3) := dk_180 0 91 (dk_at dksX3_order_2 20 rfl rfl)
theorem dX3_order_68 : decode cX3_order 68 = .ok (.iload 5, 2) := dk_21 5 (dk_at dksX3_order_3 0 rfl rfl)
theorem dX3_order_70 : decode cX3_order 70 = .ok (.iconst 3, 1) := dk_6 (dk_at dksX3_order_3 2 rfl rfl)
theorem dX3_order_71 : decode cX3_order 71 = .ok (.iadd, 1) := dk_96 (dk_at dksX3_order_3 3 rfl rfl)
theorem dX3_order_72 : decode cX3_order 72 = .ok (.iload 4, 2) := dk_21 4 (dk_at dksX3_order_3 4 rfl rfl)
theorem dX3_order_74 : decode cX3_order 74 = .ok (.iastore, 1) := dk_79 (dk_at dksX3_order_3 6 rfl rfl)
theorem dX3_order_75 : decode cX3_order 75 = .ok (.aload_n 0, 1) := dk_42 (dk_at dksX3_order_3 7 rfl rfl)
theorem dX3_order_76 : decode cX3_order 76 = .ok (.dup, 1) := dk_89 (dk_at dksX3_order_3 8 rfl rfl)
theorem dX3_order_77 : decode cX3_order 77 = .ok (.getfield 461, 3) := dk_180 1 205 (dk_at dksX3_order_3 9 rfl rfl)
theorem dX3_order_80 : decode cX3_order 80 = .ok (.iconst 1, 1) := dk_4 (dk_at dksX3_order_3 12 rfl rfl)
theorem dX3_order_81 : decode cX3_order 81 = .ok (.iadd, 1) := dk_96 (dk_at dksX3_order_3 13 rfl rfl)
theorem dX3_order_82 : decode cX3_order 82 = .ok (.putfield 461, 3) := dk_181 1 205 (dk_at dksX3_order_3 14 rfl rfl)
theorem dX3_order_85 : decode cX3_order 85 = .ok (.aload_n 0, 1) := dk_42 (dk_at dksX3_order_3 17 rfl rfl)
theorem dX3_order_86 : decode cX3_order 86 = .ok (.getfield 461, 3) := dk_180 1 205 (dk_at dksX3_order_3 18 rfl rfl)
theorem dX3_order_89 : decode cX3_order 89 = .ok (.iconst 1, 1) := dk_4 (dk_at dksX3_order_3 21 rfl rfl)
theorem dX3_order_90 : decode cX3_order 90 = .ok (.isub, 1) := dk_100 (dk_at dksX3_order_3 22 rfl rfl)
theorem dX3_order_91 : decode cX3_order 91 = .ok (.ireturn, 1) := dk_172 (dk_at dksX3_order_3 23 rfl rfl)
abbrev cX3_lands : ByteArray := prog_23_method_86_code
def yX3_lands : MethodName := ⟨RX3, "lands", "(I)V"⟩
def dkwX3_lands_1 : List UInt8 := [96, 6, 96, 42, 180, 1, 205, 79, 177]
abbrev dktX3_lands_1 : List UInt8 := dkwX3_lands_1 ++ []
def dkwX3_lands_0 : List UInt8 := [42, 180, 1, 22, 16, 8, 162, 0, 26, 42, 180, 0, 91, 17, 2, 0, 42, 180, 1, 22, 104, 7, 27, 104]
abbrev dktX3_lands_0 : List UInt8 := dkwX3_lands_0 ++ dktX3_lands_1
theorem dksX3_lands_0 : cX3_lands.data.toList.drop 0 = dktX3_lands_0 := by decide +kernel
theorem dksX3_lands_1 : cX3_lands.data.toList.drop 24 = dktX3_lands_1 := dk_seg dksX3_lands_0 24 rfl rfl
theorem dX3_lands_0 : decode cX3_lands 0 = .ok (.aload_n 0, 1) := dk_42 (dk_at dksX3_lands_0 0 rfl rfl)
theorem dX3_lands_1 : decode cX3_lands 1 = .ok (.getfield 278, 3) := dk_180 1 22 (dk_at dksX3_lands_0 1 rfl rfl)
theorem dX3_lands_4 : decode cX3_lands 4 = .ok (.bipush 8, 2) := dk_16 8 (dk_at dksX3_lands_0 4 rfl rfl)
theorem dX3_lands_6 : decode cX3_lands 6 = .ok (.if_icmp .ge 26, 3) := dk_162 0 26 (dk_at dksX3_lands_0 6 rfl rfl)
theorem dX3_lands_9 : decode cX3_lands 9 = .ok (.aload_n 0, 1) := dk_42 (dk_at dksX3_lands_0 9 rfl rfl)
theorem dX3_lands_10 : decode cX3_lands 10 = .ok (.getfield 91, 3) := dk_180 0 91 (dk_at dksX3_lands_0 10 rfl rfl)
theorem dX3_lands_13 : decode cX3_lands 13 = .ok (.sipush 512, 3) := dk_17 2 0 (dk_at dksX3_lands_0 13 rfl rfl)
theorem dX3_lands_16 : decode cX3_lands 16 = .ok (.aload_n 0, 1) := dk_42 (dk_at dksX3_lands_0 16 rfl rfl)
theorem dX3_lands_17 : decode cX3_lands 17 = .ok (.getfield 278, 3) := dk_180 1 22 (dk_at dksX3_lands_0 17 rfl rfl)
theorem dX3_lands_20 : decode cX3_lands 20 = .ok (.imul, 1) := dk_104 (dk_at dksX3_lands_0 20 rfl rfl)
theorem dX3_lands_21 : decode cX3_lands 21 = .ok (.iconst 4, 1) := dk_7 (dk_at dksX3_lands_0 21 rfl rfl)
theorem dX3_lands_22 : decode cX3_lands 22 = .ok (.iload_n 1, 1) := dk_27 (dk_at dksX3_lands_0 22 rfl rfl)
theorem dX3_lands_23 : decode cX3_lands 23 = .ok (.imul, 1) := dk_104 (dk_at dksX3_lands_0 23 rfl rfl)
theorem dX3_lands_24 : decode cX3_lands 24 = .ok (.iadd, 1) := dk_96 (dk_at dksX3_lands_1 0 rfl rfl)
theorem dX3_lands_25 : decode cX3_lands 25 = .ok (.iconst 3, 1) := dk_6 (dk_at dksX3_lands_1 1 rfl rfl)
theorem dX3_lands_26 : decode cX3_lands 26 = .ok (.iadd, 1) := dk_96 (dk_at dksX3_lands_1 2 rfl rfl)
theorem dX3_lands_27 : decode cX3_lands 27 = .ok (.aload_n 0, 1) := dk_42 (dk_at dksX3_lands_1 3 rfl rfl)
theorem dX3_lands_28 : decode cX3_lands 28 = .ok (.getfield 461, 3) := dk_180 1 205 (dk_at dksX3_lands_1 4 rfl rfl)
theorem dX3_lands_31 : decode cX3_lands 31 = .ok (.iastore, 1) := dk_79 (dk_at dksX3_lands_1 7 rfl rfl)
theorem dX3_lands_32 : decode cX3_lands 32 = .ok (.return_, 1) := dk_177 (dk_at dksX3_lands_1 8 rfl rfl)
abbrev cX3_failing : ByteArray := prog_23_method_92_code
def yX3_failing : MethodName := ⟨RX3, "failing", "(IIII)I"⟩
def dkwX3_failing_7 : List UInt8 := [42, 180, 1, 227, 181, 0, 113, 132, 5, 1, 132, 6, 1, 167, 255, 174, 21, 5, 172]
abbrev dktX3_failing_7 : List UInt8 := dkwX3_failing_7 ++ []
def dkwX3_failing_6 : List UInt8 := [154, 0, 6, 167, 0, 31, 21, 5, 154, 0, 23, 42, 21, 6, 181, 0, 107, 42, 21, 7, 181, 0, 110, 42]
abbrev dktX3_failing_6 : List UInt8 := dkwX3_failing_6 ++ dktX3_failing_7
def dkwX3_failing_5 : List UInt8 := [154, 0, 17, 42, 180, 1, 230, 21, 4, 164, 0, 8, 16, 7, 167, 0, 5, 21, 7, 54, 7, 21, 7]
abbrev dktX3_failing_5 : List UInt8 := dkwX3_failing_5 ++ dktX3_failing_6
def dkwX3_failing_4 : List UInt8 := [21, 6, 42, 182, 1, 187, 162, 0, 79, 42, 27, 28, 29, 21, 6, 182, 1, 234, 54, 7, 21, 7]
abbrev dktX3_failing_4 : List UInt8 := dkwX3_failing_4 ++ dktX3_failing_5
def dkwX3_failing_3 : List UInt8 := [54, 5, 42, 16, 254, 181, 0, 107, 42, 16, 254, 181, 0, 110, 42, 16, 254, 181, 0, 113, 3, 54, 6]
abbrev dktX3_failing_3 : List UInt8 := dkwX3_failing_3 ++ dktX3_failing_4
def dkwX3_failing_2 : List UInt8 := [172, 21, 4, 3, 19, 1, 233, 184, 0, 220, 154, 0, 9, 42, 5, 182, 0, 252, 172, 42, 182, 1, 125, 3]
abbrev dktX3_failing_2 : List UInt8 := dkwX3_failing_2 ++ dktX3_failing_3
def dkwX3_failing_1 : List UInt8 := [153, 0, 19, 42, 28, 182, 1, 91, 153, 0, 11, 42, 29, 182, 1, 91, 154, 0, 9, 42, 4, 182, 0, 252]
abbrev dktX3_failing_1 : List UInt8 := dkwX3_failing_1 ++ dktX3_failing_2
def dkwX3_failing_0 : List UInt8 := [42, 182, 0, 249, 42, 180, 1, 19, 153, 0, 33, 27, 3, 42, 180, 1, 22, 4, 100, 184, 0, 220]
abbrev dktX3_failing_0 : List UInt8 := dkwX3_failing_0 ++ dktX3_failing_1
theorem dksX3_failing_0 : cX3_failing.data.toList.drop 0 = dktX3_failing_0 := by decide +kernel
theorem dksX3_failing_1 : cX3_failing.data.toList.drop 22 = dktX3_failing_1 := dk_seg dksX3_failing_0 22 rfl rfl
theorem dksX3_failing_2 : cX3_failing.data.toList.drop 46 = dktX3_failing_2 := dk_seg dksX3_failing_1 24 rfl rfl
theorem dksX3_failing_3 : cX3_failing.data.toList.drop 70 = dktX3_failing_3 := dk_seg dksX3_failing_2 24 rfl rfl
theorem dksX3_failing_4 : cX3_failing.data.toList.drop 93 = dktX3_failing_4 := dk_seg dksX3_failing_3 23 rfl rfl
theorem dksX3_failing_5 : cX3_failing.data.toList.drop 115 = dktX3_failing_5 := dk_seg dksX3_failing_4 22 rfl rfl
theorem dksX3_failing_6 : cX3_failing.data.toList.drop 138 = dktX3_failing_6 := dk_seg dksX3_failing_5 23 rfl rfl
theorem dksX3_failing_7 : cX3_failing.data.toList.drop 162 = dktX3_failing_7 := dk_seg dksX3_failing_6 24 rfl rfl
theorem dX3_failing_0 : decode cX3_failing 0 = .ok (.aload_n 0, 1) := dk_42 (dk_at dksX3_failing_0 0 rfl rfl)
theorem dX3_failing_1 : decode cX3_failing 1 = .ok (.invokevirtual 249, 3) := dk_182 0 249 (dk_at dksX3_failing_0 1 rfl rfl)
theorem dX3_failing_4 : decode cX3_failing 4 = .ok (.aload_n 0, 1) := dk_42 (dk_at dksX3_failing_0 4 rfl rfl)
theorem dX3_failing_5 : decode cX3_failing 5 = .ok (.getfield 275, 3) := dk_180 1 19 (dk_at dksX3_failing_0 5 rfl rfl)
theorem dX3_failing_8 : decode cX3_failing 8 = .ok (.ifCond .eq 33, 3) := dk_153 0 33 (dk_at dksX3_failing_0 8 rfl rfl)
theorem dX3_failing_11 : decode cX3_failing 11 = .ok (.iload_n 1, 1) := dk_27 (dk_at dksX3_failing_0 11 rfl rfl)
theorem dX3_failing_12 : decode cX3_failing 12 = .ok (.iconst 0, 1) := dk_3 (dk_at dksX3_failing_0 12 rfl rfl)
theorem dX3_failing_13 : decode cX3_failing 13 = .ok (.aload_n 0, 1) := dk_42 (dk_at dksX3_failing_0 13 rfl rfl)
theorem dX3_failing_14 : decode cX3_failing 14 = .ok (.getfield 278, 3) := dk_180 1 22 (dk_at dksX3_failing_0 14 rfl rfl)
theorem dX3_failing_17 : decode cX3_failing 17 = .ok (.iconst 1, 1) := dk_4 (dk_at dksX3_failing_0 17 rfl rfl)
theorem dX3_failing_18 : decode cX3_failing 18 = .ok (.isub, 1) := dk_100 (dk_at dksX3_failing_0 18 rfl rfl)
theorem dX3_failing_19 : decode cX3_failing 19 = .ok (.invokestatic 220, 3) := dk_184 0 220 (dk_at dksX3_failing_0 19 rfl rfl)
theorem dX3_failing_22 : decode cX3_failing 22 = .ok (.ifCond .eq 19, 3) := dk_153 0 19 (dk_at dksX3_failing_1 0 rfl rfl)
theorem dX3_failing_25 : decode cX3_failing 25 = .ok (.aload_n 0, 1) := dk_42 (dk_at dksX3_failing_1 3 rfl rfl)
theorem dX3_failing_26 : decode cX3_failing 26 = .ok (.iload_n 2, 1) := dk_28 (dk_at dksX3_failing_1 4 rfl rfl)
theorem dX3_failing_27 : decode cX3_failing 27 = .ok (.invokevirtual 347, 3) := dk_182 1 91 (dk_at dksX3_failing_1 5 rfl rfl)
theorem dX3_failing_30 : decode cX3_failing 30 = .ok (.ifCond .eq 11, 3) := dk_153 0 11 (dk_at dksX3_failing_1 8 rfl rfl)
theorem dX3_failing_33 : decode cX3_failing 33 = .ok (.aload_n 0, 1) := dk_42 (dk_at dksX3_failing_1 11 rfl rfl)
theorem dX3_failing_34 : decode cX3_failing 34 = .ok (.iload_n 3, 1) := dk_29 (dk_at dksX3_failing_1 12 rfl rfl)
theorem dX3_failing_35 : decode cX3_failing 35 = .ok (.invokevirtual 347, 3) := dk_182 1 91 (dk_at dksX3_failing_1 13 rfl rfl)
theorem dX3_failing_38 : decode cX3_failing 38 = .ok (.ifCond .ne 9, 3) := dk_154 0 9 (dk_at dksX3_failing_1 16 rfl rfl)
theorem dX3_failing_41 : decode cX3_failing 41 = .ok (.aload_n 0, 1) := dk_42 (dk_at dksX3_failing_1 19 rfl rfl)
theorem dX3_failing_42 : decode cX3_failing 42 = .ok (.iconst 1, 1) := dk_4 (dk_at dksX3_failing_1 20 rfl rfl)
theorem dX3_failing_43 : decode cX3_failing 43 = .ok (.invokevirtual 252, 3) := dk_182 0 252 (dk_at dksX3_failing_1 21 rfl rfl)
theorem dX3_failing_46 : decode cX3_failing 46 = .ok (.ireturn, 1) := dk_172 (dk_at dksX3_failing_2 0 rfl rfl)
theorem dX3_failing_47 : decode cX3_failing 47 = .ok (.iload 4, 2) := dk_21 4 (dk_at dksX3_failing_2 1 rfl rfl)
theorem dX3_failing_49 : decode cX3_failing 49 = .ok (.iconst 0, 1) := dk_3 (dk_at dksX3_failing_2 3 rfl rfl)
theorem dX3_failing_50 : decode cX3_failing 50 = .ok (.ldc_w 489, 3) := dk_19 1 233 (dk_at dksX3_failing_2 4 rfl rfl)
theorem dX3_failing_53 : decode cX3_failing 53 = .ok (.invokestatic 220, 3) := dk_184 0 220 (dk_at dksX3_failing_2 7 rfl rfl)
theorem dX3_failing_56 : decode cX3_failing 56 = .ok (.ifCond .ne 9, 3) := dk_154 0 9 (dk_at dksX3_failing_2 10 rfl rfl)
theorem dX3_failing_59 : decode cX3_failing 59 = .ok (.aload_n 0, 1) := dk_42 (dk_at dksX3_failing_2 13 rfl rfl)
theorem dX3_failing_60 : decode cX3_failing 60 = .ok (.iconst 2, 1) := dk_5 (dk_at dksX3_failing_2 14 rfl rfl)
theorem dX3_failing_61 : decode cX3_failing 61 = .ok (.invokevirtual 252, 3) := dk_182 0 252 (dk_at dksX3_failing_2 15 rfl rfl)
theorem dX3_failing_64 : decode cX3_failing 64 = .ok (.ireturn, 1) := dk_172 (dk_at dksX3_failing_2 18 rfl rfl)
theorem dX3_failing_65 : decode cX3_failing 65 = .ok (.aload_n 0, 1) := dk_42 (dk_at dksX3_failing_2 19 rfl rfl)
theorem dX3_failing_66 : decode cX3_failing 66 = .ok (.invokevirtual 381, 3) := dk_182 1 125 (dk_at dksX3_failing_2 20 rfl rfl)
theorem dX3_failing_69 : decode cX3_failing 69 = .ok (.iconst 0, 1) := dk_3 (dk_at dksX3_failing_2 23 rfl rfl)
theorem dX3_failing_70 : decode cX3_failing 70 = .ok (.istore 5, 2) := dk_54 5 (dk_at dksX3_failing_3 0 rfl rfl)
theorem dX3_failing_72 : decode cX3_failing 72 = .ok (.aload_n 0, 1) := dk_42 (dk_at dksX3_failing_3 2 rfl rfl)
theorem dX3_failing_73 : decode cX3_failing 73 = .ok (.bipush (-2), 2) := dk_16 254 (dk_at dksX3_failing_3 3 rfl rfl)
theorem dX3_failing_75 : decode cX3_failing 75 = .ok (.putfield 107, 3) := dk_181 0 107 (dk_at dksX3_failing_3 5 rfl rfl)
theorem dX3_failing_78 : decode cX3_failing 78 = .ok (.aload_n 0, 1) := dk_42 (dk_at dksX3_failing_3 8 rfl rfl)
theorem dX3_failing_79 : decode cX3_failing 79 = .ok (.bipush (-2), 2) := dk_16 254 (dk_at dksX3_failing_3 9 rfl rfl)
theorem dX3_failing_81 : decode cX3_failing 81 = .ok (.putfield 110, 3) := dk_181 0 110 (dk_at dksX3_failing_3 11 rfl rfl)
theorem dX3_failing_84 : decode cX3_failing 84 = .ok (.aload_n 0, 1) := dk_42 (dk_at dksX3_failing_3 14 rfl rfl)
theorem dX3_failing_85 : decode cX3_failing 85 = .ok (.bipush (-2), 2) := dk_16 254 (dk_at dksX3_failing_3 15 rfl rfl)
theorem dX3_failing_87 : decode cX3_failing 87 = .ok (.putfield 113, 3) := dk_181 0 113 (dk_at dksX3_failing_3 17 rfl rfl)
theorem dX3_failing_90 : decode cX3_failing 90 = .ok (.iconst 0, 1) := dk_3 (dk_at dksX3_failing_3 20 rfl rfl)
theorem dX3_failing_91 : decode cX3_failing 91 = .ok (.istore 6, 2) := dk_54 6 (dk_at dksX3_failing_3 21 rfl rfl)
theorem dX3_failing_93 : decode cX3_failing 93 = .ok (.iload 6, 2) := dk_21 6 (dk_at dksX3_failing_4 0 rfl rfl)
theorem dX3_failing_95 : decode cX3_failing 95 = .ok (.aload_n 0, 1) := dk_42 (dk_at dksX3_failing_4 2 rfl rfl)
theorem dX3_failing_96 : decode cX3_failing 96 = .ok (.invokevirtual 443, 3) := dk_182 1 187 (dk_at dksX3_failing_4 3 rfl rfl)
theorem dX3_failing_99 : decode cX3_failing 99 = .ok (.if_icmp .ge 79, 3) := dk_162 0 79 (dk_at dksX3_failing_4 6 rfl rfl)
theorem dX3_failing_102 : decode cX3_failing 102 = .ok (.aload_n 0, 1) := dk_42 (dk_at dksX3_failing_4 9 rfl rfl)
theorem dX3_failing_103 : decode cX3_failing 103 = .ok (.iload_n 1, 1) := dk_27 (dk_at dksX3_failing_4 10 rfl rfl)
theorem dX3_failing_104 : decode cX3_failing 104 = .ok (.iload_n 2, 1) := dk_28 (dk_at dksX3_failing_4 11 rfl rfl)
theorem dX3_failing_105 : decode cX3_failing 105 = .ok (.iload_n 3, 1) := dk_29 (dk_at dksX3_failing_4 12 rfl rfl)
theorem dX3_failing_106 : decode cX3_failing 106 = .ok (.iload 6, 2) := dk_21 6 (dk_at dksX3_failing_4 13 rfl rfl)
theorem dX3_failing_108 : decode cX3_failing 108 = .ok (.invokevirtual 490, 3) := dk_182 1 234 (dk_at dksX3_failing_4 15 rfl rfl)
theorem dX3_failing_111 : decode cX3_failing 111 = .ok (.istore 7, 2) := dk_54 7 (dk_at dksX3_failing_4 18 rfl rfl)
theorem dX3_failing_113 : decode cX3_failing 113 = .ok (.iload 7, 2) := dk_21 7 (dk_at dksX3_failing_4 20 rfl rfl)
theorem dX3_failing_115 : decode cX3_failing 115 = .ok (.ifCond .ne 17, 3) := dk_154 0 17 (dk_at dksX3_failing_5 0 rfl rfl)
theorem dX3_failing_118 : decode cX3_failing 118 = .ok (.aload_n 0, 1) := dk_42 (dk_at dksX3_failing_5 3 rfl rfl)
theorem dX3_failing_119 : decode cX3_failing 119 = .ok (.getfield 486, 3) := dk_180 1 230 (dk_at dksX3_failing_5 4 rfl rfl)
theorem dX3_failing_122 : decode cX3_failing 122 = .ok (.iload 4, 2) := dk_21 4 (dk_at dksX3_failing_5 7 rfl rfl)
theorem dX3_failing_124 : decode cX3_failing 124 = .ok (.if_icmp .le 8, 3) := dk_164 0 8 (dk_at dksX3_failing_5 9 rfl rfl)
theorem dX3_failing_127 : decode cX3_failing 127 = .ok (.bipush 7, 2) := dk_16 7 (dk_at dksX3_failing_5 12 rfl rfl)
theorem dX3_failing_129 : decode cX3_failing 129 = .ok (.goto 5, 3) := dk_167 0 5 (dk_at dksX3_failing_5 14 rfl rfl)
theorem dX3_failing_132 : decode cX3_failing 132 = .ok (.iload 7, 2) := dk_21 7 (dk_at dksX3_failing_5 17 rfl rfl)
theorem dX3_failing_134 : decode cX3_failing 134 = .ok (.istore 7, 2) := dk_54 7 (dk_at dksX3_failing_5 19 rfl rfl)
theorem dX3_failing_136 : decode cX3_failing 136 = .ok (.iload 7, 2) := dk_21 7 (dk_at dksX3_failing_5 21 rfl rfl)
theorem dX3_failing_138 : decode cX3_failing 138 = .ok (.ifCond .ne 6, 3) := dk_154 0 6 (dk_at dksX3_failing_6 0 rfl rfl)
theorem dX3_failing_141 : decode cX3_failing 141 = .ok (.goto 31, 3) := dk_167 0 31 (dk_at dksX3_failing_6 3 rfl rfl)
theorem dX3_failing_144 : decode cX3_failing 144 = .ok (.iload 5, 2) := dk_21 5 (dk_at dksX3_failing_6 6 rfl rfl)
theorem dX3_failing_146 : decode cX3_failing 146 = .ok (.ifCond .ne 23, 3) := dk_154 0 23 (dk_at dksX3_failing_6 8 rfl rfl)
theorem dX3_failing_149 : decode cX3_failing 149 = .ok (.aload_n 0, 1) := dk_42 (dk_at dksX3_failing_6 11 rfl rfl)
theorem dX3_failing_150 : decode cX3_failing 150 = .ok (.iload 6, 2) := dk_21 6 (dk_at dksX3_failing_6 12 rfl rfl)
theorem dX3_failing_152 : decode cX3_failing 152 = .ok (.putfield 107, 3) := dk_181 0 107 (dk_at dksX3_failing_6 14 rfl rfl)
theorem dX3_failing_155 : decode cX3_failing 155 = .ok (.aload_n 0, 1) := dk_42 (dk_at dksX3_failing_6 17 rfl rfl)
theorem dX3_failing_156 : decode cX3_failing 156 = .ok (.iload 7, 2) := dk_21 7 (dk_at dksX3_failing_6 18 rfl rfl)
theorem dX3_failing_158 : decode cX3_failing 158 = .ok (.putfield 110, 3) := dk_181 0 110 (dk_at dksX3_failing_6 20 rfl rfl)
theorem dX3_failing_161 : decode cX3_failing 161 = .ok (.aload_n 0, 1) := dk_42 (dk_at dksX3_failing_6 23 rfl rfl)
theorem dX3_failing_162 : decode cX3_failing 162 = .ok (.aload_n 0, 1) := dk_42 (dk_at dksX3_failing_7 0 rfl rfl)
theorem dX3_failing_163 : decode cX3_failing 163 = .ok (.getfield 483, 3) := dk_180 1 227 (dk_at dksX3_failing_7 1 rfl rfl)
theorem dX3_failing_166 : decode cX3_failing 166 = .ok (.putfield 113, 3) := dk_181 0 113 (dk_at dksX3_failing_7 4 rfl rfl)
theorem dX3_failing_169 : decode cX3_failing 169 = .ok (.iinc 5 1, 3) := dk_132 5 1 (dk_at dksX3_failing_7 7 rfl rfl)
theorem dX3_failing_172 : decode cX3_failing 172 = .ok (.iinc 6 1, 3) := dk_132 6 1 (dk_at dksX3_failing_7 10 rfl rfl)
theorem dX3_failing_175 : decode cX3_failing 175 = .ok (.goto (-82), 3) := dk_167 255 174 (dk_at dksX3_failing_7 13 rfl rfl)
theorem dX3_failing_178 : decode cX3_failing 178 = .ok (.iload 5, 2) := dk_21 5 (dk_at dksX3_failing_7 16 rfl rfl)
theorem dX3_failing_180 : decode cX3_failing 180 = .ok (.ireturn, 1) := dk_172 (dk_at dksX3_failing_7 18 rfl rfl)
abbrev cX3_acts : ByteArray := prog_23_method_91_code
def yX3_acts : MethodName := ⟨RX3, "acts", "(IIII)I"⟩
def dkwX3_acts_12 : List UInt8 := [167, 255, 10, 21, 6, 29, 160, 0, 7, 3, 167, 0, 5, 16, 6, 172]
abbrev dktX3_acts_12 : List UInt8 := dkwX3_acts_12 ++ []
def dkwX3_acts_11 : List UInt8 := [21, 13, 54, 6, 42, 21, 7, 21, 6, 21, 5, 182, 1, 196, 54, 7, 132, 12, 1, 167, 255, 150]
abbrev dktX3_acts_11 : List UInt8 := dkwX3_acts_11 ++ dktX3_acts_12
def dkwX3_acts_10 : List UInt8 := [21, 13, 21, 5, 182, 1, 131, 182, 1, 110, 96, 181, 1, 230, 42, 89, 180, 1, 227, 4, 96, 181, 1, 227]
abbrev dktX3_acts_10 : List UInt8 := dkwX3_acts_10 ++ dktX3_acts_11
def dkwX3_acts_9 : List UInt8 := [182, 1, 106, 54, 14, 21, 14, 158, 0, 6, 21, 14, 172, 42, 89, 180, 1, 230, 42, 21, 6, 21, 10, 42]
abbrev dktX3_acts_9 : List UInt8 := dkwX3_acts_9 ++ dktX3_acts_10
def dkwX3_acts_8 : List UInt8 := [54, 13, 21, 13, 156, 0, 7, 4, 167, 0, 19, 42, 21, 6, 21, 10, 42, 21, 13, 21, 5, 182, 1, 131]
abbrev dktX3_acts_8 : List UInt8 := dkwX3_acts_8 ++ dktX3_acts_9
def dkwX3_acts_7 : List UInt8 := [46, 54, 8, 167, 0, 115, 3, 54, 12, 21, 12, 21, 11, 162, 0, 105, 42, 21, 6, 21, 10, 182, 1, 97]
abbrev dktX3_acts_7 : List UInt8 := dkwX3_acts_7 ++ dktX3_acts_8
def dkwX3_acts_6 : List UInt8 := [21, 5, 21, 10, 184, 1, 118, 96, 4, 100, 46, 21, 11, 159, 0, 129, 42, 180, 0, 91, 21, 9, 6, 96]
abbrev dktX3_acts_6 : List UInt8 := dkwX3_acts_6 ++ dktX3_acts_7
def dkwX3_acts_5 : List UInt8 := [4, 160, 0, 53, 21, 7, 21, 10, 184, 1, 118, 154, 0, 5, 8, 172, 42, 180, 0, 82, 7, 21, 10, 104]
abbrev dktX3_acts_5 : List UInt8 := dkwX3_acts_5 ++ dktX3_acts_6
def dkwX3_acts_4 : List UInt8 := [160, 0, 17, 42, 180, 0, 91, 21, 9, 6, 96, 46, 54, 8, 167, 0, 176, 42, 180, 0, 91, 21, 9, 46]
abbrev dktX3_acts_4 : List UInt8 := dkwX3_acts_4 ++ dktX3_acts_5
def dkwX3_acts_3 : List UInt8 := [54, 10, 42, 180, 0, 91, 21, 9, 5, 96, 46, 54, 11, 132, 8, 1, 42, 180, 0, 91, 21, 9, 46, 5]
abbrev dktX3_acts_3 : List UInt8 := dkwX3_acts_3 ++ dktX3_acts_4
def dkwX3_acts_2 : List UInt8 := [162, 0, 241, 17, 2, 0, 27, 104, 7, 21, 8, 104, 96, 54, 9, 42, 180, 0, 91, 21, 9, 4, 96, 46]
abbrev dktX3_acts_2 : List UInt8 := dkwX3_acts_2 ++ dktX3_acts_3
def dkwX3_acts_1 : List UInt8 := [54, 7, 42, 3, 181, 1, 227, 42, 3, 181, 1, 230, 3, 54, 8, 21, 8, 42, 180, 0, 94, 27, 46]
abbrev dktX3_acts_1 : List UInt8 := dkwX3_acts_1 ++ dktX3_acts_2
def dkwX3_acts_0 : List UInt8 := [42, 21, 4, 182, 1, 190, 54, 5, 28, 54, 6, 42, 42, 182, 1, 165, 21, 6, 21, 5, 182, 1, 196]
abbrev dktX3_acts_0 : List UInt8 := dkwX3_acts_0 ++ dktX3_acts_1
theorem dksX3_acts_0 : cX3_acts.data.toList.drop 0 = dktX3_acts_0 := by decide +kernel
theorem dksX3_acts_1 : cX3_acts.data.toList.drop 23 = dktX3_acts_1 := dk_seg dksX3_acts_0 23 rfl rfl
theorem dksX3_acts_2 : cX3_acts.data.toList.drop 46 = dktX3_acts_2 := dk_seg dksX3_acts_1 23 rfl rfl
theorem dksX3_acts_3 : cX3_acts.data.toList.drop 70 = dktX3_acts_3 := dk_seg dksX3_acts_2 24 rfl rfl
theorem dksX3_acts_4 : cX3_acts.data.toList.drop 94 = dktX3_acts_4 := dk_seg dksX3_acts_3 24 rfl rfl
theorem dksX3_acts_5 : cX3_acts.data.toList.drop 118 = dktX3_acts_5 := dk_seg dksX3_acts_4 24 rfl rfl
theorem dksX3_acts_6 : cX3_acts.data.toList.drop 142 = dktX3_acts_6 := dk_seg dksX3_acts_5 24 rfl rfl
theorem dksX3_acts_7 : cX3_acts.data.toList.drop 166 = dktX3_acts_7 := dk_seg dksX3_acts_6 24 rfl rfl
theorem dksX3_acts_8 : cX3_acts.data.toList.drop 190 = dktX3_acts_8 := dk_seg dksX3_acts_7 24 rfl rfl
theorem dksX3_acts_9 : cX3_acts.data.toList.drop 214 = dktX3_acts_9 := dk_seg dksX3_acts_8 24 rfl rfl
theorem dksX3_acts_10 : cX3_acts.data.toList.drop 238 = dktX3_acts_10 := dk_seg dksX3_acts_9 24 rfl rfl
theorem dksX3_acts_11 : cX3_acts.data.toList.drop 262 = dktX3_acts_11 := dk_seg dksX3_acts_10 24 rfl rfl
theorem dksX3_acts_12 : cX3_acts.data.toList.drop 284 = dktX3_acts_12 := dk_seg dksX3_acts_11 22 rfl rfl
theorem dX3_acts_0 : decode cX3_acts 0 = .ok (.aload_n 0, 1) := dk_42 (dk_at dksX3_acts_0 0 rfl rfl)
theorem dX3_acts_1 : decode cX3_acts 1 = .ok (.iload 4, 2) := dk_21 4 (dk_at dksX3_acts_0 1 rfl rfl)
theorem dX3_acts_3 : decode cX3_acts 3 = .ok (.invokevirtual 446, 3) := dk_182 1 190 (dk_at dksX3_acts_0 3 rfl rfl)
theorem dX3_acts_6 : decode cX3_acts 6 = .ok (.istore 5, 2) := dk_54 5 (dk_at dksX3_acts_0 6 rfl rfl)
theorem dX3_acts_8 : decode cX3_acts 8 = .ok (.iload_n 2, 1) := dk_28 (dk_at dksX3_acts_0 8 rfl rfl)
theorem dX3_acts_9 : decode cX3_acts 9 = .ok (.istore 6, 2) := dk_54 6 (dk_at dksX3_acts_0 9 rfl rfl)
theorem dX3_acts_11 : decode cX3_acts 11 = .ok (.aload_n 0, 1) := dk_42 (dk_at dksX3_acts_0 11 rfl rfl)
theorem dX3_acts_12 : decode cX3_acts 12 = .ok (.aload_n 0, 1) := dk_42 (dk_at dksX3_acts_0 12 rfl rfl)
theorem dX3_acts_13 : decode cX3_acts 13 = .ok (.invokevirtual 421, 3) := dk_182 1 165 (dk_at dksX3_acts_0 13 rfl rfl)
theorem dX3_acts_16 : decode cX3_acts 16 = .ok (.iload 6, 2) := dk_21 6 (dk_at dksX3_acts_0 16 rfl rfl)
theorem dX3_acts_18 : decode cX3_acts 18 = .ok (.iload 5, 2) := dk_21 5 (dk_at dksX3_acts_0 18 rfl rfl)
theorem dX3_acts_20 : decode cX3_acts 20 = .ok (.invokevirtual 452, 3) := dk_182 1 196 (dk_at dksX3_acts_0 20 rfl rfl)
theorem dX3_acts_23 : decode cX3_acts 23 = .ok (.istore 7, 2) := dk_54 7 (dk_at dksX3_acts_1 0 rfl rfl)
theorem dX3_acts_25 : decode cX3_acts 25 = .ok (.aload_n 0, 1) := dk_42 (dk_at dksX3_acts_1 2 rfl rfl)
theorem dX3_acts_26 : decode cX3_acts 26 = .ok (.iconst 0, 1) := dk_3 (dk_at dksX3_acts_1 3 rfl rfl)
theorem dX3_acts_27 : decode cX3_acts 27 = .ok (.putfield 483, 3) := dk_181 1 227 (dk_at dksX3_acts_1 4 rfl rfl)
theorem dX3_acts_30 : decode cX3_acts 30 = .ok (.aload_n 0, 1) := dk_42 (dk_at dksX3_acts_1 7 rfl rfl)
theorem dX3_acts_31 : decode cX3_acts 31 = .ok (.iconst 0, 1) := dk_3 (dk_at dksX3_acts_1 8 rfl rfl)
theorem dX3_acts_32 : decode cX3_acts 32 = .ok (.putfield 486, 3) := dk_181 1 230 (dk_at dksX3_acts_1 9 rfl rfl)
theorem dX3_acts_35 : decode cX3_acts 35 = .ok (.iconst 0, 1) := dk_3 (dk_at dksX3_acts_1 12 rfl rfl)
theorem dX3_acts_36 : decode cX3_acts 36 = .ok (.istore 8, 2) := dk_54 8 (dk_at dksX3_acts_1 13 rfl rfl)
theorem dX3_acts_38 : decode cX3_acts 38 = .ok (.iload 8, 2) := dk_21 8 (dk_at dksX3_acts_1 15 rfl rfl)
theorem dX3_acts_40 : decode cX3_acts 40 = .ok (.aload_n 0, 1) := dk_42 (dk_at dksX3_acts_1 17 rfl rfl)
theorem dX3_acts_41 : decode cX3_acts 41 = .ok (.getfield 94, 3) := dk_180 0 94 (dk_at dksX3_acts_1 18 rfl rfl)
theorem dX3_acts_44 : decode cX3_acts 44 = .ok (.iload_n 1, 1) := dk_27 (dk_at dksX3_acts_1 21 rfl rfl)
theorem dX3_acts_45 : decode cX3_acts 45 = .ok (.iaload, 1) := dk_46 (dk_at dksX3_acts_1 22 rfl rfl)
theorem dX3_acts_46 : decode cX3_acts 46 = .ok (.if_icmp .ge 241, 3) := dk_162 0 241 (dk_at dksX3_acts_2 0 rfl rfl)
theorem dX3_acts_49 : decode cX3_acts 49 = .ok (.sipush 512, 3) := dk_17 2 0 (dk_at dksX3_acts_2 3 rfl rfl)
theorem dX3_acts_52 : decode cX3_acts 52 = .ok (.iload_n 1, 1) := dk_27 (dk_at dksX3_acts_2 6 rfl rfl)
theorem dX3_acts_53 : decode cX3_acts 53 = .ok (.imul, 1) := dk_104 (dk_at dksX3_acts_2 7 rfl rfl)
theorem dX3_acts_54 : decode cX3_acts 54 = .ok (.iconst 4, 1) := dk_7 (dk_at dksX3_acts_2 8 rfl rfl)
theorem dX3_acts_55 : decode cX3_acts 55 = .ok (.iload 8, 2) := dk_21 8 (dk_at dksX3_acts_2 9 rfl rfl)
theorem dX3_acts_57 : decode cX3_acts 57 = .ok (.imul, 1) := dk_104 (dk_at dksX3_acts_2 11 rfl rfl)
theorem dX3_acts_58 : decode cX3_acts 58 = .ok (.iadd, 1) := dk_96 (dk_at dksX3_acts_2 12 rfl rfl)
theorem dX3_acts_59 : decode cX3_acts 59 = .ok (.istore 9, 2) := dk_54 9 (dk_at dksX3_acts_2 13 rfl rfl)
theorem dX3_acts_61 : decode cX3_acts 61 = .ok (.aload_n 0, 1) := dk_42 (dk_at dksX3_acts_2 15 rfl rfl)
theorem dX3_acts_62 : decode cX3_acts 62 = .ok (.getfield 91, 3) := dk_180 0 91 (dk_at dksX3_acts_2 16 rfl rfl)
theorem dX3_acts_65 : decode cX3_acts 65 = .ok (.iload 9, 2) := dk_21 9 (dk_at dksX3_acts_2 19 rfl rfl)
theorem dX3_acts_67 : decode cX3_acts 67 = .ok (.iconst 1, 1) := dk_4 (dk_at dksX3_acts_2 21 rfl rfl)
theorem dX3_acts_68 : decode cX3_acts 68 = .ok (.iadd, 1) := dk_96 (dk_at dksX3_acts_2 22 rfl rfl)
theorem dX3_acts_69 : decode cX3_acts 69 = .ok (.iaload, 1) := dk_46 (dk_at dksX3_acts_2 23 rfl rfl)
theorem dX3_acts_70 : decode cX3_acts 70 = .ok (.istore 10, 2) := dk_54 10 (dk_at dksX3_acts_3 0 rfl rfl)
theorem dX3_acts_72 : decode cX3_acts 72 = .ok (.aload_n 0, 1) := dk_42 (dk_at dksX3_acts_3 2 rfl rfl)
theorem dX3_acts_73 : decode cX3_acts 73 = .ok (.getfield 91, 3) := dk_180 0 91 (dk_at dksX3_acts_3 3 rfl rfl)
theorem dX3_acts_76 : decode cX3_acts 76 = .ok (.iload 9, 2) := dk_21 9 (dk_at dksX3_acts_3 6 rfl rfl)
theorem dX3_acts_78 : decode cX3_acts 78 = .ok (.iconst 2, 1) := dk_5 (dk_at dksX3_acts_3 8 rfl rfl)
theorem dX3_acts_79 : decode cX3_acts 79 = .ok (.iadd, 1) := dk_96 (dk_at dksX3_acts_3 9 rfl rfl)
theorem dX3_acts_80 : decode cX3_acts 80 = .ok (.iaload, 1) := dk_46 (dk_at dksX3_acts_3 10 rfl rfl)
theorem dX3_acts_81 : decode cX3_acts 81 = .ok (.istore 11, 2) := dk_54 11 (dk_at dksX3_acts_3 11 rfl rfl)
theorem dX3_acts_83 : decode cX3_acts 83 = .ok (.iinc 8 1, 3) := dk_132 8 1 (dk_at dksX3_acts_3 13 rfl rfl)
theorem dX3_acts_86 : decode cX3_acts 86 = .ok (.aload_n 0, 1) := dk_42 (dk_at dksX3_acts_3 16 rfl rfl)
theorem dX3_acts_87 : decode cX3_acts 87 = .ok (.getfield 91, 3) := dk_180 0 91 (dk_at dksX3_acts_3 17 rfl rfl)
theorem dX3_acts_90 : decode cX3_acts 90 = .ok (.iload 9, 2) := dk_21 9 (dk_at dksX3_acts_3 20 rfl rfl)
theorem dX3_acts_92 : decode cX3_acts 92 = .ok (.iaload, 1) := dk_46 (dk_at dksX3_acts_3 22 rfl rfl)
theorem dX3_acts_93 : decode cX3_acts 93 = .ok (.iconst 2, 1) := dk_5 (dk_at dksX3_acts_3 23 rfl rfl)
theorem dX3_acts_94 : decode cX3_acts 94 = .ok (.if_icmp .ne 17, 3) := dk_160 0 17 (dk_at dksX3_acts_4 0 rfl rfl)
theorem dX3_acts_97 : decode cX3_acts 97 = .ok (.aload_n 0, 1) := dk_42 (dk_at dksX3_acts_4 3 rfl rfl)
theorem dX3_acts_98 : decode cX3_acts 98 = .ok (.getfield 91, 3) := dk_180 0 91 (dk_at dksX3_acts_4 4 rfl rfl)
theorem dX3_acts_101 : decode cX3_acts 101 = .ok (.iload 9, 2) := dk_21 9 (dk_at dksX3_acts_4 7 rfl rfl)
theorem dX3_acts_103 : decode cX3_acts 103 = .ok (.iconst 3, 1) := dk_6 (dk_at dksX3_acts_4 9 rfl rfl)
theorem dX3_acts_104 : decode cX3_acts 104 = .ok (.iadd, 1) := dk_96 (dk_at dksX3_acts_4 10 rfl rfl)
theorem dX3_acts_105 : decode cX3_acts 105 = .ok (.iaload, 1) := dk_46 (dk_at dksX3_acts_4 11 rfl rfl)
theorem dX3_acts_106 : decode cX3_acts 106 = .ok (.istore 8, 2) := dk_54 8 (dk_at dksX3_acts_4 12 rfl rfl)
theorem dX3_acts_108 : decode cX3_acts 108 = .ok (.goto 176, 3) := dk_167 0 176 (dk_at dksX3_acts_4 14 rfl rfl)
theorem dX3_acts_111 : decode cX3_acts 111 = .ok (.aload_n 0, 1) := dk_42 (dk_at dksX3_acts_4 17 rfl rfl)
theorem dX3_acts_112 : decode cX3_acts 112 = .ok (.getfield 91, 3) := dk_180 0 91 (dk_at dksX3_acts_4 18 rfl rfl)
theorem dX3_acts_115 : decode cX3_acts 115 = .ok (.iload 9, 2) := dk_21 9 (dk_at dksX3_acts_4 21 rfl rfl)
theorem dX3_acts_117 : decode cX3_acts 117 = .ok (.iaload, 1) := dk_46 (dk_at dksX3_acts_4 23 rfl rfl)
theorem dX3_acts_118 : decode cX3_acts 118 = .ok (.iconst 1, 1) := dk_4 (dk_at dksX3_acts_5 0 rfl rfl)
theorem dX3_acts_119 : decode cX3_acts 119 = .ok (.if_icmp .ne 53, 3) := dk_160 0 53 (dk_at dksX3_acts_5 1 rfl rfl)
theorem dX3_acts_122 : decode cX3_acts 122 = .ok (.iload 7, 2) := dk_21 7 (dk_at dksX3_acts_5 4 rfl rfl)
theorem dX3_acts_124 : decode cX3_acts 124 = .ok (.iload 10, 2) := dk_21 10 (dk_at dksX3_acts_5 6 rfl rfl)
theorem dX3_acts_126 : decode cX3_acts 126 = .ok (.invokestatic 374, 3) := dk_184 1 118 (dk_at dksX3_acts_5 8 rfl rfl)
theorem dX3_acts_129 : decode cX3_acts 129 = .ok (.ifCond .ne 5, 3) := dk_154 0 5 (dk_at dksX3_acts_5 11 rfl rfl)
theorem dX3_acts_132 : decode cX3_acts 132 = .ok (.iconst 5, 1) := dk_8 (dk_at dksX3_acts_5 14 rfl rfl)
theorem dX3_acts_133 : decode cX3_acts 133 = .ok (.ireturn, 1) := dk_172 (dk_at dksX3_acts_5 15 rfl rfl)
theorem dX3_acts_134 : decode cX3_acts 134 = .ok (.aload_n 0, 1) := dk_42 (dk_at dksX3_acts_5 16 rfl rfl)
theorem dX3_acts_135 : decode cX3_acts 135 = .ok (.getfield 82, 3) := dk_180 0 82 (dk_at dksX3_acts_5 17 rfl rfl)
theorem dX3_acts_138 : decode cX3_acts 138 = .ok (.iconst 4, 1) := dk_7 (dk_at dksX3_acts_5 20 rfl rfl)
theorem dX3_acts_139 : decode cX3_acts 139 = .ok (.iload 10, 2) := dk_21 10 (dk_at dksX3_acts_5 21 rfl rfl)
theorem dX3_acts_141 : decode cX3_acts 141 = .ok (.imul, 1) := dk_104 (dk_at dksX3_acts_5 23 rfl rfl)
theorem dX3_acts_142 : decode cX3_acts 142 = .ok (.iload 5, 2) := dk_21 5 (dk_at dksX3_acts_6 0 rfl rfl)
theorem dX3_acts_144 : decode cX3_acts 144 = .ok (.iload 10, 2) := dk_21 10 (dk_at dksX3_acts_6 2 rfl rfl)
theorem dX3_acts_146 : decode cX3_acts 146 = .ok (.invokestatic 374, 3) := dk_184 1 118 (dk_at dksX3_acts_6 4 rfl rfl)
theorem dX3_acts_149 : decode cX3_acts 149 = .ok (.iadd, 1) := dk_96 (dk_at dksX3_acts_6 7 rfl rfl)
theorem dX3_acts_150 : decode cX3_acts 150 = .ok (.iconst 1, 1) := dk_4 (dk_at dksX3_acts_6 8 rfl rfl)
theorem dX3_acts_151 : decode cX3_acts 151 = .ok (.isub, 1) := dk_100 (dk_at dksX3_acts_6 9 rfl rfl)
theorem dX3_acts_152 : decode cX3_acts 152 = .ok (.iaload, 1) := dk_46 (dk_at dksX3_acts_6 10 rfl rfl)
theorem dX3_acts_153 : decode cX3_acts 153 = .ok (.iload 11, 2) := dk_21 11 (dk_at dksX3_acts_6 11 rfl rfl)
theorem dX3_acts_155 : decode cX3_acts 155 = .ok (.if_icmp .eq 129, 3) := dk_159 0 129 (dk_at dksX3_acts_6 13 rfl rfl)
theorem dX3_acts_158 : decode cX3_acts 158 = .ok (.aload_n 0, 1) := dk_42 (dk_at dksX3_acts_6 16 rfl rfl)
theorem dX3_acts_159 : decode cX3_acts 159 = .ok (.getfield 91, 3) := dk_180 0 91 (dk_at dksX3_acts_6 17 rfl rfl)
theorem dX3_acts_162 : decode cX3_acts 162 = .ok (.iload 9, 2) := dk_21 9 (dk_at dksX3_acts_6 20 rfl rfl)
theorem dX3_acts_164 : decode cX3_acts 164 = .ok (.iconst 3, 1) := dk_6 (dk_at dksX3_acts_6 22 rfl rfl)
theorem dX3_acts_165 : decode cX3_acts 165 = .ok (.iadd, 1) := dk_96 (dk_at dksX3_acts_6 23 rfl rfl)
theorem dX3_acts_166 : decode cX3_acts 166 = .ok (.iaload, 1) := dk_46 (dk_at dksX3_acts_7 0 rfl rfl)
theorem dX3_acts_167 : decode cX3_acts 167 = .ok (.istore 8, 2) := dk_54 8 (dk_at dksX3_acts_7 1 rfl rfl)
theorem dX3_acts_169 : decode cX3_acts 169 = .ok (.goto 115, 3) := dk_167 0 115 (dk_at dksX3_acts_7 3 rfl rfl)
theorem dX3_acts_172 : decode cX3_acts 172 = .ok (.iconst 0, 1) := dk_3 (dk_at dksX3_acts_7 6 rfl rfl)
theorem dX3_acts_173 : decode cX3_acts 173 = .ok (.istore 12, 2) := dk_54 12 (dk_at dksX3_acts_7 7 rfl rfl)
theorem dX3_acts_175 : decode cX3_acts 175 = .ok (.iload 12, 2) := dk_21 12 (dk_at dksX3_acts_7 9 rfl rfl)
theorem dX3_acts_177 : decode cX3_acts 177 = .ok (.iload 11, 2) := dk_21 11 (dk_at dksX3_acts_7 11 rfl rfl)
theorem dX3_acts_179 : decode cX3_acts 179 = .ok (.if_icmp .ge 105, 3) := dk_162 0 105 (dk_at dksX3_acts_7 13 rfl rfl)
theorem dX3_acts_182 : decode cX3_acts 182 = .ok (.aload_n 0, 1) := dk_42 (dk_at dksX3_acts_7 16 rfl rfl)
theorem dX3_acts_183 : decode cX3_acts 183 = .ok (.iload 6, 2) := dk_21 6 (dk_at dksX3_acts_7 17 rfl rfl)
theorem dX3_acts_185 : decode cX3_acts 185 = .ok (.iload 10, 2) := dk_21 10 (dk_at dksX3_acts_7 19 rfl rfl)
theorem dX3_acts_187 : decode cX3_acts 187 = .ok (.invokevirtual 353, 3) := dk_182 1 97 (dk_at dksX3_acts_7 21 rfl rfl)
theorem dX3_acts_190 : decode cX3_acts 190 = .ok (.istore 13, 2) := dk_54 13 (dk_at dksX3_acts_8 0 rfl rfl)
theorem dX3_acts_192 : decode cX3_acts 192 = .ok (.iload 13, 2) := dk_21 13 (dk_at dksX3_acts_8 2 rfl rfl)
theorem dX3_acts_194 : decode cX3_acts 194 = .ok (.ifCond .ge 7, 3) := dk_156 0 7 (dk_at dksX3_acts_8 4 rfl rfl)
theorem dX3_acts_197 : decode cX3_acts 197 = .ok (.iconst 1, 1) := dk_4 (dk_at dksX3_acts_8 7 rfl rfl)
theorem dX3_acts_198 : decode cX3_acts 198 = .ok (.goto 19, 3) := dk_167 0 19 (dk_at dksX3_acts_8 8 rfl rfl)
theorem dX3_acts_201 : decode cX3_acts 201 = .ok (.aload_n 0, 1) := dk_42 (dk_at dksX3_acts_8 11 rfl rfl)
theorem dX3_acts_202 : decode cX3_acts 202 = .ok (.iload 6, 2) := dk_21 6 (dk_at dksX3_acts_8 12 rfl rfl)
theorem dX3_acts_204 : decode cX3_acts 204 = .ok (.iload 10, 2) := dk_21 10 (dk_at dksX3_acts_8 14 rfl rfl)
theorem dX3_acts_206 : decode cX3_acts 206 = .ok (.aload_n 0, 1) := dk_42 (dk_at dksX3_acts_8 16 rfl rfl)
theorem dX3_acts_207 : decode cX3_acts 207 = .ok (.iload 13, 2) := dk_21 13 (dk_at dksX3_acts_8 17 rfl rfl)
theorem dX3_acts_209 : decode cX3_acts 209 = .ok (.iload 5, 2) := dk_21 5 (dk_at dksX3_acts_8 19 rfl rfl)
theorem dX3_acts_211 : decode cX3_acts 211 = .ok (.invokevirtual 387, 3) := dk_182 1 131 (dk_at dksX3_acts_8 21 rfl rfl)
theorem dX3_acts_214 : decode cX3_acts 214 = .ok (.invokevirtual 362, 3) := dk_182 1 106 (dk_at dksX3_acts_9 0 rfl rfl)
theorem dX3_acts_217 : decode cX3_acts 217 = .ok (.istore 14, 2) := dk_54 14 (dk_at dksX3_acts_9 3 rfl rfl)
theorem dX3_acts_219 : decode cX3_acts 219 = .ok (.iload 14, 2) := dk_21 14 (dk_at dksX3_acts_9 5 rfl rfl)
theorem dX3_acts_221 : decode cX3_acts 221 = .ok (.ifCond .le 6, 3) := dk_158 0 6 (dk_at dksX3_acts_9 7 rfl rfl)
theorem dX3_acts_224 : decode cX3_acts 224 = .ok (.iload 14, 2) := dk_21 14 (dk_at dksX3_acts_9 10 rfl rfl)
theorem dX3_acts_226 : decode cX3_acts 226 = .ok (.ireturn, 1) := dk_172 (dk_at dksX3_acts_9 12 rfl rfl)
theorem dX3_acts_227 : decode cX3_acts 227 = .ok (.aload_n 0, 1) := dk_42 (dk_at dksX3_acts_9 13 rfl rfl)
theorem dX3_acts_228 : decode cX3_acts 228 = .ok (.dup, 1) := dk_89 (dk_at dksX3_acts_9 14 rfl rfl)
theorem dX3_acts_229 : decode cX3_acts 229 = .ok (.getfield 486, 3) := dk_180 1 230 (dk_at dksX3_acts_9 15 rfl rfl)
theorem dX3_acts_232 : decode cX3_acts 232 = .ok (.aload_n 0, 1) := dk_42 (dk_at dksX3_acts_9 18 rfl rfl)
theorem dX3_acts_233 : decode cX3_acts 233 = .ok (.iload 6, 2) := dk_21 6 (dk_at dksX3_acts_9 19 rfl rfl)
theorem dX3_acts_235 : decode cX3_acts 235 = .ok (.iload 10, 2) := dk_21 10 (dk_at dksX3_acts_9 21 rfl rfl)
theorem dX3_acts_237 : decode cX3_acts 237 = .ok (.aload_n 0, 1) := dk_42 (dk_at dksX3_acts_9 23 rfl rfl)
theorem dX3_acts_238 : decode cX3_acts 238 = .ok (.iload 13, 2) := dk_21 13 (dk_at dksX3_acts_10 0 rfl rfl)
theorem dX3_acts_240 : decode cX3_acts 240 = .ok (.iload 5, 2) := dk_21 5 (dk_at dksX3_acts_10 2 rfl rfl)
theorem dX3_acts_242 : decode cX3_acts 242 = .ok (.invokevirtual 387, 3) := dk_182 1 131 (dk_at dksX3_acts_10 4 rfl rfl)
theorem dX3_acts_245 : decode cX3_acts 245 = .ok (.invokevirtual 366, 3) := dk_182 1 110 (dk_at dksX3_acts_10 7 rfl rfl)
theorem dX3_acts_248 : decode cX3_acts 248 = .ok (.iadd, 1) := dk_96 (dk_at dksX3_acts_10 10 rfl rfl)
theorem dX3_acts_249 : decode cX3_acts 249 = .ok (.putfield 486, 3) := dk_181 1 230 (dk_at dksX3_acts_10 11 rfl rfl)
theorem dX3_acts_252 : decode cX3_acts 252 = .ok (.aload_n 0, 1) := dk_42 (dk_at dksX3_acts_10 14 rfl rfl)
theorem dX3_acts_253 : decode cX3_acts 253 = .ok (.dup, 1) := dk_89 (dk_at dksX3_acts_10 15 rfl rfl)
theorem dX3_acts_254 : decode cX3_acts 254 = .ok (.getfield 483, 3) := dk_180 1 227 (dk_at dksX3_acts_10 16 rfl rfl)
theorem dX3_acts_257 : decode cX3_acts 257 = .ok (.iconst 1, 1) := dk_4 (dk_at dksX3_acts_10 19 rfl rfl)
theorem dX3_acts_258 : decode cX3_acts 258 = .ok (.iadd, 1) := dk_96 (dk_at dksX3_acts_10 20 rfl rfl)
theorem dX3_acts_259 : decode cX3_acts 259 = .ok (.putfield 483, 3) := dk_181 1 227 (dk_at dksX3_acts_10 21 rfl rfl)
theorem dX3_acts_262 : decode cX3_acts 262 = .ok (.iload 13, 2) := dk_21 13 (dk_at dksX3_acts_11 0 rfl rfl)
theorem dX3_acts_264 : decode cX3_acts 264 = .ok (.istore 6, 2) := dk_54 6 (dk_at dksX3_acts_11 2 rfl rfl)
theorem dX3_acts_266 : decode cX3_acts 266 = .ok (.aload_n 0, 1) := dk_42 (dk_at dksX3_acts_11 4 rfl rfl)
theorem dX3_acts_267 : decode cX3_acts 267 = .ok (.iload 7, 2) := dk_21 7 (dk_at dksX3_acts_11 5 rfl rfl)
theorem dX3_acts_269 : decode cX3_acts 269 = .ok (.iload 6, 2) := dk_21 6 (dk_at dksX3_acts_11 7 rfl rfl)
theorem dX3_acts_271 : decode cX3_acts 271 = .ok (.iload 5, 2) := dk_21 5 (dk_at dksX3_acts_11 9 rfl rfl)
theorem dX3_acts_273 : decode cX3_acts 273 = .ok (.invokevirtual 452, 3) := dk_182 1 196 (dk_at dksX3_acts_11 11 rfl rfl)
theorem dX3_acts_276 : decode cX3_acts 276 = .ok (.istore 7, 2) := dk_54 7 (dk_at dksX3_acts_11 14 rfl rfl)
theorem dX3_acts_278 : decode cX3_acts 278 = .ok (.iinc 12 1, 3) := dk_132 12 1 (dk_at dksX3_acts_11 16 rfl rfl)
theorem dX3_acts_281 : decode cX3_acts 281 = .ok (.goto (-106), 3) := dk_167 255 150 (dk_at dksX3_acts_11 19 rfl rfl)
theorem dX3_acts_284 : decode cX3_acts 284 = .ok (.goto (-246), 3) := dk_167 255 10 (dk_at dksX3_acts_12 0 rfl rfl)
theorem dX3_acts_287 : decode cX3_acts 287 = .ok (.iload 6, 2) := dk_21 6 (dk_at dksX3_acts_12 3 rfl rfl)
theorem dX3_acts_289 : decode cX3_acts 289 = .ok (.iload_n 3, 1) := dk_29 (dk_at dksX3_acts_12 5 rfl rfl)
theorem dX3_acts_290 : decode cX3_acts 290 = .ok (.if_icmp .ne 7, 3) := dk_160 0 7 (dk_at dksX3_acts_12 6 rfl rfl)
theorem dX3_acts_293 : decode cX3_acts 293 = .ok (.iconst 0, 1) := dk_3 (dk_at dksX3_acts_12 9 rfl rfl)
theorem dX3_acts_294 : decode cX3_acts 294 = .ok (.goto 5, 3) := dk_167 0 5 (dk_at dksX3_acts_12 10 rfl rfl)
theorem dX3_acts_297 : decode cX3_acts 297 = .ok (.bipush 6, 2) := dk_16 6 (dk_at dksX3_acts_12 13 rfl rfl)
theorem dX3_acts_299 : decode cX3_acts 299 = .ok (.ireturn, 1) := dk_172 (dk_at dksX3_acts_12 15 rfl rfl)
abbrev cX3_first : ByteArray := prog_23_method_93_code
def yX3_first : MethodName := ⟨RX3, "first", "(I)I"⟩
def dkwX3_first_1 : List UInt8 := [180, 0, 110, 167, 0, 16, 27, 5, 160, 0, 10, 42, 180, 0, 113, 167, 0, 4, 2, 172]
abbrev dktX3_first_1 : List UInt8 := dkwX3_first_1 ++ []
def dkwX3_first_0 : List UInt8 := [42, 3, 181, 0, 131, 27, 154, 0, 10, 42, 180, 0, 107, 167, 0, 28, 27, 4, 160, 0, 10, 42]
abbrev dktX3_first_0 : List UInt8 := dkwX3_first_0 ++ dktX3_first_1
theorem dksX3_first_0 : cX3_first.data.toList.drop 0 = dktX3_first_0 := by decide +kernel
theorem dksX3_first_1 : cX3_first.data.toList.drop 22 = dktX3_first_1 := dk_seg dksX3_first_0 22 rfl rfl
theorem dX3_first_0 : decode cX3_first 0 = .ok (.aload_n 0, 1) := dk_42 (dk_at dksX3_first_0 0 rfl rfl)
theorem dX3_first_1 : decode cX3_first 1 = .ok (.iconst 0, 1) := dk_3 (dk_at dksX3_first_0 1 rfl rfl)
theorem dX3_first_2 : decode cX3_first 2 = .ok (.putfield 131, 3) := dk_181 0 131 (dk_at dksX3_first_0 2 rfl rfl)
theorem dX3_first_5 : decode cX3_first 5 = .ok (.iload_n 1, 1) := dk_27 (dk_at dksX3_first_0 5 rfl rfl)
theorem dX3_first_6 : decode cX3_first 6 = .ok (.ifCond .ne 10, 3) := dk_154 0 10 (dk_at dksX3_first_0 6 rfl rfl)
theorem dX3_first_9 : decode cX3_first 9 = .ok (.aload_n 0, 1) := dk_42 (dk_at dksX3_first_0 9 rfl rfl)
theorem dX3_first_10 : decode cX3_first 10 = .ok (.getfield 107, 3) := dk_180 0 107 (dk_at dksX3_first_0 10 rfl rfl)
theorem dX3_first_13 : decode cX3_first 13 = .ok (.goto 28, 3) := dk_167 0 28 (dk_at dksX3_first_0 13 rfl rfl)
theorem dX3_first_16 : decode cX3_first 16 = .ok (.iload_n 1, 1) := dk_27 (dk_at dksX3_first_0 16 rfl rfl)
theorem dX3_first_17 : decode cX3_first 17 = .ok (.iconst 1, 1) := dk_4 (dk_at dksX3_first_0 17 rfl rfl)
theorem dX3_first_18 : decode cX3_first 18 = .ok (.if_icmp .ne 10, 3) := dk_160 0 10 (dk_at dksX3_first_0 18 rfl rfl)
theorem dX3_first_21 : decode cX3_first 21 = .ok (.aload_n 0, 1) := dk_42 (dk_at dksX3_first_0 21 rfl rfl)
theorem dX3_first_22 : decode cX3_first 22 = .ok (.getfield 110, 3) := dk_180 0 110 (dk_at dksX3_first_1 0 rfl rfl)
theorem dX3_first_25 : decode cX3_first 25 = .ok (.goto 16, 3) := dk_167 0 16 (dk_at dksX3_first_1 3 rfl rfl)
theorem dX3_first_28 : decode cX3_first 28 = .ok (.iload_n 1, 1) := dk_27 (dk_at dksX3_first_1 6 rfl rfl)
theorem dX3_first_29 : decode cX3_first 29 = .ok (.iconst 2, 1) := dk_5 (dk_at dksX3_first_1 7 rfl rfl)
theorem dX3_first_30 : decode cX3_first 30 = .ok (.if_icmp .ne 10, 3) := dk_160 0 10 (dk_at dksX3_first_1 8 rfl rfl)
theorem dX3_first_33 : decode cX3_first 33 = .ok (.aload_n 0, 1) := dk_42 (dk_at dksX3_first_1 11 rfl rfl)
theorem dX3_first_34 : decode cX3_first 34 = .ok (.getfield 113, 3) := dk_180 0 113 (dk_at dksX3_first_1 12 rfl rfl)
theorem dX3_first_37 : decode cX3_first 37 = .ok (.goto 4, 3) := dk_167 0 4 (dk_at dksX3_first_1 15 rfl rfl)
theorem dX3_first_40 : decode cX3_first 40 = .ok (.iconst (-1), 1) := dk_2 (dk_at dksX3_first_1 18 rfl rfl)
theorem dX3_first_41 : decode cX3_first 41 = .ok (.ireturn, 1) := dk_172 (dk_at dksX3_first_1 19 rfl rfl)
abbrev cX3_costs : ByteArray := prog_23_method_94_code
def yX3_costs : MethodName := ⟨RX3, "costs", "(III)I"⟩
def dkwX3_costs_4 : List UInt8 := [42, 180, 1, 230, 167, 0, 5, 21, 4, 54, 4, 132, 5, 1, 167, 255, 205, 21, 4, 172]
abbrev dktX3_costs_4 : List UInt8 := dkwX3_costs_4 ++ []
def dkwX3_costs_3 : List UInt8 := [21, 5, 182, 1, 234, 158, 0, 10, 42, 16, 6, 182, 0, 252, 172, 42, 180, 1, 230, 21, 4, 164, 0, 10]
abbrev dktX3_costs_3 : List UInt8 := dkwX3_costs_3 ++ dktX3_costs_4
def dkwX3_costs_2 : List UInt8 := [172, 42, 182, 1, 125, 3, 54, 4, 3, 54, 5, 21, 5, 42, 182, 1, 187, 162, 0, 48, 42, 27, 28, 29]
abbrev dktX3_costs_2 : List UInt8 := dkwX3_costs_2 ++ dktX3_costs_3
def dkwX3_costs_1 : List UInt8 := [153, 0, 19, 42, 28, 182, 1, 91, 153, 0, 11, 42, 29, 182, 1, 91, 154, 0, 9, 42, 4, 182, 0, 252]
abbrev dktX3_costs_1 : List UInt8 := dkwX3_costs_1 ++ dktX3_costs_2
def dkwX3_costs_0 : List UInt8 := [42, 182, 0, 249, 42, 180, 1, 19, 153, 0, 33, 27, 3, 42, 180, 1, 22, 4, 100, 184, 0, 220]
abbrev dktX3_costs_0 : List UInt8 := dkwX3_costs_0 ++ dktX3_costs_1
theorem dksX3_costs_0 : cX3_costs.data.toList.drop 0 = dktX3_costs_0 := by decide +kernel
theorem dksX3_costs_1 : cX3_costs.data.toList.drop 22 = dktX3_costs_1 := dk_seg dksX3_costs_0 22 rfl rfl
theorem dksX3_costs_2 : cX3_costs.data.toList.drop 46 = dktX3_costs_2 := dk_seg dksX3_costs_1 24 rfl rfl
theorem dksX3_costs_3 : cX3_costs.data.toList.drop 70 = dktX3_costs_3 := dk_seg dksX3_costs_2 24 rfl rfl
theorem dksX3_costs_4 : cX3_costs.data.toList.drop 94 = dktX3_costs_4 := dk_seg dksX3_costs_3 24 rfl rfl
theorem dX3_costs_0 : decode cX3_costs 0 = .ok (.aload_n 0, 1) := dk_42 (dk_at dksX3_costs_0 0 rfl rfl)
theorem dX3_costs_1 : decode cX3_costs 1 = .ok (.invokevirtual 249, 3) := dk_182 0 249 (dk_at dksX3_costs_0 1 rfl rfl)
theorem dX3_costs_4 : decode cX3_costs 4 = .ok (.aload_n 0, 1) := dk_42 (dk_at dksX3_costs_0 4 rfl rfl)
theorem dX3_costs_5 : decode cX3_costs 5 = .ok (.getfield 275, 3) := dk_180 1 19 (dk_at dksX3_costs_0 5 rfl rfl)
theorem dX3_costs_8 : decode cX3_costs 8 = .ok (.ifCond .eq 33, 3) := dk_153 0 33 (dk_at dksX3_costs_0 8 rfl rfl)
theorem dX3_costs_11 : decode cX3_costs 11 = .ok (.iload_n 1, 1) := dk_27 (dk_at dksX3_costs_0 11 rfl rfl)
theorem dX3_costs_12 : decode cX3_costs 12 = .ok (.iconst 0, 1) := dk_3 (dk_at dksX3_costs_0 12 rfl rfl)
theorem dX3_costs_13 : decode cX3_costs 13 = .ok (.aload_n 0, 1) := dk_42 (dk_at dksX3_costs_0 13 rfl rfl)
theorem dX3_costs_14 : decode cX3_costs 14 = .ok (.getfield 278, 3) := dk_180 1 22 (dk_at dksX3_costs_0 14 rfl rfl)
theorem dX3_costs_17 : decode cX3_costs 17 = .ok (.iconst 1, 1) := dk_4 (dk_at dksX3_costs_0 17 rfl rfl)
theorem dX3_costs_18 : decode cX3_costs 18 = .ok (.isub, 1) := dk_100 (dk_at dksX3_costs_0 18 rfl rfl)
theorem dX3_costs_19 : decode cX3_costs 19 = .ok (.invokestatic 220, 3) := dk_184 0 220 (dk_at dksX3_costs_0 19 rfl rfl)
theorem dX3_costs_22 : decode cX3_costs 22 = .ok (.ifCond .eq 19, 3) := dk_153 0 19 (dk_at dksX3_costs_1 0 rfl rfl)
theorem dX3_costs_25 : decode cX3_costs 25 = .ok (.aload_n 0, 1) := dk_42 (dk_at dksX3_costs_1 3 rfl rfl)
theorem dX3_costs_26 : decode cX3_costs 26 = .ok (.iload_n 2, 1) := dk_28 (dk_at dksX3_costs_1 4 rfl rfl)
theorem dX3_costs_27 : decode cX3_costs 27 = .ok (.invokevirtual 347, 3) := dk_182 1 91 (dk_at dksX3_costs_1 5 rfl rfl)
theorem dX3_costs_30 : decode cX3_costs 30 = .ok (.ifCond .eq 11, 3) := dk_153 0 11 (dk_at dksX3_costs_1 8 rfl rfl)
theorem dX3_costs_33 : decode cX3_costs 33 = .ok (.aload_n 0, 1) := dk_42 (dk_at dksX3_costs_1 11 rfl rfl)
theorem dX3_costs_34 : decode cX3_costs 34 = .ok (.iload_n 3, 1) := dk_29 (dk_at dksX3_costs_1 12 rfl rfl)
theorem dX3_costs_35 : decode cX3_costs 35 = .ok (.invokevirtual 347, 3) := dk_182 1 91 (dk_at dksX3_costs_1 13 rfl rfl)
theorem dX3_costs_38 : decode cX3_costs 38 = .ok (.ifCond .ne 9, 3) := dk_154 0 9 (dk_at dksX3_costs_1 16 rfl rfl)
theorem dX3_costs_41 : decode cX3_costs 41 = .ok (.aload_n 0, 1) := dk_42 (dk_at dksX3_costs_1 19 rfl rfl)
theorem dX3_costs_42 : decode cX3_costs 42 = .ok (.iconst 1, 1) := dk_4 (dk_at dksX3_costs_1 20 rfl rfl)
theorem dX3_costs_43 : decode cX3_costs 43 = .ok (.invokevirtual 252, 3) := dk_182 0 252 (dk_at dksX3_costs_1 21 rfl rfl)
theorem dX3_costs_46 : decode cX3_costs 46 = .ok (.ireturn, 1) := dk_172 (dk_at dksX3_costs_2 0 rfl rfl)
theorem dX3_costs_47 : decode cX3_costs 47 = .ok (.aload_n 0, 1) := dk_42 (dk_at dksX3_costs_2 1 rfl rfl)
theorem dX3_costs_48 : decode cX3_costs 48 = .ok (.invokevirtual 381, 3) := dk_182 1 125 (dk_at dksX3_costs_2 2 rfl rfl)
theorem dX3_costs_51 : decode cX3_costs 51 = .ok (.iconst 0, 1) := dk_3 (dk_at dksX3_costs_2 5 rfl rfl)
theorem dX3_costs_52 : decode cX3_costs 52 = .ok (.istore 4, 2) := dk_54 4 (dk_at dksX3_costs_2 6 rfl rfl)
theorem dX3_costs_54 : decode cX3_costs 54 = .ok (.iconst 0, 1) := dk_3 (dk_at dksX3_costs_2 8 rfl rfl)
theorem dX3_costs_55 : decode cX3_costs 55 = .ok (.istore 5, 2) := dk_54 5 (dk_at dksX3_costs_2 9 rfl rfl)
theorem dX3_costs_57 : decode cX3_costs 57 = .ok (.iload 5, 2) := dk_21 5 (dk_at dksX3_costs_2 11 rfl rfl)
theorem dX3_costs_59 : decode cX3_costs 59 = .ok (.aload_n 0, 1) := dk_42 (dk_at dksX3_costs_2 13 rfl rfl)
theorem dX3_costs_60 : decode cX3_costs 60 = .ok (.invokevirtual 443, 3) := dk_182 1 187 (dk_at dksX3_costs_2 14 rfl rfl)
theorem dX3_costs_63 : decode cX3_costs 63 = .ok (.if_icmp .ge 48, 3) := dk_162 0 48 (dk_at dksX3_costs_2 17 rfl rfl)
theorem dX3_costs_66 : decode cX3_costs 66 = .ok (.aload_n 0, 1) := dk_42 (dk_at dksX3_costs_2 20 rfl rfl)
theorem dX3_costs_67 : decode cX3_costs 67 = .ok (.iload_n 1, 1) := dk_27 (dk_at dksX3_costs_2 21 rfl rfl)
theorem dX3_costs_68 : decode cX3_costs 68 = .ok (.iload_n 2, 1) := dk_28 (dk_at dksX3_costs_2 22 rfl rfl)
theorem dX3_costs_69 : decode cX3_costs 69 = .ok (.iload_n 3, 1) := dk_29 (dk_at dksX3_costs_2 23 rfl rfl)
theorem dX3_costs_70 : decode cX3_costs 70 = .ok (.iload 5, 2) := dk_21 5 (dk_at dksX3_costs_3 0 rfl rfl)
theorem dX3_costs_72 : decode cX3_costs 72 = .ok (.invokevirtual 490, 3) := dk_182 1 234 (dk_at dksX3_costs_3 2 rfl rfl)
theorem dX3_costs_75 : decode cX3_costs 75 = .ok (.ifCond .le 10, 3) := dk_158 0 10 (dk_at dksX3_costs_3 5 rfl rfl)
theorem dX3_costs_78 : decode cX3_costs 78 = .ok (.aload_n 0, 1) := dk_42 (dk_at dksX3_costs_3 8 rfl rfl)
theorem dX3_costs_79 : decode cX3_costs 79 = .ok (.bipush 6, 2) := dk_16 6 (dk_at dksX3_costs_3 9 rfl rfl)
theorem dX3_costs_81 : decode cX3_costs 81 = .ok (.invokevirtual 252, 3) := dk_182 0 252 (dk_at dksX3_costs_3 11 rfl rfl)
theorem dX3_costs_84 : decode cX3_costs 84 = .ok (.ireturn, 1) := dk_172 (dk_at dksX3_costs_3 14 rfl rfl)
theorem dX3_costs_85 : decode cX3_costs 85 = .ok (.aload_n 0, 1) := dk_42 (dk_at dksX3_costs_3 15 rfl rfl)
theorem dX3_costs_86 : decode cX3_costs 86 = .ok (.getfield 486, 3) := dk_180 1 230 (dk_at dksX3_costs_3 16 rfl rfl)
theorem dX3_costs_89 : decode cX3_costs 89 = .ok (.iload 4, 2) := dk_21 4 (dk_at dksX3_costs_3 19 rfl rfl)
theorem dX3_costs_91 : decode cX3_costs 91 = .ok (.if_icmp .le 10, 3) := dk_164 0 10 (dk_at dksX3_costs_3 21 rfl rfl)
theorem dX3_costs_94 : decode cX3_costs 94 = .ok (.aload_n 0, 1) := dk_42 (dk_at dksX3_costs_4 0 rfl rfl)
theorem dX3_costs_95 : decode cX3_costs 95 = .ok (.getfield 486, 3) := dk_180 1 230 (dk_at dksX3_costs_4 1 rfl rfl)
theorem dX3_costs_98 : decode cX3_costs 98 = .ok (.goto 5, 3) := dk_167 0 5 (dk_at dksX3_costs_4 4 rfl rfl)
theorem dX3_costs_101 : decode cX3_costs 101 = .ok (.iload 4, 2) := dk_21 4 (dk_at dksX3_costs_4 7 rfl rfl)
theorem dX3_costs_103 : decode cX3_costs 103 = .ok (.istore 4, 2) := dk_54 4 (dk_at dksX3_costs_4 9 rfl rfl)
theorem dX3_costs_105 : decode cX3_costs 105 = .ok (.iinc 5 1, 3) := dk_132 5 1 (dk_at dksX3_costs_4 11 rfl rfl)
theorem dX3_costs_108 : decode cX3_costs 108 = .ok (.goto (-51), 3) := dk_167 255 205 (dk_at dksX3_costs_4 14 rfl rfl)
theorem dX3_costs_111 : decode cX3_costs 111 = .ok (.iload 4, 2) := dk_21 4 (dk_at dksX3_costs_4 17 rfl rfl)
theorem dX3_costs_113 : decode cX3_costs 113 = .ok (.ireturn, 1) := dk_172 (dk_at dksX3_costs_4 19 rfl rfl)
abbrev cX3_dig : ByteArray := prog_23_method_95_code
def yX3_dig : MethodName := ⟨RX3, "dig", "(II)Z"⟩
def dkwX3_dig_2 : List UInt8 := [42, 180, 0, 70, 27, 28, 79, 4, 172]
abbrev dktX3_dig_2 : List UInt8 := dkwX3_dig_2 ++ []
def dkwX3_dig_1 : List UInt8 := [154, 0, 9, 42, 4, 182, 1, 82, 172, 28, 3, 7, 184, 0, 220, 154, 0, 9, 42, 5, 182, 1, 82, 172]
abbrev dktX3_dig_1 : List UInt8 := dkwX3_dig_1 ++ dktX3_dig_2
def dkwX3_dig_0 : List UInt8 := [42, 182, 0, 249, 42, 180, 1, 13, 153, 0, 17, 27, 3, 42, 180, 0, 234, 4, 100, 184, 0, 220]
abbrev dktX3_dig_0 : List UInt8 := dkwX3_dig_0 ++ dktX3_dig_1
theorem dksX3_dig_0 : cX3_dig.data.toList.drop 0 = dktX3_dig_0 := by decide +kernel
theorem dksX3_dig_1 : cX3_dig.data.toList.drop 22 = dktX3_dig_1 := dk_seg dksX3_dig_0 22 rfl rfl
theorem dksX3_dig_2 : cX3_dig.data.toList.drop 46 = dktX3_dig_2 := dk_seg dksX3_dig_1 24 rfl rfl
theorem dX3_dig_0 : decode cX3_dig 0 = .ok (.aload_n 0, 1) := dk_42 (dk_at dksX3_dig_0 0 rfl rfl)
theorem dX3_dig_1 : decode cX3_dig 1 = .ok (.invokevirtual 249, 3) := dk_182 0 249 (dk_at dksX3_dig_0 1 rfl rfl)
theorem dX3_dig_4 : decode cX3_dig 4 = .ok (.aload_n 0, 1) := dk_42 (dk_at dksX3_dig_0 4 rfl rfl)
theorem dX3_dig_5 : decode cX3_dig 5 = .ok (.getfield 269, 3) := dk_180 1 13 (dk_at dksX3_dig_0 5 rfl rfl)
theorem dX3_dig_8 : decode cX3_dig 8 = .ok (.ifCond .eq 17, 3) := dk_153 0 17 (dk_at dksX3_dig_0 8 rfl rfl)
theorem dX3_dig_11 : decode cX3_dig 11 = .ok (.iload_n 1, 1) := dk_27 (dk_at dksX3_dig_0 11 rfl rfl)
theorem dX3_dig_12 : decode cX3_dig 12 = .ok (.iconst 0, 1) := dk_3 (dk_at dksX3_dig_0 12 rfl rfl)
theorem dX3_dig_13 : decode cX3_dig 13 = .ok (.aload_n 0, 1) := dk_42 (dk_at dksX3_dig_0 13 rfl rfl)
theorem dX3_dig_14 : decode cX3_dig 14 = .ok (.getfield 234, 3) := dk_180 0 234 (dk_at dksX3_dig_0 14 rfl rfl)
theorem dX3_dig_17 : decode cX3_dig 17 = .ok (.iconst 1, 1) := dk_4 (dk_at dksX3_dig_0 17 rfl rfl)
theorem dX3_dig_18 : decode cX3_dig 18 = .ok (.isub, 1) := dk_100 (dk_at dksX3_dig_0 18 rfl rfl)
theorem dX3_dig_19 : decode cX3_dig 19 = .ok (.invokestatic 220, 3) := dk_184 0 220 (dk_at dksX3_dig_0 19 rfl rfl)
theorem dX3_dig_22 : decode cX3_dig 22 = .ok (.ifCond .ne 9, 3) := dk_154 0 9 (dk_at dksX3_dig_1 0 rfl rfl)
theorem dX3_dig_25 : decode cX3_dig 25 = .ok (.aload_n 0, 1) := dk_42 (dk_at dksX3_dig_1 3 rfl rfl)
theorem dX3_dig_26 : decode cX3_dig 26 = .ok (.iconst 1, 1) := dk_4 (dk_at dksX3_dig_1 4 rfl rfl)
theorem dX3_dig_27 : decode cX3_dig 27 = .ok (.invokevirtual 338, 3) := dk_182 1 82 (dk_at dksX3_dig_1 5 rfl rfl)
theorem dX3_dig_30 : decode cX3_dig 30 = .ok (.ireturn, 1) := dk_172 (dk_at dksX3_dig_1 8 rfl rfl)
theorem dX3_dig_31 : decode cX3_dig 31 = .ok (.iload_n 2, 1) := dk_28 (dk_at dksX3_dig_1 9 rfl rfl)
theorem dX3_dig_32 : decode cX3_dig 32 = .ok (.iconst 0, 1) := dk_3 (dk_at dksX3_dig_1 10 rfl rfl)
theorem dX3_dig_33 : decode cX3_dig 33 = .ok (.iconst 4, 1) := dk_7 (dk_at dksX3_dig_1 11 rfl rfl)
theorem dX3_dig_34 : decode cX3_dig 34 = .ok (.invokestatic 220, 3) := dk_184 0 220 (dk_at dksX3_dig_1 12 rfl rfl)
theorem dX3_dig_37 : decode cX3_dig 37 = .ok (.ifCond .ne 9, 3) := dk_154 0 9 (dk_at dksX3_dig_1 15 rfl rfl)
theorem dX3_dig_40 : decode cX3_dig 40 = .ok (.aload_n 0, 1) := dk_42 (dk_at dksX3_dig_1 18 rfl rfl)
theorem dX3_dig_41 : decode cX3_dig 41 = .ok (.iconst 2, 1) := dk_5 (dk_at dksX3_dig_1 19 rfl rfl)
theorem dX3_dig_42 : decode cX3_dig 42 = .ok (.invokevirtual 338, 3) := dk_182 1 82 (dk_at dksX3_dig_1 20 rfl rfl)
theorem dX3_dig_45 : decode cX3_dig 45 = .ok (.ireturn, 1) := dk_172 (dk_at dksX3_dig_1 23 rfl rfl)
theorem dX3_dig_46 : decode cX3_dig 46 = .ok (.aload_n 0, 1) := dk_42 (dk_at dksX3_dig_2 0 rfl rfl)
theorem dX3_dig_47 : decode cX3_dig 47 = .ok (.getfield 70, 3) := dk_180 0 70 (dk_at dksX3_dig_2 1 rfl rfl)
theorem dX3_dig_50 : decode cX3_dig 50 = .ok (.iload_n 1, 1) := dk_27 (dk_at dksX3_dig_2 4 rfl rfl)
theorem dX3_dig_51 : decode cX3_dig 51 = .ok (.iload_n 2, 1) := dk_28 (dk_at dksX3_dig_2 5 rfl rfl)
theorem dX3_dig_52 : decode cX3_dig 52 = .ok (.iastore, 1) := dk_79 (dk_at dksX3_dig_2 6 rfl rfl)
theorem dX3_dig_53 : decode cX3_dig 53 = .ok (.iconst 1, 1) := dk_4 (dk_at dksX3_dig_2 7 rfl rfl)
theorem dX3_dig_54 : decode cX3_dig 54 = .ok (.ireturn, 1) := dk_172 (dk_at dksX3_dig_2 8 rfl rfl)
abbrev cX3_out : ByteArray := prog_23_method_99_code
def yX3_out : MethodName := ⟨RX3, "out", "()I"⟩
def dkwX3_out_2 : List UInt8 := [167, 0, 8, 27, 17, 39, 16, 108, 172]
abbrev dktX3_out_2 : List UInt8 := dkwX3_out_2 ++ []
def dkwX3_out_1 : List UInt8 := [180, 0, 116, 42, 182, 1, 244, 46, 60, 27, 19, 1, 237, 160, 0, 12, 42, 16, 6, 182, 0, 252]
abbrev dktX3_out_1 : List UInt8 := dkwX3_out_1 ++ dktX3_out_2
def dkwX3_out_0 : List UInt8 := [42, 182, 0, 249, 42, 180, 1, 13, 154, 0, 9, 42, 4, 182, 0, 252, 172, 42, 182, 1, 241, 42]
abbrev dktX3_out_0 : List UInt8 := dkwX3_out_0 ++ dktX3_out_1
theorem dksX3_out_0 : cX3_out.data.toList.drop 0 = dktX3_out_0 := by decide +kernel
theorem dksX3_out_1 : cX3_out.data.toList.drop 22 = dktX3_out_1 := dk_seg dksX3_out_0 22 rfl rfl
theorem dksX3_out_2 : cX3_out.data.toList.drop 44 = dktX3_out_2 := dk_seg dksX3_out_1 22 rfl rfl
theorem dX3_out_0 : decode cX3_out 0 = .ok (.aload_n 0, 1) := dk_42 (dk_at dksX3_out_0 0 rfl rfl)
theorem dX3_out_1 : decode cX3_out 1 = .ok (.invokevirtual 249, 3) := dk_182 0 249 (dk_at dksX3_out_0 1 rfl rfl)
theorem dX3_out_4 : decode cX3_out 4 = .ok (.aload_n 0, 1) := dk_42 (dk_at dksX3_out_0 4 rfl rfl)
theorem dX3_out_5 : decode cX3_out 5 = .ok (.getfield 269, 3) := dk_180 1 13 (dk_at dksX3_out_0 5 rfl rfl)
theorem dX3_out_8 : decode cX3_out 8 = .ok (.ifCond .ne 9, 3) := dk_154 0 9 (dk_at dksX3_out_0 8 rfl rfl)
theorem dX3_out_11 : decode cX3_out 11 = .ok (.aload_n 0, 1) := dk_42 (dk_at dksX3_out_0 11 rfl rfl)
theorem dX3_out_12 : decode cX3_out 12 = .ok (.iconst 1, 1) := dk_4 (dk_at dksX3_out_0 12 rfl rfl)
theorem dX3_out_13 : decode cX3_out 13 = .ok (.invokevirtual 252, 3) := dk_182 0 252 (dk_at dksX3_out_0 13 rfl rfl)
theorem dX3_out_16 : decode cX3_out 16 = .ok (.ireturn, 1) := dk_172 (dk_at dksX3_out_0 16 rfl rfl)
theorem dX3_out_17 : decode cX3_out 17 = .ok (.aload_n 0, 1) := dk_42 (dk_at dksX3_out_0 17 rfl rfl)
theorem dX3_out_18 : decode cX3_out 18 = .ok (.invokevirtual 497, 3) := dk_182 1 241 (dk_at dksX3_out_0 18 rfl rfl)
theorem dX3_out_21 : decode cX3_out 21 = .ok (.aload_n 0, 1) := dk_42 (dk_at dksX3_out_0 21 rfl rfl)
theorem dX3_out_22 : decode cX3_out 22 = .ok (.getfield 116, 3) := dk_180 0 116 (dk_at dksX3_out_1 0 rfl rfl)
theorem dX3_out_25 : decode cX3_out 25 = .ok (.aload_n 0, 1) := dk_42 (dk_at dksX3_out_1 3 rfl rfl)
theorem dX3_out_26 : decode cX3_out 26 = .ok (.invokevirtual 500, 3) := dk_182 1 244 (dk_at dksX3_out_1 4 rfl rfl)
theorem dX3_out_29 : decode cX3_out 29 = .ok (.iaload, 1) := dk_46 (dk_at dksX3_out_1 7 rfl rfl)
theorem dX3_out_30 : decode cX3_out 30 = .ok (.istore_n 1, 1) := dk_60 (dk_at dksX3_out_1 8 rfl rfl)
theorem dX3_out_31 : decode cX3_out 31 = .ok (.iload_n 1, 1) := dk_27 (dk_at dksX3_out_1 9 rfl rfl)
theorem dX3_out_32 : decode cX3_out 32 = .ok (.ldc_w 493, 3) := dk_19 1 237 (dk_at dksX3_out_1 10 rfl rfl)
theorem dX3_out_35 : decode cX3_out 35 = .ok (.if_icmp .ne 12, 3) := dk_160 0 12 (dk_at dksX3_out_1 13 rfl rfl)
theorem dX3_out_38 : decode cX3_out 38 = .ok (.aload_n 0, 1) := dk_42 (dk_at dksX3_out_1 16 rfl rfl)
theorem dX3_out_39 : decode cX3_out 39 = .ok (.bipush 6, 2) := dk_16 6 (dk_at dksX3_out_1 17 rfl rfl)
theorem dX3_out_41 : decode cX3_out 41 = .ok (.invokevirtual 252, 3) := dk_182 0 252 (dk_at dksX3_out_1 19 rfl rfl)
theorem dX3_out_44 : decode cX3_out 44 = .ok (.goto 8, 3) := dk_167 0 8 (dk_at dksX3_out_2 0 rfl rfl)
theorem dX3_out_47 : decode cX3_out 47 = .ok (.iload_n 1, 1) := dk_27 (dk_at dksX3_out_2 3 rfl rfl)
theorem dX3_out_48 : decode cX3_out 48 = .ok (.sipush 10000, 3) := dk_17 39 16 (dk_at dksX3_out_2 4 rfl rfl)
theorem dX3_out_51 : decode cX3_out 51 = .ok (.idiv, 1) := dk_108 (dk_at dksX3_out_2 7 rfl rfl)
theorem dX3_out_52 : decode cX3_out 52 = .ok (.ireturn, 1) := dk_172 (dk_at dksX3_out_2 8 rfl rfl)
abbrev cX3_digs : ByteArray := prog_23_method_98_code
def yX3_digs : MethodName := ⟨RX3, "digs", "()V"⟩
def dkwX3_digs_8 : List UInt8 := [167, 255, 168, 132, 4, 1, 167, 255, 150, 132, 3, 1, 167, 255, 136, 167, 255, 125, 177]
abbrev dktX3_digs_8 : List UInt8 := dkwX3_digs_8 ++ []
def dkwX3_digs_7 : List UInt8 := [21, 6, 17, 39, 16, 42, 180, 0, 46, 21, 4, 46, 104, 96, 4, 96, 79, 4, 61, 132, 5, 1]
abbrev dktX3_digs_7 : List UInt8 := dkwX3_digs_7 ++ dktX3_digs_8
def dkwX3_digs_6 : List UInt8 := [21, 4, 46, 104, 96, 4, 96, 42, 180, 0, 116, 29, 46, 161, 0, 6, 167, 0, 27, 42, 180, 0, 116, 29]
abbrev dktX3_digs_6 : List UInt8 := dkwX3_digs_6 ++ dktX3_digs_7
def dkwX3_digs_5 : List UInt8 := [182, 1, 238, 46, 54, 6, 21, 6, 19, 1, 237, 159, 0, 55, 21, 6, 17, 39, 16, 42, 180, 0, 46]
abbrev dktX3_digs_5 : List UInt8 := dkwX3_digs_5 ++ dktX3_digs_6
def dkwX3_digs_4 : List UInt8 := [3, 54, 5, 21, 5, 42, 180, 0, 234, 162, 0, 85, 42, 180, 0, 116, 42, 29, 21, 4, 21, 5]
abbrev dktX3_digs_4 : List UInt8 := dkwX3_digs_4 ++ dktX3_digs_5
def dkwX3_digs_3 : List UInt8 := [153, 0, 133, 3, 61, 4, 62, 29, 27, 162, 0, 121, 3, 54, 4, 21, 4, 42, 180, 0, 231, 162, 0, 103]
abbrev dktX3_digs_3 : List UInt8 := dkwX3_digs_3 ++ dktX3_digs_4
def dkwX3_digs_2 : List UInt8 := [28, 28, 154, 0, 7, 3, 167, 0, 6, 19, 1, 237, 79, 132, 2, 1, 167, 255, 231, 4, 61, 28]
abbrev dktX3_digs_2 : List UInt8 := dkwX3_digs_2 ++ dktX3_digs_3
def dkwX3_digs_1 : List UInt8 := [162, 0, 13, 27, 8, 104, 60, 132, 2, 1, 167, 255, 241, 3, 61, 28, 27, 162, 0, 26, 42, 180, 0, 116]
abbrev dktX3_digs_1 : List UInt8 := dkwX3_digs_1 ++ dktX3_digs_2
def dkwX3_digs_0 : List UInt8 := [42, 180, 1, 16, 153, 0, 4, 177, 42, 4, 181, 1, 16, 4, 60, 3, 61, 28, 42, 180, 0, 234]
abbrev dktX3_digs_0 : List UInt8 := dkwX3_digs_0 ++ dktX3_digs_1
theorem dksX3_digs_0 : cX3_digs.data.toList.drop 0 = dktX3_digs_0 := by decide +kernel
theorem dksX3_digs_1 : cX3_digs.data.toList.drop 22 = dktX3_digs_1 := dk_seg dksX3_digs_0 22 rfl rfl
theorem dksX3_digs_2 : cX3_digs.data.toList.drop 46 = dktX3_digs_2 := dk_seg dksX3_digs_1 24 rfl rfl
theorem dksX3_digs_3 : cX3_digs.data.toList.drop 68 = dktX3_digs_3 := dk_seg dksX3_digs_2 22 rfl rfl
theorem dksX3_digs_4 : cX3_digs.data.toList.drop 92 = dktX3_digs_4 := dk_seg dksX3_digs_3 24 rfl rfl
theorem dksX3_digs_5 : cX3_digs.data.toList.drop 114 = dktX3_digs_5 := dk_seg dksX3_digs_4 22 rfl rfl
theorem dksX3_digs_6 : cX3_digs.data.toList.drop 137 = dktX3_digs_6 := dk_seg dksX3_digs_5 23 rfl rfl
theorem dksX3_digs_7 : cX3_digs.data.toList.drop 161 = dktX3_digs_7 := dk_seg dksX3_digs_6 24 rfl rfl
theorem dksX3_digs_8 : cX3_digs.data.toList.drop 183 = dktX3_digs_8 := dk_seg dksX3_digs_7 22 rfl rfl
theorem dX3_digs_0 : decode cX3_digs 0 = .ok (.aload_n 0, 1) := dk_42 (dk_at dksX3_digs_0 0 rfl rfl)
theorem dX3_digs_1 : decode cX3_digs 1 = .ok (.getfield 272, 3) := dk_180 1 16 (dk_at dksX3_digs_0 1 rfl rfl)
theorem dX3_digs_4 : decode cX3_digs 4 = .ok (.ifCond .eq 4, 3) := dk_153 0 4 (dk_at dksX3_digs_0 4 rfl rfl)
theorem dX3_digs_7 : decode cX3_digs 7 = .ok (.return_, 1) := dk_177 (dk_at dksX3_digs_0 7 rfl rfl)
theorem dX3_digs_8 : decode cX3_digs 8 = .ok (.aload_n 0, 1) := dk_42 (dk_at dksX3_digs_0 8 rfl rfl)
theorem dX3_digs_9 : decode cX3_digs 9 = .ok (.iconst 1, 1) := dk_4 (dk_at dksX3_digs_0 9 rfl rfl)
theorem dX3_digs_10 : decode cX3_digs 10 = .ok (.putfield 272, 3) := dk_181 1 16 (dk_at dksX3_digs_0 10 rfl rfl)
theorem dX3_digs_13 : decode cX3_digs 13 = .ok (.iconst 1, 1) := dk_4 (dk_at dksX3_digs_0 13 rfl rfl)
theorem dX3_digs_14 : decode cX3_digs 14 = .ok (.istore_n 1, 1) := dk_60 (dk_at dksX3_digs_0 14 rfl rfl)
theorem dX3_digs_15 : decode cX3_digs 15 = .ok (.iconst 0, 1) := dk_3 (dk_at dksX3_digs_0 15 rfl rfl)
theorem dX3_digs_16 : decode cX3_digs 16 = .ok (.istore_n 2, 1) := dk_61 (dk_at dksX3_digs_0 16 rfl rfl)
theorem dX3_digs_17 : decode cX3_digs 17 = .ok (.iload_n 2, 1) := dk_28 (dk_at dksX3_digs_0 17 rfl rfl)
theorem dX3_digs_18 : decode cX3_digs 18 = .ok (.aload_n 0, 1) := dk_42 (dk_at dksX3_digs_0 18 rfl rfl)
theorem dX3_digs_19 : decode cX3_digs 19 = .ok (.getfield 234, 3) := dk_180 0 234 (dk_at dksX3_digs_0 19 rfl rfl)
theorem dX3_digs_22 : decode cX3_digs 22 = .ok (.if_icmp .ge 13, 3) := dk_162 0 13 (dk_at dksX3_digs_1 0 rfl rfl)
theorem dX3_digs_25 : decode cX3_digs 25 = .ok (.iload_n 1, 1) := dk_27 (dk_at dksX3_digs_1 3 rfl rfl)
theorem dX3_digs_26 : decode cX3_digs 26 = .ok (.iconst 5, 1) := dk_8 (dk_at dksX3_digs_1 4 rfl rfl)
theorem dX3_digs_27 : decode cX3_digs 27 = .ok (.imul, 1) := dk_104 (dk_at dksX3_digs_1 5 rfl rfl)
theorem dX3_digs_28 : decode cX3_digs 28 = .ok (.istore_n 1, 1) := dk_60 (dk_at dksX3_digs_1 6 rfl rfl)
theorem dX3_digs_29 : decode cX3_digs 29 = .ok (.iinc 2 1, 3) := dk_132 2 1 (dk_at dksX3_digs_1 7 rfl rfl)
theorem dX3_digs_32 : decode cX3_digs 32 = .ok (.goto (-15), 3) := dk_167 255 241 (dk_at dksX3_digs_1 10 rfl rfl)
theorem dX3_digs_35 : decode cX3_digs 35 = .ok (.iconst 0, 1) := dk_3 (dk_at dksX3_digs_1 13 rfl rfl)
theorem dX3_digs_36 : decode cX3_digs 36 = .ok (.istore_n 2, 1) := dk_61 (dk_at dksX3_digs_1 14 rfl rfl)
theorem dX3_digs_37 : decode cX3_digs 37 = .ok (.iload_n 2, 1) := dk_28 (dk_at dksX3_digs_1 15 rfl rfl)
theorem dX3_digs_38 : decode cX3_digs 38 = .ok (.iload_n 1, 1) := dk_27 (dk_at dksX3_digs_1 16 rfl rfl)
theorem dX3_digs_39 : decode cX3_digs 39 = .ok (.if_icmp .ge 26, 3) := dk_162 0 26 (dk_at dksX3_digs_1 17 rfl rfl)
theorem dX3_digs_42 : decode cX3_digs 42 = .ok (.aload_n 0, 1) := dk_42 (dk_at dksX3_digs_1 20 rfl rfl)
theorem dX3_digs_43 : decode cX3_digs 43 = .ok (.getfield 116, 3) := dk_180 0 116 (dk_at dksX3_digs_1 21 rfl rfl)
theorem dX3_digs_46 : decode cX3_digs 46 = .ok (.iload_n 2, 1) := dk_28 (dk_at dksX3_digs_2 0 rfl rfl)
theorem dX3_digs_47 : decode cX3_digs 47 = .ok (.iload_n 2, 1) := dk_28 (dk_at dksX3_digs_2 1 rfl rfl)
theorem dX3_digs_48 : decode cX3_digs 48 = .ok (.ifCond .ne 7, 3) := dk_154 0 7 (dk_at dksX3_digs_2 2 rfl rfl)
theorem dX3_digs_51 : decode cX3_digs 51 = .ok (.iconst 0, 1) := dk_3 (dk_at dksX3_digs_2 5 rfl rfl)
theorem dX3_digs_52 : decode cX3_digs 52 = .ok (.goto 6, 3) := dk_167 0 6 (dk_at dksX3_digs_2 6 rfl rfl)
theorem dX3_digs_55 : decode cX3_digs 55 = .ok (.ldc_w 493, 3) := dk_19 1 237 (dk_at dksX3_digs_2 9 rfl rfl)
theorem dX3_digs_58 : decode cX3_digs 58 = .ok (.iastore, 1) := dk_79 (dk_at dksX3_digs_2 12 rfl rfl)
theorem dX3_digs_59 : decode cX3_digs 59 = .ok (.iinc 2 1, 3) := dk_132 2 1 (dk_at dksX3_digs_2 13 rfl rfl)
theorem dX3_digs_62 : decode cX3_digs 62 = .ok (.goto (-25), 3) := dk_167 255 231 (dk_at dksX3_digs_2 16 rfl rfl)
theorem dX3_digs_65 : decode cX3_digs 65 = .ok (.iconst 1, 1) := dk_4 (dk_at dksX3_digs_2 19 rfl rfl)
theorem dX3_digs_66 : decode cX3_digs 66 = .ok (.istore_n 2, 1) := dk_61 (dk_at dksX3_digs_2 20 rfl rfl)
theorem dX3_digs_67 : decode cX3_digs 67 = .ok (.iload_n 2, 1) := dk_28 (dk_at dksX3_digs_2 21 rfl rfl)
theorem dX3_digs_68 : decode cX3_digs 68 = .ok (.ifCond .eq 133, 3) := dk_153 0 133 (dk_at dksX3_digs_3 0 rfl rfl)
theorem dX3_digs_71 : decode cX3_digs 71 = .ok (.iconst 0, 1) := dk_3 (dk_at dksX3_digs_3 3 rfl rfl)
theorem dX3_digs_72 : decode cX3_digs 72 = .ok (.istore_n 2, 1) := dk_61 (dk_at dksX3_digs_3 4 rfl rfl)
theorem dX3_digs_73 : decode cX3_digs 73 = .ok (.iconst 1, 1) := dk_4 (dk_at dksX3_digs_3 5 rfl rfl)
theorem dX3_digs_74 : decode cX3_digs 74 = .ok (.istore_n 3, 1) := dk_62 (dk_at dksX3_digs_3 6 rfl rfl)
theorem dX3_digs_75 : decode cX3_digs 75 = .ok (.iload_n 3, 1) := dk_29 (dk_at dksX3_digs_3 7 rfl rfl)
theorem dX3_digs_76 : decode cX3_digs 76 = .ok (.iload_n 1, 1) := dk_27 (dk_at dksX3_digs_3 8 rfl rfl)
theorem dX3_digs_77 : decode cX3_digs 77 = .ok (.if_icmp .ge 121, 3) := dk_162 0 121 (dk_at dksX3_digs_3 9 rfl rfl)
theorem dX3_digs_80 : decode cX3_digs 80 = .ok (.iconst 0, 1) := dk_3 (dk_at dksX3_digs_3 12 rfl rfl)
theorem dX3_digs_81 : decode cX3_digs 81 = .ok (.istore 4, 2) := dk_54 4 (dk_at dksX3_digs_3 13 rfl rfl)
theorem dX3_digs_83 : decode cX3_digs 83 = .ok (.iload 4, 2) := dk_21 4 (dk_at dksX3_digs_3 15 rfl rfl)
theorem dX3_digs_85 : decode cX3_digs 85 = .ok (.aload_n 0, 1) := dk_42 (dk_at dksX3_digs_3 17 rfl rfl)
theorem dX3_digs_86 : decode cX3_digs 86 = .ok (.getfield 231, 3) := dk_180 0 231 (dk_at dksX3_digs_3 18 rfl rfl)
theorem dX3_digs_89 : decode cX3_digs 89 = .ok (.if_icmp .ge 103, 3) := dk_162 0 103 (dk_at dksX3_digs_3 21 rfl rfl)
theorem dX3_digs_92 : decode cX3_digs 92 = .ok (.iconst 0, 1) := dk_3 (dk_at dksX3_digs_4 0 rfl rfl)
theorem dX3_digs_93 : decode cX3_digs 93 = .ok (.istore 5, 2) := dk_54 5 (dk_at dksX3_digs_4 1 rfl rfl)
theorem dX3_digs_95 : decode cX3_digs 95 = .ok (.iload 5, 2) := dk_21 5 (dk_at dksX3_digs_4 3 rfl rfl)
theorem dX3_digs_97 : decode cX3_digs 97 = .ok (.aload_n 0, 1) := dk_42 (dk_at dksX3_digs_4 5 rfl rfl)
theorem dX3_digs_98 : decode cX3_digs 98 = .ok (.getfield 234, 3) := dk_180 0 234 (dk_at dksX3_digs_4 6 rfl rfl)
theorem dX3_digs_101 : decode cX3_digs 101 = .ok (.if_icmp .ge 85, 3) := dk_162 0 85 (dk_at dksX3_digs_4 9 rfl rfl)
theorem dX3_digs_104 : decode cX3_digs 104 = .ok (.aload_n 0, 1) := dk_42 (dk_at dksX3_digs_4 12 rfl rfl)
theorem dX3_digs_105 : decode cX3_digs 105 = .ok (.getfield 116, 3) := dk_180 0 116 (dk_at dksX3_digs_4 13 rfl rfl)
theorem dX3_digs_108 : decode cX3_digs 108 = .ok (.aload_n 0, 1) := dk_42 (dk_at dksX3_digs_4 16 rfl rfl)
theorem dX3_digs_109 : decode cX3_digs 109 = .ok (.iload_n 3, 1) := dk_29 (dk_at dksX3_digs_4 17 rfl rfl)
theorem dX3_digs_110 : decode cX3_digs 110 = .ok (.iload 4, 2) := dk_21 4 (dk_at dksX3_digs_4 18 rfl rfl)
theorem dX3_digs_112 : decode cX3_digs 112 = .ok (.iload 5, 2) := dk_21 5 (dk_at dksX3_digs_4 20 rfl rfl)
theorem dX3_digs_114 : decode cX3_digs 114 = .ok (.invokevirtual 494, 3) := dk_182 1 238 (dk_at dksX3_digs_5 0 rfl rfl)
theorem dX3_digs_117 : decode cX3_digs 117 = .ok (.iaload, 1) := dk_46 (dk_at dksX3_digs_5 3 rfl rfl)
theorem dX3_digs_118 : decode cX3_digs 118 = .ok (.istore 6, 2) := dk_54 6 (dk_at dksX3_digs_5 4 rfl rfl)
theorem dX3_digs_120 : decode cX3_digs 120 = .ok (.iload 6, 2) := dk_21 6 (dk_at dksX3_digs_5 6 rfl rfl)
theorem dX3_digs_122 : decode cX3_digs 122 = .ok (.ldc_w 493, 3) := dk_19 1 237 (dk_at dksX3_digs_5 8 rfl rfl)
theorem dX3_digs_125 : decode cX3_digs 125 = .ok (.if_icmp .eq 55, 3) := dk_159 0 55 (dk_at dksX3_digs_5 11 rfl rfl)
theorem dX3_digs_128 : decode cX3_digs 128 = .ok (.iload 6, 2) := dk_21 6 (dk_at dksX3_digs_5 14 rfl rfl)
theorem dX3_digs_130 : decode cX3_digs 130 = .ok (.sipush 10000, 3) := dk_17 39 16 (dk_at dksX3_digs_5 16 rfl rfl)
theorem dX3_digs_133 : decode cX3_digs 133 = .ok (.aload_n 0, 1) := dk_42 (dk_at dksX3_digs_5 19 rfl rfl)
theorem dX3_digs_134 : decode cX3_digs 134 = .ok (.getfield 46, 3) := dk_180 0 46 (dk_at dksX3_digs_5 20 rfl rfl)
theorem dX3_digs_137 : decode cX3_digs 137 = .ok (.iload 4, 2) := dk_21 4 (dk_at dksX3_digs_6 0 rfl rfl)
theorem dX3_digs_139 : decode cX3_digs 139 = .ok (.iaload, 1) := dk_46 (dk_at dksX3_digs_6 2 rfl rfl)
theorem dX3_digs_140 : decode cX3_digs 140 = .ok (.imul, 1) := dk_104 (dk_at dksX3_digs_6 3 rfl rfl)
theorem dX3_digs_141 : decode cX3_digs 141 = .ok (.iadd, 1) := dk_96 (dk_at dksX3_digs_6 4 rfl rfl)
theorem dX3_digs_142 : decode cX3_digs 142 = .ok (.iconst 1, 1) := dk_4 (dk_at dksX3_digs_6 5 rfl rfl)
theorem dX3_digs_143 : decode cX3_digs 143 = .ok (.iadd, 1) := dk_96 (dk_at dksX3_digs_6 6 rfl rfl)
theorem dX3_digs_144 : decode cX3_digs 144 = .ok (.aload_n 0, 1) := dk_42 (dk_at dksX3_digs_6 7 rfl rfl)
theorem dX3_digs_145 : decode cX3_digs 145 = .ok (.getfield 116, 3) := dk_180 0 116 (dk_at dksX3_digs_6 8 rfl rfl)
theorem dX3_digs_148 : decode cX3_digs 148 = .ok (.iload_n 3, 1) := dk_29 (dk_at dksX3_digs_6 11 rfl rfl)
theorem dX3_digs_149 : decode cX3_digs 149 = .ok (.iaload, 1) := dk_46 (dk_at dksX3_digs_6 12 rfl rfl)
theorem dX3_digs_150 : decode cX3_digs 150 = .ok (.if_icmp .lt 6, 3) := dk_161 0 6 (dk_at dksX3_digs_6 13 rfl rfl)
theorem dX3_digs_153 : decode cX3_digs 153 = .ok (.goto 27, 3) := dk_167 0 27 (dk_at dksX3_digs_6 16 rfl rfl)
theorem dX3_digs_156 : decode cX3_digs 156 = .ok (.aload_n 0, 1) := dk_42 (dk_at dksX3_digs_6 19 rfl rfl)
theorem dX3_digs_157 : decode cX3_digs 157 = .ok (.getfield 116, 3) := dk_180 0 116 (dk_at dksX3_digs_6 20 rfl rfl)
theorem dX3_digs_160 : decode cX3_digs 160 = .ok (.iload_n 3, 1) := dk_29 (dk_at dksX3_digs_6 23 rfl rfl)
theorem dX3_digs_161 : decode cX3_digs 161 = .ok (.iload 6, 2) := dk_21 6 (dk_at dksX3_digs_7 0 rfl rfl)
theorem dX3_digs_163 : decode cX3_digs 163 = .ok (.sipush 10000, 3) := dk_17 39 16 (dk_at dksX3_digs_7 2 rfl rfl)
theorem dX3_digs_166 : decode cX3_digs 166 = .ok (.aload_n 0, 1) := dk_42 (dk_at dksX3_digs_7 5 rfl rfl)
theorem dX3_digs_167 : decode cX3_digs 167 = .ok (.getfield 46, 3) := dk_180 0 46 (dk_at dksX3_digs_7 6 rfl rfl)
theorem dX3_digs_170 : decode cX3_digs 170 = .ok (.iload 4, 2) := dk_21 4 (dk_at dksX3_digs_7 9 rfl rfl)
theorem dX3_digs_172 : decode cX3_digs 172 = .ok (.iaload, 1) := dk_46 (dk_at dksX3_digs_7 11 rfl rfl)
theorem dX3_digs_173 : decode cX3_digs 173 = .ok (.imul, 1) := dk_104 (dk_at dksX3_digs_7 12 rfl rfl)
theorem dX3_digs_174 : decode cX3_digs 174 = .ok (.iadd, 1) := dk_96 (dk_at dksX3_digs_7 13 rfl rfl)
theorem dX3_digs_175 : decode cX3_digs 175 = .ok (.iconst 1, 1) := dk_4 (dk_at dksX3_digs_7 14 rfl rfl)
theorem dX3_digs_176 : decode cX3_digs 176 = .ok (.iadd, 1) := dk_96 (dk_at dksX3_digs_7 15 rfl rfl)
theorem dX3_digs_177 : decode cX3_digs 177 = .ok (.iastore, 1) := dk_79 (dk_at dksX3_digs_7 16 rfl rfl)
theorem dX3_digs_178 : decode cX3_digs 178 = .ok (.iconst 1, 1) := dk_4 (dk_at dksX3_digs_7 17 rfl rfl)
theorem dX3_digs_179 : decode cX3_digs 179 = .ok (.istore_n 2, 1) := dk_61 (dk_at dksX3_digs_7 18 rfl rfl)
theorem dX3_digs_180 : decode cX3_digs 180 = .ok (.iinc 5 1, 3) := dk_132 5 1 (dk_at dksX3_digs_7 19 rfl rfl)
theorem dX3_digs_183 : decode cX3_digs 183 = .ok (.goto (-88), 3) := dk_167 255 168 (dk_at dksX3_digs_8 0 rfl rfl)
theorem dX3_digs_186 : decode cX3_digs 186 = .ok (.iinc 4 1, 3) := dk_132 4 1 (dk_at dksX3_digs_8 3 rfl rfl)
theorem dX3_digs_189 : decode cX3_digs 189 = .ok (.goto (-106), 3) := dk_167 255 150 (dk_at dksX3_digs_8 6 rfl rfl)
theorem dX3_digs_192 : decode cX3_digs 192 = .ok (.iinc 3 1, 3) := dk_132 3 1 (dk_at dksX3_digs_8 9 rfl rfl)
theorem dX3_digs_195 : decode cX3_digs 195 = .ok (.goto (-120), 3) := dk_167 255 136 (dk_at dksX3_digs_8 12 rfl rfl)
theorem dX3_digs_198 : decode cX3_digs 198 = .ok (.goto (-131), 3) := dk_167 255 125 (dk_at dksX3_digs_8 15 rfl rfl)
theorem dX3_digs_201 : decode cX3_digs 201 = .ok (.return_, 1) := dk_177 (dk_at dksX3_digs_8 18 rfl rfl)
abbrev cX3_behind : ByteArray := prog_23_method_97_code
def yX3_behind : MethodName := ⟨RX3, "behind", "(III)I"⟩
def dkwX3_behind_4 : List UInt8 := [167, 255, 175, 21, 6, 172]
abbrev dktX3_behind_4 : List UInt8 := dkwX3_behind_4 ++ []
def dkwX3_behind_3 : List UInt8 := [167, 0, 5, 21, 8, 104, 96, 54, 6, 21, 4, 8, 108, 54, 4, 21, 5, 8, 104, 54, 5, 132, 7, 1]
abbrev dktX3_behind_3 : List UInt8 := dkwX3_behind_3 ++ dktX3_behind_4
def dkwX3_behind_2 : List UInt8 := [54, 8, 21, 6, 21, 5, 21, 8, 156, 0, 7, 3, 167, 0, 15, 21, 8, 7, 164, 0, 7, 7]
abbrev dktX3_behind_2 : List UInt8 := dkwX3_behind_2 ++ dktX3_behind_3
def dkwX3_behind_1 : List UInt8 := [112, 21, 7, 29, 160, 0, 12, 42, 180, 0, 43, 28, 46, 167, 0, 9, 42, 180, 0, 40, 28, 46, 96]
abbrev dktX3_behind_1 : List UInt8 := dkwX3_behind_1 ++ dktX3_behind_2
def dkwX3_behind_0 : List UInt8 := [27, 54, 4, 4, 54, 5, 3, 54, 6, 3, 54, 7, 21, 7, 42, 180, 0, 234, 162, 0, 78, 21, 4, 8]
abbrev dktX3_behind_0 : List UInt8 := dkwX3_behind_0 ++ dktX3_behind_1
theorem dksX3_behind_0 : cX3_behind.data.toList.drop 0 = dktX3_behind_0 := by decide +kernel
theorem dksX3_behind_1 : cX3_behind.data.toList.drop 24 = dktX3_behind_1 := dk_seg dksX3_behind_0 24 rfl rfl
theorem dksX3_behind_2 : cX3_behind.data.toList.drop 47 = dktX3_behind_2 := dk_seg dksX3_behind_1 23 rfl rfl
theorem dksX3_behind_3 : cX3_behind.data.toList.drop 69 = dktX3_behind_3 := dk_seg dksX3_behind_2 22 rfl rfl
theorem dksX3_behind_4 : cX3_behind.data.toList.drop 93 = dktX3_behind_4 := dk_seg dksX3_behind_3 24 rfl rfl
theorem dX3_behind_0 : decode cX3_behind 0 = .ok (.iload_n 1, 1) := dk_27 (dk_at dksX3_behind_0 0 rfl rfl)
theorem dX3_behind_1 : decode cX3_behind 1 = .ok (.istore 4, 2) := dk_54 4 (dk_at dksX3_behind_0 1 rfl rfl)
theorem dX3_behind_3 : decode cX3_behind 3 = .ok (.iconst 1, 1) := dk_4 (dk_at dksX3_behind_0 3 rfl rfl)
theorem dX3_behind_4 : decode cX3_behind 4 = .ok (.istore 5, 2) := dk_54 5 (dk_at dksX3_behind_0 4 rfl rfl)
theorem dX3_behind_6 : decode cX3_behind 6 = .ok (.iconst 0, 1) := dk_3 (dk_at dksX3_behind_0 6 rfl rfl)
theorem dX3_behind_7 : decode cX3_behind 7 = .ok (.istore 6, 2) := dk_54 6 (dk_at dksX3_behind_0 7 rfl rfl)
theorem dX3_behind_9 : decode cX3_behind 9 = .ok (.iconst 0, 1) := dk_3 (dk_at dksX3_behind_0 9 rfl rfl)
theorem dX3_behind_10 : decode cX3_behind 10 = .ok (.istore 7, 2) := dk_54 7 (dk_at dksX3_behind_0 10 rfl rfl)
theorem dX3_behind_12 : decode cX3_behind 12 = .ok (.iload 7, 2) := dk_21 7 (dk_at dksX3_behind_0 12 rfl rfl)
theorem dX3_behind_14 : decode cX3_behind 14 = .ok (.aload_n 0, 1) := dk_42 (dk_at dksX3_behind_0 14 rfl rfl)
theorem dX3_behind_15 : decode cX3_behind 15 = .ok (.getfield 234, 3) := dk_180 0 234 (dk_at dksX3_behind_0 15 rfl rfl)
theorem dX3_behind_18 : decode cX3_behind 18 = .ok (.if_icmp .ge 78, 3) := dk_162 0 78 (dk_at dksX3_behind_0 18 rfl rfl)
theorem dX3_behind_21 : decode cX3_behind 21 = .ok (.iload 4, 2) := dk_21 4 (dk_at dksX3_behind_0 21 rfl rfl)
theorem dX3_behind_23 : decode cX3_behind 23 = .ok (.iconst 5, 1) := dk_8 (dk_at dksX3_behind_0 23 rfl rfl)
theorem dX3_behind_24 : decode cX3_behind 24 = .ok (.irem, 1) := dk_112 (dk_at dksX3_behind_1 0 rfl rfl)
theorem dX3_behind_25 : decode cX3_behind 25 = .ok (.iload 7, 2) := dk_21 7 (dk_at dksX3_behind_1 1 rfl rfl)
theorem dX3_behind_27 : decode cX3_behind 27 = .ok (.iload_n 3, 1) := dk_29 (dk_at dksX3_behind_1 3 rfl rfl)
theorem dX3_behind_28 : decode cX3_behind 28 = .ok (.if_icmp .ne 12, 3) := dk_160 0 12 (dk_at dksX3_behind_1 4 rfl rfl)
theorem dX3_behind_31 : decode cX3_behind 31 = .ok (.aload_n 0, 1) := dk_42 (dk_at dksX3_behind_1 7 rfl rfl)
theorem dX3_behind_32 : decode cX3_behind 32 = .ok (.getfield 43, 3) := dk_180 0 43 (dk_at dksX3_behind_1 8 rfl rfl)
theorem dX3_behind_35 : decode cX3_behind 35 = .ok (.iload_n 2, 1) := dk_28 (dk_at dksX3_behind_1 11 rfl rfl)
theorem dX3_behind_36 : decode cX3_behind 36 = .ok (.iaload, 1) := dk_46 (dk_at dksX3_behind_1 12 rfl rfl)
theorem dX3_behind_37 : decode cX3_behind 37 = .ok (.goto 9, 3) := dk_167 0 9 (dk_at dksX3_behind_1 13 rfl rfl)
theorem dX3_behind_40 : decode cX3_behind 40 = .ok (.aload_n 0, 1) := dk_42 (dk_at dksX3_behind_1 16 rfl rfl)
theorem dX3_behind_41 : decode cX3_behind 41 = .ok (.getfield 40, 3) := dk_180 0 40 (dk_at dksX3_behind_1 17 rfl rfl)
theorem dX3_behind_44 : decode cX3_behind 44 = .ok (.iload_n 2, 1) := dk_28 (dk_at dksX3_behind_1 20 rfl rfl)
theorem dX3_behind_45 : decode cX3_behind 45 = .ok (.iaload, 1) := dk_46 (dk_at dksX3_behind_1 21 rfl rfl)
theorem dX3_behind_46 : decode cX3_behind 46 = .ok (.iadd, 1) := dk_96 (dk_at dksX3_behind_1 22 rfl rfl)
theorem dX3_behind_47 : decode cX3_behind 47 = .ok (.istore 8, 2) := dk_54 8 (dk_at dksX3_behind_2 0 rfl rfl)
theorem dX3_behind_49 : decode cX3_behind 49 = .ok (.iload 6, 2) := dk_21 6 (dk_at dksX3_behind_2 2 rfl rfl)
theorem dX3_behind_51 : decode cX3_behind 51 = .ok (.iload 5, 2) := dk_21 5 (dk_at dksX3_behind_2 4 rfl rfl)
theorem dX3_behind_53 : decode cX3_behind 53 = .ok (.iload 8, 2) := dk_21 8 (dk_at dksX3_behind_2 6 rfl rfl)
theorem dX3_behind_55 : decode cX3_behind 55 = .ok (.ifCond .ge 7, 3) := dk_156 0 7 (dk_at dksX3_behind_2 8 rfl rfl)
theorem dX3_behind_58 : decode cX3_behind 58 = .ok (.iconst 0, 1) := dk_3 (dk_at dksX3_behind_2 11 rfl rfl)
theorem dX3_behind_59 : decode cX3_behind 59 = .ok (.goto 15, 3) := dk_167 0 15 (dk_at dksX3_behind_2 12 rfl rfl)
theorem dX3_behind_62 : decode cX3_behind 62 = .ok (.iload 8, 2) := dk_21 8 (dk_at dksX3_behind_2 15 rfl rfl)
theorem dX3_behind_64 : decode cX3_behind 64 = .ok (.iconst 4, 1) := dk_7 (dk_at dksX3_behind_2 17 rfl rfl)
theorem dX3_behind_65 : decode cX3_behind 65 = .ok (.if_icmp .le 7, 3) := dk_164 0 7 (dk_at dksX3_behind_2 18 rfl rfl)
theorem dX3_behind_68 : decode cX3_behind 68 = .ok (.iconst 4, 1) := dk_7 (dk_at dksX3_behind_2 21 rfl rfl)
theorem dX3_behind_69 : decode cX3_behind 69 = .ok (.goto 5, 3) := dk_167 0 5 (dk_at dksX3_behind_3 0 rfl rfl)
theorem dX3_behind_72 : decode cX3_behind 72 = .ok (.iload 8, 2) := dk_21 8 (dk_at dksX3_behind_3 3 rfl rfl)
theorem dX3_behind_74 : decode cX3_behind 74 = .ok (.imul, 1) := dk_104 (dk_at dksX3_behind_3 5 rfl rfl)
theorem dX3_behind_75 : decode cX3_behind 75 = .ok (.iadd, 1) := dk_96 (dk_at dksX3_behind_3 6 rfl rfl)
theorem dX3_behind_76 : decode cX3_behind 76 = .ok (.istore 6, 2) := dk_54 6 (dk_at dksX3_behind_3 7 rfl rfl)
theorem dX3_behind_78 : decode cX3_behind 78 = .ok (.iload 4, 2) := dk_21 4 (dk_at dksX3_behind_3 9 rfl rfl)
theorem dX3_behind_80 : decode cX3_behind 80 = .ok (.iconst 5, 1) := dk_8 (dk_at dksX3_behind_3 11 rfl rfl)
theorem dX3_behind_81 : decode cX3_behind 81 = .ok (.idiv, 1) := dk_108 (dk_at dksX3_behind_3 12 rfl rfl)
theorem dX3_behind_82 : decode cX3_behind 82 = .ok (.istore 4, 2) := dk_54 4 (dk_at dksX3_behind_3 13 rfl rfl)
theorem dX3_behind_84 : decode cX3_behind 84 = .ok (.iload 5, 2) := dk_21 5 (dk_at dksX3_behind_3 15 rfl rfl)
theorem dX3_behind_86 : decode cX3_behind 86 = .ok (.iconst 5, 1) := dk_8 (dk_at dksX3_behind_3 17 rfl rfl)
theorem dX3_behind_87 : decode cX3_behind 87 = .ok (.imul, 1) := dk_104 (dk_at dksX3_behind_3 18 rfl rfl)
theorem dX3_behind_88 : decode cX3_behind 88 = .ok (.istore 5, 2) := dk_54 5 (dk_at dksX3_behind_3 19 rfl rfl)
theorem dX3_behind_90 : decode cX3_behind 90 = .ok (.iinc 7 1, 3) := dk_132 7 1 (dk_at dksX3_behind_3 21 rfl rfl)
theorem dX3_behind_93 : decode cX3_behind 93 = .ok (.goto (-81), 3) := dk_167 255 175 (dk_at dksX3_behind_4 0 rfl rfl)
theorem dX3_behind_96 : decode cX3_behind 96 = .ok (.iload 6, 2) := dk_21 6 (dk_at dksX3_behind_4 3 rfl rfl)
theorem dX3_behind_98 : decode cX3_behind 98 = .ok (.ireturn, 1) := dk_172 (dk_at dksX3_behind_4 5 rfl rfl)
abbrev cX3_digState : ByteArray := prog_23_method_96_code
def yX3_digState : MethodName := ⟨RX3, "digState", "()I"⟩
def dkwX3_digState_1 : List UInt8 := [132, 2, 255, 167, 255, 238, 27, 172]
abbrev dktX3_digState_1 : List UInt8 := dkwX3_digState_1 ++ []
def dkwX3_digState_0 : List UInt8 := [3, 60, 42, 180, 0, 234, 4, 100, 61, 28, 155, 0, 20, 8, 27, 104, 42, 180, 0, 70, 28, 46, 96, 60]
abbrev dktX3_digState_0 : List UInt8 := dkwX3_digState_0 ++ dktX3_digState_1
theorem dksX3_digState_0 : cX3_digState.data.toList.drop 0 = dktX3_digState_0 := by decide +kernel
theorem dksX3_digState_1 : cX3_digState.data.toList.drop 24 = dktX3_digState_1 := dk_seg dksX3_digState_0 24 rfl rfl
theorem dX3_digState_0 : decode cX3_digState 0 = .ok (.iconst 0, 1) := dk_3 (dk_at dksX3_digState_0 0 rfl rfl)
theorem dX3_digState_1 : decode cX3_digState 1 = .ok (.istore_n 1, 1) := dk_60 (dk_at dksX3_digState_0 1 rfl rfl)
theorem dX3_digState_2 : decode cX3_digState 2 = .ok (.aload_n 0, 1) := dk_42 (dk_at dksX3_digState_0 2 rfl rfl)
theorem dX3_digState_3 : decode cX3_digState 3 = .ok (.getfield 234, 3) := dk_180 0 234 (dk_at dksX3_digState_0 3 rfl rfl)
theorem dX3_digState_6 : decode cX3_digState 6 = .ok (.iconst 1, 1) := dk_4 (dk_at dksX3_digState_0 6 rfl rfl)
theorem dX3_digState_7 : decode cX3_digState 7 = .ok (.isub, 1) := dk_100 (dk_at dksX3_digState_0 7 rfl rfl)
theorem dX3_digState_8 : decode cX3_digState 8 = .ok (.istore_n 2, 1) := dk_61 (dk_at dksX3_digState_0 8 rfl rfl)
theorem dX3_digState_9 : decode cX3_digState 9 = .ok (.iload_n 2, 1) := dk_28 (dk_at dksX3_digState_0 9 rfl rfl)
theorem dX3_digState_10 : decode cX3_digState 10 = .ok (.ifCond .lt 20, 3) := dk_155 0 20 (dk_at dksX3_digState_0 10 rfl rfl)
theorem dX3_digState_13 : decode cX3_digState 13 = .ok (.iconst 5, 1) := dk_8 (dk_at dksX3_digState_0 13 rfl rfl)
theorem dX3_digState_14 : decode cX3_digState 14 = .ok (.iload_n 1, 1) := dk_27 (dk_at dksX3_digState_0 14 rfl rfl)
theorem dX3_digState_15 : decode cX3_digState 15 = .ok (.imul, 1) := dk_104 (dk_at dksX3_digState_0 15 rfl rfl)
theorem dX3_digState_16 : decode cX3_digState 16 = .ok (.aload_n 0, 1) := dk_42 (dk_at dksX3_digState_0 16 rfl rfl)
theorem dX3_digState_17 : decode cX3_digState 17 = .ok (.getfield 70, 3) := dk_180 0 70 (dk_at dksX3_digState_0 17 rfl rfl)
theorem dX3_digState_20 : decode cX3_digState 20 = .ok (.iload_n 2, 1) := dk_28 (dk_at dksX3_digState_0 20 rfl rfl)
theorem dX3_digState_21 : decode cX3_digState 21 = .ok (.iaload, 1) := dk_46 (dk_at dksX3_digState_0 21 rfl rfl)
theorem dX3_digState_22 : decode cX3_digState 22 = .ok (.iadd, 1) := dk_96 (dk_at dksX3_digState_0 22 rfl rfl)
theorem dX3_digState_23 : decode cX3_digState 23 = .ok (.istore_n 1, 1) := dk_60 (dk_at dksX3_digState_0 23 rfl rfl)
theorem dX3_digState_24 : decode cX3_digState 24 = .ok (.iinc 2 (-1), 3) := dk_132 2 255 (dk_at dksX3_digState_1 0 rfl rfl)
theorem dX3_digState_27 : decode cX3_digState 27 = .ok (.goto (-18), 3) := dk_167 255 238 (dk_at dksX3_digState_1 3 rfl rfl)
theorem dX3_digState_30 : decode cX3_digState 30 = .ok (.iload_n 1, 1) := dk_27 (dk_at dksX3_digState_1 6 rfl rfl)
theorem dX3_digState_31 : decode cX3_digState 31 = .ok (.ireturn, 1) := dk_172 (dk_at dksX3_digState_1 7 rfl rfl)
abbrev cX3_tryAt : ByteArray := prog_23_method_100_code
def yX3_tryAt : MethodName := ⟨RX3, "tryAt", "(I)I"⟩
def dkwX3_tryAt_8 : List UInt8 := [132, 3, 1, 167, 255, 117, 16, 254, 172]
abbrev dktX3_tryAt_8 : List UInt8 := dkwX3_tryAt_8 ++ []
def dkwX3_tryAt_7 : List UInt8 := [160, 0, 6, 21, 4, 172, 42, 28, 21, 4, 16, 10, 108, 21, 4, 16, 10, 112, 182, 1, 238, 61]
abbrev dktX3_tryAt_7 : List UInt8 := dkwX3_tryAt_7 ++ dktX3_tryAt_8
def dkwX3_tryAt_6 : List UInt8 := [16, 10, 21, 5, 104, 21, 6, 96, 54, 4, 132, 6, 1, 167, 255, 180, 132, 5, 1, 167, 255, 157, 29, 27]
abbrev dktX3_tryAt_6 : List UInt8 := dkwX3_tryAt_6 ++ dktX3_tryAt_7
def dkwX3_tryAt_5 : List UInt8 := [17, 39, 16, 42, 180, 0, 46, 21, 5, 46, 104, 96, 4, 96, 42, 180, 0, 116, 28, 46, 160, 0, 13]
abbrev dktX3_tryAt_5 : List UInt8 := dkwX3_tryAt_5 ++ dktX3_tryAt_6
def dkwX3_tryAt_4 : List UInt8 := [42, 28, 21, 5, 21, 6, 182, 1, 238, 46, 54, 7, 21, 7, 19, 1, 237, 162, 0, 38, 21, 7]
abbrev dktX3_tryAt_4 : List UInt8 := dkwX3_tryAt_4 ++ dktX3_tryAt_5
def dkwX3_tryAt_3 : List UInt8 := [156, 0, 91, 3, 54, 6, 21, 6, 42, 180, 0, 234, 162, 0, 73, 21, 4, 156, 0, 68, 42, 180, 0, 116]
abbrev dktX3_tryAt_3 : List UInt8 := dkwX3_tryAt_3 ++ dktX3_tryAt_4
def dkwX3_tryAt_2 : List UInt8 := [62, 28, 158, 0, 141, 2, 54, 4, 3, 54, 5, 21, 5, 42, 180, 0, 231, 162, 0, 96, 21, 4]
abbrev dktX3_tryAt_2 : List UInt8 := dkwX3_tryAt_2 ++ dktX3_tryAt_3
def dkwX3_tryAt_1 : List UInt8 := [182, 1, 241, 42, 182, 1, 244, 61, 42, 180, 0, 116, 28, 46, 19, 1, 237, 160, 0, 6, 16, 254, 172, 3]
abbrev dktX3_tryAt_1 : List UInt8 := dkwX3_tryAt_1 ++ dktX3_tryAt_2
def dkwX3_tryAt_0 : List UInt8 := [42, 182, 0, 249, 42, 180, 1, 13, 153, 0, 7, 27, 156, 0, 9, 42, 4, 182, 0, 252, 172, 42]
abbrev dktX3_tryAt_0 : List UInt8 := dkwX3_tryAt_0 ++ dktX3_tryAt_1
theorem dksX3_tryAt_0 : cX3_tryAt.data.toList.drop 0 = dktX3_tryAt_0 := by decide +kernel
theorem dksX3_tryAt_1 : cX3_tryAt.data.toList.drop 22 = dktX3_tryAt_1 := dk_seg dksX3_tryAt_0 22 rfl rfl
theorem dksX3_tryAt_2 : cX3_tryAt.data.toList.drop 46 = dktX3_tryAt_2 := dk_seg dksX3_tryAt_1 24 rfl rfl
theorem dksX3_tryAt_3 : cX3_tryAt.data.toList.drop 68 = dktX3_tryAt_3 := dk_seg dksX3_tryAt_2 22 rfl rfl
theorem dksX3_tryAt_4 : cX3_tryAt.data.toList.drop 92 = dktX3_tryAt_4 := dk_seg dksX3_tryAt_3 24 rfl rfl
theorem dksX3_tryAt_5 : cX3_tryAt.data.toList.drop 114 = dktX3_tryAt_5 := dk_seg dksX3_tryAt_4 22 rfl rfl
theorem dksX3_tryAt_6 : cX3_tryAt.data.toList.drop 137 = dktX3_tryAt_6 := dk_seg dksX3_tryAt_5 23 rfl rfl
theorem dksX3_tryAt_7 : cX3_tryAt.data.toList.drop 161 = dktX3_tryAt_7 := dk_seg dksX3_tryAt_6 24 rfl rfl
theorem dksX3_tryAt_8 : cX3_tryAt.data.toList.drop 183 = dktX3_tryAt_8 := dk_seg dksX3_tryAt_7 22 rfl rfl
theorem dX3_tryAt_0 : decode cX3_tryAt 0 = .ok (.aload_n 0, 1) := dk_42 (dk_at dksX3_tryAt_0 0 rfl rfl)
theorem dX3_tryAt_1 : decode cX3_tryAt 1 = .ok (.invokevirtual 249, 3) := dk_182 0 249 (dk_at dksX3_tryAt_0 1 rfl rfl)
theorem dX3_tryAt_4 : decode cX3_tryAt 4 = .ok (.aload_n 0, 1) := dk_42 (dk_at dksX3_tryAt_0 4 rfl rfl)
theorem dX3_tryAt_5 : decode cX3_tryAt 5 = .ok (.getfield 269, 3) := dk_180 1 13 (dk_at dksX3_tryAt_0 5 rfl rfl)
theorem dX3_tryAt_8 : decode cX3_tryAt 8 = .ok (.ifCond .eq 7, 3) := dk_153 0 7 (dk_at dksX3_tryAt_0 8 rfl rfl)
theorem dX3_tryAt_11 : decode cX3_tryAt 11 = .ok (.iload_n 1, 1) := dk_27 (dk_at dksX3_tryAt_0 11 rfl rfl)
theorem dX3_tryAt_12 : decode cX3_tryAt 12 = .ok (.ifCond .ge 9, 3) := dk_156 0 9 (dk_at dksX3_tryAt_0 12 rfl rfl)
theorem dX3_tryAt_15 : decode cX3_tryAt 15 = .ok (.aload_n 0, 1) := dk_42 (dk_at dksX3_tryAt_0 15 rfl rfl)
theorem dX3_tryAt_16 : decode cX3_tryAt 16 = .ok (.iconst 1, 1) := dk_4 (dk_at dksX3_tryAt_0 16 rfl rfl)
theorem dX3_tryAt_17 : decode cX3_tryAt 17 = .ok (.invokevirtual 252, 3) := dk_182 0 252 (dk_at dksX3_tryAt_0 17 rfl rfl)
theorem dX3_tryAt_20 : decode cX3_tryAt 20 = .ok (.ireturn, 1) := dk_172 (dk_at dksX3_tryAt_0 20 rfl rfl)
theorem dX3_tryAt_21 : decode cX3_tryAt 21 = .ok (.aload_n 0, 1) := dk_42 (dk_at dksX3_tryAt_0 21 rfl rfl)
theorem dX3_tryAt_22 : decode cX3_tryAt 22 = .ok (.invokevirtual 497, 3) := dk_182 1 241 (dk_at dksX3_tryAt_1 0 rfl rfl)
theorem dX3_tryAt_25 : decode cX3_tryAt 25 = .ok (.aload_n 0, 1) := dk_42 (dk_at dksX3_tryAt_1 3 rfl rfl)
theorem dX3_tryAt_26 : decode cX3_tryAt 26 = .ok (.invokevirtual 500, 3) := dk_182 1 244 (dk_at dksX3_tryAt_1 4 rfl rfl)
theorem dX3_tryAt_29 : decode cX3_tryAt 29 = .ok (.istore_n 2, 1) := dk_61 (dk_at dksX3_tryAt_1 7 rfl rfl)
theorem dX3_tryAt_30 : decode cX3_tryAt 30 = .ok (.aload_n 0, 1) := dk_42 (dk_at dksX3_tryAt_1 8 rfl rfl)
theorem dX3_tryAt_31 : decode cX3_tryAt 31 = .ok (.getfield 116, 3) := dk_180 0 116 (dk_at dksX3_tryAt_1 9 rfl rfl)
theorem dX3_tryAt_34 : decode cX3_tryAt 34 = .ok (.iload_n 2, 1) := dk_28 (dk_at dksX3_tryAt_1 12 rfl rfl)
theorem dX3_tryAt_35 : decode cX3_tryAt 35 = .ok (.iaload, 1) := dk_46 (dk_at dksX3_tryAt_1 13 rfl rfl)
theorem dX3_tryAt_36 : decode cX3_tryAt 36 = .ok (.ldc_w 493, 3) := dk_19 1 237 (dk_at dksX3_tryAt_1 14 rfl rfl)
theorem dX3_tryAt_39 : decode cX3_tryAt 39 = .ok (.if_icmp .ne 6, 3) := dk_160 0 6 (dk_at dksX3_tryAt_1 17 rfl rfl)
theorem dX3_tryAt_42 : decode cX3_tryAt 42 = .ok (.bipush (-2), 2) := dk_16 254 (dk_at dksX3_tryAt_1 20 rfl rfl)
theorem dX3_tryAt_44 : decode cX3_tryAt 44 = .ok (.ireturn, 1) := dk_172 (dk_at dksX3_tryAt_1 22 rfl rfl)
theorem dX3_tryAt_45 : decode cX3_tryAt 45 = .ok (.iconst 0, 1) := dk_3 (dk_at dksX3_tryAt_1 23 rfl rfl)
theorem dX3_tryAt_46 : decode cX3_tryAt 46 = .ok (.istore_n 3, 1) := dk_62 (dk_at dksX3_tryAt_2 0 rfl rfl)
theorem dX3_tryAt_47 : decode cX3_tryAt 47 = .ok (.iload_n 2, 1) := dk_28 (dk_at dksX3_tryAt_2 1 rfl rfl)
theorem dX3_tryAt_48 : decode cX3_tryAt 48 = .ok (.ifCond .le 141, 3) := dk_158 0 141 (dk_at dksX3_tryAt_2 2 rfl rfl)
theorem dX3_tryAt_51 : decode cX3_tryAt 51 = .ok (.iconst (-1), 1) := dk_2 (dk_at dksX3_tryAt_2 5 rfl rfl)
theorem dX3_tryAt_52 : decode cX3_tryAt 52 = .ok (.istore 4, 2) := dk_54 4 (dk_at dksX3_tryAt_2 6 rfl rfl)
theorem dX3_tryAt_54 : decode cX3_tryAt 54 = .ok (.iconst 0, 1) := dk_3 (dk_at dksX3_tryAt_2 8 rfl rfl)
theorem dX3_tryAt_55 : decode cX3_tryAt 55 = .ok (.istore 5, 2) := dk_54 5 (dk_at dksX3_tryAt_2 9 rfl rfl)
theorem dX3_tryAt_57 : decode cX3_tryAt 57 = .ok (.iload 5, 2) := dk_21 5 (dk_at dksX3_tryAt_2 11 rfl rfl)
theorem dX3_tryAt_59 : decode cX3_tryAt 59 = .ok (.aload_n 0, 1) := dk_42 (dk_at dksX3_tryAt_2 13 rfl rfl)
theorem dX3_tryAt_60 : decode cX3_tryAt 60 = .ok (.getfield 231, 3) := dk_180 0 231 (dk_at dksX3_tryAt_2 14 rfl rfl)
theorem dX3_tryAt_63 : decode cX3_tryAt 63 = .ok (.if_icmp .ge 96, 3) := dk_162 0 96 (dk_at dksX3_tryAt_2 17 rfl rfl)
theorem dX3_tryAt_66 : decode cX3_tryAt 66 = .ok (.iload 4, 2) := dk_21 4 (dk_at dksX3_tryAt_2 20 rfl rfl)
theorem dX3_tryAt_68 : decode cX3_tryAt 68 = .ok (.ifCond .ge 91, 3) := dk_156 0 91 (dk_at dksX3_tryAt_3 0 rfl rfl)
theorem dX3_tryAt_71 : decode cX3_tryAt 71 = .ok (.iconst 0, 1) := dk_3 (dk_at dksX3_tryAt_3 3 rfl rfl)
theorem dX3_tryAt_72 : decode cX3_tryAt 72 = .ok (.istore 6, 2) := dk_54 6 (dk_at dksX3_tryAt_3 4 rfl rfl)
theorem dX3_tryAt_74 : decode cX3_tryAt 74 = .ok (.iload 6, 2) := dk_21 6 (dk_at dksX3_tryAt_3 6 rfl rfl)
theorem dX3_tryAt_76 : decode cX3_tryAt 76 = .ok (.aload_n 0, 1) := dk_42 (dk_at dksX3_tryAt_3 8 rfl rfl)
theorem dX3_tryAt_77 : decode cX3_tryAt 77 = .ok (.getfield 234, 3) := dk_180 0 234 (dk_at dksX3_tryAt_3 9 rfl rfl)
theorem dX3_tryAt_80 : decode cX3_tryAt 80 = .ok (.if_icmp .ge 73, 3) := dk_162 0 73 (dk_at dksX3_tryAt_3 12 rfl rfl)
theorem dX3_tryAt_83 : decode cX3_tryAt 83 = .ok (.iload 4, 2) := dk_21 4 (dk_at dksX3_tryAt_3 15 rfl rfl)
theorem dX3_tryAt_85 : decode cX3_tryAt 85 = .ok (.ifCond .ge 68, 3) := dk_156 0 68 (dk_at dksX3_tryAt_3 17 rfl rfl)
theorem dX3_tryAt_88 : decode cX3_tryAt 88 = .ok (.aload_n 0, 1) := dk_42 (dk_at dksX3_tryAt_3 20 rfl rfl)
theorem dX3_tryAt_89 : decode cX3_tryAt 89 = .ok (.getfield 116, 3) := dk_180 0 116 (dk_at dksX3_tryAt_3 21 rfl rfl)
theorem dX3_tryAt_92 : decode cX3_tryAt 92 = .ok (.aload_n 0, 1) := dk_42 (dk_at dksX3_tryAt_4 0 rfl rfl)
theorem dX3_tryAt_93 : decode cX3_tryAt 93 = .ok (.iload_n 2, 1) := dk_28 (dk_at dksX3_tryAt_4 1 rfl rfl)
theorem dX3_tryAt_94 : decode cX3_tryAt 94 = .ok (.iload 5, 2) := dk_21 5 (dk_at dksX3_tryAt_4 2 rfl rfl)
theorem dX3_tryAt_96 : decode cX3_tryAt 96 = .ok (.iload 6, 2) := dk_21 6 (dk_at dksX3_tryAt_4 4 rfl rfl)
theorem dX3_tryAt_98 : decode cX3_tryAt 98 = .ok (.invokevirtual 494, 3) := dk_182 1 238 (dk_at dksX3_tryAt_4 6 rfl rfl)
theorem dX3_tryAt_101 : decode cX3_tryAt 101 = .ok (.iaload, 1) := dk_46 (dk_at dksX3_tryAt_4 9 rfl rfl)
theorem dX3_tryAt_102 : decode cX3_tryAt 102 = .ok (.istore 7, 2) := dk_54 7 (dk_at dksX3_tryAt_4 10 rfl rfl)
theorem dX3_tryAt_104 : decode cX3_tryAt 104 = .ok (.iload 7, 2) := dk_21 7 (dk_at dksX3_tryAt_4 12 rfl rfl)
theorem dX3_tryAt_106 : decode cX3_tryAt 106 = .ok (.ldc_w 493, 3) := dk_19 1 237 (dk_at dksX3_tryAt_4 14 rfl rfl)
theorem dX3_tryAt_109 : decode cX3_tryAt 109 = .ok (.if_icmp .ge 38, 3) := dk_162 0 38 (dk_at dksX3_tryAt_4 17 rfl rfl)
theorem dX3_tryAt_112 : decode cX3_tryAt 112 = .ok (.iload 7, 2) := dk_21 7 (dk_at dksX3_tryAt_4 20 rfl rfl)
theorem dX3_tryAt_114 : decode cX3_tryAt 114 = .ok (.sipush 10000, 3) := dk_17 39 16 (dk_at dksX3_tryAt_5 0 rfl rfl)
theorem dX3_tryAt_117 : decode cX3_tryAt 117 = .ok (.aload_n 0, 1) := dk_42 (dk_at dksX3_tryAt_5 3 rfl rfl)
theorem dX3_tryAt_118 : decode cX3_tryAt 118 = .ok (.getfield 46, 3) := dk_180 0 46 (dk_at dksX3_tryAt_5 4 rfl rfl)
theorem dX3_tryAt_121 : decode cX3_tryAt 121 = .ok (.iload 5, 2) := dk_21 5 (dk_at dksX3_tryAt_5 7 rfl rfl)
theorem dX3_tryAt_123 : decode cX3_tryAt 123 = .ok (.iaload, 1) := dk_46 (dk_at dksX3_tryAt_5 9 rfl rfl)
theorem dX3_tryAt_124 : decode cX3_tryAt 124 = .ok (.imul, 1) := dk_104 (dk_at dksX3_tryAt_5 10 rfl rfl)
theorem dX3_tryAt_125 : decode cX3_tryAt 125 = .ok (.iadd, 1) := dk_96 (dk_at dksX3_tryAt_5 11 rfl rfl)
theorem dX3_tryAt_126 : decode cX3_tryAt 126 = .ok (.iconst 1, 1) := dk_4 (dk_at dksX3_tryAt_5 12 rfl rfl)
theorem dX3_tryAt_127 : decode cX3_tryAt 127 = .ok (.iadd, 1) := dk_96 (dk_at dksX3_tryAt_5 13 rfl rfl)
theorem dX3_tryAt_128 : decode cX3_tryAt 128 = .ok (.aload_n 0, 1) := dk_42 (dk_at dksX3_tryAt_5 14 rfl rfl)
theorem dX3_tryAt_129 : decode cX3_tryAt 129 = .ok (.getfield 116, 3) := dk_180 0 116 (dk_at dksX3_tryAt_5 15 rfl rfl)
theorem dX3_tryAt_132 : decode cX3_tryAt 132 = .ok (.iload_n 2, 1) := dk_28 (dk_at dksX3_tryAt_5 18 rfl rfl)
theorem dX3_tryAt_133 : decode cX3_tryAt 133 = .ok (.iaload, 1) := dk_46 (dk_at dksX3_tryAt_5 19 rfl rfl)
theorem dX3_tryAt_134 : decode cX3_tryAt 134 = .ok (.if_icmp .ne 13, 3) := dk_160 0 13 (dk_at dksX3_tryAt_5 20 rfl rfl)
theorem dX3_tryAt_137 : decode cX3_tryAt 137 = .ok (.bipush 10, 2) := dk_16 10 (dk_at dksX3_tryAt_6 0 rfl rfl)
theorem dX3_tryAt_139 : decode cX3_tryAt 139 = .ok (.iload 5, 2) := dk_21 5 (dk_at dksX3_tryAt_6 2 rfl rfl)
theorem dX3_tryAt_141 : decode cX3_tryAt 141 = .ok (.imul, 1) := dk_104 (dk_at dksX3_tryAt_6 4 rfl rfl)
theorem dX3_tryAt_142 : decode cX3_tryAt 142 = .ok (.iload 6, 2) := dk_21 6 (dk_at dksX3_tryAt_6 5 rfl rfl)
theorem dX3_tryAt_144 : decode cX3_tryAt 144 = .ok (.iadd, 1) := dk_96 (dk_at dksX3_tryAt_6 7 rfl rfl)
theorem dX3_tryAt_145 : decode cX3_tryAt 145 = .ok (.istore 4, 2) := dk_54 4 (dk_at dksX3_tryAt_6 8 rfl rfl)
theorem dX3_tryAt_147 : decode cX3_tryAt 147 = .ok (.iinc 6 1, 3) := dk_132 6 1 (dk_at dksX3_tryAt_6 10 rfl rfl)
theorem dX3_tryAt_150 : decode cX3_tryAt 150 = .ok (.goto (-76), 3) := dk_167 255 180 (dk_at dksX3_tryAt_6 13 rfl rfl)
theorem dX3_tryAt_153 : decode cX3_tryAt 153 = .ok (.iinc 5 1, 3) := dk_132 5 1 (dk_at dksX3_tryAt_6 16 rfl rfl)
theorem dX3_tryAt_156 : decode cX3_tryAt 156 = .ok (.goto (-99), 3) := dk_167 255 157 (dk_at dksX3_tryAt_6 19 rfl rfl)
theorem dX3_tryAt_159 : decode cX3_tryAt 159 = .ok (.iload_n 3, 1) := dk_29 (dk_at dksX3_tryAt_6 22 rfl rfl)
theorem dX3_tryAt_160 : decode cX3_tryAt 160 = .ok (.iload_n 1, 1) := dk_27 (dk_at dksX3_tryAt_6 23 rfl rfl)
theorem dX3_tryAt_161 : decode cX3_tryAt 161 = .ok (.if_icmp .ne 6, 3) := dk_160 0 6 (dk_at dksX3_tryAt_7 0 rfl rfl)
theorem dX3_tryAt_164 : decode cX3_tryAt 164 = .ok (.iload 4, 2) := dk_21 4 (dk_at dksX3_tryAt_7 3 rfl rfl)
theorem dX3_tryAt_166 : decode cX3_tryAt 166 = .ok (.ireturn, 1) := dk_172 (dk_at dksX3_tryAt_7 5 rfl rfl)
theorem dX3_tryAt_167 : decode cX3_tryAt 167 = .ok (.aload_n 0, 1) := dk_42 (dk_at dksX3_tryAt_7 6 rfl rfl)
theorem dX3_tryAt_168 : decode cX3_tryAt 168 = .ok (.iload_n 2, 1) := dk_28 (dk_at dksX3_tryAt_7 7 rfl rfl)
theorem dX3_tryAt_169 : decode cX3_tryAt 169 = .ok (.iload 4, 2) := dk_21 4 (dk_at dksX3_tryAt_7 8 rfl rfl)
theorem dX3_tryAt_171 : decode cX3_tryAt 171 = .ok (.bipush 10, 2) := dk_16 10 (dk_at dksX3_tryAt_7 10 rfl rfl)
theorem dX3_tryAt_173 : decode cX3_tryAt 173 = .ok (.idiv, 1) := dk_108 (dk_at dksX3_tryAt_7 12 rfl rfl)
theorem dX3_tryAt_174 : decode cX3_tryAt 174 = .ok (.iload 4, 2) := dk_21 4 (dk_at dksX3_tryAt_7 13 rfl rfl)
theorem dX3_tryAt_176 : decode cX3_tryAt 176 = .ok (.bipush 10, 2) := dk_16 10 (dk_at dksX3_tryAt_7 15 rfl rfl)
theorem dX3_tryAt_178 : decode cX3_tryAt 178 = .ok (.irem, 1) := dk_112 (dk_at dksX3_tryAt_7 17 rfl rfl)
theorem dX3_tryAt_179 : decode cX3_tryAt 179 = .ok (.invokevirtual 494, 3) := dk_182 1 238 (dk_at dksX3_tryAt_7 18 rfl rfl)
theorem dX3_tryAt_182 : decode cX3_tryAt 182 = .ok (.istore_n 2, 1) := dk_61 (dk_at dksX3_tryAt_7 21 rfl rfl)
theorem dX3_tryAt_183 : decode cX3_tryAt 183 = .ok (.iinc 3 1, 3) := dk_132 3 1 (dk_at dksX3_tryAt_8 0 rfl rfl)
theorem dX3_tryAt_186 : decode cX3_tryAt 186 = .ok (.goto (-139), 3) := dk_167 255 117 (dk_at dksX3_tryAt_8 3 rfl rfl)
theorem dX3_tryAt_189 : decode cX3_tryAt 189 = .ok (.bipush (-2), 2) := dk_16 254 (dk_at dksX3_tryAt_8 6 rfl rfl)
theorem dX3_tryAt_191 : decode cX3_tryAt 191 = .ok (.ireturn, 1) := dk_172 (dk_at dksX3_tryAt_8 8 rfl rfl)
abbrev cX3_make : ByteArray := prog_23_method_102_code
def yX3_make : MethodName := ⟨RX3, "make", "(II)I"⟩
def dkwX3_make_3 : List UInt8 := [180, 0, 70, 21, 4, 29, 8, 112, 79, 29, 8, 108, 62, 132, 4, 1, 167, 255, 230, 42, 182, 1, 247, 172]
abbrev dktX3_make_3 : List UInt8 := dkwX3_make_3 ++ []
def dkwX3_make_2 : List UInt8 := [42, 182, 1, 244, 27, 28, 182, 1, 238, 62, 3, 54, 4, 21, 4, 42, 180, 0, 234, 162, 0, 23, 42]
abbrev dktX3_make_2 : List UInt8 := dkwX3_make_2 ++ dktX3_make_3
def dkwX3_make_1 : List UInt8 := [153, 0, 17, 28, 3, 42, 180, 0, 234, 4, 100, 184, 0, 220, 154, 0, 9, 42, 4, 182, 0, 252, 172, 42]
abbrev dktX3_make_1 : List UInt8 := dkwX3_make_1 ++ dktX3_make_2
def dkwX3_make_0 : List UInt8 := [42, 182, 0, 249, 42, 180, 1, 13, 153, 0, 31, 27, 3, 42, 180, 0, 231, 4, 100, 184, 0, 220]
abbrev dktX3_make_0 : List UInt8 := dkwX3_make_0 ++ dktX3_make_1
theorem dksX3_make_0 : cX3_make.data.toList.drop 0 = dktX3_make_0 := by decide +kernel
theorem dksX3_make_1 : cX3_make.data.toList.drop 22 = dktX3_make_1 := dk_seg dksX3_make_0 22 rfl rfl
theorem dksX3_make_2 : cX3_make.data.toList.drop 46 = dktX3_make_2 := dk_seg dksX3_make_1 24 rfl rfl
theorem dksX3_make_3 : cX3_make.data.toList.drop 69 = dktX3_make_3 := dk_seg dksX3_make_2 23 rfl rfl
theorem dX3_make_0 : decode cX3_make 0 = .ok (.aload_n 0, 1) := dk_42 (dk_at dksX3_make_0 0 rfl rfl)
theorem dX3_make_1 : decode cX3_make 1 = .ok (.invokevirtual 249, 3) := dk_182 0 249 (dk_at dksX3_make_0 1 rfl rfl)
theorem dX3_make_4 : decode cX3_make 4 = .ok (.aload_n 0, 1) := dk_42 (dk_at dksX3_make_0 4 rfl rfl)
theorem dX3_make_5 : decode cX3_make 5 = .ok (.getfield 269, 3) := dk_180 1 13 (dk_at dksX3_make_0 5 rfl rfl)
theorem dX3_make_8 : decode cX3_make 8 = .ok (.ifCond .eq 31, 3) := dk_153 0 31 (dk_at dksX3_make_0 8 rfl rfl)
theorem dX3_make_11 : decode cX3_make 11 = .ok (.iload_n 1, 1) := dk_27 (dk_at dksX3_make_0 11 rfl rfl)
theorem dX3_make_12 : decode cX3_make 12 = .ok (.iconst 0, 1) := dk_3 (dk_at dksX3_make_0 12 rfl rfl)
theorem dX3_make_13 : decode cX3_make 13 = .ok (.aload_n 0, 1) := dk_42 (dk_at dksX3_make_0 13 rfl rfl)
theorem dX3_make_14 : decode cX3_make 14 = .ok (.getfield 231, 3) := dk_180 0 231 (dk_at dksX3_make_0 14 rfl rfl)
theorem dX3_make_17 : decode cX3_make 17 = .ok (.iconst 1, 1) := dk_4 (dk_at dksX3_make_0 17 rfl rfl)
theorem dX3_make_18 : decode cX3_make 18 = .ok (.isub, 1) := dk_100 (dk_at dksX3_make_0 18 rfl rfl)
theorem dX3_make_19 : decode cX3_make 19 = .ok (.invokestatic 220, 3) := dk_184 0 220 (dk_at dksX3_make_0 19 rfl rfl)
theorem dX3_make_22 : decode cX3_make 22 = .ok (.ifCond .eq 17, 3) := dk_153 0 17 (dk_at dksX3_make_1 0 rfl rfl)
theorem dX3_make_25 : decode cX3_make 25 = .ok (.iload_n 2, 1) := dk_28 (dk_at dksX3_make_1 3 rfl rfl)
theorem dX3_make_26 : decode cX3_make 26 = .ok (.iconst 0, 1) := dk_3 (dk_at dksX3_make_1 4 rfl rfl)
theorem dX3_make_27 : decode cX3_make 27 = .ok (.aload_n 0, 1) := dk_42 (dk_at dksX3_make_1 5 rfl rfl)
theorem dX3_make_28 : decode cX3_make 28 = .ok (.getfield 234, 3) := dk_180 0 234 (dk_at dksX3_make_1 6 rfl rfl)
theorem dX3_make_31 : decode cX3_make 31 = .ok (.iconst 1, 1) := dk_4 (dk_at dksX3_make_1 9 rfl rfl)
theorem dX3_make_32 : decode cX3_make 32 = .ok (.isub, 1) := dk_100 (dk_at dksX3_make_1 10 rfl rfl)
theorem dX3_make_33 : decode cX3_make 33 = .ok (.invokestatic 220, 3) := dk_184 0 220 (dk_at dksX3_make_1 11 rfl rfl)
theorem dX3_make_36 : decode cX3_make 36 = .ok (.ifCond .ne 9, 3) := dk_154 0 9 (dk_at dksX3_make_1 14 rfl rfl)
theorem dX3_make_39 : decode cX3_make 39 = .ok (.aload_n 0, 1) := dk_42 (dk_at dksX3_make_1 17 rfl rfl)
theorem dX3_make_40 : decode cX3_make 40 = .ok (.iconst 1, 1) := dk_4 (dk_at dksX3_make_1 18 rfl rfl)
theorem dX3_make_41 : decode cX3_make 41 = .ok (.invokevirtual 252, 3) := dk_182 0 252 (dk_at dksX3_make_1 19 rfl rfl)
theorem dX3_make_44 : decode cX3_make 44 = .ok (.ireturn, 1) := dk_172 (dk_at dksX3_make_1 22 rfl rfl)
theorem dX3_make_45 : decode cX3_make 45 = .ok (.aload_n 0, 1) := dk_42 (dk_at dksX3_make_1 23 rfl rfl)
theorem dX3_make_46 : decode cX3_make 46 = .ok (.aload_n 0, 1) := dk_42 (dk_at dksX3_make_2 0 rfl rfl)
theorem dX3_make_47 : decode cX3_make 47 = .ok (.invokevirtual 500, 3) := dk_182 1 244 (dk_at dksX3_make_2 1 rfl rfl)
theorem dX3_make_50 : decode cX3_make 50 = .ok (.iload_n 1, 1) := dk_27 (dk_at dksX3_make_2 4 rfl rfl)
theorem dX3_make_51 : decode cX3_make 51 = .ok (.iload_n 2, 1) := dk_28 (dk_at dksX3_make_2 5 rfl rfl)
theorem dX3_make_52 : decode cX3_make 52 = .ok (.invokevirtual 494, 3) := dk_182 1 238 (dk_at dksX3_make_2 6 rfl rfl)
theorem dX3_make_55 : decode cX3_make 55 = .ok (.istore_n 3, 1) := dk_62 (dk_at dksX3_make_2 9 rfl rfl)
theorem dX3_make_56 : decode cX3_make 56 = .ok (.iconst 0, 1) := dk_3 (dk_at dksX3_make_2 10 rfl rfl)
theorem dX3_make_57 : decode cX3_make 57 = .ok (.istore 4, 2) := dk_54 4 (dk_at dksX3_make_2 11 rfl rfl)
theorem dX3_make_59 : decode cX3_make 59 = .ok (.iload 4, 2) := dk_21 4 (dk_at dksX3_make_2 13 rfl rfl)
theorem dX3_make_61 : decode cX3_make 61 = .ok (.aload_n 0, 1) := dk_42 (dk_at dksX3_make_2 15 rfl rfl)
theorem dX3_make_62 : decode cX3_make 62 = .ok (.getfield 234, 3) := dk_180 0 234 (dk_at dksX3_make_2 16 rfl rfl)
theorem dX3_make_65 : decode cX3_make 65 = .ok (.if_icmp .ge 23, 3) := dk_162 0 23 (dk_at dksX3_make_2 19 rfl rfl)
theorem dX3_make_68 : decode cX3_make 68 = .ok (.aload_n 0, 1) := dk_42 (dk_at dksX3_make_2 22 rfl rfl)
theorem dX3_make_69 : decode cX3_make 69 = .ok (.getfield 70, 3) := dk_180 0 70 (dk_at dksX3_make_3 0 rfl rfl)
theorem dX3_make_72 : decode cX3_make 72 = .ok (.iload 4, 2) := dk_21 4 (dk_at dksX3_make_3 3 rfl rfl)
theorem dX3_make_74 : decode cX3_make 74 = .ok (.iload_n 3, 1) := dk_29 (dk_at dksX3_make_3 5 rfl rfl)
theorem dX3_make_75 : decode cX3_make 75 = .ok (.iconst 5, 1) := dk_8 (dk_at dksX3_make_3 6 rfl rfl)
theorem dX3_make_76 : decode cX3_make 76 = .ok (.irem, 1) := dk_112 (dk_at dksX3_make_3 7 rfl rfl)
theorem dX3_make_77 : decode cX3_make 77 = .ok (.iastore, 1) := dk_79 (dk_at dksX3_make_3 8 rfl rfl)
theorem dX3_make_78 : decode cX3_make 78 = .ok (.iload_n 3, 1) := dk_29 (dk_at dksX3_make_3 9 rfl rfl)
theorem dX3_make_79 : decode cX3_make 79 = .ok (.iconst 5, 1) := dk_8 (dk_at dksX3_make_3 10 rfl rfl)
theorem dX3_make_80 : decode cX3_make 80 = .ok (.idiv, 1) := dk_108 (dk_at dksX3_make_3 11 rfl rfl)
theorem dX3_make_81 : decode cX3_make 81 = .ok (.istore_n 3, 1) := dk_62 (dk_at dksX3_make_3 12 rfl rfl)
theorem dX3_make_82 : decode cX3_make 82 = .ok (.iinc 4 1, 3) := dk_132 4 1 (dk_at dksX3_make_3 13 rfl rfl)
theorem dX3_make_85 : decode cX3_make 85 = .ok (.goto (-26), 3) := dk_167 255 230 (dk_at dksX3_make_3 16 rfl rfl)
theorem dX3_make_88 : decode cX3_make 88 = .ok (.aload_n 0, 1) := dk_42 (dk_at dksX3_make_3 19 rfl rfl)
theorem dX3_make_89 : decode cX3_make 89 = .ok (.invokevirtual 503, 3) := dk_182 1 247 (dk_at dksX3_make_3 20 rfl rfl)
theorem dX3_make_92 : decode cX3_make 92 = .ok (.ireturn, 1) := dk_172 (dk_at dksX3_make_3 23 rfl rfl)
abbrev cX3_mostDug : ByteArray := prog_23_method_101_code
def yX3_mostDug : MethodName := ⟨RX3, "mostDug", "()I"⟩
def dkwX3_mostDug_1 : List UInt8 := [46, 27, 164, 0, 12, 42, 180, 0, 70, 28, 46, 167, 0, 4, 27, 60, 132, 2, 1, 167, 255, 217, 27, 172]
abbrev dktX3_mostDug_1 : List UInt8 := dkwX3_mostDug_1 ++ []
def dkwX3_mostDug_0 : List UInt8 := [3, 60, 3, 61, 28, 42, 180, 0, 234, 162, 0, 37, 42, 180, 1, 13, 153, 0, 30, 42, 180, 0, 70, 28]
abbrev dktX3_mostDug_0 : List UInt8 := dkwX3_mostDug_0 ++ dktX3_mostDug_1
theorem dksX3_mostDug_0 : cX3_mostDug.data.toList.drop 0 = dktX3_mostDug_0 := by decide +kernel
theorem dksX3_mostDug_1 : cX3_mostDug.data.toList.drop 24 = dktX3_mostDug_1 := dk_seg dksX3_mostDug_0 24 rfl rfl
theorem dX3_mostDug_0 : decode cX3_mostDug 0 = .ok (.iconst 0, 1) := dk_3 (dk_at dksX3_mostDug_0 0 rfl rfl)
theorem dX3_mostDug_1 : decode cX3_mostDug 1 = .ok (.istore_n 1, 1) := dk_60 (dk_at dksX3_mostDug_0 1 rfl rfl)
theorem dX3_mostDug_2 : decode cX3_mostDug 2 = .ok (.iconst 0, 1) := dk_3 (dk_at dksX3_mostDug_0 2 rfl rfl)
theorem dX3_mostDug_3 : decode cX3_mostDug 3 = .ok (.istore_n 2, 1) := dk_61 (dk_at dksX3_mostDug_0 3 rfl rfl)
theorem dX3_mostDug_4 : decode cX3_mostDug 4 = .ok (.iload_n 2, 1) := dk_28 (dk_at dksX3_mostDug_0 4 rfl rfl)
theorem dX3_mostDug_5 : decode cX3_mostDug 5 = .ok (.aload_n 0, 1) := dk_42 (dk_at dksX3_mostDug_0 5 rfl rfl)
theorem dX3_mostDug_6 : decode cX3_mostDug 6 = .ok (.getfield 234, 3) := dk_180 0 234 (dk_at dksX3_mostDug_0 6 rfl rfl)
theorem dX3_mostDug_9 : decode cX3_mostDug 9 = .ok (.if_icmp .ge 37, 3) := dk_162 0 37 (dk_at dksX3_mostDug_0 9 rfl rfl)
theorem dX3_mostDug_12 : decode cX3_mostDug 12 = .ok (.aload_n 0, 1) := dk_42 (dk_at dksX3_mostDug_0 12 rfl rfl)
theorem dX3_mostDug_13 : decode cX3_mostDug 13 = .ok (.getfield 269, 3) := dk_180 1 13 (dk_at dksX3_mostDug_0 13 rfl rfl)
theorem dX3_mostDug_16 : decode cX3_mostDug 16 = .ok (.ifCond .eq 30, 3) := dk_153 0 30 (dk_at dksX3_mostDug_0 16 rfl rfl)
theorem dX3_mostDug_19 : decode cX3_mostDug 19 = .ok (.aload_n 0, 1) := dk_42 (dk_at dksX3_mostDug_0 19 rfl rfl)
theorem dX3_mostDug_20 : decode cX3_mostDug 20 = .ok (.getfield 70, 3) := dk_180 0 70 (dk_at dksX3_mostDug_0 20 rfl rfl)
theorem dX3_mostDug_23 : decode cX3_mostDug 23 = .ok (.iload_n 2, 1) := dk_28 (dk_at dksX3_mostDug_0 23 rfl rfl)
theorem dX3_mostDug_24 : decode cX3_mostDug 24 = .ok (.iaload, 1) := dk_46 (dk_at dksX3_mostDug_1 0 rfl rfl)
theorem dX3_mostDug_25 : decode cX3_mostDug 25 = .ok (.iload_n 1, 1) := dk_27 (dk_at dksX3_mostDug_1 1 rfl rfl)
theorem dX3_mostDug_26 : decode cX3_mostDug 26 = .ok (.if_icmp .le 12, 3) := dk_164 0 12 (dk_at dksX3_mostDug_1 2 rfl rfl)
theorem dX3_mostDug_29 : decode cX3_mostDug 29 = .ok (.aload_n 0, 1) := dk_42 (dk_at dksX3_mostDug_1 5 rfl rfl)
theorem dX3_mostDug_30 : decode cX3_mostDug 30 = .ok (.getfield 70, 3) := dk_180 0 70 (dk_at dksX3_mostDug_1 6 rfl rfl)
theorem dX3_mostDug_33 : decode cX3_mostDug 33 = .ok (.iload_n 2, 1) := dk_28 (dk_at dksX3_mostDug_1 9 rfl rfl)
theorem dX3_mostDug_34 : decode cX3_mostDug 34 = .ok (.iaload, 1) := dk_46 (dk_at dksX3_mostDug_1 10 rfl rfl)
theorem dX3_mostDug_35 : decode cX3_mostDug 35 = .ok (.goto 4, 3) := dk_167 0 4 (dk_at dksX3_mostDug_1 11 rfl rfl)
theorem dX3_mostDug_38 : decode cX3_mostDug 38 = .ok (.iload_n 1, 1) := dk_27 (dk_at dksX3_mostDug_1 14 rfl rfl)
theorem dX3_mostDug_39 : decode cX3_mostDug 39 = .ok (.istore_n 1, 1) := dk_60 (dk_at dksX3_mostDug_1 15 rfl rfl)
theorem dX3_mostDug_40 : decode cX3_mostDug 40 = .ok (.iinc 2 1, 3) := dk_132 2 1 (dk_at dksX3_mostDug_1 16 rfl rfl)
theorem dX3_mostDug_43 : decode cX3_mostDug 43 = .ok (.goto (-39), 3) := dk_167 255 217 (dk_at dksX3_mostDug_1 19 rfl rfl)
theorem dX3_mostDug_46 : decode cX3_mostDug 46 = .ok (.iload_n 1, 1) := dk_27 (dk_at dksX3_mostDug_1 22 rfl rfl)
theorem dX3_mostDug_47 : decode cX3_mostDug 47 = .ok (.ireturn, 1) := dk_172 (dk_at dksX3_mostDug_1 23 rfl rfl)
abbrev cX3_count : ByteArray := prog_23_method_103_code
def yX3_count : MethodName := ⟨RX3, "count", "(I)I"⟩
def dkwX3_count_11 : List UInt8 := [42, 180, 0, 137, 172, 2, 172]
abbrev dktX3_count_11 : List UInt8 := dkwX3_count_11 ++ []
def dkwX3_count_10 : List UInt8 := [153, 0, 10, 42, 180, 1, 25, 167, 0, 4, 3, 172, 28, 172, 42, 180, 1, 22, 172, 42, 182, 1, 247, 172]
abbrev dktX3_count_10 : List UInt8 := dkwX3_count_10 ++ dktX3_count_11
def dkwX3_count_9 : List UInt8 := [180, 1, 19, 153, 0, 15, 42, 180, 1, 85, 42, 180, 1, 88, 104, 167, 0, 4, 3, 172, 42, 180, 1, 19]
abbrev dktX3_count_9 : List UInt8 := dkwX3_count_9 ++ dktX3_count_10
def dkwX3_count_8 : List UInt8 := [42, 180, 1, 13, 153, 0, 10, 42, 180, 0, 246, 167, 0, 4, 3, 172, 42, 180, 1, 28, 172, 42]
abbrev dktX3_count_8 : List UInt8 := dkwX3_count_8 ++ dktX3_count_9
def dkwX3_count_7 : List UInt8 := [180, 0, 240, 167, 0, 4, 3, 172, 42, 180, 1, 13, 153, 0, 10, 42, 180, 0, 243, 167, 0, 4, 3, 172]
abbrev dktX3_count_7 : List UInt8 := dkwX3_count_7 ++ dktX3_count_8
def dkwX3_count_6 : List UInt8 := [42, 180, 1, 13, 153, 0, 10, 42, 180, 0, 237, 167, 0, 4, 3, 172, 42, 180, 1, 13, 153, 0, 10, 42]
abbrev dktX3_count_6 : List UInt8 := dkwX3_count_6 ++ dktX3_count_7
def dkwX3_count_5 : List UInt8 := [180, 0, 231, 167, 0, 4, 3, 172, 42, 180, 1, 13, 153, 0, 10, 42, 180, 0, 234, 167, 0, 4, 3, 172]
abbrev dktX3_count_5 : List UInt8 := dkwX3_count_5 ++ dktX3_count_6
def dkwX3_count_4 : List UInt8 := [42, 180, 1, 13, 153, 0, 10, 42, 180, 0, 228, 167, 0, 4, 3, 172, 42, 180, 1, 13, 153, 0, 10, 42]
abbrev dktX3_count_4 : List UInt8 := dkwX3_count_4 ++ dktX3_count_5
def dkwX3_count_3 : List UInt8 := [170, 0, 0, 0, 0, 0, 242, 0, 0, 0, 0, 0, 0, 0, 13, 0, 0, 0, 71, 0, 0, 0, 87, 0, 0, 0, 103, 0, 0, 0, 119, 0, 0, 0, 135, 0, 0, 0, 151, 0, 0, 0, 167, 0, 0, 0, 183, 0, 0, 0, 188, 0, 0, 0, 209, 0, 0, 0, 225, 0, 0, 0, 227, 0, 0, 0, 232, 0, 0, 0, 237]
abbrev dktX3_count_3 : List UInt8 := dkwX3_count_3 ++ dktX3_count_4
def dkwX3_count_2 : List UInt8 := [27]
abbrev dktX3_count_2 : List UInt8 := dkwX3_count_2 ++ dktX3_count_3
def dkwX3_count_1 : List UInt8 := [28, 42, 180, 0, 64, 29, 46, 2, 160, 0, 7, 4, 167, 0, 4, 3, 96, 61, 132, 3, 1, 167, 255, 220]
abbrev dktX3_count_1 : List UInt8 := dkwX3_count_1 ++ dktX3_count_2
def dkwX3_count_0 : List UInt8 := [42, 3, 181, 0, 131, 3, 61, 3, 62, 29, 42, 180, 1, 25, 162, 0, 34, 42, 180, 1, 19, 153, 0, 27]
abbrev dktX3_count_0 : List UInt8 := dkwX3_count_0 ++ dktX3_count_1
theorem dksX3_count_0 : cX3_count.data.toList.drop 0 = dktX3_count_0 := by decide +kernel
theorem dksX3_count_1 : cX3_count.data.toList.drop 24 = dktX3_count_1 := dk_seg dksX3_count_0 24 rfl rfl
theorem dksX3_count_2 : cX3_count.data.toList.drop 48 = dktX3_count_2 := dk_seg dksX3_count_1 24 rfl rfl
theorem dksX3_count_3 : cX3_count.data.toList.drop 49 = dktX3_count_3 := dk_seg dksX3_count_2 1 rfl rfl
theorem dksX3_count_4 : cX3_count.data.toList.drop 120 = dktX3_count_4 := dk_seg dksX3_count_3 71 rfl rfl
theorem dksX3_count_5 : cX3_count.data.toList.drop 144 = dktX3_count_5 := dk_seg dksX3_count_4 24 rfl rfl
theorem dksX3_count_6 : cX3_count.data.toList.drop 168 = dktX3_count_6 := dk_seg dksX3_count_5 24 rfl rfl
theorem dksX3_count_7 : cX3_count.data.toList.drop 192 = dktX3_count_7 := dk_seg dksX3_count_6 24 rfl rfl
theorem dksX3_count_8 : cX3_count.data.toList.drop 216 = dktX3_count_8 := dk_seg dksX3_count_7 24 rfl rfl
theorem dksX3_count_9 : cX3_count.data.toList.drop 238 = dktX3_count_9 := dk_seg dksX3_count_8 22 rfl rfl
theorem dksX3_count_10 : cX3_count.data.toList.drop 262 = dktX3_count_10 := dk_seg dksX3_count_9 24 rfl rfl
theorem dksX3_count_11 : cX3_count.data.toList.drop 286 = dktX3_count_11 := dk_seg dksX3_count_10 24 rfl rfl
theorem dX3_count_0 : decode cX3_count 0 = .ok (.aload_n 0, 1) := dk_42 (dk_at dksX3_count_0 0 rfl rfl)
theorem dX3_count_1 : decode cX3_count 1 = .ok (.iconst 0, 1) := dk_3 (dk_at dksX3_count_0 1 rfl rfl)
theorem dX3_count_2 : decode cX3_count 2 = .ok (.putfield 131, 3) := dk_181 0 131 (dk_at dksX3_count_0 2 rfl rfl)
theorem dX3_count_5 : decode cX3_count 5 = .ok (.iconst 0, 1) := dk_3 (dk_at dksX3_count_0 5 rfl rfl)
theorem dX3_count_6 : decode cX3_count 6 = .ok (.istore_n 2, 1) := dk_61 (dk_at dksX3_count_0 6 rfl rfl)
theorem dX3_count_7 : decode cX3_count 7 = .ok (.iconst 0, 1) := dk_3 (dk_at dksX3_count_0 7 rfl rfl)
theorem dX3_count_8 : decode cX3_count 8 = .ok (.istore_n 3, 1) := dk_62 (dk_at dksX3_count_0 8 rfl rfl)
theorem dX3_count_9 : decode cX3_count 9 = .ok (.iload_n 3, 1) := dk_29 (dk_at dksX3_count_0 9 rfl rfl)
theorem dX3_count_10 : decode cX3_count 10 = .ok (.aload_n 0, 1) := dk_42 (dk_at dksX3_count_0 10 rfl rfl)
theorem dX3_count_11 : decode cX3_count 11 = .ok (.getfield 281, 3) := dk_180 1 25 (dk_at dksX3_count_0 11 rfl rfl)
theorem dX3_count_14 : decode cX3_count 14 = .ok (.if_icmp .ge 34, 3) := dk_162 0 34 (dk_at dksX3_count_0 14 rfl rfl)
theorem dX3_count_17 : decode cX3_count 17 = .ok (.aload_n 0, 1) := dk_42 (dk_at dksX3_count_0 17 rfl rfl)
theorem dX3_count_18 : decode cX3_count 18 = .ok (.getfield 275, 3) := dk_180 1 19 (dk_at dksX3_count_0 18 rfl rfl)
theorem dX3_count_21 : decode cX3_count 21 = .ok (.ifCond .eq 27, 3) := dk_153 0 27 (dk_at dksX3_count_0 21 rfl rfl)
theorem dX3_count_24 : decode cX3_count 24 = .ok (.iload_n 2, 1) := dk_28 (dk_at dksX3_count_1 0 rfl rfl)
theorem dX3_count_25 : decode cX3_count 25 = .ok (.aload_n 0, 1) := dk_42 (dk_at dksX3_count_1 1 rfl rfl)
theorem dX3_count_26 : decode cX3_count 26 = .ok (.getfield 64, 3) := dk_180 0 64 (dk_at dksX3_count_1 2 rfl rfl)
theorem dX3_count_29 : decode cX3_count 29 = .ok (.iload_n 3, 1) := dk_29 (dk_at dksX3_count_1 5 rfl rfl)
theorem dX3_count_30 : decode cX3_count 30 = .ok (.iaload, 1) := dk_46 (dk_at dksX3_count_1 6 rfl rfl)
theorem dX3_count_31 : decode cX3_count 31 = .ok (.iconst (-1), 1) := dk_2 (dk_at dksX3_count_1 7 rfl rfl)
theorem dX3_count_32 : decode cX3_count 32 = .ok (.if_icmp .ne 7, 3) := dk_160 0 7 (dk_at dksX3_count_1 8 rfl rfl)
theorem dX3_count_35 : decode cX3_count 35 = .ok (.iconst 1, 1) := dk_4 (dk_at dksX3_count_1 11 rfl rfl)
theorem dX3_count_36 : decode cX3_count 36 = .ok (.goto 4, 3) := dk_167 0 4 (dk_at dksX3_count_1 12 rfl rfl)
theorem dX3_count_39 : decode cX3_count 39 = .ok (.iconst 0, 1) := dk_3 (dk_at dksX3_count_1 15 rfl rfl)
theorem dX3_count_40 : decode cX3_count 40 = .ok (.iadd, 1) := dk_96 (dk_at dksX3_count_1 16 rfl rfl)
theorem dX3_count_41 : decode cX3_count 41 = .ok (.istore_n 2, 1) := dk_61 (dk_at dksX3_count_1 17 rfl rfl)
theorem dX3_count_42 : decode cX3_count 42 = .ok (.iinc 3 1, 3) := dk_132 3 1 (dk_at dksX3_count_1 18 rfl rfl)
theorem dX3_count_45 : decode cX3_count 45 = .ok (.goto (-36), 3) := dk_167 255 220 (dk_at dksX3_count_1 21 rfl rfl)
theorem dX3_count_48 : decode cX3_count 48 = .ok (.iload_n 1, 1) := dk_27 (dk_at dksX3_count_2 0 rfl rfl)
theorem dX3_count_49 : decode cX3_count 49 = .ok (.tableswitch 242 0 13 #[71, 87, 103, 119, 135, 151, 167, 183, 188, 209, 225, 227, 232, 237], 71) := by decide +kernel
theorem dX3_count_120 : decode cX3_count 120 = .ok (.aload_n 0, 1) := dk_42 (dk_at dksX3_count_4 0 rfl rfl)
theorem dX3_count_121 : decode cX3_count 121 = .ok (.getfield 269, 3) := dk_180 1 13 (dk_at dksX3_count_4 1 rfl rfl)
theorem dX3_count_124 : decode cX3_count 124 = .ok (.ifCond .eq 10, 3) := dk_153 0 10 (dk_at dksX3_count_4 4 rfl rfl)
theorem dX3_count_127 : decode cX3_count 127 = .ok (.aload_n 0, 1) := dk_42 (dk_at dksX3_count_4 7 rfl rfl)
theorem dX3_count_128 : decode cX3_count 128 = .ok (.getfield 228, 3) := dk_180 0 228 (dk_at dksX3_count_4 8 rfl rfl)
theorem dX3_count_131 : decode cX3_count 131 = .ok (.goto 4, 3) := dk_167 0 4 (dk_at dksX3_count_4 11 rfl rfl)
theorem dX3_count_134 : decode cX3_count 134 = .ok (.iconst 0, 1) := dk_3 (dk_at dksX3_count_4 14 rfl rfl)
theorem dX3_count_135 : decode cX3_count 135 = .ok (.ireturn, 1) := dk_172 (dk_at dksX3_count_4 15 rfl rfl)
theorem dX3_count_136 : decode cX3_count 136 = .ok (.aload_n 0, 1) := dk_42 (dk_at dksX3_count_4 16 rfl rfl)
theorem dX3_count_137 : decode cX3_count 137 = .ok (.getfield 269, 3) := dk_180 1 13 (dk_at dksX3_count_4 17 rfl rfl)
theorem dX3_count_140 : decode cX3_count 140 = .ok (.ifCond .eq 10, 3) := dk_153 0 10 (dk_at dksX3_count_4 20 rfl rfl)
theorem dX3_count_143 : decode cX3_count 143 = .ok (.aload_n 0, 1) := dk_42 (dk_at dksX3_count_4 23 rfl rfl)
theorem dX3_count_144 : decode cX3_count 144 = .ok (.getfield 231, 3) := dk_180 0 231 (dk_at dksX3_count_5 0 rfl rfl)
theorem dX3_count_147 : decode cX3_count 147 = .ok (.goto 4, 3) := dk_167 0 4 (dk_at dksX3_count_5 3 rfl rfl)
theorem dX3_count_150 : decode cX3_count 150 = .ok (.iconst 0, 1) := dk_3 (dk_at dksX3_count_5 6 rfl rfl)
theorem dX3_count_151 : decode cX3_count 151 = .ok (.ireturn, 1) := dk_172 (dk_at dksX3_count_5 7 rfl rfl)
theorem dX3_count_152 : decode cX3_count 152 = .ok (.aload_n 0, 1) := dk_42 (dk_at dksX3_count_5 8 rfl rfl)
theorem dX3_count_153 : decode cX3_count 153 = .ok (.getfield 269, 3) := dk_180 1 13 (dk_at dksX3_count_5 9 rfl rfl)
theorem dX3_count_156 : decode cX3_count 156 = .ok (.ifCond .eq 10, 3) := dk_153 0 10 (dk_at dksX3_count_5 12 rfl rfl)
theorem dX3_count_159 : decode cX3_count 159 = .ok (.aload_n 0, 1) := dk_42 (dk_at dksX3_count_5 15 rfl rfl)
theorem dX3_count_160 : decode cX3_count 160 = .ok (.getfield 234, 3) := dk_180 0 234 (dk_at dksX3_count_5 16 rfl rfl)
theorem dX3_count_163 : decode cX3_count 163 = .ok (.goto 4, 3) := dk_167 0 4 (dk_at dksX3_count_5 19 rfl rfl)
theorem dX3_count_166 : decode cX3_count 166 = .ok (.iconst 0, 1) := dk_3 (dk_at dksX3_count_5 22 rfl rfl)
theorem dX3_count_167 : decode cX3_count 167 = .ok (.ireturn, 1) := dk_172 (dk_at dksX3_count_5 23 rfl rfl)
theorem dX3_count_168 : decode cX3_count 168 = .ok (.aload_n 0, 1) := dk_42 (dk_at dksX3_count_6 0 rfl rfl)
theorem dX3_count_169 : decode cX3_count 169 = .ok (.getfield 269, 3) := dk_180 1 13 (dk_at dksX3_count_6 1 rfl rfl)
theorem dX3_count_172 : decode cX3_count 172 = .ok (.ifCond .eq 10, 3) := dk_153 0 10 (dk_at dksX3_count_6 4 rfl rfl)
theorem dX3_count_175 : decode cX3_count 175 = .ok (.aload_n 0, 1) := dk_42 (dk_at dksX3_count_6 7 rfl rfl)
theorem dX3_count_176 : decode cX3_count 176 = .ok (.getfield 237, 3) := dk_180 0 237 (dk_at dksX3_count_6 8 rfl rfl)
theorem dX3_count_179 : decode cX3_count 179 = .ok (.goto 4, 3) := dk_167 0 4 (dk_at dksX3_count_6 11 rfl rfl)
theorem dX3_count_182 : decode cX3_count 182 = .ok (.iconst 0, 1) := dk_3 (dk_at dksX3_count_6 14 rfl rfl)
theorem dX3_count_183 : decode cX3_count 183 = .ok (.ireturn, 1) := dk_172 (dk_at dksX3_count_6 15 rfl rfl)
theorem dX3_count_184 : decode cX3_count 184 = .ok (.aload_n 0, 1) := dk_42 (dk_at dksX3_count_6 16 rfl rfl)
theorem dX3_count_185 : decode cX3_count 185 = .ok (.getfield 269, 3) := dk_180 1 13 (dk_at dksX3_count_6 17 rfl rfl)
theorem dX3_count_188 : decode cX3_count 188 = .ok (.ifCond .eq 10, 3) := dk_153 0 10 (dk_at dksX3_count_6 20 rfl rfl)
theorem dX3_count_191 : decode cX3_count 191 = .ok (.aload_n 0, 1) := dk_42 (dk_at dksX3_count_6 23 rfl rfl)
theorem dX3_count_192 : decode cX3_count 192 = .ok (.getfield 240, 3) := dk_180 0 240 (dk_at dksX3_count_7 0 rfl rfl)
theorem dX3_count_195 : decode cX3_count 195 = .ok (.goto 4, 3) := dk_167 0 4 (dk_at dksX3_count_7 3 rfl rfl)
theorem dX3_count_198 : decode cX3_count 198 = .ok (.iconst 0, 1) := dk_3 (dk_at dksX3_count_7 6 rfl rfl)
theorem dX3_count_199 : decode cX3_count 199 = .ok (.ireturn, 1) := dk_172 (dk_at dksX3_count_7 7 rfl rfl)
theorem dX3_count_200 : decode cX3_count 200 = .ok (.aload_n 0, 1) := dk_42 (dk_at dksX3_count_7 8 rfl rfl)
theorem dX3_count_201 : decode cX3_count 201 = .ok (.getfield 269, 3) := dk_180 1 13 (dk_at dksX3_count_7 9 rfl rfl)
theorem dX3_count_204 : decode cX3_count 204 = .ok (.ifCond .eq 10, 3) := dk_153 0 10 (dk_at dksX3_count_7 12 rfl rfl)
theorem dX3_count_207 : decode cX3_count 207 = .ok (.aload_n 0, 1) := dk_42 (dk_at dksX3_count_7 15 rfl rfl)
theorem dX3_count_208 : decode cX3_count 208 = .ok (.getfield 243, 3) := dk_180 0 243 (dk_at dksX3_count_7 16 rfl rfl)
theorem dX3_count_211 : decode cX3_count 211 = .ok (.goto 4, 3) := dk_167 0 4 (dk_at dksX3_count_7 19 rfl rfl)
theorem dX3_count_214 : decode cX3_count 214 = .ok (.iconst 0, 1) := dk_3 (dk_at dksX3_count_7 22 rfl rfl)
theorem dX3_count_215 : decode cX3_count 215 = .ok (.ireturn, 1) := dk_172 (dk_at dksX3_count_7 23 rfl rfl)
theorem dX3_count_216 : decode cX3_count 216 = .ok (.aload_n 0, 1) := dk_42 (dk_at dksX3_count_8 0 rfl rfl)
theorem dX3_count_217 : decode cX3_count 217 = .ok (.getfield 269, 3) := dk_180 1 13 (dk_at dksX3_count_8 1 rfl rfl)
theorem dX3_count_220 : decode cX3_count 220 = .ok (.ifCond .eq 10, 3) := dk_153 0 10 (dk_at dksX3_count_8 4 rfl rfl)
theorem dX3_count_223 : decode cX3_count 223 = .ok (.aload_n 0, 1) := dk_42 (dk_at dksX3_count_8 7 rfl rfl)
theorem dX3_count_224 : decode cX3_count 224 = .ok (.getfield 246, 3) := dk_180 0 246 (dk_at dksX3_count_8 8 rfl rfl)
theorem dX3_count_227 : decode cX3_count 227 = .ok (.goto 4, 3) := dk_167 0 4 (dk_at dksX3_count_8 11 rfl rfl)
theorem dX3_count_230 : decode cX3_count 230 = .ok (.iconst 0, 1) := dk_3 (dk_at dksX3_count_8 14 rfl rfl)
theorem dX3_count_231 : decode cX3_count 231 = .ok (.ireturn, 1) := dk_172 (dk_at dksX3_count_8 15 rfl rfl)
theorem dX3_count_232 : decode cX3_count 232 = .ok (.aload_n 0, 1) := dk_42 (dk_at dksX3_count_8 16 rfl rfl)
theorem dX3_count_233 : decode cX3_count 233 = .ok (.getfield 284, 3) := dk_180 1 28 (dk_at dksX3_count_8 17 rfl rfl)
theorem dX3_count_236 : decode cX3_count 236 = .ok (.ireturn, 1) := dk_172 (dk_at dksX3_count_8 20 rfl rfl)
theorem dX3_count_237 : decode cX3_count 237 = .ok (.aload_n 0, 1) := dk_42 (dk_at dksX3_count_8 21 rfl rfl)
theorem dX3_count_238 : decode cX3_count 238 = .ok (.getfield 275, 3) := dk_180 1 19 (dk_at dksX3_count_9 0 rfl rfl)
theorem dX3_count_241 : decode cX3_count 241 = .ok (.ifCond .eq 15, 3) := dk_153 0 15 (dk_at dksX3_count_9 3 rfl rfl)
theorem dX3_count_244 : decode cX3_count 244 = .ok (.aload_n 0, 1) := dk_42 (dk_at dksX3_count_9 6 rfl rfl)
theorem dX3_count_245 : decode cX3_count 245 = .ok (.getfield 341, 3) := dk_180 1 85 (dk_at dksX3_count_9 7 rfl rfl)
theorem dX3_count_248 : decode cX3_count 248 = .ok (.aload_n 0, 1) := dk_42 (dk_at dksX3_count_9 10 rfl rfl)
theorem dX3_count_249 : decode cX3_count 249 = .ok (.getfield 344, 3) := dk_180 1 88 (dk_at dksX3_count_9 11 rfl rfl)
theorem dX3_count_252 : decode cX3_count 252 = .ok (.imul, 1) := dk_104 (dk_at dksX3_count_9 14 rfl rfl)
theorem dX3_count_253 : decode cX3_count 253 = .ok (.goto 4, 3) := dk_167 0 4 (dk_at dksX3_count_9 15 rfl rfl)
theorem dX3_count_256 : decode cX3_count 256 = .ok (.iconst 0, 1) := dk_3 (dk_at dksX3_count_9 18 rfl rfl)
theorem dX3_count_257 : decode cX3_count 257 = .ok (.ireturn, 1) := dk_172 (dk_at dksX3_count_9 19 rfl rfl)
theorem dX3_count_258 : decode cX3_count 258 = .ok (.aload_n 0, 1) := dk_42 (dk_at dksX3_count_9 20 rfl rfl)
theorem dX3_count_259 : decode cX3_count 259 = .ok (.getfield 275, 3) := dk_180 1 19 (dk_at dksX3_count_9 21 rfl rfl)
theorem dX3_count_262 : decode cX3_count 262 = .ok (.ifCond .eq 10, 3) := dk_153 0 10 (dk_at dksX3_count_10 0 rfl rfl)
theorem dX3_count_265 : decode cX3_count 265 = .ok (.aload_n 0, 1) := dk_42 (dk_at dksX3_count_10 3 rfl rfl)
theorem dX3_count_266 : decode cX3_count 266 = .ok (.getfield 281, 3) := dk_180 1 25 (dk_at dksX3_count_10 4 rfl rfl)
theorem dX3_count_269 : decode cX3_count 269 = .ok (.goto 4, 3) := dk_167 0 4 (dk_at dksX3_count_10 7 rfl rfl)
theorem dX3_count_272 : decode cX3_count 272 = .ok (.iconst 0, 1) := dk_3 (dk_at dksX3_count_10 10 rfl rfl)
theorem dX3_count_273 : decode cX3_count 273 = .ok (.ireturn, 1) := dk_172 (dk_at dksX3_count_10 11 rfl rfl)
theorem dX3_count_274 : decode cX3_count 274 = .ok (.iload_n 2, 1) := dk_28 (dk_at dksX3_count_10 12 rfl rfl)
theorem dX3_count_275 : decode cX3_count 275 = .ok (.ireturn, 1) := dk_172 (dk_at dksX3_count_10 13 rfl rfl)
theorem dX3_count_276 : decode cX3_count 276 = .ok (.aload_n 0, 1) := dk_42 (dk_at dksX3_count_10 14 rfl rfl)
theorem dX3_count_277 : decode cX3_count 277 = .ok (.getfield 278, 3) := dk_180 1 22 (dk_at dksX3_count_10 15 rfl rfl)
theorem dX3_count_280 : decode cX3_count 280 = .ok (.ireturn, 1) := dk_172 (dk_at dksX3_count_10 18 rfl rfl)
theorem dX3_count_281 : decode cX3_count 281 = .ok (.aload_n 0, 1) := dk_42 (dk_at dksX3_count_10 19 rfl rfl)
theorem dX3_count_282 : decode cX3_count 282 = .ok (.invokevirtual 503, 3) := dk_182 1 247 (dk_at dksX3_count_10 20 rfl rfl)
theorem dX3_count_285 : decode cX3_count 285 = .ok (.ireturn, 1) := dk_172 (dk_at dksX3_count_10 23 rfl rfl)
theorem dX3_count_286 : decode cX3_count 286 = .ok (.aload_n 0, 1) := dk_42 (dk_at dksX3_count_11 0 rfl rfl)
theorem dX3_count_287 : decode cX3_count 287 = .ok (.getfield 137, 3) := dk_180 0 137 (dk_at dksX3_count_11 1 rfl rfl)
theorem dX3_count_290 : decode cX3_count 290 = .ok (.ireturn, 1) := dk_172 (dk_at dksX3_count_11 4 rfl rfl)
theorem dX3_count_291 : decode cX3_count 291 = .ok (.iconst (-1), 1) := dk_2 (dk_at dksX3_count_11 5 rfl rfl)
theorem dX3_count_292 : decode cX3_count 292 = .ok (.ireturn, 1) := dk_172 (dk_at dksX3_count_11 6 rfl rfl)
abbrev cX3_trouble : ByteArray := prog_23_method_104_code
def yX3_trouble : MethodName := ⟨RX3, "trouble", "()I"⟩
def dkwX3_trouble_0 : List UInt8 := [42, 3, 181, 0, 131, 42, 180, 0, 134, 172]
abbrev dktX3_trouble_0 : List UInt8 := dkwX3_trouble_0 ++ []
theorem dksX3_trouble_0 : cX3_trouble.data.toList.drop 0 = dktX3_trouble_0 := by decide +kernel
theorem dX3_trouble_0 : decode cX3_trouble 0 = .ok (.aload_n 0, 1) := dk_42 (dk_at dksX3_trouble_0 0 rfl rfl)
theorem dX3_trouble_1 : decode cX3_trouble 1 = .ok (.iconst 0, 1) := dk_3 (dk_at dksX3_trouble_0 1 rfl rfl)
theorem dX3_trouble_2 : decode cX3_trouble 2 = .ok (.putfield 131, 3) := dk_181 0 131 (dk_at dksX3_trouble_0 2 rfl rfl)
theorem dX3_trouble_5 : decode cX3_trouble 5 = .ok (.aload_n 0, 1) := dk_42 (dk_at dksX3_trouble_0 5 rfl rfl)
theorem dX3_trouble_6 : decode cX3_trouble 6 = .ok (.getfield 134, 3) := dk_180 0 134 (dk_at dksX3_trouble_0 6 rfl rfl)
theorem dX3_trouble_9 : decode cX3_trouble 9 = .ok (.ireturn, 1) := dk_172 (dk_at dksX3_trouble_0 9 rfl rfl)
theorem q103 : (Jvm.Cond.initialized "SoftWheelsModel") ∈ lw_all := lw_g (lw_at lw_m1 6 rfl) rfl
theorem q976 : (Jvm.Cond.selects "SoftWheelsModel" ({ cls := "java/lang/Object", name := "getClass", desc := "()Ljava/lang/Class;" } : Jvm.MethodName) ({ cls := "java/lang/Object", name := "getClass", desc := "()Ljava/lang/Class;" } : Jvm.MethodName)) ∈ lw_all := lw_g (lw_at lw_m4 159 rfl) rfl
theorem q1887 : (Jvm.Cond.instantiable "SoftWheelsModel" (75 : Nat)) ∈ lw_all := lw_g (lw_at lw_m8 110 rfl) rfl
theorem q1889 : (Jvm.Cond.instanceMethod ({ cls := "SoftWheelsModel", name := "<init>", desc := "()V" } : Jvm.MethodName)) ∈ lw_all := lw_g (lw_at lw_m8 112 rfl) rfl
theorem q1890 : (Jvm.Cond.code ({ cls := "SoftWheelsModel", name := "<init>", desc := "()V" } : Jvm.MethodName) prog_23_method_1_code (1 : Nat) (Option.none : Option Jvm.ClassFile.FieldType)) ∈ lw_all := lw_g (lw_at lw_m8 113 rfl) rfl
theorem q1891 : (Jvm.Cond.methodLink "SoftWheelsModel" (1 : Nat) ({ cls := "java/lang/Object", name := "<init>", desc := "()V" } : Jvm.MethodName)) ∈ lw_all := lw_g (lw_at lw_m8 114 rfl) rfl
theorem q1892 : (Jvm.Cond.constant "SoftWheelsModel" (73 : Nat) (102400 : Int32)) ∈ lw_all := lw_g (lw_at lw_m8 115 rfl) rfl
theorem q1893 : (Jvm.Cond.fieldLink "SoftWheelsModel" (131 : Nat) "SoftWheelsModel" "thrown" "I") ∈ lw_all := lw_g (lw_at lw_m8 116 rfl) rfl
theorem q1894 : (Jvm.Cond.fieldLink "SoftWheelsModel" (7 : Nat) "SoftWheelsModel" "tape" "[I") ∈ lw_all := lw_g (lw_at lw_m8 117 rfl) rfl
theorem q1895 : (Jvm.Cond.fieldLink "SoftWheelsModel" (137 : Nat) "SoftWheelsModel" "taped" "I") ∈ lw_all := lw_g (lw_at lw_m8 118 rfl) rfl
theorem q1896 : (Jvm.Cond.fieldLink "SoftWheelsModel" (140 : Nat) "SoftWheelsModel" "size" "I") ∈ lw_all := lw_g (lw_at lw_m8 119 rfl) rfl
theorem q1897 : (Jvm.Cond.fieldLink "SoftWheelsModel" (150 : Nat) "SoftWheelsModel" "at" "I") ∈ lw_all := lw_g (lw_at lw_m8 120 rfl) rfl
theorem q1898 : (Jvm.Cond.fieldLink "SoftWheelsModel" (143 : Nat) "SoftWheelsModel" "end" "I") ∈ lw_all := lw_g (lw_at lw_m8 121 rfl) rfl
theorem q1899 : (Jvm.Cond.fieldLink "SoftWheelsModel" (159 : Nat) "SoftWheelsModel" "token" "I") ∈ lw_all := lw_g (lw_at lw_m8 122 rfl) rfl
theorem q1900 : (Jvm.Cond.fieldLink "SoftWheelsModel" (156 : Nat) "SoftWheelsModel" "whole" "I") ∈ lw_all := lw_g (lw_at lw_m8 123 rfl) rfl
theorem q1901 : (Jvm.Cond.fieldLink "SoftWheelsModel" (153 : Nat) "SoftWheelsModel" "nameSize" "I") ∈ lw_all := lw_g (lw_at lw_m8 124 rfl) rfl
theorem q1902 : (Jvm.Cond.fieldLink "SoftWheelsModel" (176 : Nat) "SoftWheelsModel" "fault" "I") ∈ lw_all := lw_g (lw_at lw_m8 125 rfl) rfl
theorem q1903 : (Jvm.Cond.fieldLink "SoftWheelsModel" (179 : Nat) "SoftWheelsModel" "place" "I") ∈ lw_all := lw_g (lw_at lw_m8 126 rfl) rfl
theorem q1904 : (Jvm.Cond.fieldLink "SoftWheelsModel" (13 : Nat) "SoftWheelsModel" "letters" "[I") ∈ lw_all := lw_g (lw_at lw_m8 127 rfl) rfl
theorem q1905 : (Jvm.Cond.fieldLink "SoftWheelsModel" (269 : Nat) "SoftWheelsModel" "hasBook" "Z") ∈ lw_all := lw_g (lw_at lw_m8 128 rfl) rfl
theorem q1906 : (Jvm.Cond.fieldLink "SoftWheelsModel" (169 : Nat) "SoftWheelsModel" "failed" "Z") ∈ lw_all := lw_g (lw_at lw_m8 129 rfl) rfl
theorem q1907 : (Jvm.Cond.fieldLink "SoftWheelsModel" (16 : Nat) "SoftWheelsModel" "groundNames" "[I") ∈ lw_all := lw_g (lw_at lw_m8 130 rfl) rfl
theorem q1908 : (Jvm.Cond.fieldLink "SoftWheelsModel" (19 : Nat) "SoftWheelsModel" "groundSizes" "[I") ∈ lw_all := lw_g (lw_at lw_m8 131 rfl) rfl
theorem q1909 : (Jvm.Cond.fieldLink "SoftWheelsModel" (22 : Nat) "SoftWheelsModel" "tryNames" "[I") ∈ lw_all := lw_g (lw_at lw_m8 132 rfl) rfl
theorem q1910 : (Jvm.Cond.fieldLink "SoftWheelsModel" (25 : Nat) "SoftWheelsModel" "trySizes" "[I") ∈ lw_all := lw_g (lw_at lw_m8 133 rfl) rfl
theorem q1911 : (Jvm.Cond.fieldLink "SoftWheelsModel" (28 : Nat) "SoftWheelsModel" "sinkMany" "[I") ∈ lw_all := lw_g (lw_at lw_m8 134 rfl) rfl
theorem q1912 : (Jvm.Cond.fieldLink "SoftWheelsModel" (31 : Nat) "SoftWheelsModel" "gripMany" "[I") ∈ lw_all := lw_g (lw_at lw_m8 135 rfl) rfl
theorem q1913 : (Jvm.Cond.fieldLink "SoftWheelsModel" (34 : Nat) "SoftWheelsModel" "sinks" "[I") ∈ lw_all := lw_g (lw_at lw_m8 136 rfl) rfl
theorem q1914 : (Jvm.Cond.fieldLink "SoftWheelsModel" (37 : Nat) "SoftWheelsModel" "grips" "[I") ∈ lw_all := lw_g (lw_at lw_m8 137 rfl) rfl
theorem q1915 : (Jvm.Cond.fieldLink "SoftWheelsModel" (228 : Nat) "SoftWheelsModel" "grounds" "I") ∈ lw_all := lw_g (lw_at lw_m8 138 rfl) rfl
theorem q1916 : (Jvm.Cond.fieldLink "SoftWheelsModel" (231 : Nat) "SoftWheelsModel" "tries" "I") ∈ lw_all := lw_g (lw_at lw_m8 139 rfl) rfl
theorem q1917 : (Jvm.Cond.fieldLink "SoftWheelsModel" (234 : Nat) "SoftWheelsModel" "wheels" "I") ∈ lw_all := lw_g (lw_at lw_m8 140 rfl) rfl
theorem q1918 : (Jvm.Cond.fieldLink "SoftWheelsModel" (237 : Nat) "SoftWheelsModel" "weight" "I") ∈ lw_all := lw_g (lw_at lw_m8 141 rfl) rfl
theorem q1919 : (Jvm.Cond.fieldLink "SoftWheelsModel" (240 : Nat) "SoftWheelsModel" "clear" "I") ∈ lw_all := lw_g (lw_at lw_m8 142 rfl) rfl
theorem q1920 : (Jvm.Cond.fieldLink "SoftWheelsModel" (243 : Nat) "SoftWheelsModel" "tip" "I") ∈ lw_all := lw_g (lw_at lw_m8 143 rfl) rfl
theorem q1921 : (Jvm.Cond.fieldLink "SoftWheelsModel" (246 : Nat) "SoftWheelsModel" "drag" "I") ∈ lw_all := lw_g (lw_at lw_m8 144 rfl) rfl
theorem q1922 : (Jvm.Cond.fieldLink "SoftWheelsModel" (259 : Nat) "SoftWheelsModel" "hasRover" "Z") ∈ lw_all := lw_g (lw_at lw_m8 145 rfl) rfl
theorem q1923 : (Jvm.Cond.fieldLink "SoftWheelsModel" (40 : Nat) "SoftWheelsModel" "each" "[I") ∈ lw_all := lw_g (lw_at lw_m8 146 rfl) rfl
theorem q1924 : (Jvm.Cond.fieldLink "SoftWheelsModel" (43 : Nat) "SoftWheelsModel" "one" "[I") ∈ lw_all := lw_g (lw_at lw_m8 147 rfl) rfl
theorem q1925 : (Jvm.Cond.fieldLink "SoftWheelsModel" (46 : Nat) "SoftWheelsModel" "price" "[I") ∈ lw_all := lw_g (lw_at lw_m8 148 rfl) rfl
theorem q1926 : (Jvm.Cond.fieldLink "SoftWheelsModel" (49 : Nat) "SoftWheelsModel" "keep" "[I") ∈ lw_all := lw_g (lw_at lw_m8 149 rfl) rfl
theorem q1927 : (Jvm.Cond.fieldLink "SoftWheelsModel" (275 : Nat) "SoftWheelsModel" "hasMap" "Z") ∈ lw_all := lw_g (lw_at lw_m8 150 rfl) rfl
theorem q1928 : (Jvm.Cond.fieldLink "SoftWheelsModel" (341 : Nat) "SoftWheelsModel" "wide" "I") ∈ lw_all := lw_g (lw_at lw_m8 151 rfl) rfl
theorem q1929 : (Jvm.Cond.fieldLink "SoftWheelsModel" (344 : Nat) "SoftWheelsModel" "high" "I") ∈ lw_all := lw_g (lw_at lw_m8 152 rfl) rfl
theorem q1930 : (Jvm.Cond.fieldLink "SoftWheelsModel" (281 : Nat) "SoftWheelsModel" "doubts" "I") ∈ lw_all := lw_g (lw_at lw_m8 153 rfl) rfl
theorem q1931 : (Jvm.Cond.fieldLink "SoftWheelsModel" (284 : Nat) "SoftWheelsModel" "dead" "I") ∈ lw_all := lw_g (lw_at lw_m8 154 rfl) rfl
theorem q1932 : (Jvm.Cond.fieldLink "SoftWheelsModel" (134 : Nat) "SoftWheelsModel" "trouble" "I") ∈ lw_all := lw_g (lw_at lw_m8 155 rfl) rfl
theorem q1933 : (Jvm.Cond.fieldLink "SoftWheelsModel" (278 : Nat) "SoftWheelsModel" "plans" "I") ∈ lw_all := lw_g (lw_at lw_m8 156 rfl) rfl
theorem q1934 : (Jvm.Cond.fieldLink "SoftWheelsModel" (52 : Nat) "SoftWheelsModel" "heights" "[I") ∈ lw_all := lw_g (lw_at lw_m8 157 rfl) rfl
theorem q1935 : (Jvm.Cond.fieldLink "SoftWheelsModel" (55 : Nat) "SoftWheelsModel" "floors" "[I") ∈ lw_all := lw_g (lw_at lw_m8 158 rfl) rfl
theorem q1936 : (Jvm.Cond.fieldLink "SoftWheelsModel" (58 : Nat) "SoftWheelsModel" "doubtOf" "[I") ∈ lw_all := lw_g (lw_at lw_m8 159 rfl) rfl
theorem q1937 : (Jvm.Cond.fieldLink "SoftWheelsModel" (61 : Nat) "SoftWheelsModel" "doubtCell" "[I") ∈ lw_all := lw_g (lw_at lw_m8 160 rfl) rfl
theorem q1938 : (Jvm.Cond.fieldLink "SoftWheelsModel" (64 : Nat) "SoftWheelsModel" "known" "[I") ∈ lw_all := lw_g (lw_at lw_m8 161 rfl) rfl
theorem q1939 : (Jvm.Cond.fieldLink "SoftWheelsModel" (67 : Nat) "SoftWheelsModel" "weights" "[I") ∈ lw_all := lw_g (lw_at lw_m8 162 rfl) rfl
theorem q1940 : (Jvm.Cond.fieldLink "SoftWheelsModel" (70 : Nat) "SoftWheelsModel" "dug" "[I") ∈ lw_all := lw_g (lw_at lw_m8 163 rfl) rfl
theorem q1941 : (Jvm.Cond.fieldLink "SoftWheelsModel" (74 : Nat) "SoftWheelsModel" "value" "[J") ∈ lw_all := lw_g (lw_at lw_m8 164 rfl) rfl
theorem q1942 : (Jvm.Cond.fieldLink "SoftWheelsModel" (78 : Nat) "SoftWheelsModel" "goalNow" "I") ∈ lw_all := lw_g (lw_at lw_m8 165 rfl) rfl
theorem q1943 : (Jvm.Cond.fieldLink "SoftWheelsModel" (392 : Nat) "SoftWheelsModel" "meanNow" "Z") ∈ lw_all := lw_g (lw_at lw_m8 166 rfl) rfl
theorem q1944 : (Jvm.Cond.fieldLink "SoftWheelsModel" (287 : Nat) "SoftWheelsModel" "isSolved" "Z") ∈ lw_all := lw_g (lw_at lw_m8 167 rfl) rfl
theorem q1945 : (Jvm.Cond.fieldLink "SoftWheelsModel" (82 : Nat) "SoftWheelsModel" "kinds" "[I") ∈ lw_all := lw_g (lw_at lw_m8 168 rfl) rfl
theorem q1946 : (Jvm.Cond.fieldLink "SoftWheelsModel" (85 : Nat) "SoftWheelsModel" "many" "[I") ∈ lw_all := lw_g (lw_at lw_m8 169 rfl) rfl
theorem q1947 : (Jvm.Cond.fieldLink "SoftWheelsModel" (88 : Nat) "SoftWheelsModel" "path" "[I") ∈ lw_all := lw_g (lw_at lw_m8 170 rfl) rfl
theorem q1948 : (Jvm.Cond.fieldLink "SoftWheelsModel" (449 : Nat) "SoftWheelsModel" "pathSize" "I") ∈ lw_all := lw_g (lw_at lw_m8 171 rfl) rfl
theorem q1949 : (Jvm.Cond.fieldLink "SoftWheelsModel" (91 : Nat) "SoftWheelsModel" "orders" "[I") ∈ lw_all := lw_g (lw_at lw_m8 172 rfl) rfl
theorem q1950 : (Jvm.Cond.fieldLink "SoftWheelsModel" (94 : Nat) "SoftWheelsModel" "orderMany" "[I") ∈ lw_all := lw_g (lw_at lw_m8 173 rfl) rfl
theorem q1951 : (Jvm.Cond.fieldLink "SoftWheelsModel" (461 : Nat) "SoftWheelsModel" "fresh" "I") ∈ lw_all := lw_g (lw_at lw_m8 174 rfl) rfl
theorem q1952 : (Jvm.Cond.fieldLink "SoftWheelsModel" (467 : Nat) "SoftWheelsModel" "stepMany" "I") ∈ lw_all := lw_g (lw_at lw_m8 175 rfl) rfl
theorem q1953 : (Jvm.Cond.fieldLink "SoftWheelsModel" (97 : Nat) "SoftWheelsModel" "open" "[I") ∈ lw_all := lw_g (lw_at lw_m8 176 rfl) rfl
theorem q1954 : (Jvm.Cond.fieldLink "SoftWheelsModel" (100 : Nat) "SoftWheelsModel" "leaps" "[I") ∈ lw_all := lw_g (lw_at lw_m8 177 rfl) rfl
theorem q1955 : (Jvm.Cond.fieldLink "SoftWheelsModel" (103 : Nat) "SoftWheelsModel" "isElse" "[Z") ∈ lw_all := lw_g (lw_at lw_m8 178 rfl) rfl
theorem q1956 : (Jvm.Cond.fieldLink "SoftWheelsModel" (107 : Nat) "SoftWheelsModel" "firstTruth" "I") ∈ lw_all := lw_g (lw_at lw_m8 179 rfl) rfl
theorem q1957 : (Jvm.Cond.fieldLink "SoftWheelsModel" (110 : Nat) "SoftWheelsModel" "firstWhy" "I") ∈ lw_all := lw_g (lw_at lw_m8 180 rfl) rfl
theorem q1958 : (Jvm.Cond.fieldLink "SoftWheelsModel" (113 : Nat) "SoftWheelsModel" "firstSteps" "I") ∈ lw_all := lw_g (lw_at lw_m8 181 rfl) rfl
theorem q1959 : (Jvm.Cond.fieldLink "SoftWheelsModel" (483 : Nat) "SoftWheelsModel" "planSteps" "I") ∈ lw_all := lw_g (lw_at lw_m8 182 rfl) rfl
theorem q1960 : (Jvm.Cond.fieldLink "SoftWheelsModel" (486 : Nat) "SoftWheelsModel" "planCost" "I") ∈ lw_all := lw_g (lw_at lw_m8 183 rfl) rfl
theorem q1961 : (Jvm.Cond.fieldLink "SoftWheelsModel" (116 : Nat) "SoftWheelsModel" "digCost" "[I") ∈ lw_all := lw_g (lw_at lw_m8 184 rfl) rfl
theorem q1962 : (Jvm.Cond.fieldLink "SoftWheelsModel" (272 : Nat) "SoftWheelsModel" "isDigKnown" "Z") ∈ lw_all := lw_g (lw_at lw_m8 185 rfl) rfl
theorem q1963 : (Jvm.Cond.fieldLink "SoftWheelsModel" (119 : Nat) "SoftWheelsModel" "stepCost" "[I") ∈ lw_all := lw_g (lw_at lw_m8 186 rfl) rfl
theorem q1964 : (Jvm.Cond.fieldLink "SoftWheelsModel" (122 : Nat) "SoftWheelsModel" "byGround" "[I") ∈ lw_all := lw_g (lw_at lw_m8 187 rfl) rfl
theorem q1965 : (Jvm.Cond.fieldLink "SoftWheelsModel" (125 : Nat) "SoftWheelsModel" "nears" "[I") ∈ lw_all := lw_g (lw_at lw_m8 188 rfl) rfl
theorem q1966 : (Jvm.Cond.fieldLink "SoftWheelsModel" (455 : Nat) "SoftWheelsModel" "hasPath" "Z") ∈ lw_all := lw_g (lw_at lw_m8 189 rfl) rfl
theorem q1967 : (Jvm.Cond.fieldLink "SoftWheelsModel" (128 : Nat) "SoftWheelsModel" "other" "[I") ∈ lw_all := lw_g (lw_at lw_m8 190 rfl) rfl
theorem q1968 : (Jvm.Cond.lays "SoftWheelsModel" "SoftWheelsModel" "thrown" "I") ∈ lw_all := lw_g (lw_at lw_m8 191 rfl) rfl
theorem q1969 : (Jvm.Cond.soleField "SoftWheelsModel" "thrown") ∈ lw_all := lw_g (lw_at lw_m8 192 rfl) rfl
theorem q1970 : (Jvm.Cond.laysFinal "SoftWheelsModel" "SoftWheelsModel" "tape" "[I") ∈ lw_all := lw_g (lw_at lw_m8 193 rfl) rfl
theorem q1971 : (Jvm.Cond.soleField "SoftWheelsModel" "tape") ∈ lw_all := lw_g (lw_at lw_m8 194 rfl) rfl
theorem q1972 : (Jvm.Cond.lays "SoftWheelsModel" "SoftWheelsModel" "taped" "I") ∈ lw_all := lw_g (lw_at lw_m8 195 rfl) rfl
theorem q1973 : (Jvm.Cond.soleField "SoftWheelsModel" "taped") ∈ lw_all := lw_g (lw_at lw_m8 196 rfl) rfl
theorem q1974 : (Jvm.Cond.lays "SoftWheelsModel" "SoftWheelsModel" "size" "I") ∈ lw_all := lw_g (lw_at lw_m8 197 rfl) rfl
theorem q1975 : (Jvm.Cond.soleField "SoftWheelsModel" "size") ∈ lw_all := lw_g (lw_at lw_m8 198 rfl) rfl
theorem q1976 : (Jvm.Cond.lays "SoftWheelsModel" "SoftWheelsModel" "at" "I") ∈ lw_all := lw_g (lw_at lw_m8 199 rfl) rfl
theorem q1977 : (Jvm.Cond.soleField "SoftWheelsModel" "at") ∈ lw_all := lw_g (lw_at lw_m8 200 rfl) rfl
theorem q1978 : (Jvm.Cond.lays "SoftWheelsModel" "SoftWheelsModel" "end" "I") ∈ lw_all := lw_g (lw_at lw_m8 201 rfl) rfl
theorem q1979 : (Jvm.Cond.soleField "SoftWheelsModel" "end") ∈ lw_all := lw_g (lw_at lw_m8 202 rfl) rfl
theorem q1980 : (Jvm.Cond.lays "SoftWheelsModel" "SoftWheelsModel" "token" "I") ∈ lw_all := lw_g (lw_at lw_m8 203 rfl) rfl
theorem q1981 : (Jvm.Cond.soleField "SoftWheelsModel" "token") ∈ lw_all := lw_g (lw_at lw_m8 204 rfl) rfl
theorem q1982 : (Jvm.Cond.lays "SoftWheelsModel" "SoftWheelsModel" "whole" "I") ∈ lw_all := lw_g (lw_at lw_m8 205 rfl) rfl
theorem q1983 : (Jvm.Cond.soleField "SoftWheelsModel" "whole") ∈ lw_all := lw_g (lw_at lw_m8 206 rfl) rfl
theorem q1984 : (Jvm.Cond.lays "SoftWheelsModel" "SoftWheelsModel" "nameSize" "I") ∈ lw_all := lw_g (lw_at lw_m8 207 rfl) rfl
theorem q1985 : (Jvm.Cond.soleField "SoftWheelsModel" "nameSize") ∈ lw_all := lw_g (lw_at lw_m8 208 rfl) rfl
theorem q1986 : (Jvm.Cond.lays "SoftWheelsModel" "SoftWheelsModel" "fault" "I") ∈ lw_all := lw_g (lw_at lw_m8 209 rfl) rfl
theorem q1987 : (Jvm.Cond.soleField "SoftWheelsModel" "fault") ∈ lw_all := lw_g (lw_at lw_m8 210 rfl) rfl
theorem q1988 : (Jvm.Cond.lays "SoftWheelsModel" "SoftWheelsModel" "place" "I") ∈ lw_all := lw_g (lw_at lw_m8 211 rfl) rfl
theorem q1989 : (Jvm.Cond.soleField "SoftWheelsModel" "place") ∈ lw_all := lw_g (lw_at lw_m8 212 rfl) rfl
theorem q1990 : (Jvm.Cond.laysFinal "SoftWheelsModel" "SoftWheelsModel" "letters" "[I") ∈ lw_all := lw_g (lw_at lw_m8 213 rfl) rfl
theorem q1991 : (Jvm.Cond.soleField "SoftWheelsModel" "letters") ∈ lw_all := lw_g (lw_at lw_m8 214 rfl) rfl
theorem q1992 : (Jvm.Cond.lays "SoftWheelsModel" "SoftWheelsModel" "hasBook" "Z") ∈ lw_all := lw_g (lw_at lw_m8 215 rfl) rfl
theorem q1993 : (Jvm.Cond.soleField "SoftWheelsModel" "hasBook") ∈ lw_all := lw_g (lw_at lw_m8 216 rfl) rfl
theorem q1994 : (Jvm.Cond.lays "SoftWheelsModel" "SoftWheelsModel" "failed" "Z") ∈ lw_all := lw_g (lw_at lw_m8 217 rfl) rfl
theorem q1995 : (Jvm.Cond.soleField "SoftWheelsModel" "failed") ∈ lw_all := lw_g (lw_at lw_m8 218 rfl) rfl
theorem q1996 : (Jvm.Cond.laysFinal "SoftWheelsModel" "SoftWheelsModel" "groundNames" "[I") ∈ lw_all := lw_g (lw_at lw_m8 219 rfl) rfl
theorem q1997 : (Jvm.Cond.soleField "SoftWheelsModel" "groundNames") ∈ lw_all := lw_g (lw_at lw_m8 220 rfl) rfl
theorem q1998 : (Jvm.Cond.laysFinal "SoftWheelsModel" "SoftWheelsModel" "groundSizes" "[I") ∈ lw_all := lw_g (lw_at lw_m8 221 rfl) rfl
theorem q1999 : (Jvm.Cond.soleField "SoftWheelsModel" "groundSizes") ∈ lw_all := lw_g (lw_at lw_m8 222 rfl) rfl
theorem q2000 : (Jvm.Cond.laysFinal "SoftWheelsModel" "SoftWheelsModel" "tryNames" "[I") ∈ lw_all := lw_g (lw_at lw_m8 223 rfl) rfl
theorem q2001 : (Jvm.Cond.soleField "SoftWheelsModel" "tryNames") ∈ lw_all := lw_g (lw_at lw_m8 224 rfl) rfl
theorem q2002 : (Jvm.Cond.laysFinal "SoftWheelsModel" "SoftWheelsModel" "trySizes" "[I") ∈ lw_all := lw_g (lw_at lw_m8 225 rfl) rfl
theorem q2003 : (Jvm.Cond.soleField "SoftWheelsModel" "trySizes") ∈ lw_all := lw_g (lw_at lw_m8 226 rfl) rfl
theorem q2004 : (Jvm.Cond.laysFinal "SoftWheelsModel" "SoftWheelsModel" "sinkMany" "[I") ∈ lw_all := lw_g (lw_at lw_m8 227 rfl) rfl
theorem q2005 : (Jvm.Cond.soleField "SoftWheelsModel" "sinkMany") ∈ lw_all := lw_g (lw_at lw_m8 228 rfl) rfl
theorem q2006 : (Jvm.Cond.laysFinal "SoftWheelsModel" "SoftWheelsModel" "gripMany" "[I") ∈ lw_all := lw_g (lw_at lw_m8 229 rfl) rfl
theorem q2007 : (Jvm.Cond.soleField "SoftWheelsModel" "gripMany") ∈ lw_all := lw_g (lw_at lw_m8 230 rfl) rfl
theorem q2008 : (Jvm.Cond.laysFinal "SoftWheelsModel" "SoftWheelsModel" "sinks" "[I") ∈ lw_all := lw_g (lw_at lw_m8 231 rfl) rfl
theorem q2009 : (Jvm.Cond.soleField "SoftWheelsModel" "sinks") ∈ lw_all := lw_g (lw_at lw_m8 232 rfl) rfl
theorem q2010 : (Jvm.Cond.laysFinal "SoftWheelsModel" "SoftWheelsModel" "grips" "[I") ∈ lw_all := lw_g (lw_at lw_m8 233 rfl) rfl
theorem q2011 : (Jvm.Cond.soleField "SoftWheelsModel" "grips") ∈ lw_all := lw_g (lw_at lw_m8 234 rfl) rfl
theorem q2012 : (Jvm.Cond.lays "SoftWheelsModel" "SoftWheelsModel" "grounds" "I") ∈ lw_all := lw_g (lw_at lw_m8 235 rfl) rfl
theorem q2013 : (Jvm.Cond.soleField "SoftWheelsModel" "grounds") ∈ lw_all := lw_g (lw_at lw_m8 236 rfl) rfl
theorem q2014 : (Jvm.Cond.lays "SoftWheelsModel" "SoftWheelsModel" "tries" "I") ∈ lw_all := lw_g (lw_at lw_m8 237 rfl) rfl
theorem q2015 : (Jvm.Cond.soleField "SoftWheelsModel" "tries") ∈ lw_all := lw_g (lw_at lw_m8 238 rfl) rfl
theorem q2016 : (Jvm.Cond.lays "SoftWheelsModel" "SoftWheelsModel" "wheels" "I") ∈ lw_all := lw_g (lw_at lw_m8 239 rfl) rfl
theorem q2017 : (Jvm.Cond.soleField "SoftWheelsModel" "wheels") ∈ lw_all := lw_g (lw_at lw_m9 0 rfl) rfl
theorem q2018 : (Jvm.Cond.lays "SoftWheelsModel" "SoftWheelsModel" "weight" "I") ∈ lw_all := lw_g (lw_at lw_m9 1 rfl) rfl
theorem q2019 : (Jvm.Cond.soleField "SoftWheelsModel" "weight") ∈ lw_all := lw_g (lw_at lw_m9 2 rfl) rfl
theorem q2020 : (Jvm.Cond.lays "SoftWheelsModel" "SoftWheelsModel" "clear" "I") ∈ lw_all := lw_g (lw_at lw_m9 3 rfl) rfl
theorem q2021 : (Jvm.Cond.soleField "SoftWheelsModel" "clear") ∈ lw_all := lw_g (lw_at lw_m9 4 rfl) rfl
theorem q2022 : (Jvm.Cond.lays "SoftWheelsModel" "SoftWheelsModel" "tip" "I") ∈ lw_all := lw_g (lw_at lw_m9 5 rfl) rfl
theorem q2023 : (Jvm.Cond.soleField "SoftWheelsModel" "tip") ∈ lw_all := lw_g (lw_at lw_m9 6 rfl) rfl
theorem q2024 : (Jvm.Cond.lays "SoftWheelsModel" "SoftWheelsModel" "drag" "I") ∈ lw_all := lw_g (lw_at lw_m9 7 rfl) rfl
theorem q2025 : (Jvm.Cond.soleField "SoftWheelsModel" "drag") ∈ lw_all := lw_g (lw_at lw_m9 8 rfl) rfl
theorem q2026 : (Jvm.Cond.lays "SoftWheelsModel" "SoftWheelsModel" "hasRover" "Z") ∈ lw_all := lw_g (lw_at lw_m9 9 rfl) rfl
theorem q2027 : (Jvm.Cond.soleField "SoftWheelsModel" "hasRover") ∈ lw_all := lw_g (lw_at lw_m9 10 rfl) rfl
theorem q2028 : (Jvm.Cond.laysFinal "SoftWheelsModel" "SoftWheelsModel" "each" "[I") ∈ lw_all := lw_g (lw_at lw_m9 11 rfl) rfl
theorem q2029 : (Jvm.Cond.soleField "SoftWheelsModel" "each") ∈ lw_all := lw_g (lw_at lw_m9 12 rfl) rfl
theorem q2030 : (Jvm.Cond.laysFinal "SoftWheelsModel" "SoftWheelsModel" "one" "[I") ∈ lw_all := lw_g (lw_at lw_m9 13 rfl) rfl
theorem q2031 : (Jvm.Cond.soleField "SoftWheelsModel" "one") ∈ lw_all := lw_g (lw_at lw_m9 14 rfl) rfl
theorem q2032 : (Jvm.Cond.laysFinal "SoftWheelsModel" "SoftWheelsModel" "price" "[I") ∈ lw_all := lw_g (lw_at lw_m9 15 rfl) rfl
theorem q2033 : (Jvm.Cond.soleField "SoftWheelsModel" "price") ∈ lw_all := lw_g (lw_at lw_m9 16 rfl) rfl
theorem q2034 : (Jvm.Cond.laysFinal "SoftWheelsModel" "SoftWheelsModel" "keep" "[I") ∈ lw_all := lw_g (lw_at lw_m9 17 rfl) rfl
theorem q2035 : (Jvm.Cond.soleField "SoftWheelsModel" "keep") ∈ lw_all := lw_g (lw_at lw_m9 18 rfl) rfl
theorem q2036 : (Jvm.Cond.lays "SoftWheelsModel" "SoftWheelsModel" "hasMap" "Z") ∈ lw_all := lw_g (lw_at lw_m9 19 rfl) rfl
theorem q2037 : (Jvm.Cond.soleField "SoftWheelsModel" "hasMap") ∈ lw_all := lw_g (lw_at lw_m9 20 rfl) rfl
theorem q2038 : (Jvm.Cond.lays "SoftWheelsModel" "SoftWheelsModel" "wide" "I") ∈ lw_all := lw_g (lw_at lw_m9 21 rfl) rfl
theorem q2039 : (Jvm.Cond.soleField "SoftWheelsModel" "wide") ∈ lw_all := lw_g (lw_at lw_m9 22 rfl) rfl
theorem q2040 : (Jvm.Cond.lays "SoftWheelsModel" "SoftWheelsModel" "high" "I") ∈ lw_all := lw_g (lw_at lw_m9 23 rfl) rfl
theorem q2041 : (Jvm.Cond.soleField "SoftWheelsModel" "high") ∈ lw_all := lw_g (lw_at lw_m9 24 rfl) rfl
theorem q2042 : (Jvm.Cond.lays "SoftWheelsModel" "SoftWheelsModel" "doubts" "I") ∈ lw_all := lw_g (lw_at lw_m9 25 rfl) rfl
theorem q2043 : (Jvm.Cond.soleField "SoftWheelsModel" "doubts") ∈ lw_all := lw_g (lw_at lw_m9 26 rfl) rfl
theorem q2044 : (Jvm.Cond.lays "SoftWheelsModel" "SoftWheelsModel" "dead" "I") ∈ lw_all := lw_g (lw_at lw_m9 27 rfl) rfl
theorem q2045 : (Jvm.Cond.soleField "SoftWheelsModel" "dead") ∈ lw_all := lw_g (lw_at lw_m9 28 rfl) rfl
theorem q2046 : (Jvm.Cond.lays "SoftWheelsModel" "SoftWheelsModel" "trouble" "I") ∈ lw_all := lw_g (lw_at lw_m9 29 rfl) rfl
theorem q2047 : (Jvm.Cond.soleField "SoftWheelsModel" "trouble") ∈ lw_all := lw_g (lw_at lw_m9 30 rfl) rfl
theorem q2048 : (Jvm.Cond.lays "SoftWheelsModel" "SoftWheelsModel" "plans" "I") ∈ lw_all := lw_g (lw_at lw_m9 31 rfl) rfl
theorem q2049 : (Jvm.Cond.soleField "SoftWheelsModel" "plans") ∈ lw_all := lw_g (lw_at lw_m9 32 rfl) rfl
theorem q2050 : (Jvm.Cond.laysFinal "SoftWheelsModel" "SoftWheelsModel" "heights" "[I") ∈ lw_all := lw_g (lw_at lw_m9 33 rfl) rfl
theorem q2051 : (Jvm.Cond.soleField "SoftWheelsModel" "heights") ∈ lw_all := lw_g (lw_at lw_m9 34 rfl) rfl
theorem q2052 : (Jvm.Cond.laysFinal "SoftWheelsModel" "SoftWheelsModel" "floors" "[I") ∈ lw_all := lw_g (lw_at lw_m9 35 rfl) rfl
theorem q2053 : (Jvm.Cond.soleField "SoftWheelsModel" "floors") ∈ lw_all := lw_g (lw_at lw_m9 36 rfl) rfl
theorem q2054 : (Jvm.Cond.laysFinal "SoftWheelsModel" "SoftWheelsModel" "doubtOf" "[I") ∈ lw_all := lw_g (lw_at lw_m9 37 rfl) rfl
theorem q2055 : (Jvm.Cond.soleField "SoftWheelsModel" "doubtOf") ∈ lw_all := lw_g (lw_at lw_m9 38 rfl) rfl
theorem q2056 : (Jvm.Cond.laysFinal "SoftWheelsModel" "SoftWheelsModel" "doubtCell" "[I") ∈ lw_all := lw_g (lw_at lw_m9 39 rfl) rfl
theorem q2057 : (Jvm.Cond.soleField "SoftWheelsModel" "doubtCell") ∈ lw_all := lw_g (lw_at lw_m9 40 rfl) rfl
theorem q2058 : (Jvm.Cond.laysFinal "SoftWheelsModel" "SoftWheelsModel" "known" "[I") ∈ lw_all := lw_g (lw_at lw_m9 41 rfl) rfl
theorem q2059 : (Jvm.Cond.soleField "SoftWheelsModel" "known") ∈ lw_all := lw_g (lw_at lw_m9 42 rfl) rfl
theorem q2060 : (Jvm.Cond.laysFinal "SoftWheelsModel" "SoftWheelsModel" "weights" "[I") ∈ lw_all := lw_g (lw_at lw_m9 43 rfl) rfl
theorem q2061 : (Jvm.Cond.soleField "SoftWheelsModel" "weights") ∈ lw_all := lw_g (lw_at lw_m9 44 rfl) rfl
theorem q2062 : (Jvm.Cond.laysFinal "SoftWheelsModel" "SoftWheelsModel" "dug" "[I") ∈ lw_all := lw_g (lw_at lw_m9 45 rfl) rfl
theorem q2063 : (Jvm.Cond.soleField "SoftWheelsModel" "dug") ∈ lw_all := lw_g (lw_at lw_m9 46 rfl) rfl
theorem q2064 : (Jvm.Cond.laysFinal "SoftWheelsModel" "SoftWheelsModel" "value" "[J") ∈ lw_all := lw_g (lw_at lw_m9 47 rfl) rfl
theorem q2065 : (Jvm.Cond.soleField "SoftWheelsModel" "value") ∈ lw_all := lw_g (lw_at lw_m9 48 rfl) rfl
theorem q2066 : (Jvm.Cond.lays "SoftWheelsModel" "SoftWheelsModel" "goalNow" "I") ∈ lw_all := lw_g (lw_at lw_m9 49 rfl) rfl
theorem q2067 : (Jvm.Cond.soleField "SoftWheelsModel" "goalNow") ∈ lw_all := lw_g (lw_at lw_m9 50 rfl) rfl
theorem q2068 : (Jvm.Cond.lays "SoftWheelsModel" "SoftWheelsModel" "meanNow" "Z") ∈ lw_all := lw_g (lw_at lw_m9 51 rfl) rfl
theorem q2069 : (Jvm.Cond.soleField "SoftWheelsModel" "meanNow") ∈ lw_all := lw_g (lw_at lw_m9 52 rfl) rfl
theorem q2070 : (Jvm.Cond.lays "SoftWheelsModel" "SoftWheelsModel" "isSolved" "Z") ∈ lw_all := lw_g (lw_at lw_m9 53 rfl) rfl
theorem q2071 : (Jvm.Cond.soleField "SoftWheelsModel" "isSolved") ∈ lw_all := lw_g (lw_at lw_m9 54 rfl) rfl
theorem q2072 : (Jvm.Cond.laysFinal "SoftWheelsModel" "SoftWheelsModel" "kinds" "[I") ∈ lw_all := lw_g (lw_at lw_m9 55 rfl) rfl
theorem q2073 : (Jvm.Cond.soleField "SoftWheelsModel" "kinds") ∈ lw_all := lw_g (lw_at lw_m9 56 rfl) rfl
theorem q2074 : (Jvm.Cond.laysFinal "SoftWheelsModel" "SoftWheelsModel" "many" "[I") ∈ lw_all := lw_g (lw_at lw_m9 57 rfl) rfl
theorem q2075 : (Jvm.Cond.soleField "SoftWheelsModel" "many") ∈ lw_all := lw_g (lw_at lw_m9 58 rfl) rfl
theorem q2076 : (Jvm.Cond.laysFinal "SoftWheelsModel" "SoftWheelsModel" "path" "[I") ∈ lw_all := lw_g (lw_at lw_m9 59 rfl) rfl
theorem q2077 : (Jvm.Cond.soleField "SoftWheelsModel" "path") ∈ lw_all := lw_g (lw_at lw_m9 60 rfl) rfl
theorem q2078 : (Jvm.Cond.lays "SoftWheelsModel" "SoftWheelsModel" "pathSize" "I") ∈ lw_all := lw_g (lw_at lw_m9 61 rfl) rfl
theorem q2079 : (Jvm.Cond.soleField "SoftWheelsModel" "pathSize") ∈ lw_all := lw_g (lw_at lw_m9 62 rfl) rfl
theorem q2080 : (Jvm.Cond.laysFinal "SoftWheelsModel" "SoftWheelsModel" "orders" "[I") ∈ lw_all := lw_g (lw_at lw_m9 63 rfl) rfl
theorem q2081 : (Jvm.Cond.soleField "SoftWheelsModel" "orders") ∈ lw_all := lw_g (lw_at lw_m9 64 rfl) rfl
theorem q2082 : (Jvm.Cond.laysFinal "SoftWheelsModel" "SoftWheelsModel" "orderMany" "[I") ∈ lw_all := lw_g (lw_at lw_m9 65 rfl) rfl
theorem q2083 : (Jvm.Cond.soleField "SoftWheelsModel" "orderMany") ∈ lw_all := lw_g (lw_at lw_m9 66 rfl) rfl
theorem q2084 : (Jvm.Cond.lays "SoftWheelsModel" "SoftWheelsModel" "fresh" "I") ∈ lw_all := lw_g (lw_at lw_m9 67 rfl) rfl
theorem q2085 : (Jvm.Cond.soleField "SoftWheelsModel" "fresh") ∈ lw_all := lw_g (lw_at lw_m9 68 rfl) rfl
theorem q2086 : (Jvm.Cond.lays "SoftWheelsModel" "SoftWheelsModel" "stepMany" "I") ∈ lw_all := lw_g (lw_at lw_m9 69 rfl) rfl
theorem q2087 : (Jvm.Cond.soleField "SoftWheelsModel" "stepMany") ∈ lw_all := lw_g (lw_at lw_m9 70 rfl) rfl
theorem q2088 : (Jvm.Cond.laysFinal "SoftWheelsModel" "SoftWheelsModel" "open" "[I") ∈ lw_all := lw_g (lw_at lw_m9 71 rfl) rfl
theorem q2089 : (Jvm.Cond.soleField "SoftWheelsModel" "open") ∈ lw_all := lw_g (lw_at lw_m9 72 rfl) rfl
theorem q2090 : (Jvm.Cond.laysFinal "SoftWheelsModel" "SoftWheelsModel" "leaps" "[I") ∈ lw_all := lw_g (lw_at lw_m9 73 rfl) rfl
theorem q2091 : (Jvm.Cond.soleField "SoftWheelsModel" "leaps") ∈ lw_all := lw_g (lw_at lw_m9 74 rfl) rfl
theorem q2092 : (Jvm.Cond.laysFinal "SoftWheelsModel" "SoftWheelsModel" "isElse" "[Z") ∈ lw_all := lw_g (lw_at lw_m9 75 rfl) rfl
theorem q2093 : (Jvm.Cond.soleField "SoftWheelsModel" "isElse") ∈ lw_all := lw_g (lw_at lw_m9 76 rfl) rfl
theorem q2094 : (Jvm.Cond.lays "SoftWheelsModel" "SoftWheelsModel" "firstTruth" "I") ∈ lw_all := lw_g (lw_at lw_m9 77 rfl) rfl
theorem q2095 : (Jvm.Cond.soleField "SoftWheelsModel" "firstTruth") ∈ lw_all := lw_g (lw_at lw_m9 78 rfl) rfl
theorem q2096 : (Jvm.Cond.lays "SoftWheelsModel" "SoftWheelsModel" "firstWhy" "I") ∈ lw_all := lw_g (lw_at lw_m9 79 rfl) rfl
theorem q2097 : (Jvm.Cond.soleField "SoftWheelsModel" "firstWhy") ∈ lw_all := lw_g (lw_at lw_m9 80 rfl) rfl
theorem q2098 : (Jvm.Cond.lays "SoftWheelsModel" "SoftWheelsModel" "firstSteps" "I") ∈ lw_all := lw_g (lw_at lw_m9 81 rfl) rfl
theorem q2099 : (Jvm.Cond.soleField "SoftWheelsModel" "firstSteps") ∈ lw_all := lw_g (lw_at lw_m9 82 rfl) rfl
theorem q2100 : (Jvm.Cond.lays "SoftWheelsModel" "SoftWheelsModel" "planSteps" "I") ∈ lw_all := lw_g (lw_at lw_m9 83 rfl) rfl
theorem q2101 : (Jvm.Cond.soleField "SoftWheelsModel" "planSteps") ∈ lw_all := lw_g (lw_at lw_m9 84 rfl) rfl
theorem q2102 : (Jvm.Cond.lays "SoftWheelsModel" "SoftWheelsModel" "planCost" "I") ∈ lw_all := lw_g (lw_at lw_m9 85 rfl) rfl
theorem q2103 : (Jvm.Cond.soleField "SoftWheelsModel" "planCost") ∈ lw_all := lw_g (lw_at lw_m9 86 rfl) rfl
theorem q2104 : (Jvm.Cond.laysFinal "SoftWheelsModel" "SoftWheelsModel" "digCost" "[I") ∈ lw_all := lw_g (lw_at lw_m9 87 rfl) rfl
theorem q2105 : (Jvm.Cond.soleField "SoftWheelsModel" "digCost") ∈ lw_all := lw_g (lw_at lw_m9 88 rfl) rfl
theorem q2106 : (Jvm.Cond.lays "SoftWheelsModel" "SoftWheelsModel" "isDigKnown" "Z") ∈ lw_all := lw_g (lw_at lw_m9 89 rfl) rfl
theorem q2107 : (Jvm.Cond.soleField "SoftWheelsModel" "isDigKnown") ∈ lw_all := lw_g (lw_at lw_m9 90 rfl) rfl
theorem q2108 : (Jvm.Cond.laysFinal "SoftWheelsModel" "SoftWheelsModel" "stepCost" "[I") ∈ lw_all := lw_g (lw_at lw_m9 91 rfl) rfl
theorem q2109 : (Jvm.Cond.soleField "SoftWheelsModel" "stepCost") ∈ lw_all := lw_g (lw_at lw_m9 92 rfl) rfl
theorem q2110 : (Jvm.Cond.laysFinal "SoftWheelsModel" "SoftWheelsModel" "byGround" "[I") ∈ lw_all := lw_g (lw_at lw_m9 93 rfl) rfl
theorem q2111 : (Jvm.Cond.soleField "SoftWheelsModel" "byGround") ∈ lw_all := lw_g (lw_at lw_m9 94 rfl) rfl
theorem q2112 : (Jvm.Cond.laysFinal "SoftWheelsModel" "SoftWheelsModel" "nears" "[I") ∈ lw_all := lw_g (lw_at lw_m9 95 rfl) rfl
theorem q2113 : (Jvm.Cond.soleField "SoftWheelsModel" "nears") ∈ lw_all := lw_g (lw_at lw_m9 96 rfl) rfl
theorem q2114 : (Jvm.Cond.lays "SoftWheelsModel" "SoftWheelsModel" "hasPath" "Z") ∈ lw_all := lw_g (lw_at lw_m9 97 rfl) rfl
theorem q2115 : (Jvm.Cond.soleField "SoftWheelsModel" "hasPath") ∈ lw_all := lw_g (lw_at lw_m9 98 rfl) rfl
theorem q2116 : (Jvm.Cond.laysFinal "SoftWheelsModel" "SoftWheelsModel" "other" "[I") ∈ lw_all := lw_g (lw_at lw_m9 99 rfl) rfl
theorem q2117 : (Jvm.Cond.soleField "SoftWheelsModel" "other") ∈ lw_all := lw_g (lw_at lw_m9 100 rfl) rfl
theorem q2118 : (Jvm.Cond.superclass "SoftWheelsModel" "java/lang/Object") ∈ lw_all := lw_g (lw_at lw_m9 101 rfl) rfl
theorem q2120 : (Jvm.Cond.instanceMethod ({ cls := "SoftWheelsModel", name := "thrown", desc := "()I" } : Jvm.MethodName)) ∈ lw_all := lw_g (lw_at lw_m9 103 rfl) rfl
theorem q2121 : (Jvm.Cond.selects "SoftWheelsModel" ({ cls := "SoftWheelsModel", name := "thrown", desc := "()I" } : Jvm.MethodName) ({ cls := "SoftWheelsModel", name := "thrown", desc := "()I" } : Jvm.MethodName)) ∈ lw_all := lw_g (lw_at lw_m9 104 rfl) rfl
theorem q2122 : (Jvm.Cond.code ({ cls := "SoftWheelsModel", name := "thrown", desc := "()I" } : Jvm.MethodName) prog_23_method_2_code (1 : Nat) (Option.some Jvm.ClassFile.FieldType.int)) ∈ lw_all := lw_g (lw_at lw_m9 105 rfl) rfl
theorem q2124 : (Jvm.Cond.instanceMethod ({ cls := "SoftWheelsModel", name := "feed", desc := "(IIIII)I" } : Jvm.MethodName)) ∈ lw_all := lw_g (lw_at lw_m9 107 rfl) rfl
theorem q2125 : (Jvm.Cond.selects "SoftWheelsModel" ({ cls := "SoftWheelsModel", name := "feed", desc := "(IIIII)I" } : Jvm.MethodName) ({ cls := "SoftWheelsModel", name := "feed", desc := "(IIIII)I" } : Jvm.MethodName)) ∈ lw_all := lw_g (lw_at lw_m9 108 rfl) rfl
theorem q2126 : (Jvm.Cond.code ({ cls := "SoftWheelsModel", name := "feed", desc := "(IIIII)I" } : Jvm.MethodName) prog_23_method_7_code (8 : Nat) (Option.some Jvm.ClassFile.FieldType.int)) ∈ lw_all := lw_g (lw_at lw_m9 109 rfl) rfl
theorem q2128 : (Jvm.Cond.instanceMethod ({ cls := "SoftWheelsModel", name := "book", desc := "(I)I" } : Jvm.MethodName)) ∈ lw_all := lw_g (lw_at lw_m9 111 rfl) rfl
theorem q2129 : (Jvm.Cond.selects "SoftWheelsModel" ({ cls := "SoftWheelsModel", name := "book", desc := "(I)I" } : Jvm.MethodName) ({ cls := "SoftWheelsModel", name := "book", desc := "(I)I" } : Jvm.MethodName)) ∈ lw_all := lw_g (lw_at lw_m9 112 rfl) rfl
theorem q2130 : (Jvm.Cond.code ({ cls := "SoftWheelsModel", name := "book", desc := "(I)I" } : Jvm.MethodName) prog_23_method_22_code (3 : Nat) (Option.some Jvm.ClassFile.FieldType.int)) ∈ lw_all := lw_g (lw_at lw_m9 113 rfl) rfl
theorem q2131 : (Jvm.Cond.methodLink "SoftWheelsModel" (249 : Nat) ({ cls := "SoftWheelsModel", name := "good", desc := "()V" } : Jvm.MethodName)) ∈ lw_all := lw_g (lw_at lw_m9 114 rfl) rfl
theorem q2132 : (Jvm.Cond.privateMethod ({ cls := "SoftWheelsModel", name := "good", desc := "()V" } : Jvm.MethodName)) ∈ lw_tbl := lw_at lw_m9 115 rfl
theorem q2133 : (Jvm.Cond.instanceMethod ({ cls := "SoftWheelsModel", name := "good", desc := "()V" } : Jvm.MethodName)) ∈ lw_all := lw_g (lw_at lw_m9 116 rfl) rfl
theorem q2134 : (Jvm.Cond.code ({ cls := "SoftWheelsModel", name := "good", desc := "()V" } : Jvm.MethodName) prog_23_method_3_code (1 : Nat) (Option.none : Option Jvm.ClassFile.FieldType)) ∈ lw_all := lw_g (lw_at lw_m9 117 rfl) rfl
theorem q2135 : (Jvm.Cond.methodLink "SoftWheelsModel" (220 : Nat) ({ cls := "SoftWheelsModel", name := "within", desc := "(III)Z" } : Jvm.MethodName)) ∈ lw_all := lw_g (lw_at lw_m9 118 rfl) rfl
theorem q2136 : (Jvm.Cond.static ({ cls := "SoftWheelsModel", name := "within", desc := "(III)Z" } : Jvm.MethodName)) ∈ lw_all := lw_g (lw_at lw_m9 119 rfl) rfl
theorem q2137 : (Jvm.Cond.code ({ cls := "SoftWheelsModel", name := "within", desc := "(III)Z" } : Jvm.MethodName) prog_23_method_6_code (3 : Nat) (Option.some Jvm.ClassFile.FieldType.boolean)) ∈ lw_all := lw_g (lw_at lw_m9 120 rfl) rfl
theorem q2138 : (Jvm.Cond.methodLink "SoftWheelsModel" (252 : Nat) ({ cls := "SoftWheelsModel", name := "no", desc := "(I)I" } : Jvm.MethodName)) ∈ lw_all := lw_g (lw_at lw_m9 121 rfl) rfl
theorem q2139 : (Jvm.Cond.privateMethod ({ cls := "SoftWheelsModel", name := "no", desc := "(I)I" } : Jvm.MethodName)) ∈ lw_tbl := lw_at lw_m9 122 rfl
theorem q2140 : (Jvm.Cond.instanceMethod ({ cls := "SoftWheelsModel", name := "no", desc := "(I)I" } : Jvm.MethodName)) ∈ lw_all := lw_g (lw_at lw_m9 123 rfl) rfl
theorem q2141 : (Jvm.Cond.code ({ cls := "SoftWheelsModel", name := "no", desc := "(I)I" } : Jvm.MethodName) prog_23_method_4_code (2 : Nat) (Option.some Jvm.ClassFile.FieldType.int)) ∈ lw_all := lw_g (lw_at lw_m9 124 rfl) rfl
theorem q2142 : (Jvm.Cond.methodLink "SoftWheelsModel" (255 : Nat) ({ cls := "SoftWheelsModel", name := "store", desc := "(Z)V" } : Jvm.MethodName)) ∈ lw_all := lw_g (lw_at lw_m9 125 rfl) rfl
theorem q2143 : (Jvm.Cond.privateMethod ({ cls := "SoftWheelsModel", name := "store", desc := "(Z)V" } : Jvm.MethodName)) ∈ lw_tbl := lw_at lw_m9 126 rfl
theorem q2144 : (Jvm.Cond.instanceMethod ({ cls := "SoftWheelsModel", name := "store", desc := "(Z)V" } : Jvm.MethodName)) ∈ lw_all := lw_g (lw_at lw_m9 127 rfl) rfl
theorem q2145 : (Jvm.Cond.code ({ cls := "SoftWheelsModel", name := "store", desc := "(Z)V" } : Jvm.MethodName) prog_23_method_20_code (4 : Nat) (Option.none : Option Jvm.ClassFile.FieldType)) ∈ lw_all := lw_g (lw_at lw_m9 128 rfl) rfl
theorem q2146 : (Jvm.Cond.methodLink "SoftWheelsModel" (224 : Nat) ({ cls := "SoftWheelsModel", name := "cell", desc := "([IIIZ)I" } : Jvm.MethodName)) ∈ lw_all := lw_g (lw_at lw_m9 129 rfl) rfl
theorem q2147 : (Jvm.Cond.privateMethod ({ cls := "SoftWheelsModel", name := "cell", desc := "([IIIZ)I" } : Jvm.MethodName)) ∈ lw_tbl := lw_at lw_m9 130 rfl
theorem q2148 : (Jvm.Cond.instanceMethod ({ cls := "SoftWheelsModel", name := "cell", desc := "([IIIZ)I" } : Jvm.MethodName)) ∈ lw_all := lw_g (lw_at lw_m9 131 rfl) rfl
theorem q2149 : (Jvm.Cond.code ({ cls := "SoftWheelsModel", name := "cell", desc := "([IIIZ)I" } : Jvm.MethodName) prog_23_method_21_code (5 : Nat) (Option.some Jvm.ClassFile.FieldType.int)) ∈ lw_all := lw_g (lw_at lw_m9 132 rfl) rfl
theorem q2150 : (Jvm.Cond.methodLink "SoftWheelsModel" (262 : Nat) ({ cls := "SoftWheelsModel", name := "begins", desc := "(I)V" } : Jvm.MethodName)) ∈ lw_all := lw_g (lw_at lw_m9 133 rfl) rfl
theorem q2151 : (Jvm.Cond.privateMethod ({ cls := "SoftWheelsModel", name := "begins", desc := "(I)V" } : Jvm.MethodName)) ∈ lw_tbl := lw_at lw_m9 134 rfl
theorem q2152 : (Jvm.Cond.instanceMethod ({ cls := "SoftWheelsModel", name := "begins", desc := "(I)V" } : Jvm.MethodName)) ∈ lw_all := lw_g (lw_at lw_m9 135 rfl) rfl
theorem q2153 : (Jvm.Cond.code ({ cls := "SoftWheelsModel", name := "begins", desc := "(I)V" } : Jvm.MethodName) prog_23_method_12_code (2 : Nat) (Option.none : Option Jvm.ClassFile.FieldType)) ∈ lw_all := lw_g (lw_at lw_m9 136 rfl) rfl
theorem q2154 : (Jvm.Cond.methodLink "SoftWheelsModel" (173 : Nat) ({ cls := "SoftWheelsModel", name := "next", desc := "()V" } : Jvm.MethodName)) ∈ lw_all := lw_g (lw_at lw_m9 137 rfl) rfl
theorem q2155 : (Jvm.Cond.privateMethod ({ cls := "SoftWheelsModel", name := "next", desc := "()V" } : Jvm.MethodName)) ∈ lw_tbl := lw_at lw_m9 138 rfl
theorem q2156 : (Jvm.Cond.instanceMethod ({ cls := "SoftWheelsModel", name := "next", desc := "()V" } : Jvm.MethodName)) ∈ lw_all := lw_g (lw_at lw_m9 139 rfl) rfl
theorem q2157 : (Jvm.Cond.code ({ cls := "SoftWheelsModel", name := "next", desc := "()V" } : Jvm.MethodName) prog_23_method_11_code (4 : Nat) (Option.none : Option Jvm.ClassFile.FieldType)) ∈ lw_all := lw_g (lw_at lw_m9 140 rfl) rfl
theorem q2158 : (Jvm.Cond.methodLink "SoftWheelsModel" (146 : Nat) ({ cls := "SoftWheelsModel", name := "look", desc := "(I)I" } : Jvm.MethodName)) ∈ lw_all := lw_g (lw_at lw_m9 141 rfl) rfl
theorem q2159 : (Jvm.Cond.privateMethod ({ cls := "SoftWheelsModel", name := "look", desc := "(I)I" } : Jvm.MethodName)) ∈ lw_tbl := lw_at lw_m9 142 rfl
theorem q2160 : (Jvm.Cond.instanceMethod ({ cls := "SoftWheelsModel", name := "look", desc := "(I)I" } : Jvm.MethodName)) ∈ lw_all := lw_g (lw_at lw_m9 143 rfl) rfl
theorem q2161 : (Jvm.Cond.code ({ cls := "SoftWheelsModel", name := "look", desc := "(I)I" } : Jvm.MethodName) prog_23_method_8_code (2 : Nat) (Option.some Jvm.ClassFile.FieldType.int)) ∈ lw_all := lw_g (lw_at lw_m9 144 rfl) rfl
theorem q2162 : (Jvm.Cond.methodLink "SoftWheelsModel" (162 : Nat) ({ cls := "SoftWheelsModel", name := "isSmall", desc := "(I)Z" } : Jvm.MethodName)) ∈ lw_all := lw_g (lw_at lw_m9 145 rfl) rfl
theorem q2163 : (Jvm.Cond.static ({ cls := "SoftWheelsModel", name := "isSmall", desc := "(I)Z" } : Jvm.MethodName)) ∈ lw_all := lw_g (lw_at lw_m9 146 rfl) rfl
theorem q2164 : (Jvm.Cond.code ({ cls := "SoftWheelsModel", name := "isSmall", desc := "(I)Z" } : Jvm.MethodName) prog_23_method_9_code (1 : Nat) (Option.some Jvm.ClassFile.FieldType.boolean)) ∈ lw_all := lw_g (lw_at lw_m9 147 rfl) rfl
theorem q2165 : (Jvm.Cond.methodLink "SoftWheelsModel" (166 : Nat) ({ cls := "SoftWheelsModel", name := "isDigit", desc := "(I)Z" } : Jvm.MethodName)) ∈ lw_all := lw_g (lw_at lw_m9 148 rfl) rfl
theorem q2166 : (Jvm.Cond.static ({ cls := "SoftWheelsModel", name := "isDigit", desc := "(I)Z" } : Jvm.MethodName)) ∈ lw_all := lw_g (lw_at lw_m9 149 rfl) rfl
theorem q2167 : (Jvm.Cond.code ({ cls := "SoftWheelsModel", name := "isDigit", desc := "(I)Z" } : Jvm.MethodName) prog_23_method_10_code (1 : Nat) (Option.some Jvm.ClassFile.FieldType.boolean)) ∈ lw_all := lw_g (lw_at lw_m9 150 rfl) rfl
theorem q2168 : (Jvm.Cond.methodLink "SoftWheelsModel" (266 : Nat) ({ cls := "SoftWheelsModel", name := "line", desc := "()V" } : Jvm.MethodName)) ∈ lw_all := lw_g (lw_at lw_m9 151 rfl) rfl
theorem q2169 : (Jvm.Cond.privateMethod ({ cls := "SoftWheelsModel", name := "line", desc := "()V" } : Jvm.MethodName)) ∈ lw_tbl := lw_at lw_m9 152 rfl
theorem q2170 : (Jvm.Cond.instanceMethod ({ cls := "SoftWheelsModel", name := "line", desc := "()V" } : Jvm.MethodName)) ∈ lw_all := lw_g (lw_at lw_m9 153 rfl) rfl
theorem q2171 : (Jvm.Cond.code ({ cls := "SoftWheelsModel", name := "line", desc := "()V" } : Jvm.MethodName) prog_23_method_23_code (1 : Nat) (Option.none : Option Jvm.ClassFile.FieldType)) ∈ lw_all := lw_g (lw_at lw_m9 154 rfl) rfl
theorem q2172 : (Jvm.Cond.stringRef "SoftWheelsModel" (200 : Nat) "ground") ∈ lw_tbl := lw_at lw_m9 155 rfl
theorem q2173 : (Jvm.Cond.methodLink "SoftWheelsModel" (192 : Nat) ({ cls := "SoftWheelsModel", name := "word", desc := "(Ljava/lang/String;)Z" } : Jvm.MethodName)) ∈ lw_all := lw_g (lw_at lw_m9 156 rfl) rfl
theorem q2174 : (Jvm.Cond.privateMethod ({ cls := "SoftWheelsModel", name := "word", desc := "(Ljava/lang/String;)Z" } : Jvm.MethodName)) ∈ lw_tbl := lw_at lw_m9 157 rfl
theorem q2175 : (Jvm.Cond.instanceMethod ({ cls := "SoftWheelsModel", name := "word", desc := "(Ljava/lang/String;)Z" } : Jvm.MethodName)) ∈ lw_all := lw_g (lw_at lw_m9 158 rfl) rfl
theorem q2176 : (Jvm.Cond.code ({ cls := "SoftWheelsModel", name := "word", desc := "(Ljava/lang/String;)Z" } : Jvm.MethodName) prog_23_method_14_code (4 : Nat) (Option.some Jvm.ClassFile.FieldType.boolean)) ∈ lw_all := lw_g (lw_at lw_m9 159 rfl) rfl
theorem q2177 : (Jvm.Cond.methodLink "SoftWheelsModel" (182 : Nat) ({ cls := "java/lang/String", name := "length", desc := "()I" } : Jvm.MethodName)) ∈ lw_all := lw_g (lw_at lw_m9 160 rfl) rfl
theorem q2178 : (Jvm.Cond.methodLink "SoftWheelsModel" (188 : Nat) ({ cls := "java/lang/String", name := "charAt", desc := "(I)C" } : Jvm.MethodName)) ∈ lw_all := lw_g (lw_at lw_m9 161 rfl) rfl
theorem q2179 : (Jvm.Cond.methodLink "SoftWheelsModel" (290 : Nat) ({ cls := "SoftWheelsModel", name := "groundLine", desc := "()V" } : Jvm.MethodName)) ∈ lw_all := lw_g (lw_at lw_m9 162 rfl) rfl
theorem q2180 : (Jvm.Cond.privateMethod ({ cls := "SoftWheelsModel", name := "groundLine", desc := "()V" } : Jvm.MethodName)) ∈ lw_tbl := lw_at lw_m9 163 rfl
theorem q2181 : (Jvm.Cond.instanceMethod ({ cls := "SoftWheelsModel", name := "groundLine", desc := "()V" } : Jvm.MethodName)) ∈ lw_all := lw_g (lw_at lw_m9 164 rfl) rfl
theorem q2182 : (Jvm.Cond.code ({ cls := "SoftWheelsModel", name := "groundLine", desc := "()V" } : Jvm.MethodName) prog_23_method_24_code (2 : Nat) (Option.none : Option Jvm.ClassFile.FieldType)) ∈ lw_all := lw_g (lw_at lw_m9 165 rfl) rfl
theorem q2183 : (Jvm.Cond.methodLink "SoftWheelsModel" (308 : Nat) ({ cls := "SoftWheelsModel", name := "isName", desc := "()Z" } : Jvm.MethodName)) ∈ lw_all := lw_g (lw_at lw_m9 166 rfl) rfl
theorem q2184 : (Jvm.Cond.privateMethod ({ cls := "SoftWheelsModel", name := "isName", desc := "()Z" } : Jvm.MethodName)) ∈ lw_tbl := lw_at lw_m9 167 rfl
theorem q2185 : (Jvm.Cond.instanceMethod ({ cls := "SoftWheelsModel", name := "isName", desc := "()Z" } : Jvm.MethodName)) ∈ lw_all := lw_g (lw_at lw_m9 168 rfl) rfl
theorem q2186 : (Jvm.Cond.code ({ cls := "SoftWheelsModel", name := "isName", desc := "()Z" } : Jvm.MethodName) prog_23_method_16_code (2 : Nat) (Option.some Jvm.ClassFile.FieldType.boolean)) ∈ lw_all := lw_g (lw_at lw_m9 169 rfl) rfl
theorem q2187 : (Jvm.Cond.stringRef "SoftWheelsModel" (202 : Nat) "rover") ∈ lw_tbl := lw_at lw_m9 170 rfl
theorem q2188 : (Jvm.Cond.stringRef "SoftWheelsModel" (204 : Nat) "try") ∈ lw_tbl := lw_at lw_m9 171 rfl
theorem q2189 : (Jvm.Cond.stringRef "SoftWheelsModel" (206 : Nat) "if") ∈ lw_tbl := lw_at lw_m9 172 rfl
theorem q2190 : (Jvm.Cond.stringRef "SoftWheelsModel" (208 : Nat) "is") ∈ lw_tbl := lw_at lw_m9 173 rfl
theorem q2191 : (Jvm.Cond.stringRef "SoftWheelsModel" (210 : Nat) "else") ∈ lw_tbl := lw_at lw_m9 174 rfl
theorem q2192 : (Jvm.Cond.stringRef "SoftWheelsModel" (212 : Nat) "right") ∈ lw_tbl := lw_at lw_m9 175 rfl
theorem q2193 : (Jvm.Cond.stringRef "SoftWheelsModel" (214 : Nat) "left") ∈ lw_tbl := lw_at lw_m9 176 rfl
theorem q2194 : (Jvm.Cond.stringRef "SoftWheelsModel" (216 : Nat) "up") ∈ lw_tbl := lw_at lw_m9 177 rfl
theorem q2195 : (Jvm.Cond.stringRef "SoftWheelsModel" (218 : Nat) "down") ∈ lw_tbl := lw_at lw_m9 178 rfl
theorem q2196 : (Jvm.Cond.methodLink "SoftWheelsModel" (196 : Nat) ({ cls := "SoftWheelsModel", name := "wrong", desc := "(II)Z" } : Jvm.MethodName)) ∈ lw_all := lw_g (lw_at lw_m9 179 rfl) rfl
theorem q2197 : (Jvm.Cond.privateMethod ({ cls := "SoftWheelsModel", name := "wrong", desc := "(II)Z" } : Jvm.MethodName)) ∈ lw_tbl := lw_at lw_m9 180 rfl
theorem q2198 : (Jvm.Cond.instanceMethod ({ cls := "SoftWheelsModel", name := "wrong", desc := "(II)Z" } : Jvm.MethodName)) ∈ lw_all := lw_g (lw_at lw_m9 181 rfl) rfl
theorem q2199 : (Jvm.Cond.code ({ cls := "SoftWheelsModel", name := "wrong", desc := "(II)Z" } : Jvm.MethodName) prog_23_method_13_code (3 : Nat) (Option.some Jvm.ClassFile.FieldType.boolean)) ∈ lw_all := lw_g (lw_at lw_m9 182 rfl) rfl
theorem q2200 : (Jvm.Cond.methodLink "SoftWheelsModel" (312 : Nat) ({ cls := "SoftWheelsModel", name := "find", desc := "([I[II)I" } : Jvm.MethodName)) ∈ lw_all := lw_g (lw_at lw_m9 183 rfl) rfl
theorem q2201 : (Jvm.Cond.privateMethod ({ cls := "SoftWheelsModel", name := "find", desc := "([I[II)I" } : Jvm.MethodName)) ∈ lw_tbl := lw_at lw_m9 184 rfl
theorem q2202 : (Jvm.Cond.instanceMethod ({ cls := "SoftWheelsModel", name := "find", desc := "([I[II)I" } : Jvm.MethodName)) ∈ lw_all := lw_g (lw_at lw_m9 185 rfl) rfl
theorem q2203 : (Jvm.Cond.code ({ cls := "SoftWheelsModel", name := "find", desc := "([I[II)I" } : Jvm.MethodName) prog_23_method_17_code (7 : Nat) (Option.some Jvm.ClassFile.FieldType.int)) ∈ lw_all := lw_g (lw_at lw_m9 186 rfl) rfl
theorem q2204 : (Jvm.Cond.stringRef "SoftWheelsModel" (316 : Nat) "sinks") ∈ lw_tbl := lw_at lw_m9 187 rfl
theorem q2205 : (Jvm.Cond.methodLink "SoftWheelsModel" (294 : Nat) ({ cls := "SoftWheelsModel", name := "must", desc := "(Ljava/lang/String;)Z" } : Jvm.MethodName)) ∈ lw_all := lw_g (lw_at lw_m9 188 rfl) rfl
theorem q2206 : (Jvm.Cond.privateMethod ({ cls := "SoftWheelsModel", name := "must", desc := "(Ljava/lang/String;)Z" } : Jvm.MethodName)) ∈ lw_tbl := lw_at lw_m9 189 rfl
theorem q2207 : (Jvm.Cond.instanceMethod ({ cls := "SoftWheelsModel", name := "must", desc := "(Ljava/lang/String;)Z" } : Jvm.MethodName)) ∈ lw_all := lw_g (lw_at lw_m9 190 rfl) rfl
theorem q2208 : (Jvm.Cond.code ({ cls := "SoftWheelsModel", name := "must", desc := "(Ljava/lang/String;)Z" } : Jvm.MethodName) prog_23_method_15_code (2 : Nat) (Option.some Jvm.ClassFile.FieldType.boolean)) ∈ lw_all := lw_g (lw_at lw_m9 191 rfl) rfl
theorem q2209 : (Jvm.Cond.methodLink "SoftWheelsModel" (317 : Nat) ({ cls := "SoftWheelsModel", name := "pairs", desc := "([IZ)I" } : Jvm.MethodName)) ∈ lw_all := lw_g (lw_at lw_m9 192 rfl) rfl
theorem q2210 : (Jvm.Cond.privateMethod ({ cls := "SoftWheelsModel", name := "pairs", desc := "([IZ)I" } : Jvm.MethodName)) ∈ lw_tbl := lw_at lw_m9 193 rfl
theorem q2211 : (Jvm.Cond.instanceMethod ({ cls := "SoftWheelsModel", name := "pairs", desc := "([IZ)I" } : Jvm.MethodName)) ∈ lw_all := lw_g (lw_at lw_m9 194 rfl) rfl
theorem q2212 : (Jvm.Cond.code ({ cls := "SoftWheelsModel", name := "pairs", desc := "([IZ)I" } : Jvm.MethodName) prog_23_method_25_code (10 : Nat) (Option.some Jvm.ClassFile.FieldType.int)) ∈ lw_all := lw_g (lw_at lw_m9 195 rfl) rfl
theorem q2213 : (Jvm.Cond.methodLink "SoftWheelsModel" (297 : Nat) ({ cls := "SoftWheelsModel", name := "number", desc := "(II)I" } : Jvm.MethodName)) ∈ lw_all := lw_g (lw_at lw_m9 196 rfl) rfl
theorem q2214 : (Jvm.Cond.privateMethod ({ cls := "SoftWheelsModel", name := "number", desc := "(II)I" } : Jvm.MethodName)) ∈ lw_tbl := lw_at lw_m9 197 rfl
theorem q2215 : (Jvm.Cond.instanceMethod ({ cls := "SoftWheelsModel", name := "number", desc := "(II)I" } : Jvm.MethodName)) ∈ lw_all := lw_g (lw_at lw_m9 198 rfl) rfl
theorem q2216 : (Jvm.Cond.code ({ cls := "SoftWheelsModel", name := "number", desc := "(II)I" } : Jvm.MethodName) prog_23_method_18_code (4 : Nat) (Option.some Jvm.ClassFile.FieldType.int)) ∈ lw_all := lw_g (lw_at lw_m9 199 rfl) rfl
theorem q2217 : (Jvm.Cond.stringRef "SoftWheelsModel" (321 : Nat) "grips") ∈ lw_tbl := lw_at lw_m9 200 rfl
theorem q2218 : (Jvm.Cond.stringRef "SoftWheelsModel" (293 : Nat) "wheels") ∈ lw_tbl := lw_at lw_m9 201 rfl
theorem q2219 : (Jvm.Cond.stringRef "SoftWheelsModel" (301 : Nat) "weight") ∈ lw_tbl := lw_at lw_m9 202 rfl
theorem q2220 : (Jvm.Cond.stringRef "SoftWheelsModel" (302 : Nat) "clear") ∈ lw_tbl := lw_at lw_m9 203 rfl
theorem q2221 : (Jvm.Cond.stringRef "SoftWheelsModel" (303 : Nat) "tip") ∈ lw_tbl := lw_at lw_m9 204 rfl
theorem q2222 : (Jvm.Cond.stringRef "SoftWheelsModel" (304 : Nat) "drag") ∈ lw_tbl := lw_at lw_m9 205 rfl
theorem q2223 : (Jvm.Cond.methodLink "SoftWheelsModel" (305 : Nat) ({ cls := "SoftWheelsModel", name := "tryLine", desc := "()V" } : Jvm.MethodName)) ∈ lw_all := lw_g (lw_at lw_m9 206 rfl) rfl
theorem q2224 : (Jvm.Cond.privateMethod ({ cls := "SoftWheelsModel", name := "tryLine", desc := "()V" } : Jvm.MethodName)) ∈ lw_tbl := lw_at lw_m9 207 rfl
theorem q2225 : (Jvm.Cond.instanceMethod ({ cls := "SoftWheelsModel", name := "tryLine", desc := "()V" } : Jvm.MethodName)) ∈ lw_all := lw_g (lw_at lw_m9 208 rfl) rfl
theorem q2226 : (Jvm.Cond.code ({ cls := "SoftWheelsModel", name := "tryLine", desc := "()V" } : Jvm.MethodName) prog_23_method_26_code (2 : Nat) (Option.none : Option Jvm.ClassFile.FieldType)) ∈ lw_all := lw_g (lw_at lw_m9 209 rfl) rfl
theorem q2227 : (Jvm.Cond.stringRef "SoftWheelsModel" (322 : Nat) "each") ∈ lw_tbl := lw_at lw_m9 210 rfl
theorem q2228 : (Jvm.Cond.methodLink "SoftWheelsModel" (323 : Nat) ({ cls := "SoftWheelsModel", name := "signed", desc := "(II)I" } : Jvm.MethodName)) ∈ lw_all := lw_g (lw_at lw_m9 211 rfl) rfl
theorem q2229 : (Jvm.Cond.privateMethod ({ cls := "SoftWheelsModel", name := "signed", desc := "(II)I" } : Jvm.MethodName)) ∈ lw_tbl := lw_at lw_m9 212 rfl
theorem q2230 : (Jvm.Cond.instanceMethod ({ cls := "SoftWheelsModel", name := "signed", desc := "(II)I" } : Jvm.MethodName)) ∈ lw_all := lw_g (lw_at lw_m9 213 rfl) rfl
theorem q2231 : (Jvm.Cond.code ({ cls := "SoftWheelsModel", name := "signed", desc := "(II)I" } : Jvm.MethodName) prog_23_method_19_code (6 : Nat) (Option.some Jvm.ClassFile.FieldType.int)) ∈ lw_all := lw_g (lw_at lw_m9 214 rfl) rfl
theorem q2232 : (Jvm.Cond.stringRef "SoftWheelsModel" (326 : Nat) "one") ∈ lw_tbl := lw_at lw_m9 215 rfl
theorem q2233 : (Jvm.Cond.stringRef "SoftWheelsModel" (327 : Nat) "cost") ∈ lw_tbl := lw_at lw_m9 216 rfl
theorem q2235 : (Jvm.Cond.instanceMethod ({ cls := "SoftWheelsModel", name := "fault", desc := "()I" } : Jvm.MethodName)) ∈ lw_all := lw_g (lw_at lw_m9 218 rfl) rfl
theorem q2236 : (Jvm.Cond.selects "SoftWheelsModel" ({ cls := "SoftWheelsModel", name := "fault", desc := "()I" } : Jvm.MethodName) ({ cls := "SoftWheelsModel", name := "fault", desc := "()I" } : Jvm.MethodName)) ∈ lw_all := lw_g (lw_at lw_m9 219 rfl) rfl
theorem q2237 : (Jvm.Cond.code ({ cls := "SoftWheelsModel", name := "fault", desc := "()I" } : Jvm.MethodName) prog_23_method_27_code (1 : Nat) (Option.some Jvm.ClassFile.FieldType.int)) ∈ lw_all := lw_g (lw_at lw_m9 220 rfl) rfl
theorem q2239 : (Jvm.Cond.instanceMethod ({ cls := "SoftWheelsModel", name := "where", desc := "()I" } : Jvm.MethodName)) ∈ lw_all := lw_g (lw_at lw_m9 222 rfl) rfl
theorem q2240 : (Jvm.Cond.selects "SoftWheelsModel" ({ cls := "SoftWheelsModel", name := "where", desc := "()I" } : Jvm.MethodName) ({ cls := "SoftWheelsModel", name := "where", desc := "()I" } : Jvm.MethodName)) ∈ lw_all := lw_g (lw_at lw_m9 223 rfl) rfl
theorem q2241 : (Jvm.Cond.code ({ cls := "SoftWheelsModel", name := "where", desc := "()I" } : Jvm.MethodName) prog_23_method_28_code (1 : Nat) (Option.some Jvm.ClassFile.FieldType.int)) ∈ lw_all := lw_g (lw_at lw_m9 224 rfl) rfl
theorem q2243 : (Jvm.Cond.instanceMethod ({ cls := "SoftWheelsModel", name := "sink", desc := "(II)I" } : Jvm.MethodName)) ∈ lw_all := lw_g (lw_at lw_m9 226 rfl) rfl
theorem q2244 : (Jvm.Cond.selects "SoftWheelsModel" ({ cls := "SoftWheelsModel", name := "sink", desc := "(II)I" } : Jvm.MethodName) ({ cls := "SoftWheelsModel", name := "sink", desc := "(II)I" } : Jvm.MethodName)) ∈ lw_all := lw_g (lw_at lw_m9 227 rfl) rfl
theorem q2245 : (Jvm.Cond.code ({ cls := "SoftWheelsModel", name := "sink", desc := "(II)I" } : Jvm.MethodName) prog_23_method_32_code (3 : Nat) (Option.some Jvm.ClassFile.FieldType.int)) ∈ lw_all := lw_g (lw_at lw_m9 228 rfl) rfl
theorem q2246 : (Jvm.Cond.methodLink "SoftWheelsModel" (331 : Nat) ({ cls := "SoftWheelsModel", name := "isGround", desc := "(I)Z" } : Jvm.MethodName)) ∈ lw_all := lw_g (lw_at lw_m9 229 rfl) rfl
theorem q2247 : (Jvm.Cond.privateMethod ({ cls := "SoftWheelsModel", name := "isGround", desc := "(I)Z" } : Jvm.MethodName)) ∈ lw_tbl := lw_at lw_m9 230 rfl
theorem q2248 : (Jvm.Cond.instanceMethod ({ cls := "SoftWheelsModel", name := "isGround", desc := "(I)Z" } : Jvm.MethodName)) ∈ lw_all := lw_g (lw_at lw_m9 231 rfl) rfl
theorem q2249 : (Jvm.Cond.code ({ cls := "SoftWheelsModel", name := "isGround", desc := "(I)Z" } : Jvm.MethodName) prog_23_method_31_code (2 : Nat) (Option.some Jvm.ClassFile.FieldType.boolean)) ∈ lw_all := lw_g (lw_at lw_m9 232 rfl) rfl
theorem q2250 : (Jvm.Cond.methodLink "SoftWheelsModel" (334 : Nat) ({ cls := "SoftWheelsModel", name := "between", desc := "([IIII)I" } : Jvm.MethodName)) ∈ lw_all := lw_g (lw_at lw_m9 233 rfl) rfl
theorem q2251 : (Jvm.Cond.static ({ cls := "SoftWheelsModel", name := "between", desc := "([IIII)I" } : Jvm.MethodName)) ∈ lw_all := lw_g (lw_at lw_m9 234 rfl) rfl
theorem q2252 : (Jvm.Cond.code ({ cls := "SoftWheelsModel", name := "between", desc := "([IIII)I" } : Jvm.MethodName) prog_23_method_30_code (10 : Nat) (Option.some Jvm.ClassFile.FieldType.int)) ∈ lw_all := lw_g (lw_at lw_m9 235 rfl) rfl
theorem q2253 : (Jvm.Cond.methodLink "SoftWheelsModel" (329 : Nat) ({ cls := "SoftWheelsModel", name := "down", desc := "(II)I" } : Jvm.MethodName)) ∈ lw_all := lw_g (lw_at lw_m9 236 rfl) rfl
theorem q2254 : (Jvm.Cond.static ({ cls := "SoftWheelsModel", name := "down", desc := "(II)I" } : Jvm.MethodName)) ∈ lw_all := lw_g (lw_at lw_m9 237 rfl) rfl
theorem q2255 : (Jvm.Cond.code ({ cls := "SoftWheelsModel", name := "down", desc := "(II)I" } : Jvm.MethodName) prog_23_method_29_code (3 : Nat) (Option.some Jvm.ClassFile.FieldType.int)) ∈ lw_all := lw_g (lw_at lw_m9 238 rfl) rfl
theorem q2257 : (Jvm.Cond.instanceMethod ({ cls := "SoftWheelsModel", name := "grip", desc := "(II)I" } : Jvm.MethodName)) ∈ lw_all := lw_g (lw_at lw_m10 0 rfl) rfl
theorem q2258 : (Jvm.Cond.selects "SoftWheelsModel" ({ cls := "SoftWheelsModel", name := "grip", desc := "(II)I" } : Jvm.MethodName) ({ cls := "SoftWheelsModel", name := "grip", desc := "(II)I" } : Jvm.MethodName)) ∈ lw_all := lw_g (lw_at lw_m10 1 rfl) rfl
theorem q2259 : (Jvm.Cond.code ({ cls := "SoftWheelsModel", name := "grip", desc := "(II)I" } : Jvm.MethodName) prog_23_method_33_code (3 : Nat) (Option.some Jvm.ClassFile.FieldType.int)) ∈ lw_all := lw_g (lw_at lw_m10 2 rfl) rfl
theorem q2261 : (Jvm.Cond.instanceMethod ({ cls := "SoftWheelsModel", name := "dead", desc := "(I)Z" } : Jvm.MethodName)) ∈ lw_all := lw_g (lw_at lw_m10 4 rfl) rfl
theorem q2262 : (Jvm.Cond.selects "SoftWheelsModel" ({ cls := "SoftWheelsModel", name := "dead", desc := "(I)Z" } : Jvm.MethodName) ({ cls := "SoftWheelsModel", name := "dead", desc := "(I)Z" } : Jvm.MethodName)) ∈ lw_all := lw_g (lw_at lw_m10 5 rfl) rfl
theorem q2263 : (Jvm.Cond.code ({ cls := "SoftWheelsModel", name := "dead", desc := "(I)Z" } : Jvm.MethodName) prog_23_method_34_code (2 : Nat) (Option.some Jvm.ClassFile.FieldType.boolean)) ∈ lw_all := lw_g (lw_at lw_m10 6 rfl) rfl
theorem q2264 : (Jvm.Cond.methodLink "SoftWheelsModel" (338 : Nat) ({ cls := "SoftWheelsModel", name := "not", desc := "(I)Z" } : Jvm.MethodName)) ∈ lw_all := lw_g (lw_at lw_m10 7 rfl) rfl
theorem q2265 : (Jvm.Cond.privateMethod ({ cls := "SoftWheelsModel", name := "not", desc := "(I)Z" } : Jvm.MethodName)) ∈ lw_tbl := lw_at lw_m10 8 rfl
theorem q2266 : (Jvm.Cond.instanceMethod ({ cls := "SoftWheelsModel", name := "not", desc := "(I)Z" } : Jvm.MethodName)) ∈ lw_all := lw_g (lw_at lw_m10 9 rfl) rfl
theorem q2267 : (Jvm.Cond.code ({ cls := "SoftWheelsModel", name := "not", desc := "(I)Z" } : Jvm.MethodName) prog_23_method_5_code (2 : Nat) (Option.some Jvm.ClassFile.FieldType.boolean)) ∈ lw_all := lw_g (lw_at lw_m10 10 rfl) rfl
theorem q2269 : (Jvm.Cond.instanceMethod ({ cls := "SoftWheelsModel", name := "map", desc := "(II)I" } : Jvm.MethodName)) ∈ lw_all := lw_g (lw_at lw_m10 12 rfl) rfl
theorem q2270 : (Jvm.Cond.selects "SoftWheelsModel" ({ cls := "SoftWheelsModel", name := "map", desc := "(II)I" } : Jvm.MethodName) ({ cls := "SoftWheelsModel", name := "map", desc := "(II)I" } : Jvm.MethodName)) ∈ lw_all := lw_g (lw_at lw_m10 13 rfl) rfl
theorem q2271 : (Jvm.Cond.code ({ cls := "SoftWheelsModel", name := "map", desc := "(II)I" } : Jvm.MethodName) prog_23_method_35_code (4 : Nat) (Option.some Jvm.ClassFile.FieldType.int)) ∈ lw_all := lw_g (lw_at lw_m10 14 rfl) rfl
theorem q2273 : (Jvm.Cond.instanceMethod ({ cls := "SoftWheelsModel", name := "height", desc := "(II)Z" } : Jvm.MethodName)) ∈ lw_all := lw_g (lw_at lw_m10 16 rfl) rfl
theorem q2274 : (Jvm.Cond.selects "SoftWheelsModel" ({ cls := "SoftWheelsModel", name := "height", desc := "(II)Z" } : Jvm.MethodName) ({ cls := "SoftWheelsModel", name := "height", desc := "(II)Z" } : Jvm.MethodName)) ∈ lw_all := lw_g (lw_at lw_m10 17 rfl) rfl
theorem q2275 : (Jvm.Cond.code ({ cls := "SoftWheelsModel", name := "height", desc := "(II)Z" } : Jvm.MethodName) prog_23_method_38_code (3 : Nat) (Option.some Jvm.ClassFile.FieldType.boolean)) ∈ lw_all := lw_g (lw_at lw_m10 18 rfl) rfl
theorem q2276 : (Jvm.Cond.methodLink "SoftWheelsModel" (347 : Nat) ({ cls := "SoftWheelsModel", name := "isCell", desc := "(I)Z" } : Jvm.MethodName)) ∈ lw_all := lw_g (lw_at lw_m10 19 rfl) rfl
theorem q2277 : (Jvm.Cond.privateMethod ({ cls := "SoftWheelsModel", name := "isCell", desc := "(I)Z" } : Jvm.MethodName)) ∈ lw_tbl := lw_at lw_m10 20 rfl
theorem q2278 : (Jvm.Cond.instanceMethod ({ cls := "SoftWheelsModel", name := "isCell", desc := "(I)Z" } : Jvm.MethodName)) ∈ lw_all := lw_g (lw_at lw_m10 21 rfl) rfl
theorem q2279 : (Jvm.Cond.code ({ cls := "SoftWheelsModel", name := "isCell", desc := "(I)Z" } : Jvm.MethodName) prog_23_method_36_code (2 : Nat) (Option.some Jvm.ClassFile.FieldType.boolean)) ∈ lw_all := lw_g (lw_at lw_m10 22 rfl) rfl
theorem q2281 : (Jvm.Cond.instanceMethod ({ cls := "SoftWheelsModel", name := "ground", desc := "(II)Z" } : Jvm.MethodName)) ∈ lw_all := lw_g (lw_at lw_m10 24 rfl) rfl
theorem q2282 : (Jvm.Cond.selects "SoftWheelsModel" ({ cls := "SoftWheelsModel", name := "ground", desc := "(II)Z" } : Jvm.MethodName) ({ cls := "SoftWheelsModel", name := "ground", desc := "(II)Z" } : Jvm.MethodName)) ∈ lw_all := lw_g (lw_at lw_m10 25 rfl) rfl
theorem q2283 : (Jvm.Cond.code ({ cls := "SoftWheelsModel", name := "ground", desc := "(II)Z" } : Jvm.MethodName) prog_23_method_39_code (3 : Nat) (Option.some Jvm.ClassFile.FieldType.boolean)) ∈ lw_all := lw_g (lw_at lw_m10 26 rfl) rfl
theorem q2285 : (Jvm.Cond.instanceMethod ({ cls := "SoftWheelsModel", name := "doubt", desc := "(I)I" } : Jvm.MethodName)) ∈ lw_all := lw_g (lw_at lw_m10 28 rfl) rfl
theorem q2286 : (Jvm.Cond.selects "SoftWheelsModel" ({ cls := "SoftWheelsModel", name := "doubt", desc := "(I)I" } : Jvm.MethodName) ({ cls := "SoftWheelsModel", name := "doubt", desc := "(I)I" } : Jvm.MethodName)) ∈ lw_all := lw_g (lw_at lw_m10 29 rfl) rfl
theorem q2287 : (Jvm.Cond.code ({ cls := "SoftWheelsModel", name := "doubt", desc := "(I)I" } : Jvm.MethodName) prog_23_method_40_code (3 : Nat) (Option.some Jvm.ClassFile.FieldType.int)) ∈ lw_all := lw_g (lw_at lw_m10 30 rfl) rfl
theorem q2289 : (Jvm.Cond.instanceMethod ({ cls := "SoftWheelsModel", name := "weigh", desc := "(III)Z" } : Jvm.MethodName)) ∈ lw_all := lw_g (lw_at lw_m10 32 rfl) rfl
theorem q2290 : (Jvm.Cond.selects "SoftWheelsModel" ({ cls := "SoftWheelsModel", name := "weigh", desc := "(III)Z" } : Jvm.MethodName) ({ cls := "SoftWheelsModel", name := "weigh", desc := "(III)Z" } : Jvm.MethodName)) ∈ lw_all := lw_g (lw_at lw_m10 33 rfl) rfl
theorem q2291 : (Jvm.Cond.code ({ cls := "SoftWheelsModel", name := "weigh", desc := "(III)Z" } : Jvm.MethodName) prog_23_method_41_code (6 : Nat) (Option.some Jvm.ClassFile.FieldType.boolean)) ∈ lw_all := lw_g (lw_at lw_m10 34 rfl) rfl
theorem q2292 : (Jvm.Cond.methodLink "SoftWheelsModel" (350 : Nat) ({ cls := "SoftWheelsModel", name := "isDoubt", desc := "(I)Z" } : Jvm.MethodName)) ∈ lw_all := lw_g (lw_at lw_m10 35 rfl) rfl
theorem q2293 : (Jvm.Cond.privateMethod ({ cls := "SoftWheelsModel", name := "isDoubt", desc := "(I)Z" } : Jvm.MethodName)) ∈ lw_tbl := lw_at lw_m10 36 rfl
theorem q2294 : (Jvm.Cond.instanceMethod ({ cls := "SoftWheelsModel", name := "isDoubt", desc := "(I)Z" } : Jvm.MethodName)) ∈ lw_all := lw_g (lw_at lw_m10 37 rfl) rfl
theorem q2295 : (Jvm.Cond.code ({ cls := "SoftWheelsModel", name := "isDoubt", desc := "(I)Z" } : Jvm.MethodName) prog_23_method_37_code (2 : Nat) (Option.some Jvm.ClassFile.FieldType.boolean)) ∈ lw_all := lw_g (lw_at lw_m10 38 rfl) rfl
theorem q2297 : (Jvm.Cond.instanceMethod ({ cls := "SoftWheelsModel", name := "told", desc := "(II)Z" } : Jvm.MethodName)) ∈ lw_all := lw_g (lw_at lw_m10 40 rfl) rfl
theorem q2298 : (Jvm.Cond.selects "SoftWheelsModel" ({ cls := "SoftWheelsModel", name := "told", desc := "(II)Z" } : Jvm.MethodName) ({ cls := "SoftWheelsModel", name := "told", desc := "(II)Z" } : Jvm.MethodName)) ∈ lw_all := lw_g (lw_at lw_m10 41 rfl) rfl
theorem q2299 : (Jvm.Cond.code ({ cls := "SoftWheelsModel", name := "told", desc := "(II)Z" } : Jvm.MethodName) prog_23_method_42_code (3 : Nat) (Option.some Jvm.ClassFile.FieldType.boolean)) ∈ lw_all := lw_g (lw_at lw_m10 42 rfl) rfl
theorem q2301 : (Jvm.Cond.instanceMethod ({ cls := "SoftWheelsModel", name := "forget", desc := "(I)Z" } : Jvm.MethodName)) ∈ lw_all := lw_g (lw_at lw_m10 44 rfl) rfl
theorem q2302 : (Jvm.Cond.selects "SoftWheelsModel" ({ cls := "SoftWheelsModel", name := "forget", desc := "(I)Z" } : Jvm.MethodName) ({ cls := "SoftWheelsModel", name := "forget", desc := "(I)Z" } : Jvm.MethodName)) ∈ lw_all := lw_g (lw_at lw_m10 45 rfl) rfl
theorem q2303 : (Jvm.Cond.code ({ cls := "SoftWheelsModel", name := "forget", desc := "(I)Z" } : Jvm.MethodName) prog_23_method_43_code (2 : Nat) (Option.some Jvm.ClassFile.FieldType.boolean)) ∈ lw_all := lw_g (lw_at lw_m10 46 rfl) rfl
theorem q2305 : (Jvm.Cond.instanceMethod ({ cls := "SoftWheelsModel", name := "of", desc := "(II)I" } : Jvm.MethodName)) ∈ lw_all := lw_g (lw_at lw_m10 48 rfl) rfl
theorem q2306 : (Jvm.Cond.selects "SoftWheelsModel" ({ cls := "SoftWheelsModel", name := "of", desc := "(II)I" } : Jvm.MethodName) ({ cls := "SoftWheelsModel", name := "of", desc := "(II)I" } : Jvm.MethodName)) ∈ lw_all := lw_g (lw_at lw_m10 49 rfl) rfl
theorem q2307 : (Jvm.Cond.code ({ cls := "SoftWheelsModel", name := "of", desc := "(II)I" } : Jvm.MethodName) prog_23_method_44_code (4 : Nat) (Option.some Jvm.ClassFile.FieldType.int)) ∈ lw_all := lw_g (lw_at lw_m10 50 rfl) rfl
theorem q2309 : (Jvm.Cond.instanceMethod ({ cls := "SoftWheelsModel", name := "step", desc := "(IIII)I" } : Jvm.MethodName)) ∈ lw_all := lw_g (lw_at lw_m10 52 rfl) rfl
theorem q2310 : (Jvm.Cond.selects "SoftWheelsModel" ({ cls := "SoftWheelsModel", name := "step", desc := "(IIII)I" } : Jvm.MethodName) ({ cls := "SoftWheelsModel", name := "step", desc := "(IIII)I" } : Jvm.MethodName)) ∈ lw_all := lw_g (lw_at lw_m10 53 rfl) rfl
theorem q2311 : (Jvm.Cond.code ({ cls := "SoftWheelsModel", name := "step", desc := "(IIII)I" } : Jvm.MethodName) prog_23_method_50_code (7 : Nat) (Option.some Jvm.ClassFile.FieldType.int)) ∈ lw_all := lw_g (lw_at lw_m10 54 rfl) rfl
theorem q2312 : (Jvm.Cond.methodLink "SoftWheelsModel" (362 : Nat) ({ cls := "SoftWheelsModel", name := "barred", desc := "(III)I" } : Jvm.MethodName)) ∈ lw_all := lw_g (lw_at lw_m10 55 rfl) rfl
theorem q2313 : (Jvm.Cond.privateMethod ({ cls := "SoftWheelsModel", name := "barred", desc := "(III)I" } : Jvm.MethodName)) ∈ lw_tbl := lw_at lw_m10 56 rfl
theorem q2314 : (Jvm.Cond.instanceMethod ({ cls := "SoftWheelsModel", name := "barred", desc := "(III)I" } : Jvm.MethodName)) ∈ lw_all := lw_g (lw_at lw_m10 57 rfl) rfl
theorem q2315 : (Jvm.Cond.code ({ cls := "SoftWheelsModel", name := "barred", desc := "(III)I" } : Jvm.MethodName) prog_23_method_48_code (6 : Nat) (Option.some Jvm.ClassFile.FieldType.int)) ∈ lw_all := lw_g (lw_at lw_m10 58 rfl) rfl
theorem q2316 : (Jvm.Cond.methodLink "SoftWheelsModel" (353 : Nat) ({ cls := "SoftWheelsModel", name := "beside", desc := "(II)I" } : Jvm.MethodName)) ∈ lw_all := lw_g (lw_at lw_m10 59 rfl) rfl
theorem q2317 : (Jvm.Cond.privateMethod ({ cls := "SoftWheelsModel", name := "beside", desc := "(II)I" } : Jvm.MethodName)) ∈ lw_tbl := lw_at lw_m10 60 rfl
theorem q2318 : (Jvm.Cond.instanceMethod ({ cls := "SoftWheelsModel", name := "beside", desc := "(II)I" } : Jvm.MethodName)) ∈ lw_all := lw_g (lw_at lw_m10 61 rfl) rfl
theorem q2319 : (Jvm.Cond.code ({ cls := "SoftWheelsModel", name := "beside", desc := "(II)I" } : Jvm.MethodName) prog_23_method_45_code (5 : Nat) (Option.some Jvm.ClassFile.FieldType.int)) ∈ lw_all := lw_g (lw_at lw_m10 62 rfl) rfl
theorem q2320 : (Jvm.Cond.methodLink "SoftWheelsModel" (356 : Nat) ({ cls := "SoftWheelsModel", name := "need", desc := "(II)I" } : Jvm.MethodName)) ∈ lw_all := lw_g (lw_at lw_m10 63 rfl) rfl
theorem q2321 : (Jvm.Cond.privateMethod ({ cls := "SoftWheelsModel", name := "need", desc := "(II)I" } : Jvm.MethodName)) ∈ lw_tbl := lw_at lw_m10 64 rfl
theorem q2322 : (Jvm.Cond.instanceMethod ({ cls := "SoftWheelsModel", name := "need", desc := "(II)I" } : Jvm.MethodName)) ∈ lw_all := lw_g (lw_at lw_m10 65 rfl) rfl
theorem q2323 : (Jvm.Cond.code ({ cls := "SoftWheelsModel", name := "need", desc := "(II)I" } : Jvm.MethodName) prog_23_method_46_code (5 : Nat) (Option.some Jvm.ClassFile.FieldType.int)) ∈ lw_all := lw_g (lw_at lw_m10 66 rfl) rfl
theorem q2324 : (Jvm.Cond.methodLink "SoftWheelsModel" (359 : Nat) ({ cls := "SoftWheelsModel", name := "slip", desc := "(II)I" } : Jvm.MethodName)) ∈ lw_all := lw_g (lw_at lw_m10 67 rfl) rfl
theorem q2325 : (Jvm.Cond.privateMethod ({ cls := "SoftWheelsModel", name := "slip", desc := "(II)I" } : Jvm.MethodName)) ∈ lw_tbl := lw_at lw_m10 68 rfl
theorem q2326 : (Jvm.Cond.instanceMethod ({ cls := "SoftWheelsModel", name := "slip", desc := "(II)I" } : Jvm.MethodName)) ∈ lw_all := lw_g (lw_at lw_m10 69 rfl) rfl
theorem q2327 : (Jvm.Cond.code ({ cls := "SoftWheelsModel", name := "slip", desc := "(II)I" } : Jvm.MethodName) prog_23_method_47_code (5 : Nat) (Option.some Jvm.ClassFile.FieldType.int)) ∈ lw_all := lw_g (lw_at lw_m10 70 rfl) rfl
theorem q2328 : (Jvm.Cond.methodLink "SoftWheelsModel" (366 : Nat) ({ cls := "SoftWheelsModel", name := "cost", desc := "(III)I" } : Jvm.MethodName)) ∈ lw_all := lw_g (lw_at lw_m10 71 rfl) rfl
theorem q2329 : (Jvm.Cond.privateMethod ({ cls := "SoftWheelsModel", name := "cost", desc := "(III)I" } : Jvm.MethodName)) ∈ lw_tbl := lw_at lw_m10 72 rfl
theorem q2330 : (Jvm.Cond.instanceMethod ({ cls := "SoftWheelsModel", name := "cost", desc := "(III)I" } : Jvm.MethodName)) ∈ lw_all := lw_g (lw_at lw_m10 73 rfl) rfl
theorem q2331 : (Jvm.Cond.code ({ cls := "SoftWheelsModel", name := "cost", desc := "(III)I" } : Jvm.MethodName) prog_23_method_49_code (5 : Nat) (Option.some Jvm.ClassFile.FieldType.int)) ∈ lw_all := lw_g (lw_at lw_m10 74 rfl) rfl
theorem q2333 : (Jvm.Cond.instanceMethod ({ cls := "SoftWheelsModel", name := "worst", desc := "(II)I" } : Jvm.MethodName)) ∈ lw_all := lw_g (lw_at lw_m10 76 rfl) rfl
theorem q2334 : (Jvm.Cond.selects "SoftWheelsModel" ({ cls := "SoftWheelsModel", name := "worst", desc := "(II)I" } : Jvm.MethodName) ({ cls := "SoftWheelsModel", name := "worst", desc := "(II)I" } : Jvm.MethodName)) ∈ lw_all := lw_g (lw_at lw_m10 77 rfl) rfl
theorem q2335 : (Jvm.Cond.code ({ cls := "SoftWheelsModel", name := "worst", desc := "(II)I" } : Jvm.MethodName) prog_23_method_68_code (5 : Nat) (Option.some Jvm.ClassFile.FieldType.int)) ∈ lw_all := lw_g (lw_at lw_m10 78 rfl) rfl
theorem q2336 : (Jvm.Cond.methodLink "SoftWheelsModel" (426 : Nat) ({ cls := "SoftWheelsModel", name := "from", desc := "(IIZ)J" } : Jvm.MethodName)) ∈ lw_all := lw_g (lw_at lw_m10 79 rfl) rfl
theorem q2337 : (Jvm.Cond.privateMethod ({ cls := "SoftWheelsModel", name := "from", desc := "(IIZ)J" } : Jvm.MethodName)) ∈ lw_tbl := lw_at lw_m10 80 rfl
theorem q2338 : (Jvm.Cond.instanceMethod ({ cls := "SoftWheelsModel", name := "from", desc := "(IIZ)J" } : Jvm.MethodName)) ∈ lw_all := lw_g (lw_at lw_m10 81 rfl) rfl
theorem q2339 : (Jvm.Cond.code ({ cls := "SoftWheelsModel", name := "from", desc := "(IIZ)J" } : Jvm.MethodName) prog_23_method_67_code (6 : Nat) (Option.some Jvm.ClassFile.FieldType.long)) ∈ lw_all := lw_g (lw_at lw_m10 82 rfl) rfl
theorem q2340 : (Jvm.Cond.methodLink "SoftWheelsModel" (417 : Nat) ({ cls := "SoftWheelsModel", name := "solve", desc := "(IZ)V" } : Jvm.MethodName)) ∈ lw_all := lw_g (lw_at lw_m10 83 rfl) rfl
theorem q2341 : (Jvm.Cond.privateMethod ({ cls := "SoftWheelsModel", name := "solve", desc := "(IZ)V" } : Jvm.MethodName)) ∈ lw_tbl := lw_at lw_m10 84 rfl
theorem q2342 : (Jvm.Cond.instanceMethod ({ cls := "SoftWheelsModel", name := "solve", desc := "(IZ)V" } : Jvm.MethodName)) ∈ lw_all := lw_g (lw_at lw_m10 85 rfl) rfl
theorem q2343 : (Jvm.Cond.code ({ cls := "SoftWheelsModel", name := "solve", desc := "(IZ)V" } : Jvm.MethodName) prog_23_method_65_code (10 : Nat) (Option.none : Option Jvm.ClassFile.FieldType)) ∈ lw_all := lw_g (lw_at lw_m10 86 rfl) rfl
theorem q2344 : (Jvm.Cond.methodLink "SoftWheelsModel" (395 : Nat) ({ cls := "SoftWheelsModel", name := "prepares", desc := "()V" } : Jvm.MethodName)) ∈ lw_all := lw_g (lw_at lw_m10 87 rfl) rfl
theorem q2345 : (Jvm.Cond.privateMethod ({ cls := "SoftWheelsModel", name := "prepares", desc := "()V" } : Jvm.MethodName)) ∈ lw_tbl := lw_at lw_m10 88 rfl
theorem q2346 : (Jvm.Cond.instanceMethod ({ cls := "SoftWheelsModel", name := "prepares", desc := "()V" } : Jvm.MethodName)) ∈ lw_all := lw_g (lw_at lw_m10 89 rfl) rfl
theorem q2347 : (Jvm.Cond.code ({ cls := "SoftWheelsModel", name := "prepares", desc := "()V" } : Jvm.MethodName) prog_23_method_62_code (4 : Nat) (Option.none : Option Jvm.ClassFile.FieldType)) ∈ lw_all := lw_g (lw_at lw_m10 90 rfl) rfl
theorem q2348 : (Jvm.Cond.methodLink "SoftWheelsModel" (381 : Nat) ({ cls := "SoftWheelsModel", name := "lists", desc := "()V" } : Jvm.MethodName)) ∈ lw_all := lw_g (lw_at lw_m10 91 rfl) rfl
theorem q2349 : (Jvm.Cond.privateMethod ({ cls := "SoftWheelsModel", name := "lists", desc := "()V" } : Jvm.MethodName)) ∈ lw_tbl := lw_at lw_m10 92 rfl
theorem q2350 : (Jvm.Cond.instanceMethod ({ cls := "SoftWheelsModel", name := "lists", desc := "()V" } : Jvm.MethodName)) ∈ lw_all := lw_g (lw_at lw_m10 93 rfl) rfl
theorem q2351 : (Jvm.Cond.code ({ cls := "SoftWheelsModel", name := "lists", desc := "()V" } : Jvm.MethodName) prog_23_method_53_code (3 : Nat) (Option.none : Option Jvm.ClassFile.FieldType)) ∈ lw_all := lw_g (lw_at lw_m10 94 rfl) rfl
theorem q2352 : (Jvm.Cond.methodLink "SoftWheelsModel" (384 : Nat) ({ cls := "SoftWheelsModel", name := "isNear", desc := "(II)Z" } : Jvm.MethodName)) ∈ lw_all := lw_g (lw_at lw_m10 95 rfl) rfl
theorem q2353 : (Jvm.Cond.privateMethod ({ cls := "SoftWheelsModel", name := "isNear", desc := "(II)Z" } : Jvm.MethodName)) ∈ lw_tbl := lw_at lw_m10 96 rfl
theorem q2354 : (Jvm.Cond.instanceMethod ({ cls := "SoftWheelsModel", name := "isNear", desc := "(II)Z" } : Jvm.MethodName)) ∈ lw_all := lw_g (lw_at lw_m10 97 rfl) rfl
theorem q2355 : (Jvm.Cond.code ({ cls := "SoftWheelsModel", name := "isNear", desc := "(II)Z" } : Jvm.MethodName) prog_23_method_59_code (5 : Nat) (Option.some Jvm.ClassFile.FieldType.boolean)) ∈ lw_all := lw_g (lw_at lw_m10 98 rfl) rfl
theorem q2356 : (Jvm.Cond.methodLink "SoftWheelsModel" (398 : Nat) ({ cls := "SoftWheelsModel", name := "canBe", desc := "(I)Z" } : Jvm.MethodName)) ∈ lw_all := lw_g (lw_at lw_m10 99 rfl) rfl
theorem q2357 : (Jvm.Cond.privateMethod ({ cls := "SoftWheelsModel", name := "canBe", desc := "(I)Z" } : Jvm.MethodName)) ∈ lw_tbl := lw_at lw_m10 100 rfl
theorem q2358 : (Jvm.Cond.instanceMethod ({ cls := "SoftWheelsModel", name := "canBe", desc := "(I)Z" } : Jvm.MethodName)) ∈ lw_all := lw_g (lw_at lw_m10 101 rfl) rfl
theorem q2359 : (Jvm.Cond.code ({ cls := "SoftWheelsModel", name := "canBe", desc := "(I)Z" } : Jvm.MethodName) prog_23_method_58_code (4 : Nat) (Option.some Jvm.ClassFile.FieldType.boolean)) ∈ lw_all := lw_g (lw_at lw_m10 102 rfl) rfl
theorem q2360 : (Jvm.Cond.methodLink "SoftWheelsModel" (374 : Nat) ({ cls := "SoftWheelsModel", name := "digit", desc := "(II)I" } : Jvm.MethodName)) ∈ lw_all := lw_g (lw_at lw_m10 103 rfl) rfl
theorem q2361 : (Jvm.Cond.static ({ cls := "SoftWheelsModel", name := "digit", desc := "(II)I" } : Jvm.MethodName)) ∈ lw_all := lw_g (lw_at lw_m10 104 rfl) rfl
theorem q2362 : (Jvm.Cond.code ({ cls := "SoftWheelsModel", name := "digit", desc := "(II)I" } : Jvm.MethodName) prog_23_method_52_code (2 : Nat) (Option.some Jvm.ClassFile.FieldType.int)) ∈ lw_all := lw_g (lw_at lw_m10 105 rfl) rfl
theorem q2363 : (Jvm.Cond.methodLink "SoftWheelsModel" (401 : Nat) ({ cls := "SoftWheelsModel", name := "lays", desc := "(I)V" } : Jvm.MethodName)) ∈ lw_all := lw_g (lw_at lw_m10 106 rfl) rfl
theorem q2364 : (Jvm.Cond.privateMethod ({ cls := "SoftWheelsModel", name := "lays", desc := "(I)V" } : Jvm.MethodName)) ∈ lw_tbl := lw_at lw_m10 107 rfl
theorem q2365 : (Jvm.Cond.instanceMethod ({ cls := "SoftWheelsModel", name := "lays", desc := "(I)V" } : Jvm.MethodName)) ∈ lw_all := lw_g (lw_at lw_m10 108 rfl) rfl
theorem q2366 : (Jvm.Cond.code ({ cls := "SoftWheelsModel", name := "lays", desc := "(I)V" } : Jvm.MethodName) prog_23_method_63_code (5 : Nat) (Option.none : Option Jvm.ClassFile.FieldType)) ∈ lw_all := lw_g (lw_at lw_m10 109 rfl) rfl
theorem q2367 : (Jvm.Cond.methodLink "SoftWheelsModel" (387 : Nat) ({ cls := "SoftWheelsModel", name := "floorOf", desc := "(II)I" } : Jvm.MethodName)) ∈ lw_all := lw_g (lw_at lw_m10 110 rfl) rfl
theorem q2368 : (Jvm.Cond.privateMethod ({ cls := "SoftWheelsModel", name := "floorOf", desc := "(II)I" } : Jvm.MethodName)) ∈ lw_tbl := lw_at lw_m10 111 rfl
theorem q2369 : (Jvm.Cond.instanceMethod ({ cls := "SoftWheelsModel", name := "floorOf", desc := "(II)I" } : Jvm.MethodName)) ∈ lw_all := lw_g (lw_at lw_m10 112 rfl) rfl
theorem q2370 : (Jvm.Cond.code ({ cls := "SoftWheelsModel", name := "floorOf", desc := "(II)I" } : Jvm.MethodName) prog_23_method_61_code (4 : Nat) (Option.some Jvm.ClassFile.FieldType.int)) ∈ lw_all := lw_g (lw_at lw_m10 113 rfl) rfl
theorem q2371 : (Jvm.Cond.methodLink "SoftWheelsModel" (404 : Nat) ({ cls := "SoftWheelsModel", name := "news", desc := "(II)I" } : Jvm.MethodName)) ∈ lw_all := lw_g (lw_at lw_m10 114 rfl) rfl
theorem q2372 : (Jvm.Cond.privateMethod ({ cls := "SoftWheelsModel", name := "news", desc := "(II)I" } : Jvm.MethodName)) ∈ lw_tbl := lw_at lw_m10 115 rfl
theorem q2373 : (Jvm.Cond.instanceMethod ({ cls := "SoftWheelsModel", name := "news", desc := "(II)I" } : Jvm.MethodName)) ∈ lw_all := lw_g (lw_at lw_m10 116 rfl) rfl
theorem q2374 : (Jvm.Cond.code ({ cls := "SoftWheelsModel", name := "news", desc := "(II)I" } : Jvm.MethodName) prog_23_method_60_code (4 : Nat) (Option.some Jvm.ClassFile.FieldType.int)) ∈ lw_all := lw_g (lw_at lw_m10 117 rfl) rfl
theorem q2375 : (Jvm.Cond.constantLong "SoftWheelsModel" (390 : Nat) (1000000000000000 : Int64)) ∈ lw_all := lw_g (lw_at lw_m10 118 rfl) rfl
theorem q2376 : (Jvm.Cond.methodLink "SoftWheelsModel" (407 : Nat) ({ cls := "SoftWheelsModel", name := "over", desc := "(IIIZ)J" } : Jvm.MethodName)) ∈ lw_all := lw_g (lw_at lw_m10 119 rfl) rfl
theorem q2377 : (Jvm.Cond.privateMethod ({ cls := "SoftWheelsModel", name := "over", desc := "(IIIZ)J" } : Jvm.MethodName)) ∈ lw_tbl := lw_at lw_m10 120 rfl
theorem q2378 : (Jvm.Cond.instanceMethod ({ cls := "SoftWheelsModel", name := "over", desc := "(IIIZ)J" } : Jvm.MethodName)) ∈ lw_all := lw_g (lw_at lw_m10 121 rfl) rfl
theorem q2379 : (Jvm.Cond.code ({ cls := "SoftWheelsModel", name := "over", desc := "(IIIZ)J" } : Jvm.MethodName) prog_23_method_64_code (10 : Nat) (Option.some Jvm.ClassFile.FieldType.long)) ∈ lw_all := lw_g (lw_at lw_m10 122 rfl) rfl
theorem q2380 : (Jvm.Cond.methodLink "SoftWheelsModel" (368 : Nat) ({ cls := "SoftWheelsModel", name := "power", desc := "(I)I" } : Jvm.MethodName)) ∈ lw_all := lw_g (lw_at lw_m10 123 rfl) rfl
theorem q2381 : (Jvm.Cond.static ({ cls := "SoftWheelsModel", name := "power", desc := "(I)I" } : Jvm.MethodName)) ∈ lw_all := lw_g (lw_at lw_m10 124 rfl) rfl
theorem q2382 : (Jvm.Cond.code ({ cls := "SoftWheelsModel", name := "power", desc := "(I)I" } : Jvm.MethodName) prog_23_method_51_code (1 : Nat) (Option.some Jvm.ClassFile.FieldType.int)) ∈ lw_all := lw_g (lw_at lw_m10 125 rfl) rfl
theorem q2383 : (Jvm.Cond.methodLink "SoftWheelsModel" (371 : Nat) ({ cls := "SoftWheelsModel", name := "weightOf", desc := "(II)I" } : Jvm.MethodName)) ∈ lw_all := lw_g (lw_at lw_m10 126 rfl) rfl
theorem q2384 : (Jvm.Cond.privateMethod ({ cls := "SoftWheelsModel", name := "weightOf", desc := "(II)I" } : Jvm.MethodName)) ∈ lw_tbl := lw_at lw_m10 127 rfl
theorem q2385 : (Jvm.Cond.instanceMethod ({ cls := "SoftWheelsModel", name := "weightOf", desc := "(II)I" } : Jvm.MethodName)) ∈ lw_all := lw_g (lw_at lw_m10 128 rfl) rfl
theorem q2386 : (Jvm.Cond.code ({ cls := "SoftWheelsModel", name := "weightOf", desc := "(II)I" } : Jvm.MethodName) prog_23_method_55_code (3 : Nat) (Option.some Jvm.ClassFile.FieldType.int)) ∈ lw_all := lw_g (lw_at lw_m10 129 rfl) rfl
theorem q2387 : (Jvm.Cond.methodLink "SoftWheelsModel" (411 : Nat) ({ cls := "SoftWheelsModel", name := "left", desc := "(I)J" } : Jvm.MethodName)) ∈ lw_all := lw_g (lw_at lw_m10 130 rfl) rfl
theorem q2388 : (Jvm.Cond.privateMethod ({ cls := "SoftWheelsModel", name := "left", desc := "(I)J" } : Jvm.MethodName)) ∈ lw_tbl := lw_at lw_m10 131 rfl
theorem q2389 : (Jvm.Cond.instanceMethod ({ cls := "SoftWheelsModel", name := "left", desc := "(I)J" } : Jvm.MethodName)) ∈ lw_all := lw_g (lw_at lw_m10 132 rfl) rfl
theorem q2390 : (Jvm.Cond.code ({ cls := "SoftWheelsModel", name := "left", desc := "(I)J" } : Jvm.MethodName) prog_23_method_57_code (5 : Nat) (Option.some Jvm.ClassFile.FieldType.long)) ∈ lw_all := lw_g (lw_at lw_m10 133 rfl) rfl
theorem q2391 : (Jvm.Cond.methodLink "SoftWheelsModel" (377 : Nat) ({ cls := "SoftWheelsModel", name := "allOf", desc := "(I)J" } : Jvm.MethodName)) ∈ lw_all := lw_g (lw_at lw_m10 134 rfl) rfl
theorem q2392 : (Jvm.Cond.privateMethod ({ cls := "SoftWheelsModel", name := "allOf", desc := "(I)J" } : Jvm.MethodName)) ∈ lw_tbl := lw_at lw_m10 135 rfl
theorem q2393 : (Jvm.Cond.instanceMethod ({ cls := "SoftWheelsModel", name := "allOf", desc := "(I)J" } : Jvm.MethodName)) ∈ lw_all := lw_g (lw_at lw_m10 136 rfl) rfl
theorem q2394 : (Jvm.Cond.code ({ cls := "SoftWheelsModel", name := "allOf", desc := "(I)J" } : Jvm.MethodName) prog_23_method_56_code (5 : Nat) (Option.some Jvm.ClassFile.FieldType.long)) ∈ lw_all := lw_g (lw_at lw_m10 137 rfl) rfl
theorem q2395 : (Jvm.Cond.methodLink "SoftWheelsModel" (413 : Nat) ({ cls := "SoftWheelsModel", name := "lower", desc := "(IIJ)J" } : Jvm.MethodName)) ∈ lw_all := lw_g (lw_at lw_m10 138 rfl) rfl
theorem q2396 : (Jvm.Cond.privateMethod ({ cls := "SoftWheelsModel", name := "lower", desc := "(IIJ)J" } : Jvm.MethodName)) ∈ lw_tbl := lw_at lw_m10 139 rfl
theorem q2397 : (Jvm.Cond.instanceMethod ({ cls := "SoftWheelsModel", name := "lower", desc := "(IIJ)J" } : Jvm.MethodName)) ∈ lw_all := lw_g (lw_at lw_m10 140 rfl) rfl
theorem q2398 : (Jvm.Cond.code ({ cls := "SoftWheelsModel", name := "lower", desc := "(IIJ)J" } : Jvm.MethodName) prog_23_method_66_code (10 : Nat) (Option.some Jvm.ClassFile.FieldType.long)) ∈ lw_all := lw_g (lw_at lw_m10 141 rfl) rfl
theorem q2399 : (Jvm.Cond.methodLink "SoftWheelsModel" (421 : Nat) ({ cls := "SoftWheelsModel", name := "base", desc := "()I" } : Jvm.MethodName)) ∈ lw_all := lw_g (lw_at lw_m10 142 rfl) rfl
theorem q2400 : (Jvm.Cond.privateMethod ({ cls := "SoftWheelsModel", name := "base", desc := "()I" } : Jvm.MethodName)) ∈ lw_tbl := lw_at lw_m10 143 rfl
theorem q2401 : (Jvm.Cond.instanceMethod ({ cls := "SoftWheelsModel", name := "base", desc := "()I" } : Jvm.MethodName)) ∈ lw_all := lw_g (lw_at lw_m10 144 rfl) rfl
theorem q2402 : (Jvm.Cond.code ({ cls := "SoftWheelsModel", name := "base", desc := "()I" } : Jvm.MethodName) prog_23_method_54_code (4 : Nat) (Option.some Jvm.ClassFile.FieldType.int)) ∈ lw_all := lw_g (lw_at lw_m10 145 rfl) rfl
theorem q2403 : (Jvm.Cond.constantLong "SoftWheelsModel" (424 : Nat) (-1 : Int64)) ∈ lw_all := lw_g (lw_at lw_m10 146 rfl) rfl
theorem q2405 : (Jvm.Cond.instanceMethod ({ cls := "SoftWheelsModel", name := "mean", desc := "(IIZ)J" } : Jvm.MethodName)) ∈ lw_all := lw_g (lw_at lw_m10 148 rfl) rfl
theorem q2406 : (Jvm.Cond.selects "SoftWheelsModel" ({ cls := "SoftWheelsModel", name := "mean", desc := "(IIZ)J" } : Jvm.MethodName) ({ cls := "SoftWheelsModel", name := "mean", desc := "(IIZ)J" } : Jvm.MethodName)) ∈ lw_all := lw_g (lw_at lw_m10 149 rfl) rfl
theorem q2407 : (Jvm.Cond.code ({ cls := "SoftWheelsModel", name := "mean", desc := "(IIZ)J" } : Jvm.MethodName) prog_23_method_71_code (6 : Nat) (Option.some Jvm.ClassFile.FieldType.long)) ∈ lw_all := lw_g (lw_at lw_m10 150 rfl) rfl
theorem q2408 : (Jvm.Cond.constantLong "SoftWheelsModel" (434 : Nat) (-9223372036854775808 : Int64)) ∈ lw_all := lw_g (lw_at lw_m10 151 rfl) rfl
theorem q2409 : (Jvm.Cond.methodLink "SoftWheelsModel" (436 : Nat) ({ cls := "SoftWheelsModel", name := "part", desc := "(JJZ)J" } : Jvm.MethodName)) ∈ lw_all := lw_g (lw_at lw_m10 152 rfl) rfl
theorem q2410 : (Jvm.Cond.static ({ cls := "SoftWheelsModel", name := "part", desc := "(JJZ)J" } : Jvm.MethodName)) ∈ lw_all := lw_g (lw_at lw_m10 153 rfl) rfl
theorem q2411 : (Jvm.Cond.code ({ cls := "SoftWheelsModel", name := "part", desc := "(JJZ)J" } : Jvm.MethodName) prog_23_method_70_code (7 : Nat) (Option.some Jvm.ClassFile.FieldType.long)) ∈ lw_all := lw_g (lw_at lw_m10 154 rfl) rfl
theorem q2412 : (Jvm.Cond.methodLink "SoftWheelsModel" (430 : Nat) ({ cls := "SoftWheelsModel", name := "common", desc := "(JJ)J" } : Jvm.MethodName)) ∈ lw_all := lw_g (lw_at lw_m10 155 rfl) rfl
theorem q2413 : (Jvm.Cond.static ({ cls := "SoftWheelsModel", name := "common", desc := "(JJ)J" } : Jvm.MethodName)) ∈ lw_all := lw_g (lw_at lw_m10 156 rfl) rfl
theorem q2414 : (Jvm.Cond.code ({ cls := "SoftWheelsModel", name := "common", desc := "(JJ)J" } : Jvm.MethodName) prog_23_method_69_code (10 : Nat) (Option.some Jvm.ClassFile.FieldType.long)) ∈ lw_all := lw_g (lw_at lw_m10 157 rfl) rfl
theorem q2416 : (Jvm.Cond.instanceMethod ({ cls := "SoftWheelsModel", name := "way", desc := "(IIZ)I" } : Jvm.MethodName)) ∈ lw_all := lw_g (lw_at lw_m10 159 rfl) rfl
theorem q2417 : (Jvm.Cond.selects "SoftWheelsModel" ({ cls := "SoftWheelsModel", name := "way", desc := "(IIZ)I" } : Jvm.MethodName) ({ cls := "SoftWheelsModel", name := "way", desc := "(IIZ)I" } : Jvm.MethodName)) ∈ lw_all := lw_g (lw_at lw_m10 160 rfl) rfl
theorem q2418 : (Jvm.Cond.code ({ cls := "SoftWheelsModel", name := "way", desc := "(IIZ)I" } : Jvm.MethodName) prog_23_method_73_code (5 : Nat) (Option.some Jvm.ClassFile.FieldType.int)) ∈ lw_all := lw_g (lw_at lw_m10 161 rfl) rfl
theorem q2419 : (Jvm.Cond.methodLink "SoftWheelsModel" (440 : Nat) ({ cls := "SoftWheelsModel", name := "stepOf", desc := "(II)I" } : Jvm.MethodName)) ∈ lw_all := lw_g (lw_at lw_m10 162 rfl) rfl
theorem q2420 : (Jvm.Cond.privateMethod ({ cls := "SoftWheelsModel", name := "stepOf", desc := "(II)I" } : Jvm.MethodName)) ∈ lw_tbl := lw_at lw_m10 163 rfl
theorem q2421 : (Jvm.Cond.instanceMethod ({ cls := "SoftWheelsModel", name := "stepOf", desc := "(II)I" } : Jvm.MethodName)) ∈ lw_all := lw_g (lw_at lw_m10 164 rfl) rfl
theorem q2422 : (Jvm.Cond.code ({ cls := "SoftWheelsModel", name := "stepOf", desc := "(II)I" } : Jvm.MethodName) prog_23_method_72_code (8 : Nat) (Option.some Jvm.ClassFile.FieldType.int)) ∈ lw_all := lw_g (lw_at lw_m10 165 rfl) rfl
theorem q2424 : (Jvm.Cond.instanceMethod ({ cls := "SoftWheelsModel", name := "truths", desc := "()I" } : Jvm.MethodName)) ∈ lw_all := lw_g (lw_at lw_m10 167 rfl) rfl
theorem q2425 : (Jvm.Cond.selects "SoftWheelsModel" ({ cls := "SoftWheelsModel", name := "truths", desc := "()I" } : Jvm.MethodName) ({ cls := "SoftWheelsModel", name := "truths", desc := "()I" } : Jvm.MethodName)) ∈ lw_all := lw_g (lw_at lw_m10 168 rfl) rfl
theorem q2426 : (Jvm.Cond.code ({ cls := "SoftWheelsModel", name := "truths", desc := "()I" } : Jvm.MethodName) prog_23_method_75_code (1 : Nat) (Option.some Jvm.ClassFile.FieldType.int)) ∈ lw_all := lw_g (lw_at lw_m10 169 rfl) rfl
theorem q2427 : (Jvm.Cond.methodLink "SoftWheelsModel" (443 : Nat) ({ cls := "SoftWheelsModel", name := "truthMany", desc := "()I" } : Jvm.MethodName)) ∈ lw_all := lw_g (lw_at lw_m10 170 rfl) rfl
theorem q2428 : (Jvm.Cond.privateMethod ({ cls := "SoftWheelsModel", name := "truthMany", desc := "()I" } : Jvm.MethodName)) ∈ lw_tbl := lw_at lw_m10 171 rfl
theorem q2429 : (Jvm.Cond.instanceMethod ({ cls := "SoftWheelsModel", name := "truthMany", desc := "()I" } : Jvm.MethodName)) ∈ lw_all := lw_g (lw_at lw_m10 172 rfl) rfl
theorem q2430 : (Jvm.Cond.code ({ cls := "SoftWheelsModel", name := "truthMany", desc := "()I" } : Jvm.MethodName) prog_23_method_74_code (3 : Nat) (Option.some Jvm.ClassFile.FieldType.int)) ∈ lw_all := lw_g (lw_at lw_m10 173 rfl) rfl
theorem q2432 : (Jvm.Cond.instanceMethod ({ cls := "SoftWheelsModel", name := "truth", desc := "(II)I" } : Jvm.MethodName)) ∈ lw_all := lw_g (lw_at lw_m10 175 rfl) rfl
theorem q2433 : (Jvm.Cond.selects "SoftWheelsModel" ({ cls := "SoftWheelsModel", name := "truth", desc := "(II)I" } : Jvm.MethodName) ({ cls := "SoftWheelsModel", name := "truth", desc := "(II)I" } : Jvm.MethodName)) ∈ lw_all := lw_g (lw_at lw_m10 176 rfl) rfl
theorem q2434 : (Jvm.Cond.code ({ cls := "SoftWheelsModel", name := "truth", desc := "(II)I" } : Jvm.MethodName) prog_23_method_77_code (3 : Nat) (Option.some Jvm.ClassFile.FieldType.int)) ∈ lw_all := lw_g (lw_at lw_m10 177 rfl) rfl
theorem q2435 : (Jvm.Cond.methodLink "SoftWheelsModel" (446 : Nat) ({ cls := "SoftWheelsModel", name := "all", desc := "(I)I" } : Jvm.MethodName)) ∈ lw_all := lw_g (lw_at lw_m10 178 rfl) rfl
theorem q2436 : (Jvm.Cond.privateMethod ({ cls := "SoftWheelsModel", name := "all", desc := "(I)I" } : Jvm.MethodName)) ∈ lw_tbl := lw_at lw_m10 179 rfl
theorem q2437 : (Jvm.Cond.instanceMethod ({ cls := "SoftWheelsModel", name := "all", desc := "(I)I" } : Jvm.MethodName)) ∈ lw_all := lw_g (lw_at lw_m10 180 rfl) rfl
theorem q2438 : (Jvm.Cond.code ({ cls := "SoftWheelsModel", name := "all", desc := "(I)I" } : Jvm.MethodName) prog_23_method_76_code (5 : Nat) (Option.some Jvm.ClassFile.FieldType.int)) ∈ lw_all := lw_g (lw_at lw_m10 181 rfl) rfl
theorem q2440 : (Jvm.Cond.instanceMethod ({ cls := "SoftWheelsModel", name := "run", desc := "(IIZI)I" } : Jvm.MethodName)) ∈ lw_all := lw_g (lw_at lw_m10 183 rfl) rfl
theorem q2441 : (Jvm.Cond.selects "SoftWheelsModel" ({ cls := "SoftWheelsModel", name := "run", desc := "(IIZI)I" } : Jvm.MethodName) ({ cls := "SoftWheelsModel", name := "run", desc := "(IIZI)I" } : Jvm.MethodName)) ∈ lw_all := lw_g (lw_at lw_m10 184 rfl) rfl
theorem q2442 : (Jvm.Cond.code ({ cls := "SoftWheelsModel", name := "run", desc := "(IIZI)I" } : Jvm.MethodName) prog_23_method_80_code (5 : Nat) (Option.some Jvm.ClassFile.FieldType.int)) ∈ lw_all := lw_g (lw_at lw_m10 185 rfl) rfl
theorem q2443 : (Jvm.Cond.methodLink "SoftWheelsModel" (458 : Nat) ({ cls := "SoftWheelsModel", name := "goes", desc := "(II)I" } : Jvm.MethodName)) ∈ lw_all := lw_g (lw_at lw_m10 186 rfl) rfl
theorem q2444 : (Jvm.Cond.privateMethod ({ cls := "SoftWheelsModel", name := "goes", desc := "(II)I" } : Jvm.MethodName)) ∈ lw_tbl := lw_at lw_m10 187 rfl
theorem q2445 : (Jvm.Cond.instanceMethod ({ cls := "SoftWheelsModel", name := "goes", desc := "(II)I" } : Jvm.MethodName)) ∈ lw_all := lw_g (lw_at lw_m10 188 rfl) rfl
theorem q2446 : (Jvm.Cond.code ({ cls := "SoftWheelsModel", name := "goes", desc := "(II)I" } : Jvm.MethodName) prog_23_method_79_code (9 : Nat) (Option.some Jvm.ClassFile.FieldType.int)) ∈ lw_all := lw_g (lw_at lw_m10 189 rfl) rfl
theorem q2447 : (Jvm.Cond.methodLink "SoftWheelsModel" (452 : Nat) ({ cls := "SoftWheelsModel", name := "sees", desc := "(III)I" } : Jvm.MethodName)) ∈ lw_all := lw_g (lw_at lw_m10 190 rfl) rfl
theorem q2448 : (Jvm.Cond.privateMethod ({ cls := "SoftWheelsModel", name := "sees", desc := "(III)I" } : Jvm.MethodName)) ∈ lw_tbl := lw_at lw_m10 191 rfl
theorem q2449 : (Jvm.Cond.instanceMethod ({ cls := "SoftWheelsModel", name := "sees", desc := "(III)I" } : Jvm.MethodName)) ∈ lw_all := lw_g (lw_at lw_m10 192 rfl) rfl
theorem q2450 : (Jvm.Cond.code ({ cls := "SoftWheelsModel", name := "sees", desc := "(III)I" } : Jvm.MethodName) prog_23_method_78_code (6 : Nat) (Option.some Jvm.ClassFile.FieldType.int)) ∈ lw_all := lw_g (lw_at lw_m10 193 rfl) rfl
theorem q2452 : (Jvm.Cond.instanceMethod ({ cls := "SoftWheelsModel", name := "led", desc := "(I)I" } : Jvm.MethodName)) ∈ lw_all := lw_g (lw_at lw_m10 195 rfl) rfl
theorem q2453 : (Jvm.Cond.selects "SoftWheelsModel" ({ cls := "SoftWheelsModel", name := "led", desc := "(I)I" } : Jvm.MethodName) ({ cls := "SoftWheelsModel", name := "led", desc := "(I)I" } : Jvm.MethodName)) ∈ lw_all := lw_g (lw_at lw_m10 196 rfl) rfl
theorem q2454 : (Jvm.Cond.code ({ cls := "SoftWheelsModel", name := "led", desc := "(I)I" } : Jvm.MethodName) prog_23_method_81_code (2 : Nat) (Option.some Jvm.ClassFile.FieldType.int)) ∈ lw_all := lw_g (lw_at lw_m10 197 rfl) rfl
theorem q2456 : (Jvm.Cond.instanceMethod ({ cls := "SoftWheelsModel", name := "regret", desc := "(II)I" } : Jvm.MethodName)) ∈ lw_all := lw_g (lw_at lw_m10 199 rfl) rfl
theorem q2457 : (Jvm.Cond.selects "SoftWheelsModel" ({ cls := "SoftWheelsModel", name := "regret", desc := "(II)I" } : Jvm.MethodName) ({ cls := "SoftWheelsModel", name := "regret", desc := "(II)I" } : Jvm.MethodName)) ∈ lw_all := lw_g (lw_at lw_m10 200 rfl) rfl
theorem q2458 : (Jvm.Cond.code ({ cls := "SoftWheelsModel", name := "regret", desc := "(II)I" } : Jvm.MethodName) prog_23_method_82_code (7 : Nat) (Option.some Jvm.ClassFile.FieldType.int)) ∈ lw_all := lw_g (lw_at lw_m10 201 rfl) rfl
theorem q2460 : (Jvm.Cond.instanceMethod ({ cls := "SoftWheelsModel", name := "worth", desc := "(IIIZ)J" } : Jvm.MethodName)) ∈ lw_all := lw_g (lw_at lw_m10 203 rfl) rfl
theorem q2461 : (Jvm.Cond.selects "SoftWheelsModel" ({ cls := "SoftWheelsModel", name := "worth", desc := "(IIIZ)J" } : Jvm.MethodName) ({ cls := "SoftWheelsModel", name := "worth", desc := "(IIIZ)J" } : Jvm.MethodName)) ∈ lw_all := lw_g (lw_at lw_m10 204 rfl) rfl
theorem q2462 : (Jvm.Cond.code ({ cls := "SoftWheelsModel", name := "worth", desc := "(IIIZ)J" } : Jvm.MethodName) prog_23_method_83_code (11 : Nat) (Option.some Jvm.ClassFile.FieldType.long)) ∈ lw_all := lw_g (lw_at lw_m10 205 rfl) rfl
theorem q2464 : (Jvm.Cond.instanceMethod ({ cls := "SoftWheelsModel", name := "spared", desc := "(III)I" } : Jvm.MethodName)) ∈ lw_all := lw_g (lw_at lw_m10 207 rfl) rfl
theorem q2465 : (Jvm.Cond.selects "SoftWheelsModel" ({ cls := "SoftWheelsModel", name := "spared", desc := "(III)I" } : Jvm.MethodName) ({ cls := "SoftWheelsModel", name := "spared", desc := "(III)I" } : Jvm.MethodName)) ∈ lw_all := lw_g (lw_at lw_m10 208 rfl) rfl
theorem q2466 : (Jvm.Cond.code ({ cls := "SoftWheelsModel", name := "spared", desc := "(III)I" } : Jvm.MethodName) prog_23_method_84_code (12 : Nat) (Option.some Jvm.ClassFile.FieldType.int)) ∈ lw_all := lw_g (lw_at lw_m10 209 rfl) rfl
theorem q2468 : (Jvm.Cond.instanceMethod ({ cls := "SoftWheelsModel", name := "plan", desc := "(I)I" } : Jvm.MethodName)) ∈ lw_all := lw_g (lw_at lw_m10 211 rfl) rfl
theorem q2469 : (Jvm.Cond.selects "SoftWheelsModel" ({ cls := "SoftWheelsModel", name := "plan", desc := "(I)I" } : Jvm.MethodName) ({ cls := "SoftWheelsModel", name := "plan", desc := "(I)I" } : Jvm.MethodName)) ∈ lw_all := lw_g (lw_at lw_m10 212 rfl) rfl
theorem q2470 : (Jvm.Cond.code ({ cls := "SoftWheelsModel", name := "plan", desc := "(I)I" } : Jvm.MethodName) prog_23_method_90_code (2 : Nat) (Option.some Jvm.ClassFile.FieldType.int)) ∈ lw_all := lw_g (lw_at lw_m10 213 rfl) rfl
theorem q2471 : (Jvm.Cond.methodLink "SoftWheelsModel" (480 : Nat) ({ cls := "SoftWheelsModel", name := "reads", desc := "()V" } : Jvm.MethodName)) ∈ lw_all := lw_g (lw_at lw_m10 214 rfl) rfl
theorem q2472 : (Jvm.Cond.privateMethod ({ cls := "SoftWheelsModel", name := "reads", desc := "()V" } : Jvm.MethodName)) ∈ lw_tbl := lw_at lw_m10 215 rfl
theorem q2473 : (Jvm.Cond.instanceMethod ({ cls := "SoftWheelsModel", name := "reads", desc := "()V" } : Jvm.MethodName)) ∈ lw_all := lw_g (lw_at lw_m10 216 rfl) rfl
theorem q2474 : (Jvm.Cond.code ({ cls := "SoftWheelsModel", name := "reads", desc := "()V" } : Jvm.MethodName) prog_23_method_89_code (6 : Nat) (Option.none : Option Jvm.ClassFile.FieldType)) ∈ lw_all := lw_g (lw_at lw_m10 217 rfl) rfl
theorem q2475 : (Jvm.Cond.methodLink "SoftWheelsModel" (474 : Nat) ({ cls := "SoftWheelsModel", name := "opens", desc := "(I)Z" } : Jvm.MethodName)) ∈ lw_all := lw_g (lw_at lw_m10 218 rfl) rfl
theorem q2476 : (Jvm.Cond.privateMethod ({ cls := "SoftWheelsModel", name := "opens", desc := "(I)Z" } : Jvm.MethodName)) ∈ lw_tbl := lw_at lw_m10 219 rfl
theorem q2477 : (Jvm.Cond.instanceMethod ({ cls := "SoftWheelsModel", name := "opens", desc := "(I)Z" } : Jvm.MethodName)) ∈ lw_all := lw_g (lw_at lw_m10 220 rfl) rfl
theorem q2478 : (Jvm.Cond.code ({ cls := "SoftWheelsModel", name := "opens", desc := "(I)Z" } : Jvm.MethodName) prog_23_method_88_code (6 : Nat) (Option.some Jvm.ClassFile.FieldType.boolean)) ∈ lw_all := lw_g (lw_at lw_m10 221 rfl) rfl
theorem q2479 : (Jvm.Cond.methodLink "SoftWheelsModel" (464 : Nat) ({ cls := "SoftWheelsModel", name := "wayWord", desc := "()I" } : Jvm.MethodName)) ∈ lw_all := lw_g (lw_at lw_m10 222 rfl) rfl
theorem q2480 : (Jvm.Cond.privateMethod ({ cls := "SoftWheelsModel", name := "wayWord", desc := "()I" } : Jvm.MethodName)) ∈ lw_tbl := lw_at lw_m10 223 rfl
theorem q2481 : (Jvm.Cond.instanceMethod ({ cls := "SoftWheelsModel", name := "wayWord", desc := "()I" } : Jvm.MethodName)) ∈ lw_all := lw_g (lw_at lw_m10 224 rfl) rfl
theorem q2482 : (Jvm.Cond.code ({ cls := "SoftWheelsModel", name := "wayWord", desc := "()I" } : Jvm.MethodName) prog_23_method_87_code (1 : Nat) (Option.some Jvm.ClassFile.FieldType.int)) ∈ lw_all := lw_g (lw_at lw_m10 225 rfl) rfl
theorem q2483 : (Jvm.Cond.methodLink "SoftWheelsModel" (470 : Nat) ({ cls := "SoftWheelsModel", name := "order", desc := "(IIII)I" } : Jvm.MethodName)) ∈ lw_all := lw_g (lw_at lw_m10 226 rfl) rfl
theorem q2484 : (Jvm.Cond.privateMethod ({ cls := "SoftWheelsModel", name := "order", desc := "(IIII)I" } : Jvm.MethodName)) ∈ lw_tbl := lw_at lw_m10 227 rfl
theorem q2485 : (Jvm.Cond.instanceMethod ({ cls := "SoftWheelsModel", name := "order", desc := "(IIII)I" } : Jvm.MethodName)) ∈ lw_all := lw_g (lw_at lw_m10 228 rfl) rfl
theorem q2486 : (Jvm.Cond.code ({ cls := "SoftWheelsModel", name := "order", desc := "(IIII)I" } : Jvm.MethodName) prog_23_method_85_code (6 : Nat) (Option.some Jvm.ClassFile.FieldType.int)) ∈ lw_all := lw_g (lw_at lw_m10 229 rfl) rfl
theorem q2487 : (Jvm.Cond.methodLink "SoftWheelsModel" (477 : Nat) ({ cls := "SoftWheelsModel", name := "lands", desc := "(I)V" } : Jvm.MethodName)) ∈ lw_all := lw_g (lw_at lw_m10 230 rfl) rfl
theorem q2488 : (Jvm.Cond.privateMethod ({ cls := "SoftWheelsModel", name := "lands", desc := "(I)V" } : Jvm.MethodName)) ∈ lw_tbl := lw_at lw_m10 231 rfl
theorem q2489 : (Jvm.Cond.instanceMethod ({ cls := "SoftWheelsModel", name := "lands", desc := "(I)V" } : Jvm.MethodName)) ∈ lw_all := lw_g (lw_at lw_m10 232 rfl) rfl
theorem q2490 : (Jvm.Cond.code ({ cls := "SoftWheelsModel", name := "lands", desc := "(I)V" } : Jvm.MethodName) prog_23_method_86_code (2 : Nat) (Option.none : Option Jvm.ClassFile.FieldType)) ∈ lw_all := lw_g (lw_at lw_m10 233 rfl) rfl
theorem q2492 : (Jvm.Cond.instanceMethod ({ cls := "SoftWheelsModel", name := "failing", desc := "(IIII)I" } : Jvm.MethodName)) ∈ lw_all := lw_g (lw_at lw_m10 235 rfl) rfl
theorem q2493 : (Jvm.Cond.selects "SoftWheelsModel" ({ cls := "SoftWheelsModel", name := "failing", desc := "(IIII)I" } : Jvm.MethodName) ({ cls := "SoftWheelsModel", name := "failing", desc := "(IIII)I" } : Jvm.MethodName)) ∈ lw_all := lw_g (lw_at lw_m10 236 rfl) rfl
theorem q2494 : (Jvm.Cond.code ({ cls := "SoftWheelsModel", name := "failing", desc := "(IIII)I" } : Jvm.MethodName) prog_23_method_92_code (8 : Nat) (Option.some Jvm.ClassFile.FieldType.int)) ∈ lw_all := lw_g (lw_at lw_m10 237 rfl) rfl
theorem q2495 : (Jvm.Cond.constant "SoftWheelsModel" (489 : Nat) (9999999 : Int32)) ∈ lw_all := lw_g (lw_at lw_m10 238 rfl) rfl
theorem q2496 : (Jvm.Cond.methodLink "SoftWheelsModel" (490 : Nat) ({ cls := "SoftWheelsModel", name := "acts", desc := "(IIII)I" } : Jvm.MethodName)) ∈ lw_all := lw_g (lw_at lw_m10 239 rfl) rfl
theorem q2497 : (Jvm.Cond.privateMethod ({ cls := "SoftWheelsModel", name := "acts", desc := "(IIII)I" } : Jvm.MethodName)) ∈ lw_tbl := lw_at lw_m11 0 rfl
theorem q2498 : (Jvm.Cond.instanceMethod ({ cls := "SoftWheelsModel", name := "acts", desc := "(IIII)I" } : Jvm.MethodName)) ∈ lw_all := lw_g (lw_at lw_m11 1 rfl) rfl
theorem q2499 : (Jvm.Cond.code ({ cls := "SoftWheelsModel", name := "acts", desc := "(IIII)I" } : Jvm.MethodName) prog_23_method_91_code (15 : Nat) (Option.some Jvm.ClassFile.FieldType.int)) ∈ lw_all := lw_g (lw_at lw_m11 2 rfl) rfl
theorem q2501 : (Jvm.Cond.instanceMethod ({ cls := "SoftWheelsModel", name := "first", desc := "(I)I" } : Jvm.MethodName)) ∈ lw_all := lw_g (lw_at lw_m11 4 rfl) rfl
theorem q2502 : (Jvm.Cond.selects "SoftWheelsModel" ({ cls := "SoftWheelsModel", name := "first", desc := "(I)I" } : Jvm.MethodName) ({ cls := "SoftWheelsModel", name := "first", desc := "(I)I" } : Jvm.MethodName)) ∈ lw_all := lw_g (lw_at lw_m11 5 rfl) rfl
theorem q2503 : (Jvm.Cond.code ({ cls := "SoftWheelsModel", name := "first", desc := "(I)I" } : Jvm.MethodName) prog_23_method_93_code (2 : Nat) (Option.some Jvm.ClassFile.FieldType.int)) ∈ lw_all := lw_g (lw_at lw_m11 6 rfl) rfl
theorem q2505 : (Jvm.Cond.instanceMethod ({ cls := "SoftWheelsModel", name := "costs", desc := "(III)I" } : Jvm.MethodName)) ∈ lw_all := lw_g (lw_at lw_m11 8 rfl) rfl
theorem q2506 : (Jvm.Cond.selects "SoftWheelsModel" ({ cls := "SoftWheelsModel", name := "costs", desc := "(III)I" } : Jvm.MethodName) ({ cls := "SoftWheelsModel", name := "costs", desc := "(III)I" } : Jvm.MethodName)) ∈ lw_all := lw_g (lw_at lw_m11 9 rfl) rfl
theorem q2507 : (Jvm.Cond.code ({ cls := "SoftWheelsModel", name := "costs", desc := "(III)I" } : Jvm.MethodName) prog_23_method_94_code (6 : Nat) (Option.some Jvm.ClassFile.FieldType.int)) ∈ lw_all := lw_g (lw_at lw_m11 10 rfl) rfl
theorem q2509 : (Jvm.Cond.instanceMethod ({ cls := "SoftWheelsModel", name := "dig", desc := "(II)Z" } : Jvm.MethodName)) ∈ lw_all := lw_g (lw_at lw_m11 12 rfl) rfl
theorem q2510 : (Jvm.Cond.selects "SoftWheelsModel" ({ cls := "SoftWheelsModel", name := "dig", desc := "(II)Z" } : Jvm.MethodName) ({ cls := "SoftWheelsModel", name := "dig", desc := "(II)Z" } : Jvm.MethodName)) ∈ lw_all := lw_g (lw_at lw_m11 13 rfl) rfl
theorem q2511 : (Jvm.Cond.code ({ cls := "SoftWheelsModel", name := "dig", desc := "(II)Z" } : Jvm.MethodName) prog_23_method_95_code (3 : Nat) (Option.some Jvm.ClassFile.FieldType.boolean)) ∈ lw_all := lw_g (lw_at lw_m11 14 rfl) rfl
theorem q2513 : (Jvm.Cond.instanceMethod ({ cls := "SoftWheelsModel", name := "out", desc := "()I" } : Jvm.MethodName)) ∈ lw_all := lw_g (lw_at lw_m11 16 rfl) rfl
theorem q2514 : (Jvm.Cond.selects "SoftWheelsModel" ({ cls := "SoftWheelsModel", name := "out", desc := "()I" } : Jvm.MethodName) ({ cls := "SoftWheelsModel", name := "out", desc := "()I" } : Jvm.MethodName)) ∈ lw_all := lw_g (lw_at lw_m11 17 rfl) rfl
theorem q2515 : (Jvm.Cond.code ({ cls := "SoftWheelsModel", name := "out", desc := "()I" } : Jvm.MethodName) prog_23_method_99_code (2 : Nat) (Option.some Jvm.ClassFile.FieldType.int)) ∈ lw_all := lw_g (lw_at lw_m11 18 rfl) rfl
theorem q2516 : (Jvm.Cond.methodLink "SoftWheelsModel" (497 : Nat) ({ cls := "SoftWheelsModel", name := "digs", desc := "()V" } : Jvm.MethodName)) ∈ lw_all := lw_g (lw_at lw_m11 19 rfl) rfl
theorem q2517 : (Jvm.Cond.privateMethod ({ cls := "SoftWheelsModel", name := "digs", desc := "()V" } : Jvm.MethodName)) ∈ lw_tbl := lw_at lw_m11 20 rfl
theorem q2518 : (Jvm.Cond.instanceMethod ({ cls := "SoftWheelsModel", name := "digs", desc := "()V" } : Jvm.MethodName)) ∈ lw_all := lw_g (lw_at lw_m11 21 rfl) rfl
theorem q2519 : (Jvm.Cond.code ({ cls := "SoftWheelsModel", name := "digs", desc := "()V" } : Jvm.MethodName) prog_23_method_98_code (7 : Nat) (Option.none : Option Jvm.ClassFile.FieldType)) ∈ lw_all := lw_g (lw_at lw_m11 22 rfl) rfl
theorem q2520 : (Jvm.Cond.constant "SoftWheelsModel" (493 : Nat) (2000000000 : Int32)) ∈ lw_all := lw_g (lw_at lw_m11 23 rfl) rfl
theorem q2521 : (Jvm.Cond.methodLink "SoftWheelsModel" (494 : Nat) ({ cls := "SoftWheelsModel", name := "behind", desc := "(III)I" } : Jvm.MethodName)) ∈ lw_all := lw_g (lw_at lw_m11 24 rfl) rfl
theorem q2522 : (Jvm.Cond.privateMethod ({ cls := "SoftWheelsModel", name := "behind", desc := "(III)I" } : Jvm.MethodName)) ∈ lw_tbl := lw_at lw_m11 25 rfl
theorem q2523 : (Jvm.Cond.instanceMethod ({ cls := "SoftWheelsModel", name := "behind", desc := "(III)I" } : Jvm.MethodName)) ∈ lw_all := lw_g (lw_at lw_m11 26 rfl) rfl
theorem q2524 : (Jvm.Cond.code ({ cls := "SoftWheelsModel", name := "behind", desc := "(III)I" } : Jvm.MethodName) prog_23_method_97_code (9 : Nat) (Option.some Jvm.ClassFile.FieldType.int)) ∈ lw_all := lw_g (lw_at lw_m11 27 rfl) rfl
theorem q2525 : (Jvm.Cond.methodLink "SoftWheelsModel" (500 : Nat) ({ cls := "SoftWheelsModel", name := "digState", desc := "()I" } : Jvm.MethodName)) ∈ lw_all := lw_g (lw_at lw_m11 28 rfl) rfl
theorem q2526 : (Jvm.Cond.privateMethod ({ cls := "SoftWheelsModel", name := "digState", desc := "()I" } : Jvm.MethodName)) ∈ lw_tbl := lw_at lw_m11 29 rfl
theorem q2527 : (Jvm.Cond.instanceMethod ({ cls := "SoftWheelsModel", name := "digState", desc := "()I" } : Jvm.MethodName)) ∈ lw_all := lw_g (lw_at lw_m11 30 rfl) rfl
theorem q2528 : (Jvm.Cond.code ({ cls := "SoftWheelsModel", name := "digState", desc := "()I" } : Jvm.MethodName) prog_23_method_96_code (3 : Nat) (Option.some Jvm.ClassFile.FieldType.int)) ∈ lw_all := lw_g (lw_at lw_m11 31 rfl) rfl
theorem q2530 : (Jvm.Cond.instanceMethod ({ cls := "SoftWheelsModel", name := "tryAt", desc := "(I)I" } : Jvm.MethodName)) ∈ lw_all := lw_g (lw_at lw_m11 33 rfl) rfl
theorem q2531 : (Jvm.Cond.selects "SoftWheelsModel" ({ cls := "SoftWheelsModel", name := "tryAt", desc := "(I)I" } : Jvm.MethodName) ({ cls := "SoftWheelsModel", name := "tryAt", desc := "(I)I" } : Jvm.MethodName)) ∈ lw_all := lw_g (lw_at lw_m11 34 rfl) rfl
theorem q2532 : (Jvm.Cond.code ({ cls := "SoftWheelsModel", name := "tryAt", desc := "(I)I" } : Jvm.MethodName) prog_23_method_100_code (8 : Nat) (Option.some Jvm.ClassFile.FieldType.int)) ∈ lw_all := lw_g (lw_at lw_m11 35 rfl) rfl
theorem q2534 : (Jvm.Cond.instanceMethod ({ cls := "SoftWheelsModel", name := "make", desc := "(II)I" } : Jvm.MethodName)) ∈ lw_all := lw_g (lw_at lw_m11 37 rfl) rfl
theorem q2535 : (Jvm.Cond.selects "SoftWheelsModel" ({ cls := "SoftWheelsModel", name := "make", desc := "(II)I" } : Jvm.MethodName) ({ cls := "SoftWheelsModel", name := "make", desc := "(II)I" } : Jvm.MethodName)) ∈ lw_all := lw_g (lw_at lw_m11 38 rfl) rfl
theorem q2536 : (Jvm.Cond.code ({ cls := "SoftWheelsModel", name := "make", desc := "(II)I" } : Jvm.MethodName) prog_23_method_102_code (5 : Nat) (Option.some Jvm.ClassFile.FieldType.int)) ∈ lw_all := lw_g (lw_at lw_m11 39 rfl) rfl
theorem q2537 : (Jvm.Cond.methodLink "SoftWheelsModel" (503 : Nat) ({ cls := "SoftWheelsModel", name := "mostDug", desc := "()I" } : Jvm.MethodName)) ∈ lw_all := lw_g (lw_at lw_m11 40 rfl) rfl
theorem q2538 : (Jvm.Cond.privateMethod ({ cls := "SoftWheelsModel", name := "mostDug", desc := "()I" } : Jvm.MethodName)) ∈ lw_tbl := lw_at lw_m11 41 rfl
theorem q2539 : (Jvm.Cond.instanceMethod ({ cls := "SoftWheelsModel", name := "mostDug", desc := "()I" } : Jvm.MethodName)) ∈ lw_all := lw_g (lw_at lw_m11 42 rfl) rfl
theorem q2540 : (Jvm.Cond.code ({ cls := "SoftWheelsModel", name := "mostDug", desc := "()I" } : Jvm.MethodName) prog_23_method_101_code (3 : Nat) (Option.some Jvm.ClassFile.FieldType.int)) ∈ lw_all := lw_g (lw_at lw_m11 43 rfl) rfl
theorem q2542 : (Jvm.Cond.instanceMethod ({ cls := "SoftWheelsModel", name := "count", desc := "(I)I" } : Jvm.MethodName)) ∈ lw_all := lw_g (lw_at lw_m11 45 rfl) rfl
theorem q2543 : (Jvm.Cond.selects "SoftWheelsModel" ({ cls := "SoftWheelsModel", name := "count", desc := "(I)I" } : Jvm.MethodName) ({ cls := "SoftWheelsModel", name := "count", desc := "(I)I" } : Jvm.MethodName)) ∈ lw_all := lw_g (lw_at lw_m11 46 rfl) rfl
theorem q2544 : (Jvm.Cond.code ({ cls := "SoftWheelsModel", name := "count", desc := "(I)I" } : Jvm.MethodName) prog_23_method_103_code (4 : Nat) (Option.some Jvm.ClassFile.FieldType.int)) ∈ lw_all := lw_g (lw_at lw_m11 47 rfl) rfl
theorem q2546 : (Jvm.Cond.instanceMethod ({ cls := "SoftWheelsModel", name := "trouble", desc := "()I" } : Jvm.MethodName)) ∈ lw_all := lw_g (lw_at lw_m11 49 rfl) rfl
theorem q2547 : (Jvm.Cond.selects "SoftWheelsModel" ({ cls := "SoftWheelsModel", name := "trouble", desc := "()I" } : Jvm.MethodName) ({ cls := "SoftWheelsModel", name := "trouble", desc := "()I" } : Jvm.MethodName)) ∈ lw_all := lw_g (lw_at lw_m11 50 rfl) rfl
theorem q2548 : (Jvm.Cond.code ({ cls := "SoftWheelsModel", name := "trouble", desc := "()I" } : Jvm.MethodName) prog_23_method_104_code (1 : Nat) (Option.some Jvm.ClassFile.FieldType.int)) ∈ lw_all := lw_g (lw_at lw_m11 51 rfl) rfl
theorem q2559 : (Jvm.Cond.castable "SoftWheelsModel" "java/lang/Object") ∈ lw_tbl := lw_at lw_m11 62 rfl
theorem in_X3 : ∀ w ∈ wsX30, w ∈ lw_all := lw_in wsX30 [1968, 1970, 1972, 1974, 1976, 1978, 1980, 1982, 1984, 1986, 1988, 1990, 1992, 1994, 1996, 1998, 2000, 2002, 2004, 2006, 2008, 2010, 2012, 2014, 2016, 2018, 2020, 2022, 2024, 2026, 2028, 2030, 2032, 2034, 2036, 2038, 2040, 2042, 2044, 2046, 2048, 2050, 2052, 2054, 2056, 2058, 2060, 2062, 2064, 2066, 2068, 2070, 2072, 2074, 2076, 2078, 2080, 2082, 2084, 2086, 2088, 2090, 2092, 2094, 2096, 2098, 2100, 2102, 2104, 2106, 2108, 2110, 2112, 2114, 2116] (by decide +kernel) (by decide +kernel)
