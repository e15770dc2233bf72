/-! SoftWheels -/
set_option maxRecDepth 100000
def RX1 : String := "SoftWheels"
def TX1 : u_T := fun k => match k with
  | 0 => ("SoftWheels", "trouble", "I", false)
  | 1 => ("SoftWheels", "where", "I", false)
  | 2 => ("SoftWheels", "book", "LSoftWheels$Book;", false)
  | 3 => ("SoftWheels", "dead", "I", false)
  | 4 => ("SoftWheels", "tape", "[B", true)
  | 5 => ("SoftWheels", "taped", "I", false)
  | 6 => ("SoftWheels", "fault", "I", false)
  | 7 => ("SoftWheels", "map", "LSoftWheels$Land;", false)
  | 8 => ("SoftWheels", "solver", "LSoftWheels$Solver;", true)
  | 9 => ("SoftWheels", "cells", "Ljava/util/ArrayList;", true)
  | 10 => ("SoftWheels", "plans", "Ljava/util/ArrayList;", true)
  | 11 => ("SoftWheels", "firstTruth", "I", false)
  | 12 => ("SoftWheels", "firstWhy", "I", false)
  | 13 => ("SoftWheels", "firstMade", "I", false)
  | 14 => ("SoftWheels", "dug", "[I", true)
  | _ => ("SoftWheels", "pit", "LSoftWheels$Pit;", false)
def tyX1 : Nat → FieldType := fun k => match k with
  | 0 => .int
  | 1 => .int
  | 2 => .object "SoftWheels$Book"
  | 3 => .int
  | 4 => .array .byte
  | 5 => .int
  | 6 => .int
  | 7 => .object "SoftWheels$Land"
  | 8 => .object "SoftWheels$Solver"
  | 9 => .object "java/util/ArrayList"
  | 10 => .object "java/util/ArrayList"
  | 11 => .int
  | 12 => .int
  | 13 => .int
  | 14 => .array .int
  | _ => .object "SoftWheels$Pit"
abbrev wsX10 : List Cond := u_ws RX1 TX1 16
set_option maxRecDepth 100000 in
theorem nmX1 : ∀ a, a < 16 → ∀ b, b < 16 → a ≠ b → (TX1 a).2.1 ≠ (TX1 b).2.1 := by decide +kernel
set_option maxRecDepth 100000 in
theorem tyX1_ok : ∀ k, k < 16 → parseFieldDescriptor (TX1 k).2.2.1 = some (tyX1 k) := by decide +kernel
abbrev cX1_init : ByteArray := prog_1_method_1_code
def yX1_init : MethodName := ⟨RX1, "<init>", "()V"⟩
def dkwX1_init_3 : List UInt8 := [188, 10, 181, 0, 45, 177]
abbrev dktX1_init_3 : List UInt8 := dkwX1_init_3 ++ []
def dkwX1_init_2 : List UInt8 := [183, 0, 28, 181, 0, 33, 42, 2, 181, 0, 36, 42, 2, 181, 0, 39, 42, 2, 181, 0, 42, 42, 16, 6]
abbrev dktX1_init_2 : List UInt8 := dkwX1_init_2 ++ dktX1_init_3
def dkwX1_init_1 : List UInt8 := [183, 0, 21, 181, 0, 22, 42, 187, 0, 26, 89, 183, 0, 28, 181, 0, 29, 42, 187, 0, 26, 89]
abbrev dktX1_init_1 : List UInt8 := dkwX1_init_1 ++ dktX1_init_2
def dkwX1_init_0 : List UInt8 := [42, 183, 0, 3, 42, 2, 181, 0, 11, 42, 17, 1, 244, 188, 8, 181, 0, 15, 42, 187, 0, 19, 89]
abbrev dktX1_init_0 : List UInt8 := dkwX1_init_0 ++ dktX1_init_1
theorem dksX1_init_0 : cX1_init.data.toList.drop 0 = dktX1_init_0 := by decide +kernel
theorem dksX1_init_1 : cX1_init.data.toList.drop 23 = dktX1_init_1 := dk_seg dksX1_init_0 23 rfl rfl
theorem dksX1_init_2 : cX1_init.data.toList.drop 45 = dktX1_init_2 := dk_seg dksX1_init_1 22 rfl rfl
theorem dksX1_init_3 : cX1_init.data.toList.drop 69 = dktX1_init_3 := dk_seg dksX1_init_2 24 rfl rfl
theorem dX1_init_0 : decode cX1_init 0 = .ok (.aload_n 0, 1) := dk_42 (dk_at dksX1_init_0 0 rfl rfl)
theorem dX1_init_1 : decode cX1_init 1 = .ok (.invokespecial 3, 3) := dk_183 0 3 (dk_at dksX1_init_0 1 rfl rfl)
theorem dX1_init_4 : decode cX1_init 4 = .ok (.aload_n 0, 1) := dk_42 (dk_at dksX1_init_0 4 rfl rfl)
theorem dX1_init_5 : decode cX1_init 5 = .ok (.iconst (-1), 1) := dk_2 (dk_at dksX1_init_0 5 rfl rfl)
theorem dX1_init_6 : decode cX1_init 6 = .ok (.putfield 11, 3) := dk_181 0 11 (dk_at dksX1_init_0 6 rfl rfl)
theorem dX1_init_9 : decode cX1_init 9 = .ok (.aload_n 0, 1) := dk_42 (dk_at dksX1_init_0 9 rfl rfl)
theorem dX1_init_10 : decode cX1_init 10 = .ok (.sipush 500, 3) := dk_17 1 244 (dk_at dksX1_init_0 10 rfl rfl)
theorem dX1_init_13 : decode cX1_init 13 = .ok (.newarray .byte, 2) := dk_188_8 (dk_at dksX1_init_0 13 rfl rfl)
theorem dX1_init_15 : decode cX1_init 15 = .ok (.putfield 15, 3) := dk_181 0 15 (dk_at dksX1_init_0 15 rfl rfl)
theorem dX1_init_18 : decode cX1_init 18 = .ok (.aload_n 0, 1) := dk_42 (dk_at dksX1_init_0 18 rfl rfl)
theorem dX1_init_19 : decode cX1_init 19 = .ok (.new 19, 3) := dk_187 0 19 (dk_at dksX1_init_0 19 rfl rfl)
theorem dX1_init_22 : decode cX1_init 22 = .ok (.dup, 1) := dk_89 (dk_at dksX1_init_0 22 rfl rfl)
theorem dX1_init_23 : decode cX1_init 23 = .ok (.invokespecial 21, 3) := dk_183 0 21 (dk_at dksX1_init_1 0 rfl rfl)
theorem dX1_init_26 : decode cX1_init 26 = .ok (.putfield 22, 3) := dk_181 0 22 (dk_at dksX1_init_1 3 rfl rfl)
theorem dX1_init_29 : decode cX1_init 29 = .ok (.aload_n 0, 1) := dk_42 (dk_at dksX1_init_1 6 rfl rfl)
theorem dX1_init_30 : decode cX1_init 30 = .ok (.new 26, 3) := dk_187 0 26 (dk_at dksX1_init_1 7 rfl rfl)
theorem dX1_init_33 : decode cX1_init 33 = .ok (.dup, 1) := dk_89 (dk_at dksX1_init_1 10 rfl rfl)
theorem dX1_init_34 : decode cX1_init 34 = .ok (.invokespecial 28, 3) := dk_183 0 28 (dk_at dksX1_init_1 11 rfl rfl)
theorem dX1_init_37 : decode cX1_init 37 = .ok (.putfield 29, 3) := dk_181 0 29 (dk_at dksX1_init_1 14 rfl rfl)
theorem dX1_init_40 : decode cX1_init 40 = .ok (.aload_n 0, 1) := dk_42 (dk_at dksX1_init_1 17 rfl rfl)
theorem dX1_init_41 : decode cX1_init 41 = .ok (.new 26, 3) := dk_187 0 26 (dk_at dksX1_init_1 18 rfl rfl)
theorem dX1_init_44 : decode cX1_init 44 = .ok (.dup, 1) := dk_89 (dk_at dksX1_init_1 21 rfl rfl)
theorem dX1_init_45 : decode cX1_init 45 = .ok (.invokespecial 28, 3) := dk_183 0 28 (dk_at dksX1_init_2 0 rfl rfl)
theorem dX1_init_48 : decode cX1_init 48 = .ok (.putfield 33, 3) := dk_181 0 33 (dk_at dksX1_init_2 3 rfl rfl)
theorem dX1_init_51 : decode cX1_init 51 = .ok (.aload_n 0, 1) := dk_42 (dk_at dksX1_init_2 6 rfl rfl)
theorem dX1_init_52 : decode cX1_init 52 = .ok (.iconst (-1), 1) := dk_2 (dk_at dksX1_init_2 7 rfl rfl)
theorem dX1_init_53 : decode cX1_init 53 = .ok (.putfield 36, 3) := dk_181 0 36 (dk_at dksX1_init_2 8 rfl rfl)
theorem dX1_init_56 : decode cX1_init 56 = .ok (.aload_n 0, 1) := dk_42 (dk_at dksX1_init_2 11 rfl rfl)
theorem dX1_init_57 : decode cX1_init 57 = .ok (.iconst (-1), 1) := dk_2 (dk_at dksX1_init_2 12 rfl rfl)
theorem dX1_init_58 : decode cX1_init 58 = .ok (.putfield 39, 3) := dk_181 0 39 (dk_at dksX1_init_2 13 rfl rfl)
theorem dX1_init_61 : decode cX1_init 61 = .ok (.aload_n 0, 1) := dk_42 (dk_at dksX1_init_2 16 rfl rfl)
theorem dX1_init_62 : decode cX1_init 62 = .ok (.iconst (-1), 1) := dk_2 (dk_at dksX1_init_2 17 rfl rfl)
theorem dX1_init_63 : decode cX1_init 63 = .ok (.putfield 42, 3) := dk_181 0 42 (dk_at dksX1_init_2 18 rfl rfl)
theorem dX1_init_66 : decode cX1_init 66 = .ok (.aload_n 0, 1) := dk_42 (dk_at dksX1_init_2 21 rfl rfl)
theorem dX1_init_67 : decode cX1_init 67 = .ok (.bipush 6, 2) := dk_16 6 (dk_at dksX1_init_2 22 rfl rfl)
theorem dX1_init_69 : decode cX1_init 69 = .ok (.newarray .int, 2) := dk_188_10 (dk_at dksX1_init_3 0 rfl rfl)
theorem dX1_init_71 : decode cX1_init 71 = .ok (.putfield 45, 3) := dk_181 0 45 (dk_at dksX1_init_3 2 rfl rfl)
theorem dX1_init_74 : decode cX1_init 74 = .ok (.return_, 1) := dk_177 (dk_at dksX1_init_3 5 rfl rfl)
abbrev cX1_feed : ByteArray := prog_1_method_9_code
def yX1_feed : MethodName := ⟨RX1, "feed", "(IIIII)I"⟩
def dkwX1_feed_4 : List UInt8 := [122, 145, 84, 132, 11, 248, 167, 255, 226, 132, 9, 1, 167, 255, 202, 42, 180, 0, 61, 172]
abbrev dktX1_feed_4 : List UInt8 := dkwX1_feed_4 ++ []
def dkwX1_feed_3 : List UInt8 := [21, 11, 155, 0, 31, 42, 180, 0, 15, 42, 89, 180, 0, 61, 90, 4, 96, 181, 0, 61, 21, 10, 21, 11]
abbrev dktX1_feed_3 : List UInt8 := dkwX1_feed_3 ++ dktX1_feed_4
def dkwX1_feed_2 : List UInt8 := [190, 54, 8, 3, 54, 9, 21, 9, 21, 8, 162, 0, 53, 25, 7, 21, 9, 46, 54, 10, 16, 24, 54, 11]
abbrev dktX1_feed_2 : List UInt8 := dkwX1_feed_2 ++ dktX1_feed_3
def dkwX1_feed_1 : List UInt8 := [28, 79, 89, 5, 29, 79, 89, 6, 21, 4, 79, 89, 7, 21, 5, 79, 58, 6, 25, 6, 58, 7, 25, 7]
abbrev dktX1_feed_1 : List UInt8 := dkwX1_feed_1 ++ dktX1_feed_2
def dkwX1_feed_0 : List UInt8 := [42, 180, 0, 61, 16, 20, 96, 17, 1, 244, 164, 0, 5, 2, 172, 8, 188, 10, 89, 3, 27, 79, 89, 4]
abbrev dktX1_feed_0 : List UInt8 := dkwX1_feed_0 ++ dktX1_feed_1
theorem dksX1_feed_0 : cX1_feed.data.toList.drop 0 = dktX1_feed_0 := by decide +kernel
theorem dksX1_feed_1 : cX1_feed.data.toList.drop 24 = dktX1_feed_1 := dk_seg dksX1_feed_0 24 rfl rfl
theorem dksX1_feed_2 : cX1_feed.data.toList.drop 48 = dktX1_feed_2 := dk_seg dksX1_feed_1 24 rfl rfl
theorem dksX1_feed_3 : cX1_feed.data.toList.drop 72 = dktX1_feed_3 := dk_seg dksX1_feed_2 24 rfl rfl
theorem dksX1_feed_4 : cX1_feed.data.toList.drop 96 = dktX1_feed_4 := dk_seg dksX1_feed_3 24 rfl rfl
theorem dX1_feed_0 : decode cX1_feed 0 = .ok (.aload_n 0, 1) := dk_42 (dk_at dksX1_feed_0 0 rfl rfl)
theorem dX1_feed_1 : decode cX1_feed 1 = .ok (.getfield 61, 3) := dk_180 0 61 (dk_at dksX1_feed_0 1 rfl rfl)
theorem dX1_feed_4 : decode cX1_feed 4 = .ok (.bipush 20, 2) := dk_16 20 (dk_at dksX1_feed_0 4 rfl rfl)
theorem dX1_feed_6 : decode cX1_feed 6 = .ok (.iadd, 1) := dk_96 (dk_at dksX1_feed_0 6 rfl rfl)
theorem dX1_feed_7 : decode cX1_feed 7 = .ok (.sipush 500, 3) := dk_17 1 244 (dk_at dksX1_feed_0 7 rfl rfl)
theorem dX1_feed_10 : decode cX1_feed 10 = .ok (.if_icmp .le 5, 3) := dk_164 0 5 (dk_at dksX1_feed_0 10 rfl rfl)
theorem dX1_feed_13 : decode cX1_feed 13 = .ok (.iconst (-1), 1) := dk_2 (dk_at dksX1_feed_0 13 rfl rfl)
theorem dX1_feed_14 : decode cX1_feed 14 = .ok (.ireturn, 1) := dk_172 (dk_at dksX1_feed_0 14 rfl rfl)
theorem dX1_feed_15 : decode cX1_feed 15 = .ok (.iconst 5, 1) := dk_8 (dk_at dksX1_feed_0 15 rfl rfl)
theorem dX1_feed_16 : decode cX1_feed 16 = .ok (.newarray .int, 2) := dk_188_10 (dk_at dksX1_feed_0 16 rfl rfl)
theorem dX1_feed_18 : decode cX1_feed 18 = .ok (.dup, 1) := dk_89 (dk_at dksX1_feed_0 18 rfl rfl)
theorem dX1_feed_19 : decode cX1_feed 19 = .ok (.iconst 0, 1) := dk_3 (dk_at dksX1_feed_0 19 rfl rfl)
theorem dX1_feed_20 : decode cX1_feed 20 = .ok (.iload_n 1, 1) := dk_27 (dk_at dksX1_feed_0 20 rfl rfl)
theorem dX1_feed_21 : decode cX1_feed 21 = .ok (.iastore, 1) := dk_79 (dk_at dksX1_feed_0 21 rfl rfl)
theorem dX1_feed_22 : decode cX1_feed 22 = .ok (.dup, 1) := dk_89 (dk_at dksX1_feed_0 22 rfl rfl)
theorem dX1_feed_23 : decode cX1_feed 23 = .ok (.iconst 1, 1) := dk_4 (dk_at dksX1_feed_0 23 rfl rfl)
theorem dX1_feed_24 : decode cX1_feed 24 = .ok (.iload_n 2, 1) := dk_28 (dk_at dksX1_feed_1 0 rfl rfl)
theorem dX1_feed_25 : decode cX1_feed 25 = .ok (.iastore, 1) := dk_79 (dk_at dksX1_feed_1 1 rfl rfl)
theorem dX1_feed_26 : decode cX1_feed 26 = .ok (.dup, 1) := dk_89 (dk_at dksX1_feed_1 2 rfl rfl)
theorem dX1_feed_27 : decode cX1_feed 27 = .ok (.iconst 2, 1) := dk_5 (dk_at dksX1_feed_1 3 rfl rfl)
theorem dX1_feed_28 : decode cX1_feed 28 = .ok (.iload_n 3, 1) := dk_29 (dk_at dksX1_feed_1 4 rfl rfl)
theorem dX1_feed_29 : decode cX1_feed 29 = .ok (.iastore, 1) := dk_79 (dk_at dksX1_feed_1 5 rfl rfl)
theorem dX1_feed_30 : decode cX1_feed 30 = .ok (.dup, 1) := dk_89 (dk_at dksX1_feed_1 6 rfl rfl)
theorem dX1_feed_31 : decode cX1_feed 31 = .ok (.iconst 3, 1) := dk_6 (dk_at dksX1_feed_1 7 rfl rfl)
theorem dX1_feed_32 : decode cX1_feed 32 = .ok (.iload 4, 2) := dk_21 4 (dk_at dksX1_feed_1 8 rfl rfl)
theorem dX1_feed_34 : decode cX1_feed 34 = .ok (.iastore, 1) := dk_79 (dk_at dksX1_feed_1 10 rfl rfl)
theorem dX1_feed_35 : decode cX1_feed 35 = .ok (.dup, 1) := dk_89 (dk_at dksX1_feed_1 11 rfl rfl)
theorem dX1_feed_36 : decode cX1_feed 36 = .ok (.iconst 4, 1) := dk_7 (dk_at dksX1_feed_1 12 rfl rfl)
theorem dX1_feed_37 : decode cX1_feed 37 = .ok (.iload 5, 2) := dk_21 5 (dk_at dksX1_feed_1 13 rfl rfl)
theorem dX1_feed_39 : decode cX1_feed 39 = .ok (.iastore, 1) := dk_79 (dk_at dksX1_feed_1 15 rfl rfl)
theorem dX1_feed_40 : decode cX1_feed 40 = .ok (.astore 6, 2) := dk_58 6 (dk_at dksX1_feed_1 16 rfl rfl)
theorem dX1_feed_42 : decode cX1_feed 42 = .ok (.aload 6, 2) := dk_25 6 (dk_at dksX1_feed_1 18 rfl rfl)
theorem dX1_feed_44 : decode cX1_feed 44 = .ok (.astore 7, 2) := dk_58 7 (dk_at dksX1_feed_1 20 rfl rfl)
theorem dX1_feed_46 : decode cX1_feed 46 = .ok (.aload 7, 2) := dk_25 7 (dk_at dksX1_feed_1 22 rfl rfl)
theorem dX1_feed_48 : decode cX1_feed 48 = .ok (.arraylength, 1) := dk_190 (dk_at dksX1_feed_2 0 rfl rfl)
theorem dX1_feed_49 : decode cX1_feed 49 = .ok (.istore 8, 2) := dk_54 8 (dk_at dksX1_feed_2 1 rfl rfl)
theorem dX1_feed_51 : decode cX1_feed 51 = .ok (.iconst 0, 1) := dk_3 (dk_at dksX1_feed_2 3 rfl rfl)
theorem dX1_feed_52 : decode cX1_feed 52 = .ok (.istore 9, 2) := dk_54 9 (dk_at dksX1_feed_2 4 rfl rfl)
theorem dX1_feed_54 : decode cX1_feed 54 = .ok (.iload 9, 2) := dk_21 9 (dk_at dksX1_feed_2 6 rfl rfl)
theorem dX1_feed_56 : decode cX1_feed 56 = .ok (.iload 8, 2) := dk_21 8 (dk_at dksX1_feed_2 8 rfl rfl)
theorem dX1_feed_58 : decode cX1_feed 58 = .ok (.if_icmp .ge 53, 3) := dk_162 0 53 (dk_at dksX1_feed_2 10 rfl rfl)
theorem dX1_feed_61 : decode cX1_feed 61 = .ok (.aload 7, 2) := dk_25 7 (dk_at dksX1_feed_2 13 rfl rfl)
theorem dX1_feed_63 : decode cX1_feed 63 = .ok (.iload 9, 2) := dk_21 9 (dk_at dksX1_feed_2 15 rfl rfl)
theorem dX1_feed_65 : decode cX1_feed 65 = .ok (.iaload, 1) := dk_46 (dk_at dksX1_feed_2 17 rfl rfl)
theorem dX1_feed_66 : decode cX1_feed 66 = .ok (.istore 10, 2) := dk_54 10 (dk_at dksX1_feed_2 18 rfl rfl)
theorem dX1_feed_68 : decode cX1_feed 68 = .ok (.bipush 24, 2) := dk_16 24 (dk_at dksX1_feed_2 20 rfl rfl)
theorem dX1_feed_70 : decode cX1_feed 70 = .ok (.istore 11, 2) := dk_54 11 (dk_at dksX1_feed_2 22 rfl rfl)
theorem dX1_feed_72 : decode cX1_feed 72 = .ok (.iload 11, 2) := dk_21 11 (dk_at dksX1_feed_3 0 rfl rfl)
theorem dX1_feed_74 : decode cX1_feed 74 = .ok (.ifCond .lt 31, 3) := dk_155 0 31 (dk_at dksX1_feed_3 2 rfl rfl)
theorem dX1_feed_77 : decode cX1_feed 77 = .ok (.aload_n 0, 1) := dk_42 (dk_at dksX1_feed_3 5 rfl rfl)
theorem dX1_feed_78 : decode cX1_feed 78 = .ok (.getfield 15, 3) := dk_180 0 15 (dk_at dksX1_feed_3 6 rfl rfl)
theorem dX1_feed_81 : decode cX1_feed 81 = .ok (.aload_n 0, 1) := dk_42 (dk_at dksX1_feed_3 9 rfl rfl)
theorem dX1_feed_82 : decode cX1_feed 82 = .ok (.dup, 1) := dk_89 (dk_at dksX1_feed_3 10 rfl rfl)
theorem dX1_feed_83 : decode cX1_feed 83 = .ok (.getfield 61, 3) := dk_180 0 61 (dk_at dksX1_feed_3 11 rfl rfl)
theorem dX1_feed_86 : decode cX1_feed 86 = .ok (.dup_x1, 1) := dk_90 (dk_at dksX1_feed_3 14 rfl rfl)
theorem dX1_feed_87 : decode cX1_feed 87 = .ok (.iconst 1, 1) := dk_4 (dk_at dksX1_feed_3 15 rfl rfl)
theorem dX1_feed_88 : decode cX1_feed 88 = .ok (.iadd, 1) := dk_96 (dk_at dksX1_feed_3 16 rfl rfl)
theorem dX1_feed_89 : decode cX1_feed 89 = .ok (.putfield 61, 3) := dk_181 0 61 (dk_at dksX1_feed_3 17 rfl rfl)
theorem dX1_feed_92 : decode cX1_feed 92 = .ok (.iload 10, 2) := dk_21 10 (dk_at dksX1_feed_3 20 rfl rfl)
theorem dX1_feed_94 : decode cX1_feed 94 = .ok (.iload 11, 2) := dk_21 11 (dk_at dksX1_feed_3 22 rfl rfl)
theorem dX1_feed_96 : decode cX1_feed 96 = .ok (.ishr, 1) := dk_122 (dk_at dksX1_feed_4 0 rfl rfl)
theorem dX1_feed_97 : decode cX1_feed 97 = .ok (.i2b, 1) := dk_145 (dk_at dksX1_feed_4 1 rfl rfl)
theorem dX1_feed_98 : decode cX1_feed 98 = .ok (.bastore, 1) := dk_84 (dk_at dksX1_feed_4 2 rfl rfl)
theorem dX1_feed_99 : decode cX1_feed 99 = .ok (.iinc 11 (-8), 3) := dk_132 11 248 (dk_at dksX1_feed_4 3 rfl rfl)
theorem dX1_feed_102 : decode cX1_feed 102 = .ok (.goto (-30), 3) := dk_167 255 226 (dk_at dksX1_feed_4 6 rfl rfl)
theorem dX1_feed_105 : decode cX1_feed 105 = .ok (.iinc 9 1, 3) := dk_132 9 1 (dk_at dksX1_feed_4 9 rfl rfl)
theorem dX1_feed_108 : decode cX1_feed 108 = .ok (.goto (-54), 3) := dk_167 255 202 (dk_at dksX1_feed_4 12 rfl rfl)
theorem dX1_feed_111 : decode cX1_feed 111 = .ok (.aload_n 0, 1) := dk_42 (dk_at dksX1_feed_4 15 rfl rfl)
theorem dX1_feed_112 : decode cX1_feed 112 = .ok (.getfield 61, 3) := dk_180 0 61 (dk_at dksX1_feed_4 16 rfl rfl)
theorem dX1_feed_115 : decode cX1_feed 115 = .ok (.ireturn, 1) := dk_172 (dk_at dksX1_feed_4 19 rfl rfl)
abbrev cX1_book : ByteArray := prog_1_method_12_code
def yX1_book : MethodName := ⟨RX1, "book", "(I)I"⟩
def dkwX1_book_3 : List UInt8 := [182, 0, 116, 42, 42, 180, 0, 95, 180, 0, 119, 182, 0, 122, 182, 0, 58, 172]
abbrev dktX1_book_3 : List UInt8 := dkwX1_book_3 ++ []
def dkwX1_book_2 : List UInt8 := [42, 3, 181, 0, 103, 42, 180, 0, 45, 3, 184, 0, 106, 42, 1, 181, 0, 112, 42, 180, 0, 33]
abbrev dktX1_book_2 : List UInt8 := dkwX1_book_2 ++ dktX1_book_3
def dkwX1_book_1 : List UInt8 := [183, 0, 86, 42, 27, 182, 0, 87, 182, 0, 91, 181, 0, 95, 167, 0, 10, 77, 42, 44, 182, 0, 99, 172]
abbrev dktX1_book_1 : List UInt8 := dkwX1_book_1 ++ dktX1_book_2
def dkwX1_book_0 : List UInt8 := [27, 3, 42, 180, 0, 61, 184, 0, 80, 154, 0, 9, 42, 5, 182, 0, 52, 172, 42, 187, 0, 84, 89]
abbrev dktX1_book_0 : List UInt8 := dkwX1_book_0 ++ dktX1_book_1
theorem dksX1_book_0 : cX1_book.data.toList.drop 0 = dktX1_book_0 := by decide +kernel
theorem dksX1_book_1 : cX1_book.data.toList.drop 23 = dktX1_book_1 := dk_seg dksX1_book_0 23 rfl rfl
theorem dksX1_book_2 : cX1_book.data.toList.drop 47 = dktX1_book_2 := dk_seg dksX1_book_1 24 rfl rfl
theorem dksX1_book_3 : cX1_book.data.toList.drop 69 = dktX1_book_3 := dk_seg dksX1_book_2 22 rfl rfl
theorem dX1_book_0 : decode cX1_book 0 = .ok (.iload_n 1, 1) := dk_27 (dk_at dksX1_book_0 0 rfl rfl)
theorem dX1_book_1 : decode cX1_book 1 = .ok (.iconst 0, 1) := dk_3 (dk_at dksX1_book_0 1 rfl rfl)
theorem dX1_book_2 : decode cX1_book 2 = .ok (.aload_n 0, 1) := dk_42 (dk_at dksX1_book_0 2 rfl rfl)
theorem dX1_book_3 : decode cX1_book 3 = .ok (.getfield 61, 3) := dk_180 0 61 (dk_at dksX1_book_0 3 rfl rfl)
theorem dX1_book_6 : decode cX1_book 6 = .ok (.invokestatic 80, 3) := dk_184 0 80 (dk_at dksX1_book_0 6 rfl rfl)
theorem dX1_book_9 : decode cX1_book 9 = .ok (.ifCond .ne 9, 3) := dk_154 0 9 (dk_at dksX1_book_0 9 rfl rfl)
theorem dX1_book_12 : decode cX1_book 12 = .ok (.aload_n 0, 1) := dk_42 (dk_at dksX1_book_0 12 rfl rfl)
theorem dX1_book_13 : decode cX1_book 13 = .ok (.iconst 2, 1) := dk_5 (dk_at dksX1_book_0 13 rfl rfl)
theorem dX1_book_14 : decode cX1_book 14 = .ok (.invokevirtual 52, 3) := dk_182 0 52 (dk_at dksX1_book_0 14 rfl rfl)
theorem dX1_book_17 : decode cX1_book 17 = .ok (.ireturn, 1) := dk_172 (dk_at dksX1_book_0 17 rfl rfl)
theorem dX1_book_18 : decode cX1_book 18 = .ok (.aload_n 0, 1) := dk_42 (dk_at dksX1_book_0 18 rfl rfl)
theorem dX1_book_19 : decode cX1_book 19 = .ok (.new 84, 3) := dk_187 0 84 (dk_at dksX1_book_0 19 rfl rfl)
theorem dX1_book_22 : decode cX1_book 22 = .ok (.dup, 1) := dk_89 (dk_at dksX1_book_0 22 rfl rfl)
theorem dX1_book_23 : decode cX1_book 23 = .ok (.invokespecial 86, 3) := dk_183 0 86 (dk_at dksX1_book_1 0 rfl rfl)
theorem dX1_book_26 : decode cX1_book 26 = .ok (.aload_n 0, 1) := dk_42 (dk_at dksX1_book_1 3 rfl rfl)
theorem dX1_book_27 : decode cX1_book 27 = .ok (.iload_n 1, 1) := dk_27 (dk_at dksX1_book_1 4 rfl rfl)
theorem dX1_book_28 : decode cX1_book 28 = .ok (.invokevirtual 87, 3) := dk_182 0 87 (dk_at dksX1_book_1 5 rfl rfl)
theorem dX1_book_31 : decode cX1_book 31 = .ok (.invokevirtual 91, 3) := dk_182 0 91 (dk_at dksX1_book_1 8 rfl rfl)
theorem dX1_book_34 : decode cX1_book 34 = .ok (.putfield 95, 3) := dk_181 0 95 (dk_at dksX1_book_1 11 rfl rfl)
theorem dX1_book_37 : decode cX1_book 37 = .ok (.goto 10, 3) := dk_167 0 10 (dk_at dksX1_book_1 14 rfl rfl)
theorem dX1_book_40 : decode cX1_book 40 = .ok (.astore_n 2, 1) := dk_77 (dk_at dksX1_book_1 17 rfl rfl)
theorem dX1_book_41 : decode cX1_book 41 = .ok (.aload_n 0, 1) := dk_42 (dk_at dksX1_book_1 18 rfl rfl)
theorem dX1_book_42 : decode cX1_book 42 = .ok (.aload_n 2, 1) := dk_44 (dk_at dksX1_book_1 19 rfl rfl)
theorem dX1_book_43 : decode cX1_book 43 = .ok (.invokevirtual 99, 3) := dk_182 0 99 (dk_at dksX1_book_1 20 rfl rfl)
theorem dX1_book_46 : decode cX1_book 46 = .ok (.ireturn, 1) := dk_172 (dk_at dksX1_book_1 23 rfl rfl)
theorem dX1_book_47 : decode cX1_book 47 = .ok (.aload_n 0, 1) := dk_42 (dk_at dksX1_book_2 0 rfl rfl)
theorem dX1_book_48 : decode cX1_book 48 = .ok (.iconst 0, 1) := dk_3 (dk_at dksX1_book_2 1 rfl rfl)
theorem dX1_book_49 : decode cX1_book 49 = .ok (.putfield 103, 3) := dk_181 0 103 (dk_at dksX1_book_2 2 rfl rfl)
theorem dX1_book_52 : decode cX1_book 52 = .ok (.aload_n 0, 1) := dk_42 (dk_at dksX1_book_2 5 rfl rfl)
theorem dX1_book_53 : decode cX1_book 53 = .ok (.getfield 45, 3) := dk_180 0 45 (dk_at dksX1_book_2 6 rfl rfl)
theorem dX1_book_56 : decode cX1_book 56 = .ok (.iconst 0, 1) := dk_3 (dk_at dksX1_book_2 9 rfl rfl)
theorem dX1_book_57 : decode cX1_book 57 = .ok (.invokestatic 106, 3) := dk_184 0 106 (dk_at dksX1_book_2 10 rfl rfl)
theorem dX1_book_60 : decode cX1_book 60 = .ok (.aload_n 0, 1) := dk_42 (dk_at dksX1_book_2 13 rfl rfl)
theorem dX1_book_61 : decode cX1_book 61 = .ok (.aconst_null, 1) := dk_1 (dk_at dksX1_book_2 14 rfl rfl)
theorem dX1_book_62 : decode cX1_book 62 = .ok (.putfield 112, 3) := dk_181 0 112 (dk_at dksX1_book_2 15 rfl rfl)
theorem dX1_book_65 : decode cX1_book 65 = .ok (.aload_n 0, 1) := dk_42 (dk_at dksX1_book_2 18 rfl rfl)
theorem dX1_book_66 : decode cX1_book 66 = .ok (.getfield 33, 3) := dk_180 0 33 (dk_at dksX1_book_2 19 rfl rfl)
theorem dX1_book_69 : decode cX1_book 69 = .ok (.invokevirtual 116, 3) := dk_182 0 116 (dk_at dksX1_book_3 0 rfl rfl)
theorem dX1_book_72 : decode cX1_book 72 = .ok (.aload_n 0, 1) := dk_42 (dk_at dksX1_book_3 3 rfl rfl)
theorem dX1_book_73 : decode cX1_book 73 = .ok (.aload_n 0, 1) := dk_42 (dk_at dksX1_book_3 4 rfl rfl)
theorem dX1_book_74 : decode cX1_book 74 = .ok (.getfield 95, 3) := dk_180 0 95 (dk_at dksX1_book_3 5 rfl rfl)
theorem dX1_book_77 : decode cX1_book 77 = .ok (.getfield 119, 3) := dk_180 0 119 (dk_at dksX1_book_3 8 rfl rfl)
theorem dX1_book_80 : decode cX1_book 80 = .ok (.invokevirtual 122, 3) := dk_182 0 122 (dk_at dksX1_book_3 11 rfl rfl)
theorem dX1_book_83 : decode cX1_book 83 = .ok (.invokevirtual 58, 3) := dk_182 0 58 (dk_at dksX1_book_3 14 rfl rfl)
theorem dX1_book_86 : decode cX1_book 86 = .ok (.ireturn, 1) := dk_172 (dk_at dksX1_book_3 17 rfl rfl)
abbrev cX1_in : ByteArray := prog_1_method_8_code
def yX1_in : MethodName := ⟨RX1, "in", "(III)Z"⟩
def dkwX1_in_0 : List UInt8 := [27, 26, 163, 0, 12, 26, 28, 163, 0, 7, 4, 167, 0, 4, 3, 172]
abbrev dktX1_in_0 : List UInt8 := dkwX1_in_0 ++ []
theorem dksX1_in_0 : cX1_in.data.toList.drop 0 = dktX1_in_0 := by decide +kernel
theorem dX1_in_0 : decode cX1_in 0 = .ok (.iload_n 1, 1) := dk_27 (dk_at dksX1_in_0 0 rfl rfl)
theorem dX1_in_1 : decode cX1_in 1 = .ok (.iload_n 0, 1) := dk_26 (dk_at dksX1_in_0 1 rfl rfl)
theorem dX1_in_2 : decode cX1_in 2 = .ok (.if_icmp .gt 12, 3) := dk_163 0 12 (dk_at dksX1_in_0 2 rfl rfl)
theorem dX1_in_5 : decode cX1_in 5 = .ok (.iload_n 0, 1) := dk_26 (dk_at dksX1_in_0 5 rfl rfl)
theorem dX1_in_6 : decode cX1_in 6 = .ok (.iload_n 2, 1) := dk_28 (dk_at dksX1_in_0 6 rfl rfl)
theorem dX1_in_7 : decode cX1_in 7 = .ok (.if_icmp .gt 7, 3) := dk_163 0 7 (dk_at dksX1_in_0 7 rfl rfl)
theorem dX1_in_10 : decode cX1_in 10 = .ok (.iconst 1, 1) := dk_4 (dk_at dksX1_in_0 10 rfl rfl)
theorem dX1_in_11 : decode cX1_in 11 = .ok (.goto 4, 3) := dk_167 0 4 (dk_at dksX1_in_0 11 rfl rfl)
theorem dX1_in_14 : decode cX1_in 14 = .ok (.iconst 0, 1) := dk_3 (dk_at dksX1_in_0 14 rfl rfl)
theorem dX1_in_15 : decode cX1_in 15 = .ok (.ireturn, 1) := dk_172 (dk_at dksX1_in_0 15 rfl rfl)
abbrev cX1_refused : ByteArray := prog_1_method_2_code
def yX1_refused : MethodName := ⟨RX1, "refused", "(I)I"⟩
def dkwX1_refused_0 : List UInt8 := [42, 27, 181, 0, 49, 42, 2, 181, 0, 11, 2, 172]
abbrev dktX1_refused_0 : List UInt8 := dkwX1_refused_0 ++ []
theorem dksX1_refused_0 : cX1_refused.data.toList.drop 0 = dktX1_refused_0 := by decide +kernel
theorem dX1_refused_0 : decode cX1_refused 0 = .ok (.aload_n 0, 1) := dk_42 (dk_at dksX1_refused_0 0 rfl rfl)
theorem dX1_refused_1 : decode cX1_refused 1 = .ok (.iload_n 1, 1) := dk_27 (dk_at dksX1_refused_0 1 rfl rfl)
theorem dX1_refused_2 : decode cX1_refused 2 = .ok (.putfield 49, 3) := dk_181 0 49 (dk_at dksX1_refused_0 2 rfl rfl)
theorem dX1_refused_5 : decode cX1_refused 5 = .ok (.aload_n 0, 1) := dk_42 (dk_at dksX1_refused_0 5 rfl rfl)
theorem dX1_refused_6 : decode cX1_refused 6 = .ok (.iconst (-1), 1) := dk_2 (dk_at dksX1_refused_0 6 rfl rfl)
theorem dX1_refused_7 : decode cX1_refused 7 = .ok (.putfield 11, 3) := dk_181 0 11 (dk_at dksX1_refused_0 7 rfl rfl)
theorem dX1_refused_10 : decode cX1_refused 10 = .ok (.iconst (-1), 1) := dk_2 (dk_at dksX1_refused_0 10 rfl rfl)
theorem dX1_refused_11 : decode cX1_refused 11 = .ok (.ireturn, 1) := dk_172 (dk_at dksX1_refused_0 11 rfl rfl)
abbrev cX1_reader : ByteArray := prog_1_method_10_code
def yX1_reader : MethodName := ⟨RX1, "reader", "(I)LSoftWheels$Reader;"⟩
def dkwX1_reader_0 : List UInt8 := [42, 3, 181, 0, 61, 42, 3, 181, 0, 64, 187, 0, 67, 89, 42, 180, 0, 15, 27, 183, 0, 69, 176]
abbrev dktX1_reader_0 : List UInt8 := dkwX1_reader_0 ++ []
theorem dksX1_reader_0 : cX1_reader.data.toList.drop 0 = dktX1_reader_0 := by decide +kernel
theorem dX1_reader_0 : decode cX1_reader 0 = .ok (.aload_n 0, 1) := dk_42 (dk_at dksX1_reader_0 0 rfl rfl)
theorem dX1_reader_1 : decode cX1_reader 1 = .ok (.iconst 0, 1) := dk_3 (dk_at dksX1_reader_0 1 rfl rfl)
theorem dX1_reader_2 : decode cX1_reader 2 = .ok (.putfield 61, 3) := dk_181 0 61 (dk_at dksX1_reader_0 2 rfl rfl)
theorem dX1_reader_5 : decode cX1_reader 5 = .ok (.aload_n 0, 1) := dk_42 (dk_at dksX1_reader_0 5 rfl rfl)
theorem dX1_reader_6 : decode cX1_reader 6 = .ok (.iconst 0, 1) := dk_3 (dk_at dksX1_reader_0 6 rfl rfl)
theorem dX1_reader_7 : decode cX1_reader 7 = .ok (.putfield 64, 3) := dk_181 0 64 (dk_at dksX1_reader_0 7 rfl rfl)
theorem dX1_reader_10 : decode cX1_reader 10 = .ok (.new 67, 3) := dk_187 0 67 (dk_at dksX1_reader_0 10 rfl rfl)
theorem dX1_reader_13 : decode cX1_reader 13 = .ok (.dup, 1) := dk_89 (dk_at dksX1_reader_0 13 rfl rfl)
theorem dX1_reader_14 : decode cX1_reader 14 = .ok (.aload_n 0, 1) := dk_42 (dk_at dksX1_reader_0 14 rfl rfl)
theorem dX1_reader_15 : decode cX1_reader 15 = .ok (.getfield 15, 3) := dk_180 0 15 (dk_at dksX1_reader_0 15 rfl rfl)
theorem dX1_reader_18 : decode cX1_reader 18 = .ok (.iload_n 1, 1) := dk_27 (dk_at dksX1_reader_0 18 rfl rfl)
theorem dX1_reader_19 : decode cX1_reader 19 = .ok (.invokespecial 69, 3) := dk_183 0 69 (dk_at dksX1_reader_0 19 rfl rfl)
theorem dX1_reader_22 : decode cX1_reader 22 = .ok (.areturn, 1) := dk_176 (dk_at dksX1_reader_0 22 rfl rfl)
abbrev cX1_failed : ByteArray := prog_1_method_11_code
def yX1_failed : MethodName := ⟨RX1, "failed", "(LSoftWheels$Fault;)I"⟩
def dkwX1_failed_0 : List UInt8 := [42, 43, 180, 0, 72, 181, 0, 64, 42, 7, 181, 0, 49, 42, 43, 180, 0, 77, 181, 0, 11, 2, 172]
abbrev dktX1_failed_0 : List UInt8 := dkwX1_failed_0 ++ []
theorem dksX1_failed_0 : cX1_failed.data.toList.drop 0 = dktX1_failed_0 := by decide +kernel
theorem dX1_failed_0 : decode cX1_failed 0 = .ok (.aload_n 0, 1) := dk_42 (dk_at dksX1_failed_0 0 rfl rfl)
theorem dX1_failed_1 : decode cX1_failed 1 = .ok (.aload_n 1, 1) := dk_43 (dk_at dksX1_failed_0 1 rfl rfl)
theorem dX1_failed_2 : decode cX1_failed 2 = .ok (.getfield 72, 3) := dk_180 0 72 (dk_at dksX1_failed_0 2 rfl rfl)
theorem dX1_failed_5 : decode cX1_failed 5 = .ok (.putfield 64, 3) := dk_181 0 64 (dk_at dksX1_failed_0 5 rfl rfl)
theorem dX1_failed_8 : decode cX1_failed 8 = .ok (.aload_n 0, 1) := dk_42 (dk_at dksX1_failed_0 8 rfl rfl)
theorem dX1_failed_9 : decode cX1_failed 9 = .ok (.iconst 4, 1) := dk_7 (dk_at dksX1_failed_0 9 rfl rfl)
theorem dX1_failed_10 : decode cX1_failed 10 = .ok (.putfield 49, 3) := dk_181 0 49 (dk_at dksX1_failed_0 10 rfl rfl)
theorem dX1_failed_13 : decode cX1_failed 13 = .ok (.aload_n 0, 1) := dk_42 (dk_at dksX1_failed_0 13 rfl rfl)
theorem dX1_failed_14 : decode cX1_failed 14 = .ok (.aload_n 1, 1) := dk_43 (dk_at dksX1_failed_0 14 rfl rfl)
theorem dX1_failed_15 : decode cX1_failed 15 = .ok (.getfield 77, 3) := dk_180 0 77 (dk_at dksX1_failed_0 15 rfl rfl)
theorem dX1_failed_18 : decode cX1_failed 18 = .ok (.putfield 11, 3) := dk_181 0 11 (dk_at dksX1_failed_0 18 rfl rfl)
theorem dX1_failed_21 : decode cX1_failed 21 = .ok (.iconst (-1), 1) := dk_2 (dk_at dksX1_failed_0 21 rfl rfl)
theorem dX1_failed_22 : decode cX1_failed 22 = .ok (.ireturn, 1) := dk_172 (dk_at dksX1_failed_0 22 rfl rfl)
abbrev cX1_done : ByteArray := prog_1_method_5_code
def yX1_done : MethodName := ⟨RX1, "done", "(I)I"⟩
def dkwX1_done_0 : List UInt8 := [42, 3, 181, 0, 49, 42, 2, 181, 0, 11, 27, 172]
abbrev dktX1_done_0 : List UInt8 := dkwX1_done_0 ++ []
theorem dksX1_done_0 : cX1_done.data.toList.drop 0 = dktX1_done_0 := by decide +kernel
theorem dX1_done_0 : decode cX1_done 0 = .ok (.aload_n 0, 1) := dk_42 (dk_at dksX1_done_0 0 rfl rfl)
theorem dX1_done_1 : decode cX1_done 1 = .ok (.iconst 0, 1) := dk_3 (dk_at dksX1_done_0 1 rfl rfl)
theorem dX1_done_2 : decode cX1_done 2 = .ok (.putfield 49, 3) := dk_181 0 49 (dk_at dksX1_done_0 2 rfl rfl)
theorem dX1_done_5 : decode cX1_done 5 = .ok (.aload_n 0, 1) := dk_42 (dk_at dksX1_done_0 5 rfl rfl)
theorem dX1_done_6 : decode cX1_done 6 = .ok (.iconst (-1), 1) := dk_2 (dk_at dksX1_done_0 6 rfl rfl)
theorem dX1_done_7 : decode cX1_done 7 = .ok (.putfield 11, 3) := dk_181 0 11 (dk_at dksX1_done_0 7 rfl rfl)
theorem dX1_done_10 : decode cX1_done 10 = .ok (.iload_n 1, 1) := dk_27 (dk_at dksX1_done_0 10 rfl rfl)
theorem dX1_done_11 : decode cX1_done 11 = .ok (.ireturn, 1) := dk_172 (dk_at dksX1_done_0 11 rfl rfl)
abbrev cX1_fault : ByteArray := prog_1_method_13_code
def yX1_fault : MethodName := ⟨RX1, "fault", "()I"⟩
theorem dX1_fault_0 : decode cX1_fault 0 = .ok (.aload_n 0, 1) := by decide +kernel
theorem dX1_fault_1 : decode cX1_fault 1 = .ok (.getfield 64, 3) := by decide +kernel
theorem dX1_fault_4 : decode cX1_fault 4 = .ok (.ireturn, 1) := by decide +kernel
abbrev cX1_where : ByteArray := prog_1_method_14_code
def yX1_where : MethodName := ⟨RX1, "where", "()I"⟩
theorem dX1_where_0 : decode cX1_where 0 = .ok (.aload_n 0, 1) := by decide +kernel
theorem dX1_where_1 : decode cX1_where 1 = .ok (.getfield 11, 3) := by decide +kernel
theorem dX1_where_4 : decode cX1_where 4 = .ok (.ireturn, 1) := by decide +kernel
abbrev cX1_sink : ByteArray := prog_1_method_16_code
def yX1_sink : MethodName := ⟨RX1, "sink", "(II)I"⟩
def dkwX1_sink_2 : List UInt8 := [182, 0, 140, 182, 0, 58, 167, 0, 8, 42, 5, 182, 0, 52, 172]
abbrev dktX1_sink_2 : List UInt8 := dkwX1_sink_2 ++ []
def dkwX1_sink_1 : List UInt8 := [153, 0, 31, 42, 42, 180, 0, 95, 180, 0, 119, 27, 182, 0, 130, 192, 0, 134, 180, 0, 136, 28]
abbrev dktX1_sink_1 : List UInt8 := dkwX1_sink_1 ++ dktX1_sink_2
def dkwX1_sink_0 : List UInt8 := [42, 27, 182, 0, 126, 154, 0, 9, 42, 4, 182, 0, 52, 172, 28, 3, 17, 3, 231, 184, 0, 80]
abbrev dktX1_sink_0 : List UInt8 := dkwX1_sink_0 ++ dktX1_sink_1
theorem dksX1_sink_0 : cX1_sink.data.toList.drop 0 = dktX1_sink_0 := by decide +kernel
theorem dksX1_sink_1 : cX1_sink.data.toList.drop 22 = dktX1_sink_1 := dk_seg dksX1_sink_0 22 rfl rfl
theorem dksX1_sink_2 : cX1_sink.data.toList.drop 44 = dktX1_sink_2 := dk_seg dksX1_sink_1 22 rfl rfl
theorem dX1_sink_0 : decode cX1_sink 0 = .ok (.aload_n 0, 1) := dk_42 (dk_at dksX1_sink_0 0 rfl rfl)
theorem dX1_sink_1 : decode cX1_sink 1 = .ok (.iload_n 1, 1) := dk_27 (dk_at dksX1_sink_0 1 rfl rfl)
theorem dX1_sink_2 : decode cX1_sink 2 = .ok (.invokevirtual 126, 3) := dk_182 0 126 (dk_at dksX1_sink_0 2 rfl rfl)
theorem dX1_sink_5 : decode cX1_sink 5 = .ok (.ifCond .ne 9, 3) := dk_154 0 9 (dk_at dksX1_sink_0 5 rfl rfl)
theorem dX1_sink_8 : decode cX1_sink 8 = .ok (.aload_n 0, 1) := dk_42 (dk_at dksX1_sink_0 8 rfl rfl)
theorem dX1_sink_9 : decode cX1_sink 9 = .ok (.iconst 1, 1) := dk_4 (dk_at dksX1_sink_0 9 rfl rfl)
theorem dX1_sink_10 : decode cX1_sink 10 = .ok (.invokevirtual 52, 3) := dk_182 0 52 (dk_at dksX1_sink_0 10 rfl rfl)
theorem dX1_sink_13 : decode cX1_sink 13 = .ok (.ireturn, 1) := dk_172 (dk_at dksX1_sink_0 13 rfl rfl)
theorem dX1_sink_14 : decode cX1_sink 14 = .ok (.iload_n 2, 1) := dk_28 (dk_at dksX1_sink_0 14 rfl rfl)
theorem dX1_sink_15 : decode cX1_sink 15 = .ok (.iconst 0, 1) := dk_3 (dk_at dksX1_sink_0 15 rfl rfl)
theorem dX1_sink_16 : decode cX1_sink 16 = .ok (.sipush 999, 3) := dk_17 3 231 (dk_at dksX1_sink_0 16 rfl rfl)
theorem dX1_sink_19 : decode cX1_sink 19 = .ok (.invokestatic 80, 3) := dk_184 0 80 (dk_at dksX1_sink_0 19 rfl rfl)
theorem dX1_sink_22 : decode cX1_sink 22 = .ok (.ifCond .eq 31, 3) := dk_153 0 31 (dk_at dksX1_sink_1 0 rfl rfl)
theorem dX1_sink_25 : decode cX1_sink 25 = .ok (.aload_n 0, 1) := dk_42 (dk_at dksX1_sink_1 3 rfl rfl)
theorem dX1_sink_26 : decode cX1_sink 26 = .ok (.aload_n 0, 1) := dk_42 (dk_at dksX1_sink_1 4 rfl rfl)
theorem dX1_sink_27 : decode cX1_sink 27 = .ok (.getfield 95, 3) := dk_180 0 95 (dk_at dksX1_sink_1 5 rfl rfl)
theorem dX1_sink_30 : decode cX1_sink 30 = .ok (.getfield 119, 3) := dk_180 0 119 (dk_at dksX1_sink_1 8 rfl rfl)
theorem dX1_sink_33 : decode cX1_sink 33 = .ok (.iload_n 1, 1) := dk_27 (dk_at dksX1_sink_1 11 rfl rfl)
theorem dX1_sink_34 : decode cX1_sink 34 = .ok (.invokevirtual 130, 3) := dk_182 0 130 (dk_at dksX1_sink_1 12 rfl rfl)
theorem dX1_sink_37 : decode cX1_sink 37 = .ok (.checkcast 134, 3) := dk_192 0 134 (dk_at dksX1_sink_1 15 rfl rfl)
theorem dX1_sink_40 : decode cX1_sink 40 = .ok (.getfield 136, 3) := dk_180 0 136 (dk_at dksX1_sink_1 18 rfl rfl)
theorem dX1_sink_43 : decode cX1_sink 43 = .ok (.iload_n 2, 1) := dk_28 (dk_at dksX1_sink_1 21 rfl rfl)
theorem dX1_sink_44 : decode cX1_sink 44 = .ok (.invokevirtual 140, 3) := dk_182 0 140 (dk_at dksX1_sink_2 0 rfl rfl)
theorem dX1_sink_47 : decode cX1_sink 47 = .ok (.invokevirtual 58, 3) := dk_182 0 58 (dk_at dksX1_sink_2 3 rfl rfl)
theorem dX1_sink_50 : decode cX1_sink 50 = .ok (.goto 8, 3) := dk_167 0 8 (dk_at dksX1_sink_2 6 rfl rfl)
theorem dX1_sink_53 : decode cX1_sink 53 = .ok (.aload_n 0, 1) := dk_42 (dk_at dksX1_sink_2 9 rfl rfl)
theorem dX1_sink_54 : decode cX1_sink 54 = .ok (.iconst 2, 1) := dk_5 (dk_at dksX1_sink_2 10 rfl rfl)
theorem dX1_sink_55 : decode cX1_sink 55 = .ok (.invokevirtual 52, 3) := dk_182 0 52 (dk_at dksX1_sink_2 11 rfl rfl)
theorem dX1_sink_58 : decode cX1_sink 58 = .ok (.ireturn, 1) := dk_172 (dk_at dksX1_sink_2 14 rfl rfl)
abbrev cX1_isGround : ByteArray := prog_1_method_15_code
def yX1_isGround : MethodName := ⟨RX1, "isGround", "(I)Z"⟩
def dkwX1_isGround_1 : List UInt8 := [153, 0, 7, 4, 167, 0, 4, 3, 172]
abbrev dktX1_isGround_1 : List UInt8 := dkwX1_isGround_1 ++ []
def dkwX1_isGround_0 : List UInt8 := [42, 180, 0, 95, 198, 0, 27, 27, 3, 42, 180, 0, 95, 180, 0, 119, 182, 0, 122, 4, 100, 184, 0, 80]
abbrev dktX1_isGround_0 : List UInt8 := dkwX1_isGround_0 ++ dktX1_isGround_1
theorem dksX1_isGround_0 : cX1_isGround.data.toList.drop 0 = dktX1_isGround_0 := by decide +kernel
theorem dksX1_isGround_1 : cX1_isGround.data.toList.drop 24 = dktX1_isGround_1 := dk_seg dksX1_isGround_0 24 rfl rfl
theorem dX1_isGround_0 : decode cX1_isGround 0 = .ok (.aload_n 0, 1) := dk_42 (dk_at dksX1_isGround_0 0 rfl rfl)
theorem dX1_isGround_1 : decode cX1_isGround 1 = .ok (.getfield 95, 3) := dk_180 0 95 (dk_at dksX1_isGround_0 1 rfl rfl)
theorem dX1_isGround_4 : decode cX1_isGround 4 = .ok (.ifnull 27, 3) := dk_198 0 27 (dk_at dksX1_isGround_0 4 rfl rfl)
theorem dX1_isGround_7 : decode cX1_isGround 7 = .ok (.iload_n 1, 1) := dk_27 (dk_at dksX1_isGround_0 7 rfl rfl)
theorem dX1_isGround_8 : decode cX1_isGround 8 = .ok (.iconst 0, 1) := dk_3 (dk_at dksX1_isGround_0 8 rfl rfl)
theorem dX1_isGround_9 : decode cX1_isGround 9 = .ok (.aload_n 0, 1) := dk_42 (dk_at dksX1_isGround_0 9 rfl rfl)
theorem dX1_isGround_10 : decode cX1_isGround 10 = .ok (.getfield 95, 3) := dk_180 0 95 (dk_at dksX1_isGround_0 10 rfl rfl)
theorem dX1_isGround_13 : decode cX1_isGround 13 = .ok (.getfield 119, 3) := dk_180 0 119 (dk_at dksX1_isGround_0 13 rfl rfl)
theorem dX1_isGround_16 : decode cX1_isGround 16 = .ok (.invokevirtual 122, 3) := dk_182 0 122 (dk_at dksX1_isGround_0 16 rfl rfl)
theorem dX1_isGround_19 : decode cX1_isGround 19 = .ok (.iconst 1, 1) := dk_4 (dk_at dksX1_isGround_0 19 rfl rfl)
theorem dX1_isGround_20 : decode cX1_isGround 20 = .ok (.isub, 1) := dk_100 (dk_at dksX1_isGround_0 20 rfl rfl)
theorem dX1_isGround_21 : decode cX1_isGround 21 = .ok (.invokestatic 80, 3) := dk_184 0 80 (dk_at dksX1_isGround_0 21 rfl rfl)
theorem dX1_isGround_24 : decode cX1_isGround 24 = .ok (.ifCond .eq 7, 3) := dk_153 0 7 (dk_at dksX1_isGround_1 0 rfl rfl)
theorem dX1_isGround_27 : decode cX1_isGround 27 = .ok (.iconst 1, 1) := dk_4 (dk_at dksX1_isGround_1 3 rfl rfl)
theorem dX1_isGround_28 : decode cX1_isGround 28 = .ok (.goto 4, 3) := dk_167 0 4 (dk_at dksX1_isGround_1 4 rfl rfl)
theorem dX1_isGround_31 : decode cX1_isGround 31 = .ok (.iconst 0, 1) := dk_3 (dk_at dksX1_isGround_1 7 rfl rfl)
theorem dX1_isGround_32 : decode cX1_isGround 32 = .ok (.ireturn, 1) := dk_172 (dk_at dksX1_isGround_1 8 rfl rfl)
abbrev cX1_grip : ByteArray := prog_1_method_17_code
def yX1_grip : MethodName := ⟨RX1, "grip", "(II)I"⟩
def dkwX1_grip_2 : List UInt8 := [182, 0, 58, 167, 0, 8, 42, 5, 182, 0, 52, 172]
abbrev dktX1_grip_2 : List UInt8 := dkwX1_grip_2 ++ []
def dkwX1_grip_1 : List UInt8 := [42, 42, 180, 0, 95, 180, 0, 119, 27, 182, 0, 130, 192, 0, 134, 180, 0, 145, 28, 182, 0, 140]
abbrev dktX1_grip_1 : List UInt8 := dkwX1_grip_1 ++ dktX1_grip_2
def dkwX1_grip_0 : List UInt8 := [42, 27, 182, 0, 126, 154, 0, 9, 42, 4, 182, 0, 52, 172, 28, 3, 16, 90, 184, 0, 80, 153, 0, 31]
abbrev dktX1_grip_0 : List UInt8 := dkwX1_grip_0 ++ dktX1_grip_1
theorem dksX1_grip_0 : cX1_grip.data.toList.drop 0 = dktX1_grip_0 := by decide +kernel
theorem dksX1_grip_1 : cX1_grip.data.toList.drop 24 = dktX1_grip_1 := dk_seg dksX1_grip_0 24 rfl rfl
theorem dksX1_grip_2 : cX1_grip.data.toList.drop 46 = dktX1_grip_2 := dk_seg dksX1_grip_1 22 rfl rfl
theorem dX1_grip_0 : decode cX1_grip 0 = .ok (.aload_n 0, 1) := dk_42 (dk_at dksX1_grip_0 0 rfl rfl)
theorem dX1_grip_1 : decode cX1_grip 1 = .ok (.iload_n 1, 1) := dk_27 (dk_at dksX1_grip_0 1 rfl rfl)
theorem dX1_grip_2 : decode cX1_grip 2 = .ok (.invokevirtual 126, 3) := dk_182 0 126 (dk_at dksX1_grip_0 2 rfl rfl)
theorem dX1_grip_5 : decode cX1_grip 5 = .ok (.ifCond .ne 9, 3) := dk_154 0 9 (dk_at dksX1_grip_0 5 rfl rfl)
theorem dX1_grip_8 : decode cX1_grip 8 = .ok (.aload_n 0, 1) := dk_42 (dk_at dksX1_grip_0 8 rfl rfl)
theorem dX1_grip_9 : decode cX1_grip 9 = .ok (.iconst 1, 1) := dk_4 (dk_at dksX1_grip_0 9 rfl rfl)
theorem dX1_grip_10 : decode cX1_grip 10 = .ok (.invokevirtual 52, 3) := dk_182 0 52 (dk_at dksX1_grip_0 10 rfl rfl)
theorem dX1_grip_13 : decode cX1_grip 13 = .ok (.ireturn, 1) := dk_172 (dk_at dksX1_grip_0 13 rfl rfl)
theorem dX1_grip_14 : decode cX1_grip 14 = .ok (.iload_n 2, 1) := dk_28 (dk_at dksX1_grip_0 14 rfl rfl)
theorem dX1_grip_15 : decode cX1_grip 15 = .ok (.iconst 0, 1) := dk_3 (dk_at dksX1_grip_0 15 rfl rfl)
theorem dX1_grip_16 : decode cX1_grip 16 = .ok (.bipush 90, 2) := dk_16 90 (dk_at dksX1_grip_0 16 rfl rfl)
theorem dX1_grip_18 : decode cX1_grip 18 = .ok (.invokestatic 80, 3) := dk_184 0 80 (dk_at dksX1_grip_0 18 rfl rfl)
theorem dX1_grip_21 : decode cX1_grip 21 = .ok (.ifCond .eq 31, 3) := dk_153 0 31 (dk_at dksX1_grip_0 21 rfl rfl)
theorem dX1_grip_24 : decode cX1_grip 24 = .ok (.aload_n 0, 1) := dk_42 (dk_at dksX1_grip_1 0 rfl rfl)
theorem dX1_grip_25 : decode cX1_grip 25 = .ok (.aload_n 0, 1) := dk_42 (dk_at dksX1_grip_1 1 rfl rfl)
theorem dX1_grip_26 : decode cX1_grip 26 = .ok (.getfield 95, 3) := dk_180 0 95 (dk_at dksX1_grip_1 2 rfl rfl)
theorem dX1_grip_29 : decode cX1_grip 29 = .ok (.getfield 119, 3) := dk_180 0 119 (dk_at dksX1_grip_1 5 rfl rfl)
theorem dX1_grip_32 : decode cX1_grip 32 = .ok (.iload_n 1, 1) := dk_27 (dk_at dksX1_grip_1 8 rfl rfl)
theorem dX1_grip_33 : decode cX1_grip 33 = .ok (.invokevirtual 130, 3) := dk_182 0 130 (dk_at dksX1_grip_1 9 rfl rfl)
theorem dX1_grip_36 : decode cX1_grip 36 = .ok (.checkcast 134, 3) := dk_192 0 134 (dk_at dksX1_grip_1 12 rfl rfl)
theorem dX1_grip_39 : decode cX1_grip 39 = .ok (.getfield 145, 3) := dk_180 0 145 (dk_at dksX1_grip_1 15 rfl rfl)
theorem dX1_grip_42 : decode cX1_grip 42 = .ok (.iload_n 2, 1) := dk_28 (dk_at dksX1_grip_1 18 rfl rfl)
theorem dX1_grip_43 : decode cX1_grip 43 = .ok (.invokevirtual 140, 3) := dk_182 0 140 (dk_at dksX1_grip_1 19 rfl rfl)
theorem dX1_grip_46 : decode cX1_grip 46 = .ok (.invokevirtual 58, 3) := dk_182 0 58 (dk_at dksX1_grip_2 0 rfl rfl)
theorem dX1_grip_49 : decode cX1_grip 49 = .ok (.goto 8, 3) := dk_167 0 8 (dk_at dksX1_grip_2 3 rfl rfl)
theorem dX1_grip_52 : decode cX1_grip 52 = .ok (.aload_n 0, 1) := dk_42 (dk_at dksX1_grip_2 6 rfl rfl)
theorem dX1_grip_53 : decode cX1_grip 53 = .ok (.iconst 2, 1) := dk_5 (dk_at dksX1_grip_2 7 rfl rfl)
theorem dX1_grip_54 : decode cX1_grip 54 = .ok (.invokevirtual 52, 3) := dk_182 0 52 (dk_at dksX1_grip_2 8 rfl rfl)
theorem dX1_grip_57 : decode cX1_grip 57 = .ok (.ireturn, 1) := dk_172 (dk_at dksX1_grip_2 11 rfl rfl)
abbrev cX1_dead : ByteArray := prog_1_method_18_code
def yX1_dead : MethodName := ⟨RX1, "dead", "(I)Z"⟩
def dkwX1_dead_1 : List UInt8 := [184, 0, 80, 154, 0, 9, 42, 5, 182, 0, 148, 172, 42, 27, 181, 0, 103, 42, 182, 0, 154, 172]
abbrev dktX1_dead_1 : List UInt8 := dkwX1_dead_1 ++ []
def dkwX1_dead_0 : List UInt8 := [42, 180, 0, 95, 199, 0, 9, 42, 4, 182, 0, 148, 172, 27, 3, 42, 180, 0, 95, 180, 0, 151, 4, 100]
abbrev dktX1_dead_0 : List UInt8 := dkwX1_dead_0 ++ dktX1_dead_1
theorem dksX1_dead_0 : cX1_dead.data.toList.drop 0 = dktX1_dead_0 := by decide +kernel
theorem dksX1_dead_1 : cX1_dead.data.toList.drop 24 = dktX1_dead_1 := dk_seg dksX1_dead_0 24 rfl rfl
theorem dX1_dead_0 : decode cX1_dead 0 = .ok (.aload_n 0, 1) := dk_42 (dk_at dksX1_dead_0 0 rfl rfl)
theorem dX1_dead_1 : decode cX1_dead 1 = .ok (.getfield 95, 3) := dk_180 0 95 (dk_at dksX1_dead_0 1 rfl rfl)
theorem dX1_dead_4 : decode cX1_dead 4 = .ok (.ifnonnull 9, 3) := dk_199 0 9 (dk_at dksX1_dead_0 4 rfl rfl)
theorem dX1_dead_7 : decode cX1_dead 7 = .ok (.aload_n 0, 1) := dk_42 (dk_at dksX1_dead_0 7 rfl rfl)
theorem dX1_dead_8 : decode cX1_dead 8 = .ok (.iconst 1, 1) := dk_4 (dk_at dksX1_dead_0 8 rfl rfl)
theorem dX1_dead_9 : decode cX1_dead 9 = .ok (.invokevirtual 148, 3) := dk_182 0 148 (dk_at dksX1_dead_0 9 rfl rfl)
theorem dX1_dead_12 : decode cX1_dead 12 = .ok (.ireturn, 1) := dk_172 (dk_at dksX1_dead_0 12 rfl rfl)
theorem dX1_dead_13 : decode cX1_dead 13 = .ok (.iload_n 1, 1) := dk_27 (dk_at dksX1_dead_0 13 rfl rfl)
theorem dX1_dead_14 : decode cX1_dead 14 = .ok (.iconst 0, 1) := dk_3 (dk_at dksX1_dead_0 14 rfl rfl)
theorem dX1_dead_15 : decode cX1_dead 15 = .ok (.aload_n 0, 1) := dk_42 (dk_at dksX1_dead_0 15 rfl rfl)
theorem dX1_dead_16 : decode cX1_dead 16 = .ok (.getfield 95, 3) := dk_180 0 95 (dk_at dksX1_dead_0 16 rfl rfl)
theorem dX1_dead_19 : decode cX1_dead 19 = .ok (.getfield 151, 3) := dk_180 0 151 (dk_at dksX1_dead_0 19 rfl rfl)
theorem dX1_dead_22 : decode cX1_dead 22 = .ok (.iconst 1, 1) := dk_4 (dk_at dksX1_dead_0 22 rfl rfl)
theorem dX1_dead_23 : decode cX1_dead 23 = .ok (.isub, 1) := dk_100 (dk_at dksX1_dead_0 23 rfl rfl)
theorem dX1_dead_24 : decode cX1_dead 24 = .ok (.invokestatic 80, 3) := dk_184 0 80 (dk_at dksX1_dead_1 0 rfl rfl)
theorem dX1_dead_27 : decode cX1_dead 27 = .ok (.ifCond .ne 9, 3) := dk_154 0 9 (dk_at dksX1_dead_1 3 rfl rfl)
theorem dX1_dead_30 : decode cX1_dead 30 = .ok (.aload_n 0, 1) := dk_42 (dk_at dksX1_dead_1 6 rfl rfl)
theorem dX1_dead_31 : decode cX1_dead 31 = .ok (.iconst 2, 1) := dk_5 (dk_at dksX1_dead_1 7 rfl rfl)
theorem dX1_dead_32 : decode cX1_dead 32 = .ok (.invokevirtual 148, 3) := dk_182 0 148 (dk_at dksX1_dead_1 8 rfl rfl)
theorem dX1_dead_35 : decode cX1_dead 35 = .ok (.ireturn, 1) := dk_172 (dk_at dksX1_dead_1 11 rfl rfl)
theorem dX1_dead_36 : decode cX1_dead 36 = .ok (.aload_n 0, 1) := dk_42 (dk_at dksX1_dead_1 12 rfl rfl)
theorem dX1_dead_37 : decode cX1_dead 37 = .ok (.iload_n 1, 1) := dk_27 (dk_at dksX1_dead_1 13 rfl rfl)
theorem dX1_dead_38 : decode cX1_dead 38 = .ok (.putfield 103, 3) := dk_181 0 103 (dk_at dksX1_dead_1 14 rfl rfl)
theorem dX1_dead_41 : decode cX1_dead 41 = .ok (.aload_n 0, 1) := dk_42 (dk_at dksX1_dead_1 17 rfl rfl)
theorem dX1_dead_42 : decode cX1_dead 42 = .ok (.invokevirtual 154, 3) := dk_182 0 154 (dk_at dksX1_dead_1 18 rfl rfl)
theorem dX1_dead_45 : decode cX1_dead 45 = .ok (.ireturn, 1) := dk_172 (dk_at dksX1_dead_1 21 rfl rfl)
abbrev cX1_denied : ByteArray := prog_1_method_3_code
def yX1_denied : MethodName := ⟨RX1, "denied", "(I)Z"⟩
def dkwX1_denied_0 : List UInt8 := [42, 27, 182, 0, 52, 2, 159, 0, 7, 4, 167, 0, 4, 3, 172]
abbrev dktX1_denied_0 : List UInt8 := dkwX1_denied_0 ++ []
theorem dksX1_denied_0 : cX1_denied.data.toList.drop 0 = dktX1_denied_0 := by decide +kernel
theorem dX1_denied_0 : decode cX1_denied 0 = .ok (.aload_n 0, 1) := dk_42 (dk_at dksX1_denied_0 0 rfl rfl)
theorem dX1_denied_1 : decode cX1_denied 1 = .ok (.iload_n 1, 1) := dk_27 (dk_at dksX1_denied_0 1 rfl rfl)
theorem dX1_denied_2 : decode cX1_denied 2 = .ok (.invokevirtual 52, 3) := dk_182 0 52 (dk_at dksX1_denied_0 2 rfl rfl)
theorem dX1_denied_5 : decode cX1_denied 5 = .ok (.iconst (-1), 1) := dk_2 (dk_at dksX1_denied_0 5 rfl rfl)
theorem dX1_denied_6 : decode cX1_denied 6 = .ok (.if_icmp .eq 7, 3) := dk_159 0 7 (dk_at dksX1_denied_0 6 rfl rfl)
theorem dX1_denied_9 : decode cX1_denied 9 = .ok (.iconst 1, 1) := dk_4 (dk_at dksX1_denied_0 9 rfl rfl)
theorem dX1_denied_10 : decode cX1_denied 10 = .ok (.goto 4, 3) := dk_167 0 4 (dk_at dksX1_denied_0 10 rfl rfl)
theorem dX1_denied_13 : decode cX1_denied 13 = .ok (.iconst 0, 1) := dk_3 (dk_at dksX1_denied_0 13 rfl rfl)
theorem dX1_denied_14 : decode cX1_denied 14 = .ok (.ireturn, 1) := dk_172 (dk_at dksX1_denied_0 14 rfl rfl)
abbrev cX1_granted : ByteArray := prog_1_method_7_code
def yX1_granted : MethodName := ⟨RX1, "granted", "()Z"⟩
def dkwX1_granted_0 : List UInt8 := [42, 3, 182, 0, 58, 154, 0, 7, 4, 167, 0, 4, 3, 172]
abbrev dktX1_granted_0 : List UInt8 := dkwX1_granted_0 ++ []
theorem dksX1_granted_0 : cX1_granted.data.toList.drop 0 = dktX1_granted_0 := by decide +kernel
theorem dX1_granted_0 : decode cX1_granted 0 = .ok (.aload_n 0, 1) := dk_42 (dk_at dksX1_granted_0 0 rfl rfl)
theorem dX1_granted_1 : decode cX1_granted 1 = .ok (.iconst 0, 1) := dk_3 (dk_at dksX1_granted_0 1 rfl rfl)
theorem dX1_granted_2 : decode cX1_granted 2 = .ok (.invokevirtual 58, 3) := dk_182 0 58 (dk_at dksX1_granted_0 2 rfl rfl)
theorem dX1_granted_5 : decode cX1_granted 5 = .ok (.ifCond .ne 7, 3) := dk_154 0 7 (dk_at dksX1_granted_0 5 rfl rfl)
theorem dX1_granted_8 : decode cX1_granted 8 = .ok (.iconst 1, 1) := dk_4 (dk_at dksX1_granted_0 8 rfl rfl)
theorem dX1_granted_9 : decode cX1_granted 9 = .ok (.goto 4, 3) := dk_167 0 4 (dk_at dksX1_granted_0 9 rfl rfl)
theorem dX1_granted_12 : decode cX1_granted 12 = .ok (.iconst 0, 1) := dk_3 (dk_at dksX1_granted_0 12 rfl rfl)
theorem dX1_granted_13 : decode cX1_granted 13 = .ok (.ireturn, 1) := dk_172 (dk_at dksX1_granted_0 13 rfl rfl)
abbrev cX1_map : ByteArray := prog_1_method_21_code
def yX1_map : MethodName := ⟨RX1, "map", "(II)I"⟩
def dkwX1_map_3 : List UInt8 := [182, 0, 158, 182, 0, 58, 172]
abbrev dktX1_map_3 : List UInt8 := dkwX1_map_3 ++ []
def dkwX1_map_2 : List UInt8 := [180, 0, 95, 27, 28, 183, 0, 165, 181, 0, 112, 42, 180, 0, 33, 182, 0, 116, 42, 42, 180, 0, 112]
abbrev dktX1_map_2 : List UInt8 := dkwX1_map_2 ++ dktX1_map_3
def dkwX1_map_1 : List UInt8 := [28, 4, 16, 10, 184, 0, 80, 154, 0, 9, 42, 5, 182, 0, 52, 172, 42, 187, 0, 159, 89, 42]
abbrev dktX1_map_1 : List UInt8 := dkwX1_map_1 ++ dktX1_map_2
def dkwX1_map_0 : List UInt8 := [42, 3, 182, 0, 126, 154, 0, 9, 42, 4, 182, 0, 52, 172, 27, 4, 16, 10, 184, 0, 80, 153, 0, 13]
abbrev dktX1_map_0 : List UInt8 := dkwX1_map_0 ++ dktX1_map_1
theorem dksX1_map_0 : cX1_map.data.toList.drop 0 = dktX1_map_0 := by decide +kernel
theorem dksX1_map_1 : cX1_map.data.toList.drop 24 = dktX1_map_1 := dk_seg dksX1_map_0 24 rfl rfl
theorem dksX1_map_2 : cX1_map.data.toList.drop 46 = dktX1_map_2 := dk_seg dksX1_map_1 22 rfl rfl
theorem dksX1_map_3 : cX1_map.data.toList.drop 69 = dktX1_map_3 := dk_seg dksX1_map_2 23 rfl rfl
theorem dX1_map_0 : decode cX1_map 0 = .ok (.aload_n 0, 1) := dk_42 (dk_at dksX1_map_0 0 rfl rfl)
theorem dX1_map_1 : decode cX1_map 1 = .ok (.iconst 0, 1) := dk_3 (dk_at dksX1_map_0 1 rfl rfl)
theorem dX1_map_2 : decode cX1_map 2 = .ok (.invokevirtual 126, 3) := dk_182 0 126 (dk_at dksX1_map_0 2 rfl rfl)
theorem dX1_map_5 : decode cX1_map 5 = .ok (.ifCond .ne 9, 3) := dk_154 0 9 (dk_at dksX1_map_0 5 rfl rfl)
theorem dX1_map_8 : decode cX1_map 8 = .ok (.aload_n 0, 1) := dk_42 (dk_at dksX1_map_0 8 rfl rfl)
theorem dX1_map_9 : decode cX1_map 9 = .ok (.iconst 1, 1) := dk_4 (dk_at dksX1_map_0 9 rfl rfl)
theorem dX1_map_10 : decode cX1_map 10 = .ok (.invokevirtual 52, 3) := dk_182 0 52 (dk_at dksX1_map_0 10 rfl rfl)
theorem dX1_map_13 : decode cX1_map 13 = .ok (.ireturn, 1) := dk_172 (dk_at dksX1_map_0 13 rfl rfl)
theorem dX1_map_14 : decode cX1_map 14 = .ok (.iload_n 1, 1) := dk_27 (dk_at dksX1_map_0 14 rfl rfl)
theorem dX1_map_15 : decode cX1_map 15 = .ok (.iconst 1, 1) := dk_4 (dk_at dksX1_map_0 15 rfl rfl)
theorem dX1_map_16 : decode cX1_map 16 = .ok (.bipush 10, 2) := dk_16 10 (dk_at dksX1_map_0 16 rfl rfl)
theorem dX1_map_18 : decode cX1_map 18 = .ok (.invokestatic 80, 3) := dk_184 0 80 (dk_at dksX1_map_0 18 rfl rfl)
theorem dX1_map_21 : decode cX1_map 21 = .ok (.ifCond .eq 13, 3) := dk_153 0 13 (dk_at dksX1_map_0 21 rfl rfl)
theorem dX1_map_24 : decode cX1_map 24 = .ok (.iload_n 2, 1) := dk_28 (dk_at dksX1_map_1 0 rfl rfl)
theorem dX1_map_25 : decode cX1_map 25 = .ok (.iconst 1, 1) := dk_4 (dk_at dksX1_map_1 1 rfl rfl)
theorem dX1_map_26 : decode cX1_map 26 = .ok (.bipush 10, 2) := dk_16 10 (dk_at dksX1_map_1 2 rfl rfl)
theorem dX1_map_28 : decode cX1_map 28 = .ok (.invokestatic 80, 3) := dk_184 0 80 (dk_at dksX1_map_1 4 rfl rfl)
theorem dX1_map_31 : decode cX1_map 31 = .ok (.ifCond .ne 9, 3) := dk_154 0 9 (dk_at dksX1_map_1 7 rfl rfl)
theorem dX1_map_34 : decode cX1_map 34 = .ok (.aload_n 0, 1) := dk_42 (dk_at dksX1_map_1 10 rfl rfl)
theorem dX1_map_35 : decode cX1_map 35 = .ok (.iconst 2, 1) := dk_5 (dk_at dksX1_map_1 11 rfl rfl)
theorem dX1_map_36 : decode cX1_map 36 = .ok (.invokevirtual 52, 3) := dk_182 0 52 (dk_at dksX1_map_1 12 rfl rfl)
theorem dX1_map_39 : decode cX1_map 39 = .ok (.ireturn, 1) := dk_172 (dk_at dksX1_map_1 15 rfl rfl)
theorem dX1_map_40 : decode cX1_map 40 = .ok (.aload_n 0, 1) := dk_42 (dk_at dksX1_map_1 16 rfl rfl)
theorem dX1_map_41 : decode cX1_map 41 = .ok (.new 159, 3) := dk_187 0 159 (dk_at dksX1_map_1 17 rfl rfl)
theorem dX1_map_44 : decode cX1_map 44 = .ok (.dup, 1) := dk_89 (dk_at dksX1_map_1 20 rfl rfl)
theorem dX1_map_45 : decode cX1_map 45 = .ok (.aload_n 0, 1) := dk_42 (dk_at dksX1_map_1 21 rfl rfl)
theorem dX1_map_46 : decode cX1_map 46 = .ok (.getfield 95, 3) := dk_180 0 95 (dk_at dksX1_map_2 0 rfl rfl)
theorem dX1_map_49 : decode cX1_map 49 = .ok (.iload_n 1, 1) := dk_27 (dk_at dksX1_map_2 3 rfl rfl)
theorem dX1_map_50 : decode cX1_map 50 = .ok (.iload_n 2, 1) := dk_28 (dk_at dksX1_map_2 4 rfl rfl)
theorem dX1_map_51 : decode cX1_map 51 = .ok (.invokespecial 165, 3) := dk_183 0 165 (dk_at dksX1_map_2 5 rfl rfl)
theorem dX1_map_54 : decode cX1_map 54 = .ok (.putfield 112, 3) := dk_181 0 112 (dk_at dksX1_map_2 8 rfl rfl)
theorem dX1_map_57 : decode cX1_map 57 = .ok (.aload_n 0, 1) := dk_42 (dk_at dksX1_map_2 11 rfl rfl)
theorem dX1_map_58 : decode cX1_map 58 = .ok (.getfield 33, 3) := dk_180 0 33 (dk_at dksX1_map_2 12 rfl rfl)
theorem dX1_map_61 : decode cX1_map 61 = .ok (.invokevirtual 116, 3) := dk_182 0 116 (dk_at dksX1_map_2 15 rfl rfl)
theorem dX1_map_64 : decode cX1_map 64 = .ok (.aload_n 0, 1) := dk_42 (dk_at dksX1_map_2 18 rfl rfl)
theorem dX1_map_65 : decode cX1_map 65 = .ok (.aload_n 0, 1) := dk_42 (dk_at dksX1_map_2 19 rfl rfl)
theorem dX1_map_66 : decode cX1_map 66 = .ok (.getfield 112, 3) := dk_180 0 112 (dk_at dksX1_map_2 20 rfl rfl)
theorem dX1_map_69 : decode cX1_map 69 = .ok (.invokevirtual 158, 3) := dk_182 0 158 (dk_at dksX1_map_3 0 rfl rfl)
theorem dX1_map_72 : decode cX1_map 72 = .ok (.invokevirtual 58, 3) := dk_182 0 58 (dk_at dksX1_map_3 3 rfl rfl)
theorem dX1_map_75 : decode cX1_map 75 = .ok (.ireturn, 1) := dk_172 (dk_at dksX1_map_3 6 rfl rfl)
abbrev cX1_height : ByteArray := prog_1_method_22_code
def yX1_height : MethodName := ⟨RX1, "height", "(II)Z"⟩
def dkwX1_height_1 : List UInt8 := [154, 0, 9, 42, 5, 182, 0, 148, 172, 42, 180, 0, 112, 180, 0, 171, 27, 28, 79, 42, 182, 0, 154, 172]
abbrev dktX1_height_1 : List UInt8 := dkwX1_height_1 ++ []
def dkwX1_height_0 : List UInt8 := [42, 27, 182, 0, 168, 154, 0, 9, 42, 4, 182, 0, 148, 172, 28, 3, 17, 3, 231, 184, 0, 80]
abbrev dktX1_height_0 : List UInt8 := dkwX1_height_0 ++ dktX1_height_1
theorem dksX1_height_0 : cX1_height.data.toList.drop 0 = dktX1_height_0 := by decide +kernel
theorem dksX1_height_1 : cX1_height.data.toList.drop 22 = dktX1_height_1 := dk_seg dksX1_height_0 22 rfl rfl
theorem dX1_height_0 : decode cX1_height 0 = .ok (.aload_n 0, 1) := dk_42 (dk_at dksX1_height_0 0 rfl rfl)
theorem dX1_height_1 : decode cX1_height 1 = .ok (.iload_n 1, 1) := dk_27 (dk_at dksX1_height_0 1 rfl rfl)
theorem dX1_height_2 : decode cX1_height 2 = .ok (.invokevirtual 168, 3) := dk_182 0 168 (dk_at dksX1_height_0 2 rfl rfl)
theorem dX1_height_5 : decode cX1_height 5 = .ok (.ifCond .ne 9, 3) := dk_154 0 9 (dk_at dksX1_height_0 5 rfl rfl)
theorem dX1_height_8 : decode cX1_height 8 = .ok (.aload_n 0, 1) := dk_42 (dk_at dksX1_height_0 8 rfl rfl)
theorem dX1_height_9 : decode cX1_height 9 = .ok (.iconst 1, 1) := dk_4 (dk_at dksX1_height_0 9 rfl rfl)
theorem dX1_height_10 : decode cX1_height 10 = .ok (.invokevirtual 148, 3) := dk_182 0 148 (dk_at dksX1_height_0 10 rfl rfl)
theorem dX1_height_13 : decode cX1_height 13 = .ok (.ireturn, 1) := dk_172 (dk_at dksX1_height_0 13 rfl rfl)
theorem dX1_height_14 : decode cX1_height 14 = .ok (.iload_n 2, 1) := dk_28 (dk_at dksX1_height_0 14 rfl rfl)
theorem dX1_height_15 : decode cX1_height 15 = .ok (.iconst 0, 1) := dk_3 (dk_at dksX1_height_0 15 rfl rfl)
theorem dX1_height_16 : decode cX1_height 16 = .ok (.sipush 999, 3) := dk_17 3 231 (dk_at dksX1_height_0 16 rfl rfl)
theorem dX1_height_19 : decode cX1_height 19 = .ok (.invokestatic 80, 3) := dk_184 0 80 (dk_at dksX1_height_0 19 rfl rfl)
theorem dX1_height_22 : decode cX1_height 22 = .ok (.ifCond .ne 9, 3) := dk_154 0 9 (dk_at dksX1_height_1 0 rfl rfl)
theorem dX1_height_25 : decode cX1_height 25 = .ok (.aload_n 0, 1) := dk_42 (dk_at dksX1_height_1 3 rfl rfl)
theorem dX1_height_26 : decode cX1_height 26 = .ok (.iconst 2, 1) := dk_5 (dk_at dksX1_height_1 4 rfl rfl)
theorem dX1_height_27 : decode cX1_height 27 = .ok (.invokevirtual 148, 3) := dk_182 0 148 (dk_at dksX1_height_1 5 rfl rfl)
theorem dX1_height_30 : decode cX1_height 30 = .ok (.ireturn, 1) := dk_172 (dk_at dksX1_height_1 8 rfl rfl)
theorem dX1_height_31 : decode cX1_height 31 = .ok (.aload_n 0, 1) := dk_42 (dk_at dksX1_height_1 9 rfl rfl)
theorem dX1_height_32 : decode cX1_height 32 = .ok (.getfield 112, 3) := dk_180 0 112 (dk_at dksX1_height_1 10 rfl rfl)
theorem dX1_height_35 : decode cX1_height 35 = .ok (.getfield 171, 3) := dk_180 0 171 (dk_at dksX1_height_1 13 rfl rfl)
theorem dX1_height_38 : decode cX1_height 38 = .ok (.iload_n 1, 1) := dk_27 (dk_at dksX1_height_1 16 rfl rfl)
theorem dX1_height_39 : decode cX1_height 39 = .ok (.iload_n 2, 1) := dk_28 (dk_at dksX1_height_1 17 rfl rfl)
theorem dX1_height_40 : decode cX1_height 40 = .ok (.iastore, 1) := dk_79 (dk_at dksX1_height_1 18 rfl rfl)
theorem dX1_height_41 : decode cX1_height 41 = .ok (.aload_n 0, 1) := dk_42 (dk_at dksX1_height_1 19 rfl rfl)
theorem dX1_height_42 : decode cX1_height 42 = .ok (.invokevirtual 154, 3) := dk_182 0 154 (dk_at dksX1_height_1 20 rfl rfl)
theorem dX1_height_45 : decode cX1_height 45 = .ok (.ireturn, 1) := dk_172 (dk_at dksX1_height_1 23 rfl rfl)
abbrev cX1_isCell : ByteArray := prog_1_method_19_code
def yX1_isCell : MethodName := ⟨RX1, "isCell", "(I)Z"⟩
def dkwX1_isCell_1 : List UInt8 := [4, 167, 0, 4, 3, 172]
abbrev dktX1_isCell_1 : List UInt8 := dkwX1_isCell_1 ++ []
def dkwX1_isCell_0 : List UInt8 := [42, 180, 0, 112, 198, 0, 24, 27, 3, 42, 180, 0, 112, 182, 0, 158, 4, 100, 184, 0, 80, 153, 0, 7]
abbrev dktX1_isCell_0 : List UInt8 := dkwX1_isCell_0 ++ dktX1_isCell_1
theorem dksX1_isCell_0 : cX1_isCell.data.toList.drop 0 = dktX1_isCell_0 := by decide +kernel
theorem dksX1_isCell_1 : cX1_isCell.data.toList.drop 24 = dktX1_isCell_1 := dk_seg dksX1_isCell_0 24 rfl rfl
theorem dX1_isCell_0 : decode cX1_isCell 0 = .ok (.aload_n 0, 1) := dk_42 (dk_at dksX1_isCell_0 0 rfl rfl)
theorem dX1_isCell_1 : decode cX1_isCell 1 = .ok (.getfield 112, 3) := dk_180 0 112 (dk_at dksX1_isCell_0 1 rfl rfl)
theorem dX1_isCell_4 : decode cX1_isCell 4 = .ok (.ifnull 24, 3) := dk_198 0 24 (dk_at dksX1_isCell_0 4 rfl rfl)
theorem dX1_isCell_7 : decode cX1_isCell 7 = .ok (.iload_n 1, 1) := dk_27 (dk_at dksX1_isCell_0 7 rfl rfl)
theorem dX1_isCell_8 : decode cX1_isCell 8 = .ok (.iconst 0, 1) := dk_3 (dk_at dksX1_isCell_0 8 rfl rfl)
theorem dX1_isCell_9 : decode cX1_isCell 9 = .ok (.aload_n 0, 1) := dk_42 (dk_at dksX1_isCell_0 9 rfl rfl)
theorem dX1_isCell_10 : decode cX1_isCell 10 = .ok (.getfield 112, 3) := dk_180 0 112 (dk_at dksX1_isCell_0 10 rfl rfl)
theorem dX1_isCell_13 : decode cX1_isCell 13 = .ok (.invokevirtual 158, 3) := dk_182 0 158 (dk_at dksX1_isCell_0 13 rfl rfl)
theorem dX1_isCell_16 : decode cX1_isCell 16 = .ok (.iconst 1, 1) := dk_4 (dk_at dksX1_isCell_0 16 rfl rfl)
theorem dX1_isCell_17 : decode cX1_isCell 17 = .ok (.isub, 1) := dk_100 (dk_at dksX1_isCell_0 17 rfl rfl)
theorem dX1_isCell_18 : decode cX1_isCell 18 = .ok (.invokestatic 80, 3) := dk_184 0 80 (dk_at dksX1_isCell_0 18 rfl rfl)
theorem dX1_isCell_21 : decode cX1_isCell 21 = .ok (.ifCond .eq 7, 3) := dk_153 0 7 (dk_at dksX1_isCell_0 21 rfl rfl)
theorem dX1_isCell_24 : decode cX1_isCell 24 = .ok (.iconst 1, 1) := dk_4 (dk_at dksX1_isCell_1 0 rfl rfl)
theorem dX1_isCell_25 : decode cX1_isCell 25 = .ok (.goto 4, 3) := dk_167 0 4 (dk_at dksX1_isCell_1 1 rfl rfl)
theorem dX1_isCell_28 : decode cX1_isCell 28 = .ok (.iconst 0, 1) := dk_3 (dk_at dksX1_isCell_1 4 rfl rfl)
theorem dX1_isCell_29 : decode cX1_isCell 29 = .ok (.ireturn, 1) := dk_172 (dk_at dksX1_isCell_1 5 rfl rfl)
abbrev cX1_ground : ByteArray := prog_1_method_23_code
def yX1_ground : MethodName := ⟨RX1, "ground", "(II)Z"⟩
def dkwX1_ground_2 : List UInt8 := [27, 28, 79, 42, 182, 0, 154, 172]
abbrev dktX1_ground_2 : List UInt8 := dkwX1_ground_2 ++ []
def dkwX1_ground_1 : List UInt8 := [180, 0, 112, 180, 0, 174, 27, 50, 198, 0, 9, 42, 8, 182, 0, 148, 172, 42, 180, 0, 112, 180, 0, 178]
abbrev dktX1_ground_1 : List UInt8 := dkwX1_ground_1 ++ dktX1_ground_2
def dkwX1_ground_0 : List UInt8 := [42, 27, 182, 0, 168, 153, 0, 11, 42, 28, 182, 0, 126, 154, 0, 9, 42, 4, 182, 0, 148, 172, 42]
abbrev dktX1_ground_0 : List UInt8 := dkwX1_ground_0 ++ dktX1_ground_1
theorem dksX1_ground_0 : cX1_ground.data.toList.drop 0 = dktX1_ground_0 := by decide +kernel
theorem dksX1_ground_1 : cX1_ground.data.toList.drop 23 = dktX1_ground_1 := dk_seg dksX1_ground_0 23 rfl rfl
theorem dksX1_ground_2 : cX1_ground.data.toList.drop 47 = dktX1_ground_2 := dk_seg dksX1_ground_1 24 rfl rfl
theorem dX1_ground_0 : decode cX1_ground 0 = .ok (.aload_n 0, 1) := dk_42 (dk_at dksX1_ground_0 0 rfl rfl)
theorem dX1_ground_1 : decode cX1_ground 1 = .ok (.iload_n 1, 1) := dk_27 (dk_at dksX1_ground_0 1 rfl rfl)
theorem dX1_ground_2 : decode cX1_ground 2 = .ok (.invokevirtual 168, 3) := dk_182 0 168 (dk_at dksX1_ground_0 2 rfl rfl)
theorem dX1_ground_5 : decode cX1_ground 5 = .ok (.ifCond .eq 11, 3) := dk_153 0 11 (dk_at dksX1_ground_0 5 rfl rfl)
theorem dX1_ground_8 : decode cX1_ground 8 = .ok (.aload_n 0, 1) := dk_42 (dk_at dksX1_ground_0 8 rfl rfl)
theorem dX1_ground_9 : decode cX1_ground 9 = .ok (.iload_n 2, 1) := dk_28 (dk_at dksX1_ground_0 9 rfl rfl)
theorem dX1_ground_10 : decode cX1_ground 10 = .ok (.invokevirtual 126, 3) := dk_182 0 126 (dk_at dksX1_ground_0 10 rfl rfl)
theorem dX1_ground_13 : decode cX1_ground 13 = .ok (.ifCond .ne 9, 3) := dk_154 0 9 (dk_at dksX1_ground_0 13 rfl rfl)
theorem dX1_ground_16 : decode cX1_ground 16 = .ok (.aload_n 0, 1) := dk_42 (dk_at dksX1_ground_0 16 rfl rfl)
theorem dX1_ground_17 : decode cX1_ground 17 = .ok (.iconst 1, 1) := dk_4 (dk_at dksX1_ground_0 17 rfl rfl)
theorem dX1_ground_18 : decode cX1_ground 18 = .ok (.invokevirtual 148, 3) := dk_182 0 148 (dk_at dksX1_ground_0 18 rfl rfl)
theorem dX1_ground_21 : decode cX1_ground 21 = .ok (.ireturn, 1) := dk_172 (dk_at dksX1_ground_0 21 rfl rfl)
theorem dX1_ground_22 : decode cX1_ground 22 = .ok (.aload_n 0, 1) := dk_42 (dk_at dksX1_ground_0 22 rfl rfl)
theorem dX1_ground_23 : decode cX1_ground 23 = .ok (.getfield 112, 3) := dk_180 0 112 (dk_at dksX1_ground_1 0 rfl rfl)
theorem dX1_ground_26 : decode cX1_ground 26 = .ok (.getfield 174, 3) := dk_180 0 174 (dk_at dksX1_ground_1 3 rfl rfl)
theorem dX1_ground_29 : decode cX1_ground 29 = .ok (.iload_n 1, 1) := dk_27 (dk_at dksX1_ground_1 6 rfl rfl)
theorem dX1_ground_30 : decode cX1_ground 30 = .ok (.aaload, 1) := dk_50 (dk_at dksX1_ground_1 7 rfl rfl)
theorem dX1_ground_31 : decode cX1_ground 31 = .ok (.ifnull 9, 3) := dk_198 0 9 (dk_at dksX1_ground_1 8 rfl rfl)
theorem dX1_ground_34 : decode cX1_ground 34 = .ok (.aload_n 0, 1) := dk_42 (dk_at dksX1_ground_1 11 rfl rfl)
theorem dX1_ground_35 : decode cX1_ground 35 = .ok (.iconst 5, 1) := dk_8 (dk_at dksX1_ground_1 12 rfl rfl)
theorem dX1_ground_36 : decode cX1_ground 36 = .ok (.invokevirtual 148, 3) := dk_182 0 148 (dk_at dksX1_ground_1 13 rfl rfl)
theorem dX1_ground_39 : decode cX1_ground 39 = .ok (.ireturn, 1) := dk_172 (dk_at dksX1_ground_1 16 rfl rfl)
theorem dX1_ground_40 : decode cX1_ground 40 = .ok (.aload_n 0, 1) := dk_42 (dk_at dksX1_ground_1 17 rfl rfl)
theorem dX1_ground_41 : decode cX1_ground 41 = .ok (.getfield 112, 3) := dk_180 0 112 (dk_at dksX1_ground_1 18 rfl rfl)
theorem dX1_ground_44 : decode cX1_ground 44 = .ok (.getfield 178, 3) := dk_180 0 178 (dk_at dksX1_ground_1 21 rfl rfl)
theorem dX1_ground_47 : decode cX1_ground 47 = .ok (.iload_n 1, 1) := dk_27 (dk_at dksX1_ground_2 0 rfl rfl)
theorem dX1_ground_48 : decode cX1_ground 48 = .ok (.iload_n 2, 1) := dk_28 (dk_at dksX1_ground_2 1 rfl rfl)
theorem dX1_ground_49 : decode cX1_ground 49 = .ok (.iastore, 1) := dk_79 (dk_at dksX1_ground_2 2 rfl rfl)
theorem dX1_ground_50 : decode cX1_ground 50 = .ok (.aload_n 0, 1) := dk_42 (dk_at dksX1_ground_2 3 rfl rfl)
theorem dX1_ground_51 : decode cX1_ground 51 = .ok (.invokevirtual 154, 3) := dk_182 0 154 (dk_at dksX1_ground_2 4 rfl rfl)
theorem dX1_ground_54 : decode cX1_ground 54 = .ok (.ireturn, 1) := dk_172 (dk_at dksX1_ground_2 7 rfl rfl)
abbrev cX1_doubt : ByteArray := prog_1_method_24_code
def yX1_doubt : MethodName := ⟨RX1, "doubt", "(I)I"⟩
def dkwX1_doubt_4 : List UInt8 := [180, 0, 162, 44, 182, 0, 186, 87, 42, 44, 180, 0, 190, 182, 0, 58, 172]
abbrev dktX1_doubt_4 : List UInt8 := dkwX1_doubt_4 ++ []
def dkwX1_doubt_3 : List UInt8 := [180, 0, 178, 27, 46, 183, 0, 183, 77, 42, 180, 0, 112, 180, 0, 174, 27, 44, 83, 42, 180, 0, 112]
abbrev dktX1_doubt_3 : List UInt8 := dkwX1_doubt_3 ++ dktX1_doubt_4
def dkwX1_doubt_2 : List UInt8 := [6, 182, 0, 52, 172, 187, 0, 181, 89, 42, 180, 0, 112, 180, 0, 162, 182, 0, 122, 42, 180, 0, 112]
abbrev dktX1_doubt_2 : List UInt8 := dkwX1_doubt_2 ++ dktX1_doubt_3
def dkwX1_doubt_1 : List UInt8 := [198, 0, 9, 42, 8, 182, 0, 52, 172, 42, 180, 0, 112, 180, 0, 162, 182, 0, 122, 8, 160, 0, 9, 42]
abbrev dktX1_doubt_1 : List UInt8 := dkwX1_doubt_1 ++ dktX1_doubt_2
def dkwX1_doubt_0 : List UInt8 := [42, 27, 182, 0, 168, 154, 0, 9, 42, 4, 182, 0, 52, 172, 42, 180, 0, 112, 180, 0, 174, 27, 50]
abbrev dktX1_doubt_0 : List UInt8 := dkwX1_doubt_0 ++ dktX1_doubt_1
theorem dksX1_doubt_0 : cX1_doubt.data.toList.drop 0 = dktX1_doubt_0 := by decide +kernel
theorem dksX1_doubt_1 : cX1_doubt.data.toList.drop 23 = dktX1_doubt_1 := dk_seg dksX1_doubt_0 23 rfl rfl
theorem dksX1_doubt_2 : cX1_doubt.data.toList.drop 47 = dktX1_doubt_2 := dk_seg dksX1_doubt_1 24 rfl rfl
theorem dksX1_doubt_3 : cX1_doubt.data.toList.drop 70 = dktX1_doubt_3 := dk_seg dksX1_doubt_2 23 rfl rfl
theorem dksX1_doubt_4 : cX1_doubt.data.toList.drop 93 = dktX1_doubt_4 := dk_seg dksX1_doubt_3 23 rfl rfl
theorem dX1_doubt_0 : decode cX1_doubt 0 = .ok (.aload_n 0, 1) := dk_42 (dk_at dksX1_doubt_0 0 rfl rfl)
theorem dX1_doubt_1 : decode cX1_doubt 1 = .ok (.iload_n 1, 1) := dk_27 (dk_at dksX1_doubt_0 1 rfl rfl)
theorem dX1_doubt_2 : decode cX1_doubt 2 = .ok (.invokevirtual 168, 3) := dk_182 0 168 (dk_at dksX1_doubt_0 2 rfl rfl)
theorem dX1_doubt_5 : decode cX1_doubt 5 = .ok (.ifCond .ne 9, 3) := dk_154 0 9 (dk_at dksX1_doubt_0 5 rfl rfl)
theorem dX1_doubt_8 : decode cX1_doubt 8 = .ok (.aload_n 0, 1) := dk_42 (dk_at dksX1_doubt_0 8 rfl rfl)
theorem dX1_doubt_9 : decode cX1_doubt 9 = .ok (.iconst 1, 1) := dk_4 (dk_at dksX1_doubt_0 9 rfl rfl)
theorem dX1_doubt_10 : decode cX1_doubt 10 = .ok (.invokevirtual 52, 3) := dk_182 0 52 (dk_at dksX1_doubt_0 10 rfl rfl)
theorem dX1_doubt_13 : decode cX1_doubt 13 = .ok (.ireturn, 1) := dk_172 (dk_at dksX1_doubt_0 13 rfl rfl)
theorem dX1_doubt_14 : decode cX1_doubt 14 = .ok (.aload_n 0, 1) := dk_42 (dk_at dksX1_doubt_0 14 rfl rfl)
theorem dX1_doubt_15 : decode cX1_doubt 15 = .ok (.getfield 112, 3) := dk_180 0 112 (dk_at dksX1_doubt_0 15 rfl rfl)
theorem dX1_doubt_18 : decode cX1_doubt 18 = .ok (.getfield 174, 3) := dk_180 0 174 (dk_at dksX1_doubt_0 18 rfl rfl)
theorem dX1_doubt_21 : decode cX1_doubt 21 = .ok (.iload_n 1, 1) := dk_27 (dk_at dksX1_doubt_0 21 rfl rfl)
theorem dX1_doubt_22 : decode cX1_doubt 22 = .ok (.aaload, 1) := dk_50 (dk_at dksX1_doubt_0 22 rfl rfl)
theorem dX1_doubt_23 : decode cX1_doubt 23 = .ok (.ifnull 9, 3) := dk_198 0 9 (dk_at dksX1_doubt_1 0 rfl rfl)
theorem dX1_doubt_26 : decode cX1_doubt 26 = .ok (.aload_n 0, 1) := dk_42 (dk_at dksX1_doubt_1 3 rfl rfl)
theorem dX1_doubt_27 : decode cX1_doubt 27 = .ok (.iconst 5, 1) := dk_8 (dk_at dksX1_doubt_1 4 rfl rfl)
theorem dX1_doubt_28 : decode cX1_doubt 28 = .ok (.invokevirtual 52, 3) := dk_182 0 52 (dk_at dksX1_doubt_1 5 rfl rfl)
theorem dX1_doubt_31 : decode cX1_doubt 31 = .ok (.ireturn, 1) := dk_172 (dk_at dksX1_doubt_1 8 rfl rfl)
theorem dX1_doubt_32 : decode cX1_doubt 32 = .ok (.aload_n 0, 1) := dk_42 (dk_at dksX1_doubt_1 9 rfl rfl)
theorem dX1_doubt_33 : decode cX1_doubt 33 = .ok (.getfield 112, 3) := dk_180 0 112 (dk_at dksX1_doubt_1 10 rfl rfl)
theorem dX1_doubt_36 : decode cX1_doubt 36 = .ok (.getfield 162, 3) := dk_180 0 162 (dk_at dksX1_doubt_1 13 rfl rfl)
theorem dX1_doubt_39 : decode cX1_doubt 39 = .ok (.invokevirtual 122, 3) := dk_182 0 122 (dk_at dksX1_doubt_1 16 rfl rfl)
theorem dX1_doubt_42 : decode cX1_doubt 42 = .ok (.iconst 5, 1) := dk_8 (dk_at dksX1_doubt_1 19 rfl rfl)
theorem dX1_doubt_43 : decode cX1_doubt 43 = .ok (.if_icmp .ne 9, 3) := dk_160 0 9 (dk_at dksX1_doubt_1 20 rfl rfl)
theorem dX1_doubt_46 : decode cX1_doubt 46 = .ok (.aload_n 0, 1) := dk_42 (dk_at dksX1_doubt_1 23 rfl rfl)
theorem dX1_doubt_47 : decode cX1_doubt 47 = .ok (.iconst 3, 1) := dk_6 (dk_at dksX1_doubt_2 0 rfl rfl)
theorem dX1_doubt_48 : decode cX1_doubt 48 = .ok (.invokevirtual 52, 3) := dk_182 0 52 (dk_at dksX1_doubt_2 1 rfl rfl)
theorem dX1_doubt_51 : decode cX1_doubt 51 = .ok (.ireturn, 1) := dk_172 (dk_at dksX1_doubt_2 4 rfl rfl)
theorem dX1_doubt_52 : decode cX1_doubt 52 = .ok (.new 181, 3) := dk_187 0 181 (dk_at dksX1_doubt_2 5 rfl rfl)
theorem dX1_doubt_55 : decode cX1_doubt 55 = .ok (.dup, 1) := dk_89 (dk_at dksX1_doubt_2 8 rfl rfl)
theorem dX1_doubt_56 : decode cX1_doubt 56 = .ok (.aload_n 0, 1) := dk_42 (dk_at dksX1_doubt_2 9 rfl rfl)
theorem dX1_doubt_57 : decode cX1_doubt 57 = .ok (.getfield 112, 3) := dk_180 0 112 (dk_at dksX1_doubt_2 10 rfl rfl)
theorem dX1_doubt_60 : decode cX1_doubt 60 = .ok (.getfield 162, 3) := dk_180 0 162 (dk_at dksX1_doubt_2 13 rfl rfl)
theorem dX1_doubt_63 : decode cX1_doubt 63 = .ok (.invokevirtual 122, 3) := dk_182 0 122 (dk_at dksX1_doubt_2 16 rfl rfl)
theorem dX1_doubt_66 : decode cX1_doubt 66 = .ok (.aload_n 0, 1) := dk_42 (dk_at dksX1_doubt_2 19 rfl rfl)
theorem dX1_doubt_67 : decode cX1_doubt 67 = .ok (.getfield 112, 3) := dk_180 0 112 (dk_at dksX1_doubt_2 20 rfl rfl)
theorem dX1_doubt_70 : decode cX1_doubt 70 = .ok (.getfield 178, 3) := dk_180 0 178 (dk_at dksX1_doubt_3 0 rfl rfl)
theorem dX1_doubt_73 : decode cX1_doubt 73 = .ok (.iload_n 1, 1) := dk_27 (dk_at dksX1_doubt_3 3 rfl rfl)
theorem dX1_doubt_74 : decode cX1_doubt 74 = .ok (.iaload, 1) := dk_46 (dk_at dksX1_doubt_3 4 rfl rfl)
theorem dX1_doubt_75 : decode cX1_doubt 75 = .ok (.invokespecial 183, 3) := dk_183 0 183 (dk_at dksX1_doubt_3 5 rfl rfl)
theorem dX1_doubt_78 : decode cX1_doubt 78 = .ok (.astore_n 2, 1) := dk_77 (dk_at dksX1_doubt_3 8 rfl rfl)
theorem dX1_doubt_79 : decode cX1_doubt 79 = .ok (.aload_n 0, 1) := dk_42 (dk_at dksX1_doubt_3 9 rfl rfl)
theorem dX1_doubt_80 : decode cX1_doubt 80 = .ok (.getfield 112, 3) := dk_180 0 112 (dk_at dksX1_doubt_3 10 rfl rfl)
theorem dX1_doubt_83 : decode cX1_doubt 83 = .ok (.getfield 174, 3) := dk_180 0 174 (dk_at dksX1_doubt_3 13 rfl rfl)
theorem dX1_doubt_86 : decode cX1_doubt 86 = .ok (.iload_n 1, 1) := dk_27 (dk_at dksX1_doubt_3 16 rfl rfl)
theorem dX1_doubt_87 : decode cX1_doubt 87 = .ok (.aload_n 2, 1) := dk_44 (dk_at dksX1_doubt_3 17 rfl rfl)
theorem dX1_doubt_88 : decode cX1_doubt 88 = .ok (.aastore, 1) := dk_83 (dk_at dksX1_doubt_3 18 rfl rfl)
theorem dX1_doubt_89 : decode cX1_doubt 89 = .ok (.aload_n 0, 1) := dk_42 (dk_at dksX1_doubt_3 19 rfl rfl)
theorem dX1_doubt_90 : decode cX1_doubt 90 = .ok (.getfield 112, 3) := dk_180 0 112 (dk_at dksX1_doubt_3 20 rfl rfl)
theorem dX1_doubt_93 : decode cX1_doubt 93 = .ok (.getfield 162, 3) := dk_180 0 162 (dk_at dksX1_doubt_4 0 rfl rfl)
theorem dX1_doubt_96 : decode cX1_doubt 96 = .ok (.aload_n 2, 1) := dk_44 (dk_at dksX1_doubt_4 3 rfl rfl)
theorem dX1_doubt_97 : decode cX1_doubt 97 = .ok (.invokevirtual 186, 3) := dk_182 0 186 (dk_at dksX1_doubt_4 4 rfl rfl)
theorem dX1_doubt_100 : decode cX1_doubt 100 = .ok (.pop, 1) := dk_87 (dk_at dksX1_doubt_4 7 rfl rfl)
theorem dX1_doubt_101 : decode cX1_doubt 101 = .ok (.aload_n 0, 1) := dk_42 (dk_at dksX1_doubt_4 8 rfl rfl)
theorem dX1_doubt_102 : decode cX1_doubt 102 = .ok (.aload_n 2, 1) := dk_44 (dk_at dksX1_doubt_4 9 rfl rfl)
theorem dX1_doubt_103 : decode cX1_doubt 103 = .ok (.getfield 190, 3) := dk_180 0 190 (dk_at dksX1_doubt_4 10 rfl rfl)
theorem dX1_doubt_106 : decode cX1_doubt 106 = .ok (.invokevirtual 58, 3) := dk_182 0 58 (dk_at dksX1_doubt_4 13 rfl rfl)
theorem dX1_doubt_109 : decode cX1_doubt 109 = .ok (.ireturn, 1) := dk_172 (dk_at dksX1_doubt_4 16 rfl rfl)
abbrev cX1_weigh : ByteArray := prog_1_method_25_code
def yX1_weigh : MethodName := ⟨RX1, "weigh", "(III)Z"⟩
def dkwX1_weigh_4 : List UInt8 := [160, 0, 18, 25, 4, 180, 0, 196, 28, 21, 5, 79, 42, 8, 182, 0, 148, 172, 42, 182, 0, 154, 172]
abbrev dktX1_weigh_4 : List UInt8 := dkwX1_weigh_4 ++ []
def dkwX1_weigh_3 : List UInt8 := [79, 25, 4, 182, 0, 199, 4, 6, 184, 0, 80, 153, 0, 16, 29, 154, 0, 27, 25, 4, 180, 0, 202, 28]
abbrev dktX1_weigh_3 : List UInt8 := dkwX1_weigh_3 ++ dktX1_weigh_4
def dkwX1_weigh_2 : List UInt8 := [182, 0, 130, 192, 0, 181, 58, 4, 25, 4, 180, 0, 196, 28, 46, 54, 5, 25, 4, 180, 0, 196, 28, 29]
abbrev dktX1_weigh_2 : List UInt8 := dkwX1_weigh_2 ++ dktX1_weigh_3
def dkwX1_weigh_1 : List UInt8 := [16, 9, 184, 0, 80, 154, 0, 9, 42, 5, 182, 0, 148, 172, 42, 180, 0, 112, 180, 0, 162, 27]
abbrev dktX1_weigh_1 : List UInt8 := dkwX1_weigh_1 ++ dktX1_weigh_2
def dkwX1_weigh_0 : List UInt8 := [42, 27, 182, 0, 193, 153, 0, 11, 42, 28, 182, 0, 126, 154, 0, 9, 42, 4, 182, 0, 148, 172, 29, 3]
abbrev dktX1_weigh_0 : List UInt8 := dkwX1_weigh_0 ++ dktX1_weigh_1
theorem dksX1_weigh_0 : cX1_weigh.data.toList.drop 0 = dktX1_weigh_0 := by decide +kernel
theorem dksX1_weigh_1 : cX1_weigh.data.toList.drop 24 = dktX1_weigh_1 := dk_seg dksX1_weigh_0 24 rfl rfl
theorem dksX1_weigh_2 : cX1_weigh.data.toList.drop 46 = dktX1_weigh_2 := dk_seg dksX1_weigh_1 22 rfl rfl
theorem dksX1_weigh_3 : cX1_weigh.data.toList.drop 70 = dktX1_weigh_3 := dk_seg dksX1_weigh_2 24 rfl rfl
theorem dksX1_weigh_4 : cX1_weigh.data.toList.drop 94 = dktX1_weigh_4 := dk_seg dksX1_weigh_3 24 rfl rfl
theorem dX1_weigh_0 : decode cX1_weigh 0 = .ok (.aload_n 0, 1) := dk_42 (dk_at dksX1_weigh_0 0 rfl rfl)
theorem dX1_weigh_1 : decode cX1_weigh 1 = .ok (.iload_n 1, 1) := dk_27 (dk_at dksX1_weigh_0 1 rfl rfl)
theorem dX1_weigh_2 : decode cX1_weigh 2 = .ok (.invokevirtual 193, 3) := dk_182 0 193 (dk_at dksX1_weigh_0 2 rfl rfl)
theorem dX1_weigh_5 : decode cX1_weigh 5 = .ok (.ifCond .eq 11, 3) := dk_153 0 11 (dk_at dksX1_weigh_0 5 rfl rfl)
theorem dX1_weigh_8 : decode cX1_weigh 8 = .ok (.aload_n 0, 1) := dk_42 (dk_at dksX1_weigh_0 8 rfl rfl)
theorem dX1_weigh_9 : decode cX1_weigh 9 = .ok (.iload_n 2, 1) := dk_28 (dk_at dksX1_weigh_0 9 rfl rfl)
theorem dX1_weigh_10 : decode cX1_weigh 10 = .ok (.invokevirtual 126, 3) := dk_182 0 126 (dk_at dksX1_weigh_0 10 rfl rfl)
theorem dX1_weigh_13 : decode cX1_weigh 13 = .ok (.ifCond .ne 9, 3) := dk_154 0 9 (dk_at dksX1_weigh_0 13 rfl rfl)
theorem dX1_weigh_16 : decode cX1_weigh 16 = .ok (.aload_n 0, 1) := dk_42 (dk_at dksX1_weigh_0 16 rfl rfl)
theorem dX1_weigh_17 : decode cX1_weigh 17 = .ok (.iconst 1, 1) := dk_4 (dk_at dksX1_weigh_0 17 rfl rfl)
theorem dX1_weigh_18 : decode cX1_weigh 18 = .ok (.invokevirtual 148, 3) := dk_182 0 148 (dk_at dksX1_weigh_0 18 rfl rfl)
theorem dX1_weigh_21 : decode cX1_weigh 21 = .ok (.ireturn, 1) := dk_172 (dk_at dksX1_weigh_0 21 rfl rfl)
theorem dX1_weigh_22 : decode cX1_weigh 22 = .ok (.iload_n 3, 1) := dk_29 (dk_at dksX1_weigh_0 22 rfl rfl)
theorem dX1_weigh_23 : decode cX1_weigh 23 = .ok (.iconst 0, 1) := dk_3 (dk_at dksX1_weigh_0 23 rfl rfl)
theorem dX1_weigh_24 : decode cX1_weigh 24 = .ok (.bipush 9, 2) := dk_16 9 (dk_at dksX1_weigh_1 0 rfl rfl)
theorem dX1_weigh_26 : decode cX1_weigh 26 = .ok (.invokestatic 80, 3) := dk_184 0 80 (dk_at dksX1_weigh_1 2 rfl rfl)
theorem dX1_weigh_29 : decode cX1_weigh 29 = .ok (.ifCond .ne 9, 3) := dk_154 0 9 (dk_at dksX1_weigh_1 5 rfl rfl)
theorem dX1_weigh_32 : decode cX1_weigh 32 = .ok (.aload_n 0, 1) := dk_42 (dk_at dksX1_weigh_1 8 rfl rfl)
theorem dX1_weigh_33 : decode cX1_weigh 33 = .ok (.iconst 2, 1) := dk_5 (dk_at dksX1_weigh_1 9 rfl rfl)
theorem dX1_weigh_34 : decode cX1_weigh 34 = .ok (.invokevirtual 148, 3) := dk_182 0 148 (dk_at dksX1_weigh_1 10 rfl rfl)
theorem dX1_weigh_37 : decode cX1_weigh 37 = .ok (.ireturn, 1) := dk_172 (dk_at dksX1_weigh_1 13 rfl rfl)
theorem dX1_weigh_38 : decode cX1_weigh 38 = .ok (.aload_n 0, 1) := dk_42 (dk_at dksX1_weigh_1 14 rfl rfl)
theorem dX1_weigh_39 : decode cX1_weigh 39 = .ok (.getfield 112, 3) := dk_180 0 112 (dk_at dksX1_weigh_1 15 rfl rfl)
theorem dX1_weigh_42 : decode cX1_weigh 42 = .ok (.getfield 162, 3) := dk_180 0 162 (dk_at dksX1_weigh_1 18 rfl rfl)
theorem dX1_weigh_45 : decode cX1_weigh 45 = .ok (.iload_n 1, 1) := dk_27 (dk_at dksX1_weigh_1 21 rfl rfl)
theorem dX1_weigh_46 : decode cX1_weigh 46 = .ok (.invokevirtual 130, 3) := dk_182 0 130 (dk_at dksX1_weigh_2 0 rfl rfl)
theorem dX1_weigh_49 : decode cX1_weigh 49 = .ok (.checkcast 181, 3) := dk_192 0 181 (dk_at dksX1_weigh_2 3 rfl rfl)
theorem dX1_weigh_52 : decode cX1_weigh 52 = .ok (.astore 4, 2) := dk_58 4 (dk_at dksX1_weigh_2 6 rfl rfl)
theorem dX1_weigh_54 : decode cX1_weigh 54 = .ok (.aload 4, 2) := dk_25 4 (dk_at dksX1_weigh_2 8 rfl rfl)
theorem dX1_weigh_56 : decode cX1_weigh 56 = .ok (.getfield 196, 3) := dk_180 0 196 (dk_at dksX1_weigh_2 10 rfl rfl)
theorem dX1_weigh_59 : decode cX1_weigh 59 = .ok (.iload_n 2, 1) := dk_28 (dk_at dksX1_weigh_2 13 rfl rfl)
theorem dX1_weigh_60 : decode cX1_weigh 60 = .ok (.iaload, 1) := dk_46 (dk_at dksX1_weigh_2 14 rfl rfl)
theorem dX1_weigh_61 : decode cX1_weigh 61 = .ok (.istore 5, 2) := dk_54 5 (dk_at dksX1_weigh_2 15 rfl rfl)
theorem dX1_weigh_63 : decode cX1_weigh 63 = .ok (.aload 4, 2) := dk_25 4 (dk_at dksX1_weigh_2 17 rfl rfl)
theorem dX1_weigh_65 : decode cX1_weigh 65 = .ok (.getfield 196, 3) := dk_180 0 196 (dk_at dksX1_weigh_2 19 rfl rfl)
theorem dX1_weigh_68 : decode cX1_weigh 68 = .ok (.iload_n 2, 1) := dk_28 (dk_at dksX1_weigh_2 22 rfl rfl)
theorem dX1_weigh_69 : decode cX1_weigh 69 = .ok (.iload_n 3, 1) := dk_29 (dk_at dksX1_weigh_2 23 rfl rfl)
theorem dX1_weigh_70 : decode cX1_weigh 70 = .ok (.iastore, 1) := dk_79 (dk_at dksX1_weigh_3 0 rfl rfl)
theorem dX1_weigh_71 : decode cX1_weigh 71 = .ok (.aload 4, 2) := dk_25 4 (dk_at dksX1_weigh_3 1 rfl rfl)
theorem dX1_weigh_73 : decode cX1_weigh 73 = .ok (.invokevirtual 199, 3) := dk_182 0 199 (dk_at dksX1_weigh_3 3 rfl rfl)
theorem dX1_weigh_76 : decode cX1_weigh 76 = .ok (.iconst 1, 1) := dk_4 (dk_at dksX1_weigh_3 6 rfl rfl)
theorem dX1_weigh_77 : decode cX1_weigh 77 = .ok (.iconst 3, 1) := dk_6 (dk_at dksX1_weigh_3 7 rfl rfl)
theorem dX1_weigh_78 : decode cX1_weigh 78 = .ok (.invokestatic 80, 3) := dk_184 0 80 (dk_at dksX1_weigh_3 8 rfl rfl)
theorem dX1_weigh_81 : decode cX1_weigh 81 = .ok (.ifCond .eq 16, 3) := dk_153 0 16 (dk_at dksX1_weigh_3 11 rfl rfl)
theorem dX1_weigh_84 : decode cX1_weigh 84 = .ok (.iload_n 3, 1) := dk_29 (dk_at dksX1_weigh_3 14 rfl rfl)
theorem dX1_weigh_85 : decode cX1_weigh 85 = .ok (.ifCond .ne 27, 3) := dk_154 0 27 (dk_at dksX1_weigh_3 15 rfl rfl)
theorem dX1_weigh_88 : decode cX1_weigh 88 = .ok (.aload 4, 2) := dk_25 4 (dk_at dksX1_weigh_3 18 rfl rfl)
theorem dX1_weigh_90 : decode cX1_weigh 90 = .ok (.getfield 202, 3) := dk_180 0 202 (dk_at dksX1_weigh_3 20 rfl rfl)
theorem dX1_weigh_93 : decode cX1_weigh 93 = .ok (.iload_n 2, 1) := dk_28 (dk_at dksX1_weigh_3 23 rfl rfl)
theorem dX1_weigh_94 : decode cX1_weigh 94 = .ok (.if_icmp .ne 18, 3) := dk_160 0 18 (dk_at dksX1_weigh_4 0 rfl rfl)
theorem dX1_weigh_97 : decode cX1_weigh 97 = .ok (.aload 4, 2) := dk_25 4 (dk_at dksX1_weigh_4 3 rfl rfl)
theorem dX1_weigh_99 : decode cX1_weigh 99 = .ok (.getfield 196, 3) := dk_180 0 196 (dk_at dksX1_weigh_4 5 rfl rfl)
theorem dX1_weigh_102 : decode cX1_weigh 102 = .ok (.iload_n 2, 1) := dk_28 (dk_at dksX1_weigh_4 8 rfl rfl)
theorem dX1_weigh_103 : decode cX1_weigh 103 = .ok (.iload 5, 2) := dk_21 5 (dk_at dksX1_weigh_4 9 rfl rfl)
theorem dX1_weigh_105 : decode cX1_weigh 105 = .ok (.iastore, 1) := dk_79 (dk_at dksX1_weigh_4 11 rfl rfl)
theorem dX1_weigh_106 : decode cX1_weigh 106 = .ok (.aload_n 0, 1) := dk_42 (dk_at dksX1_weigh_4 12 rfl rfl)
theorem dX1_weigh_107 : decode cX1_weigh 107 = .ok (.iconst 5, 1) := dk_8 (dk_at dksX1_weigh_4 13 rfl rfl)
theorem dX1_weigh_108 : decode cX1_weigh 108 = .ok (.invokevirtual 148, 3) := dk_182 0 148 (dk_at dksX1_weigh_4 14 rfl rfl)
theorem dX1_weigh_111 : decode cX1_weigh 111 = .ok (.ireturn, 1) := dk_172 (dk_at dksX1_weigh_4 17 rfl rfl)
theorem dX1_weigh_112 : decode cX1_weigh 112 = .ok (.aload_n 0, 1) := dk_42 (dk_at dksX1_weigh_4 18 rfl rfl)
theorem dX1_weigh_113 : decode cX1_weigh 113 = .ok (.invokevirtual 154, 3) := dk_182 0 154 (dk_at dksX1_weigh_4 19 rfl rfl)
theorem dX1_weigh_116 : decode cX1_weigh 116 = .ok (.ireturn, 1) := dk_172 (dk_at dksX1_weigh_4 22 rfl rfl)
abbrev cX1_isDoubt : ByteArray := prog_1_method_20_code
def yX1_isDoubt : MethodName := ⟨RX1, "isDoubt", "(I)Z"⟩
def dkwX1_isDoubt_1 : List UInt8 := [153, 0, 7, 4, 167, 0, 4, 3, 172]
abbrev dktX1_isDoubt_1 : List UInt8 := dkwX1_isDoubt_1 ++ []
def dkwX1_isDoubt_0 : List UInt8 := [42, 180, 0, 112, 198, 0, 27, 27, 3, 42, 180, 0, 112, 180, 0, 162, 182, 0, 122, 4, 100, 184, 0, 80]
abbrev dktX1_isDoubt_0 : List UInt8 := dkwX1_isDoubt_0 ++ dktX1_isDoubt_1
theorem dksX1_isDoubt_0 : cX1_isDoubt.data.toList.drop 0 = dktX1_isDoubt_0 := by decide +kernel
theorem dksX1_isDoubt_1 : cX1_isDoubt.data.toList.drop 24 = dktX1_isDoubt_1 := dk_seg dksX1_isDoubt_0 24 rfl rfl
theorem dX1_isDoubt_0 : decode cX1_isDoubt 0 = .ok (.aload_n 0, 1) := dk_42 (dk_at dksX1_isDoubt_0 0 rfl rfl)
theorem dX1_isDoubt_1 : decode cX1_isDoubt 1 = .ok (.getfield 112, 3) := dk_180 0 112 (dk_at dksX1_isDoubt_0 1 rfl rfl)
theorem dX1_isDoubt_4 : decode cX1_isDoubt 4 = .ok (.ifnull 27, 3) := dk_198 0 27 (dk_at dksX1_isDoubt_0 4 rfl rfl)
theorem dX1_isDoubt_7 : decode cX1_isDoubt 7 = .ok (.iload_n 1, 1) := dk_27 (dk_at dksX1_isDoubt_0 7 rfl rfl)
theorem dX1_isDoubt_8 : decode cX1_isDoubt 8 = .ok (.iconst 0, 1) := dk_3 (dk_at dksX1_isDoubt_0 8 rfl rfl)
theorem dX1_isDoubt_9 : decode cX1_isDoubt 9 = .ok (.aload_n 0, 1) := dk_42 (dk_at dksX1_isDoubt_0 9 rfl rfl)
theorem dX1_isDoubt_10 : decode cX1_isDoubt 10 = .ok (.getfield 112, 3) := dk_180 0 112 (dk_at dksX1_isDoubt_0 10 rfl rfl)
theorem dX1_isDoubt_13 : decode cX1_isDoubt 13 = .ok (.getfield 162, 3) := dk_180 0 162 (dk_at dksX1_isDoubt_0 13 rfl rfl)
theorem dX1_isDoubt_16 : decode cX1_isDoubt 16 = .ok (.invokevirtual 122, 3) := dk_182 0 122 (dk_at dksX1_isDoubt_0 16 rfl rfl)
theorem dX1_isDoubt_19 : decode cX1_isDoubt 19 = .ok (.iconst 1, 1) := dk_4 (dk_at dksX1_isDoubt_0 19 rfl rfl)
theorem dX1_isDoubt_20 : decode cX1_isDoubt 20 = .ok (.isub, 1) := dk_100 (dk_at dksX1_isDoubt_0 20 rfl rfl)
theorem dX1_isDoubt_21 : decode cX1_isDoubt 21 = .ok (.invokestatic 80, 3) := dk_184 0 80 (dk_at dksX1_isDoubt_0 21 rfl rfl)
theorem dX1_isDoubt_24 : decode cX1_isDoubt 24 = .ok (.ifCond .eq 7, 3) := dk_153 0 7 (dk_at dksX1_isDoubt_1 0 rfl rfl)
theorem dX1_isDoubt_27 : decode cX1_isDoubt 27 = .ok (.iconst 1, 1) := dk_4 (dk_at dksX1_isDoubt_1 3 rfl rfl)
theorem dX1_isDoubt_28 : decode cX1_isDoubt 28 = .ok (.goto 4, 3) := dk_167 0 4 (dk_at dksX1_isDoubt_1 4 rfl rfl)
theorem dX1_isDoubt_31 : decode cX1_isDoubt 31 = .ok (.iconst 0, 1) := dk_3 (dk_at dksX1_isDoubt_1 7 rfl rfl)
theorem dX1_isDoubt_32 : decode cX1_isDoubt 32 = .ok (.ireturn, 1) := dk_172 (dk_at dksX1_isDoubt_1 8 rfl rfl)
abbrev cX1_told : ByteArray := prog_1_method_26_code
def yX1_told : MethodName := ⟨RX1, "told", "(II)Z"⟩
def dkwX1_told_2 : List UInt8 := [8, 182, 0, 148, 172, 45, 28, 181, 0, 202, 42, 182, 0, 154, 172]
abbrev dktX1_told_2 : List UInt8 := dkwX1_told_2 ++ []
def dkwX1_told_1 : List UInt8 := [180, 0, 112, 180, 0, 162, 27, 182, 0, 130, 192, 0, 181, 78, 45, 180, 0, 196, 28, 46, 154, 0, 9, 42]
abbrev dktX1_told_1 : List UInt8 := dkwX1_told_1 ++ dktX1_told_2
def dkwX1_told_0 : List UInt8 := [42, 27, 182, 0, 193, 153, 0, 11, 42, 28, 182, 0, 126, 154, 0, 9, 42, 4, 182, 0, 148, 172, 42]
abbrev dktX1_told_0 : List UInt8 := dkwX1_told_0 ++ dktX1_told_1
theorem dksX1_told_0 : cX1_told.data.toList.drop 0 = dktX1_told_0 := by decide +kernel
theorem dksX1_told_1 : cX1_told.data.toList.drop 23 = dktX1_told_1 := dk_seg dksX1_told_0 23 rfl rfl
theorem dksX1_told_2 : cX1_told.data.toList.drop 47 = dktX1_told_2 := dk_seg dksX1_told_1 24 rfl rfl
theorem dX1_told_0 : decode cX1_told 0 = .ok (.aload_n 0, 1) := dk_42 (dk_at dksX1_told_0 0 rfl rfl)
theorem dX1_told_1 : decode cX1_told 1 = .ok (.iload_n 1, 1) := dk_27 (dk_at dksX1_told_0 1 rfl rfl)
theorem dX1_told_2 : decode cX1_told 2 = .ok (.invokevirtual 193, 3) := dk_182 0 193 (dk_at dksX1_told_0 2 rfl rfl)
theorem dX1_told_5 : decode cX1_told 5 = .ok (.ifCond .eq 11, 3) := dk_153 0 11 (dk_at dksX1_told_0 5 rfl rfl)
theorem dX1_told_8 : decode cX1_told 8 = .ok (.aload_n 0, 1) := dk_42 (dk_at dksX1_told_0 8 rfl rfl)
theorem dX1_told_9 : decode cX1_told 9 = .ok (.iload_n 2, 1) := dk_28 (dk_at dksX1_told_0 9 rfl rfl)
theorem dX1_told_10 : decode cX1_told 10 = .ok (.invokevirtual 126, 3) := dk_182 0 126 (dk_at dksX1_told_0 10 rfl rfl)
theorem dX1_told_13 : decode cX1_told 13 = .ok (.ifCond .ne 9, 3) := dk_154 0 9 (dk_at dksX1_told_0 13 rfl rfl)
theorem dX1_told_16 : decode cX1_told 16 = .ok (.aload_n 0, 1) := dk_42 (dk_at dksX1_told_0 16 rfl rfl)
theorem dX1_told_17 : decode cX1_told 17 = .ok (.iconst 1, 1) := dk_4 (dk_at dksX1_told_0 17 rfl rfl)
theorem dX1_told_18 : decode cX1_told 18 = .ok (.invokevirtual 148, 3) := dk_182 0 148 (dk_at dksX1_told_0 18 rfl rfl)
theorem dX1_told_21 : decode cX1_told 21 = .ok (.ireturn, 1) := dk_172 (dk_at dksX1_told_0 21 rfl rfl)
theorem dX1_told_22 : decode cX1_told 22 = .ok (.aload_n 0, 1) := dk_42 (dk_at dksX1_told_0 22 rfl rfl)
theorem dX1_told_23 : decode cX1_told 23 = .ok (.getfield 112, 3) := dk_180 0 112 (dk_at dksX1_told_1 0 rfl rfl)
theorem dX1_told_26 : decode cX1_told 26 = .ok (.getfield 162, 3) := dk_180 0 162 (dk_at dksX1_told_1 3 rfl rfl)
theorem dX1_told_29 : decode cX1_told 29 = .ok (.iload_n 1, 1) := dk_27 (dk_at dksX1_told_1 6 rfl rfl)
theorem dX1_told_30 : decode cX1_told 30 = .ok (.invokevirtual 130, 3) := dk_182 0 130 (dk_at dksX1_told_1 7 rfl rfl)
theorem dX1_told_33 : decode cX1_told 33 = .ok (.checkcast 181, 3) := dk_192 0 181 (dk_at dksX1_told_1 10 rfl rfl)
theorem dX1_told_36 : decode cX1_told 36 = .ok (.astore_n 3, 1) := dk_78 (dk_at dksX1_told_1 13 rfl rfl)
theorem dX1_told_37 : decode cX1_told 37 = .ok (.aload_n 3, 1) := dk_45 (dk_at dksX1_told_1 14 rfl rfl)
theorem dX1_told_38 : decode cX1_told 38 = .ok (.getfield 196, 3) := dk_180 0 196 (dk_at dksX1_told_1 15 rfl rfl)
theorem dX1_told_41 : decode cX1_told 41 = .ok (.iload_n 2, 1) := dk_28 (dk_at dksX1_told_1 18 rfl rfl)
theorem dX1_told_42 : decode cX1_told 42 = .ok (.iaload, 1) := dk_46 (dk_at dksX1_told_1 19 rfl rfl)
theorem dX1_told_43 : decode cX1_told 43 = .ok (.ifCond .ne 9, 3) := dk_154 0 9 (dk_at dksX1_told_1 20 rfl rfl)
theorem dX1_told_46 : decode cX1_told 46 = .ok (.aload_n 0, 1) := dk_42 (dk_at dksX1_told_1 23 rfl rfl)
theorem dX1_told_47 : decode cX1_told 47 = .ok (.iconst 5, 1) := dk_8 (dk_at dksX1_told_2 0 rfl rfl)
theorem dX1_told_48 : decode cX1_told 48 = .ok (.invokevirtual 148, 3) := dk_182 0 148 (dk_at dksX1_told_2 1 rfl rfl)
theorem dX1_told_51 : decode cX1_told 51 = .ok (.ireturn, 1) := dk_172 (dk_at dksX1_told_2 4 rfl rfl)
theorem dX1_told_52 : decode cX1_told 52 = .ok (.aload_n 3, 1) := dk_45 (dk_at dksX1_told_2 5 rfl rfl)
theorem dX1_told_53 : decode cX1_told 53 = .ok (.iload_n 2, 1) := dk_28 (dk_at dksX1_told_2 6 rfl rfl)
theorem dX1_told_54 : decode cX1_told 54 = .ok (.putfield 202, 3) := dk_181 0 202 (dk_at dksX1_told_2 7 rfl rfl)
theorem dX1_told_57 : decode cX1_told 57 = .ok (.aload_n 0, 1) := dk_42 (dk_at dksX1_told_2 10 rfl rfl)
theorem dX1_told_58 : decode cX1_told 58 = .ok (.invokevirtual 154, 3) := dk_182 0 154 (dk_at dksX1_told_2 11 rfl rfl)
theorem dX1_told_61 : decode cX1_told 61 = .ok (.ireturn, 1) := dk_172 (dk_at dksX1_told_2 14 rfl rfl)
abbrev cX1_forget : ByteArray := prog_1_method_27_code
def yX1_forget : MethodName := ⟨RX1, "forget", "(I)Z"⟩
def dkwX1_forget_2 : List UInt8 := [181, 0, 202, 42, 182, 0, 154, 172]
abbrev dktX1_forget_2 : List UInt8 := dkwX1_forget_2 ++ []
def dkwX1_forget_1 : List UInt8 := [182, 0, 130, 192, 0, 181, 77, 44, 180, 0, 202, 2, 160, 0, 9, 42, 8, 182, 0, 148, 172, 44, 2]
abbrev dktX1_forget_1 : List UInt8 := dkwX1_forget_1 ++ dktX1_forget_2
def dkwX1_forget_0 : List UInt8 := [42, 27, 182, 0, 193, 154, 0, 9, 42, 4, 182, 0, 148, 172, 42, 180, 0, 112, 180, 0, 162, 27]
abbrev dktX1_forget_0 : List UInt8 := dkwX1_forget_0 ++ dktX1_forget_1
theorem dksX1_forget_0 : cX1_forget.data.toList.drop 0 = dktX1_forget_0 := by decide +kernel
theorem dksX1_forget_1 : cX1_forget.data.toList.drop 22 = dktX1_forget_1 := dk_seg dksX1_forget_0 22 rfl rfl
theorem dksX1_forget_2 : cX1_forget.data.toList.drop 45 = dktX1_forget_2 := dk_seg dksX1_forget_1 23 rfl rfl
theorem dX1_forget_0 : decode cX1_forget 0 = .ok (.aload_n 0, 1) := dk_42 (dk_at dksX1_forget_0 0 rfl rfl)
theorem dX1_forget_1 : decode cX1_forget 1 = .ok (.iload_n 1, 1) := dk_27 (dk_at dksX1_forget_0 1 rfl rfl)
theorem dX1_forget_2 : decode cX1_forget 2 = .ok (.invokevirtual 193, 3) := dk_182 0 193 (dk_at dksX1_forget_0 2 rfl rfl)
theorem dX1_forget_5 : decode cX1_forget 5 = .ok (.ifCond .ne 9, 3) := dk_154 0 9 (dk_at dksX1_forget_0 5 rfl rfl)
theorem dX1_forget_8 : decode cX1_forget 8 = .ok (.aload_n 0, 1) := dk_42 (dk_at dksX1_forget_0 8 rfl rfl)
theorem dX1_forget_9 : decode cX1_forget 9 = .ok (.iconst 1, 1) := dk_4 (dk_at dksX1_forget_0 9 rfl rfl)
theorem dX1_forget_10 : decode cX1_forget 10 = .ok (.invokevirtual 148, 3) := dk_182 0 148 (dk_at dksX1_forget_0 10 rfl rfl)
theorem dX1_forget_13 : decode cX1_forget 13 = .ok (.ireturn, 1) := dk_172 (dk_at dksX1_forget_0 13 rfl rfl)
theorem dX1_forget_14 : decode cX1_forget 14 = .ok (.aload_n 0, 1) := dk_42 (dk_at dksX1_forget_0 14 rfl rfl)
theorem dX1_forget_15 : decode cX1_forget 15 = .ok (.getfield 112, 3) := dk_180 0 112 (dk_at dksX1_forget_0 15 rfl rfl)
theorem dX1_forget_18 : decode cX1_forget 18 = .ok (.getfield 162, 3) := dk_180 0 162 (dk_at dksX1_forget_0 18 rfl rfl)
theorem dX1_forget_21 : decode cX1_forget 21 = .ok (.iload_n 1, 1) := dk_27 (dk_at dksX1_forget_0 21 rfl rfl)
theorem dX1_forget_22 : decode cX1_forget 22 = .ok (.invokevirtual 130, 3) := dk_182 0 130 (dk_at dksX1_forget_1 0 rfl rfl)
theorem dX1_forget_25 : decode cX1_forget 25 = .ok (.checkcast 181, 3) := dk_192 0 181 (dk_at dksX1_forget_1 3 rfl rfl)
theorem dX1_forget_28 : decode cX1_forget 28 = .ok (.astore_n 2, 1) := dk_77 (dk_at dksX1_forget_1 6 rfl rfl)
theorem dX1_forget_29 : decode cX1_forget 29 = .ok (.aload_n 2, 1) := dk_44 (dk_at dksX1_forget_1 7 rfl rfl)
theorem dX1_forget_30 : decode cX1_forget 30 = .ok (.getfield 202, 3) := dk_180 0 202 (dk_at dksX1_forget_1 8 rfl rfl)
theorem dX1_forget_33 : decode cX1_forget 33 = .ok (.iconst (-1), 1) := dk_2 (dk_at dksX1_forget_1 11 rfl rfl)
theorem dX1_forget_34 : decode cX1_forget 34 = .ok (.if_icmp .ne 9, 3) := dk_160 0 9 (dk_at dksX1_forget_1 12 rfl rfl)
theorem dX1_forget_37 : decode cX1_forget 37 = .ok (.aload_n 0, 1) := dk_42 (dk_at dksX1_forget_1 15 rfl rfl)
theorem dX1_forget_38 : decode cX1_forget 38 = .ok (.iconst 5, 1) := dk_8 (dk_at dksX1_forget_1 16 rfl rfl)
theorem dX1_forget_39 : decode cX1_forget 39 = .ok (.invokevirtual 148, 3) := dk_182 0 148 (dk_at dksX1_forget_1 17 rfl rfl)
theorem dX1_forget_42 : decode cX1_forget 42 = .ok (.ireturn, 1) := dk_172 (dk_at dksX1_forget_1 20 rfl rfl)
theorem dX1_forget_43 : decode cX1_forget 43 = .ok (.aload_n 2, 1) := dk_44 (dk_at dksX1_forget_1 21 rfl rfl)
theorem dX1_forget_44 : decode cX1_forget 44 = .ok (.iconst (-1), 1) := dk_2 (dk_at dksX1_forget_1 22 rfl rfl)
theorem dX1_forget_45 : decode cX1_forget 45 = .ok (.putfield 202, 3) := dk_181 0 202 (dk_at dksX1_forget_2 0 rfl rfl)
theorem dX1_forget_48 : decode cX1_forget 48 = .ok (.aload_n 0, 1) := dk_42 (dk_at dksX1_forget_2 3 rfl rfl)
theorem dX1_forget_49 : decode cX1_forget 49 = .ok (.invokevirtual 154, 3) := dk_182 0 154 (dk_at dksX1_forget_2 4 rfl rfl)
theorem dX1_forget_52 : decode cX1_forget 52 = .ok (.ireturn, 1) := dk_172 (dk_at dksX1_forget_2 7 rfl rfl)
abbrev cX1_of : ByteArray := prog_1_method_28_code
def yX1_of : MethodName := ⟨RX1, "of", "(II)I"⟩
def dkwX1_of_4 : List UInt8 := [199, 0, 8, 16, 254, 167, 0, 7, 45, 180, 0, 190, 172, 2, 172]
abbrev dktX1_of_4 : List UInt8 := dkwX1_of_4 ++ []
def dkwX1_of_3 : List UInt8 := [167, 0, 20, 45, 180, 0, 202, 2, 160, 0, 8, 16, 254, 167, 0, 7, 45, 180, 0, 202, 172, 45]
abbrev dktX1_of_3 : List UInt8 := dkwX1_of_3 ++ dktX1_of_4
def dkwX1_of_2 : List UInt8 := [42, 180, 0, 112, 180, 0, 171, 27, 46, 172, 45, 199, 0, 15, 42, 180, 0, 112, 180, 0, 178, 27, 46]
abbrev dktX1_of_2 : List UInt8 := dkwX1_of_2 ++ dktX1_of_3
def dkwX1_of_1 : List UInt8 := [170, 0, 0, 0, 0, 0, 85, 0, 0, 0, 0, 0, 0, 0, 2, 0, 0, 0, 27, 0, 0, 0, 37, 0, 0, 0, 71]
abbrev dktX1_of_1 : List UInt8 := dkwX1_of_1 ++ dktX1_of_2
def dkwX1_of_0 : List UInt8 := [42, 27, 182, 0, 168, 154, 0, 5, 2, 172, 42, 180, 0, 112, 180, 0, 174, 27, 50, 78, 28]
abbrev dktX1_of_0 : List UInt8 := dkwX1_of_0 ++ dktX1_of_1
theorem dksX1_of_0 : cX1_of.data.toList.drop 0 = dktX1_of_0 := by decide +kernel
theorem dksX1_of_1 : cX1_of.data.toList.drop 21 = dktX1_of_1 := dk_seg dksX1_of_0 21 rfl rfl
theorem dksX1_of_2 : cX1_of.data.toList.drop 48 = dktX1_of_2 := dk_seg dksX1_of_1 27 rfl rfl
theorem dksX1_of_3 : cX1_of.data.toList.drop 71 = dktX1_of_3 := dk_seg dksX1_of_2 23 rfl rfl
theorem dksX1_of_4 : cX1_of.data.toList.drop 93 = dktX1_of_4 := dk_seg dksX1_of_3 22 rfl rfl
theorem dX1_of_0 : decode cX1_of 0 = .ok (.aload_n 0, 1) := dk_42 (dk_at dksX1_of_0 0 rfl rfl)
theorem dX1_of_1 : decode cX1_of 1 = .ok (.iload_n 1, 1) := dk_27 (dk_at dksX1_of_0 1 rfl rfl)
theorem dX1_of_2 : decode cX1_of 2 = .ok (.invokevirtual 168, 3) := dk_182 0 168 (dk_at dksX1_of_0 2 rfl rfl)
theorem dX1_of_5 : decode cX1_of 5 = .ok (.ifCond .ne 5, 3) := dk_154 0 5 (dk_at dksX1_of_0 5 rfl rfl)
theorem dX1_of_8 : decode cX1_of 8 = .ok (.iconst (-1), 1) := dk_2 (dk_at dksX1_of_0 8 rfl rfl)
theorem dX1_of_9 : decode cX1_of 9 = .ok (.ireturn, 1) := dk_172 (dk_at dksX1_of_0 9 rfl rfl)
theorem dX1_of_10 : decode cX1_of 10 = .ok (.aload_n 0, 1) := dk_42 (dk_at dksX1_of_0 10 rfl rfl)
theorem dX1_of_11 : decode cX1_of 11 = .ok (.getfield 112, 3) := dk_180 0 112 (dk_at dksX1_of_0 11 rfl rfl)
theorem dX1_of_14 : decode cX1_of 14 = .ok (.getfield 174, 3) := dk_180 0 174 (dk_at dksX1_of_0 14 rfl rfl)
theorem dX1_of_17 : decode cX1_of 17 = .ok (.iload_n 1, 1) := dk_27 (dk_at dksX1_of_0 17 rfl rfl)
theorem dX1_of_18 : decode cX1_of 18 = .ok (.aaload, 1) := dk_50 (dk_at dksX1_of_0 18 rfl rfl)
theorem dX1_of_19 : decode cX1_of 19 = .ok (.astore_n 3, 1) := dk_78 (dk_at dksX1_of_0 19 rfl rfl)
theorem dX1_of_20 : decode cX1_of 20 = .ok (.iload_n 2, 1) := dk_28 (dk_at dksX1_of_0 20 rfl rfl)
theorem dX1_of_21 : decode cX1_of 21 = .ok (.tableswitch 85 0 2 #[27, 37, 71], 27) := by decide +kernel
theorem dX1_of_48 : decode cX1_of 48 = .ok (.aload_n 0, 1) := dk_42 (dk_at dksX1_of_2 0 rfl rfl)
theorem dX1_of_49 : decode cX1_of 49 = .ok (.getfield 112, 3) := dk_180 0 112 (dk_at dksX1_of_2 1 rfl rfl)
theorem dX1_of_52 : decode cX1_of 52 = .ok (.getfield 171, 3) := dk_180 0 171 (dk_at dksX1_of_2 4 rfl rfl)
theorem dX1_of_55 : decode cX1_of 55 = .ok (.iload_n 1, 1) := dk_27 (dk_at dksX1_of_2 7 rfl rfl)
theorem dX1_of_56 : decode cX1_of 56 = .ok (.iaload, 1) := dk_46 (dk_at dksX1_of_2 8 rfl rfl)
theorem dX1_of_57 : decode cX1_of 57 = .ok (.ireturn, 1) := dk_172 (dk_at dksX1_of_2 9 rfl rfl)
theorem dX1_of_58 : decode cX1_of 58 = .ok (.aload_n 3, 1) := dk_45 (dk_at dksX1_of_2 10 rfl rfl)
theorem dX1_of_59 : decode cX1_of 59 = .ok (.ifnonnull 15, 3) := dk_199 0 15 (dk_at dksX1_of_2 11 rfl rfl)
theorem dX1_of_62 : decode cX1_of 62 = .ok (.aload_n 0, 1) := dk_42 (dk_at dksX1_of_2 14 rfl rfl)
theorem dX1_of_63 : decode cX1_of 63 = .ok (.getfield 112, 3) := dk_180 0 112 (dk_at dksX1_of_2 15 rfl rfl)
theorem dX1_of_66 : decode cX1_of 66 = .ok (.getfield 178, 3) := dk_180 0 178 (dk_at dksX1_of_2 18 rfl rfl)
theorem dX1_of_69 : decode cX1_of 69 = .ok (.iload_n 1, 1) := dk_27 (dk_at dksX1_of_2 21 rfl rfl)
theorem dX1_of_70 : decode cX1_of 70 = .ok (.iaload, 1) := dk_46 (dk_at dksX1_of_2 22 rfl rfl)
theorem dX1_of_71 : decode cX1_of 71 = .ok (.goto 20, 3) := dk_167 0 20 (dk_at dksX1_of_3 0 rfl rfl)
theorem dX1_of_74 : decode cX1_of 74 = .ok (.aload_n 3, 1) := dk_45 (dk_at dksX1_of_3 3 rfl rfl)
theorem dX1_of_75 : decode cX1_of 75 = .ok (.getfield 202, 3) := dk_180 0 202 (dk_at dksX1_of_3 4 rfl rfl)
theorem dX1_of_78 : decode cX1_of 78 = .ok (.iconst (-1), 1) := dk_2 (dk_at dksX1_of_3 7 rfl rfl)
theorem dX1_of_79 : decode cX1_of 79 = .ok (.if_icmp .ne 8, 3) := dk_160 0 8 (dk_at dksX1_of_3 8 rfl rfl)
theorem dX1_of_82 : decode cX1_of 82 = .ok (.bipush (-2), 2) := dk_16 254 (dk_at dksX1_of_3 11 rfl rfl)
theorem dX1_of_84 : decode cX1_of 84 = .ok (.goto 7, 3) := dk_167 0 7 (dk_at dksX1_of_3 13 rfl rfl)
theorem dX1_of_87 : decode cX1_of 87 = .ok (.aload_n 3, 1) := dk_45 (dk_at dksX1_of_3 16 rfl rfl)
theorem dX1_of_88 : decode cX1_of 88 = .ok (.getfield 202, 3) := dk_180 0 202 (dk_at dksX1_of_3 17 rfl rfl)
theorem dX1_of_91 : decode cX1_of 91 = .ok (.ireturn, 1) := dk_172 (dk_at dksX1_of_3 20 rfl rfl)
theorem dX1_of_92 : decode cX1_of 92 = .ok (.aload_n 3, 1) := dk_45 (dk_at dksX1_of_3 21 rfl rfl)
theorem dX1_of_93 : decode cX1_of 93 = .ok (.ifnonnull 8, 3) := dk_199 0 8 (dk_at dksX1_of_4 0 rfl rfl)
theorem dX1_of_96 : decode cX1_of 96 = .ok (.bipush (-2), 2) := dk_16 254 (dk_at dksX1_of_4 3 rfl rfl)
theorem dX1_of_98 : decode cX1_of 98 = .ok (.goto 7, 3) := dk_167 0 7 (dk_at dksX1_of_4 5 rfl rfl)
theorem dX1_of_101 : decode cX1_of 101 = .ok (.aload_n 3, 1) := dk_45 (dk_at dksX1_of_4 8 rfl rfl)
theorem dX1_of_102 : decode cX1_of 102 = .ok (.getfield 190, 3) := dk_180 0 190 (dk_at dksX1_of_4 9 rfl rfl)
theorem dX1_of_105 : decode cX1_of 105 = .ok (.ireturn, 1) := dk_172 (dk_at dksX1_of_4 12 rfl rfl)
theorem dX1_of_106 : decode cX1_of 106 = .ok (.iconst (-1), 1) := dk_2 (dk_at dksX1_of_4 13 rfl rfl)
theorem dX1_of_107 : decode cX1_of 107 = .ok (.ireturn, 1) := dk_172 (dk_at dksX1_of_4 14 rfl rfl)
abbrev cX1_step : ByteArray := prog_1_method_29_code
def yX1_step : MethodName := ⟨RX1, "step", "(IIII)I"⟩
def dkwX1_step_5 : List UInt8 := [182, 0, 58, 172]
abbrev dktX1_step_5 : List UInt8 := dkwX1_step_5 ++ []
def dkwX1_step_4 : List UInt8 := [21, 4, 5, 160, 0, 13, 42, 180, 0, 112, 180, 0, 216, 167, 0, 10, 42, 180, 0, 112, 180, 0, 219]
abbrev dktX1_step_4 : List UInt8 := dkwX1_step_4 ++ dktX1_step_5
def dkwX1_step_3 : List UInt8 := [154, 0, 8, 21, 5, 167, 0, 42, 21, 4, 4, 160, 0, 13, 42, 180, 0, 112, 180, 0, 213, 167, 0, 26]
abbrev dktX1_step_3 : List UInt8 := dkwX1_step_3 ++ dktX1_step_4
def dkwX1_step_2 : List UInt8 := [42, 180, 0, 112, 180, 0, 205, 28, 50, 29, 42, 180, 0, 103, 182, 0, 209, 54, 5, 42, 21, 4]
abbrev dktX1_step_2 : List UInt8 := dkwX1_step_2 ++ dktX1_step_3
def dkwX1_step_1 : List UInt8 := [153, 0, 13, 21, 4, 3, 6, 184, 0, 80, 154, 0, 9, 42, 4, 182, 0, 52, 172, 42, 180, 0, 112, 27]
abbrev dktX1_step_1 : List UInt8 := dkwX1_step_1 ++ dktX1_step_2
def dkwX1_step_0 : List UInt8 := [42, 27, 182, 0, 168, 153, 0, 30, 28, 3, 6, 184, 0, 80, 153, 0, 21, 42, 29, 182, 0, 126]
abbrev dktX1_step_0 : List UInt8 := dkwX1_step_0 ++ dktX1_step_1
theorem dksX1_step_0 : cX1_step.data.toList.drop 0 = dktX1_step_0 := by decide +kernel
theorem dksX1_step_1 : cX1_step.data.toList.drop 22 = dktX1_step_1 := dk_seg dksX1_step_0 22 rfl rfl
theorem dksX1_step_2 : cX1_step.data.toList.drop 46 = dktX1_step_2 := dk_seg dksX1_step_1 24 rfl rfl
theorem dksX1_step_3 : cX1_step.data.toList.drop 68 = dktX1_step_3 := dk_seg dksX1_step_2 22 rfl rfl
theorem dksX1_step_4 : cX1_step.data.toList.drop 92 = dktX1_step_4 := dk_seg dksX1_step_3 24 rfl rfl
theorem dksX1_step_5 : cX1_step.data.toList.drop 115 = dktX1_step_5 := dk_seg dksX1_step_4 23 rfl rfl
theorem dX1_step_0 : decode cX1_step 0 = .ok (.aload_n 0, 1) := dk_42 (dk_at dksX1_step_0 0 rfl rfl)
theorem dX1_step_1 : decode cX1_step 1 = .ok (.iload_n 1, 1) := dk_27 (dk_at dksX1_step_0 1 rfl rfl)
theorem dX1_step_2 : decode cX1_step 2 = .ok (.invokevirtual 168, 3) := dk_182 0 168 (dk_at dksX1_step_0 2 rfl rfl)
theorem dX1_step_5 : decode cX1_step 5 = .ok (.ifCond .eq 30, 3) := dk_153 0 30 (dk_at dksX1_step_0 5 rfl rfl)
theorem dX1_step_8 : decode cX1_step 8 = .ok (.iload_n 2, 1) := dk_28 (dk_at dksX1_step_0 8 rfl rfl)
theorem dX1_step_9 : decode cX1_step 9 = .ok (.iconst 0, 1) := dk_3 (dk_at dksX1_step_0 9 rfl rfl)
theorem dX1_step_10 : decode cX1_step 10 = .ok (.iconst 3, 1) := dk_6 (dk_at dksX1_step_0 10 rfl rfl)
theorem dX1_step_11 : decode cX1_step 11 = .ok (.invokestatic 80, 3) := dk_184 0 80 (dk_at dksX1_step_0 11 rfl rfl)
theorem dX1_step_14 : decode cX1_step 14 = .ok (.ifCond .eq 21, 3) := dk_153 0 21 (dk_at dksX1_step_0 14 rfl rfl)
theorem dX1_step_17 : decode cX1_step 17 = .ok (.aload_n 0, 1) := dk_42 (dk_at dksX1_step_0 17 rfl rfl)
theorem dX1_step_18 : decode cX1_step 18 = .ok (.iload_n 3, 1) := dk_29 (dk_at dksX1_step_0 18 rfl rfl)
theorem dX1_step_19 : decode cX1_step 19 = .ok (.invokevirtual 126, 3) := dk_182 0 126 (dk_at dksX1_step_0 19 rfl rfl)
theorem dX1_step_22 : decode cX1_step 22 = .ok (.ifCond .eq 13, 3) := dk_153 0 13 (dk_at dksX1_step_1 0 rfl rfl)
theorem dX1_step_25 : decode cX1_step 25 = .ok (.iload 4, 2) := dk_21 4 (dk_at dksX1_step_1 3 rfl rfl)
theorem dX1_step_27 : decode cX1_step 27 = .ok (.iconst 0, 1) := dk_3 (dk_at dksX1_step_1 5 rfl rfl)
theorem dX1_step_28 : decode cX1_step 28 = .ok (.iconst 3, 1) := dk_6 (dk_at dksX1_step_1 6 rfl rfl)
theorem dX1_step_29 : decode cX1_step 29 = .ok (.invokestatic 80, 3) := dk_184 0 80 (dk_at dksX1_step_1 7 rfl rfl)
theorem dX1_step_32 : decode cX1_step 32 = .ok (.ifCond .ne 9, 3) := dk_154 0 9 (dk_at dksX1_step_1 10 rfl rfl)
theorem dX1_step_35 : decode cX1_step 35 = .ok (.aload_n 0, 1) := dk_42 (dk_at dksX1_step_1 13 rfl rfl)
theorem dX1_step_36 : decode cX1_step 36 = .ok (.iconst 1, 1) := dk_4 (dk_at dksX1_step_1 14 rfl rfl)
theorem dX1_step_37 : decode cX1_step 37 = .ok (.invokevirtual 52, 3) := dk_182 0 52 (dk_at dksX1_step_1 15 rfl rfl)
theorem dX1_step_40 : decode cX1_step 40 = .ok (.ireturn, 1) := dk_172 (dk_at dksX1_step_1 18 rfl rfl)
theorem dX1_step_41 : decode cX1_step 41 = .ok (.aload_n 0, 1) := dk_42 (dk_at dksX1_step_1 19 rfl rfl)
theorem dX1_step_42 : decode cX1_step 42 = .ok (.getfield 112, 3) := dk_180 0 112 (dk_at dksX1_step_1 20 rfl rfl)
theorem dX1_step_45 : decode cX1_step 45 = .ok (.iload_n 1, 1) := dk_27 (dk_at dksX1_step_1 23 rfl rfl)
theorem dX1_step_46 : decode cX1_step 46 = .ok (.aload_n 0, 1) := dk_42 (dk_at dksX1_step_2 0 rfl rfl)
theorem dX1_step_47 : decode cX1_step 47 = .ok (.getfield 112, 3) := dk_180 0 112 (dk_at dksX1_step_2 1 rfl rfl)
theorem dX1_step_50 : decode cX1_step 50 = .ok (.getfield 205, 3) := dk_180 0 205 (dk_at dksX1_step_2 4 rfl rfl)
theorem dX1_step_53 : decode cX1_step 53 = .ok (.iload_n 2, 1) := dk_28 (dk_at dksX1_step_2 7 rfl rfl)
theorem dX1_step_54 : decode cX1_step 54 = .ok (.aaload, 1) := dk_50 (dk_at dksX1_step_2 8 rfl rfl)
theorem dX1_step_55 : decode cX1_step 55 = .ok (.iload_n 3, 1) := dk_29 (dk_at dksX1_step_2 9 rfl rfl)
theorem dX1_step_56 : decode cX1_step 56 = .ok (.aload_n 0, 1) := dk_42 (dk_at dksX1_step_2 10 rfl rfl)
theorem dX1_step_57 : decode cX1_step 57 = .ok (.getfield 103, 3) := dk_180 0 103 (dk_at dksX1_step_2 11 rfl rfl)
theorem dX1_step_60 : decode cX1_step 60 = .ok (.invokevirtual 209, 3) := dk_182 0 209 (dk_at dksX1_step_2 14 rfl rfl)
theorem dX1_step_63 : decode cX1_step 63 = .ok (.istore 5, 2) := dk_54 5 (dk_at dksX1_step_2 17 rfl rfl)
theorem dX1_step_65 : decode cX1_step 65 = .ok (.aload_n 0, 1) := dk_42 (dk_at dksX1_step_2 19 rfl rfl)
theorem dX1_step_66 : decode cX1_step 66 = .ok (.iload 4, 2) := dk_21 4 (dk_at dksX1_step_2 20 rfl rfl)
theorem dX1_step_68 : decode cX1_step 68 = .ok (.ifCond .ne 8, 3) := dk_154 0 8 (dk_at dksX1_step_3 0 rfl rfl)
theorem dX1_step_71 : decode cX1_step 71 = .ok (.iload 5, 2) := dk_21 5 (dk_at dksX1_step_3 3 rfl rfl)
theorem dX1_step_73 : decode cX1_step 73 = .ok (.goto 42, 3) := dk_167 0 42 (dk_at dksX1_step_3 5 rfl rfl)
theorem dX1_step_76 : decode cX1_step 76 = .ok (.iload 4, 2) := dk_21 4 (dk_at dksX1_step_3 8 rfl rfl)
theorem dX1_step_78 : decode cX1_step 78 = .ok (.iconst 1, 1) := dk_4 (dk_at dksX1_step_3 10 rfl rfl)
theorem dX1_step_79 : decode cX1_step 79 = .ok (.if_icmp .ne 13, 3) := dk_160 0 13 (dk_at dksX1_step_3 11 rfl rfl)
theorem dX1_step_82 : decode cX1_step 82 = .ok (.aload_n 0, 1) := dk_42 (dk_at dksX1_step_3 14 rfl rfl)
theorem dX1_step_83 : decode cX1_step 83 = .ok (.getfield 112, 3) := dk_180 0 112 (dk_at dksX1_step_3 15 rfl rfl)
theorem dX1_step_86 : decode cX1_step 86 = .ok (.getfield 213, 3) := dk_180 0 213 (dk_at dksX1_step_3 18 rfl rfl)
theorem dX1_step_89 : decode cX1_step 89 = .ok (.goto 26, 3) := dk_167 0 26 (dk_at dksX1_step_3 21 rfl rfl)
theorem dX1_step_92 : decode cX1_step 92 = .ok (.iload 4, 2) := dk_21 4 (dk_at dksX1_step_4 0 rfl rfl)
theorem dX1_step_94 : decode cX1_step 94 = .ok (.iconst 2, 1) := dk_5 (dk_at dksX1_step_4 2 rfl rfl)
theorem dX1_step_95 : decode cX1_step 95 = .ok (.if_icmp .ne 13, 3) := dk_160 0 13 (dk_at dksX1_step_4 3 rfl rfl)
theorem dX1_step_98 : decode cX1_step 98 = .ok (.aload_n 0, 1) := dk_42 (dk_at dksX1_step_4 6 rfl rfl)
theorem dX1_step_99 : decode cX1_step 99 = .ok (.getfield 112, 3) := dk_180 0 112 (dk_at dksX1_step_4 7 rfl rfl)
theorem dX1_step_102 : decode cX1_step 102 = .ok (.getfield 216, 3) := dk_180 0 216 (dk_at dksX1_step_4 10 rfl rfl)
theorem dX1_step_105 : decode cX1_step 105 = .ok (.goto 10, 3) := dk_167 0 10 (dk_at dksX1_step_4 13 rfl rfl)
theorem dX1_step_108 : decode cX1_step 108 = .ok (.aload_n 0, 1) := dk_42 (dk_at dksX1_step_4 16 rfl rfl)
theorem dX1_step_109 : decode cX1_step 109 = .ok (.getfield 112, 3) := dk_180 0 112 (dk_at dksX1_step_4 17 rfl rfl)
theorem dX1_step_112 : decode cX1_step 112 = .ok (.getfield 219, 3) := dk_180 0 219 (dk_at dksX1_step_4 20 rfl rfl)
theorem dX1_step_115 : decode cX1_step 115 = .ok (.invokevirtual 58, 3) := dk_182 0 58 (dk_at dksX1_step_5 0 rfl rfl)
theorem dX1_step_118 : decode cX1_step 118 = .ok (.ireturn, 1) := dk_172 (dk_at dksX1_step_5 3 rfl rfl)
abbrev cX1_worst : ByteArray := prog_1_method_32_code
def yX1_worst : MethodName := ⟨RX1, "worst", "(II)I"⟩
def dkwX1_worst_2 : List UInt8 := [167, 0, 10, 42, 22, 4, 136, 182, 0, 58, 172]
abbrev dktX1_worst_2 : List UInt8 := dkwX1_worst_2 ++ []
def dkwX1_worst_1 : List UInt8 := [45, 182, 0, 239, 182, 0, 241, 55, 4, 22, 4, 20, 0, 245, 148, 154, 0, 12, 42, 16, 6, 182, 0, 52]
abbrev dktX1_worst_1 : List UInt8 := dkwX1_worst_1 ++ dktX1_worst_2
def dkwX1_worst_0 : List UInt8 := [42, 27, 28, 182, 0, 232, 154, 0, 9, 42, 4, 182, 0, 52, 172, 42, 28, 3, 182, 0, 236, 78, 45, 27]
abbrev dktX1_worst_0 : List UInt8 := dkwX1_worst_0 ++ dktX1_worst_1
theorem dksX1_worst_0 : cX1_worst.data.toList.drop 0 = dktX1_worst_0 := by decide +kernel
theorem dksX1_worst_1 : cX1_worst.data.toList.drop 24 = dktX1_worst_1 := dk_seg dksX1_worst_0 24 rfl rfl
theorem dksX1_worst_2 : cX1_worst.data.toList.drop 48 = dktX1_worst_2 := dk_seg dksX1_worst_1 24 rfl rfl
theorem dX1_worst_0 : decode cX1_worst 0 = .ok (.aload_n 0, 1) := dk_42 (dk_at dksX1_worst_0 0 rfl rfl)
theorem dX1_worst_1 : decode cX1_worst 1 = .ok (.iload_n 1, 1) := dk_27 (dk_at dksX1_worst_0 1 rfl rfl)
theorem dX1_worst_2 : decode cX1_worst 2 = .ok (.iload_n 2, 1) := dk_28 (dk_at dksX1_worst_0 2 rfl rfl)
theorem dX1_worst_3 : decode cX1_worst 3 = .ok (.invokevirtual 232, 3) := dk_182 0 232 (dk_at dksX1_worst_0 3 rfl rfl)
theorem dX1_worst_6 : decode cX1_worst 6 = .ok (.ifCond .ne 9, 3) := dk_154 0 9 (dk_at dksX1_worst_0 6 rfl rfl)
theorem dX1_worst_9 : decode cX1_worst 9 = .ok (.aload_n 0, 1) := dk_42 (dk_at dksX1_worst_0 9 rfl rfl)
theorem dX1_worst_10 : decode cX1_worst 10 = .ok (.iconst 1, 1) := dk_4 (dk_at dksX1_worst_0 10 rfl rfl)
theorem dX1_worst_11 : decode cX1_worst 11 = .ok (.invokevirtual 52, 3) := dk_182 0 52 (dk_at dksX1_worst_0 11 rfl rfl)
theorem dX1_worst_14 : decode cX1_worst 14 = .ok (.ireturn, 1) := dk_172 (dk_at dksX1_worst_0 14 rfl rfl)
theorem dX1_worst_15 : decode cX1_worst 15 = .ok (.aload_n 0, 1) := dk_42 (dk_at dksX1_worst_0 15 rfl rfl)
theorem dX1_worst_16 : decode cX1_worst 16 = .ok (.iload_n 2, 1) := dk_28 (dk_at dksX1_worst_0 16 rfl rfl)
theorem dX1_worst_17 : decode cX1_worst 17 = .ok (.iconst 0, 1) := dk_3 (dk_at dksX1_worst_0 17 rfl rfl)
theorem dX1_worst_18 : decode cX1_worst 18 = .ok (.invokevirtual 236, 3) := dk_182 0 236 (dk_at dksX1_worst_0 18 rfl rfl)
theorem dX1_worst_21 : decode cX1_worst 21 = .ok (.astore_n 3, 1) := dk_78 (dk_at dksX1_worst_0 21 rfl rfl)
theorem dX1_worst_22 : decode cX1_worst 22 = .ok (.aload_n 3, 1) := dk_45 (dk_at dksX1_worst_0 22 rfl rfl)
theorem dX1_worst_23 : decode cX1_worst 23 = .ok (.iload_n 1, 1) := dk_27 (dk_at dksX1_worst_0 23 rfl rfl)
theorem dX1_worst_24 : decode cX1_worst 24 = .ok (.aload_n 3, 1) := dk_45 (dk_at dksX1_worst_1 0 rfl rfl)
theorem dX1_worst_25 : decode cX1_worst 25 = .ok (.invokevirtual 239, 3) := dk_182 0 239 (dk_at dksX1_worst_1 1 rfl rfl)
theorem dX1_worst_28 : decode cX1_worst 28 = .ok (.invokevirtual 241, 3) := dk_182 0 241 (dk_at dksX1_worst_1 4 rfl rfl)
theorem dX1_worst_31 : decode cX1_worst 31 = .ok (.lstore 4, 2) := dk_55 4 (dk_at dksX1_worst_1 7 rfl rfl)
theorem dX1_worst_33 : decode cX1_worst 33 = .ok (.lload 4, 2) := dk_22 4 (dk_at dksX1_worst_1 9 rfl rfl)
theorem dX1_worst_35 : decode cX1_worst 35 = .ok (.ldc2_w 245, 3) := dk_20 0 245 (dk_at dksX1_worst_1 11 rfl rfl)
theorem dX1_worst_38 : decode cX1_worst 38 = .ok (.lcmp, 1) := dk_148 (dk_at dksX1_worst_1 14 rfl rfl)
theorem dX1_worst_39 : decode cX1_worst 39 = .ok (.ifCond .ne 12, 3) := dk_154 0 12 (dk_at dksX1_worst_1 15 rfl rfl)
theorem dX1_worst_42 : decode cX1_worst 42 = .ok (.aload_n 0, 1) := dk_42 (dk_at dksX1_worst_1 18 rfl rfl)
theorem dX1_worst_43 : decode cX1_worst 43 = .ok (.bipush 6, 2) := dk_16 6 (dk_at dksX1_worst_1 19 rfl rfl)
theorem dX1_worst_45 : decode cX1_worst 45 = .ok (.invokevirtual 52, 3) := dk_182 0 52 (dk_at dksX1_worst_1 21 rfl rfl)
theorem dX1_worst_48 : decode cX1_worst 48 = .ok (.goto 10, 3) := dk_167 0 10 (dk_at dksX1_worst_2 0 rfl rfl)
theorem dX1_worst_51 : decode cX1_worst 51 = .ok (.aload_n 0, 1) := dk_42 (dk_at dksX1_worst_2 3 rfl rfl)
theorem dX1_worst_52 : decode cX1_worst 52 = .ok (.lload 4, 2) := dk_22 4 (dk_at dksX1_worst_2 4 rfl rfl)
theorem dX1_worst_54 : decode cX1_worst 54 = .ok (.l2i, 1) := dk_136 (dk_at dksX1_worst_2 6 rfl rfl)
theorem dX1_worst_55 : decode cX1_worst 55 = .ok (.invokevirtual 58, 3) := dk_182 0 58 (dk_at dksX1_worst_2 7 rfl rfl)
theorem dX1_worst_58 : decode cX1_worst 58 = .ok (.ireturn, 1) := dk_172 (dk_at dksX1_worst_2 10 rfl rfl)
abbrev cX1_areCells : ByteArray := prog_1_method_31_code
def yX1_areCells : MethodName := ⟨RX1, "areCells", "(II)Z"⟩
def dkwX1_areCells_0 : List UInt8 := [42, 27, 182, 0, 168, 153, 0, 15, 42, 28, 182, 0, 168, 153, 0, 7, 4, 167, 0, 4, 3, 172]
abbrev dktX1_areCells_0 : List UInt8 := dkwX1_areCells_0 ++ []
theorem dksX1_areCells_0 : cX1_areCells.data.toList.drop 0 = dktX1_areCells_0 := by decide +kernel
theorem dX1_areCells_0 : decode cX1_areCells 0 = .ok (.aload_n 0, 1) := dk_42 (dk_at dksX1_areCells_0 0 rfl rfl)
theorem dX1_areCells_1 : decode cX1_areCells 1 = .ok (.iload_n 1, 1) := dk_27 (dk_at dksX1_areCells_0 1 rfl rfl)
theorem dX1_areCells_2 : decode cX1_areCells 2 = .ok (.invokevirtual 168, 3) := dk_182 0 168 (dk_at dksX1_areCells_0 2 rfl rfl)
theorem dX1_areCells_5 : decode cX1_areCells 5 = .ok (.ifCond .eq 15, 3) := dk_153 0 15 (dk_at dksX1_areCells_0 5 rfl rfl)
theorem dX1_areCells_8 : decode cX1_areCells 8 = .ok (.aload_n 0, 1) := dk_42 (dk_at dksX1_areCells_0 8 rfl rfl)
theorem dX1_areCells_9 : decode cX1_areCells 9 = .ok (.iload_n 2, 1) := dk_28 (dk_at dksX1_areCells_0 9 rfl rfl)
theorem dX1_areCells_10 : decode cX1_areCells 10 = .ok (.invokevirtual 168, 3) := dk_182 0 168 (dk_at dksX1_areCells_0 10 rfl rfl)
theorem dX1_areCells_13 : decode cX1_areCells 13 = .ok (.ifCond .eq 7, 3) := dk_153 0 7 (dk_at dksX1_areCells_0 13 rfl rfl)
theorem dX1_areCells_16 : decode cX1_areCells 16 = .ok (.iconst 1, 1) := dk_4 (dk_at dksX1_areCells_0 16 rfl rfl)
theorem dX1_areCells_17 : decode cX1_areCells 17 = .ok (.goto 4, 3) := dk_167 0 4 (dk_at dksX1_areCells_0 17 rfl rfl)
theorem dX1_areCells_20 : decode cX1_areCells 20 = .ok (.iconst 0, 1) := dk_3 (dk_at dksX1_areCells_0 20 rfl rfl)
theorem dX1_areCells_21 : decode cX1_areCells 21 = .ok (.ireturn, 1) := dk_172 (dk_at dksX1_areCells_0 21 rfl rfl)
abbrev cX1_solver : ByteArray := prog_1_method_30_code
def yX1_solver : MethodName := ⟨RX1, "solver", "(IZ)LSoftWheels$Solver;"⟩
def dkwX1_solver_1 : List UInt8 := [167, 0, 10, 187, 0, 225, 89, 183, 0, 227, 182, 0, 228, 176]
abbrev dktX1_solver_1 : List UInt8 := dkwX1_solver_1 ++ []
def dkwX1_solver_0 : List UInt8 := [42, 180, 0, 22, 42, 180, 0, 112, 27, 42, 180, 0, 103, 28, 153, 0, 13, 187, 0, 222, 89, 183, 0, 224]
abbrev dktX1_solver_0 : List UInt8 := dkwX1_solver_0 ++ dktX1_solver_1
theorem dksX1_solver_0 : cX1_solver.data.toList.drop 0 = dktX1_solver_0 := by decide +kernel
theorem dksX1_solver_1 : cX1_solver.data.toList.drop 24 = dktX1_solver_1 := dk_seg dksX1_solver_0 24 rfl rfl
theorem dX1_solver_0 : decode cX1_solver 0 = .ok (.aload_n 0, 1) := dk_42 (dk_at dksX1_solver_0 0 rfl rfl)
theorem dX1_solver_1 : decode cX1_solver 1 = .ok (.getfield 22, 3) := dk_180 0 22 (dk_at dksX1_solver_0 1 rfl rfl)
theorem dX1_solver_4 : decode cX1_solver 4 = .ok (.aload_n 0, 1) := dk_42 (dk_at dksX1_solver_0 4 rfl rfl)
theorem dX1_solver_5 : decode cX1_solver 5 = .ok (.getfield 112, 3) := dk_180 0 112 (dk_at dksX1_solver_0 5 rfl rfl)
theorem dX1_solver_8 : decode cX1_solver 8 = .ok (.iload_n 1, 1) := dk_27 (dk_at dksX1_solver_0 8 rfl rfl)
theorem dX1_solver_9 : decode cX1_solver 9 = .ok (.aload_n 0, 1) := dk_42 (dk_at dksX1_solver_0 9 rfl rfl)
theorem dX1_solver_10 : decode cX1_solver 10 = .ok (.getfield 103, 3) := dk_180 0 103 (dk_at dksX1_solver_0 10 rfl rfl)
theorem dX1_solver_13 : decode cX1_solver 13 = .ok (.iload_n 2, 1) := dk_28 (dk_at dksX1_solver_0 13 rfl rfl)
theorem dX1_solver_14 : decode cX1_solver 14 = .ok (.ifCond .eq 13, 3) := dk_153 0 13 (dk_at dksX1_solver_0 14 rfl rfl)
theorem dX1_solver_17 : decode cX1_solver 17 = .ok (.new 222, 3) := dk_187 0 222 (dk_at dksX1_solver_0 17 rfl rfl)
theorem dX1_solver_20 : decode cX1_solver 20 = .ok (.dup, 1) := dk_89 (dk_at dksX1_solver_0 20 rfl rfl)
theorem dX1_solver_21 : decode cX1_solver 21 = .ok (.invokespecial 224, 3) := dk_183 0 224 (dk_at dksX1_solver_0 21 rfl rfl)
theorem dX1_solver_24 : decode cX1_solver 24 = .ok (.goto 10, 3) := dk_167 0 10 (dk_at dksX1_solver_1 0 rfl rfl)
theorem dX1_solver_27 : decode cX1_solver 27 = .ok (.new 225, 3) := dk_187 0 225 (dk_at dksX1_solver_1 3 rfl rfl)
theorem dX1_solver_30 : decode cX1_solver 30 = .ok (.dup, 1) := dk_89 (dk_at dksX1_solver_1 6 rfl rfl)
theorem dX1_solver_31 : decode cX1_solver 31 = .ok (.invokespecial 227, 3) := dk_183 0 227 (dk_at dksX1_solver_1 7 rfl rfl)
theorem dX1_solver_34 : decode cX1_solver 34 = .ok (.invokevirtual 228, 3) := dk_182 0 228 (dk_at dksX1_solver_1 10 rfl rfl)
theorem dX1_solver_37 : decode cX1_solver 37 = .ok (.areturn, 1) := dk_176 (dk_at dksX1_solver_1 13 rfl rfl)
abbrev cX1_mean : ByteArray := prog_1_method_35_code
def yX1_mean : MethodName := ⟨RX1, "mean", "(IIZ)J"⟩
def dkwX1_mean_3 : List UInt8 := [182, 1, 6, 173]
abbrev dktX1_mean_3 : List UInt8 := dkwX1_mean_3 ++ []
def dkwX1_mean_2 : List UInt8 := [16, 6, 182, 0, 255, 167, 0, 20, 42, 22, 5, 25, 4, 25, 4, 182, 0, 239, 182, 1, 3, 29]
abbrev dktX1_mean_2 : List UInt8 := dkwX1_mean_2 ++ dktX1_mean_3
def dkwX1_mean_1 : List UInt8 := [25, 4, 27, 25, 4, 182, 0, 239, 182, 0, 241, 55, 5, 22, 5, 20, 0, 245, 148, 154, 0, 12, 42]
abbrev dktX1_mean_1 : List UInt8 := dkwX1_mean_1 ++ dktX1_mean_2
def dkwX1_mean_0 : List UInt8 := [42, 27, 28, 182, 0, 232, 154, 0, 9, 42, 4, 182, 0, 255, 173, 42, 28, 4, 182, 0, 236, 58, 4]
abbrev dktX1_mean_0 : List UInt8 := dkwX1_mean_0 ++ dktX1_mean_1
theorem dksX1_mean_0 : cX1_mean.data.toList.drop 0 = dktX1_mean_0 := by decide +kernel
theorem dksX1_mean_1 : cX1_mean.data.toList.drop 23 = dktX1_mean_1 := dk_seg dksX1_mean_0 23 rfl rfl
theorem dksX1_mean_2 : cX1_mean.data.toList.drop 46 = dktX1_mean_2 := dk_seg dksX1_mean_1 23 rfl rfl
theorem dksX1_mean_3 : cX1_mean.data.toList.drop 68 = dktX1_mean_3 := dk_seg dksX1_mean_2 22 rfl rfl
theorem dX1_mean_0 : decode cX1_mean 0 = .ok (.aload_n 0, 1) := dk_42 (dk_at dksX1_mean_0 0 rfl rfl)
theorem dX1_mean_1 : decode cX1_mean 1 = .ok (.iload_n 1, 1) := dk_27 (dk_at dksX1_mean_0 1 rfl rfl)
theorem dX1_mean_2 : decode cX1_mean 2 = .ok (.iload_n 2, 1) := dk_28 (dk_at dksX1_mean_0 2 rfl rfl)
theorem dX1_mean_3 : decode cX1_mean 3 = .ok (.invokevirtual 232, 3) := dk_182 0 232 (dk_at dksX1_mean_0 3 rfl rfl)
theorem dX1_mean_6 : decode cX1_mean 6 = .ok (.ifCond .ne 9, 3) := dk_154 0 9 (dk_at dksX1_mean_0 6 rfl rfl)
theorem dX1_mean_9 : decode cX1_mean 9 = .ok (.aload_n 0, 1) := dk_42 (dk_at dksX1_mean_0 9 rfl rfl)
theorem dX1_mean_10 : decode cX1_mean 10 = .ok (.iconst 1, 1) := dk_4 (dk_at dksX1_mean_0 10 rfl rfl)
theorem dX1_mean_11 : decode cX1_mean 11 = .ok (.invokevirtual 255, 3) := dk_182 0 255 (dk_at dksX1_mean_0 11 rfl rfl)
theorem dX1_mean_14 : decode cX1_mean 14 = .ok (.lreturn, 1) := dk_173 (dk_at dksX1_mean_0 14 rfl rfl)
theorem dX1_mean_15 : decode cX1_mean 15 = .ok (.aload_n 0, 1) := dk_42 (dk_at dksX1_mean_0 15 rfl rfl)
theorem dX1_mean_16 : decode cX1_mean 16 = .ok (.iload_n 2, 1) := dk_28 (dk_at dksX1_mean_0 16 rfl rfl)
theorem dX1_mean_17 : decode cX1_mean 17 = .ok (.iconst 1, 1) := dk_4 (dk_at dksX1_mean_0 17 rfl rfl)
theorem dX1_mean_18 : decode cX1_mean 18 = .ok (.invokevirtual 236, 3) := dk_182 0 236 (dk_at dksX1_mean_0 18 rfl rfl)
theorem dX1_mean_21 : decode cX1_mean 21 = .ok (.astore 4, 2) := dk_58 4 (dk_at dksX1_mean_0 21 rfl rfl)
theorem dX1_mean_23 : decode cX1_mean 23 = .ok (.aload 4, 2) := dk_25 4 (dk_at dksX1_mean_1 0 rfl rfl)
theorem dX1_mean_25 : decode cX1_mean 25 = .ok (.iload_n 1, 1) := dk_27 (dk_at dksX1_mean_1 2 rfl rfl)
theorem dX1_mean_26 : decode cX1_mean 26 = .ok (.aload 4, 2) := dk_25 4 (dk_at dksX1_mean_1 3 rfl rfl)
theorem dX1_mean_28 : decode cX1_mean 28 = .ok (.invokevirtual 239, 3) := dk_182 0 239 (dk_at dksX1_mean_1 5 rfl rfl)
theorem dX1_mean_31 : decode cX1_mean 31 = .ok (.invokevirtual 241, 3) := dk_182 0 241 (dk_at dksX1_mean_1 8 rfl rfl)
theorem dX1_mean_34 : decode cX1_mean 34 = .ok (.lstore 5, 2) := dk_55 5 (dk_at dksX1_mean_1 11 rfl rfl)
theorem dX1_mean_36 : decode cX1_mean 36 = .ok (.lload 5, 2) := dk_22 5 (dk_at dksX1_mean_1 13 rfl rfl)
theorem dX1_mean_38 : decode cX1_mean 38 = .ok (.ldc2_w 245, 3) := dk_20 0 245 (dk_at dksX1_mean_1 15 rfl rfl)
theorem dX1_mean_41 : decode cX1_mean 41 = .ok (.lcmp, 1) := dk_148 (dk_at dksX1_mean_1 18 rfl rfl)
theorem dX1_mean_42 : decode cX1_mean 42 = .ok (.ifCond .ne 12, 3) := dk_154 0 12 (dk_at dksX1_mean_1 19 rfl rfl)
theorem dX1_mean_45 : decode cX1_mean 45 = .ok (.aload_n 0, 1) := dk_42 (dk_at dksX1_mean_1 22 rfl rfl)
theorem dX1_mean_46 : decode cX1_mean 46 = .ok (.bipush 6, 2) := dk_16 6 (dk_at dksX1_mean_2 0 rfl rfl)
theorem dX1_mean_48 : decode cX1_mean 48 = .ok (.invokevirtual 255, 3) := dk_182 0 255 (dk_at dksX1_mean_2 2 rfl rfl)
theorem dX1_mean_51 : decode cX1_mean 51 = .ok (.goto 20, 3) := dk_167 0 20 (dk_at dksX1_mean_2 5 rfl rfl)
theorem dX1_mean_54 : decode cX1_mean 54 = .ok (.aload_n 0, 1) := dk_42 (dk_at dksX1_mean_2 8 rfl rfl)
theorem dX1_mean_55 : decode cX1_mean 55 = .ok (.lload 5, 2) := dk_22 5 (dk_at dksX1_mean_2 9 rfl rfl)
theorem dX1_mean_57 : decode cX1_mean 57 = .ok (.aload 4, 2) := dk_25 4 (dk_at dksX1_mean_2 11 rfl rfl)
theorem dX1_mean_59 : decode cX1_mean 59 = .ok (.aload 4, 2) := dk_25 4 (dk_at dksX1_mean_2 13 rfl rfl)
theorem dX1_mean_61 : decode cX1_mean 61 = .ok (.invokevirtual 239, 3) := dk_182 0 239 (dk_at dksX1_mean_2 15 rfl rfl)
theorem dX1_mean_64 : decode cX1_mean 64 = .ok (.invokevirtual 259, 3) := dk_182 1 3 (dk_at dksX1_mean_2 18 rfl rfl)
theorem dX1_mean_67 : decode cX1_mean 67 = .ok (.iload_n 3, 1) := dk_29 (dk_at dksX1_mean_2 21 rfl rfl)
theorem dX1_mean_68 : decode cX1_mean 68 = .ok (.invokevirtual 262, 3) := dk_182 1 6 (dk_at dksX1_mean_3 0 rfl rfl)
theorem dX1_mean_71 : decode cX1_mean 71 = .ok (.lreturn, 1) := dk_173 (dk_at dksX1_mean_3 3 rfl rfl)
abbrev cX1_lost : ByteArray := prog_1_method_4_code
def yX1_lost : MethodName := ⟨RX1, "lost", "(I)J"⟩
def dkwX1_lost_0 : List UInt8 := [42, 27, 182, 0, 52, 133, 20, 0, 56, 97, 10, 97, 173]
abbrev dktX1_lost_0 : List UInt8 := dkwX1_lost_0 ++ []
theorem dksX1_lost_0 : cX1_lost.data.toList.drop 0 = dktX1_lost_0 := by decide +kernel
theorem dX1_lost_0 : decode cX1_lost 0 = .ok (.aload_n 0, 1) := dk_42 (dk_at dksX1_lost_0 0 rfl rfl)
theorem dX1_lost_1 : decode cX1_lost 1 = .ok (.iload_n 1, 1) := dk_27 (dk_at dksX1_lost_0 1 rfl rfl)
theorem dX1_lost_2 : decode cX1_lost 2 = .ok (.invokevirtual 52, 3) := dk_182 0 52 (dk_at dksX1_lost_0 2 rfl rfl)
theorem dX1_lost_5 : decode cX1_lost 5 = .ok (.i2l, 1) := dk_133 (dk_at dksX1_lost_0 5 rfl rfl)
theorem dX1_lost_6 : decode cX1_lost 6 = .ok (.ldc2_w 56, 3) := dk_20 0 56 (dk_at dksX1_lost_0 6 rfl rfl)
theorem dX1_lost_9 : decode cX1_lost 9 = .ok (.ladd, 1) := dk_97 (dk_at dksX1_lost_0 9 rfl rfl)
theorem dX1_lost_10 : decode cX1_lost 10 = .ok (.lconst 1, 1) := dk_10 (dk_at dksX1_lost_0 10 rfl rfl)
theorem dX1_lost_11 : decode cX1_lost 11 = .ok (.ladd, 1) := dk_97 (dk_at dksX1_lost_0 11 rfl rfl)
theorem dX1_lost_12 : decode cX1_lost 12 = .ok (.lreturn, 1) := dk_173 (dk_at dksX1_lost_0 12 rfl rfl)
abbrev cX1_part : ByteArray := prog_1_method_34_code
def yX1_part : MethodName := ⟨RX1, "part", "(JJZ)J"⟩
def dkwX1_part_1 : List UInt8 := [173]
abbrev dktX1_part_1 : List UInt8 := dkwX1_part_1 ++ []
def dkwX1_part_0 : List UInt8 := [31, 33, 184, 0, 247, 55, 6, 42, 21, 5, 153, 0, 7, 33, 167, 0, 4, 31, 22, 6, 109, 182, 0, 251]
abbrev dktX1_part_0 : List UInt8 := dkwX1_part_0 ++ dktX1_part_1
theorem dksX1_part_0 : cX1_part.data.toList.drop 0 = dktX1_part_0 := by decide +kernel
theorem dksX1_part_1 : cX1_part.data.toList.drop 24 = dktX1_part_1 := dk_seg dksX1_part_0 24 rfl rfl
theorem dX1_part_0 : decode cX1_part 0 = .ok (.lload_n 1, 1) := dk_31 (dk_at dksX1_part_0 0 rfl rfl)
theorem dX1_part_1 : decode cX1_part 1 = .ok (.lload_n 3, 1) := dk_33 (dk_at dksX1_part_0 1 rfl rfl)
theorem dX1_part_2 : decode cX1_part 2 = .ok (.invokestatic 247, 3) := dk_184 0 247 (dk_at dksX1_part_0 2 rfl rfl)
theorem dX1_part_5 : decode cX1_part 5 = .ok (.lstore 6, 2) := dk_55 6 (dk_at dksX1_part_0 5 rfl rfl)
theorem dX1_part_7 : decode cX1_part 7 = .ok (.aload_n 0, 1) := dk_42 (dk_at dksX1_part_0 7 rfl rfl)
theorem dX1_part_8 : decode cX1_part 8 = .ok (.iload 5, 2) := dk_21 5 (dk_at dksX1_part_0 8 rfl rfl)
theorem dX1_part_10 : decode cX1_part 10 = .ok (.ifCond .eq 7, 3) := dk_153 0 7 (dk_at dksX1_part_0 10 rfl rfl)
theorem dX1_part_13 : decode cX1_part 13 = .ok (.lload_n 3, 1) := dk_33 (dk_at dksX1_part_0 13 rfl rfl)
theorem dX1_part_14 : decode cX1_part 14 = .ok (.goto 4, 3) := dk_167 0 4 (dk_at dksX1_part_0 14 rfl rfl)
theorem dX1_part_17 : decode cX1_part 17 = .ok (.lload_n 1, 1) := dk_31 (dk_at dksX1_part_0 17 rfl rfl)
theorem dX1_part_18 : decode cX1_part 18 = .ok (.lload 6, 2) := dk_22 6 (dk_at dksX1_part_0 18 rfl rfl)
theorem dX1_part_20 : decode cX1_part 20 = .ok (.ldiv, 1) := dk_109 (dk_at dksX1_part_0 20 rfl rfl)
theorem dX1_part_21 : decode cX1_part 21 = .ok (.invokevirtual 251, 3) := dk_182 0 251 (dk_at dksX1_part_0 21 rfl rfl)
theorem dX1_part_24 : decode cX1_part 24 = .ok (.lreturn, 1) := dk_173 (dk_at dksX1_part_1 0 rfl rfl)
abbrev cX1_common : ByteArray := prog_1_method_33_code
def yX1_common : MethodName := ⟨RX1, "common", "(JJ)J"⟩
def dkwX1_common_0 : List UInt8 := [30, 9, 148, 154, 0, 7, 32, 167, 0, 10, 32, 30, 113, 30, 184, 0, 247, 173]
abbrev dktX1_common_0 : List UInt8 := dkwX1_common_0 ++ []
theorem dksX1_common_0 : cX1_common.data.toList.drop 0 = dktX1_common_0 := by decide +kernel
theorem dX1_common_0 : decode cX1_common 0 = .ok (.lload_n 0, 1) := dk_30 (dk_at dksX1_common_0 0 rfl rfl)
theorem dX1_common_1 : decode cX1_common 1 = .ok (.lconst 0, 1) := dk_9 (dk_at dksX1_common_0 1 rfl rfl)
theorem dX1_common_2 : decode cX1_common 2 = .ok (.lcmp, 1) := dk_148 (dk_at dksX1_common_0 2 rfl rfl)
theorem dX1_common_3 : decode cX1_common 3 = .ok (.ifCond .ne 7, 3) := dk_154 0 7 (dk_at dksX1_common_0 3 rfl rfl)
theorem dX1_common_6 : decode cX1_common 6 = .ok (.lload_n 2, 1) := dk_32 (dk_at dksX1_common_0 6 rfl rfl)
theorem dX1_common_7 : decode cX1_common 7 = .ok (.goto 10, 3) := dk_167 0 10 (dk_at dksX1_common_0 7 rfl rfl)
theorem dX1_common_10 : decode cX1_common 10 = .ok (.lload_n 2, 1) := dk_32 (dk_at dksX1_common_0 10 rfl rfl)
theorem dX1_common_11 : decode cX1_common 11 = .ok (.lload_n 0, 1) := dk_30 (dk_at dksX1_common_0 11 rfl rfl)
theorem dX1_common_12 : decode cX1_common 12 = .ok (.lrem, 1) := dk_113 (dk_at dksX1_common_0 12 rfl rfl)
theorem dX1_common_13 : decode cX1_common 13 = .ok (.lload_n 0, 1) := dk_30 (dk_at dksX1_common_0 13 rfl rfl)
theorem dX1_common_14 : decode cX1_common 14 = .ok (.invokestatic 247, 3) := dk_184 0 247 (dk_at dksX1_common_0 14 rfl rfl)
theorem dX1_common_17 : decode cX1_common 17 = .ok (.lreturn, 1) := dk_173 (dk_at dksX1_common_0 17 rfl rfl)
abbrev cX1_told_2 : ByteArray := prog_1_method_6_code
def yX1_told_2 : MethodName := ⟨RX1, "told", "(J)J"⟩
def dkwX1_told_2_0 : List UInt8 := [42, 3, 182, 0, 58, 133, 31, 97, 173]
abbrev dktX1_told_2_0 : List UInt8 := dkwX1_told_2_0 ++ []
theorem dksX1_told_2_0 : cX1_told_2.data.toList.drop 0 = dktX1_told_2_0 := by decide +kernel
theorem dX1_told_2_0 : decode cX1_told_2 0 = .ok (.aload_n 0, 1) := dk_42 (dk_at dksX1_told_2_0 0 rfl rfl)
theorem dX1_told_2_1 : decode cX1_told_2 1 = .ok (.iconst 0, 1) := dk_3 (dk_at dksX1_told_2_0 1 rfl rfl)
theorem dX1_told_2_2 : decode cX1_told_2 2 = .ok (.invokevirtual 58, 3) := dk_182 0 58 (dk_at dksX1_told_2_0 2 rfl rfl)
theorem dX1_told_2_5 : decode cX1_told_2 5 = .ok (.i2l, 1) := dk_133 (dk_at dksX1_told_2_0 5 rfl rfl)
theorem dX1_told_2_6 : decode cX1_told_2 6 = .ok (.lload_n 1, 1) := dk_31 (dk_at dksX1_told_2_0 6 rfl rfl)
theorem dX1_told_2_7 : decode cX1_told_2 7 = .ok (.ladd, 1) := dk_97 (dk_at dksX1_told_2_0 7 rfl rfl)
theorem dX1_told_2_8 : decode cX1_told_2 8 = .ok (.lreturn, 1) := dk_173 (dk_at dksX1_told_2_0 8 rfl rfl)
abbrev cX1_way : ByteArray := prog_1_method_36_code
def yX1_way : MethodName := ⟨RX1, "way", "(IIZ)I"⟩
def dkwX1_way_4 : List UInt8 := [182, 0, 58, 172]
abbrev dktX1_way_4 : List UInt8 := dkwX1_way_4 ++ []
def dkwX1_way_3 : List UInt8 := [58, 5, 25, 5, 199, 0, 12, 42, 16, 6, 182, 0, 52, 167, 0, 12, 42, 25, 5, 182, 1, 20]
abbrev dktX1_way_3 : List UInt8 := dkwX1_way_3 ++ dktX1_way_4
def dkwX1_way_2 : List UInt8 := [182, 0, 58, 172, 42, 28, 29, 182, 0, 236, 58, 4, 25, 4, 27, 25, 4, 182, 0, 239, 182, 1, 16]
abbrev dktX1_way_2 : List UInt8 := dkwX1_way_2 ++ dktX1_way_3
def dkwX1_way_1 : List UInt8 := [180, 0, 112, 182, 1, 13, 126, 153, 0, 9, 42, 8, 182, 0, 52, 172, 27, 28, 160, 0, 9, 42, 7]
abbrev dktX1_way_1 : List UInt8 := dkwX1_way_1 ++ dktX1_way_2
def dkwX1_way_0 : List UInt8 := [42, 27, 28, 182, 0, 232, 154, 0, 9, 42, 4, 182, 0, 52, 172, 42, 180, 0, 112, 27, 182, 1, 10, 42]
abbrev dktX1_way_0 : List UInt8 := dkwX1_way_0 ++ dktX1_way_1
theorem dksX1_way_0 : cX1_way.data.toList.drop 0 = dktX1_way_0 := by decide +kernel
theorem dksX1_way_1 : cX1_way.data.toList.drop 24 = dktX1_way_1 := dk_seg dksX1_way_0 24 rfl rfl
theorem dksX1_way_2 : cX1_way.data.toList.drop 47 = dktX1_way_2 := dk_seg dksX1_way_1 23 rfl rfl
theorem dksX1_way_3 : cX1_way.data.toList.drop 70 = dktX1_way_3 := dk_seg dksX1_way_2 23 rfl rfl
theorem dksX1_way_4 : cX1_way.data.toList.drop 92 = dktX1_way_4 := dk_seg dksX1_way_3 22 rfl rfl
theorem dX1_way_0 : decode cX1_way 0 = .ok (.aload_n 0, 1) := dk_42 (dk_at dksX1_way_0 0 rfl rfl)
theorem dX1_way_1 : decode cX1_way 1 = .ok (.iload_n 1, 1) := dk_27 (dk_at dksX1_way_0 1 rfl rfl)
theorem dX1_way_2 : decode cX1_way 2 = .ok (.iload_n 2, 1) := dk_28 (dk_at dksX1_way_0 2 rfl rfl)
theorem dX1_way_3 : decode cX1_way 3 = .ok (.invokevirtual 232, 3) := dk_182 0 232 (dk_at dksX1_way_0 3 rfl rfl)
theorem dX1_way_6 : decode cX1_way 6 = .ok (.ifCond .ne 9, 3) := dk_154 0 9 (dk_at dksX1_way_0 6 rfl rfl)
theorem dX1_way_9 : decode cX1_way 9 = .ok (.aload_n 0, 1) := dk_42 (dk_at dksX1_way_0 9 rfl rfl)
theorem dX1_way_10 : decode cX1_way 10 = .ok (.iconst 1, 1) := dk_4 (dk_at dksX1_way_0 10 rfl rfl)
theorem dX1_way_11 : decode cX1_way 11 = .ok (.invokevirtual 52, 3) := dk_182 0 52 (dk_at dksX1_way_0 11 rfl rfl)
theorem dX1_way_14 : decode cX1_way 14 = .ok (.ireturn, 1) := dk_172 (dk_at dksX1_way_0 14 rfl rfl)
theorem dX1_way_15 : decode cX1_way 15 = .ok (.aload_n 0, 1) := dk_42 (dk_at dksX1_way_0 15 rfl rfl)
theorem dX1_way_16 : decode cX1_way 16 = .ok (.getfield 112, 3) := dk_180 0 112 (dk_at dksX1_way_0 16 rfl rfl)
theorem dX1_way_19 : decode cX1_way 19 = .ok (.iload_n 1, 1) := dk_27 (dk_at dksX1_way_0 19 rfl rfl)
theorem dX1_way_20 : decode cX1_way 20 = .ok (.invokevirtual 266, 3) := dk_182 1 10 (dk_at dksX1_way_0 20 rfl rfl)
theorem dX1_way_23 : decode cX1_way 23 = .ok (.aload_n 0, 1) := dk_42 (dk_at dksX1_way_0 23 rfl rfl)
theorem dX1_way_24 : decode cX1_way 24 = .ok (.getfield 112, 3) := dk_180 0 112 (dk_at dksX1_way_1 0 rfl rfl)
theorem dX1_way_27 : decode cX1_way 27 = .ok (.invokevirtual 269, 3) := dk_182 1 13 (dk_at dksX1_way_1 3 rfl rfl)
theorem dX1_way_30 : decode cX1_way 30 = .ok (.iand, 1) := dk_126 (dk_at dksX1_way_1 6 rfl rfl)
theorem dX1_way_31 : decode cX1_way 31 = .ok (.ifCond .eq 9, 3) := dk_153 0 9 (dk_at dksX1_way_1 7 rfl rfl)
theorem dX1_way_34 : decode cX1_way 34 = .ok (.aload_n 0, 1) := dk_42 (dk_at dksX1_way_1 10 rfl rfl)
theorem dX1_way_35 : decode cX1_way 35 = .ok (.iconst 5, 1) := dk_8 (dk_at dksX1_way_1 11 rfl rfl)
theorem dX1_way_36 : decode cX1_way 36 = .ok (.invokevirtual 52, 3) := dk_182 0 52 (dk_at dksX1_way_1 12 rfl rfl)
theorem dX1_way_39 : decode cX1_way 39 = .ok (.ireturn, 1) := dk_172 (dk_at dksX1_way_1 15 rfl rfl)
theorem dX1_way_40 : decode cX1_way 40 = .ok (.iload_n 1, 1) := dk_27 (dk_at dksX1_way_1 16 rfl rfl)
theorem dX1_way_41 : decode cX1_way 41 = .ok (.iload_n 2, 1) := dk_28 (dk_at dksX1_way_1 17 rfl rfl)
theorem dX1_way_42 : decode cX1_way 42 = .ok (.if_icmp .ne 9, 3) := dk_160 0 9 (dk_at dksX1_way_1 18 rfl rfl)
theorem dX1_way_45 : decode cX1_way 45 = .ok (.aload_n 0, 1) := dk_42 (dk_at dksX1_way_1 21 rfl rfl)
theorem dX1_way_46 : decode cX1_way 46 = .ok (.iconst 4, 1) := dk_7 (dk_at dksX1_way_1 22 rfl rfl)
theorem dX1_way_47 : decode cX1_way 47 = .ok (.invokevirtual 58, 3) := dk_182 0 58 (dk_at dksX1_way_2 0 rfl rfl)
theorem dX1_way_50 : decode cX1_way 50 = .ok (.ireturn, 1) := dk_172 (dk_at dksX1_way_2 3 rfl rfl)
theorem dX1_way_51 : decode cX1_way 51 = .ok (.aload_n 0, 1) := dk_42 (dk_at dksX1_way_2 4 rfl rfl)
theorem dX1_way_52 : decode cX1_way 52 = .ok (.iload_n 2, 1) := dk_28 (dk_at dksX1_way_2 5 rfl rfl)
theorem dX1_way_53 : decode cX1_way 53 = .ok (.iload_n 3, 1) := dk_29 (dk_at dksX1_way_2 6 rfl rfl)
theorem dX1_way_54 : decode cX1_way 54 = .ok (.invokevirtual 236, 3) := dk_182 0 236 (dk_at dksX1_way_2 7 rfl rfl)
theorem dX1_way_57 : decode cX1_way 57 = .ok (.astore 4, 2) := dk_58 4 (dk_at dksX1_way_2 10 rfl rfl)
theorem dX1_way_59 : decode cX1_way 59 = .ok (.aload 4, 2) := dk_25 4 (dk_at dksX1_way_2 12 rfl rfl)
theorem dX1_way_61 : decode cX1_way 61 = .ok (.iload_n 1, 1) := dk_27 (dk_at dksX1_way_2 14 rfl rfl)
theorem dX1_way_62 : decode cX1_way 62 = .ok (.aload 4, 2) := dk_25 4 (dk_at dksX1_way_2 15 rfl rfl)
theorem dX1_way_64 : decode cX1_way 64 = .ok (.invokevirtual 239, 3) := dk_182 0 239 (dk_at dksX1_way_2 17 rfl rfl)
theorem dX1_way_67 : decode cX1_way 67 = .ok (.invokevirtual 272, 3) := dk_182 1 16 (dk_at dksX1_way_2 20 rfl rfl)
theorem dX1_way_70 : decode cX1_way 70 = .ok (.astore 5, 2) := dk_58 5 (dk_at dksX1_way_3 0 rfl rfl)
theorem dX1_way_72 : decode cX1_way 72 = .ok (.aload 5, 2) := dk_25 5 (dk_at dksX1_way_3 2 rfl rfl)
theorem dX1_way_74 : decode cX1_way 74 = .ok (.ifnonnull 12, 3) := dk_199 0 12 (dk_at dksX1_way_3 4 rfl rfl)
theorem dX1_way_77 : decode cX1_way 77 = .ok (.aload_n 0, 1) := dk_42 (dk_at dksX1_way_3 7 rfl rfl)
theorem dX1_way_78 : decode cX1_way 78 = .ok (.bipush 6, 2) := dk_16 6 (dk_at dksX1_way_3 8 rfl rfl)
theorem dX1_way_80 : decode cX1_way 80 = .ok (.invokevirtual 52, 3) := dk_182 0 52 (dk_at dksX1_way_3 10 rfl rfl)
theorem dX1_way_83 : decode cX1_way 83 = .ok (.goto 12, 3) := dk_167 0 12 (dk_at dksX1_way_3 13 rfl rfl)
theorem dX1_way_86 : decode cX1_way 86 = .ok (.aload_n 0, 1) := dk_42 (dk_at dksX1_way_3 16 rfl rfl)
theorem dX1_way_87 : decode cX1_way 87 = .ok (.aload 5, 2) := dk_25 5 (dk_at dksX1_way_3 17 rfl rfl)
theorem dX1_way_89 : decode cX1_way 89 = .ok (.invokevirtual 276, 3) := dk_182 1 20 (dk_at dksX1_way_3 19 rfl rfl)
theorem dX1_way_92 : decode cX1_way 92 = .ok (.invokevirtual 58, 3) := dk_182 0 58 (dk_at dksX1_way_4 0 rfl rfl)
theorem dX1_way_95 : decode cX1_way 95 = .ok (.ireturn, 1) := dk_172 (dk_at dksX1_way_4 3 rfl rfl)
abbrev cX1_truths : ByteArray := prog_1_method_37_code
def yX1_truths : MethodName := ⟨RX1, "truths", "()I"⟩
def dkwX1_truths_0 : List UInt8 := [42, 180, 0, 112, 199, 0, 7, 3, 167, 0, 10, 42, 180, 0, 112, 182, 1, 25, 172]
abbrev dktX1_truths_0 : List UInt8 := dkwX1_truths_0 ++ []
theorem dksX1_truths_0 : cX1_truths.data.toList.drop 0 = dktX1_truths_0 := by decide +kernel
theorem dX1_truths_0 : decode cX1_truths 0 = .ok (.aload_n 0, 1) := dk_42 (dk_at dksX1_truths_0 0 rfl rfl)
theorem dX1_truths_1 : decode cX1_truths 1 = .ok (.getfield 112, 3) := dk_180 0 112 (dk_at dksX1_truths_0 1 rfl rfl)
theorem dX1_truths_4 : decode cX1_truths 4 = .ok (.ifnonnull 7, 3) := dk_199 0 7 (dk_at dksX1_truths_0 4 rfl rfl)
theorem dX1_truths_7 : decode cX1_truths 7 = .ok (.iconst 0, 1) := dk_3 (dk_at dksX1_truths_0 7 rfl rfl)
theorem dX1_truths_8 : decode cX1_truths 8 = .ok (.goto 10, 3) := dk_167 0 10 (dk_at dksX1_truths_0 8 rfl rfl)
theorem dX1_truths_11 : decode cX1_truths 11 = .ok (.aload_n 0, 1) := dk_42 (dk_at dksX1_truths_0 11 rfl rfl)
theorem dX1_truths_12 : decode cX1_truths 12 = .ok (.getfield 112, 3) := dk_180 0 112 (dk_at dksX1_truths_0 12 rfl rfl)
theorem dX1_truths_15 : decode cX1_truths 15 = .ok (.invokevirtual 281, 3) := dk_182 1 25 (dk_at dksX1_truths_0 15 rfl rfl)
theorem dX1_truths_18 : decode cX1_truths 18 = .ok (.ireturn, 1) := dk_172 (dk_at dksX1_truths_0 18 rfl rfl)
abbrev cX1_truth : ByteArray := prog_1_method_38_code
def yX1_truth : MethodName := ⟨RX1, "truth", "(II)I"⟩
def dkwX1_truth_1 : List UInt8 := [153, 0, 16, 42, 180, 0, 112, 27, 182, 1, 28, 28, 46, 167, 0, 4, 2, 172]
abbrev dktX1_truth_1 : List UInt8 := dkwX1_truth_1 ++ []
def dkwX1_truth_0 : List UInt8 := [42, 28, 182, 0, 193, 153, 0, 33, 27, 3, 42, 180, 0, 112, 182, 1, 25, 4, 100, 184, 0, 80]
abbrev dktX1_truth_0 : List UInt8 := dkwX1_truth_0 ++ dktX1_truth_1
theorem dksX1_truth_0 : cX1_truth.data.toList.drop 0 = dktX1_truth_0 := by decide +kernel
theorem dksX1_truth_1 : cX1_truth.data.toList.drop 22 = dktX1_truth_1 := dk_seg dksX1_truth_0 22 rfl rfl
theorem dX1_truth_0 : decode cX1_truth 0 = .ok (.aload_n 0, 1) := dk_42 (dk_at dksX1_truth_0 0 rfl rfl)
theorem dX1_truth_1 : decode cX1_truth 1 = .ok (.iload_n 2, 1) := dk_28 (dk_at dksX1_truth_0 1 rfl rfl)
theorem dX1_truth_2 : decode cX1_truth 2 = .ok (.invokevirtual 193, 3) := dk_182 0 193 (dk_at dksX1_truth_0 2 rfl rfl)
theorem dX1_truth_5 : decode cX1_truth 5 = .ok (.ifCond .eq 33, 3) := dk_153 0 33 (dk_at dksX1_truth_0 5 rfl rfl)
theorem dX1_truth_8 : decode cX1_truth 8 = .ok (.iload_n 1, 1) := dk_27 (dk_at dksX1_truth_0 8 rfl rfl)
theorem dX1_truth_9 : decode cX1_truth 9 = .ok (.iconst 0, 1) := dk_3 (dk_at dksX1_truth_0 9 rfl rfl)
theorem dX1_truth_10 : decode cX1_truth 10 = .ok (.aload_n 0, 1) := dk_42 (dk_at dksX1_truth_0 10 rfl rfl)
theorem dX1_truth_11 : decode cX1_truth 11 = .ok (.getfield 112, 3) := dk_180 0 112 (dk_at dksX1_truth_0 11 rfl rfl)
theorem dX1_truth_14 : decode cX1_truth 14 = .ok (.invokevirtual 281, 3) := dk_182 1 25 (dk_at dksX1_truth_0 14 rfl rfl)
theorem dX1_truth_17 : decode cX1_truth 17 = .ok (.iconst 1, 1) := dk_4 (dk_at dksX1_truth_0 17 rfl rfl)
theorem dX1_truth_18 : decode cX1_truth 18 = .ok (.isub, 1) := dk_100 (dk_at dksX1_truth_0 18 rfl rfl)
theorem dX1_truth_19 : decode cX1_truth 19 = .ok (.invokestatic 80, 3) := dk_184 0 80 (dk_at dksX1_truth_0 19 rfl rfl)
theorem dX1_truth_22 : decode cX1_truth 22 = .ok (.ifCond .eq 16, 3) := dk_153 0 16 (dk_at dksX1_truth_1 0 rfl rfl)
theorem dX1_truth_25 : decode cX1_truth 25 = .ok (.aload_n 0, 1) := dk_42 (dk_at dksX1_truth_1 3 rfl rfl)
theorem dX1_truth_26 : decode cX1_truth 26 = .ok (.getfield 112, 3) := dk_180 0 112 (dk_at dksX1_truth_1 4 rfl rfl)
theorem dX1_truth_29 : decode cX1_truth 29 = .ok (.iload_n 1, 1) := dk_27 (dk_at dksX1_truth_1 7 rfl rfl)
theorem dX1_truth_30 : decode cX1_truth 30 = .ok (.invokevirtual 284, 3) := dk_182 1 28 (dk_at dksX1_truth_1 8 rfl rfl)
theorem dX1_truth_33 : decode cX1_truth 33 = .ok (.iload_n 2, 1) := dk_28 (dk_at dksX1_truth_1 11 rfl rfl)
theorem dX1_truth_34 : decode cX1_truth 34 = .ok (.iaload, 1) := dk_46 (dk_at dksX1_truth_1 12 rfl rfl)
theorem dX1_truth_35 : decode cX1_truth 35 = .ok (.goto 4, 3) := dk_167 0 4 (dk_at dksX1_truth_1 13 rfl rfl)
theorem dX1_truth_38 : decode cX1_truth 38 = .ok (.iconst (-1), 1) := dk_2 (dk_at dksX1_truth_1 16 rfl rfl)
theorem dX1_truth_39 : decode cX1_truth 39 = .ok (.ireturn, 1) := dk_172 (dk_at dksX1_truth_1 17 rfl rfl)
abbrev cX1_run : ByteArray := prog_1_method_39_code
def yX1_run : MethodName := ⟨RX1, "run", "(IIZI)I"⟩
def dkwX1_run_4 : List UInt8 := [182, 0, 58, 172]
abbrev dktX1_run_4 : List UInt8 := dkwX1_run_4 ++ []
def dkwX1_run_3 : List UInt8 := [182, 0, 116, 42, 25, 5, 27, 42, 180, 0, 112, 21, 4, 182, 1, 28, 42, 180, 0, 29, 182, 1, 32]
abbrev dktX1_run_3 : List UInt8 := dkwX1_run_3 ++ dktX1_run_4
def dkwX1_run_2 : List UInt8 := [182, 0, 239, 182, 0, 241, 20, 0, 245, 148, 154, 0, 10, 42, 16, 6, 182, 0, 52, 172, 42, 180, 0, 29]
abbrev dktX1_run_2 : List UInt8 := dkwX1_run_2 ++ dktX1_run_3
def dkwX1_run_1 : List UInt8 := [154, 0, 9, 42, 4, 182, 0, 52, 172, 42, 28, 29, 182, 0, 236, 58, 5, 25, 5, 27, 25, 5]
abbrev dktX1_run_1 : List UInt8 := dkwX1_run_1 ++ dktX1_run_2
def dkwX1_run_0 : List UInt8 := [42, 27, 28, 182, 0, 232, 153, 0, 21, 21, 4, 3, 42, 180, 0, 112, 182, 1, 25, 4, 100, 184, 0, 80]
abbrev dktX1_run_0 : List UInt8 := dkwX1_run_0 ++ dktX1_run_1
theorem dksX1_run_0 : cX1_run.data.toList.drop 0 = dktX1_run_0 := by decide +kernel
theorem dksX1_run_1 : cX1_run.data.toList.drop 24 = dktX1_run_1 := dk_seg dksX1_run_0 24 rfl rfl
theorem dksX1_run_2 : cX1_run.data.toList.drop 46 = dktX1_run_2 := dk_seg dksX1_run_1 22 rfl rfl
theorem dksX1_run_3 : cX1_run.data.toList.drop 70 = dktX1_run_3 := dk_seg dksX1_run_2 24 rfl rfl
theorem dksX1_run_4 : cX1_run.data.toList.drop 93 = dktX1_run_4 := dk_seg dksX1_run_3 23 rfl rfl
theorem dX1_run_0 : decode cX1_run 0 = .ok (.aload_n 0, 1) := dk_42 (dk_at dksX1_run_0 0 rfl rfl)
theorem dX1_run_1 : decode cX1_run 1 = .ok (.iload_n 1, 1) := dk_27 (dk_at dksX1_run_0 1 rfl rfl)
theorem dX1_run_2 : decode cX1_run 2 = .ok (.iload_n 2, 1) := dk_28 (dk_at dksX1_run_0 2 rfl rfl)
theorem dX1_run_3 : decode cX1_run 3 = .ok (.invokevirtual 232, 3) := dk_182 0 232 (dk_at dksX1_run_0 3 rfl rfl)
theorem dX1_run_6 : decode cX1_run 6 = .ok (.ifCond .eq 21, 3) := dk_153 0 21 (dk_at dksX1_run_0 6 rfl rfl)
theorem dX1_run_9 : decode cX1_run 9 = .ok (.iload 4, 2) := dk_21 4 (dk_at dksX1_run_0 9 rfl rfl)
theorem dX1_run_11 : decode cX1_run 11 = .ok (.iconst 0, 1) := dk_3 (dk_at dksX1_run_0 11 rfl rfl)
theorem dX1_run_12 : decode cX1_run 12 = .ok (.aload_n 0, 1) := dk_42 (dk_at dksX1_run_0 12 rfl rfl)
theorem dX1_run_13 : decode cX1_run 13 = .ok (.getfield 112, 3) := dk_180 0 112 (dk_at dksX1_run_0 13 rfl rfl)
theorem dX1_run_16 : decode cX1_run 16 = .ok (.invokevirtual 281, 3) := dk_182 1 25 (dk_at dksX1_run_0 16 rfl rfl)
theorem dX1_run_19 : decode cX1_run 19 = .ok (.iconst 1, 1) := dk_4 (dk_at dksX1_run_0 19 rfl rfl)
theorem dX1_run_20 : decode cX1_run 20 = .ok (.isub, 1) := dk_100 (dk_at dksX1_run_0 20 rfl rfl)
theorem dX1_run_21 : decode cX1_run 21 = .ok (.invokestatic 80, 3) := dk_184 0 80 (dk_at dksX1_run_0 21 rfl rfl)
theorem dX1_run_24 : decode cX1_run 24 = .ok (.ifCond .ne 9, 3) := dk_154 0 9 (dk_at dksX1_run_1 0 rfl rfl)
theorem dX1_run_27 : decode cX1_run 27 = .ok (.aload_n 0, 1) := dk_42 (dk_at dksX1_run_1 3 rfl rfl)
theorem dX1_run_28 : decode cX1_run 28 = .ok (.iconst 1, 1) := dk_4 (dk_at dksX1_run_1 4 rfl rfl)
theorem dX1_run_29 : decode cX1_run 29 = .ok (.invokevirtual 52, 3) := dk_182 0 52 (dk_at dksX1_run_1 5 rfl rfl)
theorem dX1_run_32 : decode cX1_run 32 = .ok (.ireturn, 1) := dk_172 (dk_at dksX1_run_1 8 rfl rfl)
theorem dX1_run_33 : decode cX1_run 33 = .ok (.aload_n 0, 1) := dk_42 (dk_at dksX1_run_1 9 rfl rfl)
theorem dX1_run_34 : decode cX1_run 34 = .ok (.iload_n 2, 1) := dk_28 (dk_at dksX1_run_1 10 rfl rfl)
theorem dX1_run_35 : decode cX1_run 35 = .ok (.iload_n 3, 1) := dk_29 (dk_at dksX1_run_1 11 rfl rfl)
theorem dX1_run_36 : decode cX1_run 36 = .ok (.invokevirtual 236, 3) := dk_182 0 236 (dk_at dksX1_run_1 12 rfl rfl)
theorem dX1_run_39 : decode cX1_run 39 = .ok (.astore 5, 2) := dk_58 5 (dk_at dksX1_run_1 15 rfl rfl)
theorem dX1_run_41 : decode cX1_run 41 = .ok (.aload 5, 2) := dk_25 5 (dk_at dksX1_run_1 17 rfl rfl)
theorem dX1_run_43 : decode cX1_run 43 = .ok (.iload_n 1, 1) := dk_27 (dk_at dksX1_run_1 19 rfl rfl)
theorem dX1_run_44 : decode cX1_run 44 = .ok (.aload 5, 2) := dk_25 5 (dk_at dksX1_run_1 20 rfl rfl)
theorem dX1_run_46 : decode cX1_run 46 = .ok (.invokevirtual 239, 3) := dk_182 0 239 (dk_at dksX1_run_2 0 rfl rfl)
theorem dX1_run_49 : decode cX1_run 49 = .ok (.invokevirtual 241, 3) := dk_182 0 241 (dk_at dksX1_run_2 3 rfl rfl)
theorem dX1_run_52 : decode cX1_run 52 = .ok (.ldc2_w 245, 3) := dk_20 0 245 (dk_at dksX1_run_2 6 rfl rfl)
theorem dX1_run_55 : decode cX1_run 55 = .ok (.lcmp, 1) := dk_148 (dk_at dksX1_run_2 9 rfl rfl)
theorem dX1_run_56 : decode cX1_run 56 = .ok (.ifCond .ne 10, 3) := dk_154 0 10 (dk_at dksX1_run_2 10 rfl rfl)
theorem dX1_run_59 : decode cX1_run 59 = .ok (.aload_n 0, 1) := dk_42 (dk_at dksX1_run_2 13 rfl rfl)
theorem dX1_run_60 : decode cX1_run 60 = .ok (.bipush 6, 2) := dk_16 6 (dk_at dksX1_run_2 14 rfl rfl)
theorem dX1_run_62 : decode cX1_run 62 = .ok (.invokevirtual 52, 3) := dk_182 0 52 (dk_at dksX1_run_2 16 rfl rfl)
theorem dX1_run_65 : decode cX1_run 65 = .ok (.ireturn, 1) := dk_172 (dk_at dksX1_run_2 19 rfl rfl)
theorem dX1_run_66 : decode cX1_run 66 = .ok (.aload_n 0, 1) := dk_42 (dk_at dksX1_run_2 20 rfl rfl)
theorem dX1_run_67 : decode cX1_run 67 = .ok (.getfield 29, 3) := dk_180 0 29 (dk_at dksX1_run_2 21 rfl rfl)
theorem dX1_run_70 : decode cX1_run 70 = .ok (.invokevirtual 116, 3) := dk_182 0 116 (dk_at dksX1_run_3 0 rfl rfl)
theorem dX1_run_73 : decode cX1_run 73 = .ok (.aload_n 0, 1) := dk_42 (dk_at dksX1_run_3 3 rfl rfl)
theorem dX1_run_74 : decode cX1_run 74 = .ok (.aload 5, 2) := dk_25 5 (dk_at dksX1_run_3 4 rfl rfl)
theorem dX1_run_76 : decode cX1_run 76 = .ok (.iload_n 1, 1) := dk_27 (dk_at dksX1_run_3 6 rfl rfl)
theorem dX1_run_77 : decode cX1_run 77 = .ok (.aload_n 0, 1) := dk_42 (dk_at dksX1_run_3 7 rfl rfl)
theorem dX1_run_78 : decode cX1_run 78 = .ok (.getfield 112, 3) := dk_180 0 112 (dk_at dksX1_run_3 8 rfl rfl)
theorem dX1_run_81 : decode cX1_run 81 = .ok (.iload 4, 2) := dk_21 4 (dk_at dksX1_run_3 11 rfl rfl)
theorem dX1_run_83 : decode cX1_run 83 = .ok (.invokevirtual 284, 3) := dk_182 1 28 (dk_at dksX1_run_3 13 rfl rfl)
theorem dX1_run_86 : decode cX1_run 86 = .ok (.aload_n 0, 1) := dk_42 (dk_at dksX1_run_3 16 rfl rfl)
theorem dX1_run_87 : decode cX1_run 87 = .ok (.getfield 29, 3) := dk_180 0 29 (dk_at dksX1_run_3 17 rfl rfl)
theorem dX1_run_90 : decode cX1_run 90 = .ok (.invokevirtual 288, 3) := dk_182 1 32 (dk_at dksX1_run_3 20 rfl rfl)
theorem dX1_run_93 : decode cX1_run 93 = .ok (.invokevirtual 58, 3) := dk_182 0 58 (dk_at dksX1_run_4 0 rfl rfl)
theorem dX1_run_96 : decode cX1_run 96 = .ok (.ireturn, 1) := dk_172 (dk_at dksX1_run_4 3 rfl rfl)
abbrev cX1_regret : ByteArray := prog_1_method_41_code
def yX1_regret : MethodName := ⟨RX1, "regret", "(II)I"⟩
def dkwX1_regret_6 : List UInt8 := [55, 4, 132, 6, 1, 167, 255, 158, 42, 22, 4, 136, 182, 0, 58, 172]
abbrev dktX1_regret_6 : List UInt8 := dkwX1_regret_6 ++ []
def dkwX1_regret_5 : List UInt8 := [25, 7, 187, 0, 26, 89, 183, 0, 28, 182, 1, 32, 133, 45, 27, 21, 8, 182, 0, 241, 101, 184, 1, 48]
abbrev dktX1_regret_5 : List UInt8 := dkwX1_regret_5 ++ dktX1_regret_6
def dkwX1_regret_4 : List UInt8 := [21, 8, 21, 9, 25, 7, 21, 9, 46, 182, 1, 44, 54, 8, 132, 9, 1, 167, 255, 223, 22, 4, 45, 27]
abbrev dktX1_regret_4 : List UInt8 := dkwX1_regret_4 ++ dktX1_regret_5
def dkwX1_regret_3 : List UInt8 := [58, 7, 3, 54, 8, 3, 54, 9, 21, 9, 42, 180, 0, 112, 180, 0, 162, 182, 0, 122, 162, 0, 24, 45]
abbrev dktX1_regret_3 : List UInt8 := dkwX1_regret_3 ++ dktX1_regret_4
def dkwX1_regret_2 : List UInt8 := [3, 54, 6, 21, 6, 42, 180, 0, 112, 182, 1, 25, 162, 0, 92, 42, 180, 0, 112, 21, 6, 182, 1, 28]
abbrev dktX1_regret_2 : List UInt8 := dkwX1_regret_2 ++ dktX1_regret_3
def dkwX1_regret_1 : List UInt8 := [45, 182, 0, 239, 182, 0, 241, 20, 0, 245, 148, 154, 0, 10, 42, 16, 6, 182, 0, 52, 172, 9, 55, 4]
abbrev dktX1_regret_1 : List UInt8 := dkwX1_regret_1 ++ dktX1_regret_2
def dkwX1_regret_0 : List UInt8 := [42, 27, 28, 182, 0, 232, 154, 0, 9, 42, 4, 182, 0, 52, 172, 42, 28, 3, 182, 0, 236, 78, 45, 27]
abbrev dktX1_regret_0 : List UInt8 := dkwX1_regret_0 ++ dktX1_regret_1
theorem dksX1_regret_0 : cX1_regret.data.toList.drop 0 = dktX1_regret_0 := by decide +kernel
theorem dksX1_regret_1 : cX1_regret.data.toList.drop 24 = dktX1_regret_1 := dk_seg dksX1_regret_0 24 rfl rfl
theorem dksX1_regret_2 : cX1_regret.data.toList.drop 48 = dktX1_regret_2 := dk_seg dksX1_regret_1 24 rfl rfl
theorem dksX1_regret_3 : cX1_regret.data.toList.drop 72 = dktX1_regret_3 := dk_seg dksX1_regret_2 24 rfl rfl
theorem dksX1_regret_4 : cX1_regret.data.toList.drop 96 = dktX1_regret_4 := dk_seg dksX1_regret_3 24 rfl rfl
theorem dksX1_regret_5 : cX1_regret.data.toList.drop 120 = dktX1_regret_5 := dk_seg dksX1_regret_4 24 rfl rfl
theorem dksX1_regret_6 : cX1_regret.data.toList.drop 144 = dktX1_regret_6 := dk_seg dksX1_regret_5 24 rfl rfl
theorem dX1_regret_0 : decode cX1_regret 0 = .ok (.aload_n 0, 1) := dk_42 (dk_at dksX1_regret_0 0 rfl rfl)
theorem dX1_regret_1 : decode cX1_regret 1 = .ok (.iload_n 1, 1) := dk_27 (dk_at dksX1_regret_0 1 rfl rfl)
theorem dX1_regret_2 : decode cX1_regret 2 = .ok (.iload_n 2, 1) := dk_28 (dk_at dksX1_regret_0 2 rfl rfl)
theorem dX1_regret_3 : decode cX1_regret 3 = .ok (.invokevirtual 232, 3) := dk_182 0 232 (dk_at dksX1_regret_0 3 rfl rfl)
theorem dX1_regret_6 : decode cX1_regret 6 = .ok (.ifCond .ne 9, 3) := dk_154 0 9 (dk_at dksX1_regret_0 6 rfl rfl)
theorem dX1_regret_9 : decode cX1_regret 9 = .ok (.aload_n 0, 1) := dk_42 (dk_at dksX1_regret_0 9 rfl rfl)
theorem dX1_regret_10 : decode cX1_regret 10 = .ok (.iconst 1, 1) := dk_4 (dk_at dksX1_regret_0 10 rfl rfl)
theorem dX1_regret_11 : decode cX1_regret 11 = .ok (.invokevirtual 52, 3) := dk_182 0 52 (dk_at dksX1_regret_0 11 rfl rfl)
theorem dX1_regret_14 : decode cX1_regret 14 = .ok (.ireturn, 1) := dk_172 (dk_at dksX1_regret_0 14 rfl rfl)
theorem dX1_regret_15 : decode cX1_regret 15 = .ok (.aload_n 0, 1) := dk_42 (dk_at dksX1_regret_0 15 rfl rfl)
theorem dX1_regret_16 : decode cX1_regret 16 = .ok (.iload_n 2, 1) := dk_28 (dk_at dksX1_regret_0 16 rfl rfl)
theorem dX1_regret_17 : decode cX1_regret 17 = .ok (.iconst 0, 1) := dk_3 (dk_at dksX1_regret_0 17 rfl rfl)
theorem dX1_regret_18 : decode cX1_regret 18 = .ok (.invokevirtual 236, 3) := dk_182 0 236 (dk_at dksX1_regret_0 18 rfl rfl)
theorem dX1_regret_21 : decode cX1_regret 21 = .ok (.astore_n 3, 1) := dk_78 (dk_at dksX1_regret_0 21 rfl rfl)
theorem dX1_regret_22 : decode cX1_regret 22 = .ok (.aload_n 3, 1) := dk_45 (dk_at dksX1_regret_0 22 rfl rfl)
theorem dX1_regret_23 : decode cX1_regret 23 = .ok (.iload_n 1, 1) := dk_27 (dk_at dksX1_regret_0 23 rfl rfl)
theorem dX1_regret_24 : decode cX1_regret 24 = .ok (.aload_n 3, 1) := dk_45 (dk_at dksX1_regret_1 0 rfl rfl)
theorem dX1_regret_25 : decode cX1_regret 25 = .ok (.invokevirtual 239, 3) := dk_182 0 239 (dk_at dksX1_regret_1 1 rfl rfl)
theorem dX1_regret_28 : decode cX1_regret 28 = .ok (.invokevirtual 241, 3) := dk_182 0 241 (dk_at dksX1_regret_1 4 rfl rfl)
theorem dX1_regret_31 : decode cX1_regret 31 = .ok (.ldc2_w 245, 3) := dk_20 0 245 (dk_at dksX1_regret_1 7 rfl rfl)
theorem dX1_regret_34 : decode cX1_regret 34 = .ok (.lcmp, 1) := dk_148 (dk_at dksX1_regret_1 10 rfl rfl)
theorem dX1_regret_35 : decode cX1_regret 35 = .ok (.ifCond .ne 10, 3) := dk_154 0 10 (dk_at dksX1_regret_1 11 rfl rfl)
theorem dX1_regret_38 : decode cX1_regret 38 = .ok (.aload_n 0, 1) := dk_42 (dk_at dksX1_regret_1 14 rfl rfl)
theorem dX1_regret_39 : decode cX1_regret 39 = .ok (.bipush 6, 2) := dk_16 6 (dk_at dksX1_regret_1 15 rfl rfl)
theorem dX1_regret_41 : decode cX1_regret 41 = .ok (.invokevirtual 52, 3) := dk_182 0 52 (dk_at dksX1_regret_1 17 rfl rfl)
theorem dX1_regret_44 : decode cX1_regret 44 = .ok (.ireturn, 1) := dk_172 (dk_at dksX1_regret_1 20 rfl rfl)
theorem dX1_regret_45 : decode cX1_regret 45 = .ok (.lconst 0, 1) := dk_9 (dk_at dksX1_regret_1 21 rfl rfl)
theorem dX1_regret_46 : decode cX1_regret 46 = .ok (.lstore 4, 2) := dk_55 4 (dk_at dksX1_regret_1 22 rfl rfl)
theorem dX1_regret_48 : decode cX1_regret 48 = .ok (.iconst 0, 1) := dk_3 (dk_at dksX1_regret_2 0 rfl rfl)
theorem dX1_regret_49 : decode cX1_regret 49 = .ok (.istore 6, 2) := dk_54 6 (dk_at dksX1_regret_2 1 rfl rfl)
theorem dX1_regret_51 : decode cX1_regret 51 = .ok (.iload 6, 2) := dk_21 6 (dk_at dksX1_regret_2 3 rfl rfl)
theorem dX1_regret_53 : decode cX1_regret 53 = .ok (.aload_n 0, 1) := dk_42 (dk_at dksX1_regret_2 5 rfl rfl)
theorem dX1_regret_54 : decode cX1_regret 54 = .ok (.getfield 112, 3) := dk_180 0 112 (dk_at dksX1_regret_2 6 rfl rfl)
theorem dX1_regret_57 : decode cX1_regret 57 = .ok (.invokevirtual 281, 3) := dk_182 1 25 (dk_at dksX1_regret_2 9 rfl rfl)
theorem dX1_regret_60 : decode cX1_regret 60 = .ok (.if_icmp .ge 92, 3) := dk_162 0 92 (dk_at dksX1_regret_2 12 rfl rfl)
theorem dX1_regret_63 : decode cX1_regret 63 = .ok (.aload_n 0, 1) := dk_42 (dk_at dksX1_regret_2 15 rfl rfl)
theorem dX1_regret_64 : decode cX1_regret 64 = .ok (.getfield 112, 3) := dk_180 0 112 (dk_at dksX1_regret_2 16 rfl rfl)
theorem dX1_regret_67 : decode cX1_regret 67 = .ok (.iload 6, 2) := dk_21 6 (dk_at dksX1_regret_2 19 rfl rfl)
theorem dX1_regret_69 : decode cX1_regret 69 = .ok (.invokevirtual 284, 3) := dk_182 1 28 (dk_at dksX1_regret_2 21 rfl rfl)
theorem dX1_regret_72 : decode cX1_regret 72 = .ok (.astore 7, 2) := dk_58 7 (dk_at dksX1_regret_3 0 rfl rfl)
theorem dX1_regret_74 : decode cX1_regret 74 = .ok (.iconst 0, 1) := dk_3 (dk_at dksX1_regret_3 2 rfl rfl)
theorem dX1_regret_75 : decode cX1_regret 75 = .ok (.istore 8, 2) := dk_54 8 (dk_at dksX1_regret_3 3 rfl rfl)
theorem dX1_regret_77 : decode cX1_regret 77 = .ok (.iconst 0, 1) := dk_3 (dk_at dksX1_regret_3 5 rfl rfl)
theorem dX1_regret_78 : decode cX1_regret 78 = .ok (.istore 9, 2) := dk_54 9 (dk_at dksX1_regret_3 6 rfl rfl)
theorem dX1_regret_80 : decode cX1_regret 80 = .ok (.iload 9, 2) := dk_21 9 (dk_at dksX1_regret_3 8 rfl rfl)
theorem dX1_regret_82 : decode cX1_regret 82 = .ok (.aload_n 0, 1) := dk_42 (dk_at dksX1_regret_3 10 rfl rfl)
theorem dX1_regret_83 : decode cX1_regret 83 = .ok (.getfield 112, 3) := dk_180 0 112 (dk_at dksX1_regret_3 11 rfl rfl)
theorem dX1_regret_86 : decode cX1_regret 86 = .ok (.getfield 162, 3) := dk_180 0 162 (dk_at dksX1_regret_3 14 rfl rfl)
theorem dX1_regret_89 : decode cX1_regret 89 = .ok (.invokevirtual 122, 3) := dk_182 0 122 (dk_at dksX1_regret_3 17 rfl rfl)
theorem dX1_regret_92 : decode cX1_regret 92 = .ok (.if_icmp .ge 24, 3) := dk_162 0 24 (dk_at dksX1_regret_3 20 rfl rfl)
theorem dX1_regret_95 : decode cX1_regret 95 = .ok (.aload_n 3, 1) := dk_45 (dk_at dksX1_regret_3 23 rfl rfl)
theorem dX1_regret_96 : decode cX1_regret 96 = .ok (.iload 8, 2) := dk_21 8 (dk_at dksX1_regret_4 0 rfl rfl)
theorem dX1_regret_98 : decode cX1_regret 98 = .ok (.iload 9, 2) := dk_21 9 (dk_at dksX1_regret_4 2 rfl rfl)
theorem dX1_regret_100 : decode cX1_regret 100 = .ok (.aload 7, 2) := dk_25 7 (dk_at dksX1_regret_4 4 rfl rfl)
theorem dX1_regret_102 : decode cX1_regret 102 = .ok (.iload 9, 2) := dk_21 9 (dk_at dksX1_regret_4 6 rfl rfl)
theorem dX1_regret_104 : decode cX1_regret 104 = .ok (.iaload, 1) := dk_46 (dk_at dksX1_regret_4 8 rfl rfl)
theorem dX1_regret_105 : decode cX1_regret 105 = .ok (.invokevirtual 300, 3) := dk_182 1 44 (dk_at dksX1_regret_4 9 rfl rfl)
theorem dX1_regret_108 : decode cX1_regret 108 = .ok (.istore 8, 2) := dk_54 8 (dk_at dksX1_regret_4 12 rfl rfl)
theorem dX1_regret_110 : decode cX1_regret 110 = .ok (.iinc 9 1, 3) := dk_132 9 1 (dk_at dksX1_regret_4 14 rfl rfl)
theorem dX1_regret_113 : decode cX1_regret 113 = .ok (.goto (-33), 3) := dk_167 255 223 (dk_at dksX1_regret_4 17 rfl rfl)
theorem dX1_regret_116 : decode cX1_regret 116 = .ok (.lload 4, 2) := dk_22 4 (dk_at dksX1_regret_4 20 rfl rfl)
theorem dX1_regret_118 : decode cX1_regret 118 = .ok (.aload_n 3, 1) := dk_45 (dk_at dksX1_regret_4 22 rfl rfl)
theorem dX1_regret_119 : decode cX1_regret 119 = .ok (.iload_n 1, 1) := dk_27 (dk_at dksX1_regret_4 23 rfl rfl)
theorem dX1_regret_120 : decode cX1_regret 120 = .ok (.aload 7, 2) := dk_25 7 (dk_at dksX1_regret_5 0 rfl rfl)
theorem dX1_regret_122 : decode cX1_regret 122 = .ok (.new 26, 3) := dk_187 0 26 (dk_at dksX1_regret_5 2 rfl rfl)
theorem dX1_regret_125 : decode cX1_regret 125 = .ok (.dup, 1) := dk_89 (dk_at dksX1_regret_5 5 rfl rfl)
theorem dX1_regret_126 : decode cX1_regret 126 = .ok (.invokespecial 28, 3) := dk_183 0 28 (dk_at dksX1_regret_5 6 rfl rfl)
theorem dX1_regret_129 : decode cX1_regret 129 = .ok (.invokevirtual 288, 3) := dk_182 1 32 (dk_at dksX1_regret_5 9 rfl rfl)
theorem dX1_regret_132 : decode cX1_regret 132 = .ok (.i2l, 1) := dk_133 (dk_at dksX1_regret_5 12 rfl rfl)
theorem dX1_regret_133 : decode cX1_regret 133 = .ok (.aload_n 3, 1) := dk_45 (dk_at dksX1_regret_5 13 rfl rfl)
theorem dX1_regret_134 : decode cX1_regret 134 = .ok (.iload_n 1, 1) := dk_27 (dk_at dksX1_regret_5 14 rfl rfl)
theorem dX1_regret_135 : decode cX1_regret 135 = .ok (.iload 8, 2) := dk_21 8 (dk_at dksX1_regret_5 15 rfl rfl)
theorem dX1_regret_137 : decode cX1_regret 137 = .ok (.invokevirtual 241, 3) := dk_182 0 241 (dk_at dksX1_regret_5 17 rfl rfl)
theorem dX1_regret_140 : decode cX1_regret 140 = .ok (.lsub, 1) := dk_101 (dk_at dksX1_regret_5 20 rfl rfl)
theorem dX1_regret_141 : decode cX1_regret 141 = .ok (.invokestatic 304, 3) := dk_184 1 48 (dk_at dksX1_regret_5 21 rfl rfl)
theorem dX1_regret_144 : decode cX1_regret 144 = .ok (.lstore 4, 2) := dk_55 4 (dk_at dksX1_regret_6 0 rfl rfl)
theorem dX1_regret_146 : decode cX1_regret 146 = .ok (.iinc 6 1, 3) := dk_132 6 1 (dk_at dksX1_regret_6 2 rfl rfl)
theorem dX1_regret_149 : decode cX1_regret 149 = .ok (.goto (-98), 3) := dk_167 255 158 (dk_at dksX1_regret_6 5 rfl rfl)
theorem dX1_regret_152 : decode cX1_regret 152 = .ok (.aload_n 0, 1) := dk_42 (dk_at dksX1_regret_6 8 rfl rfl)
theorem dX1_regret_153 : decode cX1_regret 153 = .ok (.lload 4, 2) := dk_22 4 (dk_at dksX1_regret_6 9 rfl rfl)
theorem dX1_regret_155 : decode cX1_regret 155 = .ok (.l2i, 1) := dk_136 (dk_at dksX1_regret_6 11 rfl rfl)
theorem dX1_regret_156 : decode cX1_regret 156 = .ok (.invokevirtual 58, 3) := dk_182 0 58 (dk_at dksX1_regret_6 12 rfl rfl)
theorem dX1_regret_159 : decode cX1_regret 159 = .ok (.ireturn, 1) := dk_172 (dk_at dksX1_regret_6 15 rfl rfl)
abbrev cX1_worth : ByteArray := prog_1_method_42_code
def yX1_worth : MethodName := ⟨RX1, "worth", "(IIIZ)J"⟩
def dkwX1_worth_7 : List UInt8 := [173]
abbrev dktX1_worth_7 : List UInt8 := dkwX1_worth_7 ++ []
def dkwX1_worth_6 : List UInt8 := [101, 55, 8, 132, 10, 1, 167, 255, 204, 42, 22, 8, 25, 6, 21, 7, 182, 1, 3, 21, 4, 182, 1, 6]
abbrev dktX1_worth_6 : List UInt8 := dkwX1_worth_6 ++ dktX1_worth_7
def dkwX1_worth_5 : List UInt8 := [180, 0, 196, 21, 10, 46, 133, 25, 6, 28, 25, 6, 21, 7, 27, 21, 10, 182, 1, 44, 182, 0, 241, 105]
abbrev dktX1_worth_5 : List UInt8 := dkwX1_worth_5 ++ dktX1_worth_6
def dkwX1_worth_4 : List UInt8 := [54, 10, 21, 10, 16, 8, 162, 0, 51, 25, 5, 180, 0, 196, 21, 10, 46, 158, 0, 34, 22, 8, 25, 5]
abbrev dktX1_worth_4 : List UInt8 := dkwX1_worth_4 ++ dktX1_worth_5
def dkwX1_worth_3 : List UInt8 := [21, 7, 182, 0, 241, 55, 8, 22, 8, 20, 0, 245, 148, 154, 0, 10, 42, 16, 6, 182, 0, 255, 173, 3]
abbrev dktX1_worth_3 : List UInt8 := dkwX1_worth_3 ++ dktX1_worth_4
def dkwX1_worth_2 : List UInt8 := [42, 8, 182, 0, 255, 173, 42, 29, 4, 182, 0, 236, 58, 6, 25, 6, 182, 0, 239, 54, 7, 25, 6, 28]
abbrev dktX1_worth_2 : List UInt8 := dkwX1_worth_2 ++ dktX1_worth_3
def dkwX1_worth_1 : List UInt8 := [180, 0, 112, 180, 0, 162, 27, 182, 0, 130, 192, 0, 181, 58, 5, 25, 5, 180, 0, 202, 2, 159, 0, 9]
abbrev dktX1_worth_1 : List UInt8 := dkwX1_worth_1 ++ dktX1_worth_2
def dkwX1_worth_0 : List UInt8 := [42, 27, 182, 0, 193, 153, 0, 12, 42, 28, 29, 182, 0, 232, 154, 0, 9, 42, 4, 182, 0, 255, 173, 42]
abbrev dktX1_worth_0 : List UInt8 := dkwX1_worth_0 ++ dktX1_worth_1
theorem dksX1_worth_0 : cX1_worth.data.toList.drop 0 = dktX1_worth_0 := by decide +kernel
theorem dksX1_worth_1 : cX1_worth.data.toList.drop 24 = dktX1_worth_1 := dk_seg dksX1_worth_0 24 rfl rfl
theorem dksX1_worth_2 : cX1_worth.data.toList.drop 48 = dktX1_worth_2 := dk_seg dksX1_worth_1 24 rfl rfl
theorem dksX1_worth_3 : cX1_worth.data.toList.drop 72 = dktX1_worth_3 := dk_seg dksX1_worth_2 24 rfl rfl
theorem dksX1_worth_4 : cX1_worth.data.toList.drop 96 = dktX1_worth_4 := dk_seg dksX1_worth_3 24 rfl rfl
theorem dksX1_worth_5 : cX1_worth.data.toList.drop 120 = dktX1_worth_5 := dk_seg dksX1_worth_4 24 rfl rfl
theorem dksX1_worth_6 : cX1_worth.data.toList.drop 144 = dktX1_worth_6 := dk_seg dksX1_worth_5 24 rfl rfl
theorem dksX1_worth_7 : cX1_worth.data.toList.drop 168 = dktX1_worth_7 := dk_seg dksX1_worth_6 24 rfl rfl
theorem dX1_worth_0 : decode cX1_worth 0 = .ok (.aload_n 0, 1) := dk_42 (dk_at dksX1_worth_0 0 rfl rfl)
theorem dX1_worth_1 : decode cX1_worth 1 = .ok (.iload_n 1, 1) := dk_27 (dk_at dksX1_worth_0 1 rfl rfl)
theorem dX1_worth_2 : decode cX1_worth 2 = .ok (.invokevirtual 193, 3) := dk_182 0 193 (dk_at dksX1_worth_0 2 rfl rfl)
theorem dX1_worth_5 : decode cX1_worth 5 = .ok (.ifCond .eq 12, 3) := dk_153 0 12 (dk_at dksX1_worth_0 5 rfl rfl)
theorem dX1_worth_8 : decode cX1_worth 8 = .ok (.aload_n 0, 1) := dk_42 (dk_at dksX1_worth_0 8 rfl rfl)
theorem dX1_worth_9 : decode cX1_worth 9 = .ok (.iload_n 2, 1) := dk_28 (dk_at dksX1_worth_0 9 rfl rfl)
theorem dX1_worth_10 : decode cX1_worth 10 = .ok (.iload_n 3, 1) := dk_29 (dk_at dksX1_worth_0 10 rfl rfl)
theorem dX1_worth_11 : decode cX1_worth 11 = .ok (.invokevirtual 232, 3) := dk_182 0 232 (dk_at dksX1_worth_0 11 rfl rfl)
theorem dX1_worth_14 : decode cX1_worth 14 = .ok (.ifCond .ne 9, 3) := dk_154 0 9 (dk_at dksX1_worth_0 14 rfl rfl)
theorem dX1_worth_17 : decode cX1_worth 17 = .ok (.aload_n 0, 1) := dk_42 (dk_at dksX1_worth_0 17 rfl rfl)
theorem dX1_worth_18 : decode cX1_worth 18 = .ok (.iconst 1, 1) := dk_4 (dk_at dksX1_worth_0 18 rfl rfl)
theorem dX1_worth_19 : decode cX1_worth 19 = .ok (.invokevirtual 255, 3) := dk_182 0 255 (dk_at dksX1_worth_0 19 rfl rfl)
theorem dX1_worth_22 : decode cX1_worth 22 = .ok (.lreturn, 1) := dk_173 (dk_at dksX1_worth_0 22 rfl rfl)
theorem dX1_worth_23 : decode cX1_worth 23 = .ok (.aload_n 0, 1) := dk_42 (dk_at dksX1_worth_0 23 rfl rfl)
theorem dX1_worth_24 : decode cX1_worth 24 = .ok (.getfield 112, 3) := dk_180 0 112 (dk_at dksX1_worth_1 0 rfl rfl)
theorem dX1_worth_27 : decode cX1_worth 27 = .ok (.getfield 162, 3) := dk_180 0 162 (dk_at dksX1_worth_1 3 rfl rfl)
theorem dX1_worth_30 : decode cX1_worth 30 = .ok (.iload_n 1, 1) := dk_27 (dk_at dksX1_worth_1 6 rfl rfl)
theorem dX1_worth_31 : decode cX1_worth 31 = .ok (.invokevirtual 130, 3) := dk_182 0 130 (dk_at dksX1_worth_1 7 rfl rfl)
theorem dX1_worth_34 : decode cX1_worth 34 = .ok (.checkcast 181, 3) := dk_192 0 181 (dk_at dksX1_worth_1 10 rfl rfl)
theorem dX1_worth_37 : decode cX1_worth 37 = .ok (.astore 5, 2) := dk_58 5 (dk_at dksX1_worth_1 13 rfl rfl)
theorem dX1_worth_39 : decode cX1_worth 39 = .ok (.aload 5, 2) := dk_25 5 (dk_at dksX1_worth_1 15 rfl rfl)
theorem dX1_worth_41 : decode cX1_worth 41 = .ok (.getfield 202, 3) := dk_180 0 202 (dk_at dksX1_worth_1 17 rfl rfl)
theorem dX1_worth_44 : decode cX1_worth 44 = .ok (.iconst (-1), 1) := dk_2 (dk_at dksX1_worth_1 20 rfl rfl)
theorem dX1_worth_45 : decode cX1_worth 45 = .ok (.if_icmp .eq 9, 3) := dk_159 0 9 (dk_at dksX1_worth_1 21 rfl rfl)
theorem dX1_worth_48 : decode cX1_worth 48 = .ok (.aload_n 0, 1) := dk_42 (dk_at dksX1_worth_2 0 rfl rfl)
theorem dX1_worth_49 : decode cX1_worth 49 = .ok (.iconst 5, 1) := dk_8 (dk_at dksX1_worth_2 1 rfl rfl)
theorem dX1_worth_50 : decode cX1_worth 50 = .ok (.invokevirtual 255, 3) := dk_182 0 255 (dk_at dksX1_worth_2 2 rfl rfl)
theorem dX1_worth_53 : decode cX1_worth 53 = .ok (.lreturn, 1) := dk_173 (dk_at dksX1_worth_2 5 rfl rfl)
theorem dX1_worth_54 : decode cX1_worth 54 = .ok (.aload_n 0, 1) := dk_42 (dk_at dksX1_worth_2 6 rfl rfl)
theorem dX1_worth_55 : decode cX1_worth 55 = .ok (.iload_n 3, 1) := dk_29 (dk_at dksX1_worth_2 7 rfl rfl)
theorem dX1_worth_56 : decode cX1_worth 56 = .ok (.iconst 1, 1) := dk_4 (dk_at dksX1_worth_2 8 rfl rfl)
theorem dX1_worth_57 : decode cX1_worth 57 = .ok (.invokevirtual 236, 3) := dk_182 0 236 (dk_at dksX1_worth_2 9 rfl rfl)
theorem dX1_worth_60 : decode cX1_worth 60 = .ok (.astore 6, 2) := dk_58 6 (dk_at dksX1_worth_2 12 rfl rfl)
theorem dX1_worth_62 : decode cX1_worth 62 = .ok (.aload 6, 2) := dk_25 6 (dk_at dksX1_worth_2 14 rfl rfl)
theorem dX1_worth_64 : decode cX1_worth 64 = .ok (.invokevirtual 239, 3) := dk_182 0 239 (dk_at dksX1_worth_2 16 rfl rfl)
theorem dX1_worth_67 : decode cX1_worth 67 = .ok (.istore 7, 2) := dk_54 7 (dk_at dksX1_worth_2 19 rfl rfl)
theorem dX1_worth_69 : decode cX1_worth 69 = .ok (.aload 6, 2) := dk_25 6 (dk_at dksX1_worth_2 21 rfl rfl)
theorem dX1_worth_71 : decode cX1_worth 71 = .ok (.iload_n 2, 1) := dk_28 (dk_at dksX1_worth_2 23 rfl rfl)
theorem dX1_worth_72 : decode cX1_worth 72 = .ok (.iload 7, 2) := dk_21 7 (dk_at dksX1_worth_3 0 rfl rfl)
theorem dX1_worth_74 : decode cX1_worth 74 = .ok (.invokevirtual 241, 3) := dk_182 0 241 (dk_at dksX1_worth_3 2 rfl rfl)
theorem dX1_worth_77 : decode cX1_worth 77 = .ok (.lstore 8, 2) := dk_55 8 (dk_at dksX1_worth_3 5 rfl rfl)
theorem dX1_worth_79 : decode cX1_worth 79 = .ok (.lload 8, 2) := dk_22 8 (dk_at dksX1_worth_3 7 rfl rfl)
theorem dX1_worth_81 : decode cX1_worth 81 = .ok (.ldc2_w 245, 3) := dk_20 0 245 (dk_at dksX1_worth_3 9 rfl rfl)
theorem dX1_worth_84 : decode cX1_worth 84 = .ok (.lcmp, 1) := dk_148 (dk_at dksX1_worth_3 12 rfl rfl)
theorem dX1_worth_85 : decode cX1_worth 85 = .ok (.ifCond .ne 10, 3) := dk_154 0 10 (dk_at dksX1_worth_3 13 rfl rfl)
theorem dX1_worth_88 : decode cX1_worth 88 = .ok (.aload_n 0, 1) := dk_42 (dk_at dksX1_worth_3 16 rfl rfl)
theorem dX1_worth_89 : decode cX1_worth 89 = .ok (.bipush 6, 2) := dk_16 6 (dk_at dksX1_worth_3 17 rfl rfl)
theorem dX1_worth_91 : decode cX1_worth 91 = .ok (.invokevirtual 255, 3) := dk_182 0 255 (dk_at dksX1_worth_3 19 rfl rfl)
theorem dX1_worth_94 : decode cX1_worth 94 = .ok (.lreturn, 1) := dk_173 (dk_at dksX1_worth_3 22 rfl rfl)
theorem dX1_worth_95 : decode cX1_worth 95 = .ok (.iconst 0, 1) := dk_3 (dk_at dksX1_worth_3 23 rfl rfl)
theorem dX1_worth_96 : decode cX1_worth 96 = .ok (.istore 10, 2) := dk_54 10 (dk_at dksX1_worth_4 0 rfl rfl)
theorem dX1_worth_98 : decode cX1_worth 98 = .ok (.iload 10, 2) := dk_21 10 (dk_at dksX1_worth_4 2 rfl rfl)
theorem dX1_worth_100 : decode cX1_worth 100 = .ok (.bipush 8, 2) := dk_16 8 (dk_at dksX1_worth_4 4 rfl rfl)
theorem dX1_worth_102 : decode cX1_worth 102 = .ok (.if_icmp .ge 51, 3) := dk_162 0 51 (dk_at dksX1_worth_4 6 rfl rfl)
theorem dX1_worth_105 : decode cX1_worth 105 = .ok (.aload 5, 2) := dk_25 5 (dk_at dksX1_worth_4 9 rfl rfl)
theorem dX1_worth_107 : decode cX1_worth 107 = .ok (.getfield 196, 3) := dk_180 0 196 (dk_at dksX1_worth_4 11 rfl rfl)
theorem dX1_worth_110 : decode cX1_worth 110 = .ok (.iload 10, 2) := dk_21 10 (dk_at dksX1_worth_4 14 rfl rfl)
theorem dX1_worth_112 : decode cX1_worth 112 = .ok (.iaload, 1) := dk_46 (dk_at dksX1_worth_4 16 rfl rfl)
theorem dX1_worth_113 : decode cX1_worth 113 = .ok (.ifCond .le 34, 3) := dk_158 0 34 (dk_at dksX1_worth_4 17 rfl rfl)
theorem dX1_worth_116 : decode cX1_worth 116 = .ok (.lload 8, 2) := dk_22 8 (dk_at dksX1_worth_4 20 rfl rfl)
theorem dX1_worth_118 : decode cX1_worth 118 = .ok (.aload 5, 2) := dk_25 5 (dk_at dksX1_worth_4 22 rfl rfl)
theorem dX1_worth_120 : decode cX1_worth 120 = .ok (.getfield 196, 3) := dk_180 0 196 (dk_at dksX1_worth_5 0 rfl rfl)
theorem dX1_worth_123 : decode cX1_worth 123 = .ok (.iload 10, 2) := dk_21 10 (dk_at dksX1_worth_5 3 rfl rfl)
theorem dX1_worth_125 : decode cX1_worth 125 = .ok (.iaload, 1) := dk_46 (dk_at dksX1_worth_5 5 rfl rfl)
theorem dX1_worth_126 : decode cX1_worth 126 = .ok (.i2l, 1) := dk_133 (dk_at dksX1_worth_5 6 rfl rfl)
theorem dX1_worth_127 : decode cX1_worth 127 = .ok (.aload 6, 2) := dk_25 6 (dk_at dksX1_worth_5 7 rfl rfl)
theorem dX1_worth_129 : decode cX1_worth 129 = .ok (.iload_n 2, 1) := dk_28 (dk_at dksX1_worth_5 9 rfl rfl)
theorem dX1_worth_130 : decode cX1_worth 130 = .ok (.aload 6, 2) := dk_25 6 (dk_at dksX1_worth_5 10 rfl rfl)
theorem dX1_worth_132 : decode cX1_worth 132 = .ok (.iload 7, 2) := dk_21 7 (dk_at dksX1_worth_5 12 rfl rfl)
theorem dX1_worth_134 : decode cX1_worth 134 = .ok (.iload_n 1, 1) := dk_27 (dk_at dksX1_worth_5 14 rfl rfl)
theorem dX1_worth_135 : decode cX1_worth 135 = .ok (.iload 10, 2) := dk_21 10 (dk_at dksX1_worth_5 15 rfl rfl)
theorem dX1_worth_137 : decode cX1_worth 137 = .ok (.invokevirtual 300, 3) := dk_182 1 44 (dk_at dksX1_worth_5 17 rfl rfl)
theorem dX1_worth_140 : decode cX1_worth 140 = .ok (.invokevirtual 241, 3) := dk_182 0 241 (dk_at dksX1_worth_5 20 rfl rfl)
theorem dX1_worth_143 : decode cX1_worth 143 = .ok (.lmul, 1) := dk_105 (dk_at dksX1_worth_5 23 rfl rfl)
theorem dX1_worth_144 : decode cX1_worth 144 = .ok (.lsub, 1) := dk_101 (dk_at dksX1_worth_6 0 rfl rfl)
theorem dX1_worth_145 : decode cX1_worth 145 = .ok (.lstore 8, 2) := dk_55 8 (dk_at dksX1_worth_6 1 rfl rfl)
theorem dX1_worth_147 : decode cX1_worth 147 = .ok (.iinc 10 1, 3) := dk_132 10 1 (dk_at dksX1_worth_6 3 rfl rfl)
theorem dX1_worth_150 : decode cX1_worth 150 = .ok (.goto (-52), 3) := dk_167 255 204 (dk_at dksX1_worth_6 6 rfl rfl)
theorem dX1_worth_153 : decode cX1_worth 153 = .ok (.aload_n 0, 1) := dk_42 (dk_at dksX1_worth_6 9 rfl rfl)
theorem dX1_worth_154 : decode cX1_worth 154 = .ok (.lload 8, 2) := dk_22 8 (dk_at dksX1_worth_6 10 rfl rfl)
theorem dX1_worth_156 : decode cX1_worth 156 = .ok (.aload 6, 2) := dk_25 6 (dk_at dksX1_worth_6 12 rfl rfl)
theorem dX1_worth_158 : decode cX1_worth 158 = .ok (.iload 7, 2) := dk_21 7 (dk_at dksX1_worth_6 14 rfl rfl)
theorem dX1_worth_160 : decode cX1_worth 160 = .ok (.invokevirtual 259, 3) := dk_182 1 3 (dk_at dksX1_worth_6 16 rfl rfl)
theorem dX1_worth_163 : decode cX1_worth 163 = .ok (.iload 4, 2) := dk_21 4 (dk_at dksX1_worth_6 19 rfl rfl)
theorem dX1_worth_165 : decode cX1_worth 165 = .ok (.invokevirtual 262, 3) := dk_182 1 6 (dk_at dksX1_worth_6 21 rfl rfl)
theorem dX1_worth_168 : decode cX1_worth 168 = .ok (.lreturn, 1) := dk_173 (dk_at dksX1_worth_7 0 rfl rfl)
abbrev cX1_spared : ByteArray := prog_1_method_43_code
def yX1_spared : MethodName := ⟨RX1, "spared", "(III)I"⟩
def dkwX1_spared_6 : List UInt8 := [132, 11, 1, 167, 255, 212, 42, 22, 7, 22, 9, 101, 136, 182, 0, 58, 172]
abbrev dktX1_spared_6 : List UInt8 := dkwX1_spared_6 ++ []
def dkwX1_spared_5 : List UInt8 := [22, 9, 25, 5, 28, 25, 5, 21, 6, 27, 21, 11, 182, 1, 44, 182, 0, 241, 184, 1, 48, 55, 9]
abbrev dktX1_spared_5 : List UInt8 := dkwX1_spared_5 ++ dktX1_spared_6
def dkwX1_spared_4 : List UInt8 := [55, 9, 3, 54, 11, 21, 11, 16, 8, 162, 0, 43, 25, 4, 180, 0, 196, 21, 11, 46, 158, 0, 26]
abbrev dktX1_spared_4 : List UInt8 := dkwX1_spared_4 ++ dktX1_spared_5
def dkwX1_spared_3 : List UInt8 := [21, 6, 182, 0, 241, 55, 7, 22, 7, 20, 0, 245, 148, 154, 0, 10, 42, 16, 6, 182, 0, 52, 172, 9]
abbrev dktX1_spared_3 : List UInt8 := dkwX1_spared_3 ++ dktX1_spared_4
def dkwX1_spared_2 : List UInt8 := [42, 8, 182, 0, 52, 172, 42, 29, 3, 182, 0, 236, 58, 5, 25, 5, 182, 0, 239, 54, 6, 25, 5, 28]
abbrev dktX1_spared_2 : List UInt8 := dkwX1_spared_2 ++ dktX1_spared_3
def dkwX1_spared_1 : List UInt8 := [180, 0, 112, 180, 0, 162, 27, 182, 0, 130, 192, 0, 181, 58, 4, 25, 4, 180, 0, 202, 2, 159, 0, 9]
abbrev dktX1_spared_1 : List UInt8 := dkwX1_spared_1 ++ dktX1_spared_2
def dkwX1_spared_0 : List UInt8 := [42, 27, 182, 0, 193, 153, 0, 12, 42, 28, 29, 182, 0, 232, 154, 0, 9, 42, 4, 182, 0, 52, 172, 42]
abbrev dktX1_spared_0 : List UInt8 := dkwX1_spared_0 ++ dktX1_spared_1
theorem dksX1_spared_0 : cX1_spared.data.toList.drop 0 = dktX1_spared_0 := by decide +kernel
theorem dksX1_spared_1 : cX1_spared.data.toList.drop 24 = dktX1_spared_1 := dk_seg dksX1_spared_0 24 rfl rfl
theorem dksX1_spared_2 : cX1_spared.data.toList.drop 48 = dktX1_spared_2 := dk_seg dksX1_spared_1 24 rfl rfl
theorem dksX1_spared_3 : cX1_spared.data.toList.drop 72 = dktX1_spared_3 := dk_seg dksX1_spared_2 24 rfl rfl
theorem dksX1_spared_4 : cX1_spared.data.toList.drop 96 = dktX1_spared_4 := dk_seg dksX1_spared_3 24 rfl rfl
theorem dksX1_spared_5 : cX1_spared.data.toList.drop 119 = dktX1_spared_5 := dk_seg dksX1_spared_4 23 rfl rfl
theorem dksX1_spared_6 : cX1_spared.data.toList.drop 142 = dktX1_spared_6 := dk_seg dksX1_spared_5 23 rfl rfl
theorem dX1_spared_0 : decode cX1_spared 0 = .ok (.aload_n 0, 1) := dk_42 (dk_at dksX1_spared_0 0 rfl rfl)
theorem dX1_spared_1 : decode cX1_spared 1 = .ok (.iload_n 1, 1) := dk_27 (dk_at dksX1_spared_0 1 rfl rfl)
theorem dX1_spared_2 : decode cX1_spared 2 = .ok (.invokevirtual 193, 3) := dk_182 0 193 (dk_at dksX1_spared_0 2 rfl rfl)
theorem dX1_spared_5 : decode cX1_spared 5 = .ok (.ifCond .eq 12, 3) := dk_153 0 12 (dk_at dksX1_spared_0 5 rfl rfl)
theorem dX1_spared_8 : decode cX1_spared 8 = .ok (.aload_n 0, 1) := dk_42 (dk_at dksX1_spared_0 8 rfl rfl)
theorem dX1_spared_9 : decode cX1_spared 9 = .ok (.iload_n 2, 1) := dk_28 (dk_at dksX1_spared_0 9 rfl rfl)
theorem dX1_spared_10 : decode cX1_spared 10 = .ok (.iload_n 3, 1) := dk_29 (dk_at dksX1_spared_0 10 rfl rfl)
theorem dX1_spared_11 : decode cX1_spared 11 = .ok (.invokevirtual 232, 3) := dk_182 0 232 (dk_at dksX1_spared_0 11 rfl rfl)
theorem dX1_spared_14 : decode cX1_spared 14 = .ok (.ifCond .ne 9, 3) := dk_154 0 9 (dk_at dksX1_spared_0 14 rfl rfl)
theorem dX1_spared_17 : decode cX1_spared 17 = .ok (.aload_n 0, 1) := dk_42 (dk_at dksX1_spared_0 17 rfl rfl)
theorem dX1_spared_18 : decode cX1_spared 18 = .ok (.iconst 1, 1) := dk_4 (dk_at dksX1_spared_0 18 rfl rfl)
theorem dX1_spared_19 : decode cX1_spared 19 = .ok (.invokevirtual 52, 3) := dk_182 0 52 (dk_at dksX1_spared_0 19 rfl rfl)
theorem dX1_spared_22 : decode cX1_spared 22 = .ok (.ireturn, 1) := dk_172 (dk_at dksX1_spared_0 22 rfl rfl)
theorem dX1_spared_23 : decode cX1_spared 23 = .ok (.aload_n 0, 1) := dk_42 (dk_at dksX1_spared_0 23 rfl rfl)
theorem dX1_spared_24 : decode cX1_spared 24 = .ok (.getfield 112, 3) := dk_180 0 112 (dk_at dksX1_spared_1 0 rfl rfl)
theorem dX1_spared_27 : decode cX1_spared 27 = .ok (.getfield 162, 3) := dk_180 0 162 (dk_at dksX1_spared_1 3 rfl rfl)
theorem dX1_spared_30 : decode cX1_spared 30 = .ok (.iload_n 1, 1) := dk_27 (dk_at dksX1_spared_1 6 rfl rfl)
theorem dX1_spared_31 : decode cX1_spared 31 = .ok (.invokevirtual 130, 3) := dk_182 0 130 (dk_at dksX1_spared_1 7 rfl rfl)
theorem dX1_spared_34 : decode cX1_spared 34 = .ok (.checkcast 181, 3) := dk_192 0 181 (dk_at dksX1_spared_1 10 rfl rfl)
theorem dX1_spared_37 : decode cX1_spared 37 = .ok (.astore 4, 2) := dk_58 4 (dk_at dksX1_spared_1 13 rfl rfl)
theorem dX1_spared_39 : decode cX1_spared 39 = .ok (.aload 4, 2) := dk_25 4 (dk_at dksX1_spared_1 15 rfl rfl)
theorem dX1_spared_41 : decode cX1_spared 41 = .ok (.getfield 202, 3) := dk_180 0 202 (dk_at dksX1_spared_1 17 rfl rfl)
theorem dX1_spared_44 : decode cX1_spared 44 = .ok (.iconst (-1), 1) := dk_2 (dk_at dksX1_spared_1 20 rfl rfl)
theorem dX1_spared_45 : decode cX1_spared 45 = .ok (.if_icmp .eq 9, 3) := dk_159 0 9 (dk_at dksX1_spared_1 21 rfl rfl)
theorem dX1_spared_48 : decode cX1_spared 48 = .ok (.aload_n 0, 1) := dk_42 (dk_at dksX1_spared_2 0 rfl rfl)
theorem dX1_spared_49 : decode cX1_spared 49 = .ok (.iconst 5, 1) := dk_8 (dk_at dksX1_spared_2 1 rfl rfl)
theorem dX1_spared_50 : decode cX1_spared 50 = .ok (.invokevirtual 52, 3) := dk_182 0 52 (dk_at dksX1_spared_2 2 rfl rfl)
theorem dX1_spared_53 : decode cX1_spared 53 = .ok (.ireturn, 1) := dk_172 (dk_at dksX1_spared_2 5 rfl rfl)
theorem dX1_spared_54 : decode cX1_spared 54 = .ok (.aload_n 0, 1) := dk_42 (dk_at dksX1_spared_2 6 rfl rfl)
theorem dX1_spared_55 : decode cX1_spared 55 = .ok (.iload_n 3, 1) := dk_29 (dk_at dksX1_spared_2 7 rfl rfl)
theorem dX1_spared_56 : decode cX1_spared 56 = .ok (.iconst 0, 1) := dk_3 (dk_at dksX1_spared_2 8 rfl rfl)
theorem dX1_spared_57 : decode cX1_spared 57 = .ok (.invokevirtual 236, 3) := dk_182 0 236 (dk_at dksX1_spared_2 9 rfl rfl)
theorem dX1_spared_60 : decode cX1_spared 60 = .ok (.astore 5, 2) := dk_58 5 (dk_at dksX1_spared_2 12 rfl rfl)
theorem dX1_spared_62 : decode cX1_spared 62 = .ok (.aload 5, 2) := dk_25 5 (dk_at dksX1_spared_2 14 rfl rfl)
theorem dX1_spared_64 : decode cX1_spared 64 = .ok (.invokevirtual 239, 3) := dk_182 0 239 (dk_at dksX1_spared_2 16 rfl rfl)
theorem dX1_spared_67 : decode cX1_spared 67 = .ok (.istore 6, 2) := dk_54 6 (dk_at dksX1_spared_2 19 rfl rfl)
theorem dX1_spared_69 : decode cX1_spared 69 = .ok (.aload 5, 2) := dk_25 5 (dk_at dksX1_spared_2 21 rfl rfl)
theorem dX1_spared_71 : decode cX1_spared 71 = .ok (.iload_n 2, 1) := dk_28 (dk_at dksX1_spared_2 23 rfl rfl)
theorem dX1_spared_72 : decode cX1_spared 72 = .ok (.iload 6, 2) := dk_21 6 (dk_at dksX1_spared_3 0 rfl rfl)
theorem dX1_spared_74 : decode cX1_spared 74 = .ok (.invokevirtual 241, 3) := dk_182 0 241 (dk_at dksX1_spared_3 2 rfl rfl)
theorem dX1_spared_77 : decode cX1_spared 77 = .ok (.lstore 7, 2) := dk_55 7 (dk_at dksX1_spared_3 5 rfl rfl)
theorem dX1_spared_79 : decode cX1_spared 79 = .ok (.lload 7, 2) := dk_22 7 (dk_at dksX1_spared_3 7 rfl rfl)
theorem dX1_spared_81 : decode cX1_spared 81 = .ok (.ldc2_w 245, 3) := dk_20 0 245 (dk_at dksX1_spared_3 9 rfl rfl)
theorem dX1_spared_84 : decode cX1_spared 84 = .ok (.lcmp, 1) := dk_148 (dk_at dksX1_spared_3 12 rfl rfl)
theorem dX1_spared_85 : decode cX1_spared 85 = .ok (.ifCond .ne 10, 3) := dk_154 0 10 (dk_at dksX1_spared_3 13 rfl rfl)
theorem dX1_spared_88 : decode cX1_spared 88 = .ok (.aload_n 0, 1) := dk_42 (dk_at dksX1_spared_3 16 rfl rfl)
theorem dX1_spared_89 : decode cX1_spared 89 = .ok (.bipush 6, 2) := dk_16 6 (dk_at dksX1_spared_3 17 rfl rfl)
theorem dX1_spared_91 : decode cX1_spared 91 = .ok (.invokevirtual 52, 3) := dk_182 0 52 (dk_at dksX1_spared_3 19 rfl rfl)
theorem dX1_spared_94 : decode cX1_spared 94 = .ok (.ireturn, 1) := dk_172 (dk_at dksX1_spared_3 22 rfl rfl)
theorem dX1_spared_95 : decode cX1_spared 95 = .ok (.lconst 0, 1) := dk_9 (dk_at dksX1_spared_3 23 rfl rfl)
theorem dX1_spared_96 : decode cX1_spared 96 = .ok (.lstore 9, 2) := dk_55 9 (dk_at dksX1_spared_4 0 rfl rfl)
theorem dX1_spared_98 : decode cX1_spared 98 = .ok (.iconst 0, 1) := dk_3 (dk_at dksX1_spared_4 2 rfl rfl)
theorem dX1_spared_99 : decode cX1_spared 99 = .ok (.istore 11, 2) := dk_54 11 (dk_at dksX1_spared_4 3 rfl rfl)
theorem dX1_spared_101 : decode cX1_spared 101 = .ok (.iload 11, 2) := dk_21 11 (dk_at dksX1_spared_4 5 rfl rfl)
theorem dX1_spared_103 : decode cX1_spared 103 = .ok (.bipush 8, 2) := dk_16 8 (dk_at dksX1_spared_4 7 rfl rfl)
theorem dX1_spared_105 : decode cX1_spared 105 = .ok (.if_icmp .ge 43, 3) := dk_162 0 43 (dk_at dksX1_spared_4 9 rfl rfl)
theorem dX1_spared_108 : decode cX1_spared 108 = .ok (.aload 4, 2) := dk_25 4 (dk_at dksX1_spared_4 12 rfl rfl)
theorem dX1_spared_110 : decode cX1_spared 110 = .ok (.getfield 196, 3) := dk_180 0 196 (dk_at dksX1_spared_4 14 rfl rfl)
theorem dX1_spared_113 : decode cX1_spared 113 = .ok (.iload 11, 2) := dk_21 11 (dk_at dksX1_spared_4 17 rfl rfl)
theorem dX1_spared_115 : decode cX1_spared 115 = .ok (.iaload, 1) := dk_46 (dk_at dksX1_spared_4 19 rfl rfl)
theorem dX1_spared_116 : decode cX1_spared 116 = .ok (.ifCond .le 26, 3) := dk_158 0 26 (dk_at dksX1_spared_4 20 rfl rfl)
theorem dX1_spared_119 : decode cX1_spared 119 = .ok (.lload 9, 2) := dk_22 9 (dk_at dksX1_spared_5 0 rfl rfl)
theorem dX1_spared_121 : decode cX1_spared 121 = .ok (.aload 5, 2) := dk_25 5 (dk_at dksX1_spared_5 2 rfl rfl)
theorem dX1_spared_123 : decode cX1_spared 123 = .ok (.iload_n 2, 1) := dk_28 (dk_at dksX1_spared_5 4 rfl rfl)
theorem dX1_spared_124 : decode cX1_spared 124 = .ok (.aload 5, 2) := dk_25 5 (dk_at dksX1_spared_5 5 rfl rfl)
theorem dX1_spared_126 : decode cX1_spared 126 = .ok (.iload 6, 2) := dk_21 6 (dk_at dksX1_spared_5 7 rfl rfl)
theorem dX1_spared_128 : decode cX1_spared 128 = .ok (.iload_n 1, 1) := dk_27 (dk_at dksX1_spared_5 9 rfl rfl)
theorem dX1_spared_129 : decode cX1_spared 129 = .ok (.iload 11, 2) := dk_21 11 (dk_at dksX1_spared_5 10 rfl rfl)
theorem dX1_spared_131 : decode cX1_spared 131 = .ok (.invokevirtual 300, 3) := dk_182 1 44 (dk_at dksX1_spared_5 12 rfl rfl)
theorem dX1_spared_134 : decode cX1_spared 134 = .ok (.invokevirtual 241, 3) := dk_182 0 241 (dk_at dksX1_spared_5 15 rfl rfl)
theorem dX1_spared_137 : decode cX1_spared 137 = .ok (.invokestatic 304, 3) := dk_184 1 48 (dk_at dksX1_spared_5 18 rfl rfl)
theorem dX1_spared_140 : decode cX1_spared 140 = .ok (.lstore 9, 2) := dk_55 9 (dk_at dksX1_spared_5 21 rfl rfl)
theorem dX1_spared_142 : decode cX1_spared 142 = .ok (.iinc 11 1, 3) := dk_132 11 1 (dk_at dksX1_spared_6 0 rfl rfl)
theorem dX1_spared_145 : decode cX1_spared 145 = .ok (.goto (-44), 3) := dk_167 255 212 (dk_at dksX1_spared_6 3 rfl rfl)
theorem dX1_spared_148 : decode cX1_spared 148 = .ok (.aload_n 0, 1) := dk_42 (dk_at dksX1_spared_6 6 rfl rfl)
theorem dX1_spared_149 : decode cX1_spared 149 = .ok (.lload 7, 2) := dk_22 7 (dk_at dksX1_spared_6 7 rfl rfl)
theorem dX1_spared_151 : decode cX1_spared 151 = .ok (.lload 9, 2) := dk_22 9 (dk_at dksX1_spared_6 9 rfl rfl)
theorem dX1_spared_153 : decode cX1_spared 153 = .ok (.lsub, 1) := dk_101 (dk_at dksX1_spared_6 11 rfl rfl)
theorem dX1_spared_154 : decode cX1_spared 154 = .ok (.l2i, 1) := dk_136 (dk_at dksX1_spared_6 12 rfl rfl)
theorem dX1_spared_155 : decode cX1_spared 155 = .ok (.invokevirtual 58, 3) := dk_182 0 58 (dk_at dksX1_spared_6 13 rfl rfl)
theorem dX1_spared_158 : decode cX1_spared 158 = .ok (.ireturn, 1) := dk_172 (dk_at dksX1_spared_6 16 rfl rfl)
abbrev cX1_plan : ByteArray := prog_1_method_44_code
def yX1_plan : MethodName := ⟨RX1, "plan", "(I)I"⟩
def dkwX1_plan_4 : List UInt8 := [42, 180, 0, 33, 182, 0, 122, 4, 100, 182, 0, 58, 172]
abbrev dktX1_plan_4 : List UInt8 := dkwX1_plan_4 ++ []
def dkwX1_plan_3 : List UInt8 := [182, 0, 122, 16, 8, 160, 0, 9, 42, 6, 182, 0, 52, 172, 42, 180, 0, 33, 44, 182, 0, 186, 87, 42]
abbrev dktX1_plan_3 : List UInt8 := dkwX1_plan_3 ++ dktX1_plan_4
def dkwX1_plan_2 : List UInt8 := [180, 0, 112, 183, 1, 55, 182, 1, 58, 77, 167, 0, 10, 78, 42, 45, 182, 0, 99, 172, 42, 180, 0, 33]
abbrev dktX1_plan_2 : List UInt8 := dkwX1_plan_2 ++ dktX1_plan_3
def dkwX1_plan_1 : List UInt8 := [154, 0, 9, 42, 5, 182, 0, 52, 172, 187, 1, 53, 89, 42, 27, 182, 0, 87, 42, 180, 0, 95, 42]
abbrev dktX1_plan_1 : List UInt8 := dkwX1_plan_1 ++ dktX1_plan_2
def dkwX1_plan_0 : List UInt8 := [42, 180, 0, 112, 199, 0, 9, 42, 4, 182, 0, 52, 172, 27, 3, 42, 180, 0, 61, 184, 0, 80]
abbrev dktX1_plan_0 : List UInt8 := dkwX1_plan_0 ++ dktX1_plan_1
theorem dksX1_plan_0 : cX1_plan.data.toList.drop 0 = dktX1_plan_0 := by decide +kernel
theorem dksX1_plan_1 : cX1_plan.data.toList.drop 22 = dktX1_plan_1 := dk_seg dksX1_plan_0 22 rfl rfl
theorem dksX1_plan_2 : cX1_plan.data.toList.drop 45 = dktX1_plan_2 := dk_seg dksX1_plan_1 23 rfl rfl
theorem dksX1_plan_3 : cX1_plan.data.toList.drop 69 = dktX1_plan_3 := dk_seg dksX1_plan_2 24 rfl rfl
theorem dksX1_plan_4 : cX1_plan.data.toList.drop 93 = dktX1_plan_4 := dk_seg dksX1_plan_3 24 rfl rfl
theorem dX1_plan_0 : decode cX1_plan 0 = .ok (.aload_n 0, 1) := dk_42 (dk_at dksX1_plan_0 0 rfl rfl)
theorem dX1_plan_1 : decode cX1_plan 1 = .ok (.getfield 112, 3) := dk_180 0 112 (dk_at dksX1_plan_0 1 rfl rfl)
theorem dX1_plan_4 : decode cX1_plan 4 = .ok (.ifnonnull 9, 3) := dk_199 0 9 (dk_at dksX1_plan_0 4 rfl rfl)
theorem dX1_plan_7 : decode cX1_plan 7 = .ok (.aload_n 0, 1) := dk_42 (dk_at dksX1_plan_0 7 rfl rfl)
theorem dX1_plan_8 : decode cX1_plan 8 = .ok (.iconst 1, 1) := dk_4 (dk_at dksX1_plan_0 8 rfl rfl)
theorem dX1_plan_9 : decode cX1_plan 9 = .ok (.invokevirtual 52, 3) := dk_182 0 52 (dk_at dksX1_plan_0 9 rfl rfl)
theorem dX1_plan_12 : decode cX1_plan 12 = .ok (.ireturn, 1) := dk_172 (dk_at dksX1_plan_0 12 rfl rfl)
theorem dX1_plan_13 : decode cX1_plan 13 = .ok (.iload_n 1, 1) := dk_27 (dk_at dksX1_plan_0 13 rfl rfl)
theorem dX1_plan_14 : decode cX1_plan 14 = .ok (.iconst 0, 1) := dk_3 (dk_at dksX1_plan_0 14 rfl rfl)
theorem dX1_plan_15 : decode cX1_plan 15 = .ok (.aload_n 0, 1) := dk_42 (dk_at dksX1_plan_0 15 rfl rfl)
theorem dX1_plan_16 : decode cX1_plan 16 = .ok (.getfield 61, 3) := dk_180 0 61 (dk_at dksX1_plan_0 16 rfl rfl)
theorem dX1_plan_19 : decode cX1_plan 19 = .ok (.invokestatic 80, 3) := dk_184 0 80 (dk_at dksX1_plan_0 19 rfl rfl)
theorem dX1_plan_22 : decode cX1_plan 22 = .ok (.ifCond .ne 9, 3) := dk_154 0 9 (dk_at dksX1_plan_1 0 rfl rfl)
theorem dX1_plan_25 : decode cX1_plan 25 = .ok (.aload_n 0, 1) := dk_42 (dk_at dksX1_plan_1 3 rfl rfl)
theorem dX1_plan_26 : decode cX1_plan 26 = .ok (.iconst 2, 1) := dk_5 (dk_at dksX1_plan_1 4 rfl rfl)
theorem dX1_plan_27 : decode cX1_plan 27 = .ok (.invokevirtual 52, 3) := dk_182 0 52 (dk_at dksX1_plan_1 5 rfl rfl)
theorem dX1_plan_30 : decode cX1_plan 30 = .ok (.ireturn, 1) := dk_172 (dk_at dksX1_plan_1 8 rfl rfl)
theorem dX1_plan_31 : decode cX1_plan 31 = .ok (.new 309, 3) := dk_187 1 53 (dk_at dksX1_plan_1 9 rfl rfl)
theorem dX1_plan_34 : decode cX1_plan 34 = .ok (.dup, 1) := dk_89 (dk_at dksX1_plan_1 12 rfl rfl)
theorem dX1_plan_35 : decode cX1_plan 35 = .ok (.aload_n 0, 1) := dk_42 (dk_at dksX1_plan_1 13 rfl rfl)
theorem dX1_plan_36 : decode cX1_plan 36 = .ok (.iload_n 1, 1) := dk_27 (dk_at dksX1_plan_1 14 rfl rfl)
theorem dX1_plan_37 : decode cX1_plan 37 = .ok (.invokevirtual 87, 3) := dk_182 0 87 (dk_at dksX1_plan_1 15 rfl rfl)
theorem dX1_plan_40 : decode cX1_plan 40 = .ok (.aload_n 0, 1) := dk_42 (dk_at dksX1_plan_1 18 rfl rfl)
theorem dX1_plan_41 : decode cX1_plan 41 = .ok (.getfield 95, 3) := dk_180 0 95 (dk_at dksX1_plan_1 19 rfl rfl)
theorem dX1_plan_44 : decode cX1_plan 44 = .ok (.aload_n 0, 1) := dk_42 (dk_at dksX1_plan_1 22 rfl rfl)
theorem dX1_plan_45 : decode cX1_plan 45 = .ok (.getfield 112, 3) := dk_180 0 112 (dk_at dksX1_plan_2 0 rfl rfl)
theorem dX1_plan_48 : decode cX1_plan 48 = .ok (.invokespecial 311, 3) := dk_183 1 55 (dk_at dksX1_plan_2 3 rfl rfl)
theorem dX1_plan_51 : decode cX1_plan 51 = .ok (.invokevirtual 314, 3) := dk_182 1 58 (dk_at dksX1_plan_2 6 rfl rfl)
theorem dX1_plan_54 : decode cX1_plan 54 = .ok (.astore_n 2, 1) := dk_77 (dk_at dksX1_plan_2 9 rfl rfl)
theorem dX1_plan_55 : decode cX1_plan 55 = .ok (.goto 10, 3) := dk_167 0 10 (dk_at dksX1_plan_2 10 rfl rfl)
theorem dX1_plan_58 : decode cX1_plan 58 = .ok (.astore_n 3, 1) := dk_78 (dk_at dksX1_plan_2 13 rfl rfl)
theorem dX1_plan_59 : decode cX1_plan 59 = .ok (.aload_n 0, 1) := dk_42 (dk_at dksX1_plan_2 14 rfl rfl)
theorem dX1_plan_60 : decode cX1_plan 60 = .ok (.aload_n 3, 1) := dk_45 (dk_at dksX1_plan_2 15 rfl rfl)
theorem dX1_plan_61 : decode cX1_plan 61 = .ok (.invokevirtual 99, 3) := dk_182 0 99 (dk_at dksX1_plan_2 16 rfl rfl)
theorem dX1_plan_64 : decode cX1_plan 64 = .ok (.ireturn, 1) := dk_172 (dk_at dksX1_plan_2 19 rfl rfl)
theorem dX1_plan_65 : decode cX1_plan 65 = .ok (.aload_n 0, 1) := dk_42 (dk_at dksX1_plan_2 20 rfl rfl)
theorem dX1_plan_66 : decode cX1_plan 66 = .ok (.getfield 33, 3) := dk_180 0 33 (dk_at dksX1_plan_2 21 rfl rfl)
theorem dX1_plan_69 : decode cX1_plan 69 = .ok (.invokevirtual 122, 3) := dk_182 0 122 (dk_at dksX1_plan_3 0 rfl rfl)
theorem dX1_plan_72 : decode cX1_plan 72 = .ok (.bipush 8, 2) := dk_16 8 (dk_at dksX1_plan_3 3 rfl rfl)
theorem dX1_plan_74 : decode cX1_plan 74 = .ok (.if_icmp .ne 9, 3) := dk_160 0 9 (dk_at dksX1_plan_3 5 rfl rfl)
theorem dX1_plan_77 : decode cX1_plan 77 = .ok (.aload_n 0, 1) := dk_42 (dk_at dksX1_plan_3 8 rfl rfl)
theorem dX1_plan_78 : decode cX1_plan 78 = .ok (.iconst 3, 1) := dk_6 (dk_at dksX1_plan_3 9 rfl rfl)
theorem dX1_plan_79 : decode cX1_plan 79 = .ok (.invokevirtual 52, 3) := dk_182 0 52 (dk_at dksX1_plan_3 10 rfl rfl)
theorem dX1_plan_82 : decode cX1_plan 82 = .ok (.ireturn, 1) := dk_172 (dk_at dksX1_plan_3 13 rfl rfl)
theorem dX1_plan_83 : decode cX1_plan 83 = .ok (.aload_n 0, 1) := dk_42 (dk_at dksX1_plan_3 14 rfl rfl)
theorem dX1_plan_84 : decode cX1_plan 84 = .ok (.getfield 33, 3) := dk_180 0 33 (dk_at dksX1_plan_3 15 rfl rfl)
theorem dX1_plan_87 : decode cX1_plan 87 = .ok (.aload_n 2, 1) := dk_44 (dk_at dksX1_plan_3 18 rfl rfl)
theorem dX1_plan_88 : decode cX1_plan 88 = .ok (.invokevirtual 186, 3) := dk_182 0 186 (dk_at dksX1_plan_3 19 rfl rfl)
theorem dX1_plan_91 : decode cX1_plan 91 = .ok (.pop, 1) := dk_87 (dk_at dksX1_plan_3 22 rfl rfl)
theorem dX1_plan_92 : decode cX1_plan 92 = .ok (.aload_n 0, 1) := dk_42 (dk_at dksX1_plan_3 23 rfl rfl)
theorem dX1_plan_93 : decode cX1_plan 93 = .ok (.aload_n 0, 1) := dk_42 (dk_at dksX1_plan_4 0 rfl rfl)
theorem dX1_plan_94 : decode cX1_plan 94 = .ok (.getfield 33, 3) := dk_180 0 33 (dk_at dksX1_plan_4 1 rfl rfl)
theorem dX1_plan_97 : decode cX1_plan 97 = .ok (.invokevirtual 122, 3) := dk_182 0 122 (dk_at dksX1_plan_4 4 rfl rfl)
theorem dX1_plan_100 : decode cX1_plan 100 = .ok (.iconst 1, 1) := dk_4 (dk_at dksX1_plan_4 7 rfl rfl)
theorem dX1_plan_101 : decode cX1_plan 101 = .ok (.isub, 1) := dk_100 (dk_at dksX1_plan_4 8 rfl rfl)
theorem dX1_plan_102 : decode cX1_plan 102 = .ok (.invokevirtual 58, 3) := dk_182 0 58 (dk_at dksX1_plan_4 9 rfl rfl)
theorem dX1_plan_105 : decode cX1_plan 105 = .ok (.ireturn, 1) := dk_172 (dk_at dksX1_plan_4 12 rfl rfl)
abbrev cX1_failing : ByteArray := prog_1_method_47_code
def yX1_failing : MethodName := ⟨RX1, "failing", "(IIII)I"⟩
def dkwX1_failing_6 : List UInt8 := [182, 0, 58, 172]
abbrev dktX1_failing_6 : List UInt8 := dkwX1_failing_6 ++ []
def dkwX1_failing_5 : List UInt8 := [181, 0, 39, 42, 25, 7, 180, 1, 85, 181, 0, 42, 132, 5, 1, 132, 6, 1, 167, 255, 184, 42, 21, 5]
abbrev dktX1_failing_5 : List UInt8 := dkwX1_failing_5 ++ dktX1_failing_6
def dkwX1_failing_4 : List UInt8 := [54, 8, 21, 8, 154, 0, 6, 167, 0, 32, 21, 5, 154, 0, 24, 42, 21, 6, 181, 0, 36, 42, 21, 8]
abbrev dktX1_failing_4 : List UInt8 := dkwX1_failing_4 ++ dktX1_failing_5
def dkwX1_failing_3 : List UInt8 := [182, 1, 25, 162, 0, 66, 42, 27, 28, 21, 6, 182, 1, 77, 58, 7, 25, 7, 29, 21, 4, 182, 1, 81]
abbrev dktX1_failing_3 : List UInt8 := dkwX1_failing_3 ++ dktX1_failing_4
def dkwX1_failing_2 : List UInt8 := [42, 16, 254, 181, 0, 39, 42, 16, 254, 181, 0, 42, 3, 54, 5, 3, 54, 6, 21, 6, 42, 180, 0, 112]
abbrev dktX1_failing_2 : List UInt8 := dkwX1_failing_2 ++ dktX1_failing_3
def dkwX1_failing_1 : List UInt8 := [21, 4, 3, 19, 1, 76, 184, 0, 80, 154, 0, 9, 42, 5, 182, 0, 52, 172, 42, 16, 254, 181, 0, 36]
abbrev dktX1_failing_1 : List UInt8 := dkwX1_failing_1 ++ dktX1_failing_2
def dkwX1_failing_0 : List UInt8 := [42, 27, 182, 1, 73, 153, 0, 12, 42, 28, 29, 182, 0, 232, 154, 0, 9, 42, 4, 182, 0, 52, 172]
abbrev dktX1_failing_0 : List UInt8 := dkwX1_failing_0 ++ dktX1_failing_1
theorem dksX1_failing_0 : cX1_failing.data.toList.drop 0 = dktX1_failing_0 := by decide +kernel
theorem dksX1_failing_1 : cX1_failing.data.toList.drop 23 = dktX1_failing_1 := dk_seg dksX1_failing_0 23 rfl rfl
theorem dksX1_failing_2 : cX1_failing.data.toList.drop 47 = dktX1_failing_2 := dk_seg dksX1_failing_1 24 rfl rfl
theorem dksX1_failing_3 : cX1_failing.data.toList.drop 71 = dktX1_failing_3 := dk_seg dksX1_failing_2 24 rfl rfl
theorem dksX1_failing_4 : cX1_failing.data.toList.drop 95 = dktX1_failing_4 := dk_seg dksX1_failing_3 24 rfl rfl
theorem dksX1_failing_5 : cX1_failing.data.toList.drop 119 = dktX1_failing_5 := dk_seg dksX1_failing_4 24 rfl rfl
theorem dksX1_failing_6 : cX1_failing.data.toList.drop 143 = dktX1_failing_6 := dk_seg dksX1_failing_5 24 rfl rfl
theorem dX1_failing_0 : decode cX1_failing 0 = .ok (.aload_n 0, 1) := dk_42 (dk_at dksX1_failing_0 0 rfl rfl)
theorem dX1_failing_1 : decode cX1_failing 1 = .ok (.iload_n 1, 1) := dk_27 (dk_at dksX1_failing_0 1 rfl rfl)
theorem dX1_failing_2 : decode cX1_failing 2 = .ok (.invokevirtual 329, 3) := dk_182 1 73 (dk_at dksX1_failing_0 2 rfl rfl)
theorem dX1_failing_5 : decode cX1_failing 5 = .ok (.ifCond .eq 12, 3) := dk_153 0 12 (dk_at dksX1_failing_0 5 rfl rfl)
theorem dX1_failing_8 : decode cX1_failing 8 = .ok (.aload_n 0, 1) := dk_42 (dk_at dksX1_failing_0 8 rfl rfl)
theorem dX1_failing_9 : decode cX1_failing 9 = .ok (.iload_n 2, 1) := dk_28 (dk_at dksX1_failing_0 9 rfl rfl)
theorem dX1_failing_10 : decode cX1_failing 10 = .ok (.iload_n 3, 1) := dk_29 (dk_at dksX1_failing_0 10 rfl rfl)
theorem dX1_failing_11 : decode cX1_failing 11 = .ok (.invokevirtual 232, 3) := dk_182 0 232 (dk_at dksX1_failing_0 11 rfl rfl)
theorem dX1_failing_14 : decode cX1_failing 14 = .ok (.ifCond .ne 9, 3) := dk_154 0 9 (dk_at dksX1_failing_0 14 rfl rfl)
theorem dX1_failing_17 : decode cX1_failing 17 = .ok (.aload_n 0, 1) := dk_42 (dk_at dksX1_failing_0 17 rfl rfl)
theorem dX1_failing_18 : decode cX1_failing 18 = .ok (.iconst 1, 1) := dk_4 (dk_at dksX1_failing_0 18 rfl rfl)
theorem dX1_failing_19 : decode cX1_failing 19 = .ok (.invokevirtual 52, 3) := dk_182 0 52 (dk_at dksX1_failing_0 19 rfl rfl)
theorem dX1_failing_22 : decode cX1_failing 22 = .ok (.ireturn, 1) := dk_172 (dk_at dksX1_failing_0 22 rfl rfl)
theorem dX1_failing_23 : decode cX1_failing 23 = .ok (.iload 4, 2) := dk_21 4 (dk_at dksX1_failing_1 0 rfl rfl)
theorem dX1_failing_25 : decode cX1_failing 25 = .ok (.iconst 0, 1) := dk_3 (dk_at dksX1_failing_1 2 rfl rfl)
theorem dX1_failing_26 : decode cX1_failing 26 = .ok (.ldc_w 332, 3) := dk_19 1 76 (dk_at dksX1_failing_1 3 rfl rfl)
theorem dX1_failing_29 : decode cX1_failing 29 = .ok (.invokestatic 80, 3) := dk_184 0 80 (dk_at dksX1_failing_1 6 rfl rfl)
theorem dX1_failing_32 : decode cX1_failing 32 = .ok (.ifCond .ne 9, 3) := dk_154 0 9 (dk_at dksX1_failing_1 9 rfl rfl)
theorem dX1_failing_35 : decode cX1_failing 35 = .ok (.aload_n 0, 1) := dk_42 (dk_at dksX1_failing_1 12 rfl rfl)
theorem dX1_failing_36 : decode cX1_failing 36 = .ok (.iconst 2, 1) := dk_5 (dk_at dksX1_failing_1 13 rfl rfl)
theorem dX1_failing_37 : decode cX1_failing 37 = .ok (.invokevirtual 52, 3) := dk_182 0 52 (dk_at dksX1_failing_1 14 rfl rfl)
theorem dX1_failing_40 : decode cX1_failing 40 = .ok (.ireturn, 1) := dk_172 (dk_at dksX1_failing_1 17 rfl rfl)
theorem dX1_failing_41 : decode cX1_failing 41 = .ok (.aload_n 0, 1) := dk_42 (dk_at dksX1_failing_1 18 rfl rfl)
theorem dX1_failing_42 : decode cX1_failing 42 = .ok (.bipush (-2), 2) := dk_16 254 (dk_at dksX1_failing_1 19 rfl rfl)
theorem dX1_failing_44 : decode cX1_failing 44 = .ok (.putfield 36, 3) := dk_181 0 36 (dk_at dksX1_failing_1 21 rfl rfl)
theorem dX1_failing_47 : decode cX1_failing 47 = .ok (.aload_n 0, 1) := dk_42 (dk_at dksX1_failing_2 0 rfl rfl)
theorem dX1_failing_48 : decode cX1_failing 48 = .ok (.bipush (-2), 2) := dk_16 254 (dk_at dksX1_failing_2 1 rfl rfl)
theorem dX1_failing_50 : decode cX1_failing 50 = .ok (.putfield 39, 3) := dk_181 0 39 (dk_at dksX1_failing_2 3 rfl rfl)
theorem dX1_failing_53 : decode cX1_failing 53 = .ok (.aload_n 0, 1) := dk_42 (dk_at dksX1_failing_2 6 rfl rfl)
theorem dX1_failing_54 : decode cX1_failing 54 = .ok (.bipush (-2), 2) := dk_16 254 (dk_at dksX1_failing_2 7 rfl rfl)
theorem dX1_failing_56 : decode cX1_failing 56 = .ok (.putfield 42, 3) := dk_181 0 42 (dk_at dksX1_failing_2 9 rfl rfl)
theorem dX1_failing_59 : decode cX1_failing 59 = .ok (.iconst 0, 1) := dk_3 (dk_at dksX1_failing_2 12 rfl rfl)
theorem dX1_failing_60 : decode cX1_failing 60 = .ok (.istore 5, 2) := dk_54 5 (dk_at dksX1_failing_2 13 rfl rfl)
theorem dX1_failing_62 : decode cX1_failing 62 = .ok (.iconst 0, 1) := dk_3 (dk_at dksX1_failing_2 15 rfl rfl)
theorem dX1_failing_63 : decode cX1_failing 63 = .ok (.istore 6, 2) := dk_54 6 (dk_at dksX1_failing_2 16 rfl rfl)
theorem dX1_failing_65 : decode cX1_failing 65 = .ok (.iload 6, 2) := dk_21 6 (dk_at dksX1_failing_2 18 rfl rfl)
theorem dX1_failing_67 : decode cX1_failing 67 = .ok (.aload_n 0, 1) := dk_42 (dk_at dksX1_failing_2 20 rfl rfl)
theorem dX1_failing_68 : decode cX1_failing 68 = .ok (.getfield 112, 3) := dk_180 0 112 (dk_at dksX1_failing_2 21 rfl rfl)
theorem dX1_failing_71 : decode cX1_failing 71 = .ok (.invokevirtual 281, 3) := dk_182 1 25 (dk_at dksX1_failing_3 0 rfl rfl)
theorem dX1_failing_74 : decode cX1_failing 74 = .ok (.if_icmp .ge 66, 3) := dk_162 0 66 (dk_at dksX1_failing_3 3 rfl rfl)
theorem dX1_failing_77 : decode cX1_failing 77 = .ok (.aload_n 0, 1) := dk_42 (dk_at dksX1_failing_3 6 rfl rfl)
theorem dX1_failing_78 : decode cX1_failing 78 = .ok (.iload_n 1, 1) := dk_27 (dk_at dksX1_failing_3 7 rfl rfl)
theorem dX1_failing_79 : decode cX1_failing 79 = .ok (.iload_n 2, 1) := dk_28 (dk_at dksX1_failing_3 8 rfl rfl)
theorem dX1_failing_80 : decode cX1_failing 80 = .ok (.iload 6, 2) := dk_21 6 (dk_at dksX1_failing_3 9 rfl rfl)
theorem dX1_failing_82 : decode cX1_failing 82 = .ok (.invokevirtual 333, 3) := dk_182 1 77 (dk_at dksX1_failing_3 11 rfl rfl)
theorem dX1_failing_85 : decode cX1_failing 85 = .ok (.astore 7, 2) := dk_58 7 (dk_at dksX1_failing_3 14 rfl rfl)
theorem dX1_failing_87 : decode cX1_failing 87 = .ok (.aload 7, 2) := dk_25 7 (dk_at dksX1_failing_3 16 rfl rfl)
theorem dX1_failing_89 : decode cX1_failing 89 = .ok (.iload_n 3, 1) := dk_29 (dk_at dksX1_failing_3 18 rfl rfl)
theorem dX1_failing_90 : decode cX1_failing 90 = .ok (.iload 4, 2) := dk_21 4 (dk_at dksX1_failing_3 19 rfl rfl)
theorem dX1_failing_92 : decode cX1_failing 92 = .ok (.invokevirtual 337, 3) := dk_182 1 81 (dk_at dksX1_failing_3 21 rfl rfl)
theorem dX1_failing_95 : decode cX1_failing 95 = .ok (.istore 8, 2) := dk_54 8 (dk_at dksX1_failing_4 0 rfl rfl)
theorem dX1_failing_97 : decode cX1_failing 97 = .ok (.iload 8, 2) := dk_21 8 (dk_at dksX1_failing_4 2 rfl rfl)
theorem dX1_failing_99 : decode cX1_failing 99 = .ok (.ifCond .ne 6, 3) := dk_154 0 6 (dk_at dksX1_failing_4 4 rfl rfl)
theorem dX1_failing_102 : decode cX1_failing 102 = .ok (.goto 32, 3) := dk_167 0 32 (dk_at dksX1_failing_4 7 rfl rfl)
theorem dX1_failing_105 : decode cX1_failing 105 = .ok (.iload 5, 2) := dk_21 5 (dk_at dksX1_failing_4 10 rfl rfl)
theorem dX1_failing_107 : decode cX1_failing 107 = .ok (.ifCond .ne 24, 3) := dk_154 0 24 (dk_at dksX1_failing_4 12 rfl rfl)
theorem dX1_failing_110 : decode cX1_failing 110 = .ok (.aload_n 0, 1) := dk_42 (dk_at dksX1_failing_4 15 rfl rfl)
theorem dX1_failing_111 : decode cX1_failing 111 = .ok (.iload 6, 2) := dk_21 6 (dk_at dksX1_failing_4 16 rfl rfl)
theorem dX1_failing_113 : decode cX1_failing 113 = .ok (.putfield 36, 3) := dk_181 0 36 (dk_at dksX1_failing_4 18 rfl rfl)
theorem dX1_failing_116 : decode cX1_failing 116 = .ok (.aload_n 0, 1) := dk_42 (dk_at dksX1_failing_4 21 rfl rfl)
theorem dX1_failing_117 : decode cX1_failing 117 = .ok (.iload 8, 2) := dk_21 8 (dk_at dksX1_failing_4 22 rfl rfl)
theorem dX1_failing_119 : decode cX1_failing 119 = .ok (.putfield 39, 3) := dk_181 0 39 (dk_at dksX1_failing_5 0 rfl rfl)
theorem dX1_failing_122 : decode cX1_failing 122 = .ok (.aload_n 0, 1) := dk_42 (dk_at dksX1_failing_5 3 rfl rfl)
theorem dX1_failing_123 : decode cX1_failing 123 = .ok (.aload 7, 2) := dk_25 7 (dk_at dksX1_failing_5 4 rfl rfl)
theorem dX1_failing_125 : decode cX1_failing 125 = .ok (.getfield 341, 3) := dk_180 1 85 (dk_at dksX1_failing_5 6 rfl rfl)
theorem dX1_failing_128 : decode cX1_failing 128 = .ok (.putfield 42, 3) := dk_181 0 42 (dk_at dksX1_failing_5 9 rfl rfl)
theorem dX1_failing_131 : decode cX1_failing 131 = .ok (.iinc 5 1, 3) := dk_132 5 1 (dk_at dksX1_failing_5 12 rfl rfl)
theorem dX1_failing_134 : decode cX1_failing 134 = .ok (.iinc 6 1, 3) := dk_132 6 1 (dk_at dksX1_failing_5 15 rfl rfl)
theorem dX1_failing_137 : decode cX1_failing 137 = .ok (.goto (-72), 3) := dk_167 255 184 (dk_at dksX1_failing_5 18 rfl rfl)
theorem dX1_failing_140 : decode cX1_failing 140 = .ok (.aload_n 0, 1) := dk_42 (dk_at dksX1_failing_5 21 rfl rfl)
theorem dX1_failing_141 : decode cX1_failing 141 = .ok (.iload 5, 2) := dk_21 5 (dk_at dksX1_failing_5 22 rfl rfl)
theorem dX1_failing_143 : decode cX1_failing 143 = .ok (.invokevirtual 58, 3) := dk_182 0 58 (dk_at dksX1_failing_6 0 rfl rfl)
theorem dX1_failing_146 : decode cX1_failing 146 = .ok (.ireturn, 1) := dk_172 (dk_at dksX1_failing_6 3 rfl rfl)
abbrev cX1_isPlan : ByteArray := prog_1_method_45_code
def yX1_isPlan : MethodName := ⟨RX1, "isPlan", "(I)Z"⟩
def dkwX1_isPlan_0 : List UInt8 := [27, 3, 42, 180, 0, 33, 182, 0, 122, 4, 100, 184, 0, 80, 172]
abbrev dktX1_isPlan_0 : List UInt8 := dkwX1_isPlan_0 ++ []
theorem dksX1_isPlan_0 : cX1_isPlan.data.toList.drop 0 = dktX1_isPlan_0 := by decide +kernel
theorem dX1_isPlan_0 : decode cX1_isPlan 0 = .ok (.iload_n 1, 1) := dk_27 (dk_at dksX1_isPlan_0 0 rfl rfl)
theorem dX1_isPlan_1 : decode cX1_isPlan 1 = .ok (.iconst 0, 1) := dk_3 (dk_at dksX1_isPlan_0 1 rfl rfl)
theorem dX1_isPlan_2 : decode cX1_isPlan 2 = .ok (.aload_n 0, 1) := dk_42 (dk_at dksX1_isPlan_0 2 rfl rfl)
theorem dX1_isPlan_3 : decode cX1_isPlan 3 = .ok (.getfield 33, 3) := dk_180 0 33 (dk_at dksX1_isPlan_0 3 rfl rfl)
theorem dX1_isPlan_6 : decode cX1_isPlan 6 = .ok (.invokevirtual 122, 3) := dk_182 0 122 (dk_at dksX1_isPlan_0 6 rfl rfl)
theorem dX1_isPlan_9 : decode cX1_isPlan 9 = .ok (.iconst 1, 1) := dk_4 (dk_at dksX1_isPlan_0 9 rfl rfl)
theorem dX1_isPlan_10 : decode cX1_isPlan 10 = .ok (.isub, 1) := dk_100 (dk_at dksX1_isPlan_0 10 rfl rfl)
theorem dX1_isPlan_11 : decode cX1_isPlan 11 = .ok (.invokestatic 80, 3) := dk_184 0 80 (dk_at dksX1_isPlan_0 11 rfl rfl)
theorem dX1_isPlan_14 : decode cX1_isPlan 14 = .ok (.ireturn, 1) := dk_172 (dk_at dksX1_isPlan_0 14 rfl rfl)
abbrev cX1_walk : ByteArray := prog_1_method_46_code
def yX1_walk : MethodName := ⟨RX1, "walk", "(III)LSoftWheels$Walk;"⟩
def dkwX1_walk_1 : List UInt8 := [42, 180, 0, 33, 27, 182, 0, 130, 192, 1, 67, 182, 1, 69, 176]
abbrev dktX1_walk_1 : List UInt8 := dkwX1_walk_1 ++ []
def dkwX1_walk_0 : List UInt8 := [187, 1, 62, 89, 42, 180, 0, 112, 42, 180, 0, 103, 28, 42, 180, 0, 112, 29, 182, 1, 28, 183, 1, 64]
abbrev dktX1_walk_0 : List UInt8 := dkwX1_walk_0 ++ dktX1_walk_1
theorem dksX1_walk_0 : cX1_walk.data.toList.drop 0 = dktX1_walk_0 := by decide +kernel
theorem dksX1_walk_1 : cX1_walk.data.toList.drop 24 = dktX1_walk_1 := dk_seg dksX1_walk_0 24 rfl rfl
theorem dX1_walk_0 : decode cX1_walk 0 = .ok (.new 318, 3) := dk_187 1 62 (dk_at dksX1_walk_0 0 rfl rfl)
theorem dX1_walk_3 : decode cX1_walk 3 = .ok (.dup, 1) := dk_89 (dk_at dksX1_walk_0 3 rfl rfl)
theorem dX1_walk_4 : decode cX1_walk 4 = .ok (.aload_n 0, 1) := dk_42 (dk_at dksX1_walk_0 4 rfl rfl)
theorem dX1_walk_5 : decode cX1_walk 5 = .ok (.getfield 112, 3) := dk_180 0 112 (dk_at dksX1_walk_0 5 rfl rfl)
theorem dX1_walk_8 : decode cX1_walk 8 = .ok (.aload_n 0, 1) := dk_42 (dk_at dksX1_walk_0 8 rfl rfl)
theorem dX1_walk_9 : decode cX1_walk 9 = .ok (.getfield 103, 3) := dk_180 0 103 (dk_at dksX1_walk_0 9 rfl rfl)
theorem dX1_walk_12 : decode cX1_walk 12 = .ok (.iload_n 2, 1) := dk_28 (dk_at dksX1_walk_0 12 rfl rfl)
theorem dX1_walk_13 : decode cX1_walk 13 = .ok (.aload_n 0, 1) := dk_42 (dk_at dksX1_walk_0 13 rfl rfl)
theorem dX1_walk_14 : decode cX1_walk 14 = .ok (.getfield 112, 3) := dk_180 0 112 (dk_at dksX1_walk_0 14 rfl rfl)
theorem dX1_walk_17 : decode cX1_walk 17 = .ok (.iload_n 3, 1) := dk_29 (dk_at dksX1_walk_0 17 rfl rfl)
theorem dX1_walk_18 : decode cX1_walk 18 = .ok (.invokevirtual 284, 3) := dk_182 1 28 (dk_at dksX1_walk_0 18 rfl rfl)
theorem dX1_walk_21 : decode cX1_walk 21 = .ok (.invokespecial 320, 3) := dk_183 1 64 (dk_at dksX1_walk_0 21 rfl rfl)
theorem dX1_walk_24 : decode cX1_walk 24 = .ok (.aload_n 0, 1) := dk_42 (dk_at dksX1_walk_1 0 rfl rfl)
theorem dX1_walk_25 : decode cX1_walk 25 = .ok (.getfield 33, 3) := dk_180 0 33 (dk_at dksX1_walk_1 1 rfl rfl)
theorem dX1_walk_28 : decode cX1_walk 28 = .ok (.iload_n 1, 1) := dk_27 (dk_at dksX1_walk_1 4 rfl rfl)
theorem dX1_walk_29 : decode cX1_walk 29 = .ok (.invokevirtual 130, 3) := dk_182 0 130 (dk_at dksX1_walk_1 5 rfl rfl)
theorem dX1_walk_32 : decode cX1_walk 32 = .ok (.checkcast 323, 3) := dk_192 1 67 (dk_at dksX1_walk_1 8 rfl rfl)
theorem dX1_walk_35 : decode cX1_walk 35 = .ok (.invokevirtual 325, 3) := dk_182 1 69 (dk_at dksX1_walk_1 11 rfl rfl)
theorem dX1_walk_38 : decode cX1_walk 38 = .ok (.areturn, 1) := dk_176 (dk_at dksX1_walk_1 14 rfl rfl)
abbrev cX1_first : ByteArray := prog_1_method_48_code
def yX1_first : MethodName := ⟨RX1, "first", "(I)I"⟩
def dkwX1_first_1 : List UInt8 := [5, 160, 0, 10, 42, 180, 0, 42, 167, 0, 4, 2, 172]
abbrev dktX1_first_1 : List UInt8 := dkwX1_first_1 ++ []
def dkwX1_first_0 : List UInt8 := [27, 154, 0, 10, 42, 180, 0, 36, 167, 0, 28, 27, 4, 160, 0, 10, 42, 180, 0, 39, 167, 0, 16, 27]
abbrev dktX1_first_0 : List UInt8 := dkwX1_first_0 ++ dktX1_first_1
theorem dksX1_first_0 : cX1_first.data.toList.drop 0 = dktX1_first_0 := by decide +kernel
theorem dksX1_first_1 : cX1_first.data.toList.drop 24 = dktX1_first_1 := dk_seg dksX1_first_0 24 rfl rfl
theorem dX1_first_0 : decode cX1_first 0 = .ok (.iload_n 1, 1) := dk_27 (dk_at dksX1_first_0 0 rfl rfl)
theorem dX1_first_1 : decode cX1_first 1 = .ok (.ifCond .ne 10, 3) := dk_154 0 10 (dk_at dksX1_first_0 1 rfl rfl)
theorem dX1_first_4 : decode cX1_first 4 = .ok (.aload_n 0, 1) := dk_42 (dk_at dksX1_first_0 4 rfl rfl)
theorem dX1_first_5 : decode cX1_first 5 = .ok (.getfield 36, 3) := dk_180 0 36 (dk_at dksX1_first_0 5 rfl rfl)
theorem dX1_first_8 : decode cX1_first 8 = .ok (.goto 28, 3) := dk_167 0 28 (dk_at dksX1_first_0 8 rfl rfl)
theorem dX1_first_11 : decode cX1_first 11 = .ok (.iload_n 1, 1) := dk_27 (dk_at dksX1_first_0 11 rfl rfl)
theorem dX1_first_12 : decode cX1_first 12 = .ok (.iconst 1, 1) := dk_4 (dk_at dksX1_first_0 12 rfl rfl)
theorem dX1_first_13 : decode cX1_first 13 = .ok (.if_icmp .ne 10, 3) := dk_160 0 10 (dk_at dksX1_first_0 13 rfl rfl)
theorem dX1_first_16 : decode cX1_first 16 = .ok (.aload_n 0, 1) := dk_42 (dk_at dksX1_first_0 16 rfl rfl)
theorem dX1_first_17 : decode cX1_first 17 = .ok (.getfield 39, 3) := dk_180 0 39 (dk_at dksX1_first_0 17 rfl rfl)
theorem dX1_first_20 : decode cX1_first 20 = .ok (.goto 16, 3) := dk_167 0 16 (dk_at dksX1_first_0 20 rfl rfl)
theorem dX1_first_23 : decode cX1_first 23 = .ok (.iload_n 1, 1) := dk_27 (dk_at dksX1_first_0 23 rfl rfl)
theorem dX1_first_24 : decode cX1_first 24 = .ok (.iconst 2, 1) := dk_5 (dk_at dksX1_first_1 0 rfl rfl)
theorem dX1_first_25 : decode cX1_first 25 = .ok (.if_icmp .ne 10, 3) := dk_160 0 10 (dk_at dksX1_first_1 1 rfl rfl)
theorem dX1_first_28 : decode cX1_first 28 = .ok (.aload_n 0, 1) := dk_42 (dk_at dksX1_first_1 4 rfl rfl)
theorem dX1_first_29 : decode cX1_first 29 = .ok (.getfield 42, 3) := dk_180 0 42 (dk_at dksX1_first_1 5 rfl rfl)
theorem dX1_first_32 : decode cX1_first 32 = .ok (.goto 4, 3) := dk_167 0 4 (dk_at dksX1_first_1 8 rfl rfl)
theorem dX1_first_35 : decode cX1_first 35 = .ok (.iconst (-1), 1) := dk_2 (dk_at dksX1_first_1 11 rfl rfl)
theorem dX1_first_36 : decode cX1_first 36 = .ok (.ireturn, 1) := dk_172 (dk_at dksX1_first_1 12 rfl rfl)
abbrev cX1_costs : ByteArray := prog_1_method_49_code
def yX1_costs : MethodName := ⟨RX1, "costs", "(III)I"⟩
def dkwX1_costs_4 : List UInt8 := [172]
abbrev dktX1_costs_4 : List UInt8 := dkwX1_costs_4 ++ []
def dkwX1_costs_3 : List UInt8 := [21, 4, 25, 6, 180, 1, 89, 184, 1, 90, 54, 4, 132, 5, 1, 167, 255, 200, 42, 21, 4, 182, 0, 58]
abbrev dktX1_costs_3 : List UInt8 := dkwX1_costs_3 ++ dktX1_costs_4
def dkwX1_costs_2 : List UInt8 := [182, 1, 77, 58, 6, 25, 6, 29, 19, 1, 88, 182, 1, 81, 153, 0, 10, 42, 16, 6, 182, 0, 52, 172]
abbrev dktX1_costs_2 : List UInt8 := dkwX1_costs_2 ++ dktX1_costs_3
def dkwX1_costs_1 : List UInt8 := [54, 4, 3, 54, 5, 21, 5, 42, 180, 0, 112, 182, 1, 25, 162, 0, 50, 42, 27, 28, 21, 5]
abbrev dktX1_costs_1 : List UInt8 := dkwX1_costs_1 ++ dktX1_costs_2
def dkwX1_costs_0 : List UInt8 := [42, 27, 182, 1, 73, 153, 0, 12, 42, 28, 29, 182, 0, 232, 154, 0, 9, 42, 4, 182, 0, 52, 172, 3]
abbrev dktX1_costs_0 : List UInt8 := dkwX1_costs_0 ++ dktX1_costs_1
theorem dksX1_costs_0 : cX1_costs.data.toList.drop 0 = dktX1_costs_0 := by decide +kernel
theorem dksX1_costs_1 : cX1_costs.data.toList.drop 24 = dktX1_costs_1 := dk_seg dksX1_costs_0 24 rfl rfl
theorem dksX1_costs_2 : cX1_costs.data.toList.drop 46 = dktX1_costs_2 := dk_seg dksX1_costs_1 22 rfl rfl
theorem dksX1_costs_3 : cX1_costs.data.toList.drop 70 = dktX1_costs_3 := dk_seg dksX1_costs_2 24 rfl rfl
theorem dksX1_costs_4 : cX1_costs.data.toList.drop 94 = dktX1_costs_4 := dk_seg dksX1_costs_3 24 rfl rfl
theorem dX1_costs_0 : decode cX1_costs 0 = .ok (.aload_n 0, 1) := dk_42 (dk_at dksX1_costs_0 0 rfl rfl)
theorem dX1_costs_1 : decode cX1_costs 1 = .ok (.iload_n 1, 1) := dk_27 (dk_at dksX1_costs_0 1 rfl rfl)
theorem dX1_costs_2 : decode cX1_costs 2 = .ok (.invokevirtual 329, 3) := dk_182 1 73 (dk_at dksX1_costs_0 2 rfl rfl)
theorem dX1_costs_5 : decode cX1_costs 5 = .ok (.ifCond .eq 12, 3) := dk_153 0 12 (dk_at dksX1_costs_0 5 rfl rfl)
theorem dX1_costs_8 : decode cX1_costs 8 = .ok (.aload_n 0, 1) := dk_42 (dk_at dksX1_costs_0 8 rfl rfl)
theorem dX1_costs_9 : decode cX1_costs 9 = .ok (.iload_n 2, 1) := dk_28 (dk_at dksX1_costs_0 9 rfl rfl)
theorem dX1_costs_10 : decode cX1_costs 10 = .ok (.iload_n 3, 1) := dk_29 (dk_at dksX1_costs_0 10 rfl rfl)
theorem dX1_costs_11 : decode cX1_costs 11 = .ok (.invokevirtual 232, 3) := dk_182 0 232 (dk_at dksX1_costs_0 11 rfl rfl)
theorem dX1_costs_14 : decode cX1_costs 14 = .ok (.ifCond .ne 9, 3) := dk_154 0 9 (dk_at dksX1_costs_0 14 rfl rfl)
theorem dX1_costs_17 : decode cX1_costs 17 = .ok (.aload_n 0, 1) := dk_42 (dk_at dksX1_costs_0 17 rfl rfl)
theorem dX1_costs_18 : decode cX1_costs 18 = .ok (.iconst 1, 1) := dk_4 (dk_at dksX1_costs_0 18 rfl rfl)
theorem dX1_costs_19 : decode cX1_costs 19 = .ok (.invokevirtual 52, 3) := dk_182 0 52 (dk_at dksX1_costs_0 19 rfl rfl)
theorem dX1_costs_22 : decode cX1_costs 22 = .ok (.ireturn, 1) := dk_172 (dk_at dksX1_costs_0 22 rfl rfl)
theorem dX1_costs_23 : decode cX1_costs 23 = .ok (.iconst 0, 1) := dk_3 (dk_at dksX1_costs_0 23 rfl rfl)
theorem dX1_costs_24 : decode cX1_costs 24 = .ok (.istore 4, 2) := dk_54 4 (dk_at dksX1_costs_1 0 rfl rfl)
theorem dX1_costs_26 : decode cX1_costs 26 = .ok (.iconst 0, 1) := dk_3 (dk_at dksX1_costs_1 2 rfl rfl)
theorem dX1_costs_27 : decode cX1_costs 27 = .ok (.istore 5, 2) := dk_54 5 (dk_at dksX1_costs_1 3 rfl rfl)
theorem dX1_costs_29 : decode cX1_costs 29 = .ok (.iload 5, 2) := dk_21 5 (dk_at dksX1_costs_1 5 rfl rfl)
theorem dX1_costs_31 : decode cX1_costs 31 = .ok (.aload_n 0, 1) := dk_42 (dk_at dksX1_costs_1 7 rfl rfl)
theorem dX1_costs_32 : decode cX1_costs 32 = .ok (.getfield 112, 3) := dk_180 0 112 (dk_at dksX1_costs_1 8 rfl rfl)
theorem dX1_costs_35 : decode cX1_costs 35 = .ok (.invokevirtual 281, 3) := dk_182 1 25 (dk_at dksX1_costs_1 11 rfl rfl)
theorem dX1_costs_38 : decode cX1_costs 38 = .ok (.if_icmp .ge 50, 3) := dk_162 0 50 (dk_at dksX1_costs_1 14 rfl rfl)
theorem dX1_costs_41 : decode cX1_costs 41 = .ok (.aload_n 0, 1) := dk_42 (dk_at dksX1_costs_1 17 rfl rfl)
theorem dX1_costs_42 : decode cX1_costs 42 = .ok (.iload_n 1, 1) := dk_27 (dk_at dksX1_costs_1 18 rfl rfl)
theorem dX1_costs_43 : decode cX1_costs 43 = .ok (.iload_n 2, 1) := dk_28 (dk_at dksX1_costs_1 19 rfl rfl)
theorem dX1_costs_44 : decode cX1_costs 44 = .ok (.iload 5, 2) := dk_21 5 (dk_at dksX1_costs_1 20 rfl rfl)
theorem dX1_costs_46 : decode cX1_costs 46 = .ok (.invokevirtual 333, 3) := dk_182 1 77 (dk_at dksX1_costs_2 0 rfl rfl)
theorem dX1_costs_49 : decode cX1_costs 49 = .ok (.astore 6, 2) := dk_58 6 (dk_at dksX1_costs_2 3 rfl rfl)
theorem dX1_costs_51 : decode cX1_costs 51 = .ok (.aload 6, 2) := dk_25 6 (dk_at dksX1_costs_2 5 rfl rfl)
theorem dX1_costs_53 : decode cX1_costs 53 = .ok (.iload_n 3, 1) := dk_29 (dk_at dksX1_costs_2 7 rfl rfl)
theorem dX1_costs_54 : decode cX1_costs 54 = .ok (.ldc_w 344, 3) := dk_19 1 88 (dk_at dksX1_costs_2 8 rfl rfl)
theorem dX1_costs_57 : decode cX1_costs 57 = .ok (.invokevirtual 337, 3) := dk_182 1 81 (dk_at dksX1_costs_2 11 rfl rfl)
theorem dX1_costs_60 : decode cX1_costs 60 = .ok (.ifCond .eq 10, 3) := dk_153 0 10 (dk_at dksX1_costs_2 14 rfl rfl)
theorem dX1_costs_63 : decode cX1_costs 63 = .ok (.aload_n 0, 1) := dk_42 (dk_at dksX1_costs_2 17 rfl rfl)
theorem dX1_costs_64 : decode cX1_costs 64 = .ok (.bipush 6, 2) := dk_16 6 (dk_at dksX1_costs_2 18 rfl rfl)
theorem dX1_costs_66 : decode cX1_costs 66 = .ok (.invokevirtual 52, 3) := dk_182 0 52 (dk_at dksX1_costs_2 20 rfl rfl)
theorem dX1_costs_69 : decode cX1_costs 69 = .ok (.ireturn, 1) := dk_172 (dk_at dksX1_costs_2 23 rfl rfl)
theorem dX1_costs_70 : decode cX1_costs 70 = .ok (.iload 4, 2) := dk_21 4 (dk_at dksX1_costs_3 0 rfl rfl)
theorem dX1_costs_72 : decode cX1_costs 72 = .ok (.aload 6, 2) := dk_25 6 (dk_at dksX1_costs_3 2 rfl rfl)
theorem dX1_costs_74 : decode cX1_costs 74 = .ok (.getfield 345, 3) := dk_180 1 89 (dk_at dksX1_costs_3 4 rfl rfl)
theorem dX1_costs_77 : decode cX1_costs 77 = .ok (.invokestatic 346, 3) := dk_184 1 90 (dk_at dksX1_costs_3 7 rfl rfl)
theorem dX1_costs_80 : decode cX1_costs 80 = .ok (.istore 4, 2) := dk_54 4 (dk_at dksX1_costs_3 10 rfl rfl)
theorem dX1_costs_82 : decode cX1_costs 82 = .ok (.iinc 5 1, 3) := dk_132 5 1 (dk_at dksX1_costs_3 12 rfl rfl)
theorem dX1_costs_85 : decode cX1_costs 85 = .ok (.goto (-56), 3) := dk_167 255 200 (dk_at dksX1_costs_3 15 rfl rfl)
theorem dX1_costs_88 : decode cX1_costs 88 = .ok (.aload_n 0, 1) := dk_42 (dk_at dksX1_costs_3 18 rfl rfl)
theorem dX1_costs_89 : decode cX1_costs 89 = .ok (.iload 4, 2) := dk_21 4 (dk_at dksX1_costs_3 19 rfl rfl)
theorem dX1_costs_91 : decode cX1_costs 91 = .ok (.invokevirtual 58, 3) := dk_182 0 58 (dk_at dksX1_costs_3 21 rfl rfl)
theorem dX1_costs_94 : decode cX1_costs 94 = .ok (.ireturn, 1) := dk_172 (dk_at dksX1_costs_4 0 rfl rfl)
abbrev cX1_dig : ByteArray := prog_1_method_50_code
def yX1_dig : MethodName := ⟨RX1, "dig", "(II)Z"⟩
def dkwX1_dig_2 : List UInt8 := [180, 0, 45, 27, 28, 79, 42, 182, 0, 154, 172]
abbrev dktX1_dig_2 : List UInt8 := dkwX1_dig_2 ++ []
def dkwX1_dig_1 : List UInt8 := [42, 4, 182, 0, 148, 172, 28, 3, 7, 184, 0, 80, 154, 0, 9, 42, 5, 182, 0, 148, 172, 42]
abbrev dktX1_dig_1 : List UInt8 := dkwX1_dig_1 ++ dktX1_dig_2
def dkwX1_dig_0 : List UInt8 := [42, 180, 0, 95, 198, 0, 20, 27, 3, 42, 180, 0, 95, 180, 0, 151, 4, 100, 184, 0, 80, 154, 0, 9]
abbrev dktX1_dig_0 : List UInt8 := dkwX1_dig_0 ++ dktX1_dig_1
theorem dksX1_dig_0 : cX1_dig.data.toList.drop 0 = dktX1_dig_0 := by decide +kernel
theorem dksX1_dig_1 : cX1_dig.data.toList.drop 24 = dktX1_dig_1 := dk_seg dksX1_dig_0 24 rfl rfl
theorem dksX1_dig_2 : cX1_dig.data.toList.drop 46 = dktX1_dig_2 := dk_seg dksX1_dig_1 22 rfl rfl
theorem dX1_dig_0 : decode cX1_dig 0 = .ok (.aload_n 0, 1) := dk_42 (dk_at dksX1_dig_0 0 rfl rfl)
theorem dX1_dig_1 : decode cX1_dig 1 = .ok (.getfield 95, 3) := dk_180 0 95 (dk_at dksX1_dig_0 1 rfl rfl)
theorem dX1_dig_4 : decode cX1_dig 4 = .ok (.ifnull 20, 3) := dk_198 0 20 (dk_at dksX1_dig_0 4 rfl rfl)
theorem dX1_dig_7 : decode cX1_dig 7 = .ok (.iload_n 1, 1) := dk_27 (dk_at dksX1_dig_0 7 rfl rfl)
theorem dX1_dig_8 : decode cX1_dig 8 = .ok (.iconst 0, 1) := dk_3 (dk_at dksX1_dig_0 8 rfl rfl)
theorem dX1_dig_9 : decode cX1_dig 9 = .ok (.aload_n 0, 1) := dk_42 (dk_at dksX1_dig_0 9 rfl rfl)
theorem dX1_dig_10 : decode cX1_dig 10 = .ok (.getfield 95, 3) := dk_180 0 95 (dk_at dksX1_dig_0 10 rfl rfl)
theorem dX1_dig_13 : decode cX1_dig 13 = .ok (.getfield 151, 3) := dk_180 0 151 (dk_at dksX1_dig_0 13 rfl rfl)
theorem dX1_dig_16 : decode cX1_dig 16 = .ok (.iconst 1, 1) := dk_4 (dk_at dksX1_dig_0 16 rfl rfl)
theorem dX1_dig_17 : decode cX1_dig 17 = .ok (.isub, 1) := dk_100 (dk_at dksX1_dig_0 17 rfl rfl)
theorem dX1_dig_18 : decode cX1_dig 18 = .ok (.invokestatic 80, 3) := dk_184 0 80 (dk_at dksX1_dig_0 18 rfl rfl)
theorem dX1_dig_21 : decode cX1_dig 21 = .ok (.ifCond .ne 9, 3) := dk_154 0 9 (dk_at dksX1_dig_0 21 rfl rfl)
theorem dX1_dig_24 : decode cX1_dig 24 = .ok (.aload_n 0, 1) := dk_42 (dk_at dksX1_dig_1 0 rfl rfl)
theorem dX1_dig_25 : decode cX1_dig 25 = .ok (.iconst 1, 1) := dk_4 (dk_at dksX1_dig_1 1 rfl rfl)
theorem dX1_dig_26 : decode cX1_dig 26 = .ok (.invokevirtual 148, 3) := dk_182 0 148 (dk_at dksX1_dig_1 2 rfl rfl)
theorem dX1_dig_29 : decode cX1_dig 29 = .ok (.ireturn, 1) := dk_172 (dk_at dksX1_dig_1 5 rfl rfl)
theorem dX1_dig_30 : decode cX1_dig 30 = .ok (.iload_n 2, 1) := dk_28 (dk_at dksX1_dig_1 6 rfl rfl)
theorem dX1_dig_31 : decode cX1_dig 31 = .ok (.iconst 0, 1) := dk_3 (dk_at dksX1_dig_1 7 rfl rfl)
theorem dX1_dig_32 : decode cX1_dig 32 = .ok (.iconst 4, 1) := dk_7 (dk_at dksX1_dig_1 8 rfl rfl)
theorem dX1_dig_33 : decode cX1_dig 33 = .ok (.invokestatic 80, 3) := dk_184 0 80 (dk_at dksX1_dig_1 9 rfl rfl)
theorem dX1_dig_36 : decode cX1_dig 36 = .ok (.ifCond .ne 9, 3) := dk_154 0 9 (dk_at dksX1_dig_1 12 rfl rfl)
theorem dX1_dig_39 : decode cX1_dig 39 = .ok (.aload_n 0, 1) := dk_42 (dk_at dksX1_dig_1 15 rfl rfl)
theorem dX1_dig_40 : decode cX1_dig 40 = .ok (.iconst 2, 1) := dk_5 (dk_at dksX1_dig_1 16 rfl rfl)
theorem dX1_dig_41 : decode cX1_dig 41 = .ok (.invokevirtual 148, 3) := dk_182 0 148 (dk_at dksX1_dig_1 17 rfl rfl)
theorem dX1_dig_44 : decode cX1_dig 44 = .ok (.ireturn, 1) := dk_172 (dk_at dksX1_dig_1 20 rfl rfl)
theorem dX1_dig_45 : decode cX1_dig 45 = .ok (.aload_n 0, 1) := dk_42 (dk_at dksX1_dig_1 21 rfl rfl)
theorem dX1_dig_46 : decode cX1_dig 46 = .ok (.getfield 45, 3) := dk_180 0 45 (dk_at dksX1_dig_2 0 rfl rfl)
theorem dX1_dig_49 : decode cX1_dig 49 = .ok (.iload_n 1, 1) := dk_27 (dk_at dksX1_dig_2 3 rfl rfl)
theorem dX1_dig_50 : decode cX1_dig 50 = .ok (.iload_n 2, 1) := dk_28 (dk_at dksX1_dig_2 4 rfl rfl)
theorem dX1_dig_51 : decode cX1_dig 51 = .ok (.iastore, 1) := dk_79 (dk_at dksX1_dig_2 5 rfl rfl)
theorem dX1_dig_52 : decode cX1_dig 52 = .ok (.aload_n 0, 1) := dk_42 (dk_at dksX1_dig_2 6 rfl rfl)
theorem dX1_dig_53 : decode cX1_dig 53 = .ok (.invokevirtual 154, 3) := dk_182 0 154 (dk_at dksX1_dig_2 7 rfl rfl)
theorem dX1_dig_56 : decode cX1_dig 56 = .ok (.ireturn, 1) := dk_172 (dk_at dksX1_dig_2 10 rfl rfl)
abbrev cX1_out : ByteArray := prog_1_method_53_code
def yX1_out : MethodName := ⟨RX1, "out", "()I"⟩
def dkwX1_out_2 : List UInt8 := [136, 182, 0, 58, 172]
abbrev dktX1_out_2 : List UInt8 := dkwX1_out_2 ++ []
def dkwX1_out_1 : List UInt8 := [47, 64, 31, 20, 1, 112, 148, 154, 0, 12, 42, 16, 6, 182, 0, 52, 167, 0, 12, 42, 31, 16, 20, 123]
abbrev dktX1_out_1 : List UInt8 := dkwX1_out_1 ++ dktX1_out_2
def dkwX1_out_0 : List UInt8 := [42, 180, 0, 95, 199, 0, 9, 42, 4, 182, 0, 52, 172, 42, 182, 1, 102, 180, 1, 105, 42, 182, 1, 109]
abbrev dktX1_out_0 : List UInt8 := dkwX1_out_0 ++ dktX1_out_1
theorem dksX1_out_0 : cX1_out.data.toList.drop 0 = dktX1_out_0 := by decide +kernel
theorem dksX1_out_1 : cX1_out.data.toList.drop 24 = dktX1_out_1 := dk_seg dksX1_out_0 24 rfl rfl
theorem dksX1_out_2 : cX1_out.data.toList.drop 48 = dktX1_out_2 := dk_seg dksX1_out_1 24 rfl rfl
theorem dX1_out_0 : decode cX1_out 0 = .ok (.aload_n 0, 1) := dk_42 (dk_at dksX1_out_0 0 rfl rfl)
theorem dX1_out_1 : decode cX1_out 1 = .ok (.getfield 95, 3) := dk_180 0 95 (dk_at dksX1_out_0 1 rfl rfl)
theorem dX1_out_4 : decode cX1_out 4 = .ok (.ifnonnull 9, 3) := dk_199 0 9 (dk_at dksX1_out_0 4 rfl rfl)
theorem dX1_out_7 : decode cX1_out 7 = .ok (.aload_n 0, 1) := dk_42 (dk_at dksX1_out_0 7 rfl rfl)
theorem dX1_out_8 : decode cX1_out 8 = .ok (.iconst 1, 1) := dk_4 (dk_at dksX1_out_0 8 rfl rfl)
theorem dX1_out_9 : decode cX1_out 9 = .ok (.invokevirtual 52, 3) := dk_182 0 52 (dk_at dksX1_out_0 9 rfl rfl)
theorem dX1_out_12 : decode cX1_out 12 = .ok (.ireturn, 1) := dk_172 (dk_at dksX1_out_0 12 rfl rfl)
theorem dX1_out_13 : decode cX1_out 13 = .ok (.aload_n 0, 1) := dk_42 (dk_at dksX1_out_0 13 rfl rfl)
theorem dX1_out_14 : decode cX1_out 14 = .ok (.invokevirtual 358, 3) := dk_182 1 102 (dk_at dksX1_out_0 14 rfl rfl)
theorem dX1_out_17 : decode cX1_out 17 = .ok (.getfield 361, 3) := dk_180 1 105 (dk_at dksX1_out_0 17 rfl rfl)
theorem dX1_out_20 : decode cX1_out 20 = .ok (.aload_n 0, 1) := dk_42 (dk_at dksX1_out_0 20 rfl rfl)
theorem dX1_out_21 : decode cX1_out 21 = .ok (.invokevirtual 365, 3) := dk_182 1 109 (dk_at dksX1_out_0 21 rfl rfl)
theorem dX1_out_24 : decode cX1_out 24 = .ok (.laload, 1) := dk_47 (dk_at dksX1_out_1 0 rfl rfl)
theorem dX1_out_25 : decode cX1_out 25 = .ok (.lstore_n 1, 1) := dk_64 (dk_at dksX1_out_1 1 rfl rfl)
theorem dX1_out_26 : decode cX1_out 26 = .ok (.lload_n 1, 1) := dk_31 (dk_at dksX1_out_1 2 rfl rfl)
theorem dX1_out_27 : decode cX1_out 27 = .ok (.ldc2_w 368, 3) := dk_20 1 112 (dk_at dksX1_out_1 3 rfl rfl)
theorem dX1_out_30 : decode cX1_out 30 = .ok (.lcmp, 1) := dk_148 (dk_at dksX1_out_1 6 rfl rfl)
theorem dX1_out_31 : decode cX1_out 31 = .ok (.ifCond .ne 12, 3) := dk_154 0 12 (dk_at dksX1_out_1 7 rfl rfl)
theorem dX1_out_34 : decode cX1_out 34 = .ok (.aload_n 0, 1) := dk_42 (dk_at dksX1_out_1 10 rfl rfl)
theorem dX1_out_35 : decode cX1_out 35 = .ok (.bipush 6, 2) := dk_16 6 (dk_at dksX1_out_1 11 rfl rfl)
theorem dX1_out_37 : decode cX1_out 37 = .ok (.invokevirtual 52, 3) := dk_182 0 52 (dk_at dksX1_out_1 13 rfl rfl)
theorem dX1_out_40 : decode cX1_out 40 = .ok (.goto 12, 3) := dk_167 0 12 (dk_at dksX1_out_1 16 rfl rfl)
theorem dX1_out_43 : decode cX1_out 43 = .ok (.aload_n 0, 1) := dk_42 (dk_at dksX1_out_1 19 rfl rfl)
theorem dX1_out_44 : decode cX1_out 44 = .ok (.lload_n 1, 1) := dk_31 (dk_at dksX1_out_1 20 rfl rfl)
theorem dX1_out_45 : decode cX1_out 45 = .ok (.bipush 20, 2) := dk_16 20 (dk_at dksX1_out_1 21 rfl rfl)
theorem dX1_out_47 : decode cX1_out 47 = .ok (.lshr, 1) := dk_123 (dk_at dksX1_out_1 23 rfl rfl)
theorem dX1_out_48 : decode cX1_out 48 = .ok (.l2i, 1) := dk_136 (dk_at dksX1_out_2 0 rfl rfl)
theorem dX1_out_49 : decode cX1_out 49 = .ok (.invokevirtual 58, 3) := dk_182 0 58 (dk_at dksX1_out_2 1 rfl rfl)
theorem dX1_out_52 : decode cX1_out 52 = .ok (.ireturn, 1) := dk_172 (dk_at dksX1_out_2 4 rfl rfl)
abbrev cX1_pit : ByteArray := prog_1_method_51_code
def yX1_pit : MethodName := ⟨RX1, "pit", "()LSoftWheels$Pit;"⟩
def dkwX1_pit_1 : List UInt8 := [187, 1, 97, 89, 42, 180, 0, 95, 183, 1, 99, 181, 1, 92, 42, 180, 1, 92, 176]
abbrev dktX1_pit_1 : List UInt8 := dkwX1_pit_1 ++ []
def dkwX1_pit_0 : List UInt8 := [42, 180, 1, 92, 198, 0, 17, 42, 180, 1, 92, 180, 1, 96, 42, 180, 0, 95, 165, 0, 18, 42]
abbrev dktX1_pit_0 : List UInt8 := dkwX1_pit_0 ++ dktX1_pit_1
theorem dksX1_pit_0 : cX1_pit.data.toList.drop 0 = dktX1_pit_0 := by decide +kernel
theorem dksX1_pit_1 : cX1_pit.data.toList.drop 22 = dktX1_pit_1 := dk_seg dksX1_pit_0 22 rfl rfl
theorem dX1_pit_0 : decode cX1_pit 0 = .ok (.aload_n 0, 1) := dk_42 (dk_at dksX1_pit_0 0 rfl rfl)
theorem dX1_pit_1 : decode cX1_pit 1 = .ok (.getfield 348, 3) := dk_180 1 92 (dk_at dksX1_pit_0 1 rfl rfl)
theorem dX1_pit_4 : decode cX1_pit 4 = .ok (.ifnull 17, 3) := dk_198 0 17 (dk_at dksX1_pit_0 4 rfl rfl)
theorem dX1_pit_7 : decode cX1_pit 7 = .ok (.aload_n 0, 1) := dk_42 (dk_at dksX1_pit_0 7 rfl rfl)
theorem dX1_pit_8 : decode cX1_pit 8 = .ok (.getfield 348, 3) := dk_180 1 92 (dk_at dksX1_pit_0 8 rfl rfl)
theorem dX1_pit_11 : decode cX1_pit 11 = .ok (.getfield 352, 3) := dk_180 1 96 (dk_at dksX1_pit_0 11 rfl rfl)
theorem dX1_pit_14 : decode cX1_pit 14 = .ok (.aload_n 0, 1) := dk_42 (dk_at dksX1_pit_0 14 rfl rfl)
theorem dX1_pit_15 : decode cX1_pit 15 = .ok (.getfield 95, 3) := dk_180 0 95 (dk_at dksX1_pit_0 15 rfl rfl)
theorem dX1_pit_18 : decode cX1_pit 18 = .ok (.if_acmp .eq 18, 3) := dk_165 0 18 (dk_at dksX1_pit_0 18 rfl rfl)
theorem dX1_pit_21 : decode cX1_pit 21 = .ok (.aload_n 0, 1) := dk_42 (dk_at dksX1_pit_0 21 rfl rfl)
theorem dX1_pit_22 : decode cX1_pit 22 = .ok (.new 353, 3) := dk_187 1 97 (dk_at dksX1_pit_1 0 rfl rfl)
theorem dX1_pit_25 : decode cX1_pit 25 = .ok (.dup, 1) := dk_89 (dk_at dksX1_pit_1 3 rfl rfl)
theorem dX1_pit_26 : decode cX1_pit 26 = .ok (.aload_n 0, 1) := dk_42 (dk_at dksX1_pit_1 4 rfl rfl)
theorem dX1_pit_27 : decode cX1_pit 27 = .ok (.getfield 95, 3) := dk_180 0 95 (dk_at dksX1_pit_1 5 rfl rfl)
theorem dX1_pit_30 : decode cX1_pit 30 = .ok (.invokespecial 355, 3) := dk_183 1 99 (dk_at dksX1_pit_1 8 rfl rfl)
theorem dX1_pit_33 : decode cX1_pit 33 = .ok (.putfield 348, 3) := dk_181 1 92 (dk_at dksX1_pit_1 11 rfl rfl)
theorem dX1_pit_36 : decode cX1_pit 36 = .ok (.aload_n 0, 1) := dk_42 (dk_at dksX1_pit_1 14 rfl rfl)
theorem dX1_pit_37 : decode cX1_pit 37 = .ok (.getfield 348, 3) := dk_180 1 92 (dk_at dksX1_pit_1 15 rfl rfl)
theorem dX1_pit_40 : decode cX1_pit 40 = .ok (.areturn, 1) := dk_176 (dk_at dksX1_pit_1 18 rfl rfl)
abbrev cX1_state : ByteArray := prog_1_method_52_code
def yX1_state : MethodName := ⟨RX1, "state", "()I"⟩
def dkwX1_state_1 : List UInt8 := [46, 96, 60, 132, 2, 255, 167, 255, 238, 27, 172]
abbrev dktX1_state_1 : List UInt8 := dkwX1_state_1 ++ []
def dkwX1_state_0 : List UInt8 := [3, 60, 42, 180, 0, 95, 180, 0, 151, 4, 100, 61, 28, 155, 0, 20, 8, 27, 104, 42, 180, 0, 45, 28]
abbrev dktX1_state_0 : List UInt8 := dkwX1_state_0 ++ dktX1_state_1
theorem dksX1_state_0 : cX1_state.data.toList.drop 0 = dktX1_state_0 := by decide +kernel
theorem dksX1_state_1 : cX1_state.data.toList.drop 24 = dktX1_state_1 := dk_seg dksX1_state_0 24 rfl rfl
theorem dX1_state_0 : decode cX1_state 0 = .ok (.iconst 0, 1) := dk_3 (dk_at dksX1_state_0 0 rfl rfl)
theorem dX1_state_1 : decode cX1_state 1 = .ok (.istore_n 1, 1) := dk_60 (dk_at dksX1_state_0 1 rfl rfl)
theorem dX1_state_2 : decode cX1_state 2 = .ok (.aload_n 0, 1) := dk_42 (dk_at dksX1_state_0 2 rfl rfl)
theorem dX1_state_3 : decode cX1_state 3 = .ok (.getfield 95, 3) := dk_180 0 95 (dk_at dksX1_state_0 3 rfl rfl)
theorem dX1_state_6 : decode cX1_state 6 = .ok (.getfield 151, 3) := dk_180 0 151 (dk_at dksX1_state_0 6 rfl rfl)
theorem dX1_state_9 : decode cX1_state 9 = .ok (.iconst 1, 1) := dk_4 (dk_at dksX1_state_0 9 rfl rfl)
theorem dX1_state_10 : decode cX1_state 10 = .ok (.isub, 1) := dk_100 (dk_at dksX1_state_0 10 rfl rfl)
theorem dX1_state_11 : decode cX1_state 11 = .ok (.istore_n 2, 1) := dk_61 (dk_at dksX1_state_0 11 rfl rfl)
theorem dX1_state_12 : decode cX1_state 12 = .ok (.iload_n 2, 1) := dk_28 (dk_at dksX1_state_0 12 rfl rfl)
theorem dX1_state_13 : decode cX1_state 13 = .ok (.ifCond .lt 20, 3) := dk_155 0 20 (dk_at dksX1_state_0 13 rfl rfl)
theorem dX1_state_16 : decode cX1_state 16 = .ok (.iconst 5, 1) := dk_8 (dk_at dksX1_state_0 16 rfl rfl)
theorem dX1_state_17 : decode cX1_state 17 = .ok (.iload_n 1, 1) := dk_27 (dk_at dksX1_state_0 17 rfl rfl)
theorem dX1_state_18 : decode cX1_state 18 = .ok (.imul, 1) := dk_104 (dk_at dksX1_state_0 18 rfl rfl)
theorem dX1_state_19 : decode cX1_state 19 = .ok (.aload_n 0, 1) := dk_42 (dk_at dksX1_state_0 19 rfl rfl)
theorem dX1_state_20 : decode cX1_state 20 = .ok (.getfield 45, 3) := dk_180 0 45 (dk_at dksX1_state_0 20 rfl rfl)
theorem dX1_state_23 : decode cX1_state 23 = .ok (.iload_n 2, 1) := dk_28 (dk_at dksX1_state_0 23 rfl rfl)
theorem dX1_state_24 : decode cX1_state 24 = .ok (.iaload, 1) := dk_46 (dk_at dksX1_state_1 0 rfl rfl)
theorem dX1_state_25 : decode cX1_state 25 = .ok (.iadd, 1) := dk_96 (dk_at dksX1_state_1 1 rfl rfl)
theorem dX1_state_26 : decode cX1_state 26 = .ok (.istore_n 1, 1) := dk_60 (dk_at dksX1_state_1 2 rfl rfl)
theorem dX1_state_27 : decode cX1_state 27 = .ok (.iinc 2 (-1), 3) := dk_132 2 255 (dk_at dksX1_state_1 3 rfl rfl)
theorem dX1_state_30 : decode cX1_state 30 = .ok (.goto (-18), 3) := dk_167 255 238 (dk_at dksX1_state_1 6 rfl rfl)
theorem dX1_state_33 : decode cX1_state 33 = .ok (.iload_n 1, 1) := dk_27 (dk_at dksX1_state_1 9 rfl rfl)
theorem dX1_state_34 : decode cX1_state 34 = .ok (.ireturn, 1) := dk_172 (dk_at dksX1_state_1 10 rfl rfl)
abbrev cX1_tryAt : ByteArray := prog_1_method_54_code
def yX1_tryAt : MethodName := ⟨RX1, "tryAt", "(I)I"⟩
def dkwX1_tryAt_8 : List UInt8 := [182, 0, 58, 172, 21, 6, 62, 132, 4, 1, 167, 255, 113, 42, 16, 254, 182, 0, 58, 172]
abbrev dktX1_tryAt_8 : List UInt8 := dkwX1_tryAt_8 ++ []
def dkwX1_tryAt_7 : List UInt8 := [180, 0, 151, 112, 96, 54, 5, 132, 7, 1, 167, 255, 148, 21, 4, 27, 160, 0, 10, 42, 21, 5]
abbrev dktX1_tryAt_7 : List UInt8 := dkwX1_tryAt_7 ++ dktX1_tryAt_8
def dkwX1_tryAt_6 : List UInt8 := [154, 0, 29, 16, 10, 21, 7, 42, 180, 0, 95, 180, 0, 151, 108, 104, 21, 7, 42, 180, 0, 95]
abbrev dktX1_tryAt_6 : List UInt8 := dkwX1_tryAt_6 ++ dktX1_tryAt_7
def dkwX1_tryAt_5 : List UInt8 := [180, 1, 105, 21, 6, 47, 44, 21, 7, 182, 1, 117, 184, 1, 125, 97, 44, 180, 1, 105, 29, 47, 148]
abbrev dktX1_tryAt_5 : List UInt8 := dkwX1_tryAt_5 ++ dktX1_tryAt_6
def dkwX1_tryAt_4 : List UInt8 := [180, 0, 151, 112, 182, 1, 121, 54, 6, 44, 180, 1, 105, 21, 6, 47, 20, 1, 112, 148, 153, 0, 56, 44]
abbrev dktX1_tryAt_4 : List UInt8 := dkwX1_tryAt_4 ++ dktX1_tryAt_5
def dkwX1_tryAt_3 : List UInt8 := [162, 0, 105, 21, 5, 2, 160, 0, 99, 44, 29, 44, 21, 7, 182, 1, 117, 21, 7, 42, 180, 0, 95]
abbrev dktX1_tryAt_3 : List UInt8 := dkwX1_tryAt_3 ++ dktX1_tryAt_4
def dkwX1_tryAt_2 : List UInt8 := [3, 54, 4, 29, 153, 0, 145, 2, 54, 5, 29, 54, 6, 3, 54, 7, 21, 7, 44, 182, 1, 114]
abbrev dktX1_tryAt_2 : List UInt8 := dkwX1_tryAt_2 ++ dktX1_tryAt_3
def dkwX1_tryAt_1 : List UInt8 := [182, 1, 109, 62, 44, 180, 1, 105, 29, 47, 20, 1, 112, 148, 154, 0, 10, 42, 16, 254, 182, 0, 58, 172]
abbrev dktX1_tryAt_1 : List UInt8 := dkwX1_tryAt_1 ++ dktX1_tryAt_2
def dkwX1_tryAt_0 : List UInt8 := [42, 180, 0, 95, 198, 0, 7, 27, 156, 0, 9, 42, 4, 182, 0, 52, 172, 42, 182, 1, 102, 77, 42]
abbrev dktX1_tryAt_0 : List UInt8 := dkwX1_tryAt_0 ++ dktX1_tryAt_1
theorem dksX1_tryAt_0 : cX1_tryAt.data.toList.drop 0 = dktX1_tryAt_0 := by decide +kernel
theorem dksX1_tryAt_1 : cX1_tryAt.data.toList.drop 23 = dktX1_tryAt_1 := dk_seg dksX1_tryAt_0 23 rfl rfl
theorem dksX1_tryAt_2 : cX1_tryAt.data.toList.drop 47 = dktX1_tryAt_2 := dk_seg dksX1_tryAt_1 24 rfl rfl
theorem dksX1_tryAt_3 : cX1_tryAt.data.toList.drop 69 = dktX1_tryAt_3 := dk_seg dksX1_tryAt_2 22 rfl rfl
theorem dksX1_tryAt_4 : cX1_tryAt.data.toList.drop 92 = dktX1_tryAt_4 := dk_seg dksX1_tryAt_3 23 rfl rfl
theorem dksX1_tryAt_5 : cX1_tryAt.data.toList.drop 116 = dktX1_tryAt_5 := dk_seg dksX1_tryAt_4 24 rfl rfl
theorem dksX1_tryAt_6 : cX1_tryAt.data.toList.drop 139 = dktX1_tryAt_6 := dk_seg dksX1_tryAt_5 23 rfl rfl
theorem dksX1_tryAt_7 : cX1_tryAt.data.toList.drop 161 = dktX1_tryAt_7 := dk_seg dksX1_tryAt_6 22 rfl rfl
theorem dksX1_tryAt_8 : cX1_tryAt.data.toList.drop 183 = dktX1_tryAt_8 := dk_seg dksX1_tryAt_7 22 rfl rfl
theorem dX1_tryAt_0 : decode cX1_tryAt 0 = .ok (.aload_n 0, 1) := dk_42 (dk_at dksX1_tryAt_0 0 rfl rfl)
theorem dX1_tryAt_1 : decode cX1_tryAt 1 = .ok (.getfield 95, 3) := dk_180 0 95 (dk_at dksX1_tryAt_0 1 rfl rfl)
theorem dX1_tryAt_4 : decode cX1_tryAt 4 = .ok (.ifnull 7, 3) := dk_198 0 7 (dk_at dksX1_tryAt_0 4 rfl rfl)
theorem dX1_tryAt_7 : decode cX1_tryAt 7 = .ok (.iload_n 1, 1) := dk_27 (dk_at dksX1_tryAt_0 7 rfl rfl)
theorem dX1_tryAt_8 : decode cX1_tryAt 8 = .ok (.ifCond .ge 9, 3) := dk_156 0 9 (dk_at dksX1_tryAt_0 8 rfl rfl)
theorem dX1_tryAt_11 : decode cX1_tryAt 11 = .ok (.aload_n 0, 1) := dk_42 (dk_at dksX1_tryAt_0 11 rfl rfl)
theorem dX1_tryAt_12 : decode cX1_tryAt 12 = .ok (.iconst 1, 1) := dk_4 (dk_at dksX1_tryAt_0 12 rfl rfl)
theorem dX1_tryAt_13 : decode cX1_tryAt 13 = .ok (.invokevirtual 52, 3) := dk_182 0 52 (dk_at dksX1_tryAt_0 13 rfl rfl)
theorem dX1_tryAt_16 : decode cX1_tryAt 16 = .ok (.ireturn, 1) := dk_172 (dk_at dksX1_tryAt_0 16 rfl rfl)
theorem dX1_tryAt_17 : decode cX1_tryAt 17 = .ok (.aload_n 0, 1) := dk_42 (dk_at dksX1_tryAt_0 17 rfl rfl)
theorem dX1_tryAt_18 : decode cX1_tryAt 18 = .ok (.invokevirtual 358, 3) := dk_182 1 102 (dk_at dksX1_tryAt_0 18 rfl rfl)
theorem dX1_tryAt_21 : decode cX1_tryAt 21 = .ok (.astore_n 2, 1) := dk_77 (dk_at dksX1_tryAt_0 21 rfl rfl)
theorem dX1_tryAt_22 : decode cX1_tryAt 22 = .ok (.aload_n 0, 1) := dk_42 (dk_at dksX1_tryAt_0 22 rfl rfl)
theorem dX1_tryAt_23 : decode cX1_tryAt 23 = .ok (.invokevirtual 365, 3) := dk_182 1 109 (dk_at dksX1_tryAt_1 0 rfl rfl)
theorem dX1_tryAt_26 : decode cX1_tryAt 26 = .ok (.istore_n 3, 1) := dk_62 (dk_at dksX1_tryAt_1 3 rfl rfl)
theorem dX1_tryAt_27 : decode cX1_tryAt 27 = .ok (.aload_n 2, 1) := dk_44 (dk_at dksX1_tryAt_1 4 rfl rfl)
theorem dX1_tryAt_28 : decode cX1_tryAt 28 = .ok (.getfield 361, 3) := dk_180 1 105 (dk_at dksX1_tryAt_1 5 rfl rfl)
theorem dX1_tryAt_31 : decode cX1_tryAt 31 = .ok (.iload_n 3, 1) := dk_29 (dk_at dksX1_tryAt_1 8 rfl rfl)
theorem dX1_tryAt_32 : decode cX1_tryAt 32 = .ok (.laload, 1) := dk_47 (dk_at dksX1_tryAt_1 9 rfl rfl)
theorem dX1_tryAt_33 : decode cX1_tryAt 33 = .ok (.ldc2_w 368, 3) := dk_20 1 112 (dk_at dksX1_tryAt_1 10 rfl rfl)
theorem dX1_tryAt_36 : decode cX1_tryAt 36 = .ok (.lcmp, 1) := dk_148 (dk_at dksX1_tryAt_1 13 rfl rfl)
theorem dX1_tryAt_37 : decode cX1_tryAt 37 = .ok (.ifCond .ne 10, 3) := dk_154 0 10 (dk_at dksX1_tryAt_1 14 rfl rfl)
theorem dX1_tryAt_40 : decode cX1_tryAt 40 = .ok (.aload_n 0, 1) := dk_42 (dk_at dksX1_tryAt_1 17 rfl rfl)
theorem dX1_tryAt_41 : decode cX1_tryAt 41 = .ok (.bipush (-2), 2) := dk_16 254 (dk_at dksX1_tryAt_1 18 rfl rfl)
theorem dX1_tryAt_43 : decode cX1_tryAt 43 = .ok (.invokevirtual 58, 3) := dk_182 0 58 (dk_at dksX1_tryAt_1 20 rfl rfl)
theorem dX1_tryAt_46 : decode cX1_tryAt 46 = .ok (.ireturn, 1) := dk_172 (dk_at dksX1_tryAt_1 23 rfl rfl)
theorem dX1_tryAt_47 : decode cX1_tryAt 47 = .ok (.iconst 0, 1) := dk_3 (dk_at dksX1_tryAt_2 0 rfl rfl)
theorem dX1_tryAt_48 : decode cX1_tryAt 48 = .ok (.istore 4, 2) := dk_54 4 (dk_at dksX1_tryAt_2 1 rfl rfl)
theorem dX1_tryAt_50 : decode cX1_tryAt 50 = .ok (.iload_n 3, 1) := dk_29 (dk_at dksX1_tryAt_2 3 rfl rfl)
theorem dX1_tryAt_51 : decode cX1_tryAt 51 = .ok (.ifCond .eq 145, 3) := dk_153 0 145 (dk_at dksX1_tryAt_2 4 rfl rfl)
theorem dX1_tryAt_54 : decode cX1_tryAt 54 = .ok (.iconst (-1), 1) := dk_2 (dk_at dksX1_tryAt_2 7 rfl rfl)
theorem dX1_tryAt_55 : decode cX1_tryAt 55 = .ok (.istore 5, 2) := dk_54 5 (dk_at dksX1_tryAt_2 8 rfl rfl)
theorem dX1_tryAt_57 : decode cX1_tryAt 57 = .ok (.iload_n 3, 1) := dk_29 (dk_at dksX1_tryAt_2 10 rfl rfl)
theorem dX1_tryAt_58 : decode cX1_tryAt 58 = .ok (.istore 6, 2) := dk_54 6 (dk_at dksX1_tryAt_2 11 rfl rfl)
theorem dX1_tryAt_60 : decode cX1_tryAt 60 = .ok (.iconst 0, 1) := dk_3 (dk_at dksX1_tryAt_2 13 rfl rfl)
theorem dX1_tryAt_61 : decode cX1_tryAt 61 = .ok (.istore 7, 2) := dk_54 7 (dk_at dksX1_tryAt_2 14 rfl rfl)
theorem dX1_tryAt_63 : decode cX1_tryAt 63 = .ok (.iload 7, 2) := dk_21 7 (dk_at dksX1_tryAt_2 16 rfl rfl)
theorem dX1_tryAt_65 : decode cX1_tryAt 65 = .ok (.aload_n 2, 1) := dk_44 (dk_at dksX1_tryAt_2 18 rfl rfl)
theorem dX1_tryAt_66 : decode cX1_tryAt 66 = .ok (.invokevirtual 370, 3) := dk_182 1 114 (dk_at dksX1_tryAt_2 19 rfl rfl)
theorem dX1_tryAt_69 : decode cX1_tryAt 69 = .ok (.if_icmp .ge 105, 3) := dk_162 0 105 (dk_at dksX1_tryAt_3 0 rfl rfl)
theorem dX1_tryAt_72 : decode cX1_tryAt 72 = .ok (.iload 5, 2) := dk_21 5 (dk_at dksX1_tryAt_3 3 rfl rfl)
theorem dX1_tryAt_74 : decode cX1_tryAt 74 = .ok (.iconst (-1), 1) := dk_2 (dk_at dksX1_tryAt_3 5 rfl rfl)
theorem dX1_tryAt_75 : decode cX1_tryAt 75 = .ok (.if_icmp .ne 99, 3) := dk_160 0 99 (dk_at dksX1_tryAt_3 6 rfl rfl)
theorem dX1_tryAt_78 : decode cX1_tryAt 78 = .ok (.aload_n 2, 1) := dk_44 (dk_at dksX1_tryAt_3 9 rfl rfl)
theorem dX1_tryAt_79 : decode cX1_tryAt 79 = .ok (.iload_n 3, 1) := dk_29 (dk_at dksX1_tryAt_3 10 rfl rfl)
theorem dX1_tryAt_80 : decode cX1_tryAt 80 = .ok (.aload_n 2, 1) := dk_44 (dk_at dksX1_tryAt_3 11 rfl rfl)
theorem dX1_tryAt_81 : decode cX1_tryAt 81 = .ok (.iload 7, 2) := dk_21 7 (dk_at dksX1_tryAt_3 12 rfl rfl)
theorem dX1_tryAt_83 : decode cX1_tryAt 83 = .ok (.invokevirtual 373, 3) := dk_182 1 117 (dk_at dksX1_tryAt_3 14 rfl rfl)
theorem dX1_tryAt_86 : decode cX1_tryAt 86 = .ok (.iload 7, 2) := dk_21 7 (dk_at dksX1_tryAt_3 17 rfl rfl)
theorem dX1_tryAt_88 : decode cX1_tryAt 88 = .ok (.aload_n 0, 1) := dk_42 (dk_at dksX1_tryAt_3 19 rfl rfl)
theorem dX1_tryAt_89 : decode cX1_tryAt 89 = .ok (.getfield 95, 3) := dk_180 0 95 (dk_at dksX1_tryAt_3 20 rfl rfl)
theorem dX1_tryAt_92 : decode cX1_tryAt 92 = .ok (.getfield 151, 3) := dk_180 0 151 (dk_at dksX1_tryAt_4 0 rfl rfl)
theorem dX1_tryAt_95 : decode cX1_tryAt 95 = .ok (.irem, 1) := dk_112 (dk_at dksX1_tryAt_4 3 rfl rfl)
theorem dX1_tryAt_96 : decode cX1_tryAt 96 = .ok (.invokevirtual 377, 3) := dk_182 1 121 (dk_at dksX1_tryAt_4 4 rfl rfl)
theorem dX1_tryAt_99 : decode cX1_tryAt 99 = .ok (.istore 6, 2) := dk_54 6 (dk_at dksX1_tryAt_4 7 rfl rfl)
theorem dX1_tryAt_101 : decode cX1_tryAt 101 = .ok (.aload_n 2, 1) := dk_44 (dk_at dksX1_tryAt_4 9 rfl rfl)
theorem dX1_tryAt_102 : decode cX1_tryAt 102 = .ok (.getfield 361, 3) := dk_180 1 105 (dk_at dksX1_tryAt_4 10 rfl rfl)
theorem dX1_tryAt_105 : decode cX1_tryAt 105 = .ok (.iload 6, 2) := dk_21 6 (dk_at dksX1_tryAt_4 13 rfl rfl)
theorem dX1_tryAt_107 : decode cX1_tryAt 107 = .ok (.laload, 1) := dk_47 (dk_at dksX1_tryAt_4 15 rfl rfl)
theorem dX1_tryAt_108 : decode cX1_tryAt 108 = .ok (.ldc2_w 368, 3) := dk_20 1 112 (dk_at dksX1_tryAt_4 16 rfl rfl)
theorem dX1_tryAt_111 : decode cX1_tryAt 111 = .ok (.lcmp, 1) := dk_148 (dk_at dksX1_tryAt_4 19 rfl rfl)
theorem dX1_tryAt_112 : decode cX1_tryAt 112 = .ok (.ifCond .eq 56, 3) := dk_153 0 56 (dk_at dksX1_tryAt_4 20 rfl rfl)
theorem dX1_tryAt_115 : decode cX1_tryAt 115 = .ok (.aload_n 2, 1) := dk_44 (dk_at dksX1_tryAt_4 23 rfl rfl)
theorem dX1_tryAt_116 : decode cX1_tryAt 116 = .ok (.getfield 361, 3) := dk_180 1 105 (dk_at dksX1_tryAt_5 0 rfl rfl)
theorem dX1_tryAt_119 : decode cX1_tryAt 119 = .ok (.iload 6, 2) := dk_21 6 (dk_at dksX1_tryAt_5 3 rfl rfl)
theorem dX1_tryAt_121 : decode cX1_tryAt 121 = .ok (.laload, 1) := dk_47 (dk_at dksX1_tryAt_5 5 rfl rfl)
theorem dX1_tryAt_122 : decode cX1_tryAt 122 = .ok (.aload_n 2, 1) := dk_44 (dk_at dksX1_tryAt_5 6 rfl rfl)
theorem dX1_tryAt_123 : decode cX1_tryAt 123 = .ok (.iload 7, 2) := dk_21 7 (dk_at dksX1_tryAt_5 7 rfl rfl)
theorem dX1_tryAt_125 : decode cX1_tryAt 125 = .ok (.invokevirtual 373, 3) := dk_182 1 117 (dk_at dksX1_tryAt_5 9 rfl rfl)
theorem dX1_tryAt_128 : decode cX1_tryAt 128 = .ok (.invokestatic 381, 3) := dk_184 1 125 (dk_at dksX1_tryAt_5 12 rfl rfl)
theorem dX1_tryAt_131 : decode cX1_tryAt 131 = .ok (.ladd, 1) := dk_97 (dk_at dksX1_tryAt_5 15 rfl rfl)
theorem dX1_tryAt_132 : decode cX1_tryAt 132 = .ok (.aload_n 2, 1) := dk_44 (dk_at dksX1_tryAt_5 16 rfl rfl)
theorem dX1_tryAt_133 : decode cX1_tryAt 133 = .ok (.getfield 361, 3) := dk_180 1 105 (dk_at dksX1_tryAt_5 17 rfl rfl)
theorem dX1_tryAt_136 : decode cX1_tryAt 136 = .ok (.iload_n 3, 1) := dk_29 (dk_at dksX1_tryAt_5 20 rfl rfl)
theorem dX1_tryAt_137 : decode cX1_tryAt 137 = .ok (.laload, 1) := dk_47 (dk_at dksX1_tryAt_5 21 rfl rfl)
theorem dX1_tryAt_138 : decode cX1_tryAt 138 = .ok (.lcmp, 1) := dk_148 (dk_at dksX1_tryAt_5 22 rfl rfl)
theorem dX1_tryAt_139 : decode cX1_tryAt 139 = .ok (.ifCond .ne 29, 3) := dk_154 0 29 (dk_at dksX1_tryAt_6 0 rfl rfl)
theorem dX1_tryAt_142 : decode cX1_tryAt 142 = .ok (.bipush 10, 2) := dk_16 10 (dk_at dksX1_tryAt_6 3 rfl rfl)
theorem dX1_tryAt_144 : decode cX1_tryAt 144 = .ok (.iload 7, 2) := dk_21 7 (dk_at dksX1_tryAt_6 5 rfl rfl)
theorem dX1_tryAt_146 : decode cX1_tryAt 146 = .ok (.aload_n 0, 1) := dk_42 (dk_at dksX1_tryAt_6 7 rfl rfl)
theorem dX1_tryAt_147 : decode cX1_tryAt 147 = .ok (.getfield 95, 3) := dk_180 0 95 (dk_at dksX1_tryAt_6 8 rfl rfl)
theorem dX1_tryAt_150 : decode cX1_tryAt 150 = .ok (.getfield 151, 3) := dk_180 0 151 (dk_at dksX1_tryAt_6 11 rfl rfl)
theorem dX1_tryAt_153 : decode cX1_tryAt 153 = .ok (.idiv, 1) := dk_108 (dk_at dksX1_tryAt_6 14 rfl rfl)
theorem dX1_tryAt_154 : decode cX1_tryAt 154 = .ok (.imul, 1) := dk_104 (dk_at dksX1_tryAt_6 15 rfl rfl)
theorem dX1_tryAt_155 : decode cX1_tryAt 155 = .ok (.iload 7, 2) := dk_21 7 (dk_at dksX1_tryAt_6 16 rfl rfl)
theorem dX1_tryAt_157 : decode cX1_tryAt 157 = .ok (.aload_n 0, 1) := dk_42 (dk_at dksX1_tryAt_6 18 rfl rfl)
theorem dX1_tryAt_158 : decode cX1_tryAt 158 = .ok (.getfield 95, 3) := dk_180 0 95 (dk_at dksX1_tryAt_6 19 rfl rfl)
theorem dX1_tryAt_161 : decode cX1_tryAt 161 = .ok (.getfield 151, 3) := dk_180 0 151 (dk_at dksX1_tryAt_7 0 rfl rfl)
theorem dX1_tryAt_164 : decode cX1_tryAt 164 = .ok (.irem, 1) := dk_112 (dk_at dksX1_tryAt_7 3 rfl rfl)
theorem dX1_tryAt_165 : decode cX1_tryAt 165 = .ok (.iadd, 1) := dk_96 (dk_at dksX1_tryAt_7 4 rfl rfl)
theorem dX1_tryAt_166 : decode cX1_tryAt 166 = .ok (.istore 5, 2) := dk_54 5 (dk_at dksX1_tryAt_7 5 rfl rfl)
theorem dX1_tryAt_168 : decode cX1_tryAt 168 = .ok (.iinc 7 1, 3) := dk_132 7 1 (dk_at dksX1_tryAt_7 7 rfl rfl)
theorem dX1_tryAt_171 : decode cX1_tryAt 171 = .ok (.goto (-108), 3) := dk_167 255 148 (dk_at dksX1_tryAt_7 10 rfl rfl)
theorem dX1_tryAt_174 : decode cX1_tryAt 174 = .ok (.iload 4, 2) := dk_21 4 (dk_at dksX1_tryAt_7 13 rfl rfl)
theorem dX1_tryAt_176 : decode cX1_tryAt 176 = .ok (.iload_n 1, 1) := dk_27 (dk_at dksX1_tryAt_7 15 rfl rfl)
theorem dX1_tryAt_177 : decode cX1_tryAt 177 = .ok (.if_icmp .ne 10, 3) := dk_160 0 10 (dk_at dksX1_tryAt_7 16 rfl rfl)
theorem dX1_tryAt_180 : decode cX1_tryAt 180 = .ok (.aload_n 0, 1) := dk_42 (dk_at dksX1_tryAt_7 19 rfl rfl)
theorem dX1_tryAt_181 : decode cX1_tryAt 181 = .ok (.iload 5, 2) := dk_21 5 (dk_at dksX1_tryAt_7 20 rfl rfl)
theorem dX1_tryAt_183 : decode cX1_tryAt 183 = .ok (.invokevirtual 58, 3) := dk_182 0 58 (dk_at dksX1_tryAt_8 0 rfl rfl)
theorem dX1_tryAt_186 : decode cX1_tryAt 186 = .ok (.ireturn, 1) := dk_172 (dk_at dksX1_tryAt_8 3 rfl rfl)
theorem dX1_tryAt_187 : decode cX1_tryAt 187 = .ok (.iload 6, 2) := dk_21 6 (dk_at dksX1_tryAt_8 4 rfl rfl)
theorem dX1_tryAt_189 : decode cX1_tryAt 189 = .ok (.istore_n 3, 1) := dk_62 (dk_at dksX1_tryAt_8 6 rfl rfl)
theorem dX1_tryAt_190 : decode cX1_tryAt 190 = .ok (.iinc 4 1, 3) := dk_132 4 1 (dk_at dksX1_tryAt_8 7 rfl rfl)
theorem dX1_tryAt_193 : decode cX1_tryAt 193 = .ok (.goto (-143), 3) := dk_167 255 113 (dk_at dksX1_tryAt_8 10 rfl rfl)
theorem dX1_tryAt_196 : decode cX1_tryAt 196 = .ok (.aload_n 0, 1) := dk_42 (dk_at dksX1_tryAt_8 13 rfl rfl)
theorem dX1_tryAt_197 : decode cX1_tryAt 197 = .ok (.bipush (-2), 2) := dk_16 254 (dk_at dksX1_tryAt_8 14 rfl rfl)
theorem dX1_tryAt_199 : decode cX1_tryAt 199 = .ok (.invokevirtual 58, 3) := dk_182 0 58 (dk_at dksX1_tryAt_8 16 rfl rfl)
theorem dX1_tryAt_202 : decode cX1_tryAt 202 = .ok (.ireturn, 1) := dk_172 (dk_at dksX1_tryAt_8 19 rfl rfl)
abbrev cX1_make : ByteArray := prog_1_method_56_code
def yX1_make : MethodName := ⟨RX1, "make", "(II)I"⟩
def dkwX1_make_5 : List UInt8 := [184, 1, 90, 79, 132, 4, 1, 167, 255, 201, 42, 42, 182, 1, 142, 182, 0, 58, 172]
abbrev dktX1_make_5 : List UInt8 := dkwX1_make_5 ++ []
def dkwX1_make_4 : List UInt8 := [46, 21, 4, 28, 160, 0, 10, 45, 182, 1, 133, 167, 0, 7, 45, 182, 1, 136, 96, 184, 1, 139]
abbrev dktX1_make_4 : List UInt8 := dkwX1_make_4 ++ dktX1_make_5
def dkwX1_make_3 : List UInt8 := [42, 180, 0, 95, 180, 0, 151, 162, 0, 49, 42, 180, 0, 45, 21, 4, 3, 7, 42, 180, 0, 45, 21, 4]
abbrev dktX1_make_3 : List UInt8 := dkwX1_make_3 ++ dktX1_make_4
def dkwX1_make_2 : List UInt8 := [182, 0, 52, 172, 42, 180, 0, 95, 180, 1, 128, 27, 182, 0, 130, 192, 1, 131, 78, 3, 54, 4, 21, 4]
abbrev dktX1_make_2 : List UInt8 := dkwX1_make_2 ++ dktX1_make_3
def dkwX1_make_1 : List UInt8 := [153, 0, 20, 28, 3, 42, 180, 0, 95, 180, 0, 151, 4, 100, 184, 0, 80, 154, 0, 9, 42, 4]
abbrev dktX1_make_1 : List UInt8 := dkwX1_make_1 ++ dktX1_make_2
def dkwX1_make_0 : List UInt8 := [42, 180, 0, 95, 198, 0, 40, 27, 3, 42, 180, 0, 95, 180, 1, 128, 182, 0, 122, 4, 100, 184, 0, 80]
abbrev dktX1_make_0 : List UInt8 := dkwX1_make_0 ++ dktX1_make_1
theorem dksX1_make_0 : cX1_make.data.toList.drop 0 = dktX1_make_0 := by decide +kernel
theorem dksX1_make_1 : cX1_make.data.toList.drop 24 = dktX1_make_1 := dk_seg dksX1_make_0 24 rfl rfl
theorem dksX1_make_2 : cX1_make.data.toList.drop 46 = dktX1_make_2 := dk_seg dksX1_make_1 22 rfl rfl
theorem dksX1_make_3 : cX1_make.data.toList.drop 70 = dktX1_make_3 := dk_seg dksX1_make_2 24 rfl rfl
theorem dksX1_make_4 : cX1_make.data.toList.drop 94 = dktX1_make_4 := dk_seg dksX1_make_3 24 rfl rfl
theorem dksX1_make_5 : cX1_make.data.toList.drop 116 = dktX1_make_5 := dk_seg dksX1_make_4 22 rfl rfl
theorem dX1_make_0 : decode cX1_make 0 = .ok (.aload_n 0, 1) := dk_42 (dk_at dksX1_make_0 0 rfl rfl)
theorem dX1_make_1 : decode cX1_make 1 = .ok (.getfield 95, 3) := dk_180 0 95 (dk_at dksX1_make_0 1 rfl rfl)
theorem dX1_make_4 : decode cX1_make 4 = .ok (.ifnull 40, 3) := dk_198 0 40 (dk_at dksX1_make_0 4 rfl rfl)
theorem dX1_make_7 : decode cX1_make 7 = .ok (.iload_n 1, 1) := dk_27 (dk_at dksX1_make_0 7 rfl rfl)
theorem dX1_make_8 : decode cX1_make 8 = .ok (.iconst 0, 1) := dk_3 (dk_at dksX1_make_0 8 rfl rfl)
theorem dX1_make_9 : decode cX1_make 9 = .ok (.aload_n 0, 1) := dk_42 (dk_at dksX1_make_0 9 rfl rfl)
theorem dX1_make_10 : decode cX1_make 10 = .ok (.getfield 95, 3) := dk_180 0 95 (dk_at dksX1_make_0 10 rfl rfl)
theorem dX1_make_13 : decode cX1_make 13 = .ok (.getfield 384, 3) := dk_180 1 128 (dk_at dksX1_make_0 13 rfl rfl)
theorem dX1_make_16 : decode cX1_make 16 = .ok (.invokevirtual 122, 3) := dk_182 0 122 (dk_at dksX1_make_0 16 rfl rfl)
theorem dX1_make_19 : decode cX1_make 19 = .ok (.iconst 1, 1) := dk_4 (dk_at dksX1_make_0 19 rfl rfl)
theorem dX1_make_20 : decode cX1_make 20 = .ok (.isub, 1) := dk_100 (dk_at dksX1_make_0 20 rfl rfl)
theorem dX1_make_21 : decode cX1_make 21 = .ok (.invokestatic 80, 3) := dk_184 0 80 (dk_at dksX1_make_0 21 rfl rfl)
theorem dX1_make_24 : decode cX1_make 24 = .ok (.ifCond .eq 20, 3) := dk_153 0 20 (dk_at dksX1_make_1 0 rfl rfl)
theorem dX1_make_27 : decode cX1_make 27 = .ok (.iload_n 2, 1) := dk_28 (dk_at dksX1_make_1 3 rfl rfl)
theorem dX1_make_28 : decode cX1_make 28 = .ok (.iconst 0, 1) := dk_3 (dk_at dksX1_make_1 4 rfl rfl)
theorem dX1_make_29 : decode cX1_make 29 = .ok (.aload_n 0, 1) := dk_42 (dk_at dksX1_make_1 5 rfl rfl)
theorem dX1_make_30 : decode cX1_make 30 = .ok (.getfield 95, 3) := dk_180 0 95 (dk_at dksX1_make_1 6 rfl rfl)
theorem dX1_make_33 : decode cX1_make 33 = .ok (.getfield 151, 3) := dk_180 0 151 (dk_at dksX1_make_1 9 rfl rfl)
theorem dX1_make_36 : decode cX1_make 36 = .ok (.iconst 1, 1) := dk_4 (dk_at dksX1_make_1 12 rfl rfl)
theorem dX1_make_37 : decode cX1_make 37 = .ok (.isub, 1) := dk_100 (dk_at dksX1_make_1 13 rfl rfl)
theorem dX1_make_38 : decode cX1_make 38 = .ok (.invokestatic 80, 3) := dk_184 0 80 (dk_at dksX1_make_1 14 rfl rfl)
theorem dX1_make_41 : decode cX1_make 41 = .ok (.ifCond .ne 9, 3) := dk_154 0 9 (dk_at dksX1_make_1 17 rfl rfl)
theorem dX1_make_44 : decode cX1_make 44 = .ok (.aload_n 0, 1) := dk_42 (dk_at dksX1_make_1 20 rfl rfl)
theorem dX1_make_45 : decode cX1_make 45 = .ok (.iconst 1, 1) := dk_4 (dk_at dksX1_make_1 21 rfl rfl)
theorem dX1_make_46 : decode cX1_make 46 = .ok (.invokevirtual 52, 3) := dk_182 0 52 (dk_at dksX1_make_2 0 rfl rfl)
theorem dX1_make_49 : decode cX1_make 49 = .ok (.ireturn, 1) := dk_172 (dk_at dksX1_make_2 3 rfl rfl)
theorem dX1_make_50 : decode cX1_make 50 = .ok (.aload_n 0, 1) := dk_42 (dk_at dksX1_make_2 4 rfl rfl)
theorem dX1_make_51 : decode cX1_make 51 = .ok (.getfield 95, 3) := dk_180 0 95 (dk_at dksX1_make_2 5 rfl rfl)
theorem dX1_make_54 : decode cX1_make 54 = .ok (.getfield 384, 3) := dk_180 1 128 (dk_at dksX1_make_2 8 rfl rfl)
theorem dX1_make_57 : decode cX1_make 57 = .ok (.iload_n 1, 1) := dk_27 (dk_at dksX1_make_2 11 rfl rfl)
theorem dX1_make_58 : decode cX1_make 58 = .ok (.invokevirtual 130, 3) := dk_182 0 130 (dk_at dksX1_make_2 12 rfl rfl)
theorem dX1_make_61 : decode cX1_make 61 = .ok (.checkcast 387, 3) := dk_192 1 131 (dk_at dksX1_make_2 15 rfl rfl)
theorem dX1_make_64 : decode cX1_make 64 = .ok (.astore_n 3, 1) := dk_78 (dk_at dksX1_make_2 18 rfl rfl)
theorem dX1_make_65 : decode cX1_make 65 = .ok (.iconst 0, 1) := dk_3 (dk_at dksX1_make_2 19 rfl rfl)
theorem dX1_make_66 : decode cX1_make 66 = .ok (.istore 4, 2) := dk_54 4 (dk_at dksX1_make_2 20 rfl rfl)
theorem dX1_make_68 : decode cX1_make 68 = .ok (.iload 4, 2) := dk_21 4 (dk_at dksX1_make_2 22 rfl rfl)
theorem dX1_make_70 : decode cX1_make 70 = .ok (.aload_n 0, 1) := dk_42 (dk_at dksX1_make_3 0 rfl rfl)
theorem dX1_make_71 : decode cX1_make 71 = .ok (.getfield 95, 3) := dk_180 0 95 (dk_at dksX1_make_3 1 rfl rfl)
theorem dX1_make_74 : decode cX1_make 74 = .ok (.getfield 151, 3) := dk_180 0 151 (dk_at dksX1_make_3 4 rfl rfl)
theorem dX1_make_77 : decode cX1_make 77 = .ok (.if_icmp .ge 49, 3) := dk_162 0 49 (dk_at dksX1_make_3 7 rfl rfl)
theorem dX1_make_80 : decode cX1_make 80 = .ok (.aload_n 0, 1) := dk_42 (dk_at dksX1_make_3 10 rfl rfl)
theorem dX1_make_81 : decode cX1_make 81 = .ok (.getfield 45, 3) := dk_180 0 45 (dk_at dksX1_make_3 11 rfl rfl)
theorem dX1_make_84 : decode cX1_make 84 = .ok (.iload 4, 2) := dk_21 4 (dk_at dksX1_make_3 14 rfl rfl)
theorem dX1_make_86 : decode cX1_make 86 = .ok (.iconst 0, 1) := dk_3 (dk_at dksX1_make_3 16 rfl rfl)
theorem dX1_make_87 : decode cX1_make 87 = .ok (.iconst 4, 1) := dk_7 (dk_at dksX1_make_3 17 rfl rfl)
theorem dX1_make_88 : decode cX1_make 88 = .ok (.aload_n 0, 1) := dk_42 (dk_at dksX1_make_3 18 rfl rfl)
theorem dX1_make_89 : decode cX1_make 89 = .ok (.getfield 45, 3) := dk_180 0 45 (dk_at dksX1_make_3 19 rfl rfl)
theorem dX1_make_92 : decode cX1_make 92 = .ok (.iload 4, 2) := dk_21 4 (dk_at dksX1_make_3 22 rfl rfl)
theorem dX1_make_94 : decode cX1_make 94 = .ok (.iaload, 1) := dk_46 (dk_at dksX1_make_4 0 rfl rfl)
theorem dX1_make_95 : decode cX1_make 95 = .ok (.iload 4, 2) := dk_21 4 (dk_at dksX1_make_4 1 rfl rfl)
theorem dX1_make_97 : decode cX1_make 97 = .ok (.iload_n 2, 1) := dk_28 (dk_at dksX1_make_4 3 rfl rfl)
theorem dX1_make_98 : decode cX1_make 98 = .ok (.if_icmp .ne 10, 3) := dk_160 0 10 (dk_at dksX1_make_4 4 rfl rfl)
theorem dX1_make_101 : decode cX1_make 101 = .ok (.aload_n 3, 1) := dk_45 (dk_at dksX1_make_4 7 rfl rfl)
theorem dX1_make_102 : decode cX1_make 102 = .ok (.invokevirtual 389, 3) := dk_182 1 133 (dk_at dksX1_make_4 8 rfl rfl)
theorem dX1_make_105 : decode cX1_make 105 = .ok (.goto 7, 3) := dk_167 0 7 (dk_at dksX1_make_4 11 rfl rfl)
theorem dX1_make_108 : decode cX1_make 108 = .ok (.aload_n 3, 1) := dk_45 (dk_at dksX1_make_4 14 rfl rfl)
theorem dX1_make_109 : decode cX1_make 109 = .ok (.invokevirtual 392, 3) := dk_182 1 136 (dk_at dksX1_make_4 15 rfl rfl)
theorem dX1_make_112 : decode cX1_make 112 = .ok (.iadd, 1) := dk_96 (dk_at dksX1_make_4 18 rfl rfl)
theorem dX1_make_113 : decode cX1_make 113 = .ok (.invokestatic 395, 3) := dk_184 1 139 (dk_at dksX1_make_4 19 rfl rfl)
theorem dX1_make_116 : decode cX1_make 116 = .ok (.invokestatic 346, 3) := dk_184 1 90 (dk_at dksX1_make_5 0 rfl rfl)
theorem dX1_make_119 : decode cX1_make 119 = .ok (.iastore, 1) := dk_79 (dk_at dksX1_make_5 3 rfl rfl)
theorem dX1_make_120 : decode cX1_make 120 = .ok (.iinc 4 1, 3) := dk_132 4 1 (dk_at dksX1_make_5 4 rfl rfl)
theorem dX1_make_123 : decode cX1_make 123 = .ok (.goto (-55), 3) := dk_167 255 201 (dk_at dksX1_make_5 7 rfl rfl)
theorem dX1_make_126 : decode cX1_make 126 = .ok (.aload_n 0, 1) := dk_42 (dk_at dksX1_make_5 10 rfl rfl)
theorem dX1_make_127 : decode cX1_make 127 = .ok (.aload_n 0, 1) := dk_42 (dk_at dksX1_make_5 11 rfl rfl)
theorem dX1_make_128 : decode cX1_make 128 = .ok (.invokevirtual 398, 3) := dk_182 1 142 (dk_at dksX1_make_5 12 rfl rfl)
theorem dX1_make_131 : decode cX1_make 131 = .ok (.invokevirtual 58, 3) := dk_182 0 58 (dk_at dksX1_make_5 15 rfl rfl)
theorem dX1_make_134 : decode cX1_make 134 = .ok (.ireturn, 1) := dk_172 (dk_at dksX1_make_5 18 rfl rfl)
abbrev cX1_deepest : ByteArray := prog_1_method_55_code
def yX1_deepest : MethodName := ⟨RX1, "deepest", "()I"⟩
def dkwX1_deepest_1 : List UInt8 := [54, 5, 27, 21, 5, 184, 1, 90, 60, 132, 4, 1, 167, 255, 234, 27, 172]
abbrev dktX1_deepest_1 : List UInt8 := dkwX1_deepest_1 ++ []
def dkwX1_deepest_0 : List UInt8 := [3, 60, 42, 180, 0, 45, 77, 44, 190, 62, 3, 54, 4, 21, 4, 29, 162, 0, 22, 44, 21, 4, 46]
abbrev dktX1_deepest_0 : List UInt8 := dkwX1_deepest_0 ++ dktX1_deepest_1
theorem dksX1_deepest_0 : cX1_deepest.data.toList.drop 0 = dktX1_deepest_0 := by decide +kernel
theorem dksX1_deepest_1 : cX1_deepest.data.toList.drop 23 = dktX1_deepest_1 := dk_seg dksX1_deepest_0 23 rfl rfl
theorem dX1_deepest_0 : decode cX1_deepest 0 = .ok (.iconst 0, 1) := dk_3 (dk_at dksX1_deepest_0 0 rfl rfl)
theorem dX1_deepest_1 : decode cX1_deepest 1 = .ok (.istore_n 1, 1) := dk_60 (dk_at dksX1_deepest_0 1 rfl rfl)
theorem dX1_deepest_2 : decode cX1_deepest 2 = .ok (.aload_n 0, 1) := dk_42 (dk_at dksX1_deepest_0 2 rfl rfl)
theorem dX1_deepest_3 : decode cX1_deepest 3 = .ok (.getfield 45, 3) := dk_180 0 45 (dk_at dksX1_deepest_0 3 rfl rfl)
theorem dX1_deepest_6 : decode cX1_deepest 6 = .ok (.astore_n 2, 1) := dk_77 (dk_at dksX1_deepest_0 6 rfl rfl)
theorem dX1_deepest_7 : decode cX1_deepest 7 = .ok (.aload_n 2, 1) := dk_44 (dk_at dksX1_deepest_0 7 rfl rfl)
theorem dX1_deepest_8 : decode cX1_deepest 8 = .ok (.arraylength, 1) := dk_190 (dk_at dksX1_deepest_0 8 rfl rfl)
theorem dX1_deepest_9 : decode cX1_deepest 9 = .ok (.istore_n 3, 1) := dk_62 (dk_at dksX1_deepest_0 9 rfl rfl)
theorem dX1_deepest_10 : decode cX1_deepest 10 = .ok (.iconst 0, 1) := dk_3 (dk_at dksX1_deepest_0 10 rfl rfl)
theorem dX1_deepest_11 : decode cX1_deepest 11 = .ok (.istore 4, 2) := dk_54 4 (dk_at dksX1_deepest_0 11 rfl rfl)
theorem dX1_deepest_13 : decode cX1_deepest 13 = .ok (.iload 4, 2) := dk_21 4 (dk_at dksX1_deepest_0 13 rfl rfl)
theorem dX1_deepest_15 : decode cX1_deepest 15 = .ok (.iload_n 3, 1) := dk_29 (dk_at dksX1_deepest_0 15 rfl rfl)
theorem dX1_deepest_16 : decode cX1_deepest 16 = .ok (.if_icmp .ge 22, 3) := dk_162 0 22 (dk_at dksX1_deepest_0 16 rfl rfl)
theorem dX1_deepest_19 : decode cX1_deepest 19 = .ok (.aload_n 2, 1) := dk_44 (dk_at dksX1_deepest_0 19 rfl rfl)
theorem dX1_deepest_20 : decode cX1_deepest 20 = .ok (.iload 4, 2) := dk_21 4 (dk_at dksX1_deepest_0 20 rfl rfl)
theorem dX1_deepest_22 : decode cX1_deepest 22 = .ok (.iaload, 1) := dk_46 (dk_at dksX1_deepest_0 22 rfl rfl)
theorem dX1_deepest_23 : decode cX1_deepest 23 = .ok (.istore 5, 2) := dk_54 5 (dk_at dksX1_deepest_1 0 rfl rfl)
theorem dX1_deepest_25 : decode cX1_deepest 25 = .ok (.iload_n 1, 1) := dk_27 (dk_at dksX1_deepest_1 2 rfl rfl)
theorem dX1_deepest_26 : decode cX1_deepest 26 = .ok (.iload 5, 2) := dk_21 5 (dk_at dksX1_deepest_1 3 rfl rfl)
theorem dX1_deepest_28 : decode cX1_deepest 28 = .ok (.invokestatic 346, 3) := dk_184 1 90 (dk_at dksX1_deepest_1 5 rfl rfl)
theorem dX1_deepest_31 : decode cX1_deepest 31 = .ok (.istore_n 1, 1) := dk_60 (dk_at dksX1_deepest_1 8 rfl rfl)
theorem dX1_deepest_32 : decode cX1_deepest 32 = .ok (.iinc 4 1, 3) := dk_132 4 1 (dk_at dksX1_deepest_1 9 rfl rfl)
theorem dX1_deepest_35 : decode cX1_deepest 35 = .ok (.goto (-22), 3) := dk_167 255 234 (dk_at dksX1_deepest_1 12 rfl rfl)
theorem dX1_deepest_38 : decode cX1_deepest 38 = .ok (.iload_n 1, 1) := dk_27 (dk_at dksX1_deepest_1 15 rfl rfl)
theorem dX1_deepest_39 : decode cX1_deepest 39 = .ok (.ireturn, 1) := dk_172 (dk_at dksX1_deepest_1 16 rfl rfl)
abbrev cX1_count : ByteArray := prog_1_method_57_code
def yX1_count : MethodName := ⟨RX1, "count", "(I)I"⟩
def dkwX1_count_11 : List UInt8 := [180, 0, 33, 182, 0, 122, 172, 42, 182, 1, 142, 172, 42, 180, 0, 61, 172, 2, 172]
abbrev dktX1_count_11 : List UInt8 := dkwX1_count_11 ++ []
def dkwX1_count_10 : List UInt8 := [182, 0, 122, 172, 42, 180, 0, 112, 199, 0, 7, 3, 167, 0, 10, 42, 180, 0, 112, 182, 1, 155, 172, 42]
abbrev dktX1_count_10 : List UInt8 := dkwX1_count_10 ++ dktX1_count_11
def dkwX1_count_9 : List UInt8 := [182, 0, 158, 172, 42, 180, 0, 112, 199, 0, 7, 3, 167, 0, 13, 42, 180, 0, 112, 180, 0, 162]
abbrev dktX1_count_9 : List UInt8 := dkwX1_count_9 ++ dktX1_count_10
def dkwX1_count_8 : List UInt8 := [180, 1, 152, 172, 42, 180, 0, 103, 172, 42, 180, 0, 112, 199, 0, 7, 3, 167, 0, 10, 42, 180, 0, 112]
abbrev dktX1_count_8 : List UInt8 := dkwX1_count_8 ++ dktX1_count_9
def dkwX1_count_7 : List UInt8 := [180, 0, 95, 180, 1, 149, 172, 42, 180, 0, 95, 199, 0, 7, 3, 167, 0, 10, 42, 180, 0, 95]
abbrev dktX1_count_7 : List UInt8 := dkwX1_count_7 ++ dktX1_count_8
def dkwX1_count_6 : List UInt8 := [167, 0, 10, 42, 180, 0, 95, 180, 1, 147, 172, 42, 180, 0, 95, 199, 0, 7, 3, 167, 0, 10, 42]
abbrev dktX1_count_6 : List UInt8 := dkwX1_count_6 ++ dktX1_count_7
def dkwX1_count_5 : List UInt8 := [199, 0, 7, 3, 167, 0, 10, 42, 180, 0, 95, 180, 1, 145, 172, 42, 180, 0, 95, 199, 0, 7, 3]
abbrev dktX1_count_5 : List UInt8 := dkwX1_count_5 ++ dktX1_count_6
def dkwX1_count_4 : List UInt8 := [180, 0, 95, 199, 0, 7, 3, 167, 0, 10, 42, 180, 0, 95, 180, 0, 151, 172, 42, 180, 0, 95]
abbrev dktX1_count_4 : List UInt8 := dkwX1_count_4 ++ dktX1_count_5
def dkwX1_count_3 : List UInt8 := [180, 0, 95, 199, 0, 7, 3, 167, 0, 13, 42, 180, 0, 95, 180, 1, 128, 182, 0, 122, 172, 42]
abbrev dktX1_count_3 : List UInt8 := dkwX1_count_3 ++ dktX1_count_4
def dkwX1_count_2 : List UInt8 := [42, 180, 0, 95, 199, 0, 7, 3, 167, 0, 13, 42, 180, 0, 95, 180, 0, 119, 182, 0, 122, 172, 42]
abbrev dktX1_count_2 : List UInt8 := dkwX1_count_2 ++ dktX1_count_3
def dkwX1_count_1 : List UInt8 := [170, 0, 0, 0, 0, 1, 37, 0, 0, 0, 0, 0, 0, 0, 13, 0, 0, 0, 71, 0, 0, 0, 93, 0, 0, 0, 115, 0, 0, 0, 134, 0, 0, 0, 153, 0, 0, 0, 172, 0, 0, 0, 191, 0, 0, 0, 210, 0, 0, 0, 215, 0, 0, 0, 234, 0, 0, 1, 0, 0, 0, 1, 19, 0, 0, 1, 27, 0, 0, 1, 32]
abbrev dktX1_count_1 : List UInt8 := dkwX1_count_1 ++ dktX1_count_2
def dkwX1_count_0 : List UInt8 := [27]
abbrev dktX1_count_0 : List UInt8 := dkwX1_count_0 ++ dktX1_count_1
theorem dksX1_count_0 : cX1_count.data.toList.drop 0 = dktX1_count_0 := by decide +kernel
theorem dksX1_count_1 : cX1_count.data.toList.drop 1 = dktX1_count_1 := dk_seg dksX1_count_0 1 rfl rfl
theorem dksX1_count_2 : cX1_count.data.toList.drop 72 = dktX1_count_2 := dk_seg dksX1_count_1 71 rfl rfl
theorem dksX1_count_3 : cX1_count.data.toList.drop 95 = dktX1_count_3 := dk_seg dksX1_count_2 23 rfl rfl
theorem dksX1_count_4 : cX1_count.data.toList.drop 117 = dktX1_count_4 := dk_seg dksX1_count_3 22 rfl rfl
theorem dksX1_count_5 : cX1_count.data.toList.drop 139 = dktX1_count_5 := dk_seg dksX1_count_4 22 rfl rfl
theorem dksX1_count_6 : cX1_count.data.toList.drop 162 = dktX1_count_6 := dk_seg dksX1_count_5 23 rfl rfl
theorem dksX1_count_7 : cX1_count.data.toList.drop 185 = dktX1_count_7 := dk_seg dksX1_count_6 23 rfl rfl
theorem dksX1_count_8 : cX1_count.data.toList.drop 207 = dktX1_count_8 := dk_seg dksX1_count_7 22 rfl rfl
theorem dksX1_count_9 : cX1_count.data.toList.drop 231 = dktX1_count_9 := dk_seg dksX1_count_8 24 rfl rfl
theorem dksX1_count_10 : cX1_count.data.toList.drop 253 = dktX1_count_10 := dk_seg dksX1_count_9 22 rfl rfl
theorem dksX1_count_11 : cX1_count.data.toList.drop 277 = dktX1_count_11 := dk_seg dksX1_count_10 24 rfl rfl
theorem dX1_count_0 : decode cX1_count 0 = .ok (.iload_n 1, 1) := dk_27 (dk_at dksX1_count_0 0 rfl rfl)
theorem dX1_count_1 : decode cX1_count 1 = .ok (.tableswitch 293 0 13 #[71, 93, 115, 134, 153, 172, 191, 210, 215, 234, 256, 275, 283, 288], 71) := by decide +kernel
theorem dX1_count_72 : decode cX1_count 72 = .ok (.aload_n 0, 1) := dk_42 (dk_at dksX1_count_2 0 rfl rfl)
theorem dX1_count_73 : decode cX1_count 73 = .ok (.getfield 95, 3) := dk_180 0 95 (dk_at dksX1_count_2 1 rfl rfl)
theorem dX1_count_76 : decode cX1_count 76 = .ok (.ifnonnull 7, 3) := dk_199 0 7 (dk_at dksX1_count_2 4 rfl rfl)
theorem dX1_count_79 : decode cX1_count 79 = .ok (.iconst 0, 1) := dk_3 (dk_at dksX1_count_2 7 rfl rfl)
theorem dX1_count_80 : decode cX1_count 80 = .ok (.goto 13, 3) := dk_167 0 13 (dk_at dksX1_count_2 8 rfl rfl)
theorem dX1_count_83 : decode cX1_count 83 = .ok (.aload_n 0, 1) := dk_42 (dk_at dksX1_count_2 11 rfl rfl)
theorem dX1_count_84 : decode cX1_count 84 = .ok (.getfield 95, 3) := dk_180 0 95 (dk_at dksX1_count_2 12 rfl rfl)
theorem dX1_count_87 : decode cX1_count 87 = .ok (.getfield 119, 3) := dk_180 0 119 (dk_at dksX1_count_2 15 rfl rfl)
theorem dX1_count_90 : decode cX1_count 90 = .ok (.invokevirtual 122, 3) := dk_182 0 122 (dk_at dksX1_count_2 18 rfl rfl)
theorem dX1_count_93 : decode cX1_count 93 = .ok (.ireturn, 1) := dk_172 (dk_at dksX1_count_2 21 rfl rfl)
theorem dX1_count_94 : decode cX1_count 94 = .ok (.aload_n 0, 1) := dk_42 (dk_at dksX1_count_2 22 rfl rfl)
theorem dX1_count_95 : decode cX1_count 95 = .ok (.getfield 95, 3) := dk_180 0 95 (dk_at dksX1_count_3 0 rfl rfl)
theorem dX1_count_98 : decode cX1_count 98 = .ok (.ifnonnull 7, 3) := dk_199 0 7 (dk_at dksX1_count_3 3 rfl rfl)
theorem dX1_count_101 : decode cX1_count 101 = .ok (.iconst 0, 1) := dk_3 (dk_at dksX1_count_3 6 rfl rfl)
theorem dX1_count_102 : decode cX1_count 102 = .ok (.goto 13, 3) := dk_167 0 13 (dk_at dksX1_count_3 7 rfl rfl)
theorem dX1_count_105 : decode cX1_count 105 = .ok (.aload_n 0, 1) := dk_42 (dk_at dksX1_count_3 10 rfl rfl)
theorem dX1_count_106 : decode cX1_count 106 = .ok (.getfield 95, 3) := dk_180 0 95 (dk_at dksX1_count_3 11 rfl rfl)
theorem dX1_count_109 : decode cX1_count 109 = .ok (.getfield 384, 3) := dk_180 1 128 (dk_at dksX1_count_3 14 rfl rfl)
theorem dX1_count_112 : decode cX1_count 112 = .ok (.invokevirtual 122, 3) := dk_182 0 122 (dk_at dksX1_count_3 17 rfl rfl)
theorem dX1_count_115 : decode cX1_count 115 = .ok (.ireturn, 1) := dk_172 (dk_at dksX1_count_3 20 rfl rfl)
theorem dX1_count_116 : decode cX1_count 116 = .ok (.aload_n 0, 1) := dk_42 (dk_at dksX1_count_3 21 rfl rfl)
theorem dX1_count_117 : decode cX1_count 117 = .ok (.getfield 95, 3) := dk_180 0 95 (dk_at dksX1_count_4 0 rfl rfl)
theorem dX1_count_120 : decode cX1_count 120 = .ok (.ifnonnull 7, 3) := dk_199 0 7 (dk_at dksX1_count_4 3 rfl rfl)
theorem dX1_count_123 : decode cX1_count 123 = .ok (.iconst 0, 1) := dk_3 (dk_at dksX1_count_4 6 rfl rfl)
theorem dX1_count_124 : decode cX1_count 124 = .ok (.goto 10, 3) := dk_167 0 10 (dk_at dksX1_count_4 7 rfl rfl)
theorem dX1_count_127 : decode cX1_count 127 = .ok (.aload_n 0, 1) := dk_42 (dk_at dksX1_count_4 10 rfl rfl)
theorem dX1_count_128 : decode cX1_count 128 = .ok (.getfield 95, 3) := dk_180 0 95 (dk_at dksX1_count_4 11 rfl rfl)
theorem dX1_count_131 : decode cX1_count 131 = .ok (.getfield 151, 3) := dk_180 0 151 (dk_at dksX1_count_4 14 rfl rfl)
theorem dX1_count_134 : decode cX1_count 134 = .ok (.ireturn, 1) := dk_172 (dk_at dksX1_count_4 17 rfl rfl)
theorem dX1_count_135 : decode cX1_count 135 = .ok (.aload_n 0, 1) := dk_42 (dk_at dksX1_count_4 18 rfl rfl)
theorem dX1_count_136 : decode cX1_count 136 = .ok (.getfield 95, 3) := dk_180 0 95 (dk_at dksX1_count_4 19 rfl rfl)
theorem dX1_count_139 : decode cX1_count 139 = .ok (.ifnonnull 7, 3) := dk_199 0 7 (dk_at dksX1_count_5 0 rfl rfl)
theorem dX1_count_142 : decode cX1_count 142 = .ok (.iconst 0, 1) := dk_3 (dk_at dksX1_count_5 3 rfl rfl)
theorem dX1_count_143 : decode cX1_count 143 = .ok (.goto 10, 3) := dk_167 0 10 (dk_at dksX1_count_5 4 rfl rfl)
theorem dX1_count_146 : decode cX1_count 146 = .ok (.aload_n 0, 1) := dk_42 (dk_at dksX1_count_5 7 rfl rfl)
theorem dX1_count_147 : decode cX1_count 147 = .ok (.getfield 95, 3) := dk_180 0 95 (dk_at dksX1_count_5 8 rfl rfl)
theorem dX1_count_150 : decode cX1_count 150 = .ok (.getfield 401, 3) := dk_180 1 145 (dk_at dksX1_count_5 11 rfl rfl)
theorem dX1_count_153 : decode cX1_count 153 = .ok (.ireturn, 1) := dk_172 (dk_at dksX1_count_5 14 rfl rfl)
theorem dX1_count_154 : decode cX1_count 154 = .ok (.aload_n 0, 1) := dk_42 (dk_at dksX1_count_5 15 rfl rfl)
theorem dX1_count_155 : decode cX1_count 155 = .ok (.getfield 95, 3) := dk_180 0 95 (dk_at dksX1_count_5 16 rfl rfl)
theorem dX1_count_158 : decode cX1_count 158 = .ok (.ifnonnull 7, 3) := dk_199 0 7 (dk_at dksX1_count_5 19 rfl rfl)
theorem dX1_count_161 : decode cX1_count 161 = .ok (.iconst 0, 1) := dk_3 (dk_at dksX1_count_5 22 rfl rfl)
theorem dX1_count_162 : decode cX1_count 162 = .ok (.goto 10, 3) := dk_167 0 10 (dk_at dksX1_count_6 0 rfl rfl)
theorem dX1_count_165 : decode cX1_count 165 = .ok (.aload_n 0, 1) := dk_42 (dk_at dksX1_count_6 3 rfl rfl)
theorem dX1_count_166 : decode cX1_count 166 = .ok (.getfield 95, 3) := dk_180 0 95 (dk_at dksX1_count_6 4 rfl rfl)
theorem dX1_count_169 : decode cX1_count 169 = .ok (.getfield 403, 3) := dk_180 1 147 (dk_at dksX1_count_6 7 rfl rfl)
theorem dX1_count_172 : decode cX1_count 172 = .ok (.ireturn, 1) := dk_172 (dk_at dksX1_count_6 10 rfl rfl)
theorem dX1_count_173 : decode cX1_count 173 = .ok (.aload_n 0, 1) := dk_42 (dk_at dksX1_count_6 11 rfl rfl)
theorem dX1_count_174 : decode cX1_count 174 = .ok (.getfield 95, 3) := dk_180 0 95 (dk_at dksX1_count_6 12 rfl rfl)
theorem dX1_count_177 : decode cX1_count 177 = .ok (.ifnonnull 7, 3) := dk_199 0 7 (dk_at dksX1_count_6 15 rfl rfl)
theorem dX1_count_180 : decode cX1_count 180 = .ok (.iconst 0, 1) := dk_3 (dk_at dksX1_count_6 18 rfl rfl)
theorem dX1_count_181 : decode cX1_count 181 = .ok (.goto 10, 3) := dk_167 0 10 (dk_at dksX1_count_6 19 rfl rfl)
theorem dX1_count_184 : decode cX1_count 184 = .ok (.aload_n 0, 1) := dk_42 (dk_at dksX1_count_6 22 rfl rfl)
theorem dX1_count_185 : decode cX1_count 185 = .ok (.getfield 95, 3) := dk_180 0 95 (dk_at dksX1_count_7 0 rfl rfl)
theorem dX1_count_188 : decode cX1_count 188 = .ok (.getfield 405, 3) := dk_180 1 149 (dk_at dksX1_count_7 3 rfl rfl)
theorem dX1_count_191 : decode cX1_count 191 = .ok (.ireturn, 1) := dk_172 (dk_at dksX1_count_7 6 rfl rfl)
theorem dX1_count_192 : decode cX1_count 192 = .ok (.aload_n 0, 1) := dk_42 (dk_at dksX1_count_7 7 rfl rfl)
theorem dX1_count_193 : decode cX1_count 193 = .ok (.getfield 95, 3) := dk_180 0 95 (dk_at dksX1_count_7 8 rfl rfl)
theorem dX1_count_196 : decode cX1_count 196 = .ok (.ifnonnull 7, 3) := dk_199 0 7 (dk_at dksX1_count_7 11 rfl rfl)
theorem dX1_count_199 : decode cX1_count 199 = .ok (.iconst 0, 1) := dk_3 (dk_at dksX1_count_7 14 rfl rfl)
theorem dX1_count_200 : decode cX1_count 200 = .ok (.goto 10, 3) := dk_167 0 10 (dk_at dksX1_count_7 15 rfl rfl)
theorem dX1_count_203 : decode cX1_count 203 = .ok (.aload_n 0, 1) := dk_42 (dk_at dksX1_count_7 18 rfl rfl)
theorem dX1_count_204 : decode cX1_count 204 = .ok (.getfield 95, 3) := dk_180 0 95 (dk_at dksX1_count_7 19 rfl rfl)
theorem dX1_count_207 : decode cX1_count 207 = .ok (.getfield 408, 3) := dk_180 1 152 (dk_at dksX1_count_8 0 rfl rfl)
theorem dX1_count_210 : decode cX1_count 210 = .ok (.ireturn, 1) := dk_172 (dk_at dksX1_count_8 3 rfl rfl)
theorem dX1_count_211 : decode cX1_count 211 = .ok (.aload_n 0, 1) := dk_42 (dk_at dksX1_count_8 4 rfl rfl)
theorem dX1_count_212 : decode cX1_count 212 = .ok (.getfield 103, 3) := dk_180 0 103 (dk_at dksX1_count_8 5 rfl rfl)
theorem dX1_count_215 : decode cX1_count 215 = .ok (.ireturn, 1) := dk_172 (dk_at dksX1_count_8 8 rfl rfl)
theorem dX1_count_216 : decode cX1_count 216 = .ok (.aload_n 0, 1) := dk_42 (dk_at dksX1_count_8 9 rfl rfl)
theorem dX1_count_217 : decode cX1_count 217 = .ok (.getfield 112, 3) := dk_180 0 112 (dk_at dksX1_count_8 10 rfl rfl)
theorem dX1_count_220 : decode cX1_count 220 = .ok (.ifnonnull 7, 3) := dk_199 0 7 (dk_at dksX1_count_8 13 rfl rfl)
theorem dX1_count_223 : decode cX1_count 223 = .ok (.iconst 0, 1) := dk_3 (dk_at dksX1_count_8 16 rfl rfl)
theorem dX1_count_224 : decode cX1_count 224 = .ok (.goto 10, 3) := dk_167 0 10 (dk_at dksX1_count_8 17 rfl rfl)
theorem dX1_count_227 : decode cX1_count 227 = .ok (.aload_n 0, 1) := dk_42 (dk_at dksX1_count_8 20 rfl rfl)
theorem dX1_count_228 : decode cX1_count 228 = .ok (.getfield 112, 3) := dk_180 0 112 (dk_at dksX1_count_8 21 rfl rfl)
theorem dX1_count_231 : decode cX1_count 231 = .ok (.invokevirtual 158, 3) := dk_182 0 158 (dk_at dksX1_count_9 0 rfl rfl)
theorem dX1_count_234 : decode cX1_count 234 = .ok (.ireturn, 1) := dk_172 (dk_at dksX1_count_9 3 rfl rfl)
theorem dX1_count_235 : decode cX1_count 235 = .ok (.aload_n 0, 1) := dk_42 (dk_at dksX1_count_9 4 rfl rfl)
theorem dX1_count_236 : decode cX1_count 236 = .ok (.getfield 112, 3) := dk_180 0 112 (dk_at dksX1_count_9 5 rfl rfl)
theorem dX1_count_239 : decode cX1_count 239 = .ok (.ifnonnull 7, 3) := dk_199 0 7 (dk_at dksX1_count_9 8 rfl rfl)
theorem dX1_count_242 : decode cX1_count 242 = .ok (.iconst 0, 1) := dk_3 (dk_at dksX1_count_9 11 rfl rfl)
theorem dX1_count_243 : decode cX1_count 243 = .ok (.goto 13, 3) := dk_167 0 13 (dk_at dksX1_count_9 12 rfl rfl)
theorem dX1_count_246 : decode cX1_count 246 = .ok (.aload_n 0, 1) := dk_42 (dk_at dksX1_count_9 15 rfl rfl)
theorem dX1_count_247 : decode cX1_count 247 = .ok (.getfield 112, 3) := dk_180 0 112 (dk_at dksX1_count_9 16 rfl rfl)
theorem dX1_count_250 : decode cX1_count 250 = .ok (.getfield 162, 3) := dk_180 0 162 (dk_at dksX1_count_9 19 rfl rfl)
theorem dX1_count_253 : decode cX1_count 253 = .ok (.invokevirtual 122, 3) := dk_182 0 122 (dk_at dksX1_count_10 0 rfl rfl)
theorem dX1_count_256 : decode cX1_count 256 = .ok (.ireturn, 1) := dk_172 (dk_at dksX1_count_10 3 rfl rfl)
theorem dX1_count_257 : decode cX1_count 257 = .ok (.aload_n 0, 1) := dk_42 (dk_at dksX1_count_10 4 rfl rfl)
theorem dX1_count_258 : decode cX1_count 258 = .ok (.getfield 112, 3) := dk_180 0 112 (dk_at dksX1_count_10 5 rfl rfl)
theorem dX1_count_261 : decode cX1_count 261 = .ok (.ifnonnull 7, 3) := dk_199 0 7 (dk_at dksX1_count_10 8 rfl rfl)
theorem dX1_count_264 : decode cX1_count 264 = .ok (.iconst 0, 1) := dk_3 (dk_at dksX1_count_10 11 rfl rfl)
theorem dX1_count_265 : decode cX1_count 265 = .ok (.goto 10, 3) := dk_167 0 10 (dk_at dksX1_count_10 12 rfl rfl)
theorem dX1_count_268 : decode cX1_count 268 = .ok (.aload_n 0, 1) := dk_42 (dk_at dksX1_count_10 15 rfl rfl)
theorem dX1_count_269 : decode cX1_count 269 = .ok (.getfield 112, 3) := dk_180 0 112 (dk_at dksX1_count_10 16 rfl rfl)
theorem dX1_count_272 : decode cX1_count 272 = .ok (.invokevirtual 411, 3) := dk_182 1 155 (dk_at dksX1_count_10 19 rfl rfl)
theorem dX1_count_275 : decode cX1_count 275 = .ok (.ireturn, 1) := dk_172 (dk_at dksX1_count_10 22 rfl rfl)
theorem dX1_count_276 : decode cX1_count 276 = .ok (.aload_n 0, 1) := dk_42 (dk_at dksX1_count_10 23 rfl rfl)
theorem dX1_count_277 : decode cX1_count 277 = .ok (.getfield 33, 3) := dk_180 0 33 (dk_at dksX1_count_11 0 rfl rfl)
theorem dX1_count_280 : decode cX1_count 280 = .ok (.invokevirtual 122, 3) := dk_182 0 122 (dk_at dksX1_count_11 3 rfl rfl)
theorem dX1_count_283 : decode cX1_count 283 = .ok (.ireturn, 1) := dk_172 (dk_at dksX1_count_11 6 rfl rfl)
theorem dX1_count_284 : decode cX1_count 284 = .ok (.aload_n 0, 1) := dk_42 (dk_at dksX1_count_11 7 rfl rfl)
theorem dX1_count_285 : decode cX1_count 285 = .ok (.invokevirtual 398, 3) := dk_182 1 142 (dk_at dksX1_count_11 8 rfl rfl)
theorem dX1_count_288 : decode cX1_count 288 = .ok (.ireturn, 1) := dk_172 (dk_at dksX1_count_11 11 rfl rfl)
theorem dX1_count_289 : decode cX1_count 289 = .ok (.aload_n 0, 1) := dk_42 (dk_at dksX1_count_11 12 rfl rfl)
theorem dX1_count_290 : decode cX1_count 290 = .ok (.getfield 61, 3) := dk_180 0 61 (dk_at dksX1_count_11 13 rfl rfl)
theorem dX1_count_293 : decode cX1_count 293 = .ok (.ireturn, 1) := dk_172 (dk_at dksX1_count_11 16 rfl rfl)
theorem dX1_count_294 : decode cX1_count 294 = .ok (.iconst (-1), 1) := dk_2 (dk_at dksX1_count_11 17 rfl rfl)
theorem dX1_count_295 : decode cX1_count 295 = .ok (.ireturn, 1) := dk_172 (dk_at dksX1_count_11 18 rfl rfl)
abbrev cX1_trouble : ByteArray := prog_1_method_58_code
def yX1_trouble : MethodName := ⟨RX1, "trouble", "()I"⟩
theorem dX1_trouble_0 : decode cX1_trouble 0 = .ok (.aload_n 0, 1) := by decide +kernel
theorem dX1_trouble_1 : decode cX1_trouble 1 = .ok (.getfield 49, 3) := by decide +kernel
theorem dX1_trouble_4 : decode cX1_trouble 4 = .ok (.ireturn, 1) := by decide +kernel
abbrev cX1_led : ByteArray := prog_1_method_40_code
def yX1_led : MethodName := ⟨RX1, "led", "(I)I"⟩
def dkwX1_led_1 : List UInt8 := [191, 42, 180, 0, 29, 27, 182, 0, 130, 192, 1, 39, 182, 1, 41, 172]
abbrev dktX1_led_1 : List UInt8 := dkwX1_led_1 ++ []
def dkwX1_led_0 : List UInt8 := [27, 3, 42, 180, 0, 29, 182, 0, 122, 4, 100, 184, 0, 80, 154, 0, 11, 187, 1, 36, 89, 183, 1, 38]
abbrev dktX1_led_0 : List UInt8 := dkwX1_led_0 ++ dktX1_led_1
theorem dksX1_led_0 : cX1_led.data.toList.drop 0 = dktX1_led_0 := by decide +kernel
theorem dksX1_led_1 : cX1_led.data.toList.drop 24 = dktX1_led_1 := dk_seg dksX1_led_0 24 rfl rfl
theorem dX1_led_0 : decode cX1_led 0 = .ok (.iload_n 1, 1) := dk_27 (dk_at dksX1_led_0 0 rfl rfl)
theorem dX1_led_1 : decode cX1_led 1 = .ok (.iconst 0, 1) := dk_3 (dk_at dksX1_led_0 1 rfl rfl)
theorem dX1_led_2 : decode cX1_led 2 = .ok (.aload_n 0, 1) := dk_42 (dk_at dksX1_led_0 2 rfl rfl)
theorem dX1_led_3 : decode cX1_led 3 = .ok (.getfield 29, 3) := dk_180 0 29 (dk_at dksX1_led_0 3 rfl rfl)
theorem dX1_led_6 : decode cX1_led 6 = .ok (.invokevirtual 122, 3) := dk_182 0 122 (dk_at dksX1_led_0 6 rfl rfl)
theorem dX1_led_9 : decode cX1_led 9 = .ok (.iconst 1, 1) := dk_4 (dk_at dksX1_led_0 9 rfl rfl)
theorem dX1_led_10 : decode cX1_led 10 = .ok (.isub, 1) := dk_100 (dk_at dksX1_led_0 10 rfl rfl)
theorem dX1_led_11 : decode cX1_led 11 = .ok (.invokestatic 80, 3) := dk_184 0 80 (dk_at dksX1_led_0 11 rfl rfl)
theorem dX1_led_14 : decode cX1_led 14 = .ok (.ifCond .ne 11, 3) := dk_154 0 11 (dk_at dksX1_led_0 14 rfl rfl)
theorem dX1_led_17 : decode cX1_led 17 = .ok (.new 292, 3) := dk_187 1 36 (dk_at dksX1_led_0 17 rfl rfl)
theorem dX1_led_20 : decode cX1_led 20 = .ok (.dup, 1) := dk_89 (dk_at dksX1_led_0 20 rfl rfl)
theorem dX1_led_21 : decode cX1_led 21 = .ok (.invokespecial 294, 3) := dk_183 1 38 (dk_at dksX1_led_0 21 rfl rfl)
theorem dX1_led_24 : decode cX1_led 24 = .ok (.athrow, 1) := dk_191 (dk_at dksX1_led_1 0 rfl rfl)
theorem dX1_led_25 : decode cX1_led 25 = .ok (.aload_n 0, 1) := dk_42 (dk_at dksX1_led_1 1 rfl rfl)
theorem dX1_led_26 : decode cX1_led 26 = .ok (.getfield 29, 3) := dk_180 0 29 (dk_at dksX1_led_1 2 rfl rfl)
theorem dX1_led_29 : decode cX1_led 29 = .ok (.iload_n 1, 1) := dk_27 (dk_at dksX1_led_1 5 rfl rfl)
theorem dX1_led_30 : decode cX1_led 30 = .ok (.invokevirtual 130, 3) := dk_182 0 130 (dk_at dksX1_led_1 6 rfl rfl)
theorem dX1_led_33 : decode cX1_led 33 = .ok (.checkcast 295, 3) := dk_192 1 39 (dk_at dksX1_led_1 9 rfl rfl)
theorem dX1_led_36 : decode cX1_led 36 = .ok (.invokevirtual 297, 3) := dk_182 1 41 (dk_at dksX1_led_1 12 rfl rfl)
theorem dX1_led_39 : decode cX1_led 39 = .ok (.ireturn, 1) := dk_172 (dk_at dksX1_led_1 15 rfl rfl)
theorem q98 : (Jvm.Cond.initialized "SoftWheels") ∈ lw_all := lw_g (lw_at lw_m1 1 rfl) rfl
theorem q143 : (Jvm.Cond.instantiable "SoftWheels" (16 : Nat)) ∈ lw_all := lw_g (lw_at lw_m1 46 rfl) rfl
theorem q145 : (Jvm.Cond.instanceMethod ({ cls := "SoftWheels", name := "<init>", desc := "()V" } : Jvm.MethodName)) ∈ lw_all := lw_g (lw_at lw_m1 48 rfl) rfl
theorem q146 : (Jvm.Cond.code ({ cls := "SoftWheels", name := "<init>", desc := "()V" } : Jvm.MethodName) prog_1_method_1_code (1 : Nat) (Option.none : Option Jvm.ClassFile.FieldType)) ∈ lw_all := lw_g (lw_at lw_m1 49 rfl) rfl
theorem q147 : (Jvm.Cond.methodLink "SoftWheels" (3 : Nat) ({ cls := "java/lang/Object", name := "<init>", desc := "()V" } : Jvm.MethodName)) ∈ lw_all := lw_g (lw_at lw_m1 50 rfl) rfl
theorem q150 : (Jvm.Cond.classLink "SoftWheels" (19 : Nat) "SoftWheels$Solver") ∈ lw_all := lw_g (lw_at lw_m1 53 rfl) rfl
theorem q152 : (Jvm.Cond.methodLinkNest "SoftWheels" (21 : Nat) ({ cls := "SoftWheels$Solver", name := "<init>", desc := "()V" } : Jvm.MethodName) "SoftWheels") ∈ lw_tbl := lw_at lw_m1 55 rfl
theorem q189 : (Jvm.Cond.classLink "SoftWheels" (26 : Nat) "java/util/ArrayList") ∈ lw_all := lw_g (lw_at lw_m1 92 rfl) rfl
theorem q191 : (Jvm.Cond.methodLink "SoftWheels" (28 : Nat) ({ cls := "java/util/ArrayList", name := "<init>", desc := "()V" } : Jvm.MethodName)) ∈ lw_all := lw_g (lw_at lw_m1 94 rfl) rfl
theorem q215 : (Jvm.Cond.fieldLink "SoftWheels" (49 : Nat) "SoftWheels" "trouble" "I") ∈ lw_all := lw_g (lw_at lw_m1 118 rfl) rfl
theorem q216 : (Jvm.Cond.fieldLink "SoftWheels" (11 : Nat) "SoftWheels" "where" "I") ∈ lw_all := lw_g (lw_at lw_m1 119 rfl) rfl
theorem q217 : (Jvm.Cond.fieldLink "SoftWheels" (95 : Nat) "SoftWheels" "book" "LSoftWheels$Book;") ∈ lw_all := lw_g (lw_at lw_m1 120 rfl) rfl
theorem q218 : (Jvm.Cond.fieldLink "SoftWheels" (103 : Nat) "SoftWheels" "dead" "I") ∈ lw_all := lw_g (lw_at lw_m1 121 rfl) rfl
theorem q219 : (Jvm.Cond.fieldLink "SoftWheels" (15 : Nat) "SoftWheels" "tape" "[B") ∈ lw_all := lw_g (lw_at lw_m1 122 rfl) rfl
theorem q220 : (Jvm.Cond.fieldLink "SoftWheels" (61 : Nat) "SoftWheels" "taped" "I") ∈ lw_all := lw_g (lw_at lw_m1 123 rfl) rfl
theorem q221 : (Jvm.Cond.fieldLink "SoftWheels" (64 : Nat) "SoftWheels" "fault" "I") ∈ lw_all := lw_g (lw_at lw_m1 124 rfl) rfl
theorem q222 : (Jvm.Cond.fieldLink "SoftWheels" (112 : Nat) "SoftWheels" "map" "LSoftWheels$Land;") ∈ lw_all := lw_g (lw_at lw_m1 125 rfl) rfl
theorem q223 : (Jvm.Cond.fieldLink "SoftWheels" (22 : Nat) "SoftWheels" "solver" "LSoftWheels$Solver;") ∈ lw_all := lw_g (lw_at lw_m1 126 rfl) rfl
theorem q224 : (Jvm.Cond.fieldLink "SoftWheels" (29 : Nat) "SoftWheels" "cells" "Ljava/util/ArrayList;") ∈ lw_all := lw_g (lw_at lw_m1 127 rfl) rfl
theorem q225 : (Jvm.Cond.fieldLink "SoftWheels" (33 : Nat) "SoftWheels" "plans" "Ljava/util/ArrayList;") ∈ lw_all := lw_g (lw_at lw_m1 128 rfl) rfl
theorem q226 : (Jvm.Cond.fieldLink "SoftWheels" (36 : Nat) "SoftWheels" "firstTruth" "I") ∈ lw_all := lw_g (lw_at lw_m1 129 rfl) rfl
theorem q227 : (Jvm.Cond.fieldLink "SoftWheels" (39 : Nat) "SoftWheels" "firstWhy" "I") ∈ lw_all := lw_g (lw_at lw_m1 130 rfl) rfl
theorem q228 : (Jvm.Cond.fieldLink "SoftWheels" (42 : Nat) "SoftWheels" "firstMade" "I") ∈ lw_all := lw_g (lw_at lw_m1 131 rfl) rfl
theorem q229 : (Jvm.Cond.fieldLink "SoftWheels" (45 : Nat) "SoftWheels" "dug" "[I") ∈ lw_all := lw_g (lw_at lw_m1 132 rfl) rfl
theorem q230 : (Jvm.Cond.fieldLink "SoftWheels" (348 : Nat) "SoftWheels" "pit" "LSoftWheels$Pit;") ∈ lw_all := lw_g (lw_at lw_m1 133 rfl) rfl
theorem q231 : (Jvm.Cond.lays "SoftWheels" "SoftWheels" "trouble" "I") ∈ lw_all := lw_g (lw_at lw_m1 134 rfl) rfl
theorem q232 : (Jvm.Cond.soleField "SoftWheels" "trouble") ∈ lw_all := lw_g (lw_at lw_m1 135 rfl) rfl
theorem q233 : (Jvm.Cond.lays "SoftWheels" "SoftWheels" "where" "I") ∈ lw_all := lw_g (lw_at lw_m1 136 rfl) rfl
theorem q234 : (Jvm.Cond.soleField "SoftWheels" "where") ∈ lw_all := lw_g (lw_at lw_m1 137 rfl) rfl
theorem q235 : (Jvm.Cond.lays "SoftWheels" "SoftWheels" "book" "LSoftWheels$Book;") ∈ lw_all := lw_g (lw_at lw_m1 138 rfl) rfl
theorem q236 : (Jvm.Cond.soleField "SoftWheels" "book") ∈ lw_all := lw_g (lw_at lw_m1 139 rfl) rfl
theorem q237 : (Jvm.Cond.lays "SoftWheels" "SoftWheels" "dead" "I") ∈ lw_all := lw_g (lw_at lw_m1 140 rfl) rfl
theorem q238 : (Jvm.Cond.soleField "SoftWheels" "dead") ∈ lw_all := lw_g (lw_at lw_m1 141 rfl) rfl
theorem q239 : (Jvm.Cond.laysFinal "SoftWheels" "SoftWheels" "tape" "[B") ∈ lw_all := lw_g (lw_at lw_m1 142 rfl) rfl
theorem q240 : (Jvm.Cond.soleField "SoftWheels" "tape") ∈ lw_all := lw_g (lw_at lw_m1 143 rfl) rfl
theorem q241 : (Jvm.Cond.lays "SoftWheels" "SoftWheels" "taped" "I") ∈ lw_all := lw_g (lw_at lw_m1 144 rfl) rfl
theorem q242 : (Jvm.Cond.soleField "SoftWheels" "taped") ∈ lw_all := lw_g (lw_at lw_m1 145 rfl) rfl
theorem q243 : (Jvm.Cond.lays "SoftWheels" "SoftWheels" "fault" "I") ∈ lw_all := lw_g (lw_at lw_m1 146 rfl) rfl
theorem q244 : (Jvm.Cond.soleField "SoftWheels" "fault") ∈ lw_all := lw_g (lw_at lw_m1 147 rfl) rfl
theorem q245 : (Jvm.Cond.lays "SoftWheels" "SoftWheels" "map" "LSoftWheels$Land;") ∈ lw_all := lw_g (lw_at lw_m1 148 rfl) rfl
theorem q246 : (Jvm.Cond.soleField "SoftWheels" "map") ∈ lw_all := lw_g (lw_at lw_m1 149 rfl) rfl
theorem q247 : (Jvm.Cond.laysFinal "SoftWheels" "SoftWheels" "solver" "LSoftWheels$Solver;") ∈ lw_all := lw_g (lw_at lw_m1 150 rfl) rfl
theorem q248 : (Jvm.Cond.soleField "SoftWheels" "solver") ∈ lw_all := lw_g (lw_at lw_m1 151 rfl) rfl
theorem q249 : (Jvm.Cond.laysFinal "SoftWheels" "SoftWheels" "cells" "Ljava/util/ArrayList;") ∈ lw_all := lw_g (lw_at lw_m1 152 rfl) rfl
theorem q250 : (Jvm.Cond.soleField "SoftWheels" "cells") ∈ lw_all := lw_g (lw_at lw_m1 153 rfl) rfl
theorem q251 : (Jvm.Cond.laysFinal "SoftWheels" "SoftWheels" "plans" "Ljava/util/ArrayList;") ∈ lw_all := lw_g (lw_at lw_m1 154 rfl) rfl
theorem q252 : (Jvm.Cond.soleField "SoftWheels" "plans") ∈ lw_all := lw_g (lw_at lw_m1 155 rfl) rfl
theorem q253 : (Jvm.Cond.lays "SoftWheels" "SoftWheels" "firstTruth" "I") ∈ lw_all := lw_g (lw_at lw_m1 156 rfl) rfl
theorem q254 : (Jvm.Cond.soleField "SoftWheels" "firstTruth") ∈ lw_all := lw_g (lw_at lw_m1 157 rfl) rfl
theorem q255 : (Jvm.Cond.lays "SoftWheels" "SoftWheels" "firstWhy" "I") ∈ lw_all := lw_g (lw_at lw_m1 158 rfl) rfl
theorem q256 : (Jvm.Cond.soleField "SoftWheels" "firstWhy") ∈ lw_all := lw_g (lw_at lw_m1 159 rfl) rfl
theorem q257 : (Jvm.Cond.lays "SoftWheels" "SoftWheels" "firstMade" "I") ∈ lw_all := lw_g (lw_at lw_m1 160 rfl) rfl
theorem q258 : (Jvm.Cond.soleField "SoftWheels" "firstMade") ∈ lw_all := lw_g (lw_at lw_m1 161 rfl) rfl
theorem q259 : (Jvm.Cond.laysFinal "SoftWheels" "SoftWheels" "dug" "[I") ∈ lw_all := lw_g (lw_at lw_m1 162 rfl) rfl
theorem q260 : (Jvm.Cond.soleField "SoftWheels" "dug") ∈ lw_all := lw_g (lw_at lw_m1 163 rfl) rfl
theorem q261 : (Jvm.Cond.lays "SoftWheels" "SoftWheels" "pit" "LSoftWheels$Pit;") ∈ lw_all := lw_g (lw_at lw_m1 164 rfl) rfl
theorem q262 : (Jvm.Cond.soleField "SoftWheels" "pit") ∈ lw_all := lw_g (lw_at lw_m1 165 rfl) rfl
theorem q263 : (Jvm.Cond.superclass "SoftWheels" "java/lang/Object") ∈ lw_all := lw_g (lw_at lw_m1 166 rfl) rfl
theorem q265 : (Jvm.Cond.instanceMethod ({ cls := "SoftWheels", name := "feed", desc := "(IIIII)I" } : Jvm.MethodName)) ∈ lw_all := lw_g (lw_at lw_m1 168 rfl) rfl
theorem q266 : (Jvm.Cond.selects "SoftWheels" ({ cls := "SoftWheels", name := "feed", desc := "(IIIII)I" } : Jvm.MethodName) ({ cls := "SoftWheels", name := "feed", desc := "(IIIII)I" } : Jvm.MethodName)) ∈ lw_all := lw_g (lw_at lw_m1 169 rfl) rfl
theorem q267 : (Jvm.Cond.code ({ cls := "SoftWheels", name := "feed", desc := "(IIIII)I" } : Jvm.MethodName) prog_1_method_9_code (12 : Nat) (Option.some Jvm.ClassFile.FieldType.int)) ∈ lw_all := lw_g (lw_at lw_m1 170 rfl) rfl
theorem q269 : (Jvm.Cond.instanceMethod ({ cls := "SoftWheels", name := "book", desc := "(I)I" } : Jvm.MethodName)) ∈ lw_all := lw_g (lw_at lw_m1 172 rfl) rfl
theorem q270 : (Jvm.Cond.selects "SoftWheels" ({ cls := "SoftWheels", name := "book", desc := "(I)I" } : Jvm.MethodName) ({ cls := "SoftWheels", name := "book", desc := "(I)I" } : Jvm.MethodName)) ∈ lw_all := lw_g (lw_at lw_m1 173 rfl) rfl
theorem q271 : (Jvm.Cond.codeWith ({ cls := "SoftWheels", name := "book", desc := "(I)I" } : Jvm.MethodName) prog_1_method_12_code (3 : Nat) (Option.some Jvm.ClassFile.FieldType.int) [((18 : Nat), (37 : Nat), (40 : Nat), (73 : Nat))]) ∈ lw_all := lw_g (lw_at lw_m1 174 rfl) rfl
theorem q272 : (Jvm.Cond.classLink "SoftWheels" (73 : Nat) "SoftWheels$Fault") ∈ lw_all := lw_g (lw_at lw_m1 175 rfl) rfl
theorem q273 : (Jvm.Cond.methodLink "SoftWheels" (80 : Nat) ({ cls := "SoftWheels", name := "in", desc := "(III)Z" } : Jvm.MethodName)) ∈ lw_all := lw_g (lw_at lw_m1 176 rfl) rfl
theorem q274 : (Jvm.Cond.static ({ cls := "SoftWheels", name := "in", desc := "(III)Z" } : Jvm.MethodName)) ∈ lw_all := lw_g (lw_at lw_m1 177 rfl) rfl
theorem q275 : (Jvm.Cond.code ({ cls := "SoftWheels", name := "in", desc := "(III)Z" } : Jvm.MethodName) prog_1_method_8_code (3 : Nat) (Option.some Jvm.ClassFile.FieldType.boolean)) ∈ lw_all := lw_g (lw_at lw_m1 178 rfl) rfl
theorem q276 : (Jvm.Cond.methodLink "SoftWheels" (52 : Nat) ({ cls := "SoftWheels", name := "refused", desc := "(I)I" } : Jvm.MethodName)) ∈ lw_all := lw_g (lw_at lw_m1 179 rfl) rfl
theorem q277 : (Jvm.Cond.privateMethod ({ cls := "SoftWheels", name := "refused", desc := "(I)I" } : Jvm.MethodName)) ∈ lw_tbl := lw_at lw_m1 180 rfl
theorem q278 : (Jvm.Cond.instanceMethod ({ cls := "SoftWheels", name := "refused", desc := "(I)I" } : Jvm.MethodName)) ∈ lw_all := lw_g (lw_at lw_m1 181 rfl) rfl
theorem q279 : (Jvm.Cond.code ({ cls := "SoftWheels", name := "refused", desc := "(I)I" } : Jvm.MethodName) prog_1_method_2_code (2 : Nat) (Option.some Jvm.ClassFile.FieldType.int)) ∈ lw_all := lw_g (lw_at lw_m1 182 rfl) rfl
theorem q280 : (Jvm.Cond.classLink "SoftWheels" (84 : Nat) "SoftWheels$Book") ∈ lw_all := lw_g (lw_at lw_m1 183 rfl) rfl
theorem q282 : (Jvm.Cond.methodLinkNest "SoftWheels" (86 : Nat) ({ cls := "SoftWheels$Book", name := "<init>", desc := "()V" } : Jvm.MethodName) "SoftWheels") ∈ lw_tbl := lw_at lw_m1 185 rfl
theorem q291 : (Jvm.Cond.fieldLinkNest "SoftWheels" (119 : Nat) "SoftWheels$Book" "grounds" "Ljava/util/ArrayList;" "SoftWheels") ∈ lw_tbl := lw_at lw_m1 194 rfl
theorem q294 : (Jvm.Cond.fieldLinkNest "SoftWheels" (384 : Nat) "SoftWheels$Book" "attempts" "Ljava/util/ArrayList;" "SoftWheels") ∈ lw_tbl := lw_at lw_m1 197 rfl
theorem q299 : (Jvm.Cond.fieldLinkNest "SoftWheels" (151 : Nat) "SoftWheels$Book" "wheels" "I" "SoftWheels") ∈ lw_tbl := lw_at lw_m1 202 rfl
theorem q302 : (Jvm.Cond.fieldLinkNest "SoftWheels" (401 : Nat) "SoftWheels$Book" "weight" "I" "SoftWheels") ∈ lw_tbl := lw_at lw_m1 205 rfl
theorem q305 : (Jvm.Cond.fieldLinkNest "SoftWheels" (403 : Nat) "SoftWheels$Book" "clear" "I" "SoftWheels") ∈ lw_tbl := lw_at lw_m1 208 rfl
theorem q308 : (Jvm.Cond.fieldLinkNest "SoftWheels" (405 : Nat) "SoftWheels$Book" "tip" "I" "SoftWheels") ∈ lw_tbl := lw_at lw_m1 211 rfl
theorem q311 : (Jvm.Cond.fieldLinkNest "SoftWheels" (408 : Nat) "SoftWheels$Book" "drag" "I" "SoftWheels") ∈ lw_tbl := lw_at lw_m1 214 rfl
theorem q329 : (Jvm.Cond.methodLink "SoftWheels" (87 : Nat) ({ cls := "SoftWheels", name := "reader", desc := "(I)LSoftWheels$Reader;" } : Jvm.MethodName)) ∈ lw_all := lw_g (lw_at lw_m1 232 rfl) rfl
theorem q330 : (Jvm.Cond.privateMethod ({ cls := "SoftWheels", name := "reader", desc := "(I)LSoftWheels$Reader;" } : Jvm.MethodName)) ∈ lw_tbl := lw_at lw_m1 233 rfl
theorem q331 : (Jvm.Cond.instanceMethod ({ cls := "SoftWheels", name := "reader", desc := "(I)LSoftWheels$Reader;" } : Jvm.MethodName)) ∈ lw_all := lw_g (lw_at lw_m1 234 rfl) rfl
theorem q332 : (Jvm.Cond.code ({ cls := "SoftWheels", name := "reader", desc := "(I)LSoftWheels$Reader;" } : Jvm.MethodName) prog_1_method_10_code (2 : Nat) (Option.some (Jvm.ClassFile.FieldType.object "SoftWheels$Reader"))) ∈ lw_all := lw_g (lw_at lw_m1 235 rfl) rfl
theorem q333 : (Jvm.Cond.classLink "SoftWheels" (67 : Nat) "SoftWheels$Reader") ∈ lw_all := lw_g (lw_at lw_m1 236 rfl) rfl
theorem q335 : (Jvm.Cond.methodLink "SoftWheels" (69 : Nat) ({ cls := "SoftWheels$Reader", name := "<init>", desc := "([BI)V" } : Jvm.MethodName)) ∈ lw_all := lw_g (lw_at lw_m1 238 rfl) rfl
theorem q657 : (Jvm.Cond.methodLink "SoftWheels" (91 : Nat) ({ cls := "SoftWheels$Book", name := "read", desc := "(LSoftWheels$Reader;)LSoftWheels$Book;" } : Jvm.MethodName)) ∈ lw_all := lw_g (lw_at lw_m3 80 rfl) rfl
theorem q832 : (Jvm.Cond.fieldLinkNest "SoftWheels" (72 : Nat) "SoftWheels$Fault" "kind" "I" "SoftWheels") ∈ lw_tbl := lw_at lw_m4 15 rfl
theorem q834 : (Jvm.Cond.fieldLinkNest "SoftWheels" (77 : Nat) "SoftWheels$Fault" "place" "I" "SoftWheels") ∈ lw_tbl := lw_at lw_m4 17 rfl
theorem q877 : (Jvm.Cond.fieldLinkNest "SoftWheels" (136 : Nat) "SoftWheels$Ground" "sinks" "LSoftWheels$Line;" "SoftWheels") ∈ lw_tbl := lw_at lw_m4 60 rfl
theorem q881 : (Jvm.Cond.fieldLinkNest "SoftWheels" (145 : Nat) "SoftWheels$Ground" "grips" "LSoftWheels$Line;" "SoftWheels") ∈ lw_tbl := lw_at lw_m4 64 rfl
theorem q957 : (Jvm.Cond.selects "SoftWheels" ({ cls := "java/lang/Object", name := "getClass", desc := "()Ljava/lang/Class;" } : Jvm.MethodName) ({ cls := "java/lang/Object", name := "getClass", desc := "()Ljava/lang/Class;" } : Jvm.MethodName)) ∈ lw_all := lw_g (lw_at lw_m4 140 rfl) rfl
theorem q1052 : (Jvm.Cond.methodLink "SoftWheels" (99 : Nat) ({ cls := "SoftWheels", name := "failed", desc := "(LSoftWheels$Fault;)I" } : Jvm.MethodName)) ∈ lw_all := lw_g (lw_at lw_m4 235 rfl) rfl
theorem q1053 : (Jvm.Cond.privateMethod ({ cls := "SoftWheels", name := "failed", desc := "(LSoftWheels$Fault;)I" } : Jvm.MethodName)) ∈ lw_tbl := lw_at lw_m4 236 rfl
theorem q1054 : (Jvm.Cond.instanceMethod ({ cls := "SoftWheels", name := "failed", desc := "(LSoftWheels$Fault;)I" } : Jvm.MethodName)) ∈ lw_all := lw_g (lw_at lw_m4 237 rfl) rfl
theorem q1055 : (Jvm.Cond.code ({ cls := "SoftWheels", name := "failed", desc := "(LSoftWheels$Fault;)I" } : Jvm.MethodName) prog_1_method_11_code (2 : Nat) (Option.some Jvm.ClassFile.FieldType.int)) ∈ lw_all := lw_g (lw_at lw_m4 238 rfl) rfl
theorem q1056 : (Jvm.Cond.methodLink "SoftWheels" (106 : Nat) ({ cls := "java/util/Arrays", name := "fill", desc := "([II)V" } : Jvm.MethodName)) ∈ lw_all := lw_g (lw_at lw_m4 239 rfl) rfl
theorem q1059 : (Jvm.Cond.methodLink "SoftWheels" (116 : Nat) ({ cls := "java/util/ArrayList", name := "clear", desc := "()V" } : Jvm.MethodName)) ∈ lw_all := lw_g (lw_at lw_m5 2 rfl) rfl
theorem q1063 : (Jvm.Cond.methodLink "SoftWheels" (122 : Nat) ({ cls := "java/util/ArrayList", name := "size", desc := "()I" } : Jvm.MethodName)) ∈ lw_all := lw_g (lw_at lw_m5 6 rfl) rfl
theorem q1064 : (Jvm.Cond.methodLink "SoftWheels" (58 : Nat) ({ cls := "SoftWheels", name := "done", desc := "(I)I" } : Jvm.MethodName)) ∈ lw_all := lw_g (lw_at lw_m5 7 rfl) rfl
theorem q1065 : (Jvm.Cond.privateMethod ({ cls := "SoftWheels", name := "done", desc := "(I)I" } : Jvm.MethodName)) ∈ lw_tbl := lw_at lw_m5 8 rfl
theorem q1066 : (Jvm.Cond.instanceMethod ({ cls := "SoftWheels", name := "done", desc := "(I)I" } : Jvm.MethodName)) ∈ lw_all := lw_g (lw_at lw_m5 9 rfl) rfl
theorem q1067 : (Jvm.Cond.code ({ cls := "SoftWheels", name := "done", desc := "(I)I" } : Jvm.MethodName) prog_1_method_5_code (2 : Nat) (Option.some Jvm.ClassFile.FieldType.int)) ∈ lw_all := lw_g (lw_at lw_m5 10 rfl) rfl
theorem q1069 : (Jvm.Cond.instanceMethod ({ cls := "SoftWheels", name := "fault", desc := "()I" } : Jvm.MethodName)) ∈ lw_all := lw_g (lw_at lw_m5 12 rfl) rfl
theorem q1070 : (Jvm.Cond.selects "SoftWheels" ({ cls := "SoftWheels", name := "fault", desc := "()I" } : Jvm.MethodName) ({ cls := "SoftWheels", name := "fault", desc := "()I" } : Jvm.MethodName)) ∈ lw_all := lw_g (lw_at lw_m5 13 rfl) rfl
theorem q1071 : (Jvm.Cond.code ({ cls := "SoftWheels", name := "fault", desc := "()I" } : Jvm.MethodName) prog_1_method_13_code (1 : Nat) (Option.some Jvm.ClassFile.FieldType.int)) ∈ lw_all := lw_g (lw_at lw_m5 14 rfl) rfl
theorem q1073 : (Jvm.Cond.instanceMethod ({ cls := "SoftWheels", name := "where", desc := "()I" } : Jvm.MethodName)) ∈ lw_all := lw_g (lw_at lw_m5 16 rfl) rfl
theorem q1074 : (Jvm.Cond.selects "SoftWheels" ({ cls := "SoftWheels", name := "where", desc := "()I" } : Jvm.MethodName) ({ cls := "SoftWheels", name := "where", desc := "()I" } : Jvm.MethodName)) ∈ lw_all := lw_g (lw_at lw_m5 17 rfl) rfl
theorem q1075 : (Jvm.Cond.code ({ cls := "SoftWheels", name := "where", desc := "()I" } : Jvm.MethodName) prog_1_method_14_code (1 : Nat) (Option.some Jvm.ClassFile.FieldType.int)) ∈ lw_all := lw_g (lw_at lw_m5 18 rfl) rfl
theorem q1077 : (Jvm.Cond.instanceMethod ({ cls := "SoftWheels", name := "sink", desc := "(II)I" } : Jvm.MethodName)) ∈ lw_all := lw_g (lw_at lw_m5 20 rfl) rfl
theorem q1078 : (Jvm.Cond.selects "SoftWheels" ({ cls := "SoftWheels", name := "sink", desc := "(II)I" } : Jvm.MethodName) ({ cls := "SoftWheels", name := "sink", desc := "(II)I" } : Jvm.MethodName)) ∈ lw_all := lw_g (lw_at lw_m5 21 rfl) rfl
theorem q1079 : (Jvm.Cond.code ({ cls := "SoftWheels", name := "sink", desc := "(II)I" } : Jvm.MethodName) prog_1_method_16_code (3 : Nat) (Option.some Jvm.ClassFile.FieldType.int)) ∈ lw_all := lw_g (lw_at lw_m5 22 rfl) rfl
theorem q1080 : (Jvm.Cond.methodLink "SoftWheels" (126 : Nat) ({ cls := "SoftWheels", name := "isGround", desc := "(I)Z" } : Jvm.MethodName)) ∈ lw_all := lw_g (lw_at lw_m5 23 rfl) rfl
theorem q1081 : (Jvm.Cond.privateMethod ({ cls := "SoftWheels", name := "isGround", desc := "(I)Z" } : Jvm.MethodName)) ∈ lw_tbl := lw_at lw_m5 24 rfl
theorem q1082 : (Jvm.Cond.instanceMethod ({ cls := "SoftWheels", name := "isGround", desc := "(I)Z" } : Jvm.MethodName)) ∈ lw_all := lw_g (lw_at lw_m5 25 rfl) rfl
theorem q1083 : (Jvm.Cond.code ({ cls := "SoftWheels", name := "isGround", desc := "(I)Z" } : Jvm.MethodName) prog_1_method_15_code (2 : Nat) (Option.some Jvm.ClassFile.FieldType.boolean)) ∈ lw_all := lw_g (lw_at lw_m5 26 rfl) rfl
theorem q1084 : (Jvm.Cond.methodLink "SoftWheels" (130 : Nat) ({ cls := "java/util/ArrayList", name := "get", desc := "(I)Ljava/lang/Object;" } : Jvm.MethodName)) ∈ lw_all := lw_g (lw_at lw_m5 27 rfl) rfl
theorem q1085 : (Jvm.Cond.classLink "SoftWheels" (134 : Nat) "SoftWheels$Ground") ∈ lw_all := lw_g (lw_at lw_m5 28 rfl) rfl
theorem q1086 : (Jvm.Cond.methodLink "SoftWheels" (140 : Nat) ({ cls := "SoftWheels$Line", name := "value", desc := "(I)I" } : Jvm.MethodName)) ∈ lw_all := lw_g (lw_at lw_m5 29 rfl) rfl
theorem q1094 : (Jvm.Cond.instanceMethod ({ cls := "SoftWheels", name := "grip", desc := "(II)I" } : Jvm.MethodName)) ∈ lw_all := lw_g (lw_at lw_m5 37 rfl) rfl
theorem q1095 : (Jvm.Cond.selects "SoftWheels" ({ cls := "SoftWheels", name := "grip", desc := "(II)I" } : Jvm.MethodName) ({ cls := "SoftWheels", name := "grip", desc := "(II)I" } : Jvm.MethodName)) ∈ lw_all := lw_g (lw_at lw_m5 38 rfl) rfl
theorem q1096 : (Jvm.Cond.code ({ cls := "SoftWheels", name := "grip", desc := "(II)I" } : Jvm.MethodName) prog_1_method_17_code (3 : Nat) (Option.some Jvm.ClassFile.FieldType.int)) ∈ lw_all := lw_g (lw_at lw_m5 39 rfl) rfl
theorem q1098 : (Jvm.Cond.instanceMethod ({ cls := "SoftWheels", name := "dead", desc := "(I)Z" } : Jvm.MethodName)) ∈ lw_all := lw_g (lw_at lw_m5 41 rfl) rfl
theorem q1099 : (Jvm.Cond.selects "SoftWheels" ({ cls := "SoftWheels", name := "dead", desc := "(I)Z" } : Jvm.MethodName) ({ cls := "SoftWheels", name := "dead", desc := "(I)Z" } : Jvm.MethodName)) ∈ lw_all := lw_g (lw_at lw_m5 42 rfl) rfl
theorem q1100 : (Jvm.Cond.code ({ cls := "SoftWheels", name := "dead", desc := "(I)Z" } : Jvm.MethodName) prog_1_method_18_code (2 : Nat) (Option.some Jvm.ClassFile.FieldType.boolean)) ∈ lw_all := lw_g (lw_at lw_m5 43 rfl) rfl
theorem q1101 : (Jvm.Cond.methodLink "SoftWheels" (148 : Nat) ({ cls := "SoftWheels", name := "denied", desc := "(I)Z" } : Jvm.MethodName)) ∈ lw_all := lw_g (lw_at lw_m5 44 rfl) rfl
theorem q1102 : (Jvm.Cond.privateMethod ({ cls := "SoftWheels", name := "denied", desc := "(I)Z" } : Jvm.MethodName)) ∈ lw_tbl := lw_at lw_m5 45 rfl
theorem q1103 : (Jvm.Cond.instanceMethod ({ cls := "SoftWheels", name := "denied", desc := "(I)Z" } : Jvm.MethodName)) ∈ lw_all := lw_g (lw_at lw_m5 46 rfl) rfl
theorem q1104 : (Jvm.Cond.code ({ cls := "SoftWheels", name := "denied", desc := "(I)Z" } : Jvm.MethodName) prog_1_method_3_code (2 : Nat) (Option.some Jvm.ClassFile.FieldType.boolean)) ∈ lw_all := lw_g (lw_at lw_m5 47 rfl) rfl
theorem q1105 : (Jvm.Cond.methodLink "SoftWheels" (154 : Nat) ({ cls := "SoftWheels", name := "granted", desc := "()Z" } : Jvm.MethodName)) ∈ lw_all := lw_g (lw_at lw_m5 48 rfl) rfl
theorem q1106 : (Jvm.Cond.privateMethod ({ cls := "SoftWheels", name := "granted", desc := "()Z" } : Jvm.MethodName)) ∈ lw_tbl := lw_at lw_m5 49 rfl
theorem q1107 : (Jvm.Cond.instanceMethod ({ cls := "SoftWheels", name := "granted", desc := "()Z" } : Jvm.MethodName)) ∈ lw_all := lw_g (lw_at lw_m5 50 rfl) rfl
theorem q1108 : (Jvm.Cond.code ({ cls := "SoftWheels", name := "granted", desc := "()Z" } : Jvm.MethodName) prog_1_method_7_code (1 : Nat) (Option.some Jvm.ClassFile.FieldType.boolean)) ∈ lw_all := lw_g (lw_at lw_m5 51 rfl) rfl
theorem q1110 : (Jvm.Cond.instanceMethod ({ cls := "SoftWheels", name := "map", desc := "(II)I" } : Jvm.MethodName)) ∈ lw_all := lw_g (lw_at lw_m5 53 rfl) rfl
theorem q1111 : (Jvm.Cond.selects "SoftWheels" ({ cls := "SoftWheels", name := "map", desc := "(II)I" } : Jvm.MethodName) ({ cls := "SoftWheels", name := "map", desc := "(II)I" } : Jvm.MethodName)) ∈ lw_all := lw_g (lw_at lw_m5 54 rfl) rfl
theorem q1112 : (Jvm.Cond.code ({ cls := "SoftWheels", name := "map", desc := "(II)I" } : Jvm.MethodName) prog_1_method_21_code (3 : Nat) (Option.some Jvm.ClassFile.FieldType.int)) ∈ lw_all := lw_g (lw_at lw_m5 55 rfl) rfl
theorem q1113 : (Jvm.Cond.classLink "SoftWheels" (159 : Nat) "SoftWheels$Land") ∈ lw_all := lw_g (lw_at lw_m5 56 rfl) rfl
theorem q1115 : (Jvm.Cond.methodLink "SoftWheels" (165 : Nat) ({ cls := "SoftWheels$Land", name := "<init>", desc := "(LSoftWheels$Book;II)V" } : Jvm.MethodName)) ∈ lw_all := lw_g (lw_at lw_m5 58 rfl) rfl
theorem q1139 : (Jvm.Cond.fieldLinkNest "SoftWheels" (171 : Nat) "SoftWheels$Land" "height" "[I" "SoftWheels") ∈ lw_tbl := lw_at lw_m5 82 rfl
theorem q1143 : (Jvm.Cond.fieldLinkNest "SoftWheels" (178 : Nat) "SoftWheels$Land" "ground" "[I" "SoftWheels") ∈ lw_tbl := lw_at lw_m5 86 rfl
theorem q1147 : (Jvm.Cond.fieldLinkNest "SoftWheels" (174 : Nat) "SoftWheels$Land" "doubtAt" "[LSoftWheels$Doubt;" "SoftWheels") ∈ lw_tbl := lw_at lw_m5 90 rfl
theorem q1151 : (Jvm.Cond.fieldLinkNest "SoftWheels" (162 : Nat) "SoftWheels$Land" "doubts" "Ljava/util/ArrayList;" "SoftWheels") ∈ lw_tbl := lw_at lw_m5 94 rfl
theorem q1154 : (Jvm.Cond.fieldLinkNest "SoftWheels" (205 : Nat) "SoftWheels$Land" "ways" "[LSoftWheels$Way;" "SoftWheels") ∈ lw_tbl := lw_at lw_m5 97 rfl
theorem q1156 : (Jvm.Cond.fieldLinkNest "SoftWheels" (213 : Nat) "SoftWheels$Land" "need" "I" "SoftWheels") ∈ lw_tbl := lw_at lw_m5 99 rfl
theorem q1158 : (Jvm.Cond.fieldLinkNest "SoftWheels" (216 : Nat) "SoftWheels$Land" "slip" "I" "SoftWheels") ∈ lw_tbl := lw_at lw_m5 101 rfl
theorem q1162 : (Jvm.Cond.fieldLinkNest "SoftWheels" (219 : Nat) "SoftWheels$Land" "cost" "I" "SoftWheels") ∈ lw_tbl := lw_at lw_m5 105 rfl
theorem q1186 : (Jvm.Cond.methodLink "SoftWheels" (158 : Nat) ({ cls := "SoftWheels$Land", name := "cells", desc := "()I" } : Jvm.MethodName)) ∈ lw_all := lw_g (lw_at lw_m5 129 rfl) rfl
theorem q1191 : (Jvm.Cond.instanceMethod ({ cls := "SoftWheels", name := "height", desc := "(II)Z" } : Jvm.MethodName)) ∈ lw_all := lw_g (lw_at lw_m5 134 rfl) rfl
theorem q1192 : (Jvm.Cond.selects "SoftWheels" ({ cls := "SoftWheels", name := "height", desc := "(II)Z" } : Jvm.MethodName) ({ cls := "SoftWheels", name := "height", desc := "(II)Z" } : Jvm.MethodName)) ∈ lw_all := lw_g (lw_at lw_m5 135 rfl) rfl
theorem q1193 : (Jvm.Cond.code ({ cls := "SoftWheels", name := "height", desc := "(II)Z" } : Jvm.MethodName) prog_1_method_22_code (3 : Nat) (Option.some Jvm.ClassFile.FieldType.boolean)) ∈ lw_all := lw_g (lw_at lw_m5 136 rfl) rfl
theorem q1194 : (Jvm.Cond.methodLink "SoftWheels" (168 : Nat) ({ cls := "SoftWheels", name := "isCell", desc := "(I)Z" } : Jvm.MethodName)) ∈ lw_all := lw_g (lw_at lw_m5 137 rfl) rfl
theorem q1195 : (Jvm.Cond.privateMethod ({ cls := "SoftWheels", name := "isCell", desc := "(I)Z" } : Jvm.MethodName)) ∈ lw_tbl := lw_at lw_m5 138 rfl
theorem q1196 : (Jvm.Cond.instanceMethod ({ cls := "SoftWheels", name := "isCell", desc := "(I)Z" } : Jvm.MethodName)) ∈ lw_all := lw_g (lw_at lw_m5 139 rfl) rfl
theorem q1197 : (Jvm.Cond.code ({ cls := "SoftWheels", name := "isCell", desc := "(I)Z" } : Jvm.MethodName) prog_1_method_19_code (2 : Nat) (Option.some Jvm.ClassFile.FieldType.boolean)) ∈ lw_all := lw_g (lw_at lw_m5 140 rfl) rfl
theorem q1199 : (Jvm.Cond.instanceMethod ({ cls := "SoftWheels", name := "ground", desc := "(II)Z" } : Jvm.MethodName)) ∈ lw_all := lw_g (lw_at lw_m5 142 rfl) rfl
theorem q1200 : (Jvm.Cond.selects "SoftWheels" ({ cls := "SoftWheels", name := "ground", desc := "(II)Z" } : Jvm.MethodName) ({ cls := "SoftWheels", name := "ground", desc := "(II)Z" } : Jvm.MethodName)) ∈ lw_all := lw_g (lw_at lw_m5 143 rfl) rfl
theorem q1201 : (Jvm.Cond.code ({ cls := "SoftWheels", name := "ground", desc := "(II)Z" } : Jvm.MethodName) prog_1_method_23_code (3 : Nat) (Option.some Jvm.ClassFile.FieldType.boolean)) ∈ lw_all := lw_g (lw_at lw_m5 144 rfl) rfl
theorem q1203 : (Jvm.Cond.instanceMethod ({ cls := "SoftWheels", name := "doubt", desc := "(I)I" } : Jvm.MethodName)) ∈ lw_all := lw_g (lw_at lw_m5 146 rfl) rfl
theorem q1204 : (Jvm.Cond.selects "SoftWheels" ({ cls := "SoftWheels", name := "doubt", desc := "(I)I" } : Jvm.MethodName) ({ cls := "SoftWheels", name := "doubt", desc := "(I)I" } : Jvm.MethodName)) ∈ lw_all := lw_g (lw_at lw_m5 147 rfl) rfl
theorem q1205 : (Jvm.Cond.code ({ cls := "SoftWheels", name := "doubt", desc := "(I)I" } : Jvm.MethodName) prog_1_method_24_code (3 : Nat) (Option.some Jvm.ClassFile.FieldType.int)) ∈ lw_all := lw_g (lw_at lw_m5 148 rfl) rfl
theorem q1206 : (Jvm.Cond.classLink "SoftWheels" (181 : Nat) "SoftWheels$Doubt") ∈ lw_all := lw_g (lw_at lw_m5 149 rfl) rfl
theorem q1208 : (Jvm.Cond.methodLink "SoftWheels" (183 : Nat) ({ cls := "SoftWheels$Doubt", name := "<init>", desc := "(II)V" } : Jvm.MethodName)) ∈ lw_all := lw_g (lw_at lw_m5 151 rfl) rfl
theorem q1216 : (Jvm.Cond.fieldLinkNest "SoftWheels" (190 : Nat) "SoftWheels$Doubt" "number" "I" "SoftWheels") ∈ lw_tbl := lw_at lw_m5 159 rfl
theorem q1219 : (Jvm.Cond.fieldLinkNest "SoftWheels" (196 : Nat) "SoftWheels$Doubt" "weight" "[I" "SoftWheels") ∈ lw_tbl := lw_at lw_m5 162 rfl
theorem q1223 : (Jvm.Cond.fieldLinkNest "SoftWheels" (202 : Nat) "SoftWheels$Doubt" "known" "I" "SoftWheels") ∈ lw_tbl := lw_at lw_m5 166 rfl
theorem q1231 : (Jvm.Cond.methodLink "SoftWheels" (186 : Nat) ({ cls := "java/util/ArrayList", name := "add", desc := "(Ljava/lang/Object;)Z" } : Jvm.MethodName)) ∈ lw_all := lw_g (lw_at lw_m5 174 rfl) rfl
theorem q1233 : (Jvm.Cond.instanceMethod ({ cls := "SoftWheels", name := "weigh", desc := "(III)Z" } : Jvm.MethodName)) ∈ lw_all := lw_g (lw_at lw_m5 176 rfl) rfl
theorem q1234 : (Jvm.Cond.selects "SoftWheels" ({ cls := "SoftWheels", name := "weigh", desc := "(III)Z" } : Jvm.MethodName) ({ cls := "SoftWheels", name := "weigh", desc := "(III)Z" } : Jvm.MethodName)) ∈ lw_all := lw_g (lw_at lw_m5 177 rfl) rfl
theorem q1235 : (Jvm.Cond.code ({ cls := "SoftWheels", name := "weigh", desc := "(III)Z" } : Jvm.MethodName) prog_1_method_25_code (6 : Nat) (Option.some Jvm.ClassFile.FieldType.boolean)) ∈ lw_all := lw_g (lw_at lw_m5 178 rfl) rfl
theorem q1236 : (Jvm.Cond.methodLink "SoftWheels" (193 : Nat) ({ cls := "SoftWheels", name := "isDoubt", desc := "(I)Z" } : Jvm.MethodName)) ∈ lw_all := lw_g (lw_at lw_m5 179 rfl) rfl
theorem q1237 : (Jvm.Cond.privateMethod ({ cls := "SoftWheels", name := "isDoubt", desc := "(I)Z" } : Jvm.MethodName)) ∈ lw_tbl := lw_at lw_m5 180 rfl
theorem q1238 : (Jvm.Cond.instanceMethod ({ cls := "SoftWheels", name := "isDoubt", desc := "(I)Z" } : Jvm.MethodName)) ∈ lw_all := lw_g (lw_at lw_m5 181 rfl) rfl
theorem q1239 : (Jvm.Cond.code ({ cls := "SoftWheels", name := "isDoubt", desc := "(I)Z" } : Jvm.MethodName) prog_1_method_20_code (2 : Nat) (Option.some Jvm.ClassFile.FieldType.boolean)) ∈ lw_all := lw_g (lw_at lw_m5 182 rfl) rfl
theorem q1240 : (Jvm.Cond.methodLink "SoftWheels" (199 : Nat) ({ cls := "SoftWheels$Doubt", name := "kinds", desc := "()I" } : Jvm.MethodName)) ∈ lw_all := lw_g (lw_at lw_m5 183 rfl) rfl
theorem q1245 : (Jvm.Cond.instanceMethod ({ cls := "SoftWheels", name := "told", desc := "(II)Z" } : Jvm.MethodName)) ∈ lw_all := lw_g (lw_at lw_m5 188 rfl) rfl
theorem q1246 : (Jvm.Cond.selects "SoftWheels" ({ cls := "SoftWheels", name := "told", desc := "(II)Z" } : Jvm.MethodName) ({ cls := "SoftWheels", name := "told", desc := "(II)Z" } : Jvm.MethodName)) ∈ lw_all := lw_g (lw_at lw_m5 189 rfl) rfl
theorem q1247 : (Jvm.Cond.code ({ cls := "SoftWheels", name := "told", desc := "(II)Z" } : Jvm.MethodName) prog_1_method_26_code (4 : Nat) (Option.some Jvm.ClassFile.FieldType.boolean)) ∈ lw_all := lw_g (lw_at lw_m5 190 rfl) rfl
theorem q1249 : (Jvm.Cond.instanceMethod ({ cls := "SoftWheels", name := "forget", desc := "(I)Z" } : Jvm.MethodName)) ∈ lw_all := lw_g (lw_at lw_m5 192 rfl) rfl
theorem q1250 : (Jvm.Cond.selects "SoftWheels" ({ cls := "SoftWheels", name := "forget", desc := "(I)Z" } : Jvm.MethodName) ({ cls := "SoftWheels", name := "forget", desc := "(I)Z" } : Jvm.MethodName)) ∈ lw_all := lw_g (lw_at lw_m5 193 rfl) rfl
theorem q1251 : (Jvm.Cond.code ({ cls := "SoftWheels", name := "forget", desc := "(I)Z" } : Jvm.MethodName) prog_1_method_27_code (3 : Nat) (Option.some Jvm.ClassFile.FieldType.boolean)) ∈ lw_all := lw_g (lw_at lw_m5 194 rfl) rfl
theorem q1253 : (Jvm.Cond.instanceMethod ({ cls := "SoftWheels", name := "of", desc := "(II)I" } : Jvm.MethodName)) ∈ lw_all := lw_g (lw_at lw_m5 196 rfl) rfl
theorem q1254 : (Jvm.Cond.selects "SoftWheels" ({ cls := "SoftWheels", name := "of", desc := "(II)I" } : Jvm.MethodName) ({ cls := "SoftWheels", name := "of", desc := "(II)I" } : Jvm.MethodName)) ∈ lw_all := lw_g (lw_at lw_m5 197 rfl) rfl
theorem q1255 : (Jvm.Cond.code ({ cls := "SoftWheels", name := "of", desc := "(II)I" } : Jvm.MethodName) prog_1_method_28_code (4 : Nat) (Option.some Jvm.ClassFile.FieldType.int)) ∈ lw_all := lw_g (lw_at lw_m5 198 rfl) rfl
theorem q1257 : (Jvm.Cond.instanceMethod ({ cls := "SoftWheels", name := "step", desc := "(IIII)I" } : Jvm.MethodName)) ∈ lw_all := lw_g (lw_at lw_m5 200 rfl) rfl
theorem q1258 : (Jvm.Cond.selects "SoftWheels" ({ cls := "SoftWheels", name := "step", desc := "(IIII)I" } : Jvm.MethodName) ({ cls := "SoftWheels", name := "step", desc := "(IIII)I" } : Jvm.MethodName)) ∈ lw_all := lw_g (lw_at lw_m5 201 rfl) rfl
theorem q1259 : (Jvm.Cond.code ({ cls := "SoftWheels", name := "step", desc := "(IIII)I" } : Jvm.MethodName) prog_1_method_29_code (6 : Nat) (Option.some Jvm.ClassFile.FieldType.int)) ∈ lw_all := lw_g (lw_at lw_m5 202 rfl) rfl
theorem q1260 : (Jvm.Cond.methodLink "SoftWheels" (209 : Nat) ({ cls := "SoftWheels$Land", name := "why", desc := "(ILSoftWheels$Way;II)I" } : Jvm.MethodName)) ∈ lw_all := lw_g (lw_at lw_m5 203 rfl) rfl
theorem q1282 : (Jvm.Cond.instanceMethod ({ cls := "SoftWheels", name := "worst", desc := "(II)I" } : Jvm.MethodName)) ∈ lw_all := lw_g (lw_at lw_m5 225 rfl) rfl
theorem q1283 : (Jvm.Cond.selects "SoftWheels" ({ cls := "SoftWheels", name := "worst", desc := "(II)I" } : Jvm.MethodName) ({ cls := "SoftWheels", name := "worst", desc := "(II)I" } : Jvm.MethodName)) ∈ lw_all := lw_g (lw_at lw_m5 226 rfl) rfl
theorem q1284 : (Jvm.Cond.code ({ cls := "SoftWheels", name := "worst", desc := "(II)I" } : Jvm.MethodName) prog_1_method_32_code (6 : Nat) (Option.some Jvm.ClassFile.FieldType.int)) ∈ lw_all := lw_g (lw_at lw_m5 227 rfl) rfl
theorem q1285 : (Jvm.Cond.methodLink "SoftWheels" (232 : Nat) ({ cls := "SoftWheels", name := "areCells", desc := "(II)Z" } : Jvm.MethodName)) ∈ lw_all := lw_g (lw_at lw_m5 228 rfl) rfl
theorem q1286 : (Jvm.Cond.privateMethod ({ cls := "SoftWheels", name := "areCells", desc := "(II)Z" } : Jvm.MethodName)) ∈ lw_tbl := lw_at lw_m5 229 rfl
theorem q1287 : (Jvm.Cond.instanceMethod ({ cls := "SoftWheels", name := "areCells", desc := "(II)Z" } : Jvm.MethodName)) ∈ lw_all := lw_g (lw_at lw_m5 230 rfl) rfl
theorem q1288 : (Jvm.Cond.code ({ cls := "SoftWheels", name := "areCells", desc := "(II)Z" } : Jvm.MethodName) prog_1_method_31_code (3 : Nat) (Option.some Jvm.ClassFile.FieldType.boolean)) ∈ lw_all := lw_g (lw_at lw_m5 231 rfl) rfl
theorem q1289 : (Jvm.Cond.methodLink "SoftWheels" (236 : Nat) ({ cls := "SoftWheels", name := "solver", desc := "(IZ)LSoftWheels$Solver;" } : Jvm.MethodName)) ∈ lw_all := lw_g (lw_at lw_m5 232 rfl) rfl
theorem q1290 : (Jvm.Cond.privateMethod ({ cls := "SoftWheels", name := "solver", desc := "(IZ)LSoftWheels$Solver;" } : Jvm.MethodName)) ∈ lw_tbl := lw_at lw_m5 233 rfl
theorem q1291 : (Jvm.Cond.instanceMethod ({ cls := "SoftWheels", name := "solver", desc := "(IZ)LSoftWheels$Solver;" } : Jvm.MethodName)) ∈ lw_all := lw_g (lw_at lw_m5 234 rfl) rfl
theorem q1292 : (Jvm.Cond.code ({ cls := "SoftWheels", name := "solver", desc := "(IZ)LSoftWheels$Solver;" } : Jvm.MethodName) prog_1_method_30_code (3 : Nat) (Option.some (Jvm.ClassFile.FieldType.object "SoftWheels$Solver"))) ∈ lw_all := lw_g (lw_at lw_m5 235 rfl) rfl
theorem q1293 : (Jvm.Cond.classLink "SoftWheels" (222 : Nat) "SoftWheels$Mean") ∈ lw_all := lw_g (lw_at lw_m5 236 rfl) rfl
theorem q1295 : (Jvm.Cond.methodLinkNest "SoftWheels" (224 : Nat) ({ cls := "SoftWheels$Mean", name := "<init>", desc := "()V" } : Jvm.MethodName) "SoftWheels") ∈ lw_tbl := lw_at lw_m5 238 rfl
theorem q1300 : (Jvm.Cond.classLink "SoftWheels" (225 : Nat) "SoftWheels$Worst") ∈ lw_all := lw_g (lw_at lw_m6 3 rfl) rfl
theorem q1302 : (Jvm.Cond.methodLinkNest "SoftWheels" (227 : Nat) ({ cls := "SoftWheels$Worst", name := "<init>", desc := "()V" } : Jvm.MethodName) "SoftWheels") ∈ lw_tbl := lw_at lw_m6 5 rfl
theorem q1307 : (Jvm.Cond.methodLink "SoftWheels" (228 : Nat) ({ cls := "SoftWheels$Solver", name := "begin", desc := "(LSoftWheels$Land;IILSoftWheels$Judge;)LSoftWheels$Solver;" } : Jvm.MethodName)) ∈ lw_all := lw_g (lw_at lw_m6 10 rfl) rfl
theorem q1330 : (Jvm.Cond.methodLink "SoftWheels" (239 : Nat) ({ cls := "SoftWheels$Solver", name := "known", desc := "()I" } : Jvm.MethodName)) ∈ lw_all := lw_g (lw_at lw_m6 33 rfl) rfl
theorem q1344 : (Jvm.Cond.methodLink "SoftWheels" (241 : Nat) ({ cls := "SoftWheels$Solver", name := "of", desc := "(II)J" } : Jvm.MethodName)) ∈ lw_all := lw_g (lw_at lw_m6 47 rfl) rfl
theorem q1424 : (Jvm.Cond.constantLong "SoftWheels" (245 : Nat) (9223372036854775807 : Int64)) ∈ lw_all := lw_g (lw_at lw_m6 127 rfl) rfl
theorem q1426 : (Jvm.Cond.instanceMethod ({ cls := "SoftWheels", name := "mean", desc := "(IIZ)J" } : Jvm.MethodName)) ∈ lw_all := lw_g (lw_at lw_m6 129 rfl) rfl
theorem q1427 : (Jvm.Cond.selects "SoftWheels" ({ cls := "SoftWheels", name := "mean", desc := "(IIZ)J" } : Jvm.MethodName) ({ cls := "SoftWheels", name := "mean", desc := "(IIZ)J" } : Jvm.MethodName)) ∈ lw_all := lw_g (lw_at lw_m6 130 rfl) rfl
theorem q1428 : (Jvm.Cond.code ({ cls := "SoftWheels", name := "mean", desc := "(IIZ)J" } : Jvm.MethodName) prog_1_method_35_code (7 : Nat) (Option.some Jvm.ClassFile.FieldType.long)) ∈ lw_all := lw_g (lw_at lw_m6 131 rfl) rfl
theorem q1429 : (Jvm.Cond.methodLink "SoftWheels" (255 : Nat) ({ cls := "SoftWheels", name := "lost", desc := "(I)J" } : Jvm.MethodName)) ∈ lw_all := lw_g (lw_at lw_m6 132 rfl) rfl
theorem q1430 : (Jvm.Cond.privateMethod ({ cls := "SoftWheels", name := "lost", desc := "(I)J" } : Jvm.MethodName)) ∈ lw_tbl := lw_at lw_m6 133 rfl
theorem q1431 : (Jvm.Cond.instanceMethod ({ cls := "SoftWheels", name := "lost", desc := "(I)J" } : Jvm.MethodName)) ∈ lw_all := lw_g (lw_at lw_m6 134 rfl) rfl
theorem q1432 : (Jvm.Cond.code ({ cls := "SoftWheels", name := "lost", desc := "(I)J" } : Jvm.MethodName) prog_1_method_4_code (2 : Nat) (Option.some Jvm.ClassFile.FieldType.long)) ∈ lw_all := lw_g (lw_at lw_m6 135 rfl) rfl
theorem q1433 : (Jvm.Cond.constantLong "SoftWheels" (56 : Nat) (-9223372036854775808 : Int64)) ∈ lw_all := lw_g (lw_at lw_m6 136 rfl) rfl
theorem q1434 : (Jvm.Cond.methodLink "SoftWheels" (259 : Nat) ({ cls := "SoftWheels$Solver", name := "scale", desc := "(I)J" } : Jvm.MethodName)) ∈ lw_all := lw_g (lw_at lw_m6 137 rfl) rfl
theorem q1435 : (Jvm.Cond.methodLink "SoftWheels" (262 : Nat) ({ cls := "SoftWheels", name := "part", desc := "(JJZ)J" } : Jvm.MethodName)) ∈ lw_all := lw_g (lw_at lw_m6 138 rfl) rfl
theorem q1436 : (Jvm.Cond.privateMethod ({ cls := "SoftWheels", name := "part", desc := "(JJZ)J" } : Jvm.MethodName)) ∈ lw_tbl := lw_at lw_m6 139 rfl
theorem q1437 : (Jvm.Cond.instanceMethod ({ cls := "SoftWheels", name := "part", desc := "(JJZ)J" } : Jvm.MethodName)) ∈ lw_all := lw_g (lw_at lw_m6 140 rfl) rfl
theorem q1438 : (Jvm.Cond.code ({ cls := "SoftWheels", name := "part", desc := "(JJZ)J" } : Jvm.MethodName) prog_1_method_34_code (8 : Nat) (Option.some Jvm.ClassFile.FieldType.long)) ∈ lw_all := lw_g (lw_at lw_m6 141 rfl) rfl
theorem q1439 : (Jvm.Cond.methodLink "SoftWheels" (247 : Nat) ({ cls := "SoftWheels", name := "common", desc := "(JJ)J" } : Jvm.MethodName)) ∈ lw_all := lw_g (lw_at lw_m6 142 rfl) rfl
theorem q1440 : (Jvm.Cond.static ({ cls := "SoftWheels", name := "common", desc := "(JJ)J" } : Jvm.MethodName)) ∈ lw_all := lw_g (lw_at lw_m6 143 rfl) rfl
theorem q1441 : (Jvm.Cond.code ({ cls := "SoftWheels", name := "common", desc := "(JJ)J" } : Jvm.MethodName) prog_1_method_33_code (4 : Nat) (Option.some Jvm.ClassFile.FieldType.long)) ∈ lw_all := lw_g (lw_at lw_m6 144 rfl) rfl
theorem q1442 : (Jvm.Cond.methodLink "SoftWheels" (251 : Nat) ({ cls := "SoftWheels", name := "told", desc := "(J)J" } : Jvm.MethodName)) ∈ lw_all := lw_g (lw_at lw_m6 145 rfl) rfl
theorem q1443 : (Jvm.Cond.privateMethod ({ cls := "SoftWheels", name := "told", desc := "(J)J" } : Jvm.MethodName)) ∈ lw_tbl := lw_at lw_m6 146 rfl
theorem q1444 : (Jvm.Cond.instanceMethod ({ cls := "SoftWheels", name := "told", desc := "(J)J" } : Jvm.MethodName)) ∈ lw_all := lw_g (lw_at lw_m6 147 rfl) rfl
theorem q1445 : (Jvm.Cond.code ({ cls := "SoftWheels", name := "told", desc := "(J)J" } : Jvm.MethodName) prog_1_method_6_code (3 : Nat) (Option.some Jvm.ClassFile.FieldType.long)) ∈ lw_all := lw_g (lw_at lw_m6 148 rfl) rfl
theorem q1447 : (Jvm.Cond.instanceMethod ({ cls := "SoftWheels", name := "way", desc := "(IIZ)I" } : Jvm.MethodName)) ∈ lw_all := lw_g (lw_at lw_m6 150 rfl) rfl
theorem q1448 : (Jvm.Cond.selects "SoftWheels" ({ cls := "SoftWheels", name := "way", desc := "(IIZ)I" } : Jvm.MethodName) ({ cls := "SoftWheels", name := "way", desc := "(IIZ)I" } : Jvm.MethodName)) ∈ lw_all := lw_g (lw_at lw_m6 151 rfl) rfl
theorem q1449 : (Jvm.Cond.code ({ cls := "SoftWheels", name := "way", desc := "(IIZ)I" } : Jvm.MethodName) prog_1_method_36_code (6 : Nat) (Option.some Jvm.ClassFile.FieldType.int)) ∈ lw_all := lw_g (lw_at lw_m6 152 rfl) rfl
theorem q1450 : (Jvm.Cond.methodLink "SoftWheels" (266 : Nat) ({ cls := "SoftWheels$Land", name := "sees", desc := "(I)I" } : Jvm.MethodName)) ∈ lw_all := lw_g (lw_at lw_m6 153 rfl) rfl
theorem q1451 : (Jvm.Cond.methodLink "SoftWheels" (269 : Nat) ({ cls := "SoftWheels$Land", name := "open", desc := "()I" } : Jvm.MethodName)) ∈ lw_all := lw_g (lw_at lw_m6 154 rfl) rfl
theorem q1456 : (Jvm.Cond.methodLink "SoftWheels" (272 : Nat) ({ cls := "SoftWheels$Solver", name := "best", desc := "(II)LSoftWheels$Way;" } : Jvm.MethodName)) ∈ lw_all := lw_g (lw_at lw_m6 159 rfl) rfl
theorem q1460 : (Jvm.Cond.methodLink "SoftWheels" (276 : Nat) ({ cls := "SoftWheels$Way", name := "ordinal", desc := "()I" } : Jvm.MethodName)) ∈ lw_all := lw_g (lw_at lw_m6 163 rfl) rfl
theorem q1462 : (Jvm.Cond.instanceMethod ({ cls := "SoftWheels", name := "truths", desc := "()I" } : Jvm.MethodName)) ∈ lw_all := lw_g (lw_at lw_m6 165 rfl) rfl
theorem q1463 : (Jvm.Cond.selects "SoftWheels" ({ cls := "SoftWheels", name := "truths", desc := "()I" } : Jvm.MethodName) ({ cls := "SoftWheels", name := "truths", desc := "()I" } : Jvm.MethodName)) ∈ lw_all := lw_g (lw_at lw_m6 166 rfl) rfl
theorem q1464 : (Jvm.Cond.code ({ cls := "SoftWheels", name := "truths", desc := "()I" } : Jvm.MethodName) prog_1_method_37_code (1 : Nat) (Option.some Jvm.ClassFile.FieldType.int)) ∈ lw_all := lw_g (lw_at lw_m6 167 rfl) rfl
theorem q1465 : (Jvm.Cond.methodLink "SoftWheels" (281 : Nat) ({ cls := "SoftWheels$Land", name := "truths", desc := "()I" } : Jvm.MethodName)) ∈ lw_all := lw_g (lw_at lw_m6 168 rfl) rfl
theorem q1471 : (Jvm.Cond.instanceMethod ({ cls := "SoftWheels", name := "truth", desc := "(II)I" } : Jvm.MethodName)) ∈ lw_all := lw_g (lw_at lw_m6 174 rfl) rfl
theorem q1472 : (Jvm.Cond.selects "SoftWheels" ({ cls := "SoftWheels", name := "truth", desc := "(II)I" } : Jvm.MethodName) ({ cls := "SoftWheels", name := "truth", desc := "(II)I" } : Jvm.MethodName)) ∈ lw_all := lw_g (lw_at lw_m6 175 rfl) rfl
theorem q1473 : (Jvm.Cond.code ({ cls := "SoftWheels", name := "truth", desc := "(II)I" } : Jvm.MethodName) prog_1_method_38_code (3 : Nat) (Option.some Jvm.ClassFile.FieldType.int)) ∈ lw_all := lw_g (lw_at lw_m6 176 rfl) rfl
theorem q1474 : (Jvm.Cond.methodLink "SoftWheels" (284 : Nat) ({ cls := "SoftWheels$Land", name := "truth", desc := "(I)[I" } : Jvm.MethodName)) ∈ lw_all := lw_g (lw_at lw_m6 177 rfl) rfl
theorem q1480 : (Jvm.Cond.instanceMethod ({ cls := "SoftWheels", name := "run", desc := "(IIZI)I" } : Jvm.MethodName)) ∈ lw_all := lw_g (lw_at lw_m6 183 rfl) rfl
theorem q1481 : (Jvm.Cond.selects "SoftWheels" ({ cls := "SoftWheels", name := "run", desc := "(IIZI)I" } : Jvm.MethodName) ({ cls := "SoftWheels", name := "run", desc := "(IIZI)I" } : Jvm.MethodName)) ∈ lw_all := lw_g (lw_at lw_m6 184 rfl) rfl
theorem q1482 : (Jvm.Cond.code ({ cls := "SoftWheels", name := "run", desc := "(IIZI)I" } : Jvm.MethodName) prog_1_method_39_code (6 : Nat) (Option.some Jvm.ClassFile.FieldType.int)) ∈ lw_all := lw_g (lw_at lw_m6 185 rfl) rfl
theorem q1483 : (Jvm.Cond.methodLink "SoftWheels" (288 : Nat) ({ cls := "SoftWheels$Solver", name := "goes", desc := "(I[ILjava/util/List;)I" } : Jvm.MethodName)) ∈ lw_all := lw_g (lw_at lw_m6 186 rfl) rfl
theorem q1522 : (Jvm.Cond.instanceMethod ({ cls := "SoftWheels", name := "regret", desc := "(II)I" } : Jvm.MethodName)) ∈ lw_all := lw_g (lw_at lw_m6 225 rfl) rfl
theorem q1523 : (Jvm.Cond.selects "SoftWheels" ({ cls := "SoftWheels", name := "regret", desc := "(II)I" } : Jvm.MethodName) ({ cls := "SoftWheels", name := "regret", desc := "(II)I" } : Jvm.MethodName)) ∈ lw_all := lw_g (lw_at lw_m6 226 rfl) rfl
theorem q1524 : (Jvm.Cond.code ({ cls := "SoftWheels", name := "regret", desc := "(II)I" } : Jvm.MethodName) prog_1_method_41_code (10 : Nat) (Option.some Jvm.ClassFile.FieldType.int)) ∈ lw_all := lw_g (lw_at lw_m6 227 rfl) rfl
theorem q1525 : (Jvm.Cond.methodLink "SoftWheels" (300 : Nat) ({ cls := "SoftWheels$Solver", name := "knows", desc := "(III)I" } : Jvm.MethodName)) ∈ lw_all := lw_g (lw_at lw_m6 228 rfl) rfl
theorem q1526 : (Jvm.Cond.methodLink "SoftWheels" (304 : Nat) ({ cls := "java/lang/Math", name := "max", desc := "(JJ)J" } : Jvm.MethodName)) ∈ lw_all := lw_g (lw_at lw_m6 229 rfl) rfl
theorem q1528 : (Jvm.Cond.instanceMethod ({ cls := "SoftWheels", name := "worth", desc := "(IIIZ)J" } : Jvm.MethodName)) ∈ lw_all := lw_g (lw_at lw_m6 231 rfl) rfl
theorem q1529 : (Jvm.Cond.selects "SoftWheels" ({ cls := "SoftWheels", name := "worth", desc := "(IIIZ)J" } : Jvm.MethodName) ({ cls := "SoftWheels", name := "worth", desc := "(IIIZ)J" } : Jvm.MethodName)) ∈ lw_all := lw_g (lw_at lw_m6 232 rfl) rfl
theorem q1530 : (Jvm.Cond.code ({ cls := "SoftWheels", name := "worth", desc := "(IIIZ)J" } : Jvm.MethodName) prog_1_method_42_code (11 : Nat) (Option.some Jvm.ClassFile.FieldType.long)) ∈ lw_all := lw_g (lw_at lw_m6 233 rfl) rfl
theorem q1532 : (Jvm.Cond.instanceMethod ({ cls := "SoftWheels", name := "spared", desc := "(III)I" } : Jvm.MethodName)) ∈ lw_all := lw_g (lw_at lw_m6 235 rfl) rfl
theorem q1533 : (Jvm.Cond.selects "SoftWheels" ({ cls := "SoftWheels", name := "spared", desc := "(III)I" } : Jvm.MethodName) ({ cls := "SoftWheels", name := "spared", desc := "(III)I" } : Jvm.MethodName)) ∈ lw_all := lw_g (lw_at lw_m6 236 rfl) rfl
theorem q1534 : (Jvm.Cond.code ({ cls := "SoftWheels", name := "spared", desc := "(III)I" } : Jvm.MethodName) prog_1_method_43_code (12 : Nat) (Option.some Jvm.ClassFile.FieldType.int)) ∈ lw_all := lw_g (lw_at lw_m6 237 rfl) rfl
theorem q1536 : (Jvm.Cond.instanceMethod ({ cls := "SoftWheels", name := "plan", desc := "(I)I" } : Jvm.MethodName)) ∈ lw_all := lw_g (lw_at lw_m6 239 rfl) rfl
theorem q1537 : (Jvm.Cond.selects "SoftWheels" ({ cls := "SoftWheels", name := "plan", desc := "(I)I" } : Jvm.MethodName) ({ cls := "SoftWheels", name := "plan", desc := "(I)I" } : Jvm.MethodName)) ∈ lw_all := lw_g (lw_at lw_m7 0 rfl) rfl
theorem q1538 : (Jvm.Cond.codeWith ({ cls := "SoftWheels", name := "plan", desc := "(I)I" } : Jvm.MethodName) prog_1_method_44_code (4 : Nat) (Option.some Jvm.ClassFile.FieldType.int) [((31 : Nat), (55 : Nat), (58 : Nat), (73 : Nat))]) ∈ lw_all := lw_g (lw_at lw_m7 1 rfl) rfl
theorem q1539 : (Jvm.Cond.classLink "SoftWheels" (309 : Nat) "SoftWheels$Planner") ∈ lw_all := lw_g (lw_at lw_m7 2 rfl) rfl
theorem q1541 : (Jvm.Cond.methodLink "SoftWheels" (311 : Nat) ({ cls := "SoftWheels$Planner", name := "<init>", desc := "(LSoftWheels$Reader;LSoftWheels$Book;LSoftWheels$Land;)V" } : Jvm.MethodName)) ∈ lw_all := lw_g (lw_at lw_m7 4 rfl) rfl
theorem q1561 : (Jvm.Cond.methodLink "SoftWheels" (314 : Nat) ({ cls := "SoftWheels$Planner", name := "all", desc := "()Ljava/util/List;" } : Jvm.MethodName)) ∈ lw_all := lw_g (lw_at lw_m7 24 rfl) rfl
theorem q1633 : (Jvm.Cond.instanceMethod ({ cls := "SoftWheels", name := "failing", desc := "(IIII)I" } : Jvm.MethodName)) ∈ lw_all := lw_g (lw_at lw_m7 96 rfl) rfl
theorem q1634 : (Jvm.Cond.selects "SoftWheels" ({ cls := "SoftWheels", name := "failing", desc := "(IIII)I" } : Jvm.MethodName) ({ cls := "SoftWheels", name := "failing", desc := "(IIII)I" } : Jvm.MethodName)) ∈ lw_all := lw_g (lw_at lw_m7 97 rfl) rfl
theorem q1635 : (Jvm.Cond.code ({ cls := "SoftWheels", name := "failing", desc := "(IIII)I" } : Jvm.MethodName) prog_1_method_47_code (9 : Nat) (Option.some Jvm.ClassFile.FieldType.int)) ∈ lw_all := lw_g (lw_at lw_m7 98 rfl) rfl
theorem q1636 : (Jvm.Cond.methodLink "SoftWheels" (329 : Nat) ({ cls := "SoftWheels", name := "isPlan", desc := "(I)Z" } : Jvm.MethodName)) ∈ lw_all := lw_g (lw_at lw_m7 99 rfl) rfl
theorem q1637 : (Jvm.Cond.privateMethod ({ cls := "SoftWheels", name := "isPlan", desc := "(I)Z" } : Jvm.MethodName)) ∈ lw_tbl := lw_at lw_m7 100 rfl
theorem q1638 : (Jvm.Cond.instanceMethod ({ cls := "SoftWheels", name := "isPlan", desc := "(I)Z" } : Jvm.MethodName)) ∈ lw_all := lw_g (lw_at lw_m7 101 rfl) rfl
theorem q1639 : (Jvm.Cond.code ({ cls := "SoftWheels", name := "isPlan", desc := "(I)Z" } : Jvm.MethodName) prog_1_method_45_code (2 : Nat) (Option.some Jvm.ClassFile.FieldType.boolean)) ∈ lw_all := lw_g (lw_at lw_m7 102 rfl) rfl
theorem q1640 : (Jvm.Cond.constant "SoftWheels" (332 : Nat) (9999999 : Int32)) ∈ lw_all := lw_g (lw_at lw_m7 103 rfl) rfl
theorem q1641 : (Jvm.Cond.methodLink "SoftWheels" (333 : Nat) ({ cls := "SoftWheels", name := "walk", desc := "(III)LSoftWheels$Walk;" } : Jvm.MethodName)) ∈ lw_all := lw_g (lw_at lw_m7 104 rfl) rfl
theorem q1642 : (Jvm.Cond.privateMethod ({ cls := "SoftWheels", name := "walk", desc := "(III)LSoftWheels$Walk;" } : Jvm.MethodName)) ∈ lw_tbl := lw_at lw_m7 105 rfl
theorem q1643 : (Jvm.Cond.instanceMethod ({ cls := "SoftWheels", name := "walk", desc := "(III)LSoftWheels$Walk;" } : Jvm.MethodName)) ∈ lw_all := lw_g (lw_at lw_m7 106 rfl) rfl
theorem q1644 : (Jvm.Cond.code ({ cls := "SoftWheels", name := "walk", desc := "(III)LSoftWheels$Walk;" } : Jvm.MethodName) prog_1_method_46_code (4 : Nat) (Option.some (Jvm.ClassFile.FieldType.object "SoftWheels$Walk"))) ∈ lw_all := lw_g (lw_at lw_m7 107 rfl) rfl
theorem q1645 : (Jvm.Cond.classLink "SoftWheels" (318 : Nat) "SoftWheels$Walk") ∈ lw_all := lw_g (lw_at lw_m7 108 rfl) rfl
theorem q1647 : (Jvm.Cond.methodLink "SoftWheels" (320 : Nat) ({ cls := "SoftWheels$Walk", name := "<init>", desc := "(LSoftWheels$Land;II[I)V" } : Jvm.MethodName)) ∈ lw_all := lw_g (lw_at lw_m7 110 rfl) rfl
theorem q1659 : (Jvm.Cond.fieldLinkNest "SoftWheels" (345 : Nat) "SoftWheels$Walk" "cost" "I" "SoftWheels") ∈ lw_tbl := lw_at lw_m7 122 rfl
theorem q1661 : (Jvm.Cond.fieldLinkNest "SoftWheels" (341 : Nat) "SoftWheels$Walk" "made" "I" "SoftWheels") ∈ lw_tbl := lw_at lw_m7 124 rfl
theorem q1681 : (Jvm.Cond.classLink "SoftWheels" (323 : Nat) "java/util/List") ∈ lw_all := lw_g (lw_at lw_m7 144 rfl) rfl
theorem q1682 : (Jvm.Cond.methodLink "SoftWheels" (325 : Nat) ({ cls := "SoftWheels$Walk", name := "does", desc := "(Ljava/util/List;)LSoftWheels$Walk;" } : Jvm.MethodName)) ∈ lw_all := lw_g (lw_at lw_m7 145 rfl) rfl
theorem q1732 : (Jvm.Cond.methodLink "SoftWheels" (337 : Nat) ({ cls := "SoftWheels$Walk", name := "fails", desc := "(II)I" } : Jvm.MethodName)) ∈ lw_all := lw_g (lw_at lw_m7 195 rfl) rfl
theorem q1737 : (Jvm.Cond.instanceMethod ({ cls := "SoftWheels", name := "first", desc := "(I)I" } : Jvm.MethodName)) ∈ lw_all := lw_g (lw_at lw_m7 200 rfl) rfl
theorem q1738 : (Jvm.Cond.selects "SoftWheels" ({ cls := "SoftWheels", name := "first", desc := "(I)I" } : Jvm.MethodName) ({ cls := "SoftWheels", name := "first", desc := "(I)I" } : Jvm.MethodName)) ∈ lw_all := lw_g (lw_at lw_m7 201 rfl) rfl
theorem q1739 : (Jvm.Cond.code ({ cls := "SoftWheels", name := "first", desc := "(I)I" } : Jvm.MethodName) prog_1_method_48_code (2 : Nat) (Option.some Jvm.ClassFile.FieldType.int)) ∈ lw_all := lw_g (lw_at lw_m7 202 rfl) rfl
theorem q1741 : (Jvm.Cond.instanceMethod ({ cls := "SoftWheels", name := "costs", desc := "(III)I" } : Jvm.MethodName)) ∈ lw_all := lw_g (lw_at lw_m7 204 rfl) rfl
theorem q1742 : (Jvm.Cond.selects "SoftWheels" ({ cls := "SoftWheels", name := "costs", desc := "(III)I" } : Jvm.MethodName) ({ cls := "SoftWheels", name := "costs", desc := "(III)I" } : Jvm.MethodName)) ∈ lw_all := lw_g (lw_at lw_m7 205 rfl) rfl
theorem q1743 : (Jvm.Cond.code ({ cls := "SoftWheels", name := "costs", desc := "(III)I" } : Jvm.MethodName) prog_1_method_49_code (7 : Nat) (Option.some Jvm.ClassFile.FieldType.int)) ∈ lw_all := lw_g (lw_at lw_m7 206 rfl) rfl
theorem q1744 : (Jvm.Cond.constant "SoftWheels" (344 : Nat) (2147483647 : Int32)) ∈ lw_all := lw_g (lw_at lw_m7 207 rfl) rfl
theorem q1745 : (Jvm.Cond.methodLink "SoftWheels" (346 : Nat) ({ cls := "java/lang/Math", name := "max", desc := "(II)I" } : Jvm.MethodName)) ∈ lw_all := lw_g (lw_at lw_m7 208 rfl) rfl
theorem q1747 : (Jvm.Cond.instanceMethod ({ cls := "SoftWheels", name := "dig", desc := "(II)Z" } : Jvm.MethodName)) ∈ lw_all := lw_g (lw_at lw_m7 210 rfl) rfl
theorem q1748 : (Jvm.Cond.selects "SoftWheels" ({ cls := "SoftWheels", name := "dig", desc := "(II)Z" } : Jvm.MethodName) ({ cls := "SoftWheels", name := "dig", desc := "(II)Z" } : Jvm.MethodName)) ∈ lw_all := lw_g (lw_at lw_m7 211 rfl) rfl
theorem q1749 : (Jvm.Cond.code ({ cls := "SoftWheels", name := "dig", desc := "(II)Z" } : Jvm.MethodName) prog_1_method_50_code (3 : Nat) (Option.some Jvm.ClassFile.FieldType.boolean)) ∈ lw_all := lw_g (lw_at lw_m7 212 rfl) rfl
theorem q1751 : (Jvm.Cond.instanceMethod ({ cls := "SoftWheels", name := "out", desc := "()I" } : Jvm.MethodName)) ∈ lw_all := lw_g (lw_at lw_m7 214 rfl) rfl
theorem q1752 : (Jvm.Cond.selects "SoftWheels" ({ cls := "SoftWheels", name := "out", desc := "()I" } : Jvm.MethodName) ({ cls := "SoftWheels", name := "out", desc := "()I" } : Jvm.MethodName)) ∈ lw_all := lw_g (lw_at lw_m7 215 rfl) rfl
theorem q1753 : (Jvm.Cond.code ({ cls := "SoftWheels", name := "out", desc := "()I" } : Jvm.MethodName) prog_1_method_53_code (3 : Nat) (Option.some Jvm.ClassFile.FieldType.int)) ∈ lw_all := lw_g (lw_at lw_m7 216 rfl) rfl
theorem q1754 : (Jvm.Cond.methodLink "SoftWheels" (358 : Nat) ({ cls := "SoftWheels", name := "pit", desc := "()LSoftWheels$Pit;" } : Jvm.MethodName)) ∈ lw_all := lw_g (lw_at lw_m7 217 rfl) rfl
theorem q1755 : (Jvm.Cond.privateMethod ({ cls := "SoftWheels", name := "pit", desc := "()LSoftWheels$Pit;" } : Jvm.MethodName)) ∈ lw_tbl := lw_at lw_m7 218 rfl
theorem q1756 : (Jvm.Cond.instanceMethod ({ cls := "SoftWheels", name := "pit", desc := "()LSoftWheels$Pit;" } : Jvm.MethodName)) ∈ lw_all := lw_g (lw_at lw_m7 219 rfl) rfl
theorem q1757 : (Jvm.Cond.code ({ cls := "SoftWheels", name := "pit", desc := "()LSoftWheels$Pit;" } : Jvm.MethodName) prog_1_method_51_code (1 : Nat) (Option.some (Jvm.ClassFile.FieldType.object "SoftWheels$Pit"))) ∈ lw_all := lw_g (lw_at lw_m7 220 rfl) rfl
theorem q1758 : (Jvm.Cond.classLink "SoftWheels" (353 : Nat) "SoftWheels$Pit") ∈ lw_all := lw_g (lw_at lw_m7 221 rfl) rfl
theorem q1760 : (Jvm.Cond.methodLink "SoftWheels" (355 : Nat) ({ cls := "SoftWheels$Pit", name := "<init>", desc := "(LSoftWheels$Book;)V" } : Jvm.MethodName)) ∈ lw_all := lw_g (lw_at lw_m7 223 rfl) rfl
theorem q1805 : (Jvm.Cond.fieldLinkNest "SoftWheels" (352 : Nat) "SoftWheels$Pit" "book" "LSoftWheels$Book;" "SoftWheels") ∈ lw_tbl := lw_at lw_m8 28 rfl
theorem q1807 : (Jvm.Cond.fieldLinkNest "SoftWheels" (361 : Nat) "SoftWheels$Pit" "out" "[J" "SoftWheels") ∈ lw_tbl := lw_at lw_m8 30 rfl
theorem q1813 : (Jvm.Cond.methodLink "SoftWheels" (365 : Nat) ({ cls := "SoftWheels", name := "state", desc := "()I" } : Jvm.MethodName)) ∈ lw_all := lw_g (lw_at lw_m8 36 rfl) rfl
theorem q1814 : (Jvm.Cond.privateMethod ({ cls := "SoftWheels", name := "state", desc := "()I" } : Jvm.MethodName)) ∈ lw_tbl := lw_at lw_m8 37 rfl
theorem q1815 : (Jvm.Cond.instanceMethod ({ cls := "SoftWheels", name := "state", desc := "()I" } : Jvm.MethodName)) ∈ lw_all := lw_g (lw_at lw_m8 38 rfl) rfl
theorem q1816 : (Jvm.Cond.code ({ cls := "SoftWheels", name := "state", desc := "()I" } : Jvm.MethodName) prog_1_method_52_code (3 : Nat) (Option.some Jvm.ClassFile.FieldType.int)) ∈ lw_all := lw_g (lw_at lw_m8 39 rfl) rfl
theorem q1817 : (Jvm.Cond.constantLong "SoftWheels" (368 : Nat) (1152921504606846976 : Int64)) ∈ lw_all := lw_g (lw_at lw_m8 40 rfl) rfl
theorem q1819 : (Jvm.Cond.instanceMethod ({ cls := "SoftWheels", name := "tryAt", desc := "(I)I" } : Jvm.MethodName)) ∈ lw_all := lw_g (lw_at lw_m8 42 rfl) rfl
theorem q1820 : (Jvm.Cond.selects "SoftWheels" ({ cls := "SoftWheels", name := "tryAt", desc := "(I)I" } : Jvm.MethodName) ({ cls := "SoftWheels", name := "tryAt", desc := "(I)I" } : Jvm.MethodName)) ∈ lw_all := lw_g (lw_at lw_m8 43 rfl) rfl
theorem q1821 : (Jvm.Cond.code ({ cls := "SoftWheels", name := "tryAt", desc := "(I)I" } : Jvm.MethodName) prog_1_method_54_code (8 : Nat) (Option.some Jvm.ClassFile.FieldType.int)) ∈ lw_all := lw_g (lw_at lw_m8 44 rfl) rfl
theorem q1822 : (Jvm.Cond.methodLink "SoftWheels" (370 : Nat) ({ cls := "SoftWheels$Pit", name := "many", desc := "()I" } : Jvm.MethodName)) ∈ lw_all := lw_g (lw_at lw_m8 45 rfl) rfl
theorem q1823 : (Jvm.Cond.methodLink "SoftWheels" (373 : Nat) ({ cls := "SoftWheels$Pit", name := "attempt", desc := "(I)LSoftWheels$Attempt;" } : Jvm.MethodName)) ∈ lw_all := lw_g (lw_at lw_m8 46 rfl) rfl
theorem q1824 : (Jvm.Cond.methodLink "SoftWheels" (377 : Nat) ({ cls := "SoftWheels$Pit", name := "next", desc := "(ILSoftWheels$Attempt;I)I" } : Jvm.MethodName)) ∈ lw_all := lw_g (lw_at lw_m8 47 rfl) rfl
theorem q1825 : (Jvm.Cond.methodLink "SoftWheels" (381 : Nat) ({ cls := "SoftWheels$Pit", name := "cost", desc := "(LSoftWheels$Attempt;)J" } : Jvm.MethodName)) ∈ lw_all := lw_g (lw_at lw_m8 48 rfl) rfl
theorem q1827 : (Jvm.Cond.instanceMethod ({ cls := "SoftWheels", name := "make", desc := "(II)I" } : Jvm.MethodName)) ∈ lw_all := lw_g (lw_at lw_m8 50 rfl) rfl
theorem q1828 : (Jvm.Cond.selects "SoftWheels" ({ cls := "SoftWheels", name := "make", desc := "(II)I" } : Jvm.MethodName) ({ cls := "SoftWheels", name := "make", desc := "(II)I" } : Jvm.MethodName)) ∈ lw_all := lw_g (lw_at lw_m8 51 rfl) rfl
theorem q1829 : (Jvm.Cond.code ({ cls := "SoftWheels", name := "make", desc := "(II)I" } : Jvm.MethodName) prog_1_method_56_code (5 : Nat) (Option.some Jvm.ClassFile.FieldType.int)) ∈ lw_all := lw_g (lw_at lw_m8 52 rfl) rfl
theorem q1830 : (Jvm.Cond.classLink "SoftWheels" (387 : Nat) "SoftWheels$Attempt") ∈ lw_all := lw_g (lw_at lw_m8 53 rfl) rfl
theorem q1831 : (Jvm.Cond.methodLink "SoftWheels" (389 : Nat) ({ cls := "SoftWheels$Attempt", name := "one", desc := "()I" } : Jvm.MethodName)) ∈ lw_all := lw_g (lw_at lw_m8 54 rfl) rfl
theorem q1832 : (Jvm.Cond.methodLink "SoftWheels" (392 : Nat) ({ cls := "SoftWheels$Attempt", name := "each", desc := "()I" } : Jvm.MethodName)) ∈ lw_all := lw_g (lw_at lw_m8 55 rfl) rfl
theorem q1833 : (Jvm.Cond.methodLink "SoftWheels" (395 : Nat) ({ cls := "java/lang/Math", name := "min", desc := "(II)I" } : Jvm.MethodName)) ∈ lw_all := lw_g (lw_at lw_m8 56 rfl) rfl
theorem q1834 : (Jvm.Cond.methodLink "SoftWheels" (398 : Nat) ({ cls := "SoftWheels", name := "deepest", desc := "()I" } : Jvm.MethodName)) ∈ lw_all := lw_g (lw_at lw_m8 57 rfl) rfl
theorem q1835 : (Jvm.Cond.privateMethod ({ cls := "SoftWheels", name := "deepest", desc := "()I" } : Jvm.MethodName)) ∈ lw_tbl := lw_at lw_m8 58 rfl
theorem q1836 : (Jvm.Cond.instanceMethod ({ cls := "SoftWheels", name := "deepest", desc := "()I" } : Jvm.MethodName)) ∈ lw_all := lw_g (lw_at lw_m8 59 rfl) rfl
theorem q1837 : (Jvm.Cond.code ({ cls := "SoftWheels", name := "deepest", desc := "()I" } : Jvm.MethodName) prog_1_method_55_code (6 : Nat) (Option.some Jvm.ClassFile.FieldType.int)) ∈ lw_all := lw_g (lw_at lw_m8 60 rfl) rfl
theorem q1839 : (Jvm.Cond.instanceMethod ({ cls := "SoftWheels", name := "count", desc := "(I)I" } : Jvm.MethodName)) ∈ lw_all := lw_g (lw_at lw_m8 62 rfl) rfl
theorem q1840 : (Jvm.Cond.selects "SoftWheels" ({ cls := "SoftWheels", name := "count", desc := "(I)I" } : Jvm.MethodName) ({ cls := "SoftWheels", name := "count", desc := "(I)I" } : Jvm.MethodName)) ∈ lw_all := lw_g (lw_at lw_m8 63 rfl) rfl
theorem q1841 : (Jvm.Cond.code ({ cls := "SoftWheels", name := "count", desc := "(I)I" } : Jvm.MethodName) prog_1_method_57_code (2 : Nat) (Option.some Jvm.ClassFile.FieldType.int)) ∈ lw_all := lw_g (lw_at lw_m8 64 rfl) rfl
theorem q1842 : (Jvm.Cond.methodLink "SoftWheels" (411 : Nat) ({ cls := "SoftWheels$Land", name := "openOnes", desc := "()I" } : Jvm.MethodName)) ∈ lw_all := lw_g (lw_at lw_m8 65 rfl) rfl
theorem q1847 : (Jvm.Cond.instanceMethod ({ cls := "SoftWheels", name := "trouble", desc := "()I" } : Jvm.MethodName)) ∈ lw_all := lw_g (lw_at lw_m8 70 rfl) rfl
theorem q1848 : (Jvm.Cond.selects "SoftWheels" ({ cls := "SoftWheels", name := "trouble", desc := "()I" } : Jvm.MethodName) ({ cls := "SoftWheels", name := "trouble", desc := "()I" } : Jvm.MethodName)) ∈ lw_all := lw_g (lw_at lw_m8 71 rfl) rfl
theorem q1849 : (Jvm.Cond.code ({ cls := "SoftWheels", name := "trouble", desc := "()I" } : Jvm.MethodName) prog_1_method_58_code (1 : Nat) (Option.some Jvm.ClassFile.FieldType.int)) ∈ lw_all := lw_g (lw_at lw_m8 72 rfl) rfl
theorem q1855 : (Jvm.Cond.instanceMethod ({ cls := "SoftWheels", name := "led", desc := "(I)I" } : Jvm.MethodName)) ∈ lw_all := lw_g (lw_at lw_m8 78 rfl) rfl
theorem q1856 : (Jvm.Cond.selects "SoftWheels" ({ cls := "SoftWheels", name := "led", desc := "(I)I" } : Jvm.MethodName) ({ cls := "SoftWheels", name := "led", desc := "(I)I" } : Jvm.MethodName)) ∈ lw_all := lw_g (lw_at lw_m8 79 rfl) rfl
theorem q1857 : (Jvm.Cond.code ({ cls := "SoftWheels", name := "led", desc := "(I)I" } : Jvm.MethodName) prog_1_method_40_code (2 : Nat) (Option.some Jvm.ClassFile.FieldType.int)) ∈ lw_all := lw_g (lw_at lw_m8 80 rfl) rfl
theorem q1858 : (Jvm.Cond.classLink "SoftWheels" (292 : Nat) "java/util/NoSuchElementException") ∈ lw_all := lw_g (lw_at lw_m8 81 rfl) rfl
theorem q1869 : (Jvm.Cond.methodLink "SoftWheels" (294 : Nat) ({ cls := "java/util/NoSuchElementException", name := "<init>", desc := "()V" } : Jvm.MethodName)) ∈ lw_all := lw_g (lw_at lw_m8 92 rfl) rfl
theorem q1881 : (Jvm.Cond.classLink "SoftWheels" (295 : Nat) "java/lang/Integer") ∈ lw_all := lw_g (lw_at lw_m8 104 rfl) rfl
theorem q1882 : (Jvm.Cond.methodLink "SoftWheels" (297 : Nat) ({ cls := "java/lang/Integer", name := "intValue", desc := "()I" } : Jvm.MethodName)) ∈ lw_all := lw_g (lw_at lw_m8 105 rfl) rfl
theorem q2556 : (Jvm.Cond.castable "SoftWheels" "java/lang/Object") ∈ lw_tbl := lw_at lw_m11 59 rfl
theorem in_X1 : ∀ w ∈ wsX10, w ∈ lw_all := lw_in wsX10 [231, 233, 235, 237, 239, 241, 243, 245, 247, 249, 251, 253, 255, 257, 259, 261] (by decide +kernel) (by decide +kernel)
