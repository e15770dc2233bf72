/-! SoftWheels$Solver -/
set_option maxRecDepth 100000
def RX2 : String := "SoftWheels$Solver"
def TX2 : u_T := fun k => match k with
  | 0 => ("SoftWheels$Solver", "map", "LSoftWheels$Land;", false)
  | 1 => ("SoftWheels$Solver", "goal", "I", false)
  | 2 => ("SoftWheels$Solver", "size", "I", false)
  | 3 => ("SoftWheels$Solver", "judge", "LSoftWheels$Judge;", false)
  | 4 => ("SoftWheels$Solver", "value", "[J", true)
  | 5 => ("SoftWheels$Solver", "isDone", "[Z", true)
  | 6 => ("SoftWheels$Solver", "past", "[Z", true)
  | 7 => ("SoftWheels$Solver", "sees", "[I", true)
  | _ => ("SoftWheels$Solver", "costs", "[I", true)
def tyX2 : Nat → FieldType := fun k => match k with
  | 0 => .object "SoftWheels$Land"
  | 1 => .int
  | 2 => .int
  | 3 => .object "SoftWheels$Judge"
  | 4 => .array .long
  | 5 => .array .boolean
  | 6 => .array .boolean
  | 7 => .array .int
  | _ => .array .int
abbrev wsX20 : List Cond := u_ws RX2 TX2 9
theorem nmX2 : ∀ a, a < 9 → ∀ b, b < 9 → a ≠ b → (TX2 a).2.1 ≠ (TX2 b).2.1 := by decide +kernel
theorem tyX2_ok : ∀ k, k < 9 → parseFieldDescriptor (TX2 k).2.2.1 = some (tyX2 k) := by decide +kernel
abbrev cX2_init : ByteArray := prog_17_method_1_code
def yX2_init : MethodName := ⟨RX2, "<init>", "()V"⟩
def dkwX2_init_1 : List UInt8 := [188, 4, 181, 0, 20, 42, 16, 100, 188, 10, 181, 0, 23, 42, 17, 12, 128, 188, 10, 181, 0, 27, 177]
abbrev dktX2_init_1 : List UInt8 := dkwX2_init_1 ++ []
def dkwX2_init_0 : List UInt8 := [42, 183, 0, 3, 42, 18, 9, 188, 11, 181, 0, 10, 42, 17, 4, 0, 188, 4, 181, 0, 16, 42, 16, 100]
abbrev dktX2_init_0 : List UInt8 := dkwX2_init_0 ++ dktX2_init_1
theorem dksX2_init_0 : cX2_init.data.toList.drop 0 = dktX2_init_0 := by decide +kernel
theorem dksX2_init_1 : cX2_init.data.toList.drop 24 = dktX2_init_1 := dk_seg dksX2_init_0 24 rfl rfl
theorem dX2_init_0 : decode cX2_init 0 = .ok (.aload_n 0, 1) := dk_42 (dk_at dksX2_init_0 0 rfl rfl)
theorem dX2_init_1 : decode cX2_init 1 = .ok (.invokespecial 3, 3) := dk_183 0 3 (dk_at dksX2_init_0 1 rfl rfl)
theorem dX2_init_4 : decode cX2_init 4 = .ok (.aload_n 0, 1) := dk_42 (dk_at dksX2_init_0 4 rfl rfl)
theorem dX2_init_5 : decode cX2_init 5 = .ok (.ldc 9, 2) := dk_18 9 (dk_at dksX2_init_0 5 rfl rfl)
theorem dX2_init_7 : decode cX2_init 7 = .ok (.newarray .long, 2) := dk_188_11 (dk_at dksX2_init_0 7 rfl rfl)
theorem dX2_init_9 : decode cX2_init 9 = .ok (.putfield 10, 3) := dk_181 0 10 (dk_at dksX2_init_0 9 rfl rfl)
theorem dX2_init_12 : decode cX2_init 12 = .ok (.aload_n 0, 1) := dk_42 (dk_at dksX2_init_0 12 rfl rfl)
theorem dX2_init_13 : decode cX2_init 13 = .ok (.sipush 1024, 3) := dk_17 4 0 (dk_at dksX2_init_0 13 rfl rfl)
theorem dX2_init_16 : decode cX2_init 16 = .ok (.newarray .boolean, 2) := dk_188_4 (dk_at dksX2_init_0 16 rfl rfl)
theorem dX2_init_18 : decode cX2_init 18 = .ok (.putfield 16, 3) := dk_181 0 16 (dk_at dksX2_init_0 18 rfl rfl)
theorem dX2_init_21 : decode cX2_init 21 = .ok (.aload_n 0, 1) := dk_42 (dk_at dksX2_init_0 21 rfl rfl)
theorem dX2_init_22 : decode cX2_init 22 = .ok (.bipush 100, 2) := dk_16 100 (dk_at dksX2_init_0 22 rfl rfl)
theorem dX2_init_24 : decode cX2_init 24 = .ok (.newarray .boolean, 2) := dk_188_4 (dk_at dksX2_init_1 0 rfl rfl)
theorem dX2_init_26 : decode cX2_init 26 = .ok (.putfield 20, 3) := dk_181 0 20 (dk_at dksX2_init_1 2 rfl rfl)
theorem dX2_init_29 : decode cX2_init 29 = .ok (.aload_n 0, 1) := dk_42 (dk_at dksX2_init_1 5 rfl rfl)
theorem dX2_init_30 : decode cX2_init 30 = .ok (.bipush 100, 2) := dk_16 100 (dk_at dksX2_init_1 6 rfl rfl)
theorem dX2_init_32 : decode cX2_init 32 = .ok (.newarray .int, 2) := dk_188_10 (dk_at dksX2_init_1 8 rfl rfl)
theorem dX2_init_34 : decode cX2_init 34 = .ok (.putfield 23, 3) := dk_181 0 23 (dk_at dksX2_init_1 10 rfl rfl)
theorem dX2_init_37 : decode cX2_init 37 = .ok (.aload_n 0, 1) := dk_42 (dk_at dksX2_init_1 13 rfl rfl)
theorem dX2_init_38 : decode cX2_init 38 = .ok (.sipush 3200, 3) := dk_17 12 128 (dk_at dksX2_init_1 14 rfl rfl)
theorem dX2_init_41 : decode cX2_init 41 = .ok (.newarray .int, 2) := dk_188_10 (dk_at dksX2_init_1 17 rfl rfl)
theorem dX2_init_43 : decode cX2_init 43 = .ok (.putfield 27, 3) := dk_181 0 27 (dk_at dksX2_init_1 19 rfl rfl)
theorem dX2_init_46 : decode cX2_init 46 = .ok (.return_, 1) := dk_177 (dk_at dksX2_init_1 22 rfl rfl)
abbrev cX2_begin : ByteArray := prog_17_method_2_code
def yX2_begin : MethodName := ⟨RX2, "begin", "(LSoftWheels$Land;IILSoftWheels$Judge;)LSoftWheels$Solver;"⟩
def dkwX2_begin_6 : List UInt8 := [132, 10, 1, 167, 255, 202, 132, 8, 1, 167, 255, 179, 132, 5, 1, 167, 255, 137, 42, 176]
abbrev dktX2_begin_6 : List UInt8 := dkwX2_begin_6 ++ []
def dkwX2_begin_5 : List UInt8 := [21, 5, 25, 9, 21, 10, 29, 182, 0, 82, 154, 0, 10, 43, 180, 0, 86, 167, 0, 4, 2, 79]
abbrev dktX2_begin_5 : List UInt8 := dkwX2_begin_5 ++ dktX2_begin_6
def dkwX2_begin_4 : List UInt8 := [180, 0, 68, 182, 0, 74, 162, 0, 45, 42, 180, 0, 27, 21, 5, 25, 9, 21, 10, 184, 0, 78, 43]
abbrev dktX2_begin_4 : List UInt8 := dkwX2_begin_4 ++ dktX2_begin_5
def dkwX2_begin_3 : List UInt8 := [21, 8, 21, 7, 162, 0, 76, 25, 6, 21, 8, 50, 58, 9, 3, 54, 10, 21, 10, 43, 180, 0, 64]
abbrev dktX2_begin_3 : List UInt8 := dkwX2_begin_3 ++ dktX2_begin_4
def dkwX2_begin_2 : List UInt8 := [21, 5, 43, 21, 5, 182, 0, 57, 79, 43, 180, 0, 60, 58, 6, 25, 6, 190, 54, 7, 3, 54, 8]
abbrev dktX2_begin_2 : List UInt8 := dkwX2_begin_2 ++ dktX2_begin_3
def dkwX2_begin_1 : List UInt8 := [42, 180, 0, 16, 3, 184, 0, 51, 3, 54, 5, 21, 5, 42, 180, 0, 48, 162, 0, 116, 42, 180, 0, 23]
abbrev dktX2_begin_1 : List UInt8 := dkwX2_begin_1 ++ dktX2_begin_2
def dkwX2_begin_0 : List UInt8 := [42, 43, 181, 0, 30, 42, 28, 181, 0, 34, 42, 25, 4, 181, 0, 38, 42, 43, 182, 0, 42, 181, 0, 48]
abbrev dktX2_begin_0 : List UInt8 := dkwX2_begin_0 ++ dktX2_begin_1
theorem dksX2_begin_0 : cX2_begin.data.toList.drop 0 = dktX2_begin_0 := by decide +kernel
theorem dksX2_begin_1 : cX2_begin.data.toList.drop 24 = dktX2_begin_1 := dk_seg dksX2_begin_0 24 rfl rfl
theorem dksX2_begin_2 : cX2_begin.data.toList.drop 48 = dktX2_begin_2 := dk_seg dksX2_begin_1 24 rfl rfl
theorem dksX2_begin_3 : cX2_begin.data.toList.drop 71 = dktX2_begin_3 := dk_seg dksX2_begin_2 23 rfl rfl
theorem dksX2_begin_4 : cX2_begin.data.toList.drop 94 = dktX2_begin_4 := dk_seg dksX2_begin_3 23 rfl rfl
theorem dksX2_begin_5 : cX2_begin.data.toList.drop 117 = dktX2_begin_5 := dk_seg dksX2_begin_4 23 rfl rfl
theorem dksX2_begin_6 : cX2_begin.data.toList.drop 139 = dktX2_begin_6 := dk_seg dksX2_begin_5 22 rfl rfl
theorem dX2_begin_0 : decode cX2_begin 0 = .ok (.aload_n 0, 1) := dk_42 (dk_at dksX2_begin_0 0 rfl rfl)
theorem dX2_begin_1 : decode cX2_begin 1 = .ok (.aload_n 1, 1) := dk_43 (dk_at dksX2_begin_0 1 rfl rfl)
theorem dX2_begin_2 : decode cX2_begin 2 = .ok (.putfield 30, 3) := dk_181 0 30 (dk_at dksX2_begin_0 2 rfl rfl)
theorem dX2_begin_5 : decode cX2_begin 5 = .ok (.aload_n 0, 1) := dk_42 (dk_at dksX2_begin_0 5 rfl rfl)
theorem dX2_begin_6 : decode cX2_begin 6 = .ok (.iload_n 2, 1) := dk_28 (dk_at dksX2_begin_0 6 rfl rfl)
theorem dX2_begin_7 : decode cX2_begin 7 = .ok (.putfield 34, 3) := dk_181 0 34 (dk_at dksX2_begin_0 7 rfl rfl)
theorem dX2_begin_10 : decode cX2_begin 10 = .ok (.aload_n 0, 1) := dk_42 (dk_at dksX2_begin_0 10 rfl rfl)
theorem dX2_begin_11 : decode cX2_begin 11 = .ok (.aload 4, 2) := dk_25 4 (dk_at dksX2_begin_0 11 rfl rfl)
theorem dX2_begin_13 : decode cX2_begin 13 = .ok (.putfield 38, 3) := dk_181 0 38 (dk_at dksX2_begin_0 13 rfl rfl)
theorem dX2_begin_16 : decode cX2_begin 16 = .ok (.aload_n 0, 1) := dk_42 (dk_at dksX2_begin_0 16 rfl rfl)
theorem dX2_begin_17 : decode cX2_begin 17 = .ok (.aload_n 1, 1) := dk_43 (dk_at dksX2_begin_0 17 rfl rfl)
theorem dX2_begin_18 : decode cX2_begin 18 = .ok (.invokevirtual 42, 3) := dk_182 0 42 (dk_at dksX2_begin_0 18 rfl rfl)
theorem dX2_begin_21 : decode cX2_begin 21 = .ok (.putfield 48, 3) := dk_181 0 48 (dk_at dksX2_begin_0 21 rfl rfl)
theorem dX2_begin_24 : decode cX2_begin 24 = .ok (.aload_n 0, 1) := dk_42 (dk_at dksX2_begin_1 0 rfl rfl)
theorem dX2_begin_25 : decode cX2_begin 25 = .ok (.getfield 16, 3) := dk_180 0 16 (dk_at dksX2_begin_1 1 rfl rfl)
theorem dX2_begin_28 : decode cX2_begin 28 = .ok (.iconst 0, 1) := dk_3 (dk_at dksX2_begin_1 4 rfl rfl)
theorem dX2_begin_29 : decode cX2_begin 29 = .ok (.invokestatic 51, 3) := dk_184 0 51 (dk_at dksX2_begin_1 5 rfl rfl)
theorem dX2_begin_32 : decode cX2_begin 32 = .ok (.iconst 0, 1) := dk_3 (dk_at dksX2_begin_1 8 rfl rfl)
theorem dX2_begin_33 : decode cX2_begin 33 = .ok (.istore 5, 2) := dk_54 5 (dk_at dksX2_begin_1 9 rfl rfl)
theorem dX2_begin_35 : decode cX2_begin 35 = .ok (.iload 5, 2) := dk_21 5 (dk_at dksX2_begin_1 11 rfl rfl)
theorem dX2_begin_37 : decode cX2_begin 37 = .ok (.aload_n 0, 1) := dk_42 (dk_at dksX2_begin_1 13 rfl rfl)
theorem dX2_begin_38 : decode cX2_begin 38 = .ok (.getfield 48, 3) := dk_180 0 48 (dk_at dksX2_begin_1 14 rfl rfl)
theorem dX2_begin_41 : decode cX2_begin 41 = .ok (.if_icmp .ge 116, 3) := dk_162 0 116 (dk_at dksX2_begin_1 17 rfl rfl)
theorem dX2_begin_44 : decode cX2_begin 44 = .ok (.aload_n 0, 1) := dk_42 (dk_at dksX2_begin_1 20 rfl rfl)
theorem dX2_begin_45 : decode cX2_begin 45 = .ok (.getfield 23, 3) := dk_180 0 23 (dk_at dksX2_begin_1 21 rfl rfl)
theorem dX2_begin_48 : decode cX2_begin 48 = .ok (.iload 5, 2) := dk_21 5 (dk_at dksX2_begin_2 0 rfl rfl)
theorem dX2_begin_50 : decode cX2_begin 50 = .ok (.aload_n 1, 1) := dk_43 (dk_at dksX2_begin_2 2 rfl rfl)
theorem dX2_begin_51 : decode cX2_begin 51 = .ok (.iload 5, 2) := dk_21 5 (dk_at dksX2_begin_2 3 rfl rfl)
theorem dX2_begin_53 : decode cX2_begin 53 = .ok (.invokevirtual 57, 3) := dk_182 0 57 (dk_at dksX2_begin_2 5 rfl rfl)
theorem dX2_begin_56 : decode cX2_begin 56 = .ok (.iastore, 1) := dk_79 (dk_at dksX2_begin_2 8 rfl rfl)
theorem dX2_begin_57 : decode cX2_begin 57 = .ok (.aload_n 1, 1) := dk_43 (dk_at dksX2_begin_2 9 rfl rfl)
theorem dX2_begin_58 : decode cX2_begin 58 = .ok (.getfield 60, 3) := dk_180 0 60 (dk_at dksX2_begin_2 10 rfl rfl)
theorem dX2_begin_61 : decode cX2_begin 61 = .ok (.astore 6, 2) := dk_58 6 (dk_at dksX2_begin_2 13 rfl rfl)
theorem dX2_begin_63 : decode cX2_begin 63 = .ok (.aload 6, 2) := dk_25 6 (dk_at dksX2_begin_2 15 rfl rfl)
theorem dX2_begin_65 : decode cX2_begin 65 = .ok (.arraylength, 1) := dk_190 (dk_at dksX2_begin_2 17 rfl rfl)
theorem dX2_begin_66 : decode cX2_begin 66 = .ok (.istore 7, 2) := dk_54 7 (dk_at dksX2_begin_2 18 rfl rfl)
theorem dX2_begin_68 : decode cX2_begin 68 = .ok (.iconst 0, 1) := dk_3 (dk_at dksX2_begin_2 20 rfl rfl)
theorem dX2_begin_69 : decode cX2_begin 69 = .ok (.istore 8, 2) := dk_54 8 (dk_at dksX2_begin_2 21 rfl rfl)
theorem dX2_begin_71 : decode cX2_begin 71 = .ok (.iload 8, 2) := dk_21 8 (dk_at dksX2_begin_3 0 rfl rfl)
theorem dX2_begin_73 : decode cX2_begin 73 = .ok (.iload 7, 2) := dk_21 7 (dk_at dksX2_begin_3 2 rfl rfl)
theorem dX2_begin_75 : decode cX2_begin 75 = .ok (.if_icmp .ge 76, 3) := dk_162 0 76 (dk_at dksX2_begin_3 4 rfl rfl)
theorem dX2_begin_78 : decode cX2_begin 78 = .ok (.aload 6, 2) := dk_25 6 (dk_at dksX2_begin_3 7 rfl rfl)
theorem dX2_begin_80 : decode cX2_begin 80 = .ok (.iload 8, 2) := dk_21 8 (dk_at dksX2_begin_3 9 rfl rfl)
theorem dX2_begin_82 : decode cX2_begin 82 = .ok (.aaload, 1) := dk_50 (dk_at dksX2_begin_3 11 rfl rfl)
theorem dX2_begin_83 : decode cX2_begin 83 = .ok (.astore 9, 2) := dk_58 9 (dk_at dksX2_begin_3 12 rfl rfl)
theorem dX2_begin_85 : decode cX2_begin 85 = .ok (.iconst 0, 1) := dk_3 (dk_at dksX2_begin_3 14 rfl rfl)
theorem dX2_begin_86 : decode cX2_begin 86 = .ok (.istore 10, 2) := dk_54 10 (dk_at dksX2_begin_3 15 rfl rfl)
theorem dX2_begin_88 : decode cX2_begin 88 = .ok (.iload 10, 2) := dk_21 10 (dk_at dksX2_begin_3 17 rfl rfl)
theorem dX2_begin_90 : decode cX2_begin 90 = .ok (.aload_n 1, 1) := dk_43 (dk_at dksX2_begin_3 19 rfl rfl)
theorem dX2_begin_91 : decode cX2_begin 91 = .ok (.getfield 64, 3) := dk_180 0 64 (dk_at dksX2_begin_3 20 rfl rfl)
theorem dX2_begin_94 : decode cX2_begin 94 = .ok (.getfield 68, 3) := dk_180 0 68 (dk_at dksX2_begin_4 0 rfl rfl)
theorem dX2_begin_97 : decode cX2_begin 97 = .ok (.invokevirtual 74, 3) := dk_182 0 74 (dk_at dksX2_begin_4 3 rfl rfl)
theorem dX2_begin_100 : decode cX2_begin 100 = .ok (.if_icmp .ge 45, 3) := dk_162 0 45 (dk_at dksX2_begin_4 6 rfl rfl)
theorem dX2_begin_103 : decode cX2_begin 103 = .ok (.aload_n 0, 1) := dk_42 (dk_at dksX2_begin_4 9 rfl rfl)
theorem dX2_begin_104 : decode cX2_begin 104 = .ok (.getfield 27, 3) := dk_180 0 27 (dk_at dksX2_begin_4 10 rfl rfl)
theorem dX2_begin_107 : decode cX2_begin 107 = .ok (.iload 5, 2) := dk_21 5 (dk_at dksX2_begin_4 13 rfl rfl)
theorem dX2_begin_109 : decode cX2_begin 109 = .ok (.aload 9, 2) := dk_25 9 (dk_at dksX2_begin_4 15 rfl rfl)
theorem dX2_begin_111 : decode cX2_begin 111 = .ok (.iload 10, 2) := dk_21 10 (dk_at dksX2_begin_4 17 rfl rfl)
theorem dX2_begin_113 : decode cX2_begin 113 = .ok (.invokestatic 78, 3) := dk_184 0 78 (dk_at dksX2_begin_4 19 rfl rfl)
theorem dX2_begin_116 : decode cX2_begin 116 = .ok (.aload_n 1, 1) := dk_43 (dk_at dksX2_begin_4 22 rfl rfl)
theorem dX2_begin_117 : decode cX2_begin 117 = .ok (.iload 5, 2) := dk_21 5 (dk_at dksX2_begin_5 0 rfl rfl)
theorem dX2_begin_119 : decode cX2_begin 119 = .ok (.aload 9, 2) := dk_25 9 (dk_at dksX2_begin_5 2 rfl rfl)
theorem dX2_begin_121 : decode cX2_begin 121 = .ok (.iload 10, 2) := dk_21 10 (dk_at dksX2_begin_5 4 rfl rfl)
theorem dX2_begin_123 : decode cX2_begin 123 = .ok (.iload_n 3, 1) := dk_29 (dk_at dksX2_begin_5 6 rfl rfl)
theorem dX2_begin_124 : decode cX2_begin 124 = .ok (.invokevirtual 82, 3) := dk_182 0 82 (dk_at dksX2_begin_5 7 rfl rfl)
theorem dX2_begin_127 : decode cX2_begin 127 = .ok (.ifCond .ne 10, 3) := dk_154 0 10 (dk_at dksX2_begin_5 10 rfl rfl)
theorem dX2_begin_130 : decode cX2_begin 130 = .ok (.aload_n 1, 1) := dk_43 (dk_at dksX2_begin_5 13 rfl rfl)
theorem dX2_begin_131 : decode cX2_begin 131 = .ok (.getfield 86, 3) := dk_180 0 86 (dk_at dksX2_begin_5 14 rfl rfl)
theorem dX2_begin_134 : decode cX2_begin 134 = .ok (.goto 4, 3) := dk_167 0 4 (dk_at dksX2_begin_5 17 rfl rfl)
theorem dX2_begin_137 : decode cX2_begin 137 = .ok (.iconst (-1), 1) := dk_2 (dk_at dksX2_begin_5 20 rfl rfl)
theorem dX2_begin_138 : decode cX2_begin 138 = .ok (.iastore, 1) := dk_79 (dk_at dksX2_begin_5 21 rfl rfl)
theorem dX2_begin_139 : decode cX2_begin 139 = .ok (.iinc 10 1, 3) := dk_132 10 1 (dk_at dksX2_begin_6 0 rfl rfl)
theorem dX2_begin_142 : decode cX2_begin 142 = .ok (.goto (-54), 3) := dk_167 255 202 (dk_at dksX2_begin_6 3 rfl rfl)
theorem dX2_begin_145 : decode cX2_begin 145 = .ok (.iinc 8 1, 3) := dk_132 8 1 (dk_at dksX2_begin_6 6 rfl rfl)
theorem dX2_begin_148 : decode cX2_begin 148 = .ok (.goto (-77), 3) := dk_167 255 179 (dk_at dksX2_begin_6 9 rfl rfl)
theorem dX2_begin_151 : decode cX2_begin 151 = .ok (.iinc 5 1, 3) := dk_132 5 1 (dk_at dksX2_begin_6 12 rfl rfl)
theorem dX2_begin_154 : decode cX2_begin 154 = .ok (.goto (-119), 3) := dk_167 255 137 (dk_at dksX2_begin_6 15 rfl rfl)
theorem dX2_begin_157 : decode cX2_begin 157 = .ok (.aload_n 0, 1) := dk_42 (dk_at dksX2_begin_6 18 rfl rfl)
theorem dX2_begin_158 : decode cX2_begin 158 = .ok (.areturn, 1) := dk_176 (dk_at dksX2_begin_6 19 rfl rfl)
abbrev cX2_at : ByteArray := prog_17_method_3_code
def yX2_at : MethodName := ⟨RX2, "at", "(ILSoftWheels$Way;I)I"⟩
def dkwX2_at_0 : List UInt8 := [7, 26, 104, 43, 182, 0, 89, 96, 16, 8, 104, 28, 96, 172]
abbrev dktX2_at_0 : List UInt8 := dkwX2_at_0 ++ []
theorem dksX2_at_0 : cX2_at.data.toList.drop 0 = dktX2_at_0 := by decide +kernel
theorem dX2_at_0 : decode cX2_at 0 = .ok (.iconst 4, 1) := dk_7 (dk_at dksX2_at_0 0 rfl rfl)
theorem dX2_at_1 : decode cX2_at 1 = .ok (.iload_n 0, 1) := dk_26 (dk_at dksX2_at_0 1 rfl rfl)
theorem dX2_at_2 : decode cX2_at 2 = .ok (.imul, 1) := dk_104 (dk_at dksX2_at_0 2 rfl rfl)
theorem dX2_at_3 : decode cX2_at 3 = .ok (.aload_n 1, 1) := dk_43 (dk_at dksX2_at_0 3 rfl rfl)
theorem dX2_at_4 : decode cX2_at 4 = .ok (.invokevirtual 89, 3) := dk_182 0 89 (dk_at dksX2_at_0 4 rfl rfl)
theorem dX2_at_7 : decode cX2_at 7 = .ok (.iadd, 1) := dk_96 (dk_at dksX2_at_0 7 rfl rfl)
theorem dX2_at_8 : decode cX2_at 8 = .ok (.bipush 8, 2) := dk_16 8 (dk_at dksX2_at_0 8 rfl rfl)
theorem dX2_at_10 : decode cX2_at 10 = .ok (.imul, 1) := dk_104 (dk_at dksX2_at_0 10 rfl rfl)
theorem dX2_at_11 : decode cX2_at 11 = .ok (.iload_n 2, 1) := dk_28 (dk_at dksX2_at_0 11 rfl rfl)
theorem dX2_at_12 : decode cX2_at 12 = .ok (.iadd, 1) := dk_96 (dk_at dksX2_at_0 12 rfl rfl)
theorem dX2_at_13 : decode cX2_at 13 = .ok (.ireturn, 1) := dk_172 (dk_at dksX2_at_0 13 rfl rfl)
abbrev cX2_known : ByteArray := prog_17_method_5_code
def yX2_known : MethodName := ⟨RX2, "known", "()I"⟩
def dkwX2_known_3 : List UInt8 := [192, 0, 101, 180, 0, 103, 182, 0, 109, 60, 132, 2, 1, 167, 255, 178, 27, 172]
abbrev dktX2_known_3 : List UInt8 := dkwX2_known_3 ++ []
def dkwX2_known_2 : List UInt8 := [180, 0, 94, 28, 182, 0, 97, 192, 0, 101, 180, 0, 106, 42, 180, 0, 30, 180, 0, 94, 28, 182, 0, 97]
abbrev dktX2_known_2 : List UInt8 := dkwX2_known_2 ++ dktX2_known_3
def dkwX2_known_1 : List UInt8 := [180, 0, 94, 28, 182, 0, 97, 192, 0, 101, 180, 0, 103, 2, 159, 0, 43, 42, 27, 42, 180, 0, 30]
abbrev dktX2_known_1 : List UInt8 := dkwX2_known_1 ++ dktX2_known_2
def dkwX2_known_0 : List UInt8 := [3, 60, 3, 61, 28, 42, 180, 0, 30, 180, 0, 94, 182, 0, 74, 162, 0, 70, 42, 180, 0, 30]
abbrev dktX2_known_0 : List UInt8 := dkwX2_known_0 ++ dktX2_known_1
theorem dksX2_known_0 : cX2_known.data.toList.drop 0 = dktX2_known_0 := by decide +kernel
theorem dksX2_known_1 : cX2_known.data.toList.drop 22 = dktX2_known_1 := dk_seg dksX2_known_0 22 rfl rfl
theorem dksX2_known_2 : cX2_known.data.toList.drop 45 = dktX2_known_2 := dk_seg dksX2_known_1 23 rfl rfl
theorem dksX2_known_3 : cX2_known.data.toList.drop 69 = dktX2_known_3 := dk_seg dksX2_known_2 24 rfl rfl
theorem dX2_known_0 : decode cX2_known 0 = .ok (.iconst 0, 1) := dk_3 (dk_at dksX2_known_0 0 rfl rfl)
theorem dX2_known_1 : decode cX2_known 1 = .ok (.istore_n 1, 1) := dk_60 (dk_at dksX2_known_0 1 rfl rfl)
theorem dX2_known_2 : decode cX2_known 2 = .ok (.iconst 0, 1) := dk_3 (dk_at dksX2_known_0 2 rfl rfl)
theorem dX2_known_3 : decode cX2_known 3 = .ok (.istore_n 2, 1) := dk_61 (dk_at dksX2_known_0 3 rfl rfl)
theorem dX2_known_4 : decode cX2_known 4 = .ok (.iload_n 2, 1) := dk_28 (dk_at dksX2_known_0 4 rfl rfl)
theorem dX2_known_5 : decode cX2_known 5 = .ok (.aload_n 0, 1) := dk_42 (dk_at dksX2_known_0 5 rfl rfl)
theorem dX2_known_6 : decode cX2_known 6 = .ok (.getfield 30, 3) := dk_180 0 30 (dk_at dksX2_known_0 6 rfl rfl)
theorem dX2_known_9 : decode cX2_known 9 = .ok (.getfield 94, 3) := dk_180 0 94 (dk_at dksX2_known_0 9 rfl rfl)
theorem dX2_known_12 : decode cX2_known 12 = .ok (.invokevirtual 74, 3) := dk_182 0 74 (dk_at dksX2_known_0 12 rfl rfl)
theorem dX2_known_15 : decode cX2_known 15 = .ok (.if_icmp .ge 70, 3) := dk_162 0 70 (dk_at dksX2_known_0 15 rfl rfl)
theorem dX2_known_18 : decode cX2_known 18 = .ok (.aload_n 0, 1) := dk_42 (dk_at dksX2_known_0 18 rfl rfl)
theorem dX2_known_19 : decode cX2_known 19 = .ok (.getfield 30, 3) := dk_180 0 30 (dk_at dksX2_known_0 19 rfl rfl)
theorem dX2_known_22 : decode cX2_known 22 = .ok (.getfield 94, 3) := dk_180 0 94 (dk_at dksX2_known_1 0 rfl rfl)
theorem dX2_known_25 : decode cX2_known 25 = .ok (.iload_n 2, 1) := dk_28 (dk_at dksX2_known_1 3 rfl rfl)
theorem dX2_known_26 : decode cX2_known 26 = .ok (.invokevirtual 97, 3) := dk_182 0 97 (dk_at dksX2_known_1 4 rfl rfl)
theorem dX2_known_29 : decode cX2_known 29 = .ok (.checkcast 101, 3) := dk_192 0 101 (dk_at dksX2_known_1 7 rfl rfl)
theorem dX2_known_32 : decode cX2_known 32 = .ok (.getfield 103, 3) := dk_180 0 103 (dk_at dksX2_known_1 10 rfl rfl)
theorem dX2_known_35 : decode cX2_known 35 = .ok (.iconst (-1), 1) := dk_2 (dk_at dksX2_known_1 13 rfl rfl)
theorem dX2_known_36 : decode cX2_known 36 = .ok (.if_icmp .eq 43, 3) := dk_159 0 43 (dk_at dksX2_known_1 14 rfl rfl)
theorem dX2_known_39 : decode cX2_known 39 = .ok (.aload_n 0, 1) := dk_42 (dk_at dksX2_known_1 17 rfl rfl)
theorem dX2_known_40 : decode cX2_known 40 = .ok (.iload_n 1, 1) := dk_27 (dk_at dksX2_known_1 18 rfl rfl)
theorem dX2_known_41 : decode cX2_known 41 = .ok (.aload_n 0, 1) := dk_42 (dk_at dksX2_known_1 19 rfl rfl)
theorem dX2_known_42 : decode cX2_known 42 = .ok (.getfield 30, 3) := dk_180 0 30 (dk_at dksX2_known_1 20 rfl rfl)
theorem dX2_known_45 : decode cX2_known 45 = .ok (.getfield 94, 3) := dk_180 0 94 (dk_at dksX2_known_2 0 rfl rfl)
theorem dX2_known_48 : decode cX2_known 48 = .ok (.iload_n 2, 1) := dk_28 (dk_at dksX2_known_2 3 rfl rfl)
theorem dX2_known_49 : decode cX2_known 49 = .ok (.invokevirtual 97, 3) := dk_182 0 97 (dk_at dksX2_known_2 4 rfl rfl)
theorem dX2_known_52 : decode cX2_known 52 = .ok (.checkcast 101, 3) := dk_192 0 101 (dk_at dksX2_known_2 7 rfl rfl)
theorem dX2_known_55 : decode cX2_known 55 = .ok (.getfield 106, 3) := dk_180 0 106 (dk_at dksX2_known_2 10 rfl rfl)
theorem dX2_known_58 : decode cX2_known 58 = .ok (.aload_n 0, 1) := dk_42 (dk_at dksX2_known_2 13 rfl rfl)
theorem dX2_known_59 : decode cX2_known 59 = .ok (.getfield 30, 3) := dk_180 0 30 (dk_at dksX2_known_2 14 rfl rfl)
theorem dX2_known_62 : decode cX2_known 62 = .ok (.getfield 94, 3) := dk_180 0 94 (dk_at dksX2_known_2 17 rfl rfl)
theorem dX2_known_65 : decode cX2_known 65 = .ok (.iload_n 2, 1) := dk_28 (dk_at dksX2_known_2 20 rfl rfl)
theorem dX2_known_66 : decode cX2_known 66 = .ok (.invokevirtual 97, 3) := dk_182 0 97 (dk_at dksX2_known_2 21 rfl rfl)
theorem dX2_known_69 : decode cX2_known 69 = .ok (.checkcast 101, 3) := dk_192 0 101 (dk_at dksX2_known_3 0 rfl rfl)
theorem dX2_known_72 : decode cX2_known 72 = .ok (.getfield 103, 3) := dk_180 0 103 (dk_at dksX2_known_3 3 rfl rfl)
theorem dX2_known_75 : decode cX2_known 75 = .ok (.invokevirtual 109, 3) := dk_182 0 109 (dk_at dksX2_known_3 6 rfl rfl)
theorem dX2_known_78 : decode cX2_known 78 = .ok (.istore_n 1, 1) := dk_60 (dk_at dksX2_known_3 9 rfl rfl)
theorem dX2_known_79 : decode cX2_known 79 = .ok (.iinc 2 1, 3) := dk_132 2 1 (dk_at dksX2_known_3 10 rfl rfl)
theorem dX2_known_82 : decode cX2_known 82 = .ok (.goto (-78), 3) := dk_167 255 178 (dk_at dksX2_known_3 13 rfl rfl)
theorem dX2_known_85 : decode cX2_known 85 = .ok (.iload_n 1, 1) := dk_27 (dk_at dksX2_known_3 16 rfl rfl)
theorem dX2_known_86 : decode cX2_known 86 = .ok (.ireturn, 1) := dk_172 (dk_at dksX2_known_3 17 rfl rfl)
abbrev cX2_knows : ByteArray := prog_17_method_6_code
def yX2_knows : MethodName := ⟨RX2, "knows", "(III)I"⟩
def dkwX2_knows_2 : List UInt8 := [4, 96, 5, 28, 104, 120, 128, 172]
abbrev dktX2_knows_2 : List UInt8 := dkwX2_knows_2 ++ []
def dkwX2_knows_1 : List UInt8 := [182, 0, 113, 29, 159, 0, 9, 132, 5, 1, 167, 255, 242, 27, 6, 5, 28, 104, 120, 2, 130, 126, 21, 5]
abbrev dktX2_knows_1 : List UInt8 := dkwX2_knows_1 ++ dktX2_knows_2
def dkwX2_knows_0 : List UInt8 := [42, 180, 0, 30, 180, 0, 94, 28, 182, 0, 97, 192, 0, 101, 58, 4, 3, 54, 5, 25, 4, 21, 5]
abbrev dktX2_knows_0 : List UInt8 := dkwX2_knows_0 ++ dktX2_knows_1
theorem dksX2_knows_0 : cX2_knows.data.toList.drop 0 = dktX2_knows_0 := by decide +kernel
theorem dksX2_knows_1 : cX2_knows.data.toList.drop 23 = dktX2_knows_1 := dk_seg dksX2_knows_0 23 rfl rfl
theorem dksX2_knows_2 : cX2_knows.data.toList.drop 47 = dktX2_knows_2 := dk_seg dksX2_knows_1 24 rfl rfl
theorem dX2_knows_0 : decode cX2_knows 0 = .ok (.aload_n 0, 1) := dk_42 (dk_at dksX2_knows_0 0 rfl rfl)
theorem dX2_knows_1 : decode cX2_knows 1 = .ok (.getfield 30, 3) := dk_180 0 30 (dk_at dksX2_knows_0 1 rfl rfl)
theorem dX2_knows_4 : decode cX2_knows 4 = .ok (.getfield 94, 3) := dk_180 0 94 (dk_at dksX2_knows_0 4 rfl rfl)
theorem dX2_knows_7 : decode cX2_knows 7 = .ok (.iload_n 2, 1) := dk_28 (dk_at dksX2_knows_0 7 rfl rfl)
theorem dX2_knows_8 : decode cX2_knows 8 = .ok (.invokevirtual 97, 3) := dk_182 0 97 (dk_at dksX2_knows_0 8 rfl rfl)
theorem dX2_knows_11 : decode cX2_knows 11 = .ok (.checkcast 101, 3) := dk_192 0 101 (dk_at dksX2_knows_0 11 rfl rfl)
theorem dX2_knows_14 : decode cX2_knows 14 = .ok (.astore 4, 2) := dk_58 4 (dk_at dksX2_knows_0 14 rfl rfl)
theorem dX2_knows_16 : decode cX2_knows 16 = .ok (.iconst 0, 1) := dk_3 (dk_at dksX2_knows_0 16 rfl rfl)
theorem dX2_knows_17 : decode cX2_knows 17 = .ok (.istore 5, 2) := dk_54 5 (dk_at dksX2_knows_0 17 rfl rfl)
theorem dX2_knows_19 : decode cX2_knows 19 = .ok (.aload 4, 2) := dk_25 4 (dk_at dksX2_knows_0 19 rfl rfl)
theorem dX2_knows_21 : decode cX2_knows 21 = .ok (.iload 5, 2) := dk_21 5 (dk_at dksX2_knows_0 21 rfl rfl)
theorem dX2_knows_23 : decode cX2_knows 23 = .ok (.invokevirtual 113, 3) := dk_182 0 113 (dk_at dksX2_knows_1 0 rfl rfl)
theorem dX2_knows_26 : decode cX2_knows 26 = .ok (.iload_n 3, 1) := dk_29 (dk_at dksX2_knows_1 3 rfl rfl)
theorem dX2_knows_27 : decode cX2_knows 27 = .ok (.if_icmp .eq 9, 3) := dk_159 0 9 (dk_at dksX2_knows_1 4 rfl rfl)
theorem dX2_knows_30 : decode cX2_knows 30 = .ok (.iinc 5 1, 3) := dk_132 5 1 (dk_at dksX2_knows_1 7 rfl rfl)
theorem dX2_knows_33 : decode cX2_knows 33 = .ok (.goto (-14), 3) := dk_167 255 242 (dk_at dksX2_knows_1 10 rfl rfl)
theorem dX2_knows_36 : decode cX2_knows 36 = .ok (.iload_n 1, 1) := dk_27 (dk_at dksX2_knows_1 13 rfl rfl)
theorem dX2_knows_37 : decode cX2_knows 37 = .ok (.iconst 3, 1) := dk_6 (dk_at dksX2_knows_1 14 rfl rfl)
theorem dX2_knows_38 : decode cX2_knows 38 = .ok (.iconst 2, 1) := dk_5 (dk_at dksX2_knows_1 15 rfl rfl)
theorem dX2_knows_39 : decode cX2_knows 39 = .ok (.iload_n 2, 1) := dk_28 (dk_at dksX2_knows_1 16 rfl rfl)
theorem dX2_knows_40 : decode cX2_knows 40 = .ok (.imul, 1) := dk_104 (dk_at dksX2_knows_1 17 rfl rfl)
theorem dX2_knows_41 : decode cX2_knows 41 = .ok (.ishl, 1) := dk_120 (dk_at dksX2_knows_1 18 rfl rfl)
theorem dX2_knows_42 : decode cX2_knows 42 = .ok (.iconst (-1), 1) := dk_2 (dk_at dksX2_knows_1 19 rfl rfl)
theorem dX2_knows_43 : decode cX2_knows 43 = .ok (.ixor, 1) := dk_130 (dk_at dksX2_knows_1 20 rfl rfl)
theorem dX2_knows_44 : decode cX2_knows 44 = .ok (.iand, 1) := dk_126 (dk_at dksX2_knows_1 21 rfl rfl)
theorem dX2_knows_45 : decode cX2_knows 45 = .ok (.iload 5, 2) := dk_21 5 (dk_at dksX2_knows_1 22 rfl rfl)
theorem dX2_knows_47 : decode cX2_knows 47 = .ok (.iconst 1, 1) := dk_4 (dk_at dksX2_knows_2 0 rfl rfl)
theorem dX2_knows_48 : decode cX2_knows 48 = .ok (.iadd, 1) := dk_96 (dk_at dksX2_knows_2 1 rfl rfl)
theorem dX2_knows_49 : decode cX2_knows 49 = .ok (.iconst 2, 1) := dk_5 (dk_at dksX2_knows_2 2 rfl rfl)
theorem dX2_knows_50 : decode cX2_knows 50 = .ok (.iload_n 2, 1) := dk_28 (dk_at dksX2_knows_2 3 rfl rfl)
theorem dX2_knows_51 : decode cX2_knows 51 = .ok (.imul, 1) := dk_104 (dk_at dksX2_knows_2 4 rfl rfl)
theorem dX2_knows_52 : decode cX2_knows 52 = .ok (.ishl, 1) := dk_120 (dk_at dksX2_knows_2 5 rfl rfl)
theorem dX2_knows_53 : decode cX2_knows 53 = .ok (.ior, 1) := dk_128 (dk_at dksX2_knows_2 6 rfl rfl)
theorem dX2_knows_54 : decode cX2_knows 54 = .ok (.ireturn, 1) := dk_172 (dk_at dksX2_knows_2 7 rfl rfl)
abbrev cX2_of : ByteArray := prog_17_method_12_code
def yX2_of : MethodName := ⟨RX2, "of", "(II)J"⟩
def dkwX2_of_1 : List UInt8 := [47, 173]
abbrev dktX2_of_1 : List UInt8 := dkwX2_of_1 ++ []
def dkwX2_of_0 : List UInt8 := [42, 180, 0, 16, 28, 51, 154, 0, 8, 42, 28, 182, 0, 159, 42, 180, 0, 10, 16, 100, 28, 104, 27, 96]
abbrev dktX2_of_0 : List UInt8 := dkwX2_of_0 ++ dktX2_of_1
theorem dksX2_of_0 : cX2_of.data.toList.drop 0 = dktX2_of_0 := by decide +kernel
theorem dksX2_of_1 : cX2_of.data.toList.drop 24 = dktX2_of_1 := dk_seg dksX2_of_0 24 rfl rfl
theorem dX2_of_0 : decode cX2_of 0 = .ok (.aload_n 0, 1) := dk_42 (dk_at dksX2_of_0 0 rfl rfl)
theorem dX2_of_1 : decode cX2_of 1 = .ok (.getfield 16, 3) := dk_180 0 16 (dk_at dksX2_of_0 1 rfl rfl)
theorem dX2_of_4 : decode cX2_of 4 = .ok (.iload_n 2, 1) := dk_28 (dk_at dksX2_of_0 4 rfl rfl)
theorem dX2_of_5 : decode cX2_of 5 = .ok (.baload, 1) := dk_51 (dk_at dksX2_of_0 5 rfl rfl)
theorem dX2_of_6 : decode cX2_of 6 = .ok (.ifCond .ne 8, 3) := dk_154 0 8 (dk_at dksX2_of_0 6 rfl rfl)
theorem dX2_of_9 : decode cX2_of 9 = .ok (.aload_n 0, 1) := dk_42 (dk_at dksX2_of_0 9 rfl rfl)
theorem dX2_of_10 : decode cX2_of 10 = .ok (.iload_n 2, 1) := dk_28 (dk_at dksX2_of_0 10 rfl rfl)
theorem dX2_of_11 : decode cX2_of 11 = .ok (.invokevirtual 159, 3) := dk_182 0 159 (dk_at dksX2_of_0 11 rfl rfl)
theorem dX2_of_14 : decode cX2_of 14 = .ok (.aload_n 0, 1) := dk_42 (dk_at dksX2_of_0 14 rfl rfl)
theorem dX2_of_15 : decode cX2_of 15 = .ok (.getfield 10, 3) := dk_180 0 10 (dk_at dksX2_of_0 15 rfl rfl)
theorem dX2_of_18 : decode cX2_of 18 = .ok (.bipush 100, 2) := dk_16 100 (dk_at dksX2_of_0 18 rfl rfl)
theorem dX2_of_20 : decode cX2_of 20 = .ok (.iload_n 2, 1) := dk_28 (dk_at dksX2_of_0 20 rfl rfl)
theorem dX2_of_21 : decode cX2_of 21 = .ok (.imul, 1) := dk_104 (dk_at dksX2_of_0 21 rfl rfl)
theorem dX2_of_22 : decode cX2_of 22 = .ok (.iload_n 1, 1) := dk_27 (dk_at dksX2_of_0 22 rfl rfl)
theorem dX2_of_23 : decode cX2_of 23 = .ok (.iadd, 1) := dk_96 (dk_at dksX2_of_0 23 rfl rfl)
theorem dX2_of_24 : decode cX2_of 24 = .ok (.laload, 1) := dk_47 (dk_at dksX2_of_1 0 rfl rfl)
theorem dX2_of_25 : decode cX2_of 25 = .ok (.lreturn, 1) := dk_173 (dk_at dksX2_of_1 1 rfl rfl)
abbrev cX2_solve : ByteArray := prog_17_method_13_code
def yX2_solve : MethodName := ⟨RX2, "solve", "(I)V"⟩
def dkwX2_solve_15 : List UInt8 := [184, 0, 178, 80, 132, 10, 1, 167, 255, 118, 132, 6, 1, 167, 254, 246, 42, 180, 0, 16, 27, 4, 84, 177]
abbrev dktX2_solve_15 : List UInt8 := dkwX2_solve_15 ++ []
def dkwX2_solve_14 : List UInt8 := [180, 0, 10, 28, 21, 7, 96, 47, 42, 180, 0, 38, 21, 13, 133, 22, 4, 185, 0, 174, 5, 0, 97]
abbrev dktX2_solve_14 : List UInt8 := dkwX2_solve_14 ++ dktX2_solve_15
def dkwX2_solve_13 : List UInt8 := [160, 0, 6, 167, 0, 48, 42, 180, 0, 10, 28, 21, 12, 96, 42, 180, 0, 10, 28, 21, 12, 96, 47, 42]
abbrev dktX2_solve_13 : List UInt8 := dkwX2_solve_13 ++ dktX2_solve_14
def dkwX2_solve_12 : List UInt8 := [42, 180, 0, 30, 180, 0, 60, 25, 11, 182, 0, 89, 4, 130, 50, 27, 182, 0, 172, 54, 13, 21, 13, 2]
abbrev dktX2_solve_12 : List UInt8 := dkwX2_solve_12 ++ dktX2_solve_13
def dkwX2_solve_11 : List UInt8 := [180, 0, 34, 159, 0, 96, 42, 180, 0, 23, 21, 12, 46, 29, 126, 153, 0, 6, 167, 0, 81, 42, 21, 12]
abbrev dktX2_solve_11 : List UInt8 := dkwX2_solve_11 ++ dktX2_solve_12
def dkwX2_solve_10 : List UInt8 := [42, 180, 0, 30, 21, 7, 25, 11, 182, 0, 130, 54, 12, 21, 12, 2, 159, 0, 105, 21, 12, 42]
abbrev dktX2_solve_10 : List UInt8 := dkwX2_solve_10 ++ dktX2_solve_11
def dkwX2_solve_9 : List UInt8 := [58, 8, 25, 8, 190, 54, 9, 3, 54, 10, 21, 10, 21, 9, 162, 0, 137, 25, 8, 21, 10, 50, 58, 11]
abbrev dktX2_solve_9 : List UInt8 := dkwX2_solve_9 ++ dktX2_solve_10
def dkwX2_solve_8 : List UInt8 := [21, 7, 2, 160, 0, 6, 167, 0, 175, 42, 180, 0, 20, 21, 7, 4, 84, 42, 180, 0, 30, 180, 0, 60]
abbrev dktX2_solve_8 : List UInt8 := dkwX2_solve_8 ++ dktX2_solve_9
def dkwX2_solve_7 : List UInt8 := [42, 180, 0, 10, 28, 21, 7, 96, 47, 148, 156, 0, 7, 21, 8, 54, 7, 132, 8, 1, 167, 255, 186]
abbrev dktX2_solve_7 : List UInt8 := dkwX2_solve_7 ++ dktX2_solve_8
def dkwX2_solve_6 : List UInt8 := [96, 47, 20, 0, 166, 148, 153, 0, 35, 21, 7, 2, 159, 0, 25, 42, 180, 0, 10, 28, 21, 8, 96, 47]
abbrev dktX2_solve_6 : List UInt8 := dkwX2_solve_6 ++ dktX2_solve_7
def dkwX2_solve_5 : List UInt8 := [42, 180, 0, 48, 162, 0, 67, 42, 180, 0, 20, 21, 8, 51, 154, 0, 51, 42, 180, 0, 10, 28, 21, 8]
abbrev dktX2_solve_5 : List UInt8 := dkwX2_solve_5 ++ dktX2_solve_6
def dkwX2_solve_4 : List UInt8 := [3, 184, 0, 51, 3, 54, 6, 21, 6, 42, 180, 0, 48, 162, 1, 7, 2, 54, 7, 3, 54, 8, 21, 8]
abbrev dktX2_solve_4 : List UInt8 := dkwX2_solve_4 ++ dktX2_solve_5
def dkwX2_solve_3 : List UInt8 := [167, 0, 6, 20, 0, 166, 80, 132, 4, 1, 167, 255, 188, 42, 27, 182, 0, 168, 55, 4, 42, 180, 0, 20]
abbrev dktX2_solve_3 : List UInt8 := dkwX2_solve_3 ++ dktX2_solve_4
def dkwX2_solve_2 : List UInt8 := [21, 4, 46, 29, 126, 153, 0, 22, 42, 21, 4, 27, 42, 180, 0, 23, 21, 4, 46, 29, 126, 182, 0, 149]
abbrev dktX2_solve_2 : List UInt8 := dkwX2_solve_2 ++ dktX2_solve_3
def dkwX2_solve_1 : List UInt8 := [180, 0, 10, 28, 21, 4, 96, 21, 4, 42, 180, 0, 34, 160, 0, 7, 9, 167, 0, 37, 42, 180, 0, 23]
abbrev dktX2_solve_1 : List UInt8 := dkwX2_solve_1 ++ dktX2_solve_2
def dkwX2_solve_0 : List UInt8 := [16, 100, 27, 104, 61, 42, 27, 182, 0, 163, 62, 3, 54, 4, 21, 4, 42, 180, 0, 48, 162, 0, 65, 42]
abbrev dktX2_solve_0 : List UInt8 := dkwX2_solve_0 ++ dktX2_solve_1
theorem dksX2_solve_0 : cX2_solve.data.toList.drop 0 = dktX2_solve_0 := by decide +kernel
theorem dksX2_solve_1 : cX2_solve.data.toList.drop 24 = dktX2_solve_1 := dk_seg dksX2_solve_0 24 rfl rfl
theorem dksX2_solve_2 : cX2_solve.data.toList.drop 48 = dktX2_solve_2 := dk_seg dksX2_solve_1 24 rfl rfl
theorem dksX2_solve_3 : cX2_solve.data.toList.drop 72 = dktX2_solve_3 := dk_seg dksX2_solve_2 24 rfl rfl
theorem dksX2_solve_4 : cX2_solve.data.toList.drop 96 = dktX2_solve_4 := dk_seg dksX2_solve_3 24 rfl rfl
theorem dksX2_solve_5 : cX2_solve.data.toList.drop 120 = dktX2_solve_5 := dk_seg dksX2_solve_4 24 rfl rfl
theorem dksX2_solve_6 : cX2_solve.data.toList.drop 144 = dktX2_solve_6 := dk_seg dksX2_solve_5 24 rfl rfl
theorem dksX2_solve_7 : cX2_solve.data.toList.drop 168 = dktX2_solve_7 := dk_seg dksX2_solve_6 24 rfl rfl
theorem dksX2_solve_8 : cX2_solve.data.toList.drop 191 = dktX2_solve_8 := dk_seg dksX2_solve_7 23 rfl rfl
theorem dksX2_solve_9 : cX2_solve.data.toList.drop 215 = dktX2_solve_9 := dk_seg dksX2_solve_8 24 rfl rfl
theorem dksX2_solve_10 : cX2_solve.data.toList.drop 239 = dktX2_solve_10 := dk_seg dksX2_solve_9 24 rfl rfl
theorem dksX2_solve_11 : cX2_solve.data.toList.drop 261 = dktX2_solve_11 := dk_seg dksX2_solve_10 22 rfl rfl
theorem dksX2_solve_12 : cX2_solve.data.toList.drop 285 = dktX2_solve_12 := dk_seg dksX2_solve_11 24 rfl rfl
theorem dksX2_solve_13 : cX2_solve.data.toList.drop 309 = dktX2_solve_13 := dk_seg dksX2_solve_12 24 rfl rfl
theorem dksX2_solve_14 : cX2_solve.data.toList.drop 333 = dktX2_solve_14 := dk_seg dksX2_solve_13 24 rfl rfl
theorem dksX2_solve_15 : cX2_solve.data.toList.drop 356 = dktX2_solve_15 := dk_seg dksX2_solve_14 23 rfl rfl
theorem dX2_solve_0 : decode cX2_solve 0 = .ok (.bipush 100, 2) := dk_16 100 (dk_at dksX2_solve_0 0 rfl rfl)
theorem dX2_solve_2 : decode cX2_solve 2 = .ok (.iload_n 1, 1) := dk_27 (dk_at dksX2_solve_0 2 rfl rfl)
theorem dX2_solve_3 : decode cX2_solve 3 = .ok (.imul, 1) := dk_104 (dk_at dksX2_solve_0 3 rfl rfl)
theorem dX2_solve_4 : decode cX2_solve 4 = .ok (.istore_n 2, 1) := dk_61 (dk_at dksX2_solve_0 4 rfl rfl)
theorem dX2_solve_5 : decode cX2_solve 5 = .ok (.aload_n 0, 1) := dk_42 (dk_at dksX2_solve_0 5 rfl rfl)
theorem dX2_solve_6 : decode cX2_solve 6 = .ok (.iload_n 1, 1) := dk_27 (dk_at dksX2_solve_0 6 rfl rfl)
theorem dX2_solve_7 : decode cX2_solve 7 = .ok (.invokevirtual 163, 3) := dk_182 0 163 (dk_at dksX2_solve_0 7 rfl rfl)
theorem dX2_solve_10 : decode cX2_solve 10 = .ok (.istore_n 3, 1) := dk_62 (dk_at dksX2_solve_0 10 rfl rfl)
theorem dX2_solve_11 : decode cX2_solve 11 = .ok (.iconst 0, 1) := dk_3 (dk_at dksX2_solve_0 11 rfl rfl)
theorem dX2_solve_12 : decode cX2_solve 12 = .ok (.istore 4, 2) := dk_54 4 (dk_at dksX2_solve_0 12 rfl rfl)
theorem dX2_solve_14 : decode cX2_solve 14 = .ok (.iload 4, 2) := dk_21 4 (dk_at dksX2_solve_0 14 rfl rfl)
theorem dX2_solve_16 : decode cX2_solve 16 = .ok (.aload_n 0, 1) := dk_42 (dk_at dksX2_solve_0 16 rfl rfl)
theorem dX2_solve_17 : decode cX2_solve 17 = .ok (.getfield 48, 3) := dk_180 0 48 (dk_at dksX2_solve_0 17 rfl rfl)
theorem dX2_solve_20 : decode cX2_solve 20 = .ok (.if_icmp .ge 65, 3) := dk_162 0 65 (dk_at dksX2_solve_0 20 rfl rfl)
theorem dX2_solve_23 : decode cX2_solve 23 = .ok (.aload_n 0, 1) := dk_42 (dk_at dksX2_solve_0 23 rfl rfl)
theorem dX2_solve_24 : decode cX2_solve 24 = .ok (.getfield 10, 3) := dk_180 0 10 (dk_at dksX2_solve_1 0 rfl rfl)
theorem dX2_solve_27 : decode cX2_solve 27 = .ok (.iload_n 2, 1) := dk_28 (dk_at dksX2_solve_1 3 rfl rfl)
theorem dX2_solve_28 : decode cX2_solve 28 = .ok (.iload 4, 2) := dk_21 4 (dk_at dksX2_solve_1 4 rfl rfl)
theorem dX2_solve_30 : decode cX2_solve 30 = .ok (.iadd, 1) := dk_96 (dk_at dksX2_solve_1 6 rfl rfl)
theorem dX2_solve_31 : decode cX2_solve 31 = .ok (.iload 4, 2) := dk_21 4 (dk_at dksX2_solve_1 7 rfl rfl)
theorem dX2_solve_33 : decode cX2_solve 33 = .ok (.aload_n 0, 1) := dk_42 (dk_at dksX2_solve_1 9 rfl rfl)
theorem dX2_solve_34 : decode cX2_solve 34 = .ok (.getfield 34, 3) := dk_180 0 34 (dk_at dksX2_solve_1 10 rfl rfl)
theorem dX2_solve_37 : decode cX2_solve 37 = .ok (.if_icmp .ne 7, 3) := dk_160 0 7 (dk_at dksX2_solve_1 13 rfl rfl)
theorem dX2_solve_40 : decode cX2_solve 40 = .ok (.lconst 0, 1) := dk_9 (dk_at dksX2_solve_1 16 rfl rfl)
theorem dX2_solve_41 : decode cX2_solve 41 = .ok (.goto 37, 3) := dk_167 0 37 (dk_at dksX2_solve_1 17 rfl rfl)
theorem dX2_solve_44 : decode cX2_solve 44 = .ok (.aload_n 0, 1) := dk_42 (dk_at dksX2_solve_1 20 rfl rfl)
theorem dX2_solve_45 : decode cX2_solve 45 = .ok (.getfield 23, 3) := dk_180 0 23 (dk_at dksX2_solve_1 21 rfl rfl)
theorem dX2_solve_48 : decode cX2_solve 48 = .ok (.iload 4, 2) := dk_21 4 (dk_at dksX2_solve_2 0 rfl rfl)
theorem dX2_solve_50 : decode cX2_solve 50 = .ok (.iaload, 1) := dk_46 (dk_at dksX2_solve_2 2 rfl rfl)
theorem dX2_solve_51 : decode cX2_solve 51 = .ok (.iload_n 3, 1) := dk_29 (dk_at dksX2_solve_2 3 rfl rfl)
theorem dX2_solve_52 : decode cX2_solve 52 = .ok (.iand, 1) := dk_126 (dk_at dksX2_solve_2 4 rfl rfl)
theorem dX2_solve_53 : decode cX2_solve 53 = .ok (.ifCond .eq 22, 3) := dk_153 0 22 (dk_at dksX2_solve_2 5 rfl rfl)
theorem dX2_solve_56 : decode cX2_solve 56 = .ok (.aload_n 0, 1) := dk_42 (dk_at dksX2_solve_2 8 rfl rfl)
theorem dX2_solve_57 : decode cX2_solve 57 = .ok (.iload 4, 2) := dk_21 4 (dk_at dksX2_solve_2 9 rfl rfl)
theorem dX2_solve_59 : decode cX2_solve 59 = .ok (.iload_n 1, 1) := dk_27 (dk_at dksX2_solve_2 11 rfl rfl)
theorem dX2_solve_60 : decode cX2_solve 60 = .ok (.aload_n 0, 1) := dk_42 (dk_at dksX2_solve_2 12 rfl rfl)
theorem dX2_solve_61 : decode cX2_solve 61 = .ok (.getfield 23, 3) := dk_180 0 23 (dk_at dksX2_solve_2 13 rfl rfl)
theorem dX2_solve_64 : decode cX2_solve 64 = .ok (.iload 4, 2) := dk_21 4 (dk_at dksX2_solve_2 16 rfl rfl)
theorem dX2_solve_66 : decode cX2_solve 66 = .ok (.iaload, 1) := dk_46 (dk_at dksX2_solve_2 18 rfl rfl)
theorem dX2_solve_67 : decode cX2_solve 67 = .ok (.iload_n 3, 1) := dk_29 (dk_at dksX2_solve_2 19 rfl rfl)
theorem dX2_solve_68 : decode cX2_solve 68 = .ok (.iand, 1) := dk_126 (dk_at dksX2_solve_2 20 rfl rfl)
theorem dX2_solve_69 : decode cX2_solve 69 = .ok (.invokevirtual 149, 3) := dk_182 0 149 (dk_at dksX2_solve_2 21 rfl rfl)
theorem dX2_solve_72 : decode cX2_solve 72 = .ok (.goto 6, 3) := dk_167 0 6 (dk_at dksX2_solve_3 0 rfl rfl)
theorem dX2_solve_75 : decode cX2_solve 75 = .ok (.ldc2_w 166, 3) := dk_20 0 166 (dk_at dksX2_solve_3 3 rfl rfl)
theorem dX2_solve_78 : decode cX2_solve 78 = .ok (.lastore, 1) := dk_80 (dk_at dksX2_solve_3 6 rfl rfl)
theorem dX2_solve_79 : decode cX2_solve 79 = .ok (.iinc 4 1, 3) := dk_132 4 1 (dk_at dksX2_solve_3 7 rfl rfl)
theorem dX2_solve_82 : decode cX2_solve 82 = .ok (.goto (-68), 3) := dk_167 255 188 (dk_at dksX2_solve_3 10 rfl rfl)
theorem dX2_solve_85 : decode cX2_solve 85 = .ok (.aload_n 0, 1) := dk_42 (dk_at dksX2_solve_3 13 rfl rfl)
theorem dX2_solve_86 : decode cX2_solve 86 = .ok (.iload_n 1, 1) := dk_27 (dk_at dksX2_solve_3 14 rfl rfl)
theorem dX2_solve_87 : decode cX2_solve 87 = .ok (.invokevirtual 168, 3) := dk_182 0 168 (dk_at dksX2_solve_3 15 rfl rfl)
theorem dX2_solve_90 : decode cX2_solve 90 = .ok (.lstore 4, 2) := dk_55 4 (dk_at dksX2_solve_3 18 rfl rfl)
theorem dX2_solve_92 : decode cX2_solve 92 = .ok (.aload_n 0, 1) := dk_42 (dk_at dksX2_solve_3 20 rfl rfl)
theorem dX2_solve_93 : decode cX2_solve 93 = .ok (.getfield 20, 3) := dk_180 0 20 (dk_at dksX2_solve_3 21 rfl rfl)
theorem dX2_solve_96 : decode cX2_solve 96 = .ok (.iconst 0, 1) := dk_3 (dk_at dksX2_solve_4 0 rfl rfl)
theorem dX2_solve_97 : decode cX2_solve 97 = .ok (.invokestatic 51, 3) := dk_184 0 51 (dk_at dksX2_solve_4 1 rfl rfl)
theorem dX2_solve_100 : decode cX2_solve 100 = .ok (.iconst 0, 1) := dk_3 (dk_at dksX2_solve_4 4 rfl rfl)
theorem dX2_solve_101 : decode cX2_solve 101 = .ok (.istore 6, 2) := dk_54 6 (dk_at dksX2_solve_4 5 rfl rfl)
theorem dX2_solve_103 : decode cX2_solve 103 = .ok (.iload 6, 2) := dk_21 6 (dk_at dksX2_solve_4 7 rfl rfl)
theorem dX2_solve_105 : decode cX2_solve 105 = .ok (.aload_n 0, 1) := dk_42 (dk_at dksX2_solve_4 9 rfl rfl)
theorem dX2_solve_106 : decode cX2_solve 106 = .ok (.getfield 48, 3) := dk_180 0 48 (dk_at dksX2_solve_4 10 rfl rfl)
theorem dX2_solve_109 : decode cX2_solve 109 = .ok (.if_icmp .ge 263, 3) := dk_162 1 7 (dk_at dksX2_solve_4 13 rfl rfl)
theorem dX2_solve_112 : decode cX2_solve 112 = .ok (.iconst (-1), 1) := dk_2 (dk_at dksX2_solve_4 16 rfl rfl)
theorem dX2_solve_113 : decode cX2_solve 113 = .ok (.istore 7, 2) := dk_54 7 (dk_at dksX2_solve_4 17 rfl rfl)
theorem dX2_solve_115 : decode cX2_solve 115 = .ok (.iconst 0, 1) := dk_3 (dk_at dksX2_solve_4 19 rfl rfl)
theorem dX2_solve_116 : decode cX2_solve 116 = .ok (.istore 8, 2) := dk_54 8 (dk_at dksX2_solve_4 20 rfl rfl)
theorem dX2_solve_118 : decode cX2_solve 118 = .ok (.iload 8, 2) := dk_21 8 (dk_at dksX2_solve_4 22 rfl rfl)
theorem dX2_solve_120 : decode cX2_solve 120 = .ok (.aload_n 0, 1) := dk_42 (dk_at dksX2_solve_5 0 rfl rfl)
theorem dX2_solve_121 : decode cX2_solve 121 = .ok (.getfield 48, 3) := dk_180 0 48 (dk_at dksX2_solve_5 1 rfl rfl)
theorem dX2_solve_124 : decode cX2_solve 124 = .ok (.if_icmp .ge 67, 3) := dk_162 0 67 (dk_at dksX2_solve_5 4 rfl rfl)
theorem dX2_solve_127 : decode cX2_solve 127 = .ok (.aload_n 0, 1) := dk_42 (dk_at dksX2_solve_5 7 rfl rfl)
theorem dX2_solve_128 : decode cX2_solve 128 = .ok (.getfield 20, 3) := dk_180 0 20 (dk_at dksX2_solve_5 8 rfl rfl)
theorem dX2_solve_131 : decode cX2_solve 131 = .ok (.iload 8, 2) := dk_21 8 (dk_at dksX2_solve_5 11 rfl rfl)
theorem dX2_solve_133 : decode cX2_solve 133 = .ok (.baload, 1) := dk_51 (dk_at dksX2_solve_5 13 rfl rfl)
theorem dX2_solve_134 : decode cX2_solve 134 = .ok (.ifCond .ne 51, 3) := dk_154 0 51 (dk_at dksX2_solve_5 14 rfl rfl)
theorem dX2_solve_137 : decode cX2_solve 137 = .ok (.aload_n 0, 1) := dk_42 (dk_at dksX2_solve_5 17 rfl rfl)
theorem dX2_solve_138 : decode cX2_solve 138 = .ok (.getfield 10, 3) := dk_180 0 10 (dk_at dksX2_solve_5 18 rfl rfl)
theorem dX2_solve_141 : decode cX2_solve 141 = .ok (.iload_n 2, 1) := dk_28 (dk_at dksX2_solve_5 21 rfl rfl)
theorem dX2_solve_142 : decode cX2_solve 142 = .ok (.iload 8, 2) := dk_21 8 (dk_at dksX2_solve_5 22 rfl rfl)
theorem dX2_solve_144 : decode cX2_solve 144 = .ok (.iadd, 1) := dk_96 (dk_at dksX2_solve_6 0 rfl rfl)
theorem dX2_solve_145 : decode cX2_solve 145 = .ok (.laload, 1) := dk_47 (dk_at dksX2_solve_6 1 rfl rfl)
theorem dX2_solve_146 : decode cX2_solve 146 = .ok (.ldc2_w 166, 3) := dk_20 0 166 (dk_at dksX2_solve_6 2 rfl rfl)
theorem dX2_solve_149 : decode cX2_solve 149 = .ok (.lcmp, 1) := dk_148 (dk_at dksX2_solve_6 5 rfl rfl)
theorem dX2_solve_150 : decode cX2_solve 150 = .ok (.ifCond .eq 35, 3) := dk_153 0 35 (dk_at dksX2_solve_6 6 rfl rfl)
theorem dX2_solve_153 : decode cX2_solve 153 = .ok (.iload 7, 2) := dk_21 7 (dk_at dksX2_solve_6 9 rfl rfl)
theorem dX2_solve_155 : decode cX2_solve 155 = .ok (.iconst (-1), 1) := dk_2 (dk_at dksX2_solve_6 11 rfl rfl)
theorem dX2_solve_156 : decode cX2_solve 156 = .ok (.if_icmp .eq 25, 3) := dk_159 0 25 (dk_at dksX2_solve_6 12 rfl rfl)
theorem dX2_solve_159 : decode cX2_solve 159 = .ok (.aload_n 0, 1) := dk_42 (dk_at dksX2_solve_6 15 rfl rfl)
theorem dX2_solve_160 : decode cX2_solve 160 = .ok (.getfield 10, 3) := dk_180 0 10 (dk_at dksX2_solve_6 16 rfl rfl)
theorem dX2_solve_163 : decode cX2_solve 163 = .ok (.iload_n 2, 1) := dk_28 (dk_at dksX2_solve_6 19 rfl rfl)
theorem dX2_solve_164 : decode cX2_solve 164 = .ok (.iload 8, 2) := dk_21 8 (dk_at dksX2_solve_6 20 rfl rfl)
theorem dX2_solve_166 : decode cX2_solve 166 = .ok (.iadd, 1) := dk_96 (dk_at dksX2_solve_6 22 rfl rfl)
theorem dX2_solve_167 : decode cX2_solve 167 = .ok (.laload, 1) := dk_47 (dk_at dksX2_solve_6 23 rfl rfl)
theorem dX2_solve_168 : decode cX2_solve 168 = .ok (.aload_n 0, 1) := dk_42 (dk_at dksX2_solve_7 0 rfl rfl)
theorem dX2_solve_169 : decode cX2_solve 169 = .ok (.getfield 10, 3) := dk_180 0 10 (dk_at dksX2_solve_7 1 rfl rfl)
theorem dX2_solve_172 : decode cX2_solve 172 = .ok (.iload_n 2, 1) := dk_28 (dk_at dksX2_solve_7 4 rfl rfl)
theorem dX2_solve_173 : decode cX2_solve 173 = .ok (.iload 7, 2) := dk_21 7 (dk_at dksX2_solve_7 5 rfl rfl)
theorem dX2_solve_175 : decode cX2_solve 175 = .ok (.iadd, 1) := dk_96 (dk_at dksX2_solve_7 7 rfl rfl)
theorem dX2_solve_176 : decode cX2_solve 176 = .ok (.laload, 1) := dk_47 (dk_at dksX2_solve_7 8 rfl rfl)
theorem dX2_solve_177 : decode cX2_solve 177 = .ok (.lcmp, 1) := dk_148 (dk_at dksX2_solve_7 9 rfl rfl)
theorem dX2_solve_178 : decode cX2_solve 178 = .ok (.ifCond .ge 7, 3) := dk_156 0 7 (dk_at dksX2_solve_7 10 rfl rfl)
theorem dX2_solve_181 : decode cX2_solve 181 = .ok (.iload 8, 2) := dk_21 8 (dk_at dksX2_solve_7 13 rfl rfl)
theorem dX2_solve_183 : decode cX2_solve 183 = .ok (.istore 7, 2) := dk_54 7 (dk_at dksX2_solve_7 15 rfl rfl)
theorem dX2_solve_185 : decode cX2_solve 185 = .ok (.iinc 8 1, 3) := dk_132 8 1 (dk_at dksX2_solve_7 17 rfl rfl)
theorem dX2_solve_188 : decode cX2_solve 188 = .ok (.goto (-70), 3) := dk_167 255 186 (dk_at dksX2_solve_7 20 rfl rfl)
theorem dX2_solve_191 : decode cX2_solve 191 = .ok (.iload 7, 2) := dk_21 7 (dk_at dksX2_solve_8 0 rfl rfl)
theorem dX2_solve_193 : decode cX2_solve 193 = .ok (.iconst (-1), 1) := dk_2 (dk_at dksX2_solve_8 2 rfl rfl)
theorem dX2_solve_194 : decode cX2_solve 194 = .ok (.if_icmp .ne 6, 3) := dk_160 0 6 (dk_at dksX2_solve_8 3 rfl rfl)
theorem dX2_solve_197 : decode cX2_solve 197 = .ok (.goto 175, 3) := dk_167 0 175 (dk_at dksX2_solve_8 6 rfl rfl)
theorem dX2_solve_200 : decode cX2_solve 200 = .ok (.aload_n 0, 1) := dk_42 (dk_at dksX2_solve_8 9 rfl rfl)
theorem dX2_solve_201 : decode cX2_solve 201 = .ok (.getfield 20, 3) := dk_180 0 20 (dk_at dksX2_solve_8 10 rfl rfl)
theorem dX2_solve_204 : decode cX2_solve 204 = .ok (.iload 7, 2) := dk_21 7 (dk_at dksX2_solve_8 13 rfl rfl)
theorem dX2_solve_206 : decode cX2_solve 206 = .ok (.iconst 1, 1) := dk_4 (dk_at dksX2_solve_8 15 rfl rfl)
theorem dX2_solve_207 : decode cX2_solve 207 = .ok (.bastore, 1) := dk_84 (dk_at dksX2_solve_8 16 rfl rfl)
theorem dX2_solve_208 : decode cX2_solve 208 = .ok (.aload_n 0, 1) := dk_42 (dk_at dksX2_solve_8 17 rfl rfl)
theorem dX2_solve_209 : decode cX2_solve 209 = .ok (.getfield 30, 3) := dk_180 0 30 (dk_at dksX2_solve_8 18 rfl rfl)
theorem dX2_solve_212 : decode cX2_solve 212 = .ok (.getfield 60, 3) := dk_180 0 60 (dk_at dksX2_solve_8 21 rfl rfl)
theorem dX2_solve_215 : decode cX2_solve 215 = .ok (.astore 8, 2) := dk_58 8 (dk_at dksX2_solve_9 0 rfl rfl)
theorem dX2_solve_217 : decode cX2_solve 217 = .ok (.aload 8, 2) := dk_25 8 (dk_at dksX2_solve_9 2 rfl rfl)
theorem dX2_solve_219 : decode cX2_solve 219 = .ok (.arraylength, 1) := dk_190 (dk_at dksX2_solve_9 4 rfl rfl)
theorem dX2_solve_220 : decode cX2_solve 220 = .ok (.istore 9, 2) := dk_54 9 (dk_at dksX2_solve_9 5 rfl rfl)
theorem dX2_solve_222 : decode cX2_solve 222 = .ok (.iconst 0, 1) := dk_3 (dk_at dksX2_solve_9 7 rfl rfl)
theorem dX2_solve_223 : decode cX2_solve 223 = .ok (.istore 10, 2) := dk_54 10 (dk_at dksX2_solve_9 8 rfl rfl)
theorem dX2_solve_225 : decode cX2_solve 225 = .ok (.iload 10, 2) := dk_21 10 (dk_at dksX2_solve_9 10 rfl rfl)
theorem dX2_solve_227 : decode cX2_solve 227 = .ok (.iload 9, 2) := dk_21 9 (dk_at dksX2_solve_9 12 rfl rfl)
theorem dX2_solve_229 : decode cX2_solve 229 = .ok (.if_icmp .ge 137, 3) := dk_162 0 137 (dk_at dksX2_solve_9 14 rfl rfl)
theorem dX2_solve_232 : decode cX2_solve 232 = .ok (.aload 8, 2) := dk_25 8 (dk_at dksX2_solve_9 17 rfl rfl)
theorem dX2_solve_234 : decode cX2_solve 234 = .ok (.iload 10, 2) := dk_21 10 (dk_at dksX2_solve_9 19 rfl rfl)
theorem dX2_solve_236 : decode cX2_solve 236 = .ok (.aaload, 1) := dk_50 (dk_at dksX2_solve_9 21 rfl rfl)
theorem dX2_solve_237 : decode cX2_solve 237 = .ok (.astore 11, 2) := dk_58 11 (dk_at dksX2_solve_9 22 rfl rfl)
theorem dX2_solve_239 : decode cX2_solve 239 = .ok (.aload_n 0, 1) := dk_42 (dk_at dksX2_solve_10 0 rfl rfl)
theorem dX2_solve_240 : decode cX2_solve 240 = .ok (.getfield 30, 3) := dk_180 0 30 (dk_at dksX2_solve_10 1 rfl rfl)
theorem dX2_solve_243 : decode cX2_solve 243 = .ok (.iload 7, 2) := dk_21 7 (dk_at dksX2_solve_10 4 rfl rfl)
theorem dX2_solve_245 : decode cX2_solve 245 = .ok (.aload 11, 2) := dk_25 11 (dk_at dksX2_solve_10 6 rfl rfl)
theorem dX2_solve_247 : decode cX2_solve 247 = .ok (.invokevirtual 130, 3) := dk_182 0 130 (dk_at dksX2_solve_10 8 rfl rfl)
theorem dX2_solve_250 : decode cX2_solve 250 = .ok (.istore 12, 2) := dk_54 12 (dk_at dksX2_solve_10 11 rfl rfl)
theorem dX2_solve_252 : decode cX2_solve 252 = .ok (.iload 12, 2) := dk_21 12 (dk_at dksX2_solve_10 13 rfl rfl)
theorem dX2_solve_254 : decode cX2_solve 254 = .ok (.iconst (-1), 1) := dk_2 (dk_at dksX2_solve_10 15 rfl rfl)
theorem dX2_solve_255 : decode cX2_solve 255 = .ok (.if_icmp .eq 105, 3) := dk_159 0 105 (dk_at dksX2_solve_10 16 rfl rfl)
theorem dX2_solve_258 : decode cX2_solve 258 = .ok (.iload 12, 2) := dk_21 12 (dk_at dksX2_solve_10 19 rfl rfl)
theorem dX2_solve_260 : decode cX2_solve 260 = .ok (.aload_n 0, 1) := dk_42 (dk_at dksX2_solve_10 21 rfl rfl)
theorem dX2_solve_261 : decode cX2_solve 261 = .ok (.getfield 34, 3) := dk_180 0 34 (dk_at dksX2_solve_11 0 rfl rfl)
theorem dX2_solve_264 : decode cX2_solve 264 = .ok (.if_icmp .eq 96, 3) := dk_159 0 96 (dk_at dksX2_solve_11 3 rfl rfl)
theorem dX2_solve_267 : decode cX2_solve 267 = .ok (.aload_n 0, 1) := dk_42 (dk_at dksX2_solve_11 6 rfl rfl)
theorem dX2_solve_268 : decode cX2_solve 268 = .ok (.getfield 23, 3) := dk_180 0 23 (dk_at dksX2_solve_11 7 rfl rfl)
theorem dX2_solve_271 : decode cX2_solve 271 = .ok (.iload 12, 2) := dk_21 12 (dk_at dksX2_solve_11 10 rfl rfl)
theorem dX2_solve_273 : decode cX2_solve 273 = .ok (.iaload, 1) := dk_46 (dk_at dksX2_solve_11 12 rfl rfl)
theorem dX2_solve_274 : decode cX2_solve 274 = .ok (.iload_n 3, 1) := dk_29 (dk_at dksX2_solve_11 13 rfl rfl)
theorem dX2_solve_275 : decode cX2_solve 275 = .ok (.iand, 1) := dk_126 (dk_at dksX2_solve_11 14 rfl rfl)
theorem dX2_solve_276 : decode cX2_solve 276 = .ok (.ifCond .eq 6, 3) := dk_153 0 6 (dk_at dksX2_solve_11 15 rfl rfl)
theorem dX2_solve_279 : decode cX2_solve 279 = .ok (.goto 81, 3) := dk_167 0 81 (dk_at dksX2_solve_11 18 rfl rfl)
theorem dX2_solve_282 : decode cX2_solve 282 = .ok (.aload_n 0, 1) := dk_42 (dk_at dksX2_solve_11 21 rfl rfl)
theorem dX2_solve_283 : decode cX2_solve 283 = .ok (.iload 12, 2) := dk_21 12 (dk_at dksX2_solve_11 22 rfl rfl)
theorem dX2_solve_285 : decode cX2_solve 285 = .ok (.aload_n 0, 1) := dk_42 (dk_at dksX2_solve_12 0 rfl rfl)
theorem dX2_solve_286 : decode cX2_solve 286 = .ok (.getfield 30, 3) := dk_180 0 30 (dk_at dksX2_solve_12 1 rfl rfl)
theorem dX2_solve_289 : decode cX2_solve 289 = .ok (.getfield 60, 3) := dk_180 0 60 (dk_at dksX2_solve_12 4 rfl rfl)
theorem dX2_solve_292 : decode cX2_solve 292 = .ok (.aload 11, 2) := dk_25 11 (dk_at dksX2_solve_12 7 rfl rfl)
theorem dX2_solve_294 : decode cX2_solve 294 = .ok (.invokevirtual 89, 3) := dk_182 0 89 (dk_at dksX2_solve_12 9 rfl rfl)
theorem dX2_solve_297 : decode cX2_solve 297 = .ok (.iconst 1, 1) := dk_4 (dk_at dksX2_solve_12 12 rfl rfl)
theorem dX2_solve_298 : decode cX2_solve 298 = .ok (.ixor, 1) := dk_130 (dk_at dksX2_solve_12 13 rfl rfl)
theorem dX2_solve_299 : decode cX2_solve 299 = .ok (.aaload, 1) := dk_50 (dk_at dksX2_solve_12 14 rfl rfl)
theorem dX2_solve_300 : decode cX2_solve 300 = .ok (.iload_n 1, 1) := dk_27 (dk_at dksX2_solve_12 15 rfl rfl)
theorem dX2_solve_301 : decode cX2_solve 301 = .ok (.invokevirtual 172, 3) := dk_182 0 172 (dk_at dksX2_solve_12 16 rfl rfl)
theorem dX2_solve_304 : decode cX2_solve 304 = .ok (.istore 13, 2) := dk_54 13 (dk_at dksX2_solve_12 19 rfl rfl)
theorem dX2_solve_306 : decode cX2_solve 306 = .ok (.iload 13, 2) := dk_21 13 (dk_at dksX2_solve_12 21 rfl rfl)
theorem dX2_solve_308 : decode cX2_solve 308 = .ok (.iconst (-1), 1) := dk_2 (dk_at dksX2_solve_12 23 rfl rfl)
theorem dX2_solve_309 : decode cX2_solve 309 = .ok (.if_icmp .ne 6, 3) := dk_160 0 6 (dk_at dksX2_solve_13 0 rfl rfl)
theorem dX2_solve_312 : decode cX2_solve 312 = .ok (.goto 48, 3) := dk_167 0 48 (dk_at dksX2_solve_13 3 rfl rfl)
theorem dX2_solve_315 : decode cX2_solve 315 = .ok (.aload_n 0, 1) := dk_42 (dk_at dksX2_solve_13 6 rfl rfl)
theorem dX2_solve_316 : decode cX2_solve 316 = .ok (.getfield 10, 3) := dk_180 0 10 (dk_at dksX2_solve_13 7 rfl rfl)
theorem dX2_solve_319 : decode cX2_solve 319 = .ok (.iload_n 2, 1) := dk_28 (dk_at dksX2_solve_13 10 rfl rfl)
theorem dX2_solve_320 : decode cX2_solve 320 = .ok (.iload 12, 2) := dk_21 12 (dk_at dksX2_solve_13 11 rfl rfl)
theorem dX2_solve_322 : decode cX2_solve 322 = .ok (.iadd, 1) := dk_96 (dk_at dksX2_solve_13 13 rfl rfl)
theorem dX2_solve_323 : decode cX2_solve 323 = .ok (.aload_n 0, 1) := dk_42 (dk_at dksX2_solve_13 14 rfl rfl)
theorem dX2_solve_324 : decode cX2_solve 324 = .ok (.getfield 10, 3) := dk_180 0 10 (dk_at dksX2_solve_13 15 rfl rfl)
theorem dX2_solve_327 : decode cX2_solve 327 = .ok (.iload_n 2, 1) := dk_28 (dk_at dksX2_solve_13 18 rfl rfl)
theorem dX2_solve_328 : decode cX2_solve 328 = .ok (.iload 12, 2) := dk_21 12 (dk_at dksX2_solve_13 19 rfl rfl)
theorem dX2_solve_330 : decode cX2_solve 330 = .ok (.iadd, 1) := dk_96 (dk_at dksX2_solve_13 21 rfl rfl)
theorem dX2_solve_331 : decode cX2_solve 331 = .ok (.laload, 1) := dk_47 (dk_at dksX2_solve_13 22 rfl rfl)
theorem dX2_solve_332 : decode cX2_solve 332 = .ok (.aload_n 0, 1) := dk_42 (dk_at dksX2_solve_13 23 rfl rfl)
theorem dX2_solve_333 : decode cX2_solve 333 = .ok (.getfield 10, 3) := dk_180 0 10 (dk_at dksX2_solve_14 0 rfl rfl)
theorem dX2_solve_336 : decode cX2_solve 336 = .ok (.iload_n 2, 1) := dk_28 (dk_at dksX2_solve_14 3 rfl rfl)
theorem dX2_solve_337 : decode cX2_solve 337 = .ok (.iload 7, 2) := dk_21 7 (dk_at dksX2_solve_14 4 rfl rfl)
theorem dX2_solve_339 : decode cX2_solve 339 = .ok (.iadd, 1) := dk_96 (dk_at dksX2_solve_14 6 rfl rfl)
theorem dX2_solve_340 : decode cX2_solve 340 = .ok (.laload, 1) := dk_47 (dk_at dksX2_solve_14 7 rfl rfl)
theorem dX2_solve_341 : decode cX2_solve 341 = .ok (.aload_n 0, 1) := dk_42 (dk_at dksX2_solve_14 8 rfl rfl)
theorem dX2_solve_342 : decode cX2_solve 342 = .ok (.getfield 38, 3) := dk_180 0 38 (dk_at dksX2_solve_14 9 rfl rfl)
theorem dX2_solve_345 : decode cX2_solve 345 = .ok (.iload 13, 2) := dk_21 13 (dk_at dksX2_solve_14 12 rfl rfl)
theorem dX2_solve_347 : decode cX2_solve 347 = .ok (.i2l, 1) := dk_133 (dk_at dksX2_solve_14 14 rfl rfl)
theorem dX2_solve_348 : decode cX2_solve 348 = .ok (.lload 4, 2) := dk_22 4 (dk_at dksX2_solve_14 15 rfl rfl)
theorem dX2_solve_350 : decode cX2_solve 350 = .ok (.invokeinterface 174 5, 5) := by decide +kernel
theorem dX2_solve_355 : decode cX2_solve 355 = .ok (.ladd, 1) := dk_97 (dk_at dksX2_solve_14 22 rfl rfl)
theorem dX2_solve_356 : decode cX2_solve 356 = .ok (.invokestatic 178, 3) := dk_184 0 178 (dk_at dksX2_solve_15 0 rfl rfl)
theorem dX2_solve_359 : decode cX2_solve 359 = .ok (.lastore, 1) := dk_80 (dk_at dksX2_solve_15 3 rfl rfl)
theorem dX2_solve_360 : decode cX2_solve 360 = .ok (.iinc 10 1, 3) := dk_132 10 1 (dk_at dksX2_solve_15 4 rfl rfl)
theorem dX2_solve_363 : decode cX2_solve 363 = .ok (.goto (-138), 3) := dk_167 255 118 (dk_at dksX2_solve_15 7 rfl rfl)
theorem dX2_solve_366 : decode cX2_solve 366 = .ok (.iinc 6 1, 3) := dk_132 6 1 (dk_at dksX2_solve_15 10 rfl rfl)
theorem dX2_solve_369 : decode cX2_solve 369 = .ok (.goto (-266), 3) := dk_167 254 246 (dk_at dksX2_solve_15 13 rfl rfl)
theorem dX2_solve_372 : decode cX2_solve 372 = .ok (.aload_n 0, 1) := dk_42 (dk_at dksX2_solve_15 16 rfl rfl)
theorem dX2_solve_373 : decode cX2_solve 373 = .ok (.getfield 16, 3) := dk_180 0 16 (dk_at dksX2_solve_15 17 rfl rfl)
theorem dX2_solve_376 : decode cX2_solve 376 = .ok (.iload_n 1, 1) := dk_27 (dk_at dksX2_solve_15 20 rfl rfl)
theorem dX2_solve_377 : decode cX2_solve 377 = .ok (.iconst 1, 1) := dk_4 (dk_at dksX2_solve_15 21 rfl rfl)
theorem dX2_solve_378 : decode cX2_solve 378 = .ok (.bastore, 1) := dk_84 (dk_at dksX2_solve_15 22 rfl rfl)
theorem dX2_solve_379 : decode cX2_solve 379 = .ok (.return_, 1) := dk_177 (dk_at dksX2_solve_15 23 rfl rfl)
abbrev cX2_unknown : ByteArray := prog_17_method_7_code
def yX2_unknown : MethodName := ⟨RX2, "unknown", "(I)I"⟩
def dkwX2_unknown_1 : List UInt8 := [154, 0, 9, 4, 29, 120, 167, 0, 4, 3, 128, 61, 132, 3, 1, 167, 255, 221, 28, 172]
abbrev dktX2_unknown_1 : List UInt8 := dkwX2_unknown_1 ++ []
def dkwX2_unknown_0 : List UInt8 := [3, 61, 3, 62, 29, 42, 180, 0, 30, 180, 0, 94, 182, 0, 74, 162, 0, 27, 28, 27, 29, 184, 0, 116]
abbrev dktX2_unknown_0 : List UInt8 := dkwX2_unknown_0 ++ dktX2_unknown_1
theorem dksX2_unknown_0 : cX2_unknown.data.toList.drop 0 = dktX2_unknown_0 := by decide +kernel
theorem dksX2_unknown_1 : cX2_unknown.data.toList.drop 24 = dktX2_unknown_1 := dk_seg dksX2_unknown_0 24 rfl rfl
theorem dX2_unknown_0 : decode cX2_unknown 0 = .ok (.iconst 0, 1) := dk_3 (dk_at dksX2_unknown_0 0 rfl rfl)
theorem dX2_unknown_1 : decode cX2_unknown 1 = .ok (.istore_n 2, 1) := dk_61 (dk_at dksX2_unknown_0 1 rfl rfl)
theorem dX2_unknown_2 : decode cX2_unknown 2 = .ok (.iconst 0, 1) := dk_3 (dk_at dksX2_unknown_0 2 rfl rfl)
theorem dX2_unknown_3 : decode cX2_unknown 3 = .ok (.istore_n 3, 1) := dk_62 (dk_at dksX2_unknown_0 3 rfl rfl)
theorem dX2_unknown_4 : decode cX2_unknown 4 = .ok (.iload_n 3, 1) := dk_29 (dk_at dksX2_unknown_0 4 rfl rfl)
theorem dX2_unknown_5 : decode cX2_unknown 5 = .ok (.aload_n 0, 1) := dk_42 (dk_at dksX2_unknown_0 5 rfl rfl)
theorem dX2_unknown_6 : decode cX2_unknown 6 = .ok (.getfield 30, 3) := dk_180 0 30 (dk_at dksX2_unknown_0 6 rfl rfl)
theorem dX2_unknown_9 : decode cX2_unknown 9 = .ok (.getfield 94, 3) := dk_180 0 94 (dk_at dksX2_unknown_0 9 rfl rfl)
theorem dX2_unknown_12 : decode cX2_unknown 12 = .ok (.invokevirtual 74, 3) := dk_182 0 74 (dk_at dksX2_unknown_0 12 rfl rfl)
theorem dX2_unknown_15 : decode cX2_unknown 15 = .ok (.if_icmp .ge 27, 3) := dk_162 0 27 (dk_at dksX2_unknown_0 15 rfl rfl)
theorem dX2_unknown_18 : decode cX2_unknown 18 = .ok (.iload_n 2, 1) := dk_28 (dk_at dksX2_unknown_0 18 rfl rfl)
theorem dX2_unknown_19 : decode cX2_unknown 19 = .ok (.iload_n 1, 1) := dk_27 (dk_at dksX2_unknown_0 19 rfl rfl)
theorem dX2_unknown_20 : decode cX2_unknown 20 = .ok (.iload_n 3, 1) := dk_29 (dk_at dksX2_unknown_0 20 rfl rfl)
theorem dX2_unknown_21 : decode cX2_unknown 21 = .ok (.invokestatic 116, 3) := dk_184 0 116 (dk_at dksX2_unknown_0 21 rfl rfl)
theorem dX2_unknown_24 : decode cX2_unknown 24 = .ok (.ifCond .ne 9, 3) := dk_154 0 9 (dk_at dksX2_unknown_1 0 rfl rfl)
theorem dX2_unknown_27 : decode cX2_unknown 27 = .ok (.iconst 1, 1) := dk_4 (dk_at dksX2_unknown_1 3 rfl rfl)
theorem dX2_unknown_28 : decode cX2_unknown 28 = .ok (.iload_n 3, 1) := dk_29 (dk_at dksX2_unknown_1 4 rfl rfl)
theorem dX2_unknown_29 : decode cX2_unknown 29 = .ok (.ishl, 1) := dk_120 (dk_at dksX2_unknown_1 5 rfl rfl)
theorem dX2_unknown_30 : decode cX2_unknown 30 = .ok (.goto 4, 3) := dk_167 0 4 (dk_at dksX2_unknown_1 6 rfl rfl)
theorem dX2_unknown_33 : decode cX2_unknown 33 = .ok (.iconst 0, 1) := dk_3 (dk_at dksX2_unknown_1 9 rfl rfl)
theorem dX2_unknown_34 : decode cX2_unknown 34 = .ok (.ior, 1) := dk_128 (dk_at dksX2_unknown_1 10 rfl rfl)
theorem dX2_unknown_35 : decode cX2_unknown 35 = .ok (.istore_n 2, 1) := dk_61 (dk_at dksX2_unknown_1 11 rfl rfl)
theorem dX2_unknown_36 : decode cX2_unknown 36 = .ok (.iinc 3 1, 3) := dk_132 3 1 (dk_at dksX2_unknown_1 12 rfl rfl)
theorem dX2_unknown_39 : decode cX2_unknown 39 = .ok (.goto (-35), 3) := dk_167 255 221 (dk_at dksX2_unknown_1 15 rfl rfl)
theorem dX2_unknown_42 : decode cX2_unknown 42 = .ok (.iload_n 2, 1) := dk_28 (dk_at dksX2_unknown_1 18 rfl rfl)
theorem dX2_unknown_43 : decode cX2_unknown 43 = .ok (.ireturn, 1) := dk_172 (dk_at dksX2_unknown_1 19 rfl rfl)
abbrev cX2_sign : ByteArray := prog_17_method_4_code
def yX2_sign : MethodName := ⟨RX2, "sign", "(II)I"⟩
def dkwX2_sign_0 : List UInt8 := [26, 5, 27, 104, 122, 6, 126, 172]
abbrev dktX2_sign_0 : List UInt8 := dkwX2_sign_0 ++ []
theorem dksX2_sign_0 : cX2_sign.data.toList.drop 0 = dktX2_sign_0 := by decide +kernel
theorem dX2_sign_0 : decode cX2_sign 0 = .ok (.iload_n 0, 1) := dk_26 (dk_at dksX2_sign_0 0 rfl rfl)
theorem dX2_sign_1 : decode cX2_sign 1 = .ok (.iconst 2, 1) := dk_5 (dk_at dksX2_sign_0 1 rfl rfl)
theorem dX2_sign_2 : decode cX2_sign 2 = .ok (.iload_n 1, 1) := dk_27 (dk_at dksX2_sign_0 2 rfl rfl)
theorem dX2_sign_3 : decode cX2_sign 3 = .ok (.imul, 1) := dk_104 (dk_at dksX2_sign_0 3 rfl rfl)
theorem dX2_sign_4 : decode cX2_sign 4 = .ok (.ishr, 1) := dk_122 (dk_at dksX2_sign_0 4 rfl rfl)
theorem dX2_sign_5 : decode cX2_sign 5 = .ok (.iconst 3, 1) := dk_6 (dk_at dksX2_sign_0 5 rfl rfl)
theorem dX2_sign_6 : decode cX2_sign 6 = .ok (.iand, 1) := dk_126 (dk_at dksX2_sign_0 6 rfl rfl)
theorem dX2_sign_7 : decode cX2_sign 7 = .ok (.ireturn, 1) := dk_172 (dk_at dksX2_sign_0 7 rfl rfl)
abbrev cX2_seen : ByteArray := prog_17_method_11_code
def yX2_seen : MethodName := ⟨RX2, "seen", "(III)J"⟩
def dkwX2_seen_4 : List UInt8 := [185, 0, 153, 6, 0, 55, 6, 132, 8, 1, 167, 255, 195, 22, 6, 173]
abbrev dktX2_seen_4 : List UInt8 := dkwX2_seen_4 ++ []
def dkwX2_seen_3 : List UInt8 := [21, 8, 182, 0, 109, 29, 29, 4, 100, 126, 182, 0, 149, 25, 5, 180, 0, 146, 21, 8, 46]
abbrev dktX2_seen_3 : List UInt8 := dkwX2_seen_3 ++ dktX2_seen_4
def dkwX2_seen_2 : List UInt8 := [25, 5, 180, 0, 146, 21, 8, 46, 158, 0, 43, 42, 180, 0, 38, 22, 6, 42, 27, 42, 28, 21, 4]
abbrev dktX2_seen_2 : List UInt8 := dkwX2_seen_2 ++ dktX2_seen_3
def dkwX2_seen_1 : List UInt8 := [21, 4, 182, 0, 97, 192, 0, 101, 58, 5, 9, 55, 6, 3, 54, 8, 21, 8, 16, 8, 162, 0, 60]
abbrev dktX2_seen_1 : List UInt8 := dkwX2_seen_1 ++ dktX2_seen_2
def dkwX2_seen_0 : List UInt8 := [29, 154, 0, 10, 42, 27, 28, 182, 0, 137, 173, 29, 184, 0, 141, 54, 4, 42, 180, 0, 30, 180, 0, 94]
abbrev dktX2_seen_0 : List UInt8 := dkwX2_seen_0 ++ dktX2_seen_1
theorem dksX2_seen_0 : cX2_seen.data.toList.drop 0 = dktX2_seen_0 := by decide +kernel
theorem dksX2_seen_1 : cX2_seen.data.toList.drop 24 = dktX2_seen_1 := dk_seg dksX2_seen_0 24 rfl rfl
theorem dksX2_seen_2 : cX2_seen.data.toList.drop 47 = dktX2_seen_2 := dk_seg dksX2_seen_1 23 rfl rfl
theorem dksX2_seen_3 : cX2_seen.data.toList.drop 70 = dktX2_seen_3 := dk_seg dksX2_seen_2 23 rfl rfl
theorem dksX2_seen_4 : cX2_seen.data.toList.drop 91 = dktX2_seen_4 := dk_seg dksX2_seen_3 21 rfl rfl
theorem dX2_seen_0 : decode cX2_seen 0 = .ok (.iload_n 3, 1) := dk_29 (dk_at dksX2_seen_0 0 rfl rfl)
theorem dX2_seen_1 : decode cX2_seen 1 = .ok (.ifCond .ne 10, 3) := dk_154 0 10 (dk_at dksX2_seen_0 1 rfl rfl)
theorem dX2_seen_4 : decode cX2_seen 4 = .ok (.aload_n 0, 1) := dk_42 (dk_at dksX2_seen_0 4 rfl rfl)
theorem dX2_seen_5 : decode cX2_seen 5 = .ok (.iload_n 1, 1) := dk_27 (dk_at dksX2_seen_0 5 rfl rfl)
theorem dX2_seen_6 : decode cX2_seen 6 = .ok (.iload_n 2, 1) := dk_28 (dk_at dksX2_seen_0 6 rfl rfl)
theorem dX2_seen_7 : decode cX2_seen 7 = .ok (.invokevirtual 137, 3) := dk_182 0 137 (dk_at dksX2_seen_0 7 rfl rfl)
theorem dX2_seen_10 : decode cX2_seen 10 = .ok (.lreturn, 1) := dk_173 (dk_at dksX2_seen_0 10 rfl rfl)
theorem dX2_seen_11 : decode cX2_seen 11 = .ok (.iload_n 3, 1) := dk_29 (dk_at dksX2_seen_0 11 rfl rfl)
theorem dX2_seen_12 : decode cX2_seen 12 = .ok (.invokestatic 141, 3) := dk_184 0 141 (dk_at dksX2_seen_0 12 rfl rfl)
theorem dX2_seen_15 : decode cX2_seen 15 = .ok (.istore 4, 2) := dk_54 4 (dk_at dksX2_seen_0 15 rfl rfl)
theorem dX2_seen_17 : decode cX2_seen 17 = .ok (.aload_n 0, 1) := dk_42 (dk_at dksX2_seen_0 17 rfl rfl)
theorem dX2_seen_18 : decode cX2_seen 18 = .ok (.getfield 30, 3) := dk_180 0 30 (dk_at dksX2_seen_0 18 rfl rfl)
theorem dX2_seen_21 : decode cX2_seen 21 = .ok (.getfield 94, 3) := dk_180 0 94 (dk_at dksX2_seen_0 21 rfl rfl)
theorem dX2_seen_24 : decode cX2_seen 24 = .ok (.iload 4, 2) := dk_21 4 (dk_at dksX2_seen_1 0 rfl rfl)
theorem dX2_seen_26 : decode cX2_seen 26 = .ok (.invokevirtual 97, 3) := dk_182 0 97 (dk_at dksX2_seen_1 2 rfl rfl)
theorem dX2_seen_29 : decode cX2_seen 29 = .ok (.checkcast 101, 3) := dk_192 0 101 (dk_at dksX2_seen_1 5 rfl rfl)
theorem dX2_seen_32 : decode cX2_seen 32 = .ok (.astore 5, 2) := dk_58 5 (dk_at dksX2_seen_1 8 rfl rfl)
theorem dX2_seen_34 : decode cX2_seen 34 = .ok (.lconst 0, 1) := dk_9 (dk_at dksX2_seen_1 10 rfl rfl)
theorem dX2_seen_35 : decode cX2_seen 35 = .ok (.lstore 6, 2) := dk_55 6 (dk_at dksX2_seen_1 11 rfl rfl)
theorem dX2_seen_37 : decode cX2_seen 37 = .ok (.iconst 0, 1) := dk_3 (dk_at dksX2_seen_1 13 rfl rfl)
theorem dX2_seen_38 : decode cX2_seen 38 = .ok (.istore 8, 2) := dk_54 8 (dk_at dksX2_seen_1 14 rfl rfl)
theorem dX2_seen_40 : decode cX2_seen 40 = .ok (.iload 8, 2) := dk_21 8 (dk_at dksX2_seen_1 16 rfl rfl)
theorem dX2_seen_42 : decode cX2_seen 42 = .ok (.bipush 8, 2) := dk_16 8 (dk_at dksX2_seen_1 18 rfl rfl)
theorem dX2_seen_44 : decode cX2_seen 44 = .ok (.if_icmp .ge 60, 3) := dk_162 0 60 (dk_at dksX2_seen_1 20 rfl rfl)
theorem dX2_seen_47 : decode cX2_seen 47 = .ok (.aload 5, 2) := dk_25 5 (dk_at dksX2_seen_2 0 rfl rfl)
theorem dX2_seen_49 : decode cX2_seen 49 = .ok (.getfield 146, 3) := dk_180 0 146 (dk_at dksX2_seen_2 2 rfl rfl)
theorem dX2_seen_52 : decode cX2_seen 52 = .ok (.iload 8, 2) := dk_21 8 (dk_at dksX2_seen_2 5 rfl rfl)
theorem dX2_seen_54 : decode cX2_seen 54 = .ok (.iaload, 1) := dk_46 (dk_at dksX2_seen_2 7 rfl rfl)
theorem dX2_seen_55 : decode cX2_seen 55 = .ok (.ifCond .le 43, 3) := dk_158 0 43 (dk_at dksX2_seen_2 8 rfl rfl)
theorem dX2_seen_58 : decode cX2_seen 58 = .ok (.aload_n 0, 1) := dk_42 (dk_at dksX2_seen_2 11 rfl rfl)
theorem dX2_seen_59 : decode cX2_seen 59 = .ok (.getfield 38, 3) := dk_180 0 38 (dk_at dksX2_seen_2 12 rfl rfl)
theorem dX2_seen_62 : decode cX2_seen 62 = .ok (.lload 6, 2) := dk_22 6 (dk_at dksX2_seen_2 15 rfl rfl)
theorem dX2_seen_64 : decode cX2_seen 64 = .ok (.aload_n 0, 1) := dk_42 (dk_at dksX2_seen_2 17 rfl rfl)
theorem dX2_seen_65 : decode cX2_seen 65 = .ok (.iload_n 1, 1) := dk_27 (dk_at dksX2_seen_2 18 rfl rfl)
theorem dX2_seen_66 : decode cX2_seen 66 = .ok (.aload_n 0, 1) := dk_42 (dk_at dksX2_seen_2 19 rfl rfl)
theorem dX2_seen_67 : decode cX2_seen 67 = .ok (.iload_n 2, 1) := dk_28 (dk_at dksX2_seen_2 20 rfl rfl)
theorem dX2_seen_68 : decode cX2_seen 68 = .ok (.iload 4, 2) := dk_21 4 (dk_at dksX2_seen_2 21 rfl rfl)
theorem dX2_seen_70 : decode cX2_seen 70 = .ok (.iload 8, 2) := dk_21 8 (dk_at dksX2_seen_3 0 rfl rfl)
theorem dX2_seen_72 : decode cX2_seen 72 = .ok (.invokevirtual 109, 3) := dk_182 0 109 (dk_at dksX2_seen_3 2 rfl rfl)
theorem dX2_seen_75 : decode cX2_seen 75 = .ok (.iload_n 3, 1) := dk_29 (dk_at dksX2_seen_3 5 rfl rfl)
theorem dX2_seen_76 : decode cX2_seen 76 = .ok (.iload_n 3, 1) := dk_29 (dk_at dksX2_seen_3 6 rfl rfl)
theorem dX2_seen_77 : decode cX2_seen 77 = .ok (.iconst 1, 1) := dk_4 (dk_at dksX2_seen_3 7 rfl rfl)
theorem dX2_seen_78 : decode cX2_seen 78 = .ok (.isub, 1) := dk_100 (dk_at dksX2_seen_3 8 rfl rfl)
theorem dX2_seen_79 : decode cX2_seen 79 = .ok (.iand, 1) := dk_126 (dk_at dksX2_seen_3 9 rfl rfl)
theorem dX2_seen_80 : decode cX2_seen 80 = .ok (.invokevirtual 149, 3) := dk_182 0 149 (dk_at dksX2_seen_3 10 rfl rfl)
theorem dX2_seen_83 : decode cX2_seen 83 = .ok (.aload 5, 2) := dk_25 5 (dk_at dksX2_seen_3 13 rfl rfl)
theorem dX2_seen_85 : decode cX2_seen 85 = .ok (.getfield 146, 3) := dk_180 0 146 (dk_at dksX2_seen_3 15 rfl rfl)
theorem dX2_seen_88 : decode cX2_seen 88 = .ok (.iload 8, 2) := dk_21 8 (dk_at dksX2_seen_3 18 rfl rfl)
theorem dX2_seen_90 : decode cX2_seen 90 = .ok (.iaload, 1) := dk_46 (dk_at dksX2_seen_3 20 rfl rfl)
theorem dX2_seen_91 : decode cX2_seen 91 = .ok (.invokeinterface 153 6, 5) := by decide +kernel
theorem dX2_seen_96 : decode cX2_seen 96 = .ok (.lstore 6, 2) := dk_55 6 (dk_at dksX2_seen_4 5 rfl rfl)
theorem dX2_seen_98 : decode cX2_seen 98 = .ok (.iinc 8 1, 3) := dk_132 8 1 (dk_at dksX2_seen_4 7 rfl rfl)
theorem dX2_seen_101 : decode cX2_seen 101 = .ok (.goto (-61), 3) := dk_167 255 195 (dk_at dksX2_seen_4 10 rfl rfl)
theorem dX2_seen_104 : decode cX2_seen 104 = .ok (.lload 6, 2) := dk_22 6 (dk_at dksX2_seen_4 13 rfl rfl)
theorem dX2_seen_106 : decode cX2_seen 106 = .ok (.lreturn, 1) := dk_173 (dk_at dksX2_seen_4 15 rfl rfl)
abbrev cX2_scale : ByteArray := prog_17_method_8_code
def yX2_scale : MethodName := ⟨RX2, "scale", "(I)J"⟩
def dkwX2_scale_2 : List UInt8 := [133, 167, 0, 4, 10, 105, 65, 132, 4, 1, 167, 255, 203, 32, 173]
abbrev dktX2_scale_2 : List UInt8 := dkwX2_scale_2 ++ []
def dkwX2_scale_1 : List UInt8 := [184, 0, 116, 154, 0, 25, 42, 180, 0, 30, 180, 0, 94, 21, 4, 182, 0, 97, 192, 0, 101, 182, 0, 120]
abbrev dktX2_scale_1 : List UInt8 := dkwX2_scale_1 ++ dktX2_scale_2
def dkwX2_scale_0 : List UInt8 := [10, 65, 3, 54, 4, 21, 4, 42, 180, 0, 30, 180, 0, 94, 182, 0, 74, 162, 0, 44, 32, 27, 21, 4]
abbrev dktX2_scale_0 : List UInt8 := dkwX2_scale_0 ++ dktX2_scale_1
theorem dksX2_scale_0 : cX2_scale.data.toList.drop 0 = dktX2_scale_0 := by decide +kernel
theorem dksX2_scale_1 : cX2_scale.data.toList.drop 24 = dktX2_scale_1 := dk_seg dksX2_scale_0 24 rfl rfl
theorem dksX2_scale_2 : cX2_scale.data.toList.drop 48 = dktX2_scale_2 := dk_seg dksX2_scale_1 24 rfl rfl
theorem dX2_scale_0 : decode cX2_scale 0 = .ok (.lconst 1, 1) := dk_10 (dk_at dksX2_scale_0 0 rfl rfl)
theorem dX2_scale_1 : decode cX2_scale 1 = .ok (.lstore_n 2, 1) := dk_65 (dk_at dksX2_scale_0 1 rfl rfl)
theorem dX2_scale_2 : decode cX2_scale 2 = .ok (.iconst 0, 1) := dk_3 (dk_at dksX2_scale_0 2 rfl rfl)
theorem dX2_scale_3 : decode cX2_scale 3 = .ok (.istore 4, 2) := dk_54 4 (dk_at dksX2_scale_0 3 rfl rfl)
theorem dX2_scale_5 : decode cX2_scale 5 = .ok (.iload 4, 2) := dk_21 4 (dk_at dksX2_scale_0 5 rfl rfl)
theorem dX2_scale_7 : decode cX2_scale 7 = .ok (.aload_n 0, 1) := dk_42 (dk_at dksX2_scale_0 7 rfl rfl)
theorem dX2_scale_8 : decode cX2_scale 8 = .ok (.getfield 30, 3) := dk_180 0 30 (dk_at dksX2_scale_0 8 rfl rfl)
theorem dX2_scale_11 : decode cX2_scale 11 = .ok (.getfield 94, 3) := dk_180 0 94 (dk_at dksX2_scale_0 11 rfl rfl)
theorem dX2_scale_14 : decode cX2_scale 14 = .ok (.invokevirtual 74, 3) := dk_182 0 74 (dk_at dksX2_scale_0 14 rfl rfl)
theorem dX2_scale_17 : decode cX2_scale 17 = .ok (.if_icmp .ge 44, 3) := dk_162 0 44 (dk_at dksX2_scale_0 17 rfl rfl)
theorem dX2_scale_20 : decode cX2_scale 20 = .ok (.lload_n 2, 1) := dk_32 (dk_at dksX2_scale_0 20 rfl rfl)
theorem dX2_scale_21 : decode cX2_scale 21 = .ok (.iload_n 1, 1) := dk_27 (dk_at dksX2_scale_0 21 rfl rfl)
theorem dX2_scale_22 : decode cX2_scale 22 = .ok (.iload 4, 2) := dk_21 4 (dk_at dksX2_scale_0 22 rfl rfl)
theorem dX2_scale_24 : decode cX2_scale 24 = .ok (.invokestatic 116, 3) := dk_184 0 116 (dk_at dksX2_scale_1 0 rfl rfl)
theorem dX2_scale_27 : decode cX2_scale 27 = .ok (.ifCond .ne 25, 3) := dk_154 0 25 (dk_at dksX2_scale_1 3 rfl rfl)
theorem dX2_scale_30 : decode cX2_scale 30 = .ok (.aload_n 0, 1) := dk_42 (dk_at dksX2_scale_1 6 rfl rfl)
theorem dX2_scale_31 : decode cX2_scale 31 = .ok (.getfield 30, 3) := dk_180 0 30 (dk_at dksX2_scale_1 7 rfl rfl)
theorem dX2_scale_34 : decode cX2_scale 34 = .ok (.getfield 94, 3) := dk_180 0 94 (dk_at dksX2_scale_1 10 rfl rfl)
theorem dX2_scale_37 : decode cX2_scale 37 = .ok (.iload 4, 2) := dk_21 4 (dk_at dksX2_scale_1 13 rfl rfl)
theorem dX2_scale_39 : decode cX2_scale 39 = .ok (.invokevirtual 97, 3) := dk_182 0 97 (dk_at dksX2_scale_1 15 rfl rfl)
theorem dX2_scale_42 : decode cX2_scale 42 = .ok (.checkcast 101, 3) := dk_192 0 101 (dk_at dksX2_scale_1 18 rfl rfl)
theorem dX2_scale_45 : decode cX2_scale 45 = .ok (.invokevirtual 120, 3) := dk_182 0 120 (dk_at dksX2_scale_1 21 rfl rfl)
theorem dX2_scale_48 : decode cX2_scale 48 = .ok (.i2l, 1) := dk_133 (dk_at dksX2_scale_2 0 rfl rfl)
theorem dX2_scale_49 : decode cX2_scale 49 = .ok (.goto 4, 3) := dk_167 0 4 (dk_at dksX2_scale_2 1 rfl rfl)
theorem dX2_scale_52 : decode cX2_scale 52 = .ok (.lconst 1, 1) := dk_10 (dk_at dksX2_scale_2 4 rfl rfl)
theorem dX2_scale_53 : decode cX2_scale 53 = .ok (.lmul, 1) := dk_105 (dk_at dksX2_scale_2 5 rfl rfl)
theorem dX2_scale_54 : decode cX2_scale 54 = .ok (.lstore_n 2, 1) := dk_65 (dk_at dksX2_scale_2 6 rfl rfl)
theorem dX2_scale_55 : decode cX2_scale 55 = .ok (.iinc 4 1, 3) := dk_132 4 1 (dk_at dksX2_scale_2 7 rfl rfl)
theorem dX2_scale_58 : decode cX2_scale 58 = .ok (.goto (-53), 3) := dk_167 255 203 (dk_at dksX2_scale_2 10 rfl rfl)
theorem dX2_scale_61 : decode cX2_scale 61 = .ok (.lload_n 2, 1) := dk_32 (dk_at dksX2_scale_2 13 rfl rfl)
theorem dX2_scale_62 : decode cX2_scale 62 = .ok (.lreturn, 1) := dk_173 (dk_at dksX2_scale_2 14 rfl rfl)
abbrev cX2_cost : ByteArray := prog_17_method_10_code
def yX2_cost : MethodName := ⟨RX2, "cost", "(ILSoftWheels$Way;I)I"⟩
def dkwX2_cost_1 : List UInt8 := [180, 0, 27, 27, 44, 42, 21, 4, 29, 182, 0, 134, 184, 0, 78, 46, 172]
abbrev dktX2_cost_1 : List UInt8 := dkwX2_cost_1 ++ []
def dkwX2_cost_0 : List UInt8 := [42, 180, 0, 30, 27, 44, 182, 0, 130, 54, 4, 21, 4, 2, 160, 0, 7, 2, 167, 0, 20, 42]
abbrev dktX2_cost_0 : List UInt8 := dkwX2_cost_0 ++ dktX2_cost_1
theorem dksX2_cost_0 : cX2_cost.data.toList.drop 0 = dktX2_cost_0 := by decide +kernel
theorem dksX2_cost_1 : cX2_cost.data.toList.drop 22 = dktX2_cost_1 := dk_seg dksX2_cost_0 22 rfl rfl
theorem dX2_cost_0 : decode cX2_cost 0 = .ok (.aload_n 0, 1) := dk_42 (dk_at dksX2_cost_0 0 rfl rfl)
theorem dX2_cost_1 : decode cX2_cost 1 = .ok (.getfield 30, 3) := dk_180 0 30 (dk_at dksX2_cost_0 1 rfl rfl)
theorem dX2_cost_4 : decode cX2_cost 4 = .ok (.iload_n 1, 1) := dk_27 (dk_at dksX2_cost_0 4 rfl rfl)
theorem dX2_cost_5 : decode cX2_cost 5 = .ok (.aload_n 2, 1) := dk_44 (dk_at dksX2_cost_0 5 rfl rfl)
theorem dX2_cost_6 : decode cX2_cost 6 = .ok (.invokevirtual 130, 3) := dk_182 0 130 (dk_at dksX2_cost_0 6 rfl rfl)
theorem dX2_cost_9 : decode cX2_cost 9 = .ok (.istore 4, 2) := dk_54 4 (dk_at dksX2_cost_0 9 rfl rfl)
theorem dX2_cost_11 : decode cX2_cost 11 = .ok (.iload 4, 2) := dk_21 4 (dk_at dksX2_cost_0 11 rfl rfl)
theorem dX2_cost_13 : decode cX2_cost 13 = .ok (.iconst (-1), 1) := dk_2 (dk_at dksX2_cost_0 13 rfl rfl)
theorem dX2_cost_14 : decode cX2_cost 14 = .ok (.if_icmp .ne 7, 3) := dk_160 0 7 (dk_at dksX2_cost_0 14 rfl rfl)
theorem dX2_cost_17 : decode cX2_cost 17 = .ok (.iconst (-1), 1) := dk_2 (dk_at dksX2_cost_0 17 rfl rfl)
theorem dX2_cost_18 : decode cX2_cost 18 = .ok (.goto 20, 3) := dk_167 0 20 (dk_at dksX2_cost_0 18 rfl rfl)
theorem dX2_cost_21 : decode cX2_cost 21 = .ok (.aload_n 0, 1) := dk_42 (dk_at dksX2_cost_0 21 rfl rfl)
theorem dX2_cost_22 : decode cX2_cost 22 = .ok (.getfield 27, 3) := dk_180 0 27 (dk_at dksX2_cost_1 0 rfl rfl)
theorem dX2_cost_25 : decode cX2_cost 25 = .ok (.iload_n 1, 1) := dk_27 (dk_at dksX2_cost_1 3 rfl rfl)
theorem dX2_cost_26 : decode cX2_cost 26 = .ok (.aload_n 2, 1) := dk_44 (dk_at dksX2_cost_1 4 rfl rfl)
theorem dX2_cost_27 : decode cX2_cost 27 = .ok (.aload_n 0, 1) := dk_42 (dk_at dksX2_cost_1 5 rfl rfl)
theorem dX2_cost_28 : decode cX2_cost 28 = .ok (.iload 4, 2) := dk_21 4 (dk_at dksX2_cost_1 6 rfl rfl)
theorem dX2_cost_30 : decode cX2_cost 30 = .ok (.iload_n 3, 1) := dk_29 (dk_at dksX2_cost_1 8 rfl rfl)
theorem dX2_cost_31 : decode cX2_cost 31 = .ok (.invokevirtual 134, 3) := dk_182 0 134 (dk_at dksX2_cost_1 9 rfl rfl)
theorem dX2_cost_34 : decode cX2_cost 34 = .ok (.invokestatic 78, 3) := dk_184 0 78 (dk_at dksX2_cost_1 12 rfl rfl)
theorem dX2_cost_37 : decode cX2_cost 37 = .ok (.iaload, 1) := dk_46 (dk_at dksX2_cost_1 15 rfl rfl)
theorem dX2_cost_38 : decode cX2_cost 38 = .ok (.ireturn, 1) := dk_172 (dk_at dksX2_cost_1 16 rfl rfl)
abbrev cX2_groundOf : ByteArray := prog_17_method_9_code
def yX2_groundOf : MethodName := ⟨RX2, "groundOf", "(II)I"⟩
def dkwX2_groundOf_2 : List UInt8 := [4, 100, 182, 0, 113, 172]
abbrev dktX2_groundOf_2 : List UInt8 := dkwX2_groundOf_2 ++ []
def dkwX2_groundOf_1 : List UInt8 := [28, 45, 180, 0, 106, 184, 0, 116, 154, 0, 7, 2, 167, 0, 17, 45, 28, 45, 180, 0, 106, 184, 0, 116]
abbrev dktX2_groundOf_1 : List UInt8 := dkwX2_groundOf_1 ++ dktX2_groundOf_2
def dkwX2_groundOf_0 : List UInt8 := [42, 180, 0, 30, 180, 0, 123, 27, 50, 78, 45, 199, 0, 13, 42, 180, 0, 30, 180, 0, 127, 27, 46, 172]
abbrev dktX2_groundOf_0 : List UInt8 := dkwX2_groundOf_0 ++ dktX2_groundOf_1
theorem dksX2_groundOf_0 : cX2_groundOf.data.toList.drop 0 = dktX2_groundOf_0 := by decide +kernel
theorem dksX2_groundOf_1 : cX2_groundOf.data.toList.drop 24 = dktX2_groundOf_1 := dk_seg dksX2_groundOf_0 24 rfl rfl
theorem dksX2_groundOf_2 : cX2_groundOf.data.toList.drop 48 = dktX2_groundOf_2 := dk_seg dksX2_groundOf_1 24 rfl rfl
theorem dX2_groundOf_0 : decode cX2_groundOf 0 = .ok (.aload_n 0, 1) := dk_42 (dk_at dksX2_groundOf_0 0 rfl rfl)
theorem dX2_groundOf_1 : decode cX2_groundOf 1 = .ok (.getfield 30, 3) := dk_180 0 30 (dk_at dksX2_groundOf_0 1 rfl rfl)
theorem dX2_groundOf_4 : decode cX2_groundOf 4 = .ok (.getfield 123, 3) := dk_180 0 123 (dk_at dksX2_groundOf_0 4 rfl rfl)
theorem dX2_groundOf_7 : decode cX2_groundOf 7 = .ok (.iload_n 1, 1) := dk_27 (dk_at dksX2_groundOf_0 7 rfl rfl)
theorem dX2_groundOf_8 : decode cX2_groundOf 8 = .ok (.aaload, 1) := dk_50 (dk_at dksX2_groundOf_0 8 rfl rfl)
theorem dX2_groundOf_9 : decode cX2_groundOf 9 = .ok (.astore_n 3, 1) := dk_78 (dk_at dksX2_groundOf_0 9 rfl rfl)
theorem dX2_groundOf_10 : decode cX2_groundOf 10 = .ok (.aload_n 3, 1) := dk_45 (dk_at dksX2_groundOf_0 10 rfl rfl)
theorem dX2_groundOf_11 : decode cX2_groundOf 11 = .ok (.ifnonnull 13, 3) := dk_199 0 13 (dk_at dksX2_groundOf_0 11 rfl rfl)
theorem dX2_groundOf_14 : decode cX2_groundOf 14 = .ok (.aload_n 0, 1) := dk_42 (dk_at dksX2_groundOf_0 14 rfl rfl)
theorem dX2_groundOf_15 : decode cX2_groundOf 15 = .ok (.getfield 30, 3) := dk_180 0 30 (dk_at dksX2_groundOf_0 15 rfl rfl)
theorem dX2_groundOf_18 : decode cX2_groundOf 18 = .ok (.getfield 127, 3) := dk_180 0 127 (dk_at dksX2_groundOf_0 18 rfl rfl)
theorem dX2_groundOf_21 : decode cX2_groundOf 21 = .ok (.iload_n 1, 1) := dk_27 (dk_at dksX2_groundOf_0 21 rfl rfl)
theorem dX2_groundOf_22 : decode cX2_groundOf 22 = .ok (.iaload, 1) := dk_46 (dk_at dksX2_groundOf_0 22 rfl rfl)
theorem dX2_groundOf_23 : decode cX2_groundOf 23 = .ok (.ireturn, 1) := dk_172 (dk_at dksX2_groundOf_0 23 rfl rfl)
theorem dX2_groundOf_24 : decode cX2_groundOf 24 = .ok (.iload_n 2, 1) := dk_28 (dk_at dksX2_groundOf_1 0 rfl rfl)
theorem dX2_groundOf_25 : decode cX2_groundOf 25 = .ok (.aload_n 3, 1) := dk_45 (dk_at dksX2_groundOf_1 1 rfl rfl)
theorem dX2_groundOf_26 : decode cX2_groundOf 26 = .ok (.getfield 106, 3) := dk_180 0 106 (dk_at dksX2_groundOf_1 2 rfl rfl)
theorem dX2_groundOf_29 : decode cX2_groundOf 29 = .ok (.invokestatic 116, 3) := dk_184 0 116 (dk_at dksX2_groundOf_1 5 rfl rfl)
theorem dX2_groundOf_32 : decode cX2_groundOf 32 = .ok (.ifCond .ne 7, 3) := dk_154 0 7 (dk_at dksX2_groundOf_1 8 rfl rfl)
theorem dX2_groundOf_35 : decode cX2_groundOf 35 = .ok (.iconst (-1), 1) := dk_2 (dk_at dksX2_groundOf_1 11 rfl rfl)
theorem dX2_groundOf_36 : decode cX2_groundOf 36 = .ok (.goto 17, 3) := dk_167 0 17 (dk_at dksX2_groundOf_1 12 rfl rfl)
theorem dX2_groundOf_39 : decode cX2_groundOf 39 = .ok (.aload_n 3, 1) := dk_45 (dk_at dksX2_groundOf_1 15 rfl rfl)
theorem dX2_groundOf_40 : decode cX2_groundOf 40 = .ok (.iload_n 2, 1) := dk_28 (dk_at dksX2_groundOf_1 16 rfl rfl)
theorem dX2_groundOf_41 : decode cX2_groundOf 41 = .ok (.aload_n 3, 1) := dk_45 (dk_at dksX2_groundOf_1 17 rfl rfl)
theorem dX2_groundOf_42 : decode cX2_groundOf 42 = .ok (.getfield 106, 3) := dk_180 0 106 (dk_at dksX2_groundOf_1 18 rfl rfl)
theorem dX2_groundOf_45 : decode cX2_groundOf 45 = .ok (.invokestatic 116, 3) := dk_184 0 116 (dk_at dksX2_groundOf_1 21 rfl rfl)
theorem dX2_groundOf_48 : decode cX2_groundOf 48 = .ok (.iconst 1, 1) := dk_4 (dk_at dksX2_groundOf_2 0 rfl rfl)
theorem dX2_groundOf_49 : decode cX2_groundOf 49 = .ok (.isub, 1) := dk_100 (dk_at dksX2_groundOf_2 1 rfl rfl)
theorem dX2_groundOf_50 : decode cX2_groundOf 50 = .ok (.invokevirtual 113, 3) := dk_182 0 113 (dk_at dksX2_groundOf_2 2 rfl rfl)
theorem dX2_groundOf_53 : decode cX2_groundOf 53 = .ok (.ireturn, 1) := dk_172 (dk_at dksX2_groundOf_2 5 rfl rfl)
abbrev cX2_best : ByteArray := prog_17_method_15_code
def yX2_best : MethodName := ⟨RX2, "best", "(II)LSoftWheels$Way;"⟩
def dkwX2_best_6 : List UInt8 := [167, 255, 147, 25, 5, 176]
abbrev dktX2_best_6 : List UInt8 := dkwX2_best_6 ++ []
def dkwX2_best_5 : List UInt8 := [180, 0, 38, 21, 12, 133, 33, 185, 0, 174, 5, 0, 22, 13, 97, 55, 6, 25, 11, 58, 5, 132, 10, 1]
abbrev dktX2_best_5 : List UInt8 := dkwX2_best_5 ++ dktX2_best_6
def dkwX2_best_4 : List UInt8 := [21, 12, 133, 33, 185, 0, 174, 5, 0, 22, 13, 97, 22, 6, 148, 155, 0, 6, 167, 0, 25, 42]
abbrev dktX2_best_4 : List UInt8 := dkwX2_best_4 ++ dktX2_best_5
def dkwX2_best_3 : List UInt8 := [25, 11, 182, 0, 130, 28, 182, 0, 137, 55, 13, 22, 13, 20, 0, 166, 148, 153, 0, 50, 42, 180, 0, 38]
abbrev dktX2_best_3 : List UInt8 := dkwX2_best_3 ++ dktX2_best_4
def dkwX2_best_2 : List UInt8 := [25, 11, 28, 182, 0, 172, 54, 12, 21, 12, 2, 160, 0, 6, 167, 0, 76, 42, 42, 180, 0, 30, 27]
abbrev dktX2_best_2 : List UInt8 := dkwX2_best_2 ++ dktX2_best_3
def dkwX2_best_1 : List UInt8 := [25, 8, 190, 54, 9, 3, 54, 10, 21, 10, 21, 9, 162, 0, 108, 25, 8, 21, 10, 50, 58, 11, 42, 27]
abbrev dktX2_best_1 : List UInt8 := dkwX2_best_1 ++ dktX2_best_2
def dkwX2_best_0 : List UInt8 := [42, 28, 182, 0, 168, 66, 1, 58, 5, 20, 0, 166, 55, 6, 42, 180, 0, 30, 180, 0, 60, 58, 8]
abbrev dktX2_best_0 : List UInt8 := dkwX2_best_0 ++ dktX2_best_1
theorem dksX2_best_0 : cX2_best.data.toList.drop 0 = dktX2_best_0 := by decide +kernel
theorem dksX2_best_1 : cX2_best.data.toList.drop 23 = dktX2_best_1 := dk_seg dksX2_best_0 23 rfl rfl
theorem dksX2_best_2 : cX2_best.data.toList.drop 47 = dktX2_best_2 := dk_seg dksX2_best_1 24 rfl rfl
theorem dksX2_best_3 : cX2_best.data.toList.drop 70 = dktX2_best_3 := dk_seg dksX2_best_2 23 rfl rfl
theorem dksX2_best_4 : cX2_best.data.toList.drop 94 = dktX2_best_4 := dk_seg dksX2_best_3 24 rfl rfl
theorem dksX2_best_5 : cX2_best.data.toList.drop 116 = dktX2_best_5 := dk_seg dksX2_best_4 22 rfl rfl
theorem dksX2_best_6 : cX2_best.data.toList.drop 140 = dktX2_best_6 := dk_seg dksX2_best_5 24 rfl rfl
theorem dX2_best_0 : decode cX2_best 0 = .ok (.aload_n 0, 1) := dk_42 (dk_at dksX2_best_0 0 rfl rfl)
theorem dX2_best_1 : decode cX2_best 1 = .ok (.iload_n 2, 1) := dk_28 (dk_at dksX2_best_0 1 rfl rfl)
theorem dX2_best_2 : decode cX2_best 2 = .ok (.invokevirtual 168, 3) := dk_182 0 168 (dk_at dksX2_best_0 2 rfl rfl)
theorem dX2_best_5 : decode cX2_best 5 = .ok (.lstore_n 3, 1) := dk_66 (dk_at dksX2_best_0 5 rfl rfl)
theorem dX2_best_6 : decode cX2_best 6 = .ok (.aconst_null, 1) := dk_1 (dk_at dksX2_best_0 6 rfl rfl)
theorem dX2_best_7 : decode cX2_best 7 = .ok (.astore 5, 2) := dk_58 5 (dk_at dksX2_best_0 7 rfl rfl)
theorem dX2_best_9 : decode cX2_best 9 = .ok (.ldc2_w 166, 3) := dk_20 0 166 (dk_at dksX2_best_0 9 rfl rfl)
theorem dX2_best_12 : decode cX2_best 12 = .ok (.lstore 6, 2) := dk_55 6 (dk_at dksX2_best_0 12 rfl rfl)
theorem dX2_best_14 : decode cX2_best 14 = .ok (.aload_n 0, 1) := dk_42 (dk_at dksX2_best_0 14 rfl rfl)
theorem dX2_best_15 : decode cX2_best 15 = .ok (.getfield 30, 3) := dk_180 0 30 (dk_at dksX2_best_0 15 rfl rfl)
theorem dX2_best_18 : decode cX2_best 18 = .ok (.getfield 60, 3) := dk_180 0 60 (dk_at dksX2_best_0 18 rfl rfl)
theorem dX2_best_21 : decode cX2_best 21 = .ok (.astore 8, 2) := dk_58 8 (dk_at dksX2_best_0 21 rfl rfl)
theorem dX2_best_23 : decode cX2_best 23 = .ok (.aload 8, 2) := dk_25 8 (dk_at dksX2_best_1 0 rfl rfl)
theorem dX2_best_25 : decode cX2_best 25 = .ok (.arraylength, 1) := dk_190 (dk_at dksX2_best_1 2 rfl rfl)
theorem dX2_best_26 : decode cX2_best 26 = .ok (.istore 9, 2) := dk_54 9 (dk_at dksX2_best_1 3 rfl rfl)
theorem dX2_best_28 : decode cX2_best 28 = .ok (.iconst 0, 1) := dk_3 (dk_at dksX2_best_1 5 rfl rfl)
theorem dX2_best_29 : decode cX2_best 29 = .ok (.istore 10, 2) := dk_54 10 (dk_at dksX2_best_1 6 rfl rfl)
theorem dX2_best_31 : decode cX2_best 31 = .ok (.iload 10, 2) := dk_21 10 (dk_at dksX2_best_1 8 rfl rfl)
theorem dX2_best_33 : decode cX2_best 33 = .ok (.iload 9, 2) := dk_21 9 (dk_at dksX2_best_1 10 rfl rfl)
theorem dX2_best_35 : decode cX2_best 35 = .ok (.if_icmp .ge 108, 3) := dk_162 0 108 (dk_at dksX2_best_1 12 rfl rfl)
theorem dX2_best_38 : decode cX2_best 38 = .ok (.aload 8, 2) := dk_25 8 (dk_at dksX2_best_1 15 rfl rfl)
theorem dX2_best_40 : decode cX2_best 40 = .ok (.iload 10, 2) := dk_21 10 (dk_at dksX2_best_1 17 rfl rfl)
theorem dX2_best_42 : decode cX2_best 42 = .ok (.aaload, 1) := dk_50 (dk_at dksX2_best_1 19 rfl rfl)
theorem dX2_best_43 : decode cX2_best 43 = .ok (.astore 11, 2) := dk_58 11 (dk_at dksX2_best_1 20 rfl rfl)
theorem dX2_best_45 : decode cX2_best 45 = .ok (.aload_n 0, 1) := dk_42 (dk_at dksX2_best_1 22 rfl rfl)
theorem dX2_best_46 : decode cX2_best 46 = .ok (.iload_n 1, 1) := dk_27 (dk_at dksX2_best_1 23 rfl rfl)
theorem dX2_best_47 : decode cX2_best 47 = .ok (.aload 11, 2) := dk_25 11 (dk_at dksX2_best_2 0 rfl rfl)
theorem dX2_best_49 : decode cX2_best 49 = .ok (.iload_n 2, 1) := dk_28 (dk_at dksX2_best_2 2 rfl rfl)
theorem dX2_best_50 : decode cX2_best 50 = .ok (.invokevirtual 172, 3) := dk_182 0 172 (dk_at dksX2_best_2 3 rfl rfl)
theorem dX2_best_53 : decode cX2_best 53 = .ok (.istore 12, 2) := dk_54 12 (dk_at dksX2_best_2 6 rfl rfl)
theorem dX2_best_55 : decode cX2_best 55 = .ok (.iload 12, 2) := dk_21 12 (dk_at dksX2_best_2 8 rfl rfl)
theorem dX2_best_57 : decode cX2_best 57 = .ok (.iconst (-1), 1) := dk_2 (dk_at dksX2_best_2 10 rfl rfl)
theorem dX2_best_58 : decode cX2_best 58 = .ok (.if_icmp .ne 6, 3) := dk_160 0 6 (dk_at dksX2_best_2 11 rfl rfl)
theorem dX2_best_61 : decode cX2_best 61 = .ok (.goto 76, 3) := dk_167 0 76 (dk_at dksX2_best_2 14 rfl rfl)
theorem dX2_best_64 : decode cX2_best 64 = .ok (.aload_n 0, 1) := dk_42 (dk_at dksX2_best_2 17 rfl rfl)
theorem dX2_best_65 : decode cX2_best 65 = .ok (.aload_n 0, 1) := dk_42 (dk_at dksX2_best_2 18 rfl rfl)
theorem dX2_best_66 : decode cX2_best 66 = .ok (.getfield 30, 3) := dk_180 0 30 (dk_at dksX2_best_2 19 rfl rfl)
theorem dX2_best_69 : decode cX2_best 69 = .ok (.iload_n 1, 1) := dk_27 (dk_at dksX2_best_2 22 rfl rfl)
theorem dX2_best_70 : decode cX2_best 70 = .ok (.aload 11, 2) := dk_25 11 (dk_at dksX2_best_3 0 rfl rfl)
theorem dX2_best_72 : decode cX2_best 72 = .ok (.invokevirtual 130, 3) := dk_182 0 130 (dk_at dksX2_best_3 2 rfl rfl)
theorem dX2_best_75 : decode cX2_best 75 = .ok (.iload_n 2, 1) := dk_28 (dk_at dksX2_best_3 5 rfl rfl)
theorem dX2_best_76 : decode cX2_best 76 = .ok (.invokevirtual 137, 3) := dk_182 0 137 (dk_at dksX2_best_3 6 rfl rfl)
theorem dX2_best_79 : decode cX2_best 79 = .ok (.lstore 13, 2) := dk_55 13 (dk_at dksX2_best_3 9 rfl rfl)
theorem dX2_best_81 : decode cX2_best 81 = .ok (.lload 13, 2) := dk_22 13 (dk_at dksX2_best_3 11 rfl rfl)
theorem dX2_best_83 : decode cX2_best 83 = .ok (.ldc2_w 166, 3) := dk_20 0 166 (dk_at dksX2_best_3 13 rfl rfl)
theorem dX2_best_86 : decode cX2_best 86 = .ok (.lcmp, 1) := dk_148 (dk_at dksX2_best_3 16 rfl rfl)
theorem dX2_best_87 : decode cX2_best 87 = .ok (.ifCond .eq 50, 3) := dk_153 0 50 (dk_at dksX2_best_3 17 rfl rfl)
theorem dX2_best_90 : decode cX2_best 90 = .ok (.aload_n 0, 1) := dk_42 (dk_at dksX2_best_3 20 rfl rfl)
theorem dX2_best_91 : decode cX2_best 91 = .ok (.getfield 38, 3) := dk_180 0 38 (dk_at dksX2_best_3 21 rfl rfl)
theorem dX2_best_94 : decode cX2_best 94 = .ok (.iload 12, 2) := dk_21 12 (dk_at dksX2_best_4 0 rfl rfl)
theorem dX2_best_96 : decode cX2_best 96 = .ok (.i2l, 1) := dk_133 (dk_at dksX2_best_4 2 rfl rfl)
theorem dX2_best_97 : decode cX2_best 97 = .ok (.lload_n 3, 1) := dk_33 (dk_at dksX2_best_4 3 rfl rfl)
theorem dX2_best_98 : decode cX2_best 98 = .ok (.invokeinterface 174 5, 5) := by decide +kernel
theorem dX2_best_103 : decode cX2_best 103 = .ok (.lload 13, 2) := dk_22 13 (dk_at dksX2_best_4 9 rfl rfl)
theorem dX2_best_105 : decode cX2_best 105 = .ok (.ladd, 1) := dk_97 (dk_at dksX2_best_4 11 rfl rfl)
theorem dX2_best_106 : decode cX2_best 106 = .ok (.lload 6, 2) := dk_22 6 (dk_at dksX2_best_4 12 rfl rfl)
theorem dX2_best_108 : decode cX2_best 108 = .ok (.lcmp, 1) := dk_148 (dk_at dksX2_best_4 14 rfl rfl)
theorem dX2_best_109 : decode cX2_best 109 = .ok (.ifCond .lt 6, 3) := dk_155 0 6 (dk_at dksX2_best_4 15 rfl rfl)
theorem dX2_best_112 : decode cX2_best 112 = .ok (.goto 25, 3) := dk_167 0 25 (dk_at dksX2_best_4 18 rfl rfl)
theorem dX2_best_115 : decode cX2_best 115 = .ok (.aload_n 0, 1) := dk_42 (dk_at dksX2_best_4 21 rfl rfl)
theorem dX2_best_116 : decode cX2_best 116 = .ok (.getfield 38, 3) := dk_180 0 38 (dk_at dksX2_best_5 0 rfl rfl)
theorem dX2_best_119 : decode cX2_best 119 = .ok (.iload 12, 2) := dk_21 12 (dk_at dksX2_best_5 3 rfl rfl)
theorem dX2_best_121 : decode cX2_best 121 = .ok (.i2l, 1) := dk_133 (dk_at dksX2_best_5 5 rfl rfl)
theorem dX2_best_122 : decode cX2_best 122 = .ok (.lload_n 3, 1) := dk_33 (dk_at dksX2_best_5 6 rfl rfl)
theorem dX2_best_123 : decode cX2_best 123 = .ok (.invokeinterface 174 5, 5) := by decide +kernel
theorem dX2_best_128 : decode cX2_best 128 = .ok (.lload 13, 2) := dk_22 13 (dk_at dksX2_best_5 12 rfl rfl)
theorem dX2_best_130 : decode cX2_best 130 = .ok (.ladd, 1) := dk_97 (dk_at dksX2_best_5 14 rfl rfl)
theorem dX2_best_131 : decode cX2_best 131 = .ok (.lstore 6, 2) := dk_55 6 (dk_at dksX2_best_5 15 rfl rfl)
theorem dX2_best_133 : decode cX2_best 133 = .ok (.aload 11, 2) := dk_25 11 (dk_at dksX2_best_5 17 rfl rfl)
theorem dX2_best_135 : decode cX2_best 135 = .ok (.astore 5, 2) := dk_58 5 (dk_at dksX2_best_5 19 rfl rfl)
theorem dX2_best_137 : decode cX2_best 137 = .ok (.iinc 10 1, 3) := dk_132 10 1 (dk_at dksX2_best_5 21 rfl rfl)
theorem dX2_best_140 : decode cX2_best 140 = .ok (.goto (-109), 3) := dk_167 255 147 (dk_at dksX2_best_6 0 rfl rfl)
theorem dX2_best_143 : decode cX2_best 143 = .ok (.aload 5, 2) := dk_25 5 (dk_at dksX2_best_6 3 rfl rfl)
theorem dX2_best_145 : decode cX2_best 145 = .ok (.areturn, 1) := dk_176 (dk_at dksX2_best_6 5 rfl rfl)
abbrev cX2_goes : ByteArray := prog_17_method_16_code
def yX2_goes : MethodName := ⟨RX2, "goes", "(I[ILjava/util/List;)I"⟩
def dkwX2_goes_4 : List UInt8 := [167, 255, 186, 21, 6, 172]
abbrev dktX2_goes_4 : List UInt8 := dkwX2_goes_4 ++ []
def dkwX2_goes_3 : List UInt8 := [180, 0, 30, 21, 4, 25, 7, 182, 0, 130, 54, 4, 45, 21, 4, 184, 0, 185, 185, 0, 189, 2, 0, 87]
abbrev dktX2_goes_3 : List UInt8 := dkwX2_goes_3 ++ dktX2_goes_4
def dkwX2_goes_2 : List UInt8 := [21, 5, 182, 0, 199, 58, 7, 21, 6, 42, 21, 4, 25, 7, 21, 5, 182, 0, 172, 96, 54, 6, 42]
abbrev dktX2_goes_2 : List UInt8 := dkwX2_goes_2 ++ dktX2_goes_3
def dkwX2_goes_1 : List UInt8 := [21, 4, 42, 180, 0, 34, 159, 0, 67, 42, 21, 4, 21, 5, 44, 182, 0, 195, 54, 5, 42, 21, 4]
abbrev dktX2_goes_1 : List UInt8 := dkwX2_goes_1 ++ dktX2_goes_2
def dkwX2_goes_0 : List UInt8 := [27, 54, 4, 42, 182, 0, 183, 54, 5, 3, 54, 6, 45, 21, 4, 184, 0, 185, 185, 0, 189, 2, 0, 87]
abbrev dktX2_goes_0 : List UInt8 := dkwX2_goes_0 ++ dktX2_goes_1
theorem dksX2_goes_0 : cX2_goes.data.toList.drop 0 = dktX2_goes_0 := by decide +kernel
theorem dksX2_goes_1 : cX2_goes.data.toList.drop 24 = dktX2_goes_1 := dk_seg dksX2_goes_0 24 rfl rfl
theorem dksX2_goes_2 : cX2_goes.data.toList.drop 47 = dktX2_goes_2 := dk_seg dksX2_goes_1 23 rfl rfl
theorem dksX2_goes_3 : cX2_goes.data.toList.drop 70 = dktX2_goes_3 := dk_seg dksX2_goes_2 23 rfl rfl
theorem dksX2_goes_4 : cX2_goes.data.toList.drop 94 = dktX2_goes_4 := dk_seg dksX2_goes_3 24 rfl rfl
theorem dX2_goes_0 : decode cX2_goes 0 = .ok (.iload_n 1, 1) := dk_27 (dk_at dksX2_goes_0 0 rfl rfl)
theorem dX2_goes_1 : decode cX2_goes 1 = .ok (.istore 4, 2) := dk_54 4 (dk_at dksX2_goes_0 1 rfl rfl)
theorem dX2_goes_3 : decode cX2_goes 3 = .ok (.aload_n 0, 1) := dk_42 (dk_at dksX2_goes_0 3 rfl rfl)
theorem dX2_goes_4 : decode cX2_goes 4 = .ok (.invokevirtual 183, 3) := dk_182 0 183 (dk_at dksX2_goes_0 4 rfl rfl)
theorem dX2_goes_7 : decode cX2_goes 7 = .ok (.istore 5, 2) := dk_54 5 (dk_at dksX2_goes_0 7 rfl rfl)
theorem dX2_goes_9 : decode cX2_goes 9 = .ok (.iconst 0, 1) := dk_3 (dk_at dksX2_goes_0 9 rfl rfl)
theorem dX2_goes_10 : decode cX2_goes 10 = .ok (.istore 6, 2) := dk_54 6 (dk_at dksX2_goes_0 10 rfl rfl)
theorem dX2_goes_12 : decode cX2_goes 12 = .ok (.aload_n 3, 1) := dk_45 (dk_at dksX2_goes_0 12 rfl rfl)
theorem dX2_goes_13 : decode cX2_goes 13 = .ok (.iload 4, 2) := dk_21 4 (dk_at dksX2_goes_0 13 rfl rfl)
theorem dX2_goes_15 : decode cX2_goes 15 = .ok (.invokestatic 185, 3) := dk_184 0 185 (dk_at dksX2_goes_0 15 rfl rfl)
theorem dX2_goes_18 : decode cX2_goes 18 = .ok (.invokeinterface 189 2, 5) := by decide +kernel
theorem dX2_goes_23 : decode cX2_goes 23 = .ok (.pop, 1) := dk_87 (dk_at dksX2_goes_0 23 rfl rfl)
theorem dX2_goes_24 : decode cX2_goes 24 = .ok (.iload 4, 2) := dk_21 4 (dk_at dksX2_goes_1 0 rfl rfl)
theorem dX2_goes_26 : decode cX2_goes 26 = .ok (.aload_n 0, 1) := dk_42 (dk_at dksX2_goes_1 2 rfl rfl)
theorem dX2_goes_27 : decode cX2_goes 27 = .ok (.getfield 34, 3) := dk_180 0 34 (dk_at dksX2_goes_1 3 rfl rfl)
theorem dX2_goes_30 : decode cX2_goes 30 = .ok (.if_icmp .eq 67, 3) := dk_159 0 67 (dk_at dksX2_goes_1 6 rfl rfl)
theorem dX2_goes_33 : decode cX2_goes 33 = .ok (.aload_n 0, 1) := dk_42 (dk_at dksX2_goes_1 9 rfl rfl)
theorem dX2_goes_34 : decode cX2_goes 34 = .ok (.iload 4, 2) := dk_21 4 (dk_at dksX2_goes_1 10 rfl rfl)
theorem dX2_goes_36 : decode cX2_goes 36 = .ok (.iload 5, 2) := dk_21 5 (dk_at dksX2_goes_1 12 rfl rfl)
theorem dX2_goes_38 : decode cX2_goes 38 = .ok (.aload_n 2, 1) := dk_44 (dk_at dksX2_goes_1 14 rfl rfl)
theorem dX2_goes_39 : decode cX2_goes 39 = .ok (.invokevirtual 195, 3) := dk_182 0 195 (dk_at dksX2_goes_1 15 rfl rfl)
theorem dX2_goes_42 : decode cX2_goes 42 = .ok (.istore 5, 2) := dk_54 5 (dk_at dksX2_goes_1 18 rfl rfl)
theorem dX2_goes_44 : decode cX2_goes 44 = .ok (.aload_n 0, 1) := dk_42 (dk_at dksX2_goes_1 20 rfl rfl)
theorem dX2_goes_45 : decode cX2_goes 45 = .ok (.iload 4, 2) := dk_21 4 (dk_at dksX2_goes_1 21 rfl rfl)
theorem dX2_goes_47 : decode cX2_goes 47 = .ok (.iload 5, 2) := dk_21 5 (dk_at dksX2_goes_2 0 rfl rfl)
theorem dX2_goes_49 : decode cX2_goes 49 = .ok (.invokevirtual 199, 3) := dk_182 0 199 (dk_at dksX2_goes_2 2 rfl rfl)
theorem dX2_goes_52 : decode cX2_goes 52 = .ok (.astore 7, 2) := dk_58 7 (dk_at dksX2_goes_2 5 rfl rfl)
theorem dX2_goes_54 : decode cX2_goes 54 = .ok (.iload 6, 2) := dk_21 6 (dk_at dksX2_goes_2 7 rfl rfl)
theorem dX2_goes_56 : decode cX2_goes 56 = .ok (.aload_n 0, 1) := dk_42 (dk_at dksX2_goes_2 9 rfl rfl)
theorem dX2_goes_57 : decode cX2_goes 57 = .ok (.iload 4, 2) := dk_21 4 (dk_at dksX2_goes_2 10 rfl rfl)
theorem dX2_goes_59 : decode cX2_goes 59 = .ok (.aload 7, 2) := dk_25 7 (dk_at dksX2_goes_2 12 rfl rfl)
theorem dX2_goes_61 : decode cX2_goes 61 = .ok (.iload 5, 2) := dk_21 5 (dk_at dksX2_goes_2 14 rfl rfl)
theorem dX2_goes_63 : decode cX2_goes 63 = .ok (.invokevirtual 172, 3) := dk_182 0 172 (dk_at dksX2_goes_2 16 rfl rfl)
theorem dX2_goes_66 : decode cX2_goes 66 = .ok (.iadd, 1) := dk_96 (dk_at dksX2_goes_2 19 rfl rfl)
theorem dX2_goes_67 : decode cX2_goes 67 = .ok (.istore 6, 2) := dk_54 6 (dk_at dksX2_goes_2 20 rfl rfl)
theorem dX2_goes_69 : decode cX2_goes 69 = .ok (.aload_n 0, 1) := dk_42 (dk_at dksX2_goes_2 22 rfl rfl)
theorem dX2_goes_70 : decode cX2_goes 70 = .ok (.getfield 30, 3) := dk_180 0 30 (dk_at dksX2_goes_3 0 rfl rfl)
theorem dX2_goes_73 : decode cX2_goes 73 = .ok (.iload 4, 2) := dk_21 4 (dk_at dksX2_goes_3 3 rfl rfl)
theorem dX2_goes_75 : decode cX2_goes 75 = .ok (.aload 7, 2) := dk_25 7 (dk_at dksX2_goes_3 5 rfl rfl)
theorem dX2_goes_77 : decode cX2_goes 77 = .ok (.invokevirtual 130, 3) := dk_182 0 130 (dk_at dksX2_goes_3 7 rfl rfl)
theorem dX2_goes_80 : decode cX2_goes 80 = .ok (.istore 4, 2) := dk_54 4 (dk_at dksX2_goes_3 10 rfl rfl)
theorem dX2_goes_82 : decode cX2_goes 82 = .ok (.aload_n 3, 1) := dk_45 (dk_at dksX2_goes_3 12 rfl rfl)
theorem dX2_goes_83 : decode cX2_goes 83 = .ok (.iload 4, 2) := dk_21 4 (dk_at dksX2_goes_3 13 rfl rfl)
theorem dX2_goes_85 : decode cX2_goes 85 = .ok (.invokestatic 185, 3) := dk_184 0 185 (dk_at dksX2_goes_3 15 rfl rfl)
theorem dX2_goes_88 : decode cX2_goes 88 = .ok (.invokeinterface 189 2, 5) := by decide +kernel
theorem dX2_goes_93 : decode cX2_goes 93 = .ok (.pop, 1) := dk_87 (dk_at dksX2_goes_3 23 rfl rfl)
theorem dX2_goes_94 : decode cX2_goes 94 = .ok (.goto (-70), 3) := dk_167 255 186 (dk_at dksX2_goes_4 0 rfl rfl)
theorem dX2_goes_97 : decode cX2_goes 97 = .ok (.iload 6, 2) := dk_21 6 (dk_at dksX2_goes_4 3 rfl rfl)
theorem dX2_goes_99 : decode cX2_goes 99 = .ok (.ireturn, 1) := dk_172 (dk_at dksX2_goes_4 5 rfl rfl)
abbrev cX2_look : ByteArray := prog_17_method_14_code
def yX2_look : MethodName := ⟨RX2, "look", "(II[I)I"⟩
def dkwX2_look_2 : List UInt8 := [100, 126, 54, 5, 167, 255, 221, 21, 4, 172]
abbrev dktX2_look_2 : List UInt8 := dkwX2_look_2 ++ []
def dkwX2_look_1 : List UInt8 := [184, 0, 141, 54, 6, 42, 21, 4, 21, 6, 45, 21, 6, 46, 182, 0, 109, 54, 4, 21, 5, 21, 5, 4]
abbrev dktX2_look_1 : List UInt8 := dkwX2_look_1 ++ dktX2_look_2
def dkwX2_look_0 : List UInt8 := [28, 54, 4, 42, 180, 0, 23, 27, 46, 42, 28, 182, 0, 163, 126, 54, 5, 21, 5, 153, 0, 36, 21, 5]
abbrev dktX2_look_0 : List UInt8 := dkwX2_look_0 ++ dktX2_look_1
theorem dksX2_look_0 : cX2_look.data.toList.drop 0 = dktX2_look_0 := by decide +kernel
theorem dksX2_look_1 : cX2_look.data.toList.drop 24 = dktX2_look_1 := dk_seg dksX2_look_0 24 rfl rfl
theorem dksX2_look_2 : cX2_look.data.toList.drop 48 = dktX2_look_2 := dk_seg dksX2_look_1 24 rfl rfl
theorem dX2_look_0 : decode cX2_look 0 = .ok (.iload_n 2, 1) := dk_28 (dk_at dksX2_look_0 0 rfl rfl)
theorem dX2_look_1 : decode cX2_look 1 = .ok (.istore 4, 2) := dk_54 4 (dk_at dksX2_look_0 1 rfl rfl)
theorem dX2_look_3 : decode cX2_look 3 = .ok (.aload_n 0, 1) := dk_42 (dk_at dksX2_look_0 3 rfl rfl)
theorem dX2_look_4 : decode cX2_look 4 = .ok (.getfield 23, 3) := dk_180 0 23 (dk_at dksX2_look_0 4 rfl rfl)
theorem dX2_look_7 : decode cX2_look 7 = .ok (.iload_n 1, 1) := dk_27 (dk_at dksX2_look_0 7 rfl rfl)
theorem dX2_look_8 : decode cX2_look 8 = .ok (.iaload, 1) := dk_46 (dk_at dksX2_look_0 8 rfl rfl)
theorem dX2_look_9 : decode cX2_look 9 = .ok (.aload_n 0, 1) := dk_42 (dk_at dksX2_look_0 9 rfl rfl)
theorem dX2_look_10 : decode cX2_look 10 = .ok (.iload_n 2, 1) := dk_28 (dk_at dksX2_look_0 10 rfl rfl)
theorem dX2_look_11 : decode cX2_look 11 = .ok (.invokevirtual 163, 3) := dk_182 0 163 (dk_at dksX2_look_0 11 rfl rfl)
theorem dX2_look_14 : decode cX2_look 14 = .ok (.iand, 1) := dk_126 (dk_at dksX2_look_0 14 rfl rfl)
theorem dX2_look_15 : decode cX2_look 15 = .ok (.istore 5, 2) := dk_54 5 (dk_at dksX2_look_0 15 rfl rfl)
theorem dX2_look_17 : decode cX2_look 17 = .ok (.iload 5, 2) := dk_21 5 (dk_at dksX2_look_0 17 rfl rfl)
theorem dX2_look_19 : decode cX2_look 19 = .ok (.ifCond .eq 36, 3) := dk_153 0 36 (dk_at dksX2_look_0 19 rfl rfl)
theorem dX2_look_22 : decode cX2_look 22 = .ok (.iload 5, 2) := dk_21 5 (dk_at dksX2_look_0 22 rfl rfl)
theorem dX2_look_24 : decode cX2_look 24 = .ok (.invokestatic 141, 3) := dk_184 0 141 (dk_at dksX2_look_1 0 rfl rfl)
theorem dX2_look_27 : decode cX2_look 27 = .ok (.istore 6, 2) := dk_54 6 (dk_at dksX2_look_1 3 rfl rfl)
theorem dX2_look_29 : decode cX2_look 29 = .ok (.aload_n 0, 1) := dk_42 (dk_at dksX2_look_1 5 rfl rfl)
theorem dX2_look_30 : decode cX2_look 30 = .ok (.iload 4, 2) := dk_21 4 (dk_at dksX2_look_1 6 rfl rfl)
theorem dX2_look_32 : decode cX2_look 32 = .ok (.iload 6, 2) := dk_21 6 (dk_at dksX2_look_1 8 rfl rfl)
theorem dX2_look_34 : decode cX2_look 34 = .ok (.aload_n 3, 1) := dk_45 (dk_at dksX2_look_1 10 rfl rfl)
theorem dX2_look_35 : decode cX2_look 35 = .ok (.iload 6, 2) := dk_21 6 (dk_at dksX2_look_1 11 rfl rfl)
theorem dX2_look_37 : decode cX2_look 37 = .ok (.iaload, 1) := dk_46 (dk_at dksX2_look_1 13 rfl rfl)
theorem dX2_look_38 : decode cX2_look 38 = .ok (.invokevirtual 109, 3) := dk_182 0 109 (dk_at dksX2_look_1 14 rfl rfl)
theorem dX2_look_41 : decode cX2_look 41 = .ok (.istore 4, 2) := dk_54 4 (dk_at dksX2_look_1 17 rfl rfl)
theorem dX2_look_43 : decode cX2_look 43 = .ok (.iload 5, 2) := dk_21 5 (dk_at dksX2_look_1 19 rfl rfl)
theorem dX2_look_45 : decode cX2_look 45 = .ok (.iload 5, 2) := dk_21 5 (dk_at dksX2_look_1 21 rfl rfl)
theorem dX2_look_47 : decode cX2_look 47 = .ok (.iconst 1, 1) := dk_4 (dk_at dksX2_look_1 23 rfl rfl)
theorem dX2_look_48 : decode cX2_look 48 = .ok (.isub, 1) := dk_100 (dk_at dksX2_look_2 0 rfl rfl)
theorem dX2_look_49 : decode cX2_look 49 = .ok (.iand, 1) := dk_126 (dk_at dksX2_look_2 1 rfl rfl)
theorem dX2_look_50 : decode cX2_look 50 = .ok (.istore 5, 2) := dk_54 5 (dk_at dksX2_look_2 2 rfl rfl)
theorem dX2_look_52 : decode cX2_look 52 = .ok (.goto (-35), 3) := dk_167 255 221 (dk_at dksX2_look_2 4 rfl rfl)
theorem dX2_look_55 : decode cX2_look 55 = .ok (.iload 4, 2) := dk_21 4 (dk_at dksX2_look_2 7 rfl rfl)
theorem dX2_look_57 : decode cX2_look 57 = .ok (.ireturn, 1) := dk_172 (dk_at dksX2_look_2 9 rfl rfl)
theorem q99 : (Jvm.Cond.initialized "SoftWheels$Solver") ∈ lw_all := lw_g (lw_at lw_m1 2 rfl) rfl
theorem q151 : (Jvm.Cond.instantiable "SoftWheels$Solver" (9 : Nat)) ∈ lw_all := lw_g (lw_at lw_m1 54 rfl) rfl
theorem q153 : (Jvm.Cond.instanceMethod ({ cls := "SoftWheels$Solver", name := "<init>", desc := "()V" } : Jvm.MethodName)) ∈ lw_all := lw_g (lw_at lw_m1 56 rfl) rfl
theorem q154 : (Jvm.Cond.code ({ cls := "SoftWheels$Solver", name := "<init>", desc := "()V" } : Jvm.MethodName) prog_17_method_1_code (1 : Nat) (Option.none : Option Jvm.ClassFile.FieldType)) ∈ lw_all := lw_g (lw_at lw_m1 57 rfl) rfl
theorem q155 : (Jvm.Cond.methodLink "SoftWheels$Solver" (3 : Nat) ({ cls := "java/lang/Object", name := "<init>", desc := "()V" } : Jvm.MethodName)) ∈ lw_all := lw_g (lw_at lw_m1 58 rfl) rfl
theorem q156 : (Jvm.Cond.constant "SoftWheels$Solver" (9 : Nat) (102400 : Int32)) ∈ lw_all := lw_g (lw_at lw_m1 59 rfl) rfl
theorem q157 : (Jvm.Cond.fieldLink "SoftWheels$Solver" (30 : Nat) "SoftWheels$Solver" "map" "LSoftWheels$Land;") ∈ lw_all := lw_g (lw_at lw_m1 60 rfl) rfl
theorem q158 : (Jvm.Cond.fieldLink "SoftWheels$Solver" (34 : Nat) "SoftWheels$Solver" "goal" "I") ∈ lw_all := lw_g (lw_at lw_m1 61 rfl) rfl
theorem q159 : (Jvm.Cond.fieldLink "SoftWheels$Solver" (48 : Nat) "SoftWheels$Solver" "size" "I") ∈ lw_all := lw_g (lw_at lw_m1 62 rfl) rfl
theorem q160 : (Jvm.Cond.fieldLink "SoftWheels$Solver" (38 : Nat) "SoftWheels$Solver" "judge" "LSoftWheels$Judge;") ∈ lw_all := lw_g (lw_at lw_m1 63 rfl) rfl
theorem q161 : (Jvm.Cond.fieldLink "SoftWheels$Solver" (10 : Nat) "SoftWheels$Solver" "value" "[J") ∈ lw_all := lw_g (lw_at lw_m1 64 rfl) rfl
theorem q162 : (Jvm.Cond.fieldLink "SoftWheels$Solver" (16 : Nat) "SoftWheels$Solver" "isDone" "[Z") ∈ lw_all := lw_g (lw_at lw_m1 65 rfl) rfl
theorem q163 : (Jvm.Cond.fieldLink "SoftWheels$Solver" (20 : Nat) "SoftWheels$Solver" "past" "[Z") ∈ lw_all := lw_g (lw_at lw_m1 66 rfl) rfl
theorem q164 : (Jvm.Cond.fieldLink "SoftWheels$Solver" (23 : Nat) "SoftWheels$Solver" "sees" "[I") ∈ lw_all := lw_g (lw_at lw_m1 67 rfl) rfl
theorem q165 : (Jvm.Cond.fieldLink "SoftWheels$Solver" (27 : Nat) "SoftWheels$Solver" "costs" "[I") ∈ lw_all := lw_g (lw_at lw_m1 68 rfl) rfl
theorem q166 : (Jvm.Cond.lays "SoftWheels$Solver" "SoftWheels$Solver" "map" "LSoftWheels$Land;") ∈ lw_all := lw_g (lw_at lw_m1 69 rfl) rfl
theorem q167 : (Jvm.Cond.soleField "SoftWheels$Solver" "map") ∈ lw_all := lw_g (lw_at lw_m1 70 rfl) rfl
theorem q168 : (Jvm.Cond.lays "SoftWheels$Solver" "SoftWheels$Solver" "goal" "I") ∈ lw_all := lw_g (lw_at lw_m1 71 rfl) rfl
theorem q169 : (Jvm.Cond.soleField "SoftWheels$Solver" "goal") ∈ lw_all := lw_g (lw_at lw_m1 72 rfl) rfl
theorem q170 : (Jvm.Cond.lays "SoftWheels$Solver" "SoftWheels$Solver" "size" "I") ∈ lw_all := lw_g (lw_at lw_m1 73 rfl) rfl
theorem q171 : (Jvm.Cond.soleField "SoftWheels$Solver" "size") ∈ lw_all := lw_g (lw_at lw_m1 74 rfl) rfl
theorem q172 : (Jvm.Cond.lays "SoftWheels$Solver" "SoftWheels$Solver" "judge" "LSoftWheels$Judge;") ∈ lw_all := lw_g (lw_at lw_m1 75 rfl) rfl
theorem q173 : (Jvm.Cond.soleField "SoftWheels$Solver" "judge") ∈ lw_all := lw_g (lw_at lw_m1 76 rfl) rfl
theorem q174 : (Jvm.Cond.laysFinal "SoftWheels$Solver" "SoftWheels$Solver" "value" "[J") ∈ lw_all := lw_g (lw_at lw_m1 77 rfl) rfl
theorem q175 : (Jvm.Cond.soleField "SoftWheels$Solver" "value") ∈ lw_all := lw_g (lw_at lw_m1 78 rfl) rfl
theorem q176 : (Jvm.Cond.laysFinal "SoftWheels$Solver" "SoftWheels$Solver" "isDone" "[Z") ∈ lw_all := lw_g (lw_at lw_m1 79 rfl) rfl
theorem q177 : (Jvm.Cond.soleField "SoftWheels$Solver" "isDone") ∈ lw_all := lw_g (lw_at lw_m1 80 rfl) rfl
theorem q178 : (Jvm.Cond.laysFinal "SoftWheels$Solver" "SoftWheels$Solver" "past" "[Z") ∈ lw_all := lw_g (lw_at lw_m1 81 rfl) rfl
theorem q179 : (Jvm.Cond.soleField "SoftWheels$Solver" "past") ∈ lw_all := lw_g (lw_at lw_m1 82 rfl) rfl
theorem q180 : (Jvm.Cond.laysFinal "SoftWheels$Solver" "SoftWheels$Solver" "sees" "[I") ∈ lw_all := lw_g (lw_at lw_m1 83 rfl) rfl
theorem q181 : (Jvm.Cond.soleField "SoftWheels$Solver" "sees") ∈ lw_all := lw_g (lw_at lw_m1 84 rfl) rfl
theorem q182 : (Jvm.Cond.laysFinal "SoftWheels$Solver" "SoftWheels$Solver" "costs" "[I") ∈ lw_all := lw_g (lw_at lw_m1 85 rfl) rfl
theorem q183 : (Jvm.Cond.soleField "SoftWheels$Solver" "costs") ∈ lw_all := lw_g (lw_at lw_m1 86 rfl) rfl
theorem q184 : (Jvm.Cond.superclass "SoftWheels$Solver" "java/lang/Object") ∈ lw_all := lw_g (lw_at lw_m1 87 rfl) rfl
theorem q289 : (Jvm.Cond.fieldLinkNest "SoftWheels$Solver" (68 : Nat) "SoftWheels$Book" "grounds" "Ljava/util/ArrayList;" "SoftWheels") ∈ lw_tbl := lw_at lw_m1 192 rfl
theorem q971 : (Jvm.Cond.selects "SoftWheels$Solver" ({ cls := "java/lang/Object", name := "getClass", desc := "()Ljava/lang/Class;" } : Jvm.MethodName) ({ cls := "java/lang/Object", name := "getClass", desc := "()Ljava/lang/Class;" } : Jvm.MethodName)) ∈ lw_all := lw_g (lw_at lw_m4 154 rfl) rfl
theorem q1135 : (Jvm.Cond.fieldLinkNest "SoftWheels$Solver" (64 : Nat) "SoftWheels$Land" "book" "LSoftWheels$Book;" "SoftWheels") ∈ lw_tbl := lw_at lw_m5 78 rfl
theorem q1142 : (Jvm.Cond.fieldLinkNest "SoftWheels$Solver" (127 : Nat) "SoftWheels$Land" "ground" "[I" "SoftWheels") ∈ lw_tbl := lw_at lw_m5 85 rfl
theorem q1146 : (Jvm.Cond.fieldLinkNest "SoftWheels$Solver" (123 : Nat) "SoftWheels$Land" "doubtAt" "[LSoftWheels$Doubt;" "SoftWheels") ∈ lw_tbl := lw_at lw_m5 89 rfl
theorem q1150 : (Jvm.Cond.fieldLinkNest "SoftWheels$Solver" (94 : Nat) "SoftWheels$Land" "doubts" "Ljava/util/ArrayList;" "SoftWheels") ∈ lw_tbl := lw_at lw_m5 93 rfl
theorem q1153 : (Jvm.Cond.fieldLinkNest "SoftWheels$Solver" (60 : Nat) "SoftWheels$Land" "ways" "[LSoftWheels$Way;" "SoftWheels") ∈ lw_tbl := lw_at lw_m5 96 rfl
theorem q1159 : (Jvm.Cond.fieldLinkNest "SoftWheels$Solver" (86 : Nat) "SoftWheels$Land" "cost" "I" "SoftWheels") ∈ lw_tbl := lw_at lw_m5 102 rfl
theorem q1215 : (Jvm.Cond.fieldLinkNest "SoftWheels$Solver" (106 : Nat) "SoftWheels$Doubt" "number" "I" "SoftWheels") ∈ lw_tbl := lw_at lw_m5 158 rfl
theorem q1218 : (Jvm.Cond.fieldLinkNest "SoftWheels$Solver" (146 : Nat) "SoftWheels$Doubt" "weight" "[I" "SoftWheels") ∈ lw_tbl := lw_at lw_m5 161 rfl
theorem q1222 : (Jvm.Cond.fieldLinkNest "SoftWheels$Solver" (103 : Nat) "SoftWheels$Doubt" "known" "I" "SoftWheels") ∈ lw_tbl := lw_at lw_m5 165 rfl
theorem q1308 : (Jvm.Cond.instanceMethod ({ cls := "SoftWheels$Solver", name := "begin", desc := "(LSoftWheels$Land;IILSoftWheels$Judge;)LSoftWheels$Solver;" } : Jvm.MethodName)) ∈ lw_all := lw_g (lw_at lw_m6 11 rfl) rfl
theorem q1309 : (Jvm.Cond.selects "SoftWheels$Solver" ({ cls := "SoftWheels$Solver", name := "begin", desc := "(LSoftWheels$Land;IILSoftWheels$Judge;)LSoftWheels$Solver;" } : Jvm.MethodName) ({ cls := "SoftWheels$Solver", name := "begin", desc := "(LSoftWheels$Land;IILSoftWheels$Judge;)LSoftWheels$Solver;" } : Jvm.MethodName)) ∈ lw_all := lw_g (lw_at lw_m6 12 rfl) rfl
theorem q1310 : (Jvm.Cond.code ({ cls := "SoftWheels$Solver", name := "begin", desc := "(LSoftWheels$Land;IILSoftWheels$Judge;)LSoftWheels$Solver;" } : Jvm.MethodName) prog_17_method_2_code (11 : Nat) (Option.some (Jvm.ClassFile.FieldType.object "SoftWheels$Solver"))) ∈ lw_all := lw_g (lw_at lw_m6 13 rfl) rfl
theorem q1311 : (Jvm.Cond.methodLink "SoftWheels$Solver" (42 : Nat) ({ cls := "SoftWheels$Land", name := "cells", desc := "()I" } : Jvm.MethodName)) ∈ lw_all := lw_g (lw_at lw_m6 14 rfl) rfl
theorem q1312 : (Jvm.Cond.methodLink "SoftWheels$Solver" (51 : Nat) ({ cls := "java/util/Arrays", name := "fill", desc := "([ZZ)V" } : Jvm.MethodName)) ∈ lw_all := lw_g (lw_at lw_m6 15 rfl) rfl
theorem q1315 : (Jvm.Cond.methodLink "SoftWheels$Solver" (57 : Nat) ({ cls := "SoftWheels$Land", name := "sees", desc := "(I)I" } : Jvm.MethodName)) ∈ lw_all := lw_g (lw_at lw_m6 18 rfl) rfl
theorem q1319 : (Jvm.Cond.methodLink "SoftWheels$Solver" (74 : Nat) ({ cls := "java/util/ArrayList", name := "size", desc := "()I" } : Jvm.MethodName)) ∈ lw_all := lw_g (lw_at lw_m6 22 rfl) rfl
theorem q1320 : (Jvm.Cond.methodLink "SoftWheels$Solver" (78 : Nat) ({ cls := "SoftWheels$Solver", name := "at", desc := "(ILSoftWheels$Way;I)I" } : Jvm.MethodName)) ∈ lw_all := lw_g (lw_at lw_m6 23 rfl) rfl
theorem q1321 : (Jvm.Cond.static ({ cls := "SoftWheels$Solver", name := "at", desc := "(ILSoftWheels$Way;I)I" } : Jvm.MethodName)) ∈ lw_all := lw_g (lw_at lw_m6 24 rfl) rfl
theorem q1322 : (Jvm.Cond.code ({ cls := "SoftWheels$Solver", name := "at", desc := "(ILSoftWheels$Way;I)I" } : Jvm.MethodName) prog_17_method_3_code (3 : Nat) (Option.some Jvm.ClassFile.FieldType.int)) ∈ lw_all := lw_g (lw_at lw_m6 25 rfl) rfl
theorem q1323 : (Jvm.Cond.methodLink "SoftWheels$Solver" (89 : Nat) ({ cls := "SoftWheels$Way", name := "ordinal", desc := "()I" } : Jvm.MethodName)) ∈ lw_all := lw_g (lw_at lw_m6 26 rfl) rfl
theorem q1329 : (Jvm.Cond.methodLink "SoftWheels$Solver" (82 : Nat) ({ cls := "SoftWheels$Land", name := "why", desc := "(ILSoftWheels$Way;II)I" } : Jvm.MethodName)) ∈ lw_all := lw_g (lw_at lw_m6 32 rfl) rfl
theorem q1331 : (Jvm.Cond.instanceMethod ({ cls := "SoftWheels$Solver", name := "known", desc := "()I" } : Jvm.MethodName)) ∈ lw_all := lw_g (lw_at lw_m6 34 rfl) rfl
theorem q1332 : (Jvm.Cond.selects "SoftWheels$Solver" ({ cls := "SoftWheels$Solver", name := "known", desc := "()I" } : Jvm.MethodName) ({ cls := "SoftWheels$Solver", name := "known", desc := "()I" } : Jvm.MethodName)) ∈ lw_all := lw_g (lw_at lw_m6 35 rfl) rfl
theorem q1333 : (Jvm.Cond.code ({ cls := "SoftWheels$Solver", name := "known", desc := "()I" } : Jvm.MethodName) prog_17_method_5_code (3 : Nat) (Option.some Jvm.ClassFile.FieldType.int)) ∈ lw_all := lw_g (lw_at lw_m6 36 rfl) rfl
theorem q1334 : (Jvm.Cond.methodLink "SoftWheels$Solver" (97 : Nat) ({ cls := "java/util/ArrayList", name := "get", desc := "(I)Ljava/lang/Object;" } : Jvm.MethodName)) ∈ lw_all := lw_g (lw_at lw_m6 37 rfl) rfl
theorem q1335 : (Jvm.Cond.classLink "SoftWheels$Solver" (101 : Nat) "SoftWheels$Doubt") ∈ lw_all := lw_g (lw_at lw_m6 38 rfl) rfl
theorem q1336 : (Jvm.Cond.methodLink "SoftWheels$Solver" (109 : Nat) ({ cls := "SoftWheels$Solver", name := "knows", desc := "(III)I" } : Jvm.MethodName)) ∈ lw_all := lw_g (lw_at lw_m6 39 rfl) rfl
theorem q1337 : (Jvm.Cond.instanceMethod ({ cls := "SoftWheels$Solver", name := "knows", desc := "(III)I" } : Jvm.MethodName)) ∈ lw_all := lw_g (lw_at lw_m6 40 rfl) rfl
theorem q1338 : (Jvm.Cond.selects "SoftWheels$Solver" ({ cls := "SoftWheels$Solver", name := "knows", desc := "(III)I" } : Jvm.MethodName) ({ cls := "SoftWheels$Solver", name := "knows", desc := "(III)I" } : Jvm.MethodName)) ∈ lw_all := lw_g (lw_at lw_m6 41 rfl) rfl
theorem q1339 : (Jvm.Cond.code ({ cls := "SoftWheels$Solver", name := "knows", desc := "(III)I" } : Jvm.MethodName) prog_17_method_6_code (6 : Nat) (Option.some Jvm.ClassFile.FieldType.int)) ∈ lw_all := lw_g (lw_at lw_m6 42 rfl) rfl
theorem q1340 : (Jvm.Cond.methodLink "SoftWheels$Solver" (113 : Nat) ({ cls := "SoftWheels$Doubt", name := "kind", desc := "(I)I" } : Jvm.MethodName)) ∈ lw_all := lw_g (lw_at lw_m6 43 rfl) rfl
theorem q1345 : (Jvm.Cond.instanceMethod ({ cls := "SoftWheels$Solver", name := "of", desc := "(II)J" } : Jvm.MethodName)) ∈ lw_all := lw_g (lw_at lw_m6 48 rfl) rfl
theorem q1346 : (Jvm.Cond.selects "SoftWheels$Solver" ({ cls := "SoftWheels$Solver", name := "of", desc := "(II)J" } : Jvm.MethodName) ({ cls := "SoftWheels$Solver", name := "of", desc := "(II)J" } : Jvm.MethodName)) ∈ lw_all := lw_g (lw_at lw_m6 49 rfl) rfl
theorem q1347 : (Jvm.Cond.code ({ cls := "SoftWheels$Solver", name := "of", desc := "(II)J" } : Jvm.MethodName) prog_17_method_12_code (3 : Nat) (Option.some Jvm.ClassFile.FieldType.long)) ∈ lw_all := lw_g (lw_at lw_m6 50 rfl) rfl
theorem q1348 : (Jvm.Cond.methodLink "SoftWheels$Solver" (159 : Nat) ({ cls := "SoftWheels$Solver", name := "solve", desc := "(I)V" } : Jvm.MethodName)) ∈ lw_all := lw_g (lw_at lw_m6 51 rfl) rfl
theorem q1349 : (Jvm.Cond.privateMethod ({ cls := "SoftWheels$Solver", name := "solve", desc := "(I)V" } : Jvm.MethodName)) ∈ lw_tbl := lw_at lw_m6 52 rfl
theorem q1350 : (Jvm.Cond.instanceMethod ({ cls := "SoftWheels$Solver", name := "solve", desc := "(I)V" } : Jvm.MethodName)) ∈ lw_all := lw_g (lw_at lw_m6 53 rfl) rfl
theorem q1351 : (Jvm.Cond.code ({ cls := "SoftWheels$Solver", name := "solve", desc := "(I)V" } : Jvm.MethodName) prog_17_method_13_code (14 : Nat) (Option.none : Option Jvm.ClassFile.FieldType)) ∈ lw_all := lw_g (lw_at lw_m6 54 rfl) rfl
theorem q1352 : (Jvm.Cond.methodLink "SoftWheels$Solver" (163 : Nat) ({ cls := "SoftWheels$Solver", name := "unknown", desc := "(I)I" } : Jvm.MethodName)) ∈ lw_all := lw_g (lw_at lw_m6 55 rfl) rfl
theorem q1353 : (Jvm.Cond.privateMethod ({ cls := "SoftWheels$Solver", name := "unknown", desc := "(I)I" } : Jvm.MethodName)) ∈ lw_tbl := lw_at lw_m6 56 rfl
theorem q1354 : (Jvm.Cond.instanceMethod ({ cls := "SoftWheels$Solver", name := "unknown", desc := "(I)I" } : Jvm.MethodName)) ∈ lw_all := lw_g (lw_at lw_m6 57 rfl) rfl
theorem q1355 : (Jvm.Cond.code ({ cls := "SoftWheels$Solver", name := "unknown", desc := "(I)I" } : Jvm.MethodName) prog_17_method_7_code (4 : Nat) (Option.some Jvm.ClassFile.FieldType.int)) ∈ lw_all := lw_g (lw_at lw_m6 58 rfl) rfl
theorem q1356 : (Jvm.Cond.methodLink "SoftWheels$Solver" (116 : Nat) ({ cls := "SoftWheels$Solver", name := "sign", desc := "(II)I" } : Jvm.MethodName)) ∈ lw_all := lw_g (lw_at lw_m6 59 rfl) rfl
theorem q1357 : (Jvm.Cond.static ({ cls := "SoftWheels$Solver", name := "sign", desc := "(II)I" } : Jvm.MethodName)) ∈ lw_all := lw_g (lw_at lw_m6 60 rfl) rfl
theorem q1358 : (Jvm.Cond.code ({ cls := "SoftWheels$Solver", name := "sign", desc := "(II)I" } : Jvm.MethodName) prog_17_method_4_code (2 : Nat) (Option.some Jvm.ClassFile.FieldType.int)) ∈ lw_all := lw_g (lw_at lw_m6 61 rfl) rfl
theorem q1359 : (Jvm.Cond.methodLink "SoftWheels$Solver" (149 : Nat) ({ cls := "SoftWheels$Solver", name := "seen", desc := "(III)J" } : Jvm.MethodName)) ∈ lw_all := lw_g (lw_at lw_m6 62 rfl) rfl
theorem q1360 : (Jvm.Cond.privateMethod ({ cls := "SoftWheels$Solver", name := "seen", desc := "(III)J" } : Jvm.MethodName)) ∈ lw_tbl := lw_at lw_m6 63 rfl
theorem q1361 : (Jvm.Cond.instanceMethod ({ cls := "SoftWheels$Solver", name := "seen", desc := "(III)J" } : Jvm.MethodName)) ∈ lw_all := lw_g (lw_at lw_m6 64 rfl) rfl
theorem q1362 : (Jvm.Cond.code ({ cls := "SoftWheels$Solver", name := "seen", desc := "(III)J" } : Jvm.MethodName) prog_17_method_11_code (9 : Nat) (Option.some Jvm.ClassFile.FieldType.long)) ∈ lw_all := lw_g (lw_at lw_m6 65 rfl) rfl
theorem q1363 : (Jvm.Cond.methodLink "SoftWheels$Solver" (137 : Nat) ({ cls := "SoftWheels$Solver", name := "of", desc := "(II)J" } : Jvm.MethodName)) ∈ lw_all := lw_g (lw_at lw_m6 66 rfl) rfl
theorem q1364 : (Jvm.Cond.methodLink "SoftWheels$Solver" (141 : Nat) ({ cls := "java/lang/Integer", name := "numberOfTrailingZeros", desc := "(I)I" } : Jvm.MethodName)) ∈ lw_all := lw_g (lw_at lw_m6 67 rfl) rfl
theorem q1368 : (Jvm.Cond.interfaceEntry "SoftWheels$Solver" (153 : Nat)) ∈ lw_tbl := lw_at lw_m6 71 rfl
theorem q1369 : (Jvm.Cond.methodLink "SoftWheels$Solver" (153 : Nat) ({ cls := "SoftWheels$Judge", name := "join", desc := "(JJI)J" } : Jvm.MethodName)) ∈ lw_all := lw_g (lw_at lw_m6 72 rfl) rfl
theorem q1389 : (Jvm.Cond.constantLong "SoftWheels$Solver" (166 : Nat) (9223372036854775807 : Int64)) ∈ lw_all := lw_g (lw_at lw_m6 92 rfl) rfl
theorem q1390 : (Jvm.Cond.methodLink "SoftWheels$Solver" (168 : Nat) ({ cls := "SoftWheels$Solver", name := "scale", desc := "(I)J" } : Jvm.MethodName)) ∈ lw_all := lw_g (lw_at lw_m6 93 rfl) rfl
theorem q1391 : (Jvm.Cond.instanceMethod ({ cls := "SoftWheels$Solver", name := "scale", desc := "(I)J" } : Jvm.MethodName)) ∈ lw_all := lw_g (lw_at lw_m6 94 rfl) rfl
theorem q1392 : (Jvm.Cond.selects "SoftWheels$Solver" ({ cls := "SoftWheels$Solver", name := "scale", desc := "(I)J" } : Jvm.MethodName) ({ cls := "SoftWheels$Solver", name := "scale", desc := "(I)J" } : Jvm.MethodName)) ∈ lw_all := lw_g (lw_at lw_m6 95 rfl) rfl
theorem q1393 : (Jvm.Cond.code ({ cls := "SoftWheels$Solver", name := "scale", desc := "(I)J" } : Jvm.MethodName) prog_17_method_8_code (5 : Nat) (Option.some Jvm.ClassFile.FieldType.long)) ∈ lw_all := lw_g (lw_at lw_m6 96 rfl) rfl
theorem q1394 : (Jvm.Cond.methodLink "SoftWheels$Solver" (120 : Nat) ({ cls := "SoftWheels$Doubt", name := "all", desc := "()I" } : Jvm.MethodName)) ∈ lw_all := lw_g (lw_at lw_m6 97 rfl) rfl
theorem q1398 : (Jvm.Cond.methodLink "SoftWheels$Solver" (130 : Nat) ({ cls := "SoftWheels$Land", name := "beside", desc := "(ILSoftWheels$Way;)I" } : Jvm.MethodName)) ∈ lw_all := lw_g (lw_at lw_m6 101 rfl) rfl
theorem q1399 : (Jvm.Cond.methodLink "SoftWheels$Solver" (172 : Nat) ({ cls := "SoftWheels$Solver", name := "cost", desc := "(ILSoftWheels$Way;I)I" } : Jvm.MethodName)) ∈ lw_all := lw_g (lw_at lw_m6 102 rfl) rfl
theorem q1400 : (Jvm.Cond.privateMethod ({ cls := "SoftWheels$Solver", name := "cost", desc := "(ILSoftWheels$Way;I)I" } : Jvm.MethodName)) ∈ lw_tbl := lw_at lw_m6 103 rfl
theorem q1401 : (Jvm.Cond.instanceMethod ({ cls := "SoftWheels$Solver", name := "cost", desc := "(ILSoftWheels$Way;I)I" } : Jvm.MethodName)) ∈ lw_all := lw_g (lw_at lw_m6 104 rfl) rfl
theorem q1402 : (Jvm.Cond.code ({ cls := "SoftWheels$Solver", name := "cost", desc := "(ILSoftWheels$Way;I)I" } : Jvm.MethodName) prog_17_method_10_code (5 : Nat) (Option.some Jvm.ClassFile.FieldType.int)) ∈ lw_all := lw_g (lw_at lw_m6 105 rfl) rfl
theorem q1403 : (Jvm.Cond.methodLink "SoftWheels$Solver" (134 : Nat) ({ cls := "SoftWheels$Solver", name := "groundOf", desc := "(II)I" } : Jvm.MethodName)) ∈ lw_all := lw_g (lw_at lw_m6 106 rfl) rfl
theorem q1404 : (Jvm.Cond.privateMethod ({ cls := "SoftWheels$Solver", name := "groundOf", desc := "(II)I" } : Jvm.MethodName)) ∈ lw_tbl := lw_at lw_m6 107 rfl
theorem q1405 : (Jvm.Cond.instanceMethod ({ cls := "SoftWheels$Solver", name := "groundOf", desc := "(II)I" } : Jvm.MethodName)) ∈ lw_all := lw_g (lw_at lw_m6 108 rfl) rfl
theorem q1406 : (Jvm.Cond.code ({ cls := "SoftWheels$Solver", name := "groundOf", desc := "(II)I" } : Jvm.MethodName) prog_17_method_9_code (4 : Nat) (Option.some Jvm.ClassFile.FieldType.int)) ∈ lw_all := lw_g (lw_at lw_m6 109 rfl) rfl
theorem q1407 : (Jvm.Cond.interfaceEntry "SoftWheels$Solver" (174 : Nat)) ∈ lw_tbl := lw_at lw_m6 110 rfl
theorem q1408 : (Jvm.Cond.methodLink "SoftWheels$Solver" (174 : Nat) ({ cls := "SoftWheels$Judge", name := "parts", desc := "(JJ)J" } : Jvm.MethodName)) ∈ lw_all := lw_g (lw_at lw_m6 111 rfl) rfl
theorem q1421 : (Jvm.Cond.methodLink "SoftWheels$Solver" (178 : Nat) ({ cls := "java/lang/Math", name := "min", desc := "(JJ)J" } : Jvm.MethodName)) ∈ lw_all := lw_g (lw_at lw_m6 124 rfl) rfl
theorem q1457 : (Jvm.Cond.instanceMethod ({ cls := "SoftWheels$Solver", name := "best", desc := "(II)LSoftWheels$Way;" } : Jvm.MethodName)) ∈ lw_all := lw_g (lw_at lw_m6 160 rfl) rfl
theorem q1458 : (Jvm.Cond.selects "SoftWheels$Solver" ({ cls := "SoftWheels$Solver", name := "best", desc := "(II)LSoftWheels$Way;" } : Jvm.MethodName) ({ cls := "SoftWheels$Solver", name := "best", desc := "(II)LSoftWheels$Way;" } : Jvm.MethodName)) ∈ lw_all := lw_g (lw_at lw_m6 161 rfl) rfl
theorem q1459 : (Jvm.Cond.code ({ cls := "SoftWheels$Solver", name := "best", desc := "(II)LSoftWheels$Way;" } : Jvm.MethodName) prog_17_method_15_code (15 : Nat) (Option.some (Jvm.ClassFile.FieldType.object "SoftWheels$Way"))) ∈ lw_all := lw_g (lw_at lw_m6 162 rfl) rfl
theorem q1484 : (Jvm.Cond.instanceMethod ({ cls := "SoftWheels$Solver", name := "goes", desc := "(I[ILjava/util/List;)I" } : Jvm.MethodName)) ∈ lw_all := lw_g (lw_at lw_m6 187 rfl) rfl
theorem q1485 : (Jvm.Cond.selects "SoftWheels$Solver" ({ cls := "SoftWheels$Solver", name := "goes", desc := "(I[ILjava/util/List;)I" } : Jvm.MethodName) ({ cls := "SoftWheels$Solver", name := "goes", desc := "(I[ILjava/util/List;)I" } : Jvm.MethodName)) ∈ lw_all := lw_g (lw_at lw_m6 188 rfl) rfl
theorem q1486 : (Jvm.Cond.code ({ cls := "SoftWheels$Solver", name := "goes", desc := "(I[ILjava/util/List;)I" } : Jvm.MethodName) prog_17_method_16_code (8 : Nat) (Option.some Jvm.ClassFile.FieldType.int)) ∈ lw_all := lw_g (lw_at lw_m6 189 rfl) rfl
theorem q1487 : (Jvm.Cond.methodLink "SoftWheels$Solver" (183 : Nat) ({ cls := "SoftWheels$Solver", name := "known", desc := "()I" } : Jvm.MethodName)) ∈ lw_all := lw_g (lw_at lw_m6 190 rfl) rfl
theorem q1488 : (Jvm.Cond.methodLink "SoftWheels$Solver" (185 : Nat) ({ cls := "java/lang/Integer", name := "valueOf", desc := "(I)Ljava/lang/Integer;" } : Jvm.MethodName)) ∈ lw_all := lw_g (lw_at lw_m6 191 rfl) rfl
theorem q1508 : (Jvm.Cond.interfaceEntry "SoftWheels$Solver" (189 : Nat)) ∈ lw_tbl := lw_at lw_m6 211 rfl
theorem q1509 : (Jvm.Cond.methodLink "SoftWheels$Solver" (189 : Nat) ({ cls := "java/util/List", name := "add", desc := "(Ljava/lang/Object;)Z" } : Jvm.MethodName)) ∈ lw_all := lw_g (lw_at lw_m6 212 rfl) rfl
theorem q1516 : (Jvm.Cond.methodLink "SoftWheels$Solver" (195 : Nat) ({ cls := "SoftWheels$Solver", name := "look", desc := "(II[I)I" } : Jvm.MethodName)) ∈ lw_all := lw_g (lw_at lw_m6 219 rfl) rfl
theorem q1517 : (Jvm.Cond.instanceMethod ({ cls := "SoftWheels$Solver", name := "look", desc := "(II[I)I" } : Jvm.MethodName)) ∈ lw_all := lw_g (lw_at lw_m6 220 rfl) rfl
theorem q1518 : (Jvm.Cond.selects "SoftWheels$Solver" ({ cls := "SoftWheels$Solver", name := "look", desc := "(II[I)I" } : Jvm.MethodName) ({ cls := "SoftWheels$Solver", name := "look", desc := "(II[I)I" } : Jvm.MethodName)) ∈ lw_all := lw_g (lw_at lw_m6 221 rfl) rfl
theorem q1519 : (Jvm.Cond.code ({ cls := "SoftWheels$Solver", name := "look", desc := "(II[I)I" } : Jvm.MethodName) prog_17_method_14_code (7 : Nat) (Option.some Jvm.ClassFile.FieldType.int)) ∈ lw_all := lw_g (lw_at lw_m6 222 rfl) rfl
theorem q1520 : (Jvm.Cond.methodLink "SoftWheels$Solver" (199 : Nat) ({ cls := "SoftWheels$Solver", name := "best", desc := "(II)LSoftWheels$Way;" } : Jvm.MethodName)) ∈ lw_all := lw_g (lw_at lw_m6 223 rfl) rfl
theorem q2557 : (Jvm.Cond.castable "SoftWheels$Solver" "java/lang/Object") ∈ lw_tbl := lw_at lw_m11 60 rfl
theorem in_X2 : ∀ w ∈ wsX20, w ∈ lw_all := lw_in wsX20 [166, 168, 170, 172, 174, 176, 178, 180, 182] (by decide +kernel) (by decide +kernel)

/-! SoftWheels$Book -/
set_option maxRecDepth 100000
def RX4 : String := "SoftWheels$Book"
def TX4 : u_T := fun k => match k with
  | 0 => ("SoftWheels$Book", "grounds", "Ljava/util/ArrayList;", true)
  | 1 => ("SoftWheels$Book", "attempts", "Ljava/util/ArrayList;", true)
  | 2 => ("SoftWheels$Book", "hasRover", "Z", false)
  | 3 => ("SoftWheels$Book", "wheels", "I", false)
  | 4 => ("SoftWheels$Book", "weight", "I", false)
  | 5 => ("SoftWheels$Book", "clear", "I", false)
  | 6 => ("SoftWheels$Book", "tip", "I", false)
  | _ => ("SoftWheels$Book", "drag", "I", false)
def tyX4 : Nat → FieldType := fun k => match k with
  | 0 => .object "java/util/ArrayList"
  | 1 => .object "java/util/ArrayList"
  | 2 => .boolean
  | 3 => .int
  | 4 => .int
  | 5 => .int
  | 6 => .int
  | _ => .int
abbrev wsX40 : List Cond := u_ws RX4 TX4 8
theorem nmX4 : ∀ a, a < 8 → ∀ b, b < 8 → a ≠ b → (TX4 a).2.1 ≠ (TX4 b).2.1 := by decide +kernel
theorem tyX4_ok : ∀ k, k < 8 → parseFieldDescriptor (TX4 k).2.2.1 = some (tyX4 k) := by decide +kernel
abbrev cX4_init : ByteArray := prog_3_method_1_code
def yX4_init : MethodName := ⟨RX4, "<init>", "()V"⟩
def dkwX4_init_2 : List UInt8 := [181, 0, 31, 177]
abbrev dktX4_init_2 : List UInt8 := dkwX4_init_2 ++ []
def dkwX4_init_1 : List UInt8 := [181, 0, 18, 42, 7, 181, 0, 21, 42, 16, 100, 181, 0, 25, 42, 16, 100, 181, 0, 28, 42, 16, 100]
abbrev dktX4_init_1 : List UInt8 := dkwX4_init_1 ++ dktX4_init_2
def dkwX4_init_0 : List UInt8 := [42, 183, 0, 3, 42, 187, 0, 9, 89, 183, 0, 11, 181, 0, 12, 42, 187, 0, 9, 89, 183, 0, 11]
abbrev dktX4_init_0 : List UInt8 := dkwX4_init_0 ++ dktX4_init_1
theorem dksX4_init_0 : cX4_init.data.toList.drop 0 = dktX4_init_0 := by decide +kernel
theorem dksX4_init_1 : cX4_init.data.toList.drop 23 = dktX4_init_1 := dk_seg dksX4_init_0 23 rfl rfl
theorem dksX4_init_2 : cX4_init.data.toList.drop 46 = dktX4_init_2 := dk_seg dksX4_init_1 23 rfl rfl
theorem dX4_init_0 : decode cX4_init 0 = .ok (.aload_n 0, 1) := dk_42 (dk_at dksX4_init_0 0 rfl rfl)
theorem dX4_init_1 : decode cX4_init 1 = .ok (.invokespecial 3, 3) := dk_183 0 3 (dk_at dksX4_init_0 1 rfl rfl)
theorem dX4_init_4 : decode cX4_init 4 = .ok (.aload_n 0, 1) := dk_42 (dk_at dksX4_init_0 4 rfl rfl)
theorem dX4_init_5 : decode cX4_init 5 = .ok (.new 9, 3) := dk_187 0 9 (dk_at dksX4_init_0 5 rfl rfl)
theorem dX4_init_8 : decode cX4_init 8 = .ok (.dup, 1) := dk_89 (dk_at dksX4_init_0 8 rfl rfl)
theorem dX4_init_9 : decode cX4_init 9 = .ok (.invokespecial 11, 3) := dk_183 0 11 (dk_at dksX4_init_0 9 rfl rfl)
theorem dX4_init_12 : decode cX4_init 12 = .ok (.putfield 12, 3) := dk_181 0 12 (dk_at dksX4_init_0 12 rfl rfl)
theorem dX4_init_15 : decode cX4_init 15 = .ok (.aload_n 0, 1) := dk_42 (dk_at dksX4_init_0 15 rfl rfl)
theorem dX4_init_16 : decode cX4_init 16 = .ok (.new 9, 3) := dk_187 0 9 (dk_at dksX4_init_0 16 rfl rfl)
theorem dX4_init_19 : decode cX4_init 19 = .ok (.dup, 1) := dk_89 (dk_at dksX4_init_0 19 rfl rfl)
theorem dX4_init_20 : decode cX4_init 20 = .ok (.invokespecial 11, 3) := dk_183 0 11 (dk_at dksX4_init_0 20 rfl rfl)
theorem dX4_init_23 : decode cX4_init 23 = .ok (.putfield 18, 3) := dk_181 0 18 (dk_at dksX4_init_1 0 rfl rfl)
theorem dX4_init_26 : decode cX4_init 26 = .ok (.aload_n 0, 1) := dk_42 (dk_at dksX4_init_1 3 rfl rfl)
theorem dX4_init_27 : decode cX4_init 27 = .ok (.iconst 4, 1) := dk_7 (dk_at dksX4_init_1 4 rfl rfl)
theorem dX4_init_28 : decode cX4_init 28 = .ok (.putfield 21, 3) := dk_181 0 21 (dk_at dksX4_init_1 5 rfl rfl)
theorem dX4_init_31 : decode cX4_init 31 = .ok (.aload_n 0, 1) := dk_42 (dk_at dksX4_init_1 8 rfl rfl)
theorem dX4_init_32 : decode cX4_init 32 = .ok (.bipush 100, 2) := dk_16 100 (dk_at dksX4_init_1 9 rfl rfl)
theorem dX4_init_34 : decode cX4_init 34 = .ok (.putfield 25, 3) := dk_181 0 25 (dk_at dksX4_init_1 11 rfl rfl)
theorem dX4_init_37 : decode cX4_init 37 = .ok (.aload_n 0, 1) := dk_42 (dk_at dksX4_init_1 14 rfl rfl)
theorem dX4_init_38 : decode cX4_init 38 = .ok (.bipush 100, 2) := dk_16 100 (dk_at dksX4_init_1 15 rfl rfl)
theorem dX4_init_40 : decode cX4_init 40 = .ok (.putfield 28, 3) := dk_181 0 28 (dk_at dksX4_init_1 17 rfl rfl)
theorem dX4_init_43 : decode cX4_init 43 = .ok (.aload_n 0, 1) := dk_42 (dk_at dksX4_init_1 20 rfl rfl)
theorem dX4_init_44 : decode cX4_init 44 = .ok (.bipush 100, 2) := dk_16 100 (dk_at dksX4_init_1 21 rfl rfl)
theorem dX4_init_46 : decode cX4_init 46 = .ok (.putfield 31, 3) := dk_181 0 31 (dk_at dksX4_init_2 0 rfl rfl)
theorem dX4_init_49 : decode cX4_init 49 = .ok (.return_, 1) := dk_177 (dk_at dksX4_init_2 3 rfl rfl)
abbrev cX4_read : ByteArray := prog_3_method_4_code
def yX4_read : MethodName := ⟨RX4, "read", "(LSoftWheels$Reader;)LSoftWheels$Book;"⟩
def dkwX4_read_3 : List UInt8 := [182, 0, 90, 42, 176]
abbrev dktX4_read_3 : List UInt8 := dkwX4_read_3 ++ []
def dkwX4_read_2 : List UInt8 := [182, 0, 81, 167, 0, 9, 43, 4, 182, 0, 84, 191, 43, 18, 88, 182, 0, 61, 154, 255, 193, 43]
abbrev dktX4_read_2 : List UInt8 := dkwX4_read_2 ++ dktX4_read_3
def dkwX4_read_1 : List UInt8 := [153, 0, 11, 42, 43, 182, 0, 76, 167, 0, 26, 43, 18, 79, 182, 0, 61, 153, 0, 11, 42, 43]
abbrev dktX4_read_1 : List UInt8 := dkwX4_read_1 ++ dktX4_read_2
def dkwX4_read_0 : List UInt8 := [43, 18, 59, 182, 0, 61, 153, 0, 11, 42, 43, 182, 0, 67, 167, 0, 43, 43, 18, 71, 182, 0, 73]
abbrev dktX4_read_0 : List UInt8 := dkwX4_read_0 ++ dktX4_read_1
theorem dksX4_read_0 : cX4_read.data.toList.drop 0 = dktX4_read_0 := by decide +kernel
theorem dksX4_read_1 : cX4_read.data.toList.drop 23 = dktX4_read_1 := dk_seg dksX4_read_0 23 rfl rfl
theorem dksX4_read_2 : cX4_read.data.toList.drop 45 = dktX4_read_2 := dk_seg dksX4_read_1 22 rfl rfl
theorem dksX4_read_3 : cX4_read.data.toList.drop 67 = dktX4_read_3 := dk_seg dksX4_read_2 22 rfl rfl
theorem dX4_read_0 : decode cX4_read 0 = .ok (.aload_n 1, 1) := dk_43 (dk_at dksX4_read_0 0 rfl rfl)
theorem dX4_read_1 : decode cX4_read 1 = .ok (.ldc 59, 2) := dk_18 59 (dk_at dksX4_read_0 1 rfl rfl)
theorem dX4_read_3 : decode cX4_read 3 = .ok (.invokevirtual 61, 3) := dk_182 0 61 (dk_at dksX4_read_0 3 rfl rfl)
theorem dX4_read_6 : decode cX4_read 6 = .ok (.ifCond .eq 11, 3) := dk_153 0 11 (dk_at dksX4_read_0 6 rfl rfl)
theorem dX4_read_9 : decode cX4_read 9 = .ok (.aload_n 0, 1) := dk_42 (dk_at dksX4_read_0 9 rfl rfl)
theorem dX4_read_10 : decode cX4_read 10 = .ok (.aload_n 1, 1) := dk_43 (dk_at dksX4_read_0 10 rfl rfl)
theorem dX4_read_11 : decode cX4_read 11 = .ok (.invokevirtual 67, 3) := dk_182 0 67 (dk_at dksX4_read_0 11 rfl rfl)
theorem dX4_read_14 : decode cX4_read 14 = .ok (.goto 43, 3) := dk_167 0 43 (dk_at dksX4_read_0 14 rfl rfl)
theorem dX4_read_17 : decode cX4_read 17 = .ok (.aload_n 1, 1) := dk_43 (dk_at dksX4_read_0 17 rfl rfl)
theorem dX4_read_18 : decode cX4_read 18 = .ok (.ldc 71, 2) := dk_18 71 (dk_at dksX4_read_0 18 rfl rfl)
theorem dX4_read_20 : decode cX4_read 20 = .ok (.invokevirtual 73, 3) := dk_182 0 73 (dk_at dksX4_read_0 20 rfl rfl)
theorem dX4_read_23 : decode cX4_read 23 = .ok (.ifCond .eq 11, 3) := dk_153 0 11 (dk_at dksX4_read_1 0 rfl rfl)
theorem dX4_read_26 : decode cX4_read 26 = .ok (.aload_n 0, 1) := dk_42 (dk_at dksX4_read_1 3 rfl rfl)
theorem dX4_read_27 : decode cX4_read 27 = .ok (.aload_n 1, 1) := dk_43 (dk_at dksX4_read_1 4 rfl rfl)
theorem dX4_read_28 : decode cX4_read 28 = .ok (.invokevirtual 76, 3) := dk_182 0 76 (dk_at dksX4_read_1 5 rfl rfl)
theorem dX4_read_31 : decode cX4_read 31 = .ok (.goto 26, 3) := dk_167 0 26 (dk_at dksX4_read_1 8 rfl rfl)
theorem dX4_read_34 : decode cX4_read 34 = .ok (.aload_n 1, 1) := dk_43 (dk_at dksX4_read_1 11 rfl rfl)
theorem dX4_read_35 : decode cX4_read 35 = .ok (.ldc 79, 2) := dk_18 79 (dk_at dksX4_read_1 12 rfl rfl)
theorem dX4_read_37 : decode cX4_read 37 = .ok (.invokevirtual 61, 3) := dk_182 0 61 (dk_at dksX4_read_1 14 rfl rfl)
theorem dX4_read_40 : decode cX4_read 40 = .ok (.ifCond .eq 11, 3) := dk_153 0 11 (dk_at dksX4_read_1 17 rfl rfl)
theorem dX4_read_43 : decode cX4_read 43 = .ok (.aload_n 0, 1) := dk_42 (dk_at dksX4_read_1 20 rfl rfl)
theorem dX4_read_44 : decode cX4_read 44 = .ok (.aload_n 1, 1) := dk_43 (dk_at dksX4_read_1 21 rfl rfl)
theorem dX4_read_45 : decode cX4_read 45 = .ok (.invokevirtual 81, 3) := dk_182 0 81 (dk_at dksX4_read_2 0 rfl rfl)
theorem dX4_read_48 : decode cX4_read 48 = .ok (.goto 9, 3) := dk_167 0 9 (dk_at dksX4_read_2 3 rfl rfl)
theorem dX4_read_51 : decode cX4_read 51 = .ok (.aload_n 1, 1) := dk_43 (dk_at dksX4_read_2 6 rfl rfl)
theorem dX4_read_52 : decode cX4_read 52 = .ok (.iconst 1, 1) := dk_4 (dk_at dksX4_read_2 7 rfl rfl)
theorem dX4_read_53 : decode cX4_read 53 = .ok (.invokevirtual 84, 3) := dk_182 0 84 (dk_at dksX4_read_2 8 rfl rfl)
theorem dX4_read_56 : decode cX4_read 56 = .ok (.athrow, 1) := dk_191 (dk_at dksX4_read_2 11 rfl rfl)
theorem dX4_read_57 : decode cX4_read 57 = .ok (.aload_n 1, 1) := dk_43 (dk_at dksX4_read_2 12 rfl rfl)
theorem dX4_read_58 : decode cX4_read 58 = .ok (.ldc 88, 2) := dk_18 88 (dk_at dksX4_read_2 13 rfl rfl)
theorem dX4_read_60 : decode cX4_read 60 = .ok (.invokevirtual 61, 3) := dk_182 0 61 (dk_at dksX4_read_2 15 rfl rfl)
theorem dX4_read_63 : decode cX4_read 63 = .ok (.ifCond .ne (-63), 3) := dk_154 255 193 (dk_at dksX4_read_2 18 rfl rfl)
theorem dX4_read_66 : decode cX4_read 66 = .ok (.aload_n 1, 1) := dk_43 (dk_at dksX4_read_2 21 rfl rfl)
theorem dX4_read_67 : decode cX4_read 67 = .ok (.invokevirtual 90, 3) := dk_182 0 90 (dk_at dksX4_read_3 0 rfl rfl)
theorem dX4_read_70 : decode cX4_read 70 = .ok (.aload_n 0, 1) := dk_42 (dk_at dksX4_read_3 3 rfl rfl)
theorem dX4_read_71 : decode cX4_read 71 = .ok (.areturn, 1) := dk_176 (dk_at dksX4_read_3 4 rfl rfl)
abbrev cX4_readGround : ByteArray := prog_3_method_5_code
def yX4_readGround : MethodName := ⟨RX4, "readGround", "(LSoftWheels$Reader;)V"⟩
def dkwX4_readGround_4 : List UInt8 := [180, 0, 12, 44, 182, 0, 122, 87, 177]
abbrev dktX4_readGround_4 : List UInt8 := dkwX4_readGround_4 ++ []
def dkwX4_readGround_3 : List UInt8 := [182, 0, 112, 43, 18, 118, 182, 0, 106, 44, 180, 0, 120, 43, 16, 90, 17, 0, 150, 3, 182, 0, 112, 42]
abbrev dktX4_readGround_3 : List UInt8 := dkwX4_readGround_3 ++ dktX4_readGround_4
def dkwX4_readGround_2 : List UInt8 := [43, 182, 0, 101, 43, 18, 104, 182, 0, 106, 44, 180, 0, 109, 43, 17, 3, 231, 17, 1, 44, 4]
abbrev dktX4_readGround_2 : List UInt8 := dkwX4_readGround_2 ++ dktX4_readGround_3
def dkwX4_readGround_1 : List UInt8 := [43, 6, 182, 0, 84, 191, 42, 180, 0, 12, 182, 0, 34, 16, 8, 160, 0, 9, 43, 8, 182, 0, 84, 191]
abbrev dktX4_readGround_1 : List UInt8 := dkwX4_readGround_1 ++ dktX4_readGround_2
def dkwX4_readGround_0 : List UInt8 := [187, 0, 42, 89, 43, 182, 0, 93, 183, 0, 94, 77, 42, 44, 180, 0, 44, 182, 0, 97, 2, 159, 0, 9]
abbrev dktX4_readGround_0 : List UInt8 := dkwX4_readGround_0 ++ dktX4_readGround_1
theorem dksX4_readGround_0 : cX4_readGround.data.toList.drop 0 = dktX4_readGround_0 := by decide +kernel
theorem dksX4_readGround_1 : cX4_readGround.data.toList.drop 24 = dktX4_readGround_1 := dk_seg dksX4_readGround_0 24 rfl rfl
theorem dksX4_readGround_2 : cX4_readGround.data.toList.drop 48 = dktX4_readGround_2 := dk_seg dksX4_readGround_1 24 rfl rfl
theorem dksX4_readGround_3 : cX4_readGround.data.toList.drop 70 = dktX4_readGround_3 := dk_seg dksX4_readGround_2 22 rfl rfl
theorem dksX4_readGround_4 : cX4_readGround.data.toList.drop 94 = dktX4_readGround_4 := dk_seg dksX4_readGround_3 24 rfl rfl
theorem dX4_readGround_0 : decode cX4_readGround 0 = .ok (.new 42, 3) := dk_187 0 42 (dk_at dksX4_readGround_0 0 rfl rfl)
theorem dX4_readGround_3 : decode cX4_readGround 3 = .ok (.dup, 1) := dk_89 (dk_at dksX4_readGround_0 3 rfl rfl)
theorem dX4_readGround_4 : decode cX4_readGround 4 = .ok (.aload_n 1, 1) := dk_43 (dk_at dksX4_readGround_0 4 rfl rfl)
theorem dX4_readGround_5 : decode cX4_readGround 5 = .ok (.invokevirtual 93, 3) := dk_182 0 93 (dk_at dksX4_readGround_0 5 rfl rfl)
theorem dX4_readGround_8 : decode cX4_readGround 8 = .ok (.invokespecial 94, 3) := dk_183 0 94 (dk_at dksX4_readGround_0 8 rfl rfl)
theorem dX4_readGround_11 : decode cX4_readGround 11 = .ok (.astore_n 2, 1) := dk_77 (dk_at dksX4_readGround_0 11 rfl rfl)
theorem dX4_readGround_12 : decode cX4_readGround 12 = .ok (.aload_n 0, 1) := dk_42 (dk_at dksX4_readGround_0 12 rfl rfl)
theorem dX4_readGround_13 : decode cX4_readGround 13 = .ok (.aload_n 2, 1) := dk_44 (dk_at dksX4_readGround_0 13 rfl rfl)
theorem dX4_readGround_14 : decode cX4_readGround 14 = .ok (.getfield 44, 3) := dk_180 0 44 (dk_at dksX4_readGround_0 14 rfl rfl)
theorem dX4_readGround_17 : decode cX4_readGround 17 = .ok (.invokevirtual 97, 3) := dk_182 0 97 (dk_at dksX4_readGround_0 17 rfl rfl)
theorem dX4_readGround_20 : decode cX4_readGround 20 = .ok (.iconst (-1), 1) := dk_2 (dk_at dksX4_readGround_0 20 rfl rfl)
theorem dX4_readGround_21 : decode cX4_readGround 21 = .ok (.if_icmp .eq 9, 3) := dk_159 0 9 (dk_at dksX4_readGround_0 21 rfl rfl)
theorem dX4_readGround_24 : decode cX4_readGround 24 = .ok (.aload_n 1, 1) := dk_43 (dk_at dksX4_readGround_1 0 rfl rfl)
theorem dX4_readGround_25 : decode cX4_readGround 25 = .ok (.iconst 3, 1) := dk_6 (dk_at dksX4_readGround_1 1 rfl rfl)
theorem dX4_readGround_26 : decode cX4_readGround 26 = .ok (.invokevirtual 84, 3) := dk_182 0 84 (dk_at dksX4_readGround_1 2 rfl rfl)
theorem dX4_readGround_29 : decode cX4_readGround 29 = .ok (.athrow, 1) := dk_191 (dk_at dksX4_readGround_1 5 rfl rfl)
theorem dX4_readGround_30 : decode cX4_readGround 30 = .ok (.aload_n 0, 1) := dk_42 (dk_at dksX4_readGround_1 6 rfl rfl)
theorem dX4_readGround_31 : decode cX4_readGround 31 = .ok (.getfield 12, 3) := dk_180 0 12 (dk_at dksX4_readGround_1 7 rfl rfl)
theorem dX4_readGround_34 : decode cX4_readGround 34 = .ok (.invokevirtual 34, 3) := dk_182 0 34 (dk_at dksX4_readGround_1 10 rfl rfl)
theorem dX4_readGround_37 : decode cX4_readGround 37 = .ok (.bipush 8, 2) := dk_16 8 (dk_at dksX4_readGround_1 13 rfl rfl)
theorem dX4_readGround_39 : decode cX4_readGround 39 = .ok (.if_icmp .ne 9, 3) := dk_160 0 9 (dk_at dksX4_readGround_1 15 rfl rfl)
theorem dX4_readGround_42 : decode cX4_readGround 42 = .ok (.aload_n 1, 1) := dk_43 (dk_at dksX4_readGround_1 18 rfl rfl)
theorem dX4_readGround_43 : decode cX4_readGround 43 = .ok (.iconst 5, 1) := dk_8 (dk_at dksX4_readGround_1 19 rfl rfl)
theorem dX4_readGround_44 : decode cX4_readGround 44 = .ok (.invokevirtual 84, 3) := dk_182 0 84 (dk_at dksX4_readGround_1 20 rfl rfl)
theorem dX4_readGround_47 : decode cX4_readGround 47 = .ok (.athrow, 1) := dk_191 (dk_at dksX4_readGround_1 23 rfl rfl)
theorem dX4_readGround_48 : decode cX4_readGround 48 = .ok (.aload_n 1, 1) := dk_43 (dk_at dksX4_readGround_2 0 rfl rfl)
theorem dX4_readGround_49 : decode cX4_readGround 49 = .ok (.invokevirtual 101, 3) := dk_182 0 101 (dk_at dksX4_readGround_2 1 rfl rfl)
theorem dX4_readGround_52 : decode cX4_readGround 52 = .ok (.aload_n 1, 1) := dk_43 (dk_at dksX4_readGround_2 4 rfl rfl)
theorem dX4_readGround_53 : decode cX4_readGround 53 = .ok (.ldc 104, 2) := dk_18 104 (dk_at dksX4_readGround_2 5 rfl rfl)
theorem dX4_readGround_55 : decode cX4_readGround 55 = .ok (.invokevirtual 106, 3) := dk_182 0 106 (dk_at dksX4_readGround_2 7 rfl rfl)
theorem dX4_readGround_58 : decode cX4_readGround 58 = .ok (.aload_n 2, 1) := dk_44 (dk_at dksX4_readGround_2 10 rfl rfl)
theorem dX4_readGround_59 : decode cX4_readGround 59 = .ok (.getfield 109, 3) := dk_180 0 109 (dk_at dksX4_readGround_2 11 rfl rfl)
theorem dX4_readGround_62 : decode cX4_readGround 62 = .ok (.aload_n 1, 1) := dk_43 (dk_at dksX4_readGround_2 14 rfl rfl)
theorem dX4_readGround_63 : decode cX4_readGround 63 = .ok (.sipush 999, 3) := dk_17 3 231 (dk_at dksX4_readGround_2 15 rfl rfl)
theorem dX4_readGround_66 : decode cX4_readGround 66 = .ok (.sipush 300, 3) := dk_17 1 44 (dk_at dksX4_readGround_2 18 rfl rfl)
theorem dX4_readGround_69 : decode cX4_readGround 69 = .ok (.iconst 1, 1) := dk_4 (dk_at dksX4_readGround_2 21 rfl rfl)
theorem dX4_readGround_70 : decode cX4_readGround 70 = .ok (.invokevirtual 112, 3) := dk_182 0 112 (dk_at dksX4_readGround_3 0 rfl rfl)
theorem dX4_readGround_73 : decode cX4_readGround 73 = .ok (.aload_n 1, 1) := dk_43 (dk_at dksX4_readGround_3 3 rfl rfl)
theorem dX4_readGround_74 : decode cX4_readGround 74 = .ok (.ldc 118, 2) := dk_18 118 (dk_at dksX4_readGround_3 4 rfl rfl)
theorem dX4_readGround_76 : decode cX4_readGround 76 = .ok (.invokevirtual 106, 3) := dk_182 0 106 (dk_at dksX4_readGround_3 6 rfl rfl)
theorem dX4_readGround_79 : decode cX4_readGround 79 = .ok (.aload_n 2, 1) := dk_44 (dk_at dksX4_readGround_3 9 rfl rfl)
theorem dX4_readGround_80 : decode cX4_readGround 80 = .ok (.getfield 120, 3) := dk_180 0 120 (dk_at dksX4_readGround_3 10 rfl rfl)
theorem dX4_readGround_83 : decode cX4_readGround 83 = .ok (.aload_n 1, 1) := dk_43 (dk_at dksX4_readGround_3 13 rfl rfl)
theorem dX4_readGround_84 : decode cX4_readGround 84 = .ok (.bipush 90, 2) := dk_16 90 (dk_at dksX4_readGround_3 14 rfl rfl)
theorem dX4_readGround_86 : decode cX4_readGround 86 = .ok (.sipush 150, 3) := dk_17 0 150 (dk_at dksX4_readGround_3 16 rfl rfl)
theorem dX4_readGround_89 : decode cX4_readGround 89 = .ok (.iconst 0, 1) := dk_3 (dk_at dksX4_readGround_3 19 rfl rfl)
theorem dX4_readGround_90 : decode cX4_readGround 90 = .ok (.invokevirtual 112, 3) := dk_182 0 112 (dk_at dksX4_readGround_3 20 rfl rfl)
theorem dX4_readGround_93 : decode cX4_readGround 93 = .ok (.aload_n 0, 1) := dk_42 (dk_at dksX4_readGround_3 23 rfl rfl)
theorem dX4_readGround_94 : decode cX4_readGround 94 = .ok (.getfield 12, 3) := dk_180 0 12 (dk_at dksX4_readGround_4 0 rfl rfl)
theorem dX4_readGround_97 : decode cX4_readGround 97 = .ok (.aload_n 2, 1) := dk_44 (dk_at dksX4_readGround_4 3 rfl rfl)
theorem dX4_readGround_98 : decode cX4_readGround 98 = .ok (.invokevirtual 122, 3) := dk_182 0 122 (dk_at dksX4_readGround_4 4 rfl rfl)
theorem dX4_readGround_101 : decode cX4_readGround 101 = .ok (.pop, 1) := dk_87 (dk_at dksX4_readGround_4 7 rfl rfl)
theorem dX4_readGround_102 : decode cX4_readGround 102 = .ok (.return_, 1) := dk_177 (dk_at dksX4_readGround_4 8 rfl rfl)
abbrev cX4_groundOf : ByteArray := prog_3_method_2_code
def yX4_groundOf : MethodName := ⟨RX4, "groundOf", "(Ljava/lang/String;)I"⟩
def dkwX4_groundOf_1 : List UInt8 := [180, 0, 44, 43, 182, 0, 48, 153, 0, 5, 28, 172, 132, 2, 1, 167, 255, 219, 2, 172]
abbrev dktX4_groundOf_1 : List UInt8 := dkwX4_groundOf_1 ++ []
def dkwX4_groundOf_0 : List UInt8 := [3, 61, 28, 42, 180, 0, 12, 182, 0, 34, 162, 0, 32, 42, 180, 0, 12, 28, 182, 0, 38, 192, 0, 42]
abbrev dktX4_groundOf_0 : List UInt8 := dkwX4_groundOf_0 ++ dktX4_groundOf_1
theorem dksX4_groundOf_0 : cX4_groundOf.data.toList.drop 0 = dktX4_groundOf_0 := by decide +kernel
theorem dksX4_groundOf_1 : cX4_groundOf.data.toList.drop 24 = dktX4_groundOf_1 := dk_seg dksX4_groundOf_0 24 rfl rfl
theorem dX4_groundOf_0 : decode cX4_groundOf 0 = .ok (.iconst 0, 1) := dk_3 (dk_at dksX4_groundOf_0 0 rfl rfl)
theorem dX4_groundOf_1 : decode cX4_groundOf 1 = .ok (.istore_n 2, 1) := dk_61 (dk_at dksX4_groundOf_0 1 rfl rfl)
theorem dX4_groundOf_2 : decode cX4_groundOf 2 = .ok (.iload_n 2, 1) := dk_28 (dk_at dksX4_groundOf_0 2 rfl rfl)
theorem dX4_groundOf_3 : decode cX4_groundOf 3 = .ok (.aload_n 0, 1) := dk_42 (dk_at dksX4_groundOf_0 3 rfl rfl)
theorem dX4_groundOf_4 : decode cX4_groundOf 4 = .ok (.getfield 12, 3) := dk_180 0 12 (dk_at dksX4_groundOf_0 4 rfl rfl)
theorem dX4_groundOf_7 : decode cX4_groundOf 7 = .ok (.invokevirtual 34, 3) := dk_182 0 34 (dk_at dksX4_groundOf_0 7 rfl rfl)
theorem dX4_groundOf_10 : decode cX4_groundOf 10 = .ok (.if_icmp .ge 32, 3) := dk_162 0 32 (dk_at dksX4_groundOf_0 10 rfl rfl)
theorem dX4_groundOf_13 : decode cX4_groundOf 13 = .ok (.aload_n 0, 1) := dk_42 (dk_at dksX4_groundOf_0 13 rfl rfl)
theorem dX4_groundOf_14 : decode cX4_groundOf 14 = .ok (.getfield 12, 3) := dk_180 0 12 (dk_at dksX4_groundOf_0 14 rfl rfl)
theorem dX4_groundOf_17 : decode cX4_groundOf 17 = .ok (.iload_n 2, 1) := dk_28 (dk_at dksX4_groundOf_0 17 rfl rfl)
theorem dX4_groundOf_18 : decode cX4_groundOf 18 = .ok (.invokevirtual 38, 3) := dk_182 0 38 (dk_at dksX4_groundOf_0 18 rfl rfl)
theorem dX4_groundOf_21 : decode cX4_groundOf 21 = .ok (.checkcast 42, 3) := dk_192 0 42 (dk_at dksX4_groundOf_0 21 rfl rfl)
theorem dX4_groundOf_24 : decode cX4_groundOf 24 = .ok (.getfield 44, 3) := dk_180 0 44 (dk_at dksX4_groundOf_1 0 rfl rfl)
theorem dX4_groundOf_27 : decode cX4_groundOf 27 = .ok (.aload_n 1, 1) := dk_43 (dk_at dksX4_groundOf_1 3 rfl rfl)
theorem dX4_groundOf_28 : decode cX4_groundOf 28 = .ok (.invokevirtual 48, 3) := dk_182 0 48 (dk_at dksX4_groundOf_1 4 rfl rfl)
theorem dX4_groundOf_31 : decode cX4_groundOf 31 = .ok (.ifCond .eq 5, 3) := dk_153 0 5 (dk_at dksX4_groundOf_1 7 rfl rfl)
theorem dX4_groundOf_34 : decode cX4_groundOf 34 = .ok (.iload_n 2, 1) := dk_28 (dk_at dksX4_groundOf_1 10 rfl rfl)
theorem dX4_groundOf_35 : decode cX4_groundOf 35 = .ok (.ireturn, 1) := dk_172 (dk_at dksX4_groundOf_1 11 rfl rfl)
theorem dX4_groundOf_36 : decode cX4_groundOf 36 = .ok (.iinc 2 1, 3) := dk_132 2 1 (dk_at dksX4_groundOf_1 12 rfl rfl)
theorem dX4_groundOf_39 : decode cX4_groundOf 39 = .ok (.goto (-37), 3) := dk_167 255 219 (dk_at dksX4_groundOf_1 15 rfl rfl)
theorem dX4_groundOf_42 : decode cX4_groundOf 42 = .ok (.iconst (-1), 1) := dk_2 (dk_at dksX4_groundOf_1 18 rfl rfl)
theorem dX4_groundOf_43 : decode cX4_groundOf 43 = .ok (.ireturn, 1) := dk_172 (dk_at dksX4_groundOf_1 19 rfl rfl)
abbrev cX4_readRover : ByteArray := prog_3_method_6_code
def yX4_readRover : MethodName := ⟨RX4, "readRover", "(LSoftWheels$Reader;)V"⟩
def dkwX4_readRover_4 : List UInt8 := [43, 18, 137, 182, 0, 106, 42, 43, 3, 16, 99, 182, 0, 130, 181, 0, 139, 177]
abbrev dktX4_readRover_4 : List UInt8 := dkwX4_readRover_4 ++ []
def dkwX4_readRover_3 : List UInt8 := [182, 0, 130, 181, 0, 28, 43, 18, 136, 182, 0, 106, 42, 43, 3, 17, 1, 44, 182, 0, 130, 181, 0, 31]
abbrev dktX4_readRover_3 : List UInt8 := dkwX4_readRover_3 ++ dktX4_readRover_4
def dkwX4_readRover_2 : List UInt8 := [4, 17, 3, 231, 182, 0, 130, 181, 0, 25, 43, 18, 135, 182, 0, 106, 42, 43, 4, 17, 1, 44]
abbrev dktX4_readRover_2 : List UInt8 := dkwX4_readRover_2 ++ dktX4_readRover_3
def dkwX4_readRover_1 : List UInt8 := [18, 129, 182, 0, 106, 42, 43, 5, 16, 6, 182, 0, 130, 181, 0, 21, 43, 18, 134, 182, 0, 106, 42, 43]
abbrev dktX4_readRover_1 : List UInt8 := dkwX4_readRover_1 ++ dktX4_readRover_2
def dkwX4_readRover_0 : List UInt8 := [42, 180, 0, 125, 153, 0, 9, 43, 6, 182, 0, 84, 191, 42, 4, 181, 0, 125, 43, 182, 0, 101, 43]
abbrev dktX4_readRover_0 : List UInt8 := dkwX4_readRover_0 ++ dktX4_readRover_1
theorem dksX4_readRover_0 : cX4_readRover.data.toList.drop 0 = dktX4_readRover_0 := by decide +kernel
theorem dksX4_readRover_1 : cX4_readRover.data.toList.drop 23 = dktX4_readRover_1 := dk_seg dksX4_readRover_0 23 rfl rfl
theorem dksX4_readRover_2 : cX4_readRover.data.toList.drop 47 = dktX4_readRover_2 := dk_seg dksX4_readRover_1 24 rfl rfl
theorem dksX4_readRover_3 : cX4_readRover.data.toList.drop 69 = dktX4_readRover_3 := dk_seg dksX4_readRover_2 22 rfl rfl
theorem dksX4_readRover_4 : cX4_readRover.data.toList.drop 93 = dktX4_readRover_4 := dk_seg dksX4_readRover_3 24 rfl rfl
theorem dX4_readRover_0 : decode cX4_readRover 0 = .ok (.aload_n 0, 1) := dk_42 (dk_at dksX4_readRover_0 0 rfl rfl)
theorem dX4_readRover_1 : decode cX4_readRover 1 = .ok (.getfield 125, 3) := dk_180 0 125 (dk_at dksX4_readRover_0 1 rfl rfl)
theorem dX4_readRover_4 : decode cX4_readRover 4 = .ok (.ifCond .eq 9, 3) := dk_153 0 9 (dk_at dksX4_readRover_0 4 rfl rfl)
theorem dX4_readRover_7 : decode cX4_readRover 7 = .ok (.aload_n 1, 1) := dk_43 (dk_at dksX4_readRover_0 7 rfl rfl)
theorem dX4_readRover_8 : decode cX4_readRover 8 = .ok (.iconst 3, 1) := dk_6 (dk_at dksX4_readRover_0 8 rfl rfl)
theorem dX4_readRover_9 : decode cX4_readRover 9 = .ok (.invokevirtual 84, 3) := dk_182 0 84 (dk_at dksX4_readRover_0 9 rfl rfl)
theorem dX4_readRover_12 : decode cX4_readRover 12 = .ok (.athrow, 1) := dk_191 (dk_at dksX4_readRover_0 12 rfl rfl)
theorem dX4_readRover_13 : decode cX4_readRover 13 = .ok (.aload_n 0, 1) := dk_42 (dk_at dksX4_readRover_0 13 rfl rfl)
theorem dX4_readRover_14 : decode cX4_readRover 14 = .ok (.iconst 1, 1) := dk_4 (dk_at dksX4_readRover_0 14 rfl rfl)
theorem dX4_readRover_15 : decode cX4_readRover 15 = .ok (.putfield 125, 3) := dk_181 0 125 (dk_at dksX4_readRover_0 15 rfl rfl)
theorem dX4_readRover_18 : decode cX4_readRover 18 = .ok (.aload_n 1, 1) := dk_43 (dk_at dksX4_readRover_0 18 rfl rfl)
theorem dX4_readRover_19 : decode cX4_readRover 19 = .ok (.invokevirtual 101, 3) := dk_182 0 101 (dk_at dksX4_readRover_0 19 rfl rfl)
theorem dX4_readRover_22 : decode cX4_readRover 22 = .ok (.aload_n 1, 1) := dk_43 (dk_at dksX4_readRover_0 22 rfl rfl)
theorem dX4_readRover_23 : decode cX4_readRover 23 = .ok (.ldc 129, 2) := dk_18 129 (dk_at dksX4_readRover_1 0 rfl rfl)
theorem dX4_readRover_25 : decode cX4_readRover 25 = .ok (.invokevirtual 106, 3) := dk_182 0 106 (dk_at dksX4_readRover_1 2 rfl rfl)
theorem dX4_readRover_28 : decode cX4_readRover 28 = .ok (.aload_n 0, 1) := dk_42 (dk_at dksX4_readRover_1 5 rfl rfl)
theorem dX4_readRover_29 : decode cX4_readRover 29 = .ok (.aload_n 1, 1) := dk_43 (dk_at dksX4_readRover_1 6 rfl rfl)
theorem dX4_readRover_30 : decode cX4_readRover 30 = .ok (.iconst 2, 1) := dk_5 (dk_at dksX4_readRover_1 7 rfl rfl)
theorem dX4_readRover_31 : decode cX4_readRover 31 = .ok (.bipush 6, 2) := dk_16 6 (dk_at dksX4_readRover_1 8 rfl rfl)
theorem dX4_readRover_33 : decode cX4_readRover 33 = .ok (.invokevirtual 130, 3) := dk_182 0 130 (dk_at dksX4_readRover_1 10 rfl rfl)
theorem dX4_readRover_36 : decode cX4_readRover 36 = .ok (.putfield 21, 3) := dk_181 0 21 (dk_at dksX4_readRover_1 13 rfl rfl)
theorem dX4_readRover_39 : decode cX4_readRover 39 = .ok (.aload_n 1, 1) := dk_43 (dk_at dksX4_readRover_1 16 rfl rfl)
theorem dX4_readRover_40 : decode cX4_readRover 40 = .ok (.ldc 134, 2) := dk_18 134 (dk_at dksX4_readRover_1 17 rfl rfl)
theorem dX4_readRover_42 : decode cX4_readRover 42 = .ok (.invokevirtual 106, 3) := dk_182 0 106 (dk_at dksX4_readRover_1 19 rfl rfl)
theorem dX4_readRover_45 : decode cX4_readRover 45 = .ok (.aload_n 0, 1) := dk_42 (dk_at dksX4_readRover_1 22 rfl rfl)
theorem dX4_readRover_46 : decode cX4_readRover 46 = .ok (.aload_n 1, 1) := dk_43 (dk_at dksX4_readRover_1 23 rfl rfl)
theorem dX4_readRover_47 : decode cX4_readRover 47 = .ok (.iconst 1, 1) := dk_4 (dk_at dksX4_readRover_2 0 rfl rfl)
theorem dX4_readRover_48 : decode cX4_readRover 48 = .ok (.sipush 999, 3) := dk_17 3 231 (dk_at dksX4_readRover_2 1 rfl rfl)
theorem dX4_readRover_51 : decode cX4_readRover 51 = .ok (.invokevirtual 130, 3) := dk_182 0 130 (dk_at dksX4_readRover_2 4 rfl rfl)
theorem dX4_readRover_54 : decode cX4_readRover 54 = .ok (.putfield 25, 3) := dk_181 0 25 (dk_at dksX4_readRover_2 7 rfl rfl)
theorem dX4_readRover_57 : decode cX4_readRover 57 = .ok (.aload_n 1, 1) := dk_43 (dk_at dksX4_readRover_2 10 rfl rfl)
theorem dX4_readRover_58 : decode cX4_readRover 58 = .ok (.ldc 135, 2) := dk_18 135 (dk_at dksX4_readRover_2 11 rfl rfl)
theorem dX4_readRover_60 : decode cX4_readRover 60 = .ok (.invokevirtual 106, 3) := dk_182 0 106 (dk_at dksX4_readRover_2 13 rfl rfl)
theorem dX4_readRover_63 : decode cX4_readRover 63 = .ok (.aload_n 0, 1) := dk_42 (dk_at dksX4_readRover_2 16 rfl rfl)
theorem dX4_readRover_64 : decode cX4_readRover 64 = .ok (.aload_n 1, 1) := dk_43 (dk_at dksX4_readRover_2 17 rfl rfl)
theorem dX4_readRover_65 : decode cX4_readRover 65 = .ok (.iconst 1, 1) := dk_4 (dk_at dksX4_readRover_2 18 rfl rfl)
theorem dX4_readRover_66 : decode cX4_readRover 66 = .ok (.sipush 300, 3) := dk_17 1 44 (dk_at dksX4_readRover_2 19 rfl rfl)
theorem dX4_readRover_69 : decode cX4_readRover 69 = .ok (.invokevirtual 130, 3) := dk_182 0 130 (dk_at dksX4_readRover_3 0 rfl rfl)
theorem dX4_readRover_72 : decode cX4_readRover 72 = .ok (.putfield 28, 3) := dk_181 0 28 (dk_at dksX4_readRover_3 3 rfl rfl)
theorem dX4_readRover_75 : decode cX4_readRover 75 = .ok (.aload_n 1, 1) := dk_43 (dk_at dksX4_readRover_3 6 rfl rfl)
theorem dX4_readRover_76 : decode cX4_readRover 76 = .ok (.ldc 136, 2) := dk_18 136 (dk_at dksX4_readRover_3 7 rfl rfl)
theorem dX4_readRover_78 : decode cX4_readRover 78 = .ok (.invokevirtual 106, 3) := dk_182 0 106 (dk_at dksX4_readRover_3 9 rfl rfl)
theorem dX4_readRover_81 : decode cX4_readRover 81 = .ok (.aload_n 0, 1) := dk_42 (dk_at dksX4_readRover_3 12 rfl rfl)
theorem dX4_readRover_82 : decode cX4_readRover 82 = .ok (.aload_n 1, 1) := dk_43 (dk_at dksX4_readRover_3 13 rfl rfl)
theorem dX4_readRover_83 : decode cX4_readRover 83 = .ok (.iconst 0, 1) := dk_3 (dk_at dksX4_readRover_3 14 rfl rfl)
theorem dX4_readRover_84 : decode cX4_readRover 84 = .ok (.sipush 300, 3) := dk_17 1 44 (dk_at dksX4_readRover_3 15 rfl rfl)
theorem dX4_readRover_87 : decode cX4_readRover 87 = .ok (.invokevirtual 130, 3) := dk_182 0 130 (dk_at dksX4_readRover_3 18 rfl rfl)
theorem dX4_readRover_90 : decode cX4_readRover 90 = .ok (.putfield 31, 3) := dk_181 0 31 (dk_at dksX4_readRover_3 21 rfl rfl)
theorem dX4_readRover_93 : decode cX4_readRover 93 = .ok (.aload_n 1, 1) := dk_43 (dk_at dksX4_readRover_4 0 rfl rfl)
theorem dX4_readRover_94 : decode cX4_readRover 94 = .ok (.ldc 137, 2) := dk_18 137 (dk_at dksX4_readRover_4 1 rfl rfl)
theorem dX4_readRover_96 : decode cX4_readRover 96 = .ok (.invokevirtual 106, 3) := dk_182 0 106 (dk_at dksX4_readRover_4 3 rfl rfl)
theorem dX4_readRover_99 : decode cX4_readRover 99 = .ok (.aload_n 0, 1) := dk_42 (dk_at dksX4_readRover_4 6 rfl rfl)
theorem dX4_readRover_100 : decode cX4_readRover 100 = .ok (.aload_n 1, 1) := dk_43 (dk_at dksX4_readRover_4 7 rfl rfl)
theorem dX4_readRover_101 : decode cX4_readRover 101 = .ok (.iconst 0, 1) := dk_3 (dk_at dksX4_readRover_4 8 rfl rfl)
theorem dX4_readRover_102 : decode cX4_readRover 102 = .ok (.bipush 99, 2) := dk_16 99 (dk_at dksX4_readRover_4 9 rfl rfl)
theorem dX4_readRover_104 : decode cX4_readRover 104 = .ok (.invokevirtual 130, 3) := dk_182 0 130 (dk_at dksX4_readRover_4 11 rfl rfl)
theorem dX4_readRover_107 : decode cX4_readRover 107 = .ok (.putfield 139, 3) := dk_181 0 139 (dk_at dksX4_readRover_4 14 rfl rfl)
theorem dX4_readRover_110 : decode cX4_readRover 110 = .ok (.return_, 1) := dk_177 (dk_at dksX4_readRover_4 17 rfl rfl)
abbrev cX4_readAttempt : ByteArray := prog_3_method_7_code
def yX4_readAttempt : MethodName := ⟨RX4, "readAttempt", "(LSoftWheels$Reader;)V"⟩
def dkwX4_readAttempt_4 : List UInt8 := [183, 0, 154, 182, 0, 122, 87, 177]
abbrev dktX4_readAttempt_4 : List UInt8 := dkwX4_readAttempt_4 ++ []
def dkwX4_readAttempt_3 : List UInt8 := [182, 0, 106, 42, 180, 0, 18, 187, 0, 54, 89, 44, 29, 21, 4, 43, 4, 16, 99, 182, 0, 130]
abbrev dktX4_readAttempt_3 : List UInt8 := dkwX4_readAttempt_3 ++ dktX4_readAttempt_4
def dkwX4_readAttempt_2 : List UInt8 := [43, 7, 182, 0, 146, 62, 43, 18, 150, 182, 0, 106, 43, 7, 182, 0, 146, 54, 4, 43, 18, 152]
abbrev dktX4_readAttempt_2 : List UInt8 := dkwX4_readAttempt_2 ++ dktX4_readAttempt_3
def dkwX4_readAttempt_1 : List UInt8 := [182, 0, 34, 16, 6, 160, 0, 9, 43, 8, 182, 0, 84, 191, 43, 182, 0, 101, 43, 18, 144, 182, 0, 106]
abbrev dktX4_readAttempt_1 : List UInt8 := dkwX4_readAttempt_1 ++ dktX4_readAttempt_2
def dkwX4_readAttempt_0 : List UInt8 := [43, 182, 0, 93, 77, 42, 44, 182, 0, 141, 153, 0, 9, 43, 6, 182, 0, 84, 191, 42, 180, 0, 18]
abbrev dktX4_readAttempt_0 : List UInt8 := dkwX4_readAttempt_0 ++ dktX4_readAttempt_1
theorem dksX4_readAttempt_0 : cX4_readAttempt.data.toList.drop 0 = dktX4_readAttempt_0 := by decide +kernel
theorem dksX4_readAttempt_1 : cX4_readAttempt.data.toList.drop 23 = dktX4_readAttempt_1 := dk_seg dksX4_readAttempt_0 23 rfl rfl
theorem dksX4_readAttempt_2 : cX4_readAttempt.data.toList.drop 47 = dktX4_readAttempt_2 := dk_seg dksX4_readAttempt_1 24 rfl rfl
theorem dksX4_readAttempt_3 : cX4_readAttempt.data.toList.drop 69 = dktX4_readAttempt_3 := dk_seg dksX4_readAttempt_2 22 rfl rfl
theorem dksX4_readAttempt_4 : cX4_readAttempt.data.toList.drop 91 = dktX4_readAttempt_4 := dk_seg dksX4_readAttempt_3 22 rfl rfl
theorem dX4_readAttempt_0 : decode cX4_readAttempt 0 = .ok (.aload_n 1, 1) := dk_43 (dk_at dksX4_readAttempt_0 0 rfl rfl)
theorem dX4_readAttempt_1 : decode cX4_readAttempt 1 = .ok (.invokevirtual 93, 3) := dk_182 0 93 (dk_at dksX4_readAttempt_0 1 rfl rfl)
theorem dX4_readAttempt_4 : decode cX4_readAttempt 4 = .ok (.astore_n 2, 1) := dk_77 (dk_at dksX4_readAttempt_0 4 rfl rfl)
theorem dX4_readAttempt_5 : decode cX4_readAttempt 5 = .ok (.aload_n 0, 1) := dk_42 (dk_at dksX4_readAttempt_0 5 rfl rfl)
theorem dX4_readAttempt_6 : decode cX4_readAttempt 6 = .ok (.aload_n 2, 1) := dk_44 (dk_at dksX4_readAttempt_0 6 rfl rfl)
theorem dX4_readAttempt_7 : decode cX4_readAttempt 7 = .ok (.invokevirtual 141, 3) := dk_182 0 141 (dk_at dksX4_readAttempt_0 7 rfl rfl)
theorem dX4_readAttempt_10 : decode cX4_readAttempt 10 = .ok (.ifCond .eq 9, 3) := dk_153 0 9 (dk_at dksX4_readAttempt_0 10 rfl rfl)
theorem dX4_readAttempt_13 : decode cX4_readAttempt 13 = .ok (.aload_n 1, 1) := dk_43 (dk_at dksX4_readAttempt_0 13 rfl rfl)
theorem dX4_readAttempt_14 : decode cX4_readAttempt 14 = .ok (.iconst 3, 1) := dk_6 (dk_at dksX4_readAttempt_0 14 rfl rfl)
theorem dX4_readAttempt_15 : decode cX4_readAttempt 15 = .ok (.invokevirtual 84, 3) := dk_182 0 84 (dk_at dksX4_readAttempt_0 15 rfl rfl)
theorem dX4_readAttempt_18 : decode cX4_readAttempt 18 = .ok (.athrow, 1) := dk_191 (dk_at dksX4_readAttempt_0 18 rfl rfl)
theorem dX4_readAttempt_19 : decode cX4_readAttempt 19 = .ok (.aload_n 0, 1) := dk_42 (dk_at dksX4_readAttempt_0 19 rfl rfl)
theorem dX4_readAttempt_20 : decode cX4_readAttempt 20 = .ok (.getfield 18, 3) := dk_180 0 18 (dk_at dksX4_readAttempt_0 20 rfl rfl)
theorem dX4_readAttempt_23 : decode cX4_readAttempt 23 = .ok (.invokevirtual 34, 3) := dk_182 0 34 (dk_at dksX4_readAttempt_1 0 rfl rfl)
theorem dX4_readAttempt_26 : decode cX4_readAttempt 26 = .ok (.bipush 6, 2) := dk_16 6 (dk_at dksX4_readAttempt_1 3 rfl rfl)
theorem dX4_readAttempt_28 : decode cX4_readAttempt 28 = .ok (.if_icmp .ne 9, 3) := dk_160 0 9 (dk_at dksX4_readAttempt_1 5 rfl rfl)
theorem dX4_readAttempt_31 : decode cX4_readAttempt 31 = .ok (.aload_n 1, 1) := dk_43 (dk_at dksX4_readAttempt_1 8 rfl rfl)
theorem dX4_readAttempt_32 : decode cX4_readAttempt 32 = .ok (.iconst 5, 1) := dk_8 (dk_at dksX4_readAttempt_1 9 rfl rfl)
theorem dX4_readAttempt_33 : decode cX4_readAttempt 33 = .ok (.invokevirtual 84, 3) := dk_182 0 84 (dk_at dksX4_readAttempt_1 10 rfl rfl)
theorem dX4_readAttempt_36 : decode cX4_readAttempt 36 = .ok (.athrow, 1) := dk_191 (dk_at dksX4_readAttempt_1 13 rfl rfl)
theorem dX4_readAttempt_37 : decode cX4_readAttempt 37 = .ok (.aload_n 1, 1) := dk_43 (dk_at dksX4_readAttempt_1 14 rfl rfl)
theorem dX4_readAttempt_38 : decode cX4_readAttempt 38 = .ok (.invokevirtual 101, 3) := dk_182 0 101 (dk_at dksX4_readAttempt_1 15 rfl rfl)
theorem dX4_readAttempt_41 : decode cX4_readAttempt 41 = .ok (.aload_n 1, 1) := dk_43 (dk_at dksX4_readAttempt_1 18 rfl rfl)
theorem dX4_readAttempt_42 : decode cX4_readAttempt 42 = .ok (.ldc 144, 2) := dk_18 144 (dk_at dksX4_readAttempt_1 19 rfl rfl)
theorem dX4_readAttempt_44 : decode cX4_readAttempt 44 = .ok (.invokevirtual 106, 3) := dk_182 0 106 (dk_at dksX4_readAttempt_1 21 rfl rfl)
theorem dX4_readAttempt_47 : decode cX4_readAttempt 47 = .ok (.aload_n 1, 1) := dk_43 (dk_at dksX4_readAttempt_2 0 rfl rfl)
theorem dX4_readAttempt_48 : decode cX4_readAttempt 48 = .ok (.iconst 4, 1) := dk_7 (dk_at dksX4_readAttempt_2 1 rfl rfl)
theorem dX4_readAttempt_49 : decode cX4_readAttempt 49 = .ok (.invokevirtual 146, 3) := dk_182 0 146 (dk_at dksX4_readAttempt_2 2 rfl rfl)
theorem dX4_readAttempt_52 : decode cX4_readAttempt 52 = .ok (.istore_n 3, 1) := dk_62 (dk_at dksX4_readAttempt_2 5 rfl rfl)
theorem dX4_readAttempt_53 : decode cX4_readAttempt 53 = .ok (.aload_n 1, 1) := dk_43 (dk_at dksX4_readAttempt_2 6 rfl rfl)
theorem dX4_readAttempt_54 : decode cX4_readAttempt 54 = .ok (.ldc 150, 2) := dk_18 150 (dk_at dksX4_readAttempt_2 7 rfl rfl)
theorem dX4_readAttempt_56 : decode cX4_readAttempt 56 = .ok (.invokevirtual 106, 3) := dk_182 0 106 (dk_at dksX4_readAttempt_2 9 rfl rfl)
theorem dX4_readAttempt_59 : decode cX4_readAttempt 59 = .ok (.aload_n 1, 1) := dk_43 (dk_at dksX4_readAttempt_2 12 rfl rfl)
theorem dX4_readAttempt_60 : decode cX4_readAttempt 60 = .ok (.iconst 4, 1) := dk_7 (dk_at dksX4_readAttempt_2 13 rfl rfl)
theorem dX4_readAttempt_61 : decode cX4_readAttempt 61 = .ok (.invokevirtual 146, 3) := dk_182 0 146 (dk_at dksX4_readAttempt_2 14 rfl rfl)
theorem dX4_readAttempt_64 : decode cX4_readAttempt 64 = .ok (.istore 4, 2) := dk_54 4 (dk_at dksX4_readAttempt_2 17 rfl rfl)
theorem dX4_readAttempt_66 : decode cX4_readAttempt 66 = .ok (.aload_n 1, 1) := dk_43 (dk_at dksX4_readAttempt_2 19 rfl rfl)
theorem dX4_readAttempt_67 : decode cX4_readAttempt 67 = .ok (.ldc 152, 2) := dk_18 152 (dk_at dksX4_readAttempt_2 20 rfl rfl)
theorem dX4_readAttempt_69 : decode cX4_readAttempt 69 = .ok (.invokevirtual 106, 3) := dk_182 0 106 (dk_at dksX4_readAttempt_3 0 rfl rfl)
theorem dX4_readAttempt_72 : decode cX4_readAttempt 72 = .ok (.aload_n 0, 1) := dk_42 (dk_at dksX4_readAttempt_3 3 rfl rfl)
theorem dX4_readAttempt_73 : decode cX4_readAttempt 73 = .ok (.getfield 18, 3) := dk_180 0 18 (dk_at dksX4_readAttempt_3 4 rfl rfl)
theorem dX4_readAttempt_76 : decode cX4_readAttempt 76 = .ok (.new 54, 3) := dk_187 0 54 (dk_at dksX4_readAttempt_3 7 rfl rfl)
theorem dX4_readAttempt_79 : decode cX4_readAttempt 79 = .ok (.dup, 1) := dk_89 (dk_at dksX4_readAttempt_3 10 rfl rfl)
theorem dX4_readAttempt_80 : decode cX4_readAttempt 80 = .ok (.aload_n 2, 1) := dk_44 (dk_at dksX4_readAttempt_3 11 rfl rfl)
theorem dX4_readAttempt_81 : decode cX4_readAttempt 81 = .ok (.iload_n 3, 1) := dk_29 (dk_at dksX4_readAttempt_3 12 rfl rfl)
theorem dX4_readAttempt_82 : decode cX4_readAttempt 82 = .ok (.iload 4, 2) := dk_21 4 (dk_at dksX4_readAttempt_3 13 rfl rfl)
theorem dX4_readAttempt_84 : decode cX4_readAttempt 84 = .ok (.aload_n 1, 1) := dk_43 (dk_at dksX4_readAttempt_3 15 rfl rfl)
theorem dX4_readAttempt_85 : decode cX4_readAttempt 85 = .ok (.iconst 1, 1) := dk_4 (dk_at dksX4_readAttempt_3 16 rfl rfl)
theorem dX4_readAttempt_86 : decode cX4_readAttempt 86 = .ok (.bipush 99, 2) := dk_16 99 (dk_at dksX4_readAttempt_3 17 rfl rfl)
theorem dX4_readAttempt_88 : decode cX4_readAttempt 88 = .ok (.invokevirtual 130, 3) := dk_182 0 130 (dk_at dksX4_readAttempt_3 19 rfl rfl)
theorem dX4_readAttempt_91 : decode cX4_readAttempt 91 = .ok (.invokespecial 154, 3) := dk_183 0 154 (dk_at dksX4_readAttempt_4 0 rfl rfl)
theorem dX4_readAttempt_94 : decode cX4_readAttempt 94 = .ok (.invokevirtual 122, 3) := dk_182 0 122 (dk_at dksX4_readAttempt_4 3 rfl rfl)
theorem dX4_readAttempt_97 : decode cX4_readAttempt 97 = .ok (.pop, 1) := dk_87 (dk_at dksX4_readAttempt_4 6 rfl rfl)
theorem dX4_readAttempt_98 : decode cX4_readAttempt 98 = .ok (.return_, 1) := dk_177 (dk_at dksX4_readAttempt_4 7 rfl rfl)
abbrev cX4_hasAttempt : ByteArray := prog_3_method_3_code
def yX4_hasAttempt : MethodName := ⟨RX4, "hasAttempt", "(Ljava/lang/String;)Z"⟩
def dkwX4_hasAttempt_1 : List UInt8 := [182, 0, 56, 43, 182, 0, 48, 153, 0, 5, 4, 172, 132, 2, 1, 167, 255, 219, 3, 172]
abbrev dktX4_hasAttempt_1 : List UInt8 := dkwX4_hasAttempt_1 ++ []
def dkwX4_hasAttempt_0 : List UInt8 := [3, 61, 28, 42, 180, 0, 18, 182, 0, 34, 162, 0, 32, 42, 180, 0, 18, 28, 182, 0, 38, 192, 0, 54]
abbrev dktX4_hasAttempt_0 : List UInt8 := dkwX4_hasAttempt_0 ++ dktX4_hasAttempt_1
theorem dksX4_hasAttempt_0 : cX4_hasAttempt.data.toList.drop 0 = dktX4_hasAttempt_0 := by decide +kernel
theorem dksX4_hasAttempt_1 : cX4_hasAttempt.data.toList.drop 24 = dktX4_hasAttempt_1 := dk_seg dksX4_hasAttempt_0 24 rfl rfl
theorem dX4_hasAttempt_0 : decode cX4_hasAttempt 0 = .ok (.iconst 0, 1) := dk_3 (dk_at dksX4_hasAttempt_0 0 rfl rfl)
theorem dX4_hasAttempt_1 : decode cX4_hasAttempt 1 = .ok (.istore_n 2, 1) := dk_61 (dk_at dksX4_hasAttempt_0 1 rfl rfl)
theorem dX4_hasAttempt_2 : decode cX4_hasAttempt 2 = .ok (.iload_n 2, 1) := dk_28 (dk_at dksX4_hasAttempt_0 2 rfl rfl)
theorem dX4_hasAttempt_3 : decode cX4_hasAttempt 3 = .ok (.aload_n 0, 1) := dk_42 (dk_at dksX4_hasAttempt_0 3 rfl rfl)
theorem dX4_hasAttempt_4 : decode cX4_hasAttempt 4 = .ok (.getfield 18, 3) := dk_180 0 18 (dk_at dksX4_hasAttempt_0 4 rfl rfl)
theorem dX4_hasAttempt_7 : decode cX4_hasAttempt 7 = .ok (.invokevirtual 34, 3) := dk_182 0 34 (dk_at dksX4_hasAttempt_0 7 rfl rfl)
theorem dX4_hasAttempt_10 : decode cX4_hasAttempt 10 = .ok (.if_icmp .ge 32, 3) := dk_162 0 32 (dk_at dksX4_hasAttempt_0 10 rfl rfl)
theorem dX4_hasAttempt_13 : decode cX4_hasAttempt 13 = .ok (.aload_n 0, 1) := dk_42 (dk_at dksX4_hasAttempt_0 13 rfl rfl)
theorem dX4_hasAttempt_14 : decode cX4_hasAttempt 14 = .ok (.getfield 18, 3) := dk_180 0 18 (dk_at dksX4_hasAttempt_0 14 rfl rfl)
theorem dX4_hasAttempt_17 : decode cX4_hasAttempt 17 = .ok (.iload_n 2, 1) := dk_28 (dk_at dksX4_hasAttempt_0 17 rfl rfl)
theorem dX4_hasAttempt_18 : decode cX4_hasAttempt 18 = .ok (.invokevirtual 38, 3) := dk_182 0 38 (dk_at dksX4_hasAttempt_0 18 rfl rfl)
theorem dX4_hasAttempt_21 : decode cX4_hasAttempt 21 = .ok (.checkcast 54, 3) := dk_192 0 54 (dk_at dksX4_hasAttempt_0 21 rfl rfl)
theorem dX4_hasAttempt_24 : decode cX4_hasAttempt 24 = .ok (.invokevirtual 56, 3) := dk_182 0 56 (dk_at dksX4_hasAttempt_1 0 rfl rfl)
theorem dX4_hasAttempt_27 : decode cX4_hasAttempt 27 = .ok (.aload_n 1, 1) := dk_43 (dk_at dksX4_hasAttempt_1 3 rfl rfl)
theorem dX4_hasAttempt_28 : decode cX4_hasAttempt 28 = .ok (.invokevirtual 48, 3) := dk_182 0 48 (dk_at dksX4_hasAttempt_1 4 rfl rfl)
theorem dX4_hasAttempt_31 : decode cX4_hasAttempt 31 = .ok (.ifCond .eq 5, 3) := dk_153 0 5 (dk_at dksX4_hasAttempt_1 7 rfl rfl)
theorem dX4_hasAttempt_34 : decode cX4_hasAttempt 34 = .ok (.iconst 1, 1) := dk_4 (dk_at dksX4_hasAttempt_1 10 rfl rfl)
theorem dX4_hasAttempt_35 : decode cX4_hasAttempt 35 = .ok (.ireturn, 1) := dk_172 (dk_at dksX4_hasAttempt_1 11 rfl rfl)
theorem dX4_hasAttempt_36 : decode cX4_hasAttempt 36 = .ok (.iinc 2 1, 3) := dk_132 2 1 (dk_at dksX4_hasAttempt_1 12 rfl rfl)
theorem dX4_hasAttempt_39 : decode cX4_hasAttempt 39 = .ok (.goto (-37), 3) := dk_167 255 219 (dk_at dksX4_hasAttempt_1 15 rfl rfl)
theorem dX4_hasAttempt_42 : decode cX4_hasAttempt 42 = .ok (.iconst 0, 1) := dk_3 (dk_at dksX4_hasAttempt_1 18 rfl rfl)
theorem dX4_hasAttempt_43 : decode cX4_hasAttempt 43 = .ok (.ireturn, 1) := dk_172 (dk_at dksX4_hasAttempt_1 19 rfl rfl)
abbrev cX4_load : ByteArray := prog_3_method_8_code
def yX4_load : MethodName := ⟨RX4, "load", "()I"⟩
def dkwX4_load_0 : List UInt8 := [42, 180, 0, 25, 42, 180, 0, 21, 108, 172]
abbrev dktX4_load_0 : List UInt8 := dkwX4_load_0 ++ []
theorem dksX4_load_0 : cX4_load.data.toList.drop 0 = dktX4_load_0 := by decide +kernel
theorem dX4_load_0 : decode cX4_load 0 = .ok (.aload_n 0, 1) := dk_42 (dk_at dksX4_load_0 0 rfl rfl)
theorem dX4_load_1 : decode cX4_load 1 = .ok (.getfield 25, 3) := dk_180 0 25 (dk_at dksX4_load_0 1 rfl rfl)
theorem dX4_load_4 : decode cX4_load 4 = .ok (.aload_n 0, 1) := dk_42 (dk_at dksX4_load_0 4 rfl rfl)
theorem dX4_load_5 : decode cX4_load 5 = .ok (.getfield 21, 3) := dk_180 0 21 (dk_at dksX4_load_0 5 rfl rfl)
theorem dX4_load_8 : decode cX4_load 8 = .ok (.idiv, 1) := dk_108 (dk_at dksX4_load_0 8 rfl rfl)
theorem dX4_load_9 : decode cX4_load 9 = .ok (.ireturn, 1) := dk_172 (dk_at dksX4_load_0 9 rfl rfl)
theorem q104 : (Jvm.Cond.initialized "SoftWheels$Book") ∈ lw_all := lw_g (lw_at lw_m1 7 rfl) rfl
theorem q281 : (Jvm.Cond.instantiable "SoftWheels$Book" (8 : Nat)) ∈ lw_all := lw_g (lw_at lw_m1 184 rfl) rfl
theorem q283 : (Jvm.Cond.instanceMethod ({ cls := "SoftWheels$Book", name := "<init>", desc := "()V" } : Jvm.MethodName)) ∈ lw_all := lw_g (lw_at lw_m1 186 rfl) rfl
theorem q284 : (Jvm.Cond.code ({ cls := "SoftWheels$Book", name := "<init>", desc := "()V" } : Jvm.MethodName) prog_3_method_1_code (1 : Nat) (Option.none : Option Jvm.ClassFile.FieldType)) ∈ lw_all := lw_g (lw_at lw_m1 187 rfl) rfl
theorem q285 : (Jvm.Cond.methodLink "SoftWheels$Book" (3 : Nat) ({ cls := "java/lang/Object", name := "<init>", desc := "()V" } : Jvm.MethodName)) ∈ lw_all := lw_g (lw_at lw_m1 188 rfl) rfl
theorem q286 : (Jvm.Cond.classLink "SoftWheels$Book" (9 : Nat) "java/util/ArrayList") ∈ lw_all := lw_g (lw_at lw_m1 189 rfl) rfl
theorem q287 : (Jvm.Cond.methodLink "SoftWheels$Book" (11 : Nat) ({ cls := "java/util/ArrayList", name := "<init>", desc := "()V" } : Jvm.MethodName)) ∈ lw_all := lw_g (lw_at lw_m1 190 rfl) rfl
theorem q288 : (Jvm.Cond.fieldLink "SoftWheels$Book" (12 : Nat) "SoftWheels$Book" "grounds" "Ljava/util/ArrayList;") ∈ lw_all := lw_g (lw_at lw_m1 191 rfl) rfl
theorem q292 : (Jvm.Cond.fieldLink "SoftWheels$Book" (18 : Nat) "SoftWheels$Book" "attempts" "Ljava/util/ArrayList;") ∈ lw_all := lw_g (lw_at lw_m1 195 rfl) rfl
theorem q295 : (Jvm.Cond.fieldLink "SoftWheels$Book" (125 : Nat) "SoftWheels$Book" "hasRover" "Z") ∈ lw_all := lw_g (lw_at lw_m1 198 rfl) rfl
theorem q297 : (Jvm.Cond.fieldLink "SoftWheels$Book" (21 : Nat) "SoftWheels$Book" "wheels" "I") ∈ lw_all := lw_g (lw_at lw_m1 200 rfl) rfl
theorem q300 : (Jvm.Cond.fieldLink "SoftWheels$Book" (25 : Nat) "SoftWheels$Book" "weight" "I") ∈ lw_all := lw_g (lw_at lw_m1 203 rfl) rfl
theorem q303 : (Jvm.Cond.fieldLink "SoftWheels$Book" (28 : Nat) "SoftWheels$Book" "clear" "I") ∈ lw_all := lw_g (lw_at lw_m1 206 rfl) rfl
theorem q306 : (Jvm.Cond.fieldLink "SoftWheels$Book" (31 : Nat) "SoftWheels$Book" "tip" "I") ∈ lw_all := lw_g (lw_at lw_m1 209 rfl) rfl
theorem q309 : (Jvm.Cond.fieldLink "SoftWheels$Book" (139 : Nat) "SoftWheels$Book" "drag" "I") ∈ lw_all := lw_g (lw_at lw_m1 212 rfl) rfl
theorem q312 : (Jvm.Cond.laysFinal "SoftWheels$Book" "SoftWheels$Book" "grounds" "Ljava/util/ArrayList;") ∈ lw_all := lw_g (lw_at lw_m1 215 rfl) rfl
theorem q313 : (Jvm.Cond.soleField "SoftWheels$Book" "grounds") ∈ lw_all := lw_g (lw_at lw_m1 216 rfl) rfl
theorem q314 : (Jvm.Cond.laysFinal "SoftWheels$Book" "SoftWheels$Book" "attempts" "Ljava/util/ArrayList;") ∈ lw_all := lw_g (lw_at lw_m1 217 rfl) rfl
theorem q315 : (Jvm.Cond.soleField "SoftWheels$Book" "attempts") ∈ lw_all := lw_g (lw_at lw_m1 218 rfl) rfl
theorem q316 : (Jvm.Cond.lays "SoftWheels$Book" "SoftWheels$Book" "hasRover" "Z") ∈ lw_all := lw_g (lw_at lw_m1 219 rfl) rfl
theorem q317 : (Jvm.Cond.soleField "SoftWheels$Book" "hasRover") ∈ lw_all := lw_g (lw_at lw_m1 220 rfl) rfl
theorem q318 : (Jvm.Cond.lays "SoftWheels$Book" "SoftWheels$Book" "wheels" "I") ∈ lw_all := lw_g (lw_at lw_m1 221 rfl) rfl
theorem q319 : (Jvm.Cond.soleField "SoftWheels$Book" "wheels") ∈ lw_all := lw_g (lw_at lw_m1 222 rfl) rfl
theorem q320 : (Jvm.Cond.lays "SoftWheels$Book" "SoftWheels$Book" "weight" "I") ∈ lw_all := lw_g (lw_at lw_m1 223 rfl) rfl
theorem q321 : (Jvm.Cond.soleField "SoftWheels$Book" "weight") ∈ lw_all := lw_g (lw_at lw_m1 224 rfl) rfl
theorem q322 : (Jvm.Cond.lays "SoftWheels$Book" "SoftWheels$Book" "clear" "I") ∈ lw_all := lw_g (lw_at lw_m1 225 rfl) rfl
theorem q323 : (Jvm.Cond.soleField "SoftWheels$Book" "clear") ∈ lw_all := lw_g (lw_at lw_m1 226 rfl) rfl
theorem q324 : (Jvm.Cond.lays "SoftWheels$Book" "SoftWheels$Book" "tip" "I") ∈ lw_all := lw_g (lw_at lw_m1 227 rfl) rfl
theorem q325 : (Jvm.Cond.soleField "SoftWheels$Book" "tip") ∈ lw_all := lw_g (lw_at lw_m1 228 rfl) rfl
theorem q326 : (Jvm.Cond.lays "SoftWheels$Book" "SoftWheels$Book" "drag" "I") ∈ lw_all := lw_g (lw_at lw_m1 229 rfl) rfl
theorem q327 : (Jvm.Cond.soleField "SoftWheels$Book" "drag") ∈ lw_all := lw_g (lw_at lw_m1 230 rfl) rfl
theorem q328 : (Jvm.Cond.superclass "SoftWheels$Book" "java/lang/Object") ∈ lw_all := lw_g (lw_at lw_m1 231 rfl) rfl
theorem q658 : (Jvm.Cond.instanceMethod ({ cls := "SoftWheels$Book", name := "read", desc := "(LSoftWheels$Reader;)LSoftWheels$Book;" } : Jvm.MethodName)) ∈ lw_all := lw_g (lw_at lw_m3 81 rfl) rfl
theorem q659 : (Jvm.Cond.selects "SoftWheels$Book" ({ cls := "SoftWheels$Book", name := "read", desc := "(LSoftWheels$Reader;)LSoftWheels$Book;" } : Jvm.MethodName) ({ cls := "SoftWheels$Book", name := "read", desc := "(LSoftWheels$Reader;)LSoftWheels$Book;" } : Jvm.MethodName)) ∈ lw_all := lw_g (lw_at lw_m3 82 rfl) rfl
theorem q660 : (Jvm.Cond.code ({ cls := "SoftWheels$Book", name := "read", desc := "(LSoftWheels$Reader;)LSoftWheels$Book;" } : Jvm.MethodName) prog_3_method_4_code (2 : Nat) (Option.some (Jvm.ClassFile.FieldType.object "SoftWheels$Book"))) ∈ lw_all := lw_g (lw_at lw_m3 83 rfl) rfl
theorem q661 : (Jvm.Cond.stringRef "SoftWheels$Book" (59 : Nat) "ground") ∈ lw_tbl := lw_at lw_m3 84 rfl
theorem q662 : (Jvm.Cond.methodLink "SoftWheels$Book" (61 : Nat) ({ cls := "SoftWheels$Reader", name := "skips", desc := "(Ljava/lang/String;)Z" } : Jvm.MethodName)) ∈ lw_all := lw_g (lw_at lw_m3 85 rfl) rfl
theorem q694 : (Jvm.Cond.methodLink "SoftWheels$Book" (67 : Nat) ({ cls := "SoftWheels$Book", name := "readGround", desc := "(LSoftWheels$Reader;)V" } : Jvm.MethodName)) ∈ lw_all := lw_g (lw_at lw_m3 117 rfl) rfl
theorem q695 : (Jvm.Cond.privateMethod ({ cls := "SoftWheels$Book", name := "readGround", desc := "(LSoftWheels$Reader;)V" } : Jvm.MethodName)) ∈ lw_tbl := lw_at lw_m3 118 rfl
theorem q696 : (Jvm.Cond.instanceMethod ({ cls := "SoftWheels$Book", name := "readGround", desc := "(LSoftWheels$Reader;)V" } : Jvm.MethodName)) ∈ lw_all := lw_g (lw_at lw_m3 119 rfl) rfl
theorem q697 : (Jvm.Cond.code ({ cls := "SoftWheels$Book", name := "readGround", desc := "(LSoftWheels$Reader;)V" } : Jvm.MethodName) prog_3_method_5_code (3 : Nat) (Option.none : Option Jvm.ClassFile.FieldType)) ∈ lw_all := lw_g (lw_at lw_m3 120 rfl) rfl
theorem q698 : (Jvm.Cond.classLink "SoftWheels$Book" (42 : Nat) "SoftWheels$Ground") ∈ lw_all := lw_g (lw_at lw_m3 121 rfl) rfl
theorem q700 : (Jvm.Cond.methodLink "SoftWheels$Book" (93 : Nat) ({ cls := "SoftWheels$Reader", name := "name", desc := "()Ljava/lang/String;" } : Jvm.MethodName)) ∈ lw_all := lw_g (lw_at lw_m3 123 rfl) rfl
theorem q852 : (Jvm.Cond.methodLink "SoftWheels$Book" (94 : Nat) ({ cls := "SoftWheels$Ground", name := "<init>", desc := "(Ljava/lang/String;)V" } : Jvm.MethodName)) ∈ lw_all := lw_g (lw_at lw_m4 35 rfl) rfl
theorem q873 : (Jvm.Cond.fieldLinkNest "SoftWheels$Book" (44 : Nat) "SoftWheels$Ground" "name" "Ljava/lang/String;" "SoftWheels") ∈ lw_tbl := lw_at lw_m4 56 rfl
theorem q875 : (Jvm.Cond.fieldLinkNest "SoftWheels$Book" (109 : Nat) "SoftWheels$Ground" "sinks" "LSoftWheels$Line;" "SoftWheels") ∈ lw_tbl := lw_at lw_m4 58 rfl
theorem q879 : (Jvm.Cond.fieldLinkNest "SoftWheels$Book" (120 : Nat) "SoftWheels$Ground" "grips" "LSoftWheels$Line;" "SoftWheels") ∈ lw_tbl := lw_at lw_m4 62 rfl
theorem q889 : (Jvm.Cond.methodLink "SoftWheels$Book" (97 : Nat) ({ cls := "SoftWheels$Book", name := "groundOf", desc := "(Ljava/lang/String;)I" } : Jvm.MethodName)) ∈ lw_all := lw_g (lw_at lw_m4 72 rfl) rfl
theorem q890 : (Jvm.Cond.instanceMethod ({ cls := "SoftWheels$Book", name := "groundOf", desc := "(Ljava/lang/String;)I" } : Jvm.MethodName)) ∈ lw_all := lw_g (lw_at lw_m4 73 rfl) rfl
theorem q891 : (Jvm.Cond.selects "SoftWheels$Book" ({ cls := "SoftWheels$Book", name := "groundOf", desc := "(Ljava/lang/String;)I" } : Jvm.MethodName) ({ cls := "SoftWheels$Book", name := "groundOf", desc := "(Ljava/lang/String;)I" } : Jvm.MethodName)) ∈ lw_all := lw_g (lw_at lw_m4 74 rfl) rfl
theorem q892 : (Jvm.Cond.code ({ cls := "SoftWheels$Book", name := "groundOf", desc := "(Ljava/lang/String;)I" } : Jvm.MethodName) prog_3_method_2_code (3 : Nat) (Option.some Jvm.ClassFile.FieldType.int)) ∈ lw_all := lw_g (lw_at lw_m4 75 rfl) rfl
theorem q893 : (Jvm.Cond.methodLink "SoftWheels$Book" (34 : Nat) ({ cls := "java/util/ArrayList", name := "size", desc := "()I" } : Jvm.MethodName)) ∈ lw_all := lw_g (lw_at lw_m4 76 rfl) rfl
theorem q897 : (Jvm.Cond.methodLink "SoftWheels$Book" (38 : Nat) ({ cls := "java/util/ArrayList", name := "get", desc := "(I)Ljava/lang/Object;" } : Jvm.MethodName)) ∈ lw_all := lw_g (lw_at lw_m4 80 rfl) rfl
theorem q909 : (Jvm.Cond.methodLink "SoftWheels$Book" (48 : Nat) ({ cls := "java/lang/String", name := "equals", desc := "(Ljava/lang/Object;)Z" } : Jvm.MethodName)) ∈ lw_all := lw_g (lw_at lw_m4 92 rfl) rfl
theorem q910 : (Jvm.Cond.methodLink "SoftWheels$Book" (84 : Nat) ({ cls := "SoftWheels$Reader", name := "fault", desc := "(I)LSoftWheels$Fault;" } : Jvm.MethodName)) ∈ lw_all := lw_g (lw_at lw_m4 93 rfl) rfl
theorem q911 : (Jvm.Cond.methodLink "SoftWheels$Book" (101 : Nat) ({ cls := "SoftWheels$Reader", name := "next", desc := "()V" } : Jvm.MethodName)) ∈ lw_all := lw_g (lw_at lw_m4 94 rfl) rfl
theorem q912 : (Jvm.Cond.stringRef "SoftWheels$Book" (104 : Nat) "sinks") ∈ lw_tbl := lw_at lw_m4 95 rfl
theorem q913 : (Jvm.Cond.methodLink "SoftWheels$Book" (106 : Nat) ({ cls := "SoftWheels$Reader", name := "needs", desc := "(Ljava/lang/String;)V" } : Jvm.MethodName)) ∈ lw_all := lw_g (lw_at lw_m4 96 rfl) rfl
theorem q918 : (Jvm.Cond.methodLink "SoftWheels$Book" (112 : Nat) ({ cls := "SoftWheels$Line", name := "read", desc := "(LSoftWheels$Reader;IIZ)V" } : Jvm.MethodName)) ∈ lw_all := lw_g (lw_at lw_m4 101 rfl) rfl
theorem q933 : (Jvm.Cond.stringRef "SoftWheels$Book" (118 : Nat) "grips") ∈ lw_tbl := lw_at lw_m4 116 rfl
theorem q934 : (Jvm.Cond.methodLink "SoftWheels$Book" (122 : Nat) ({ cls := "java/util/ArrayList", name := "add", desc := "(Ljava/lang/Object;)Z" } : Jvm.MethodName)) ∈ lw_all := lw_g (lw_at lw_m4 117 rfl) rfl
theorem q959 : (Jvm.Cond.selects "SoftWheels$Book" ({ cls := "java/lang/Object", name := "getClass", desc := "()Ljava/lang/Class;" } : Jvm.MethodName) ({ cls := "java/lang/Object", name := "getClass", desc := "()Ljava/lang/Class;" } : Jvm.MethodName)) ∈ lw_all := lw_g (lw_at lw_m4 142 rfl) rfl
theorem q992 : (Jvm.Cond.stringRef "SoftWheels$Book" (71 : Nat) "rover") ∈ lw_tbl := lw_at lw_m4 175 rfl
theorem q993 : (Jvm.Cond.methodLink "SoftWheels$Book" (73 : Nat) ({ cls := "SoftWheels$Reader", name := "is", desc := "(Ljava/lang/String;)Z" } : Jvm.MethodName)) ∈ lw_all := lw_g (lw_at lw_m4 176 rfl) rfl
theorem q994 : (Jvm.Cond.methodLink "SoftWheels$Book" (76 : Nat) ({ cls := "SoftWheels$Book", name := "readRover", desc := "(LSoftWheels$Reader;)V" } : Jvm.MethodName)) ∈ lw_all := lw_g (lw_at lw_m4 177 rfl) rfl
theorem q995 : (Jvm.Cond.privateMethod ({ cls := "SoftWheels$Book", name := "readRover", desc := "(LSoftWheels$Reader;)V" } : Jvm.MethodName)) ∈ lw_tbl := lw_at lw_m4 178 rfl
theorem q996 : (Jvm.Cond.instanceMethod ({ cls := "SoftWheels$Book", name := "readRover", desc := "(LSoftWheels$Reader;)V" } : Jvm.MethodName)) ∈ lw_all := lw_g (lw_at lw_m4 179 rfl) rfl
theorem q997 : (Jvm.Cond.code ({ cls := "SoftWheels$Book", name := "readRover", desc := "(LSoftWheels$Reader;)V" } : Jvm.MethodName) prog_3_method_6_code (2 : Nat) (Option.none : Option Jvm.ClassFile.FieldType)) ∈ lw_all := lw_g (lw_at lw_m4 180 rfl) rfl
theorem q998 : (Jvm.Cond.stringRef "SoftWheels$Book" (129 : Nat) "wheels") ∈ lw_tbl := lw_at lw_m4 181 rfl
theorem q999 : (Jvm.Cond.methodLink "SoftWheels$Book" (130 : Nat) ({ cls := "SoftWheels$Reader", name := "whole", desc := "(II)I" } : Jvm.MethodName)) ∈ lw_all := lw_g (lw_at lw_m4 182 rfl) rfl
theorem q1000 : (Jvm.Cond.stringRef "SoftWheels$Book" (134 : Nat) "weight") ∈ lw_tbl := lw_at lw_m4 183 rfl
theorem q1001 : (Jvm.Cond.stringRef "SoftWheels$Book" (135 : Nat) "clear") ∈ lw_tbl := lw_at lw_m4 184 rfl
theorem q1002 : (Jvm.Cond.stringRef "SoftWheels$Book" (136 : Nat) "tip") ∈ lw_tbl := lw_at lw_m4 185 rfl
theorem q1003 : (Jvm.Cond.stringRef "SoftWheels$Book" (137 : Nat) "drag") ∈ lw_tbl := lw_at lw_m4 186 rfl
theorem q1004 : (Jvm.Cond.stringRef "SoftWheels$Book" (79 : Nat) "try") ∈ lw_tbl := lw_at lw_m4 187 rfl
theorem q1005 : (Jvm.Cond.methodLink "SoftWheels$Book" (81 : Nat) ({ cls := "SoftWheels$Book", name := "readAttempt", desc := "(LSoftWheels$Reader;)V" } : Jvm.MethodName)) ∈ lw_all := lw_g (lw_at lw_m4 188 rfl) rfl
theorem q1006 : (Jvm.Cond.privateMethod ({ cls := "SoftWheels$Book", name := "readAttempt", desc := "(LSoftWheels$Reader;)V" } : Jvm.MethodName)) ∈ lw_tbl := lw_at lw_m4 189 rfl
theorem q1007 : (Jvm.Cond.instanceMethod ({ cls := "SoftWheels$Book", name := "readAttempt", desc := "(LSoftWheels$Reader;)V" } : Jvm.MethodName)) ∈ lw_all := lw_g (lw_at lw_m4 190 rfl) rfl
theorem q1008 : (Jvm.Cond.code ({ cls := "SoftWheels$Book", name := "readAttempt", desc := "(LSoftWheels$Reader;)V" } : Jvm.MethodName) prog_3_method_7_code (5 : Nat) (Option.none : Option Jvm.ClassFile.FieldType)) ∈ lw_all := lw_g (lw_at lw_m4 191 rfl) rfl
theorem q1009 : (Jvm.Cond.methodLink "SoftWheels$Book" (141 : Nat) ({ cls := "SoftWheels$Book", name := "hasAttempt", desc := "(Ljava/lang/String;)Z" } : Jvm.MethodName)) ∈ lw_all := lw_g (lw_at lw_m4 192 rfl) rfl
theorem q1010 : (Jvm.Cond.privateMethod ({ cls := "SoftWheels$Book", name := "hasAttempt", desc := "(Ljava/lang/String;)Z" } : Jvm.MethodName)) ∈ lw_tbl := lw_at lw_m4 193 rfl
theorem q1011 : (Jvm.Cond.instanceMethod ({ cls := "SoftWheels$Book", name := "hasAttempt", desc := "(Ljava/lang/String;)Z" } : Jvm.MethodName)) ∈ lw_all := lw_g (lw_at lw_m4 194 rfl) rfl
theorem q1012 : (Jvm.Cond.code ({ cls := "SoftWheels$Book", name := "hasAttempt", desc := "(Ljava/lang/String;)Z" } : Jvm.MethodName) prog_3_method_3_code (3 : Nat) (Option.some Jvm.ClassFile.FieldType.boolean)) ∈ lw_all := lw_g (lw_at lw_m4 195 rfl) rfl
theorem q1013 : (Jvm.Cond.classLink "SoftWheels$Book" (54 : Nat) "SoftWheels$Attempt") ∈ lw_all := lw_g (lw_at lw_m4 196 rfl) rfl
theorem q1014 : (Jvm.Cond.methodLink "SoftWheels$Book" (56 : Nat) ({ cls := "SoftWheels$Attempt", name := "name", desc := "()Ljava/lang/String;" } : Jvm.MethodName)) ∈ lw_all := lw_g (lw_at lw_m4 197 rfl) rfl
theorem q1018 : (Jvm.Cond.stringRef "SoftWheels$Book" (144 : Nat) "each") ∈ lw_tbl := lw_at lw_m4 201 rfl
theorem q1019 : (Jvm.Cond.methodLink "SoftWheels$Book" (146 : Nat) ({ cls := "SoftWheels$Reader", name := "signed", desc := "(I)I" } : Jvm.MethodName)) ∈ lw_all := lw_g (lw_at lw_m4 202 rfl) rfl
theorem q1024 : (Jvm.Cond.stringRef "SoftWheels$Book" (150 : Nat) "one") ∈ lw_tbl := lw_at lw_m4 207 rfl
theorem q1025 : (Jvm.Cond.stringRef "SoftWheels$Book" (152 : Nat) "cost") ∈ lw_tbl := lw_at lw_m4 208 rfl
theorem q1027 : (Jvm.Cond.methodLinkNest "SoftWheels$Book" (154 : Nat) ({ cls := "SoftWheels$Attempt", name := "<init>", desc := "(Ljava/lang/String;III)V" } : Jvm.MethodName) "SoftWheels") ∈ lw_tbl := lw_at lw_m4 210 rfl
theorem q1047 : (Jvm.Cond.stringRef "SoftWheels$Book" (88 : Nat) ";") ∈ lw_tbl := lw_at lw_m4 230 rfl
theorem q1048 : (Jvm.Cond.methodLink "SoftWheels$Book" (90 : Nat) ({ cls := "SoftWheels$Reader", name := "needsEnd", desc := "()V" } : Jvm.MethodName)) ∈ lw_all := lw_g (lw_at lw_m4 231 rfl) rfl
theorem q1275 : (Jvm.Cond.instanceMethod ({ cls := "SoftWheels$Book", name := "load", desc := "()I" } : Jvm.MethodName)) ∈ lw_all := lw_g (lw_at lw_m5 218 rfl) rfl
theorem q1276 : (Jvm.Cond.selects "SoftWheels$Book" ({ cls := "SoftWheels$Book", name := "load", desc := "()I" } : Jvm.MethodName) ({ cls := "SoftWheels$Book", name := "load", desc := "()I" } : Jvm.MethodName)) ∈ lw_all := lw_g (lw_at lw_m5 219 rfl) rfl
theorem q1277 : (Jvm.Cond.code ({ cls := "SoftWheels$Book", name := "load", desc := "()I" } : Jvm.MethodName) prog_3_method_8_code (1 : Nat) (Option.some Jvm.ClassFile.FieldType.int)) ∈ lw_all := lw_g (lw_at lw_m5 220 rfl) rfl
theorem q2560 : (Jvm.Cond.castable "SoftWheels$Book" "java/lang/Object") ∈ lw_tbl := lw_at lw_m11 63 rfl
theorem in_X4 : ∀ w ∈ wsX40, w ∈ lw_all := lw_in wsX40 [312, 314, 316, 318, 320, 322, 324, 326] (by decide +kernel) (by decide +kernel)

/-! SoftWheels$Reader -/
set_option maxRecDepth 100000
def RX5 : String := "SoftWheels$Reader"
def TX5 : u_T := fun k => match k with
  | 0 => ("SoftWheels$Reader", "text", "[B", true)
  | 1 => ("SoftWheels$Reader", "size", "I", true)
  | 2 => ("SoftWheels$Reader", "at", "I", false)
  | 3 => ("SoftWheels$Reader", "place", "I", false)
  | 4 => ("SoftWheels$Reader", "whole", "I", false)
  | 5 => ("SoftWheels$Reader", "sort", "LSoftWheels$Sort;", false)
  | 6 => ("SoftWheels$Reader", "word", "Ljava/lang/String;", false)
  | _ => ("SoftWheels$Reader", "sign", "C", false)
def tyX5 : Nat → FieldType := fun k => match k with
  | 0 => .array .byte
  | 1 => .int
  | 2 => .int
  | 3 => .int
  | 4 => .int
  | 5 => .object "SoftWheels$Sort"
  | 6 => .object "java/lang/String"
  | _ => .char
abbrev wsX50 : List Cond := u_ws RX5 TX5 8
theorem nmX5 : ∀ a, a < 8 → ∀ b, b < 8 → a ≠ b → (TX5 a).2.1 ≠ (TX5 b).2.1 := by decide +kernel
theorem tyX5_ok : ∀ k, k < 8 → parseFieldDescriptor (TX5 k).2.2.1 = some (tyX5 k) := by decide +kernel
abbrev cX5_init : ByteArray := prog_16_method_1_code
def yX5_init : MethodName := ⟨RX5, "<init>", "([BI)V"⟩
def dkwX5_init_0 : List UInt8 := [42, 183, 0, 3, 42, 43, 181, 0, 9, 42, 28, 181, 0, 15, 42, 182, 0, 19, 177]
abbrev dktX5_init_0 : List UInt8 := dkwX5_init_0 ++ []
theorem dksX5_init_0 : cX5_init.data.toList.drop 0 = dktX5_init_0 := by decide +kernel
theorem dX5_init_0 : decode cX5_init 0 = .ok (.aload_n 0, 1) := dk_42 (dk_at dksX5_init_0 0 rfl rfl)
theorem dX5_init_1 : decode cX5_init 1 = .ok (.invokespecial 3, 3) := dk_183 0 3 (dk_at dksX5_init_0 1 rfl rfl)
theorem dX5_init_4 : decode cX5_init 4 = .ok (.aload_n 0, 1) := dk_42 (dk_at dksX5_init_0 4 rfl rfl)
theorem dX5_init_5 : decode cX5_init 5 = .ok (.aload_n 1, 1) := dk_43 (dk_at dksX5_init_0 5 rfl rfl)
theorem dX5_init_6 : decode cX5_init 6 = .ok (.putfield 9, 3) := dk_181 0 9 (dk_at dksX5_init_0 6 rfl rfl)
theorem dX5_init_9 : decode cX5_init 9 = .ok (.aload_n 0, 1) := dk_42 (dk_at dksX5_init_0 9 rfl rfl)
theorem dX5_init_10 : decode cX5_init 10 = .ok (.iload_n 2, 1) := dk_28 (dk_at dksX5_init_0 10 rfl rfl)
theorem dX5_init_11 : decode cX5_init 11 = .ok (.putfield 15, 3) := dk_181 0 15 (dk_at dksX5_init_0 11 rfl rfl)
theorem dX5_init_14 : decode cX5_init 14 = .ok (.aload_n 0, 1) := dk_42 (dk_at dksX5_init_0 14 rfl rfl)
theorem dX5_init_15 : decode cX5_init 15 = .ok (.invokevirtual 19, 3) := dk_182 0 19 (dk_at dksX5_init_0 15 rfl rfl)
theorem dX5_init_18 : decode cX5_init 18 = .ok (.return_, 1) := dk_177 (dk_at dksX5_init_0 18 rfl rfl)
abbrev cX5_next : ByteArray := prog_16_method_5_code
def yX5_next : MethodName := ⟨RX5, "next", "()V"⟩
def dkwX5_next_4 : List UInt8 := [178, 0, 65, 181, 0, 38, 42, 27, 146, 181, 0, 68, 42, 89, 180, 0, 22, 4, 96, 181, 0, 22, 177]
abbrev dktX5_next_4 : List UInt8 := dkwX5_next_4 ++ []
def dkwX5_next_3 : List UInt8 := [184, 0, 51, 153, 0, 10, 42, 182, 0, 54, 167, 0, 35, 18, 57, 27, 182, 0, 59, 155, 0, 26, 42]
abbrev dktX5_next_3 : List UInt8 := dkwX5_next_3 ++ dktX5_next_4
def dkwX5_next_2 : List UInt8 := [178, 0, 41, 181, 0, 38, 167, 0, 63, 27, 184, 0, 44, 153, 0, 10, 42, 182, 0, 48, 167, 0, 49, 27]
abbrev dktX5_next_2 : List UInt8 := dkwX5_next_2 ++ dktX5_next_3
def dkwX5_next_1 : List UInt8 := [180, 0, 22, 181, 0, 29, 42, 178, 0, 32, 181, 0, 38, 42, 182, 0, 25, 60, 27, 2, 160, 0, 13, 42]
abbrev dktX5_next_1 : List UInt8 := dkwX5_next_1 ++ dktX5_next_2
def dkwX5_next_0 : List UInt8 := [42, 182, 0, 25, 16, 32, 160, 0, 16, 42, 89, 180, 0, 22, 4, 96, 181, 0, 22, 167, 255, 237, 42, 42]
abbrev dktX5_next_0 : List UInt8 := dkwX5_next_0 ++ dktX5_next_1
theorem dksX5_next_0 : cX5_next.data.toList.drop 0 = dktX5_next_0 := by decide +kernel
theorem dksX5_next_1 : cX5_next.data.toList.drop 24 = dktX5_next_1 := dk_seg dksX5_next_0 24 rfl rfl
theorem dksX5_next_2 : cX5_next.data.toList.drop 48 = dktX5_next_2 := dk_seg dksX5_next_1 24 rfl rfl
theorem dksX5_next_3 : cX5_next.data.toList.drop 72 = dktX5_next_3 := dk_seg dksX5_next_2 24 rfl rfl
theorem dksX5_next_4 : cX5_next.data.toList.drop 95 = dktX5_next_4 := dk_seg dksX5_next_3 23 rfl rfl
theorem dX5_next_0 : decode cX5_next 0 = .ok (.aload_n 0, 1) := dk_42 (dk_at dksX5_next_0 0 rfl rfl)
theorem dX5_next_1 : decode cX5_next 1 = .ok (.invokevirtual 25, 3) := dk_182 0 25 (dk_at dksX5_next_0 1 rfl rfl)
theorem dX5_next_4 : decode cX5_next 4 = .ok (.bipush 32, 2) := dk_16 32 (dk_at dksX5_next_0 4 rfl rfl)
theorem dX5_next_6 : decode cX5_next 6 = .ok (.if_icmp .ne 16, 3) := dk_160 0 16 (dk_at dksX5_next_0 6 rfl rfl)
theorem dX5_next_9 : decode cX5_next 9 = .ok (.aload_n 0, 1) := dk_42 (dk_at dksX5_next_0 9 rfl rfl)
theorem dX5_next_10 : decode cX5_next 10 = .ok (.dup, 1) := dk_89 (dk_at dksX5_next_0 10 rfl rfl)
theorem dX5_next_11 : decode cX5_next 11 = .ok (.getfield 22, 3) := dk_180 0 22 (dk_at dksX5_next_0 11 rfl rfl)
theorem dX5_next_14 : decode cX5_next 14 = .ok (.iconst 1, 1) := dk_4 (dk_at dksX5_next_0 14 rfl rfl)
theorem dX5_next_15 : decode cX5_next 15 = .ok (.iadd, 1) := dk_96 (dk_at dksX5_next_0 15 rfl rfl)
theorem dX5_next_16 : decode cX5_next 16 = .ok (.putfield 22, 3) := dk_181 0 22 (dk_at dksX5_next_0 16 rfl rfl)
theorem dX5_next_19 : decode cX5_next 19 = .ok (.goto (-19), 3) := dk_167 255 237 (dk_at dksX5_next_0 19 rfl rfl)
theorem dX5_next_22 : decode cX5_next 22 = .ok (.aload_n 0, 1) := dk_42 (dk_at dksX5_next_0 22 rfl rfl)
theorem dX5_next_23 : decode cX5_next 23 = .ok (.aload_n 0, 1) := dk_42 (dk_at dksX5_next_0 23 rfl rfl)
theorem dX5_next_24 : decode cX5_next 24 = .ok (.getfield 22, 3) := dk_180 0 22 (dk_at dksX5_next_1 0 rfl rfl)
theorem dX5_next_27 : decode cX5_next 27 = .ok (.putfield 29, 3) := dk_181 0 29 (dk_at dksX5_next_1 3 rfl rfl)
theorem dX5_next_30 : decode cX5_next 30 = .ok (.aload_n 0, 1) := dk_42 (dk_at dksX5_next_1 6 rfl rfl)
theorem dX5_next_31 : decode cX5_next 31 = .ok (.getstatic 32, 3) := dk_178 0 32 (dk_at dksX5_next_1 7 rfl rfl)
theorem dX5_next_34 : decode cX5_next 34 = .ok (.putfield 38, 3) := dk_181 0 38 (dk_at dksX5_next_1 10 rfl rfl)
theorem dX5_next_37 : decode cX5_next 37 = .ok (.aload_n 0, 1) := dk_42 (dk_at dksX5_next_1 13 rfl rfl)
theorem dX5_next_38 : decode cX5_next 38 = .ok (.invokevirtual 25, 3) := dk_182 0 25 (dk_at dksX5_next_1 14 rfl rfl)
theorem dX5_next_41 : decode cX5_next 41 = .ok (.istore_n 1, 1) := dk_60 (dk_at dksX5_next_1 17 rfl rfl)
theorem dX5_next_42 : decode cX5_next 42 = .ok (.iload_n 1, 1) := dk_27 (dk_at dksX5_next_1 18 rfl rfl)
theorem dX5_next_43 : decode cX5_next 43 = .ok (.iconst (-1), 1) := dk_2 (dk_at dksX5_next_1 19 rfl rfl)
theorem dX5_next_44 : decode cX5_next 44 = .ok (.if_icmp .ne 13, 3) := dk_160 0 13 (dk_at dksX5_next_1 20 rfl rfl)
theorem dX5_next_47 : decode cX5_next 47 = .ok (.aload_n 0, 1) := dk_42 (dk_at dksX5_next_1 23 rfl rfl)
theorem dX5_next_48 : decode cX5_next 48 = .ok (.getstatic 41, 3) := dk_178 0 41 (dk_at dksX5_next_2 0 rfl rfl)
theorem dX5_next_51 : decode cX5_next 51 = .ok (.putfield 38, 3) := dk_181 0 38 (dk_at dksX5_next_2 3 rfl rfl)
theorem dX5_next_54 : decode cX5_next 54 = .ok (.goto 63, 3) := dk_167 0 63 (dk_at dksX5_next_2 6 rfl rfl)
theorem dX5_next_57 : decode cX5_next 57 = .ok (.iload_n 1, 1) := dk_27 (dk_at dksX5_next_2 9 rfl rfl)
theorem dX5_next_58 : decode cX5_next 58 = .ok (.invokestatic 44, 3) := dk_184 0 44 (dk_at dksX5_next_2 10 rfl rfl)
theorem dX5_next_61 : decode cX5_next 61 = .ok (.ifCond .eq 10, 3) := dk_153 0 10 (dk_at dksX5_next_2 13 rfl rfl)
theorem dX5_next_64 : decode cX5_next 64 = .ok (.aload_n 0, 1) := dk_42 (dk_at dksX5_next_2 16 rfl rfl)
theorem dX5_next_65 : decode cX5_next 65 = .ok (.invokevirtual 48, 3) := dk_182 0 48 (dk_at dksX5_next_2 17 rfl rfl)
theorem dX5_next_68 : decode cX5_next 68 = .ok (.goto 49, 3) := dk_167 0 49 (dk_at dksX5_next_2 20 rfl rfl)
theorem dX5_next_71 : decode cX5_next 71 = .ok (.iload_n 1, 1) := dk_27 (dk_at dksX5_next_2 23 rfl rfl)
theorem dX5_next_72 : decode cX5_next 72 = .ok (.invokestatic 51, 3) := dk_184 0 51 (dk_at dksX5_next_3 0 rfl rfl)
theorem dX5_next_75 : decode cX5_next 75 = .ok (.ifCond .eq 10, 3) := dk_153 0 10 (dk_at dksX5_next_3 3 rfl rfl)
theorem dX5_next_78 : decode cX5_next 78 = .ok (.aload_n 0, 1) := dk_42 (dk_at dksX5_next_3 6 rfl rfl)
theorem dX5_next_79 : decode cX5_next 79 = .ok (.invokevirtual 54, 3) := dk_182 0 54 (dk_at dksX5_next_3 7 rfl rfl)
theorem dX5_next_82 : decode cX5_next 82 = .ok (.goto 35, 3) := dk_167 0 35 (dk_at dksX5_next_3 10 rfl rfl)
theorem dX5_next_85 : decode cX5_next 85 = .ok (.ldc 57, 2) := dk_18 57 (dk_at dksX5_next_3 13 rfl rfl)
theorem dX5_next_87 : decode cX5_next 87 = .ok (.iload_n 1, 1) := dk_27 (dk_at dksX5_next_3 15 rfl rfl)
theorem dX5_next_88 : decode cX5_next 88 = .ok (.invokevirtual 59, 3) := dk_182 0 59 (dk_at dksX5_next_3 16 rfl rfl)
theorem dX5_next_91 : decode cX5_next 91 = .ok (.ifCond .lt 26, 3) := dk_155 0 26 (dk_at dksX5_next_3 19 rfl rfl)
theorem dX5_next_94 : decode cX5_next 94 = .ok (.aload_n 0, 1) := dk_42 (dk_at dksX5_next_3 22 rfl rfl)
theorem dX5_next_95 : decode cX5_next 95 = .ok (.getstatic 65, 3) := dk_178 0 65 (dk_at dksX5_next_4 0 rfl rfl)
theorem dX5_next_98 : decode cX5_next 98 = .ok (.putfield 38, 3) := dk_181 0 38 (dk_at dksX5_next_4 3 rfl rfl)
theorem dX5_next_101 : decode cX5_next 101 = .ok (.aload_n 0, 1) := dk_42 (dk_at dksX5_next_4 6 rfl rfl)
theorem dX5_next_102 : decode cX5_next 102 = .ok (.iload_n 1, 1) := dk_27 (dk_at dksX5_next_4 7 rfl rfl)
theorem dX5_next_103 : decode cX5_next 103 = .ok (.i2c, 1) := dk_146 (dk_at dksX5_next_4 8 rfl rfl)
theorem dX5_next_104 : decode cX5_next 104 = .ok (.putfield 68, 3) := dk_181 0 68 (dk_at dksX5_next_4 9 rfl rfl)
theorem dX5_next_107 : decode cX5_next 107 = .ok (.aload_n 0, 1) := dk_42 (dk_at dksX5_next_4 12 rfl rfl)
theorem dX5_next_108 : decode cX5_next 108 = .ok (.dup, 1) := dk_89 (dk_at dksX5_next_4 13 rfl rfl)
theorem dX5_next_109 : decode cX5_next 109 = .ok (.getfield 22, 3) := dk_180 0 22 (dk_at dksX5_next_4 14 rfl rfl)
theorem dX5_next_112 : decode cX5_next 112 = .ok (.iconst 1, 1) := dk_4 (dk_at dksX5_next_4 17 rfl rfl)
theorem dX5_next_113 : decode cX5_next 113 = .ok (.iadd, 1) := dk_96 (dk_at dksX5_next_4 18 rfl rfl)
theorem dX5_next_114 : decode cX5_next 114 = .ok (.putfield 22, 3) := dk_181 0 22 (dk_at dksX5_next_4 19 rfl rfl)
theorem dX5_next_117 : decode cX5_next 117 = .ok (.return_, 1) := dk_177 (dk_at dksX5_next_4 22 rfl rfl)
abbrev cX5_here : ByteArray := prog_16_method_2_code
def yX5_here : MethodName := ⟨RX5, "here", "()I"⟩
def dkwX5_here_1 : List UInt8 := [167, 0, 4, 2, 172]
abbrev dktX5_here_1 : List UInt8 := dkwX5_here_1 ++ []
def dkwX5_here_0 : List UInt8 := [42, 180, 0, 22, 42, 180, 0, 15, 162, 0, 19, 42, 180, 0, 9, 42, 180, 0, 22, 51, 17, 0, 255, 126]
abbrev dktX5_here_0 : List UInt8 := dkwX5_here_0 ++ dktX5_here_1
theorem dksX5_here_0 : cX5_here.data.toList.drop 0 = dktX5_here_0 := by decide +kernel
theorem dksX5_here_1 : cX5_here.data.toList.drop 24 = dktX5_here_1 := dk_seg dksX5_here_0 24 rfl rfl
theorem dX5_here_0 : decode cX5_here 0 = .ok (.aload_n 0, 1) := dk_42 (dk_at dksX5_here_0 0 rfl rfl)
theorem dX5_here_1 : decode cX5_here 1 = .ok (.getfield 22, 3) := dk_180 0 22 (dk_at dksX5_here_0 1 rfl rfl)
theorem dX5_here_4 : decode cX5_here 4 = .ok (.aload_n 0, 1) := dk_42 (dk_at dksX5_here_0 4 rfl rfl)
theorem dX5_here_5 : decode cX5_here 5 = .ok (.getfield 15, 3) := dk_180 0 15 (dk_at dksX5_here_0 5 rfl rfl)
theorem dX5_here_8 : decode cX5_here 8 = .ok (.if_icmp .ge 19, 3) := dk_162 0 19 (dk_at dksX5_here_0 8 rfl rfl)
theorem dX5_here_11 : decode cX5_here 11 = .ok (.aload_n 0, 1) := dk_42 (dk_at dksX5_here_0 11 rfl rfl)
theorem dX5_here_12 : decode cX5_here 12 = .ok (.getfield 9, 3) := dk_180 0 9 (dk_at dksX5_here_0 12 rfl rfl)
theorem dX5_here_15 : decode cX5_here 15 = .ok (.aload_n 0, 1) := dk_42 (dk_at dksX5_here_0 15 rfl rfl)
theorem dX5_here_16 : decode cX5_here 16 = .ok (.getfield 22, 3) := dk_180 0 22 (dk_at dksX5_here_0 16 rfl rfl)
theorem dX5_here_19 : decode cX5_here 19 = .ok (.baload, 1) := dk_51 (dk_at dksX5_here_0 19 rfl rfl)
theorem dX5_here_20 : decode cX5_here 20 = .ok (.sipush 255, 3) := dk_17 0 255 (dk_at dksX5_here_0 20 rfl rfl)
theorem dX5_here_23 : decode cX5_here 23 = .ok (.iand, 1) := dk_126 (dk_at dksX5_here_0 23 rfl rfl)
theorem dX5_here_24 : decode cX5_here 24 = .ok (.goto 4, 3) := dk_167 0 4 (dk_at dksX5_here_1 0 rfl rfl)
theorem dX5_here_27 : decode cX5_here 27 = .ok (.iconst (-1), 1) := dk_2 (dk_at dksX5_here_1 3 rfl rfl)
theorem dX5_here_28 : decode cX5_here 28 = .ok (.ireturn, 1) := dk_172 (dk_at dksX5_here_1 4 rfl rfl)
abbrev cX5_isLetter : ByteArray := prog_16_method_3_code
def yX5_isLetter : MethodName := ⟨RX5, "isLetter", "(I)Z"⟩
def dkwX5_isLetter_0 : List UInt8 := [26, 16, 97, 161, 0, 13, 26, 16, 122, 163, 0, 7, 4, 167, 0, 4, 3, 172]
abbrev dktX5_isLetter_0 : List UInt8 := dkwX5_isLetter_0 ++ []
theorem dksX5_isLetter_0 : cX5_isLetter.data.toList.drop 0 = dktX5_isLetter_0 := by decide +kernel
theorem dX5_isLetter_0 : decode cX5_isLetter 0 = .ok (.iload_n 0, 1) := dk_26 (dk_at dksX5_isLetter_0 0 rfl rfl)
theorem dX5_isLetter_1 : decode cX5_isLetter 1 = .ok (.bipush 97, 2) := dk_16 97 (dk_at dksX5_isLetter_0 1 rfl rfl)
theorem dX5_isLetter_3 : decode cX5_isLetter 3 = .ok (.if_icmp .lt 13, 3) := dk_161 0 13 (dk_at dksX5_isLetter_0 3 rfl rfl)
theorem dX5_isLetter_6 : decode cX5_isLetter 6 = .ok (.iload_n 0, 1) := dk_26 (dk_at dksX5_isLetter_0 6 rfl rfl)
theorem dX5_isLetter_7 : decode cX5_isLetter 7 = .ok (.bipush 122, 2) := dk_16 122 (dk_at dksX5_isLetter_0 7 rfl rfl)
theorem dX5_isLetter_9 : decode cX5_isLetter 9 = .ok (.if_icmp .gt 7, 3) := dk_163 0 7 (dk_at dksX5_isLetter_0 9 rfl rfl)
theorem dX5_isLetter_12 : decode cX5_isLetter 12 = .ok (.iconst 1, 1) := dk_4 (dk_at dksX5_isLetter_0 12 rfl rfl)
theorem dX5_isLetter_13 : decode cX5_isLetter 13 = .ok (.goto 4, 3) := dk_167 0 4 (dk_at dksX5_isLetter_0 13 rfl rfl)
theorem dX5_isLetter_16 : decode cX5_isLetter 16 = .ok (.iconst 0, 1) := dk_3 (dk_at dksX5_isLetter_0 16 rfl rfl)
theorem dX5_isLetter_17 : decode cX5_isLetter 17 = .ok (.ireturn, 1) := dk_172 (dk_at dksX5_isLetter_0 17 rfl rfl)
abbrev cX5_nextWord : ByteArray := prog_16_method_6_code
def yX5_nextWord : MethodName := ⟨RX5, "nextWord", "()V"⟩
def dkwX5_nextWord_3 : List UInt8 := [132, 2, 1, 167, 255, 233, 42, 43, 182, 0, 79, 181, 0, 83, 42, 178, 0, 87, 181, 0, 38, 177]
abbrev dktX5_nextWord_3 : List UInt8 := dkwX5_nextWord_3 ++ []
def dkwX5_nextWord_2 : List UInt8 := [180, 0, 29, 61, 28, 42, 180, 0, 22, 162, 0, 21, 43, 42, 180, 0, 9, 28, 51, 146, 182, 0, 75, 87]
abbrev dktX5_nextWord_2 : List UInt8 := dkwX5_nextWord_2 ++ dktX5_nextWord_3
def dkwX5_nextWord_1 : List UInt8 := [180, 0, 22, 42, 180, 0, 29, 100, 16, 8, 164, 0, 4, 177, 187, 0, 72, 89, 183, 0, 74, 76, 42]
abbrev dktX5_nextWord_1 : List UInt8 := dkwX5_nextWord_1 ++ dktX5_nextWord_2
def dkwX5_nextWord_0 : List UInt8 := [42, 182, 0, 25, 184, 0, 44, 153, 0, 16, 42, 89, 180, 0, 22, 4, 96, 181, 0, 22, 167, 255, 236, 42]
abbrev dktX5_nextWord_0 : List UInt8 := dkwX5_nextWord_0 ++ dktX5_nextWord_1
theorem dksX5_nextWord_0 : cX5_nextWord.data.toList.drop 0 = dktX5_nextWord_0 := by decide +kernel
theorem dksX5_nextWord_1 : cX5_nextWord.data.toList.drop 24 = dktX5_nextWord_1 := dk_seg dksX5_nextWord_0 24 rfl rfl
theorem dksX5_nextWord_2 : cX5_nextWord.data.toList.drop 47 = dktX5_nextWord_2 := dk_seg dksX5_nextWord_1 23 rfl rfl
theorem dksX5_nextWord_3 : cX5_nextWord.data.toList.drop 71 = dktX5_nextWord_3 := dk_seg dksX5_nextWord_2 24 rfl rfl
theorem dX5_nextWord_0 : decode cX5_nextWord 0 = .ok (.aload_n 0, 1) := dk_42 (dk_at dksX5_nextWord_0 0 rfl rfl)
theorem dX5_nextWord_1 : decode cX5_nextWord 1 = .ok (.invokevirtual 25, 3) := dk_182 0 25 (dk_at dksX5_nextWord_0 1 rfl rfl)
theorem dX5_nextWord_4 : decode cX5_nextWord 4 = .ok (.invokestatic 44, 3) := dk_184 0 44 (dk_at dksX5_nextWord_0 4 rfl rfl)
theorem dX5_nextWord_7 : decode cX5_nextWord 7 = .ok (.ifCond .eq 16, 3) := dk_153 0 16 (dk_at dksX5_nextWord_0 7 rfl rfl)
theorem dX5_nextWord_10 : decode cX5_nextWord 10 = .ok (.aload_n 0, 1) := dk_42 (dk_at dksX5_nextWord_0 10 rfl rfl)
theorem dX5_nextWord_11 : decode cX5_nextWord 11 = .ok (.dup, 1) := dk_89 (dk_at dksX5_nextWord_0 11 rfl rfl)
theorem dX5_nextWord_12 : decode cX5_nextWord 12 = .ok (.getfield 22, 3) := dk_180 0 22 (dk_at dksX5_nextWord_0 12 rfl rfl)
theorem dX5_nextWord_15 : decode cX5_nextWord 15 = .ok (.iconst 1, 1) := dk_4 (dk_at dksX5_nextWord_0 15 rfl rfl)
theorem dX5_nextWord_16 : decode cX5_nextWord 16 = .ok (.iadd, 1) := dk_96 (dk_at dksX5_nextWord_0 16 rfl rfl)
theorem dX5_nextWord_17 : decode cX5_nextWord 17 = .ok (.putfield 22, 3) := dk_181 0 22 (dk_at dksX5_nextWord_0 17 rfl rfl)
theorem dX5_nextWord_20 : decode cX5_nextWord 20 = .ok (.goto (-20), 3) := dk_167 255 236 (dk_at dksX5_nextWord_0 20 rfl rfl)
theorem dX5_nextWord_23 : decode cX5_nextWord 23 = .ok (.aload_n 0, 1) := dk_42 (dk_at dksX5_nextWord_0 23 rfl rfl)
theorem dX5_nextWord_24 : decode cX5_nextWord 24 = .ok (.getfield 22, 3) := dk_180 0 22 (dk_at dksX5_nextWord_1 0 rfl rfl)
theorem dX5_nextWord_27 : decode cX5_nextWord 27 = .ok (.aload_n 0, 1) := dk_42 (dk_at dksX5_nextWord_1 3 rfl rfl)
theorem dX5_nextWord_28 : decode cX5_nextWord 28 = .ok (.getfield 29, 3) := dk_180 0 29 (dk_at dksX5_nextWord_1 4 rfl rfl)
theorem dX5_nextWord_31 : decode cX5_nextWord 31 = .ok (.isub, 1) := dk_100 (dk_at dksX5_nextWord_1 7 rfl rfl)
theorem dX5_nextWord_32 : decode cX5_nextWord 32 = .ok (.bipush 8, 2) := dk_16 8 (dk_at dksX5_nextWord_1 8 rfl rfl)
theorem dX5_nextWord_34 : decode cX5_nextWord 34 = .ok (.if_icmp .le 4, 3) := dk_164 0 4 (dk_at dksX5_nextWord_1 10 rfl rfl)
theorem dX5_nextWord_37 : decode cX5_nextWord 37 = .ok (.return_, 1) := dk_177 (dk_at dksX5_nextWord_1 13 rfl rfl)
theorem dX5_nextWord_38 : decode cX5_nextWord 38 = .ok (.new 72, 3) := dk_187 0 72 (dk_at dksX5_nextWord_1 14 rfl rfl)
theorem dX5_nextWord_41 : decode cX5_nextWord 41 = .ok (.dup, 1) := dk_89 (dk_at dksX5_nextWord_1 17 rfl rfl)
theorem dX5_nextWord_42 : decode cX5_nextWord 42 = .ok (.invokespecial 74, 3) := dk_183 0 74 (dk_at dksX5_nextWord_1 18 rfl rfl)
theorem dX5_nextWord_45 : decode cX5_nextWord 45 = .ok (.astore_n 1, 1) := dk_76 (dk_at dksX5_nextWord_1 21 rfl rfl)
theorem dX5_nextWord_46 : decode cX5_nextWord 46 = .ok (.aload_n 0, 1) := dk_42 (dk_at dksX5_nextWord_1 22 rfl rfl)
theorem dX5_nextWord_47 : decode cX5_nextWord 47 = .ok (.getfield 29, 3) := dk_180 0 29 (dk_at dksX5_nextWord_2 0 rfl rfl)
theorem dX5_nextWord_50 : decode cX5_nextWord 50 = .ok (.istore_n 2, 1) := dk_61 (dk_at dksX5_nextWord_2 3 rfl rfl)
theorem dX5_nextWord_51 : decode cX5_nextWord 51 = .ok (.iload_n 2, 1) := dk_28 (dk_at dksX5_nextWord_2 4 rfl rfl)
theorem dX5_nextWord_52 : decode cX5_nextWord 52 = .ok (.aload_n 0, 1) := dk_42 (dk_at dksX5_nextWord_2 5 rfl rfl)
theorem dX5_nextWord_53 : decode cX5_nextWord 53 = .ok (.getfield 22, 3) := dk_180 0 22 (dk_at dksX5_nextWord_2 6 rfl rfl)
theorem dX5_nextWord_56 : decode cX5_nextWord 56 = .ok (.if_icmp .ge 21, 3) := dk_162 0 21 (dk_at dksX5_nextWord_2 9 rfl rfl)
theorem dX5_nextWord_59 : decode cX5_nextWord 59 = .ok (.aload_n 1, 1) := dk_43 (dk_at dksX5_nextWord_2 12 rfl rfl)
theorem dX5_nextWord_60 : decode cX5_nextWord 60 = .ok (.aload_n 0, 1) := dk_42 (dk_at dksX5_nextWord_2 13 rfl rfl)
theorem dX5_nextWord_61 : decode cX5_nextWord 61 = .ok (.getfield 9, 3) := dk_180 0 9 (dk_at dksX5_nextWord_2 14 rfl rfl)
theorem dX5_nextWord_64 : decode cX5_nextWord 64 = .ok (.iload_n 2, 1) := dk_28 (dk_at dksX5_nextWord_2 17 rfl rfl)
theorem dX5_nextWord_65 : decode cX5_nextWord 65 = .ok (.baload, 1) := dk_51 (dk_at dksX5_nextWord_2 18 rfl rfl)
theorem dX5_nextWord_66 : decode cX5_nextWord 66 = .ok (.i2c, 1) := dk_146 (dk_at dksX5_nextWord_2 19 rfl rfl)
theorem dX5_nextWord_67 : decode cX5_nextWord 67 = .ok (.invokevirtual 75, 3) := dk_182 0 75 (dk_at dksX5_nextWord_2 20 rfl rfl)
theorem dX5_nextWord_70 : decode cX5_nextWord 70 = .ok (.pop, 1) := dk_87 (dk_at dksX5_nextWord_2 23 rfl rfl)
theorem dX5_nextWord_71 : decode cX5_nextWord 71 = .ok (.iinc 2 1, 3) := dk_132 2 1 (dk_at dksX5_nextWord_3 0 rfl rfl)
theorem dX5_nextWord_74 : decode cX5_nextWord 74 = .ok (.goto (-23), 3) := dk_167 255 233 (dk_at dksX5_nextWord_3 3 rfl rfl)
theorem dX5_nextWord_77 : decode cX5_nextWord 77 = .ok (.aload_n 0, 1) := dk_42 (dk_at dksX5_nextWord_3 6 rfl rfl)
theorem dX5_nextWord_78 : decode cX5_nextWord 78 = .ok (.aload_n 1, 1) := dk_43 (dk_at dksX5_nextWord_3 7 rfl rfl)
theorem dX5_nextWord_79 : decode cX5_nextWord 79 = .ok (.invokevirtual 79, 3) := dk_182 0 79 (dk_at dksX5_nextWord_3 8 rfl rfl)
theorem dX5_nextWord_82 : decode cX5_nextWord 82 = .ok (.putfield 83, 3) := dk_181 0 83 (dk_at dksX5_nextWord_3 11 rfl rfl)
theorem dX5_nextWord_85 : decode cX5_nextWord 85 = .ok (.aload_n 0, 1) := dk_42 (dk_at dksX5_nextWord_3 14 rfl rfl)
theorem dX5_nextWord_86 : decode cX5_nextWord 86 = .ok (.getstatic 87, 3) := dk_178 0 87 (dk_at dksX5_nextWord_3 15 rfl rfl)
theorem dX5_nextWord_89 : decode cX5_nextWord 89 = .ok (.putfield 38, 3) := dk_181 0 38 (dk_at dksX5_nextWord_3 18 rfl rfl)
theorem dX5_nextWord_92 : decode cX5_nextWord 92 = .ok (.return_, 1) := dk_177 (dk_at dksX5_nextWord_3 21 rfl rfl)
abbrev cX5_isDigit : ByteArray := prog_16_method_4_code
def yX5_isDigit : MethodName := ⟨RX5, "isDigit", "(I)Z"⟩
def dkwX5_isDigit_0 : List UInt8 := [26, 16, 48, 161, 0, 13, 26, 16, 57, 163, 0, 7, 4, 167, 0, 4, 3, 172]
abbrev dktX5_isDigit_0 : List UInt8 := dkwX5_isDigit_0 ++ []
theorem dksX5_isDigit_0 : cX5_isDigit.data.toList.drop 0 = dktX5_isDigit_0 := by decide +kernel
theorem dX5_isDigit_0 : decode cX5_isDigit 0 = .ok (.iload_n 0, 1) := dk_26 (dk_at dksX5_isDigit_0 0 rfl rfl)
theorem dX5_isDigit_1 : decode cX5_isDigit 1 = .ok (.bipush 48, 2) := dk_16 48 (dk_at dksX5_isDigit_0 1 rfl rfl)
theorem dX5_isDigit_3 : decode cX5_isDigit 3 = .ok (.if_icmp .lt 13, 3) := dk_161 0 13 (dk_at dksX5_isDigit_0 3 rfl rfl)
theorem dX5_isDigit_6 : decode cX5_isDigit 6 = .ok (.iload_n 0, 1) := dk_26 (dk_at dksX5_isDigit_0 6 rfl rfl)
theorem dX5_isDigit_7 : decode cX5_isDigit 7 = .ok (.bipush 57, 2) := dk_16 57 (dk_at dksX5_isDigit_0 7 rfl rfl)
theorem dX5_isDigit_9 : decode cX5_isDigit 9 = .ok (.if_icmp .gt 7, 3) := dk_163 0 7 (dk_at dksX5_isDigit_0 9 rfl rfl)
theorem dX5_isDigit_12 : decode cX5_isDigit 12 = .ok (.iconst 1, 1) := dk_4 (dk_at dksX5_isDigit_0 12 rfl rfl)
theorem dX5_isDigit_13 : decode cX5_isDigit 13 = .ok (.goto 4, 3) := dk_167 0 4 (dk_at dksX5_isDigit_0 13 rfl rfl)
theorem dX5_isDigit_16 : decode cX5_isDigit 16 = .ok (.iconst 0, 1) := dk_3 (dk_at dksX5_isDigit_0 16 rfl rfl)
theorem dX5_isDigit_17 : decode cX5_isDigit 17 = .ok (.ireturn, 1) := dk_172 (dk_at dksX5_isDigit_0 17 rfl rfl)
abbrev cX5_nextWhole : ByteArray := prog_16_method_7_code
def yX5_nextWhole : MethodName := ⟨RX5, "nextWhole", "()V"⟩
def dkwX5_nextWhole_3 : List UInt8 := [100, 181, 0, 90, 132, 1, 1, 167, 255, 224, 42, 178, 0, 93, 181, 0, 38, 177]
abbrev dktX5_nextWhole_3 : List UInt8 := dkwX5_nextWhole_3 ++ []
def dkwX5_nextWhole_2 : List UInt8 := [42, 180, 0, 22, 162, 0, 30, 42, 16, 10, 42, 180, 0, 90, 104, 42, 180, 0, 9, 27, 51, 96, 16, 48]
abbrev dktX5_nextWhole_2 : List UInt8 := dkwX5_nextWhole_2 ++ dktX5_nextWhole_3
def dkwX5_nextWhole_1 : List UInt8 := [180, 0, 22, 42, 180, 0, 29, 100, 7, 164, 0, 4, 177, 42, 3, 181, 0, 90, 42, 180, 0, 29, 60, 27]
abbrev dktX5_nextWhole_1 : List UInt8 := dkwX5_nextWhole_1 ++ dktX5_nextWhole_2
def dkwX5_nextWhole_0 : List UInt8 := [42, 182, 0, 25, 184, 0, 51, 153, 0, 16, 42, 89, 180, 0, 22, 4, 96, 181, 0, 22, 167, 255, 236, 42]
abbrev dktX5_nextWhole_0 : List UInt8 := dkwX5_nextWhole_0 ++ dktX5_nextWhole_1
theorem dksX5_nextWhole_0 : cX5_nextWhole.data.toList.drop 0 = dktX5_nextWhole_0 := by decide +kernel
theorem dksX5_nextWhole_1 : cX5_nextWhole.data.toList.drop 24 = dktX5_nextWhole_1 := dk_seg dksX5_nextWhole_0 24 rfl rfl
theorem dksX5_nextWhole_2 : cX5_nextWhole.data.toList.drop 48 = dktX5_nextWhole_2 := dk_seg dksX5_nextWhole_1 24 rfl rfl
theorem dksX5_nextWhole_3 : cX5_nextWhole.data.toList.drop 72 = dktX5_nextWhole_3 := dk_seg dksX5_nextWhole_2 24 rfl rfl
theorem dX5_nextWhole_0 : decode cX5_nextWhole 0 = .ok (.aload_n 0, 1) := dk_42 (dk_at dksX5_nextWhole_0 0 rfl rfl)
theorem dX5_nextWhole_1 : decode cX5_nextWhole 1 = .ok (.invokevirtual 25, 3) := dk_182 0 25 (dk_at dksX5_nextWhole_0 1 rfl rfl)
theorem dX5_nextWhole_4 : decode cX5_nextWhole 4 = .ok (.invokestatic 51, 3) := dk_184 0 51 (dk_at dksX5_nextWhole_0 4 rfl rfl)
theorem dX5_nextWhole_7 : decode cX5_nextWhole 7 = .ok (.ifCond .eq 16, 3) := dk_153 0 16 (dk_at dksX5_nextWhole_0 7 rfl rfl)
theorem dX5_nextWhole_10 : decode cX5_nextWhole 10 = .ok (.aload_n 0, 1) := dk_42 (dk_at dksX5_nextWhole_0 10 rfl rfl)
theorem dX5_nextWhole_11 : decode cX5_nextWhole 11 = .ok (.dup, 1) := dk_89 (dk_at dksX5_nextWhole_0 11 rfl rfl)
theorem dX5_nextWhole_12 : decode cX5_nextWhole 12 = .ok (.getfield 22, 3) := dk_180 0 22 (dk_at dksX5_nextWhole_0 12 rfl rfl)
theorem dX5_nextWhole_15 : decode cX5_nextWhole 15 = .ok (.iconst 1, 1) := dk_4 (dk_at dksX5_nextWhole_0 15 rfl rfl)
theorem dX5_nextWhole_16 : decode cX5_nextWhole 16 = .ok (.iadd, 1) := dk_96 (dk_at dksX5_nextWhole_0 16 rfl rfl)
theorem dX5_nextWhole_17 : decode cX5_nextWhole 17 = .ok (.putfield 22, 3) := dk_181 0 22 (dk_at dksX5_nextWhole_0 17 rfl rfl)
theorem dX5_nextWhole_20 : decode cX5_nextWhole 20 = .ok (.goto (-20), 3) := dk_167 255 236 (dk_at dksX5_nextWhole_0 20 rfl rfl)
theorem dX5_nextWhole_23 : decode cX5_nextWhole 23 = .ok (.aload_n 0, 1) := dk_42 (dk_at dksX5_nextWhole_0 23 rfl rfl)
theorem dX5_nextWhole_24 : decode cX5_nextWhole 24 = .ok (.getfield 22, 3) := dk_180 0 22 (dk_at dksX5_nextWhole_1 0 rfl rfl)
theorem dX5_nextWhole_27 : decode cX5_nextWhole 27 = .ok (.aload_n 0, 1) := dk_42 (dk_at dksX5_nextWhole_1 3 rfl rfl)
theorem dX5_nextWhole_28 : decode cX5_nextWhole 28 = .ok (.getfield 29, 3) := dk_180 0 29 (dk_at dksX5_nextWhole_1 4 rfl rfl)
theorem dX5_nextWhole_31 : decode cX5_nextWhole 31 = .ok (.isub, 1) := dk_100 (dk_at dksX5_nextWhole_1 7 rfl rfl)
theorem dX5_nextWhole_32 : decode cX5_nextWhole 32 = .ok (.iconst 4, 1) := dk_7 (dk_at dksX5_nextWhole_1 8 rfl rfl)
theorem dX5_nextWhole_33 : decode cX5_nextWhole 33 = .ok (.if_icmp .le 4, 3) := dk_164 0 4 (dk_at dksX5_nextWhole_1 9 rfl rfl)
theorem dX5_nextWhole_36 : decode cX5_nextWhole 36 = .ok (.return_, 1) := dk_177 (dk_at dksX5_nextWhole_1 12 rfl rfl)
theorem dX5_nextWhole_37 : decode cX5_nextWhole 37 = .ok (.aload_n 0, 1) := dk_42 (dk_at dksX5_nextWhole_1 13 rfl rfl)
theorem dX5_nextWhole_38 : decode cX5_nextWhole 38 = .ok (.iconst 0, 1) := dk_3 (dk_at dksX5_nextWhole_1 14 rfl rfl)
theorem dX5_nextWhole_39 : decode cX5_nextWhole 39 = .ok (.putfield 90, 3) := dk_181 0 90 (dk_at dksX5_nextWhole_1 15 rfl rfl)
theorem dX5_nextWhole_42 : decode cX5_nextWhole 42 = .ok (.aload_n 0, 1) := dk_42 (dk_at dksX5_nextWhole_1 18 rfl rfl)
theorem dX5_nextWhole_43 : decode cX5_nextWhole 43 = .ok (.getfield 29, 3) := dk_180 0 29 (dk_at dksX5_nextWhole_1 19 rfl rfl)
theorem dX5_nextWhole_46 : decode cX5_nextWhole 46 = .ok (.istore_n 1, 1) := dk_60 (dk_at dksX5_nextWhole_1 22 rfl rfl)
theorem dX5_nextWhole_47 : decode cX5_nextWhole 47 = .ok (.iload_n 1, 1) := dk_27 (dk_at dksX5_nextWhole_1 23 rfl rfl)
theorem dX5_nextWhole_48 : decode cX5_nextWhole 48 = .ok (.aload_n 0, 1) := dk_42 (dk_at dksX5_nextWhole_2 0 rfl rfl)
theorem dX5_nextWhole_49 : decode cX5_nextWhole 49 = .ok (.getfield 22, 3) := dk_180 0 22 (dk_at dksX5_nextWhole_2 1 rfl rfl)
theorem dX5_nextWhole_52 : decode cX5_nextWhole 52 = .ok (.if_icmp .ge 30, 3) := dk_162 0 30 (dk_at dksX5_nextWhole_2 4 rfl rfl)
theorem dX5_nextWhole_55 : decode cX5_nextWhole 55 = .ok (.aload_n 0, 1) := dk_42 (dk_at dksX5_nextWhole_2 7 rfl rfl)
theorem dX5_nextWhole_56 : decode cX5_nextWhole 56 = .ok (.bipush 10, 2) := dk_16 10 (dk_at dksX5_nextWhole_2 8 rfl rfl)
theorem dX5_nextWhole_58 : decode cX5_nextWhole 58 = .ok (.aload_n 0, 1) := dk_42 (dk_at dksX5_nextWhole_2 10 rfl rfl)
theorem dX5_nextWhole_59 : decode cX5_nextWhole 59 = .ok (.getfield 90, 3) := dk_180 0 90 (dk_at dksX5_nextWhole_2 11 rfl rfl)
theorem dX5_nextWhole_62 : decode cX5_nextWhole 62 = .ok (.imul, 1) := dk_104 (dk_at dksX5_nextWhole_2 14 rfl rfl)
theorem dX5_nextWhole_63 : decode cX5_nextWhole 63 = .ok (.aload_n 0, 1) := dk_42 (dk_at dksX5_nextWhole_2 15 rfl rfl)
theorem dX5_nextWhole_64 : decode cX5_nextWhole 64 = .ok (.getfield 9, 3) := dk_180 0 9 (dk_at dksX5_nextWhole_2 16 rfl rfl)
theorem dX5_nextWhole_67 : decode cX5_nextWhole 67 = .ok (.iload_n 1, 1) := dk_27 (dk_at dksX5_nextWhole_2 19 rfl rfl)
theorem dX5_nextWhole_68 : decode cX5_nextWhole 68 = .ok (.baload, 1) := dk_51 (dk_at dksX5_nextWhole_2 20 rfl rfl)
theorem dX5_nextWhole_69 : decode cX5_nextWhole 69 = .ok (.iadd, 1) := dk_96 (dk_at dksX5_nextWhole_2 21 rfl rfl)
theorem dX5_nextWhole_70 : decode cX5_nextWhole 70 = .ok (.bipush 48, 2) := dk_16 48 (dk_at dksX5_nextWhole_2 22 rfl rfl)
theorem dX5_nextWhole_72 : decode cX5_nextWhole 72 = .ok (.isub, 1) := dk_100 (dk_at dksX5_nextWhole_3 0 rfl rfl)
theorem dX5_nextWhole_73 : decode cX5_nextWhole 73 = .ok (.putfield 90, 3) := dk_181 0 90 (dk_at dksX5_nextWhole_3 1 rfl rfl)
theorem dX5_nextWhole_76 : decode cX5_nextWhole 76 = .ok (.iinc 1 1, 3) := dk_132 1 1 (dk_at dksX5_nextWhole_3 4 rfl rfl)
theorem dX5_nextWhole_79 : decode cX5_nextWhole 79 = .ok (.goto (-32), 3) := dk_167 255 224 (dk_at dksX5_nextWhole_3 7 rfl rfl)
theorem dX5_nextWhole_82 : decode cX5_nextWhole 82 = .ok (.aload_n 0, 1) := dk_42 (dk_at dksX5_nextWhole_3 10 rfl rfl)
theorem dX5_nextWhole_83 : decode cX5_nextWhole 83 = .ok (.getstatic 93, 3) := dk_178 0 93 (dk_at dksX5_nextWhole_3 11 rfl rfl)
theorem dX5_nextWhole_86 : decode cX5_nextWhole 86 = .ok (.putfield 38, 3) := dk_181 0 38 (dk_at dksX5_nextWhole_3 14 rfl rfl)
theorem dX5_nextWhole_89 : decode cX5_nextWhole 89 = .ok (.return_, 1) := dk_177 (dk_at dksX5_nextWhole_3 17 rfl rfl)
abbrev cX5_skips : ByteArray := prog_16_method_11_code
def yX5_skips : MethodName := ⟨RX5, "skips", "(Ljava/lang/String;)Z"⟩
def dkwX5_skips_1 : List UInt8 := [182, 0, 116, 61, 28, 153, 0, 7, 42, 182, 0, 19, 28, 172]
abbrev dktX5_skips_1 : List UInt8 := dkwX5_skips_1 ++ []
def dkwX5_skips_0 : List UInt8 := [43, 182, 0, 105, 4, 164, 0, 11, 42, 43, 182, 0, 108, 167, 0, 12, 42, 43, 3, 182, 0, 112]
abbrev dktX5_skips_0 : List UInt8 := dkwX5_skips_0 ++ dktX5_skips_1
theorem dksX5_skips_0 : cX5_skips.data.toList.drop 0 = dktX5_skips_0 := by decide +kernel
theorem dksX5_skips_1 : cX5_skips.data.toList.drop 22 = dktX5_skips_1 := dk_seg dksX5_skips_0 22 rfl rfl
theorem dX5_skips_0 : decode cX5_skips 0 = .ok (.aload_n 1, 1) := dk_43 (dk_at dksX5_skips_0 0 rfl rfl)
theorem dX5_skips_1 : decode cX5_skips 1 = .ok (.invokevirtual 105, 3) := dk_182 0 105 (dk_at dksX5_skips_0 1 rfl rfl)
theorem dX5_skips_4 : decode cX5_skips 4 = .ok (.iconst 1, 1) := dk_4 (dk_at dksX5_skips_0 4 rfl rfl)
theorem dX5_skips_5 : decode cX5_skips 5 = .ok (.if_icmp .le 11, 3) := dk_164 0 11 (dk_at dksX5_skips_0 5 rfl rfl)
theorem dX5_skips_8 : decode cX5_skips 8 = .ok (.aload_n 0, 1) := dk_42 (dk_at dksX5_skips_0 8 rfl rfl)
theorem dX5_skips_9 : decode cX5_skips 9 = .ok (.aload_n 1, 1) := dk_43 (dk_at dksX5_skips_0 9 rfl rfl)
theorem dX5_skips_10 : decode cX5_skips 10 = .ok (.invokevirtual 108, 3) := dk_182 0 108 (dk_at dksX5_skips_0 10 rfl rfl)
theorem dX5_skips_13 : decode cX5_skips 13 = .ok (.goto 12, 3) := dk_167 0 12 (dk_at dksX5_skips_0 13 rfl rfl)
theorem dX5_skips_16 : decode cX5_skips 16 = .ok (.aload_n 0, 1) := dk_42 (dk_at dksX5_skips_0 16 rfl rfl)
theorem dX5_skips_17 : decode cX5_skips 17 = .ok (.aload_n 1, 1) := dk_43 (dk_at dksX5_skips_0 17 rfl rfl)
theorem dX5_skips_18 : decode cX5_skips 18 = .ok (.iconst 0, 1) := dk_3 (dk_at dksX5_skips_0 18 rfl rfl)
theorem dX5_skips_19 : decode cX5_skips 19 = .ok (.invokevirtual 112, 3) := dk_182 0 112 (dk_at dksX5_skips_0 19 rfl rfl)
theorem dX5_skips_22 : decode cX5_skips 22 = .ok (.invokevirtual 116, 3) := dk_182 0 116 (dk_at dksX5_skips_1 0 rfl rfl)
theorem dX5_skips_25 : decode cX5_skips 25 = .ok (.istore_n 2, 1) := dk_61 (dk_at dksX5_skips_1 3 rfl rfl)
theorem dX5_skips_26 : decode cX5_skips 26 = .ok (.iload_n 2, 1) := dk_28 (dk_at dksX5_skips_1 4 rfl rfl)
theorem dX5_skips_27 : decode cX5_skips 27 = .ok (.ifCond .eq 7, 3) := dk_153 0 7 (dk_at dksX5_skips_1 5 rfl rfl)
theorem dX5_skips_30 : decode cX5_skips 30 = .ok (.aload_n 0, 1) := dk_42 (dk_at dksX5_skips_1 8 rfl rfl)
theorem dX5_skips_31 : decode cX5_skips 31 = .ok (.invokevirtual 19, 3) := dk_182 0 19 (dk_at dksX5_skips_1 9 rfl rfl)
theorem dX5_skips_34 : decode cX5_skips 34 = .ok (.iload_n 2, 1) := dk_28 (dk_at dksX5_skips_1 12 rfl rfl)
theorem dX5_skips_35 : decode cX5_skips 35 = .ok (.ireturn, 1) := dk_172 (dk_at dksX5_skips_1 13 rfl rfl)
abbrev cX5_is : ByteArray := prog_16_method_9_code
def yX5_is : MethodName := ⟨RX5, "is", "(Ljava/lang/String;)Z"⟩
def dkwX5_is_1 : List UInt8 := [167, 0, 4, 3, 172]
abbrev dktX5_is_1 : List UInt8 := dkwX5_is_1 ++ []
def dkwX5_is_0 : List UInt8 := [42, 180, 0, 38, 178, 0, 87, 166, 0, 18, 42, 180, 0, 83, 43, 182, 0, 101, 153, 0, 7, 4]
abbrev dktX5_is_0 : List UInt8 := dkwX5_is_0 ++ dktX5_is_1
theorem dksX5_is_0 : cX5_is.data.toList.drop 0 = dktX5_is_0 := by decide +kernel
theorem dksX5_is_1 : cX5_is.data.toList.drop 22 = dktX5_is_1 := dk_seg dksX5_is_0 22 rfl rfl
theorem dX5_is_0 : decode cX5_is 0 = .ok (.aload_n 0, 1) := dk_42 (dk_at dksX5_is_0 0 rfl rfl)
theorem dX5_is_1 : decode cX5_is 1 = .ok (.getfield 38, 3) := dk_180 0 38 (dk_at dksX5_is_0 1 rfl rfl)
theorem dX5_is_4 : decode cX5_is 4 = .ok (.getstatic 87, 3) := dk_178 0 87 (dk_at dksX5_is_0 4 rfl rfl)
theorem dX5_is_7 : decode cX5_is 7 = .ok (.if_acmp .ne 18, 3) := dk_166 0 18 (dk_at dksX5_is_0 7 rfl rfl)
theorem dX5_is_10 : decode cX5_is 10 = .ok (.aload_n 0, 1) := dk_42 (dk_at dksX5_is_0 10 rfl rfl)
theorem dX5_is_11 : decode cX5_is 11 = .ok (.getfield 83, 3) := dk_180 0 83 (dk_at dksX5_is_0 11 rfl rfl)
theorem dX5_is_14 : decode cX5_is 14 = .ok (.aload_n 1, 1) := dk_43 (dk_at dksX5_is_0 14 rfl rfl)
theorem dX5_is_15 : decode cX5_is 15 = .ok (.invokevirtual 101, 3) := dk_182 0 101 (dk_at dksX5_is_0 15 rfl rfl)
theorem dX5_is_18 : decode cX5_is 18 = .ok (.ifCond .eq 7, 3) := dk_153 0 7 (dk_at dksX5_is_0 18 rfl rfl)
theorem dX5_is_21 : decode cX5_is 21 = .ok (.iconst 1, 1) := dk_4 (dk_at dksX5_is_0 21 rfl rfl)
theorem dX5_is_22 : decode cX5_is 22 = .ok (.goto 4, 3) := dk_167 0 4 (dk_at dksX5_is_1 0 rfl rfl)
theorem dX5_is_25 : decode cX5_is 25 = .ok (.iconst 0, 1) := dk_3 (dk_at dksX5_is_1 3 rfl rfl)
theorem dX5_is_26 : decode cX5_is 26 = .ok (.ireturn, 1) := dk_172 (dk_at dksX5_is_1 4 rfl rfl)
abbrev cX5_is_2 : ByteArray := prog_16_method_10_code
def yX5_is_2 : MethodName := ⟨RX5, "is", "(C)Z"⟩
def dkwX5_is_2_0 : List UInt8 := [42, 180, 0, 38, 178, 0, 65, 166, 0, 15, 42, 180, 0, 68, 27, 160, 0, 7, 4, 167, 0, 4, 3, 172]
abbrev dktX5_is_2_0 : List UInt8 := dkwX5_is_2_0 ++ []
theorem dksX5_is_2_0 : cX5_is_2.data.toList.drop 0 = dktX5_is_2_0 := by decide +kernel
theorem dX5_is_2_0 : decode cX5_is_2 0 = .ok (.aload_n 0, 1) := dk_42 (dk_at dksX5_is_2_0 0 rfl rfl)
theorem dX5_is_2_1 : decode cX5_is_2 1 = .ok (.getfield 38, 3) := dk_180 0 38 (dk_at dksX5_is_2_0 1 rfl rfl)
theorem dX5_is_2_4 : decode cX5_is_2 4 = .ok (.getstatic 65, 3) := dk_178 0 65 (dk_at dksX5_is_2_0 4 rfl rfl)
theorem dX5_is_2_7 : decode cX5_is_2 7 = .ok (.if_acmp .ne 15, 3) := dk_166 0 15 (dk_at dksX5_is_2_0 7 rfl rfl)
theorem dX5_is_2_10 : decode cX5_is_2 10 = .ok (.aload_n 0, 1) := dk_42 (dk_at dksX5_is_2_0 10 rfl rfl)
theorem dX5_is_2_11 : decode cX5_is_2 11 = .ok (.getfield 68, 3) := dk_180 0 68 (dk_at dksX5_is_2_0 11 rfl rfl)
theorem dX5_is_2_14 : decode cX5_is_2 14 = .ok (.iload_n 1, 1) := dk_27 (dk_at dksX5_is_2_0 14 rfl rfl)
theorem dX5_is_2_15 : decode cX5_is_2 15 = .ok (.if_icmp .ne 7, 3) := dk_160 0 7 (dk_at dksX5_is_2_0 15 rfl rfl)
theorem dX5_is_2_18 : decode cX5_is_2 18 = .ok (.iconst 1, 1) := dk_4 (dk_at dksX5_is_2_0 18 rfl rfl)
theorem dX5_is_2_19 : decode cX5_is_2 19 = .ok (.goto 4, 3) := dk_167 0 4 (dk_at dksX5_is_2_0 19 rfl rfl)
theorem dX5_is_2_22 : decode cX5_is_2 22 = .ok (.iconst 0, 1) := dk_3 (dk_at dksX5_is_2_0 22 rfl rfl)
theorem dX5_is_2_23 : decode cX5_is_2 23 = .ok (.ireturn, 1) := dk_172 (dk_at dksX5_is_2_0 23 rfl rfl)
abbrev cX5_name : ByteArray := prog_16_method_15_code
def yX5_name : MethodName := ⟨RX5, "name", "()Ljava/lang/String;"⟩
def dkwX5_name_0 : List UInt8 := [42, 182, 0, 146, 154, 0, 9, 42, 4, 182, 0, 122, 191, 42, 180, 0, 83, 176]
abbrev dktX5_name_0 : List UInt8 := dkwX5_name_0 ++ []
theorem dksX5_name_0 : cX5_name.data.toList.drop 0 = dktX5_name_0 := by decide +kernel
theorem dX5_name_0 : decode cX5_name 0 = .ok (.aload_n 0, 1) := dk_42 (dk_at dksX5_name_0 0 rfl rfl)
theorem dX5_name_1 : decode cX5_name 1 = .ok (.invokevirtual 146, 3) := dk_182 0 146 (dk_at dksX5_name_0 1 rfl rfl)
theorem dX5_name_4 : decode cX5_name 4 = .ok (.ifCond .ne 9, 3) := dk_154 0 9 (dk_at dksX5_name_0 4 rfl rfl)
theorem dX5_name_7 : decode cX5_name 7 = .ok (.aload_n 0, 1) := dk_42 (dk_at dksX5_name_0 7 rfl rfl)
theorem dX5_name_8 : decode cX5_name 8 = .ok (.iconst 1, 1) := dk_4 (dk_at dksX5_name_0 8 rfl rfl)
theorem dX5_name_9 : decode cX5_name 9 = .ok (.invokevirtual 122, 3) := dk_182 0 122 (dk_at dksX5_name_0 9 rfl rfl)
theorem dX5_name_12 : decode cX5_name 12 = .ok (.athrow, 1) := dk_191 (dk_at dksX5_name_0 12 rfl rfl)
theorem dX5_name_13 : decode cX5_name 13 = .ok (.aload_n 0, 1) := dk_42 (dk_at dksX5_name_0 13 rfl rfl)
theorem dX5_name_14 : decode cX5_name 14 = .ok (.getfield 83, 3) := dk_180 0 83 (dk_at dksX5_name_0 14 rfl rfl)
theorem dX5_name_17 : decode cX5_name 17 = .ok (.areturn, 1) := dk_176 (dk_at dksX5_name_0 17 rfl rfl)
abbrev cX5_isName : ByteArray := prog_16_method_14_code
def yX5_isName : MethodName := ⟨RX5, "isName", "()Z"⟩
def dkwX5_isName_7 : List UInt8 := [3, 172, 42, 180, 0, 83, 184, 0, 140, 199, 0, 7, 4, 167, 0, 4, 3, 172]
abbrev dktX5_isName_7 : List UInt8 := dkwX5_isName_7 ++ []
def dkwX5_isName_6 : List UInt8 := [170, 0, 0, 0, 0, 40, 0, 0, 0, 0, 0, 0, 0, 5, 0, 0, 0, 38, 0, 0, 0, 38, 0, 0, 0, 38, 0, 0, 0, 38, 0, 0, 0, 38, 0, 0, 0, 38]
abbrev dktX5_isName_6 : List UInt8 := dkwX5_isName_6 ++ dktX5_isName_7
def dkwX5_isName_5 : List UInt8 := [18, 138, 182, 0, 101, 153, 0, 5, 8, 61, 28]
abbrev dktX5_isName_5 : List UInt8 := dkwX5_isName_5 ++ dktX5_isName_6
def dkwX5_isName_4 : List UInt8 := [153, 0, 33, 6, 61, 167, 0, 28, 43, 18, 137, 182, 0, 101, 153, 0, 19, 7, 61, 167, 0, 14, 43]
abbrev dktX5_isName_4 : List UInt8 := dkwX5_isName_4 ++ dktX5_isName_5
def dkwX5_isName_3 : List UInt8 := [61, 167, 0, 56, 43, 18, 133, 182, 0, 101, 153, 0, 47, 5, 61, 167, 0, 42, 43, 18, 135, 182, 0, 101]
abbrev dktX5_isName_3 : List UInt8 := dkwX5_isName_3 ++ dktX5_isName_4
def dkwX5_isName_2 : List UInt8 := [43, 18, 129, 182, 0, 101, 153, 0, 75, 3, 61, 167, 0, 70, 43, 18, 131, 182, 0, 101, 153, 0, 61, 4]
abbrev dktX5_isName_2 : List UInt8 := dkwX5_isName_2 ++ dktX5_isName_3
def dkwX5_isName_1 : List UInt8 := [171, 0, 0, 0, 138, 0, 0, 0, 6, 182, 61, 217, 135, 0, 0, 0, 57, 0, 0, 13, 29, 0, 0, 0, 99, 0, 0, 13, 42, 0, 0, 0, 113, 0, 1, 193, 187, 0, 0, 0, 85, 0, 47, 141, 57, 0, 0, 0, 127, 6, 122, 180, 70, 0, 0, 0, 71]
abbrev dktX5_isName_1 : List UInt8 := dkwX5_isName_1 ++ dktX5_isName_2
def dkwX5_isName_0 : List UInt8 := [42, 180, 0, 38, 178, 0, 87, 165, 0, 5, 3, 172, 42, 180, 0, 83, 76, 2, 61, 43, 182, 0, 126]
abbrev dktX5_isName_0 : List UInt8 := dkwX5_isName_0 ++ dktX5_isName_1
theorem dksX5_isName_0 : cX5_isName.data.toList.drop 0 = dktX5_isName_0 := by decide +kernel
theorem dksX5_isName_1 : cX5_isName.data.toList.drop 23 = dktX5_isName_1 := dk_seg dksX5_isName_0 23 rfl rfl
theorem dksX5_isName_2 : cX5_isName.data.toList.drop 80 = dktX5_isName_2 := dk_seg dksX5_isName_1 57 rfl rfl
theorem dksX5_isName_3 : cX5_isName.data.toList.drop 104 = dktX5_isName_3 := dk_seg dksX5_isName_2 24 rfl rfl
theorem dksX5_isName_4 : cX5_isName.data.toList.drop 128 = dktX5_isName_4 := dk_seg dksX5_isName_3 24 rfl rfl
theorem dksX5_isName_5 : cX5_isName.data.toList.drop 151 = dktX5_isName_5 := dk_seg dksX5_isName_4 23 rfl rfl
theorem dksX5_isName_6 : cX5_isName.data.toList.drop 162 = dktX5_isName_6 := dk_seg dksX5_isName_5 11 rfl rfl
theorem dksX5_isName_7 : cX5_isName.data.toList.drop 200 = dktX5_isName_7 := dk_seg dksX5_isName_6 38 rfl rfl
theorem dX5_isName_0 : decode cX5_isName 0 = .ok (.aload_n 0, 1) := dk_42 (dk_at dksX5_isName_0 0 rfl rfl)
theorem dX5_isName_1 : decode cX5_isName 1 = .ok (.getfield 38, 3) := dk_180 0 38 (dk_at dksX5_isName_0 1 rfl rfl)
theorem dX5_isName_4 : decode cX5_isName 4 = .ok (.getstatic 87, 3) := dk_178 0 87 (dk_at dksX5_isName_0 4 rfl rfl)
theorem dX5_isName_7 : decode cX5_isName 7 = .ok (.if_acmp .eq 5, 3) := dk_165 0 5 (dk_at dksX5_isName_0 7 rfl rfl)
theorem dX5_isName_10 : decode cX5_isName 10 = .ok (.iconst 0, 1) := dk_3 (dk_at dksX5_isName_0 10 rfl rfl)
theorem dX5_isName_11 : decode cX5_isName 11 = .ok (.ireturn, 1) := dk_172 (dk_at dksX5_isName_0 11 rfl rfl)
theorem dX5_isName_12 : decode cX5_isName 12 = .ok (.aload_n 0, 1) := dk_42 (dk_at dksX5_isName_0 12 rfl rfl)
theorem dX5_isName_13 : decode cX5_isName 13 = .ok (.getfield 83, 3) := dk_180 0 83 (dk_at dksX5_isName_0 13 rfl rfl)
theorem dX5_isName_16 : decode cX5_isName 16 = .ok (.astore_n 1, 1) := dk_76 (dk_at dksX5_isName_0 16 rfl rfl)
theorem dX5_isName_17 : decode cX5_isName 17 = .ok (.iconst (-1), 1) := dk_2 (dk_at dksX5_isName_0 17 rfl rfl)
theorem dX5_isName_18 : decode cX5_isName 18 = .ok (.istore_n 2, 1) := dk_61 (dk_at dksX5_isName_0 18 rfl rfl)
theorem dX5_isName_19 : decode cX5_isName 19 = .ok (.aload_n 1, 1) := dk_43 (dk_at dksX5_isName_0 19 rfl rfl)
theorem dX5_isName_20 : decode cX5_isName 20 = .ok (.invokevirtual 126, 3) := dk_182 0 126 (dk_at dksX5_isName_0 20 rfl rfl)
theorem dX5_isName_23 : decode cX5_isName 23 = .ok (.lookupswitch 138 #[(-1237460601, 57), (3357, 99), (3370, 113), (115131, 85), (3116345, 127), (108704838, 71)], 57) := by decide +kernel
theorem dX5_isName_80 : decode cX5_isName 80 = .ok (.aload_n 1, 1) := dk_43 (dk_at dksX5_isName_2 0 rfl rfl)
theorem dX5_isName_81 : decode cX5_isName 81 = .ok (.ldc 129, 2) := dk_18 129 (dk_at dksX5_isName_2 1 rfl rfl)
theorem dX5_isName_83 : decode cX5_isName 83 = .ok (.invokevirtual 101, 3) := dk_182 0 101 (dk_at dksX5_isName_2 3 rfl rfl)
theorem dX5_isName_86 : decode cX5_isName 86 = .ok (.ifCond .eq 75, 3) := dk_153 0 75 (dk_at dksX5_isName_2 6 rfl rfl)
theorem dX5_isName_89 : decode cX5_isName 89 = .ok (.iconst 0, 1) := dk_3 (dk_at dksX5_isName_2 9 rfl rfl)
theorem dX5_isName_90 : decode cX5_isName 90 = .ok (.istore_n 2, 1) := dk_61 (dk_at dksX5_isName_2 10 rfl rfl)
theorem dX5_isName_91 : decode cX5_isName 91 = .ok (.goto 70, 3) := dk_167 0 70 (dk_at dksX5_isName_2 11 rfl rfl)
theorem dX5_isName_94 : decode cX5_isName 94 = .ok (.aload_n 1, 1) := dk_43 (dk_at dksX5_isName_2 14 rfl rfl)
theorem dX5_isName_95 : decode cX5_isName 95 = .ok (.ldc 131, 2) := dk_18 131 (dk_at dksX5_isName_2 15 rfl rfl)
theorem dX5_isName_97 : decode cX5_isName 97 = .ok (.invokevirtual 101, 3) := dk_182 0 101 (dk_at dksX5_isName_2 17 rfl rfl)
theorem dX5_isName_100 : decode cX5_isName 100 = .ok (.ifCond .eq 61, 3) := dk_153 0 61 (dk_at dksX5_isName_2 20 rfl rfl)
theorem dX5_isName_103 : decode cX5_isName 103 = .ok (.iconst 1, 1) := dk_4 (dk_at dksX5_isName_2 23 rfl rfl)
theorem dX5_isName_104 : decode cX5_isName 104 = .ok (.istore_n 2, 1) := dk_61 (dk_at dksX5_isName_3 0 rfl rfl)
theorem dX5_isName_105 : decode cX5_isName 105 = .ok (.goto 56, 3) := dk_167 0 56 (dk_at dksX5_isName_3 1 rfl rfl)
theorem dX5_isName_108 : decode cX5_isName 108 = .ok (.aload_n 1, 1) := dk_43 (dk_at dksX5_isName_3 4 rfl rfl)
theorem dX5_isName_109 : decode cX5_isName 109 = .ok (.ldc 133, 2) := dk_18 133 (dk_at dksX5_isName_3 5 rfl rfl)
theorem dX5_isName_111 : decode cX5_isName 111 = .ok (.invokevirtual 101, 3) := dk_182 0 101 (dk_at dksX5_isName_3 7 rfl rfl)
theorem dX5_isName_114 : decode cX5_isName 114 = .ok (.ifCond .eq 47, 3) := dk_153 0 47 (dk_at dksX5_isName_3 10 rfl rfl)
theorem dX5_isName_117 : decode cX5_isName 117 = .ok (.iconst 2, 1) := dk_5 (dk_at dksX5_isName_3 13 rfl rfl)
theorem dX5_isName_118 : decode cX5_isName 118 = .ok (.istore_n 2, 1) := dk_61 (dk_at dksX5_isName_3 14 rfl rfl)
theorem dX5_isName_119 : decode cX5_isName 119 = .ok (.goto 42, 3) := dk_167 0 42 (dk_at dksX5_isName_3 15 rfl rfl)
theorem dX5_isName_122 : decode cX5_isName 122 = .ok (.aload_n 1, 1) := dk_43 (dk_at dksX5_isName_3 18 rfl rfl)
theorem dX5_isName_123 : decode cX5_isName 123 = .ok (.ldc 135, 2) := dk_18 135 (dk_at dksX5_isName_3 19 rfl rfl)
theorem dX5_isName_125 : decode cX5_isName 125 = .ok (.invokevirtual 101, 3) := dk_182 0 101 (dk_at dksX5_isName_3 21 rfl rfl)
theorem dX5_isName_128 : decode cX5_isName 128 = .ok (.ifCond .eq 33, 3) := dk_153 0 33 (dk_at dksX5_isName_4 0 rfl rfl)
theorem dX5_isName_131 : decode cX5_isName 131 = .ok (.iconst 3, 1) := dk_6 (dk_at dksX5_isName_4 3 rfl rfl)
theorem dX5_isName_132 : decode cX5_isName 132 = .ok (.istore_n 2, 1) := dk_61 (dk_at dksX5_isName_4 4 rfl rfl)
theorem dX5_isName_133 : decode cX5_isName 133 = .ok (.goto 28, 3) := dk_167 0 28 (dk_at dksX5_isName_4 5 rfl rfl)
theorem dX5_isName_136 : decode cX5_isName 136 = .ok (.aload_n 1, 1) := dk_43 (dk_at dksX5_isName_4 8 rfl rfl)
theorem dX5_isName_137 : decode cX5_isName 137 = .ok (.ldc 137, 2) := dk_18 137 (dk_at dksX5_isName_4 9 rfl rfl)
theorem dX5_isName_139 : decode cX5_isName 139 = .ok (.invokevirtual 101, 3) := dk_182 0 101 (dk_at dksX5_isName_4 11 rfl rfl)
theorem dX5_isName_142 : decode cX5_isName 142 = .ok (.ifCond .eq 19, 3) := dk_153 0 19 (dk_at dksX5_isName_4 14 rfl rfl)
theorem dX5_isName_145 : decode cX5_isName 145 = .ok (.iconst 4, 1) := dk_7 (dk_at dksX5_isName_4 17 rfl rfl)
theorem dX5_isName_146 : decode cX5_isName 146 = .ok (.istore_n 2, 1) := dk_61 (dk_at dksX5_isName_4 18 rfl rfl)
theorem dX5_isName_147 : decode cX5_isName 147 = .ok (.goto 14, 3) := dk_167 0 14 (dk_at dksX5_isName_4 19 rfl rfl)
theorem dX5_isName_150 : decode cX5_isName 150 = .ok (.aload_n 1, 1) := dk_43 (dk_at dksX5_isName_4 22 rfl rfl)
theorem dX5_isName_151 : decode cX5_isName 151 = .ok (.ldc 138, 2) := dk_18 138 (dk_at dksX5_isName_5 0 rfl rfl)
theorem dX5_isName_153 : decode cX5_isName 153 = .ok (.invokevirtual 101, 3) := dk_182 0 101 (dk_at dksX5_isName_5 2 rfl rfl)
theorem dX5_isName_156 : decode cX5_isName 156 = .ok (.ifCond .eq 5, 3) := dk_153 0 5 (dk_at dksX5_isName_5 5 rfl rfl)
theorem dX5_isName_159 : decode cX5_isName 159 = .ok (.iconst 5, 1) := dk_8 (dk_at dksX5_isName_5 8 rfl rfl)
theorem dX5_isName_160 : decode cX5_isName 160 = .ok (.istore_n 2, 1) := dk_61 (dk_at dksX5_isName_5 9 rfl rfl)
theorem dX5_isName_161 : decode cX5_isName 161 = .ok (.iload_n 2, 1) := dk_28 (dk_at dksX5_isName_5 10 rfl rfl)
theorem dX5_isName_162 : decode cX5_isName 162 = .ok (.tableswitch 40 0 5 #[38, 38, 38, 38, 38, 38], 38) := by decide +kernel
theorem dX5_isName_200 : decode cX5_isName 200 = .ok (.iconst 0, 1) := dk_3 (dk_at dksX5_isName_7 0 rfl rfl)
theorem dX5_isName_201 : decode cX5_isName 201 = .ok (.ireturn, 1) := dk_172 (dk_at dksX5_isName_7 1 rfl rfl)
theorem dX5_isName_202 : decode cX5_isName 202 = .ok (.aload_n 0, 1) := dk_42 (dk_at dksX5_isName_7 2 rfl rfl)
theorem dX5_isName_203 : decode cX5_isName 203 = .ok (.getfield 83, 3) := dk_180 0 83 (dk_at dksX5_isName_7 3 rfl rfl)
theorem dX5_isName_206 : decode cX5_isName 206 = .ok (.invokestatic 140, 3) := dk_184 0 140 (dk_at dksX5_isName_7 6 rfl rfl)
theorem dX5_isName_209 : decode cX5_isName 209 = .ok (.ifnonnull 7, 3) := dk_199 0 7 (dk_at dksX5_isName_7 9 rfl rfl)
theorem dX5_isName_212 : decode cX5_isName 212 = .ok (.iconst 1, 1) := dk_4 (dk_at dksX5_isName_7 12 rfl rfl)
theorem dX5_isName_213 : decode cX5_isName 213 = .ok (.goto 4, 3) := dk_167 0 4 (dk_at dksX5_isName_7 13 rfl rfl)
theorem dX5_isName_216 : decode cX5_isName 216 = .ok (.iconst 0, 1) := dk_3 (dk_at dksX5_isName_7 16 rfl rfl)
theorem dX5_isName_217 : decode cX5_isName 217 = .ok (.ireturn, 1) := dk_172 (dk_at dksX5_isName_7 17 rfl rfl)
abbrev cX5_fault : ByteArray := prog_16_method_8_code
def yX5_fault : MethodName := ⟨RX5, "fault", "(I)LSoftWheels$Fault;"⟩
def dkwX5_fault_0 : List UInt8 := [187, 0, 96, 89, 27, 42, 180, 0, 29, 183, 0, 98, 176]
abbrev dktX5_fault_0 : List UInt8 := dkwX5_fault_0 ++ []
theorem dksX5_fault_0 : cX5_fault.data.toList.drop 0 = dktX5_fault_0 := by decide +kernel
theorem dX5_fault_0 : decode cX5_fault 0 = .ok (.new 96, 3) := dk_187 0 96 (dk_at dksX5_fault_0 0 rfl rfl)
theorem dX5_fault_3 : decode cX5_fault 3 = .ok (.dup, 1) := dk_89 (dk_at dksX5_fault_0 3 rfl rfl)
theorem dX5_fault_4 : decode cX5_fault 4 = .ok (.iload_n 1, 1) := dk_27 (dk_at dksX5_fault_0 4 rfl rfl)
theorem dX5_fault_5 : decode cX5_fault 5 = .ok (.aload_n 0, 1) := dk_42 (dk_at dksX5_fault_0 5 rfl rfl)
theorem dX5_fault_6 : decode cX5_fault 6 = .ok (.getfield 29, 3) := dk_180 0 29 (dk_at dksX5_fault_0 6 rfl rfl)
theorem dX5_fault_9 : decode cX5_fault 9 = .ok (.invokespecial 98, 3) := dk_183 0 98 (dk_at dksX5_fault_0 9 rfl rfl)
theorem dX5_fault_12 : decode cX5_fault 12 = .ok (.areturn, 1) := dk_176 (dk_at dksX5_fault_0 12 rfl rfl)
abbrev cX5_needs : ByteArray := prog_16_method_12_code
def yX5_needs : MethodName := ⟨RX5, "needs", "(Ljava/lang/String;)V"⟩
def dkwX5_needs_0 : List UInt8 := [42, 43, 182, 0, 119, 154, 0, 9, 42, 4, 182, 0, 122, 191, 177]
abbrev dktX5_needs_0 : List UInt8 := dkwX5_needs_0 ++ []
theorem dksX5_needs_0 : cX5_needs.data.toList.drop 0 = dktX5_needs_0 := by decide +kernel
theorem dX5_needs_0 : decode cX5_needs 0 = .ok (.aload_n 0, 1) := dk_42 (dk_at dksX5_needs_0 0 rfl rfl)
theorem dX5_needs_1 : decode cX5_needs 1 = .ok (.aload_n 1, 1) := dk_43 (dk_at dksX5_needs_0 1 rfl rfl)
theorem dX5_needs_2 : decode cX5_needs 2 = .ok (.invokevirtual 119, 3) := dk_182 0 119 (dk_at dksX5_needs_0 2 rfl rfl)
theorem dX5_needs_5 : decode cX5_needs 5 = .ok (.ifCond .ne 9, 3) := dk_154 0 9 (dk_at dksX5_needs_0 5 rfl rfl)
theorem dX5_needs_8 : decode cX5_needs 8 = .ok (.aload_n 0, 1) := dk_42 (dk_at dksX5_needs_0 8 rfl rfl)
theorem dX5_needs_9 : decode cX5_needs 9 = .ok (.iconst 1, 1) := dk_4 (dk_at dksX5_needs_0 9 rfl rfl)
theorem dX5_needs_10 : decode cX5_needs 10 = .ok (.invokevirtual 122, 3) := dk_182 0 122 (dk_at dksX5_needs_0 10 rfl rfl)
theorem dX5_needs_13 : decode cX5_needs 13 = .ok (.athrow, 1) := dk_191 (dk_at dksX5_needs_0 13 rfl rfl)
theorem dX5_needs_14 : decode cX5_needs 14 = .ok (.return_, 1) := dk_177 (dk_at dksX5_needs_0 14 rfl rfl)
abbrev cX5_whole : ByteArray := prog_16_method_16_code
def yX5_whole : MethodName := ⟨RX5, "whole", "(II)I"⟩
def dkwX5_whole_1 : List UInt8 := [184, 0, 150, 154, 0, 9, 42, 7, 182, 0, 122, 191, 42, 180, 0, 90, 62, 42, 182, 0, 19, 29, 172]
abbrev dktX5_whole_1 : List UInt8 := dkwX5_whole_1 ++ []
def dkwX5_whole_0 : List UInt8 := [42, 180, 0, 38, 178, 0, 93, 165, 0, 9, 42, 4, 182, 0, 122, 191, 42, 180, 0, 90, 27, 28]
abbrev dktX5_whole_0 : List UInt8 := dkwX5_whole_0 ++ dktX5_whole_1
theorem dksX5_whole_0 : cX5_whole.data.toList.drop 0 = dktX5_whole_0 := by decide +kernel
theorem dksX5_whole_1 : cX5_whole.data.toList.drop 22 = dktX5_whole_1 := dk_seg dksX5_whole_0 22 rfl rfl
theorem dX5_whole_0 : decode cX5_whole 0 = .ok (.aload_n 0, 1) := dk_42 (dk_at dksX5_whole_0 0 rfl rfl)
theorem dX5_whole_1 : decode cX5_whole 1 = .ok (.getfield 38, 3) := dk_180 0 38 (dk_at dksX5_whole_0 1 rfl rfl)
theorem dX5_whole_4 : decode cX5_whole 4 = .ok (.getstatic 93, 3) := dk_178 0 93 (dk_at dksX5_whole_0 4 rfl rfl)
theorem dX5_whole_7 : decode cX5_whole 7 = .ok (.if_acmp .eq 9, 3) := dk_165 0 9 (dk_at dksX5_whole_0 7 rfl rfl)
theorem dX5_whole_10 : decode cX5_whole 10 = .ok (.aload_n 0, 1) := dk_42 (dk_at dksX5_whole_0 10 rfl rfl)
theorem dX5_whole_11 : decode cX5_whole 11 = .ok (.iconst 1, 1) := dk_4 (dk_at dksX5_whole_0 11 rfl rfl)
theorem dX5_whole_12 : decode cX5_whole 12 = .ok (.invokevirtual 122, 3) := dk_182 0 122 (dk_at dksX5_whole_0 12 rfl rfl)
theorem dX5_whole_15 : decode cX5_whole 15 = .ok (.athrow, 1) := dk_191 (dk_at dksX5_whole_0 15 rfl rfl)
theorem dX5_whole_16 : decode cX5_whole 16 = .ok (.aload_n 0, 1) := dk_42 (dk_at dksX5_whole_0 16 rfl rfl)
theorem dX5_whole_17 : decode cX5_whole 17 = .ok (.getfield 90, 3) := dk_180 0 90 (dk_at dksX5_whole_0 17 rfl rfl)
theorem dX5_whole_20 : decode cX5_whole 20 = .ok (.iload_n 1, 1) := dk_27 (dk_at dksX5_whole_0 20 rfl rfl)
theorem dX5_whole_21 : decode cX5_whole 21 = .ok (.iload_n 2, 1) := dk_28 (dk_at dksX5_whole_0 21 rfl rfl)
theorem dX5_whole_22 : decode cX5_whole 22 = .ok (.invokestatic 150, 3) := dk_184 0 150 (dk_at dksX5_whole_1 0 rfl rfl)
theorem dX5_whole_25 : decode cX5_whole 25 = .ok (.ifCond .ne 9, 3) := dk_154 0 9 (dk_at dksX5_whole_1 3 rfl rfl)
theorem dX5_whole_28 : decode cX5_whole 28 = .ok (.aload_n 0, 1) := dk_42 (dk_at dksX5_whole_1 6 rfl rfl)
theorem dX5_whole_29 : decode cX5_whole 29 = .ok (.iconst 4, 1) := dk_7 (dk_at dksX5_whole_1 7 rfl rfl)
theorem dX5_whole_30 : decode cX5_whole 30 = .ok (.invokevirtual 122, 3) := dk_182 0 122 (dk_at dksX5_whole_1 8 rfl rfl)
theorem dX5_whole_33 : decode cX5_whole 33 = .ok (.athrow, 1) := dk_191 (dk_at dksX5_whole_1 11 rfl rfl)
theorem dX5_whole_34 : decode cX5_whole 34 = .ok (.aload_n 0, 1) := dk_42 (dk_at dksX5_whole_1 12 rfl rfl)
theorem dX5_whole_35 : decode cX5_whole 35 = .ok (.getfield 90, 3) := dk_180 0 90 (dk_at dksX5_whole_1 13 rfl rfl)
theorem dX5_whole_38 : decode cX5_whole 38 = .ok (.istore_n 3, 1) := dk_62 (dk_at dksX5_whole_1 16 rfl rfl)
theorem dX5_whole_39 : decode cX5_whole 39 = .ok (.aload_n 0, 1) := dk_42 (dk_at dksX5_whole_1 17 rfl rfl)
theorem dX5_whole_40 : decode cX5_whole 40 = .ok (.invokevirtual 19, 3) := dk_182 0 19 (dk_at dksX5_whole_1 18 rfl rfl)
theorem dX5_whole_43 : decode cX5_whole 43 = .ok (.iload_n 3, 1) := dk_29 (dk_at dksX5_whole_1 21 rfl rfl)
theorem dX5_whole_44 : decode cX5_whole 44 = .ok (.ireturn, 1) := dk_172 (dk_at dksX5_whole_1 22 rfl rfl)
abbrev cX5_signed : ByteArray := prog_16_method_17_code
def yX5_signed : MethodName := ⟨RX5, "signed", "(I)I"⟩
def dkwX5_signed_2 : List UInt8 := [153, 0, 11, 42, 180, 0, 90, 116, 167, 0, 7, 42, 180, 0, 90, 54, 4, 42, 182, 0, 19, 21, 4, 172]
abbrev dktX5_signed_2 : List UInt8 := dkwX5_signed_2 ++ []
def dkwX5_signed_1 : List UInt8 := [182, 0, 122, 191, 42, 180, 0, 90, 27, 164, 0, 13, 187, 0, 96, 89, 7, 28, 183, 0, 98, 191, 29]
abbrev dktX5_signed_1 : List UInt8 := dkwX5_signed_1 ++ dktX5_signed_2
def dkwX5_signed_0 : List UInt8 := [42, 180, 0, 29, 61, 42, 18, 154, 182, 0, 119, 62, 42, 180, 0, 38, 178, 0, 93, 165, 0, 9, 42, 4]
abbrev dktX5_signed_0 : List UInt8 := dkwX5_signed_0 ++ dktX5_signed_1
theorem dksX5_signed_0 : cX5_signed.data.toList.drop 0 = dktX5_signed_0 := by decide +kernel
theorem dksX5_signed_1 : cX5_signed.data.toList.drop 24 = dktX5_signed_1 := dk_seg dksX5_signed_0 24 rfl rfl
theorem dksX5_signed_2 : cX5_signed.data.toList.drop 47 = dktX5_signed_2 := dk_seg dksX5_signed_1 23 rfl rfl
theorem dX5_signed_0 : decode cX5_signed 0 = .ok (.aload_n 0, 1) := dk_42 (dk_at dksX5_signed_0 0 rfl rfl)
theorem dX5_signed_1 : decode cX5_signed 1 = .ok (.getfield 29, 3) := dk_180 0 29 (dk_at dksX5_signed_0 1 rfl rfl)
theorem dX5_signed_4 : decode cX5_signed 4 = .ok (.istore_n 2, 1) := dk_61 (dk_at dksX5_signed_0 4 rfl rfl)
theorem dX5_signed_5 : decode cX5_signed 5 = .ok (.aload_n 0, 1) := dk_42 (dk_at dksX5_signed_0 5 rfl rfl)
theorem dX5_signed_6 : decode cX5_signed 6 = .ok (.ldc 154, 2) := dk_18 154 (dk_at dksX5_signed_0 6 rfl rfl)
theorem dX5_signed_8 : decode cX5_signed 8 = .ok (.invokevirtual 119, 3) := dk_182 0 119 (dk_at dksX5_signed_0 8 rfl rfl)
theorem dX5_signed_11 : decode cX5_signed 11 = .ok (.istore_n 3, 1) := dk_62 (dk_at dksX5_signed_0 11 rfl rfl)
theorem dX5_signed_12 : decode cX5_signed 12 = .ok (.aload_n 0, 1) := dk_42 (dk_at dksX5_signed_0 12 rfl rfl)
theorem dX5_signed_13 : decode cX5_signed 13 = .ok (.getfield 38, 3) := dk_180 0 38 (dk_at dksX5_signed_0 13 rfl rfl)
theorem dX5_signed_16 : decode cX5_signed 16 = .ok (.getstatic 93, 3) := dk_178 0 93 (dk_at dksX5_signed_0 16 rfl rfl)
theorem dX5_signed_19 : decode cX5_signed 19 = .ok (.if_acmp .eq 9, 3) := dk_165 0 9 (dk_at dksX5_signed_0 19 rfl rfl)
theorem dX5_signed_22 : decode cX5_signed 22 = .ok (.aload_n 0, 1) := dk_42 (dk_at dksX5_signed_0 22 rfl rfl)
theorem dX5_signed_23 : decode cX5_signed 23 = .ok (.iconst 1, 1) := dk_4 (dk_at dksX5_signed_0 23 rfl rfl)
theorem dX5_signed_24 : decode cX5_signed 24 = .ok (.invokevirtual 122, 3) := dk_182 0 122 (dk_at dksX5_signed_1 0 rfl rfl)
theorem dX5_signed_27 : decode cX5_signed 27 = .ok (.athrow, 1) := dk_191 (dk_at dksX5_signed_1 3 rfl rfl)
theorem dX5_signed_28 : decode cX5_signed 28 = .ok (.aload_n 0, 1) := dk_42 (dk_at dksX5_signed_1 4 rfl rfl)
theorem dX5_signed_29 : decode cX5_signed 29 = .ok (.getfield 90, 3) := dk_180 0 90 (dk_at dksX5_signed_1 5 rfl rfl)
theorem dX5_signed_32 : decode cX5_signed 32 = .ok (.iload_n 1, 1) := dk_27 (dk_at dksX5_signed_1 8 rfl rfl)
theorem dX5_signed_33 : decode cX5_signed 33 = .ok (.if_icmp .le 13, 3) := dk_164 0 13 (dk_at dksX5_signed_1 9 rfl rfl)
theorem dX5_signed_36 : decode cX5_signed 36 = .ok (.new 96, 3) := dk_187 0 96 (dk_at dksX5_signed_1 12 rfl rfl)
theorem dX5_signed_39 : decode cX5_signed 39 = .ok (.dup, 1) := dk_89 (dk_at dksX5_signed_1 15 rfl rfl)
theorem dX5_signed_40 : decode cX5_signed 40 = .ok (.iconst 4, 1) := dk_7 (dk_at dksX5_signed_1 16 rfl rfl)
theorem dX5_signed_41 : decode cX5_signed 41 = .ok (.iload_n 2, 1) := dk_28 (dk_at dksX5_signed_1 17 rfl rfl)
theorem dX5_signed_42 : decode cX5_signed 42 = .ok (.invokespecial 98, 3) := dk_183 0 98 (dk_at dksX5_signed_1 18 rfl rfl)
theorem dX5_signed_45 : decode cX5_signed 45 = .ok (.athrow, 1) := dk_191 (dk_at dksX5_signed_1 21 rfl rfl)
theorem dX5_signed_46 : decode cX5_signed 46 = .ok (.iload_n 3, 1) := dk_29 (dk_at dksX5_signed_1 22 rfl rfl)
theorem dX5_signed_47 : decode cX5_signed 47 = .ok (.ifCond .eq 11, 3) := dk_153 0 11 (dk_at dksX5_signed_2 0 rfl rfl)
theorem dX5_signed_50 : decode cX5_signed 50 = .ok (.aload_n 0, 1) := dk_42 (dk_at dksX5_signed_2 3 rfl rfl)
theorem dX5_signed_51 : decode cX5_signed 51 = .ok (.getfield 90, 3) := dk_180 0 90 (dk_at dksX5_signed_2 4 rfl rfl)
theorem dX5_signed_54 : decode cX5_signed 54 = .ok (.ineg, 1) := dk_116 (dk_at dksX5_signed_2 7 rfl rfl)
theorem dX5_signed_55 : decode cX5_signed 55 = .ok (.goto 7, 3) := dk_167 0 7 (dk_at dksX5_signed_2 8 rfl rfl)
theorem dX5_signed_58 : decode cX5_signed 58 = .ok (.aload_n 0, 1) := dk_42 (dk_at dksX5_signed_2 11 rfl rfl)
theorem dX5_signed_59 : decode cX5_signed 59 = .ok (.getfield 90, 3) := dk_180 0 90 (dk_at dksX5_signed_2 12 rfl rfl)
theorem dX5_signed_62 : decode cX5_signed 62 = .ok (.istore 4, 2) := dk_54 4 (dk_at dksX5_signed_2 15 rfl rfl)
theorem dX5_signed_64 : decode cX5_signed 64 = .ok (.aload_n 0, 1) := dk_42 (dk_at dksX5_signed_2 17 rfl rfl)
theorem dX5_signed_65 : decode cX5_signed 65 = .ok (.invokevirtual 19, 3) := dk_182 0 19 (dk_at dksX5_signed_2 18 rfl rfl)
theorem dX5_signed_68 : decode cX5_signed 68 = .ok (.iload 4, 2) := dk_21 4 (dk_at dksX5_signed_2 21 rfl rfl)
theorem dX5_signed_70 : decode cX5_signed 70 = .ok (.ireturn, 1) := dk_172 (dk_at dksX5_signed_2 23 rfl rfl)
abbrev cX5_needsEnd : ByteArray := prog_16_method_13_code
def yX5_needsEnd : MethodName := ⟨RX5, "needsEnd", "()V"⟩
def dkwX5_needsEnd_0 : List UInt8 := [42, 180, 0, 38, 178, 0, 41, 165, 0, 9, 42, 4, 182, 0, 122, 191, 177]
abbrev dktX5_needsEnd_0 : List UInt8 := dkwX5_needsEnd_0 ++ []
theorem dksX5_needsEnd_0 : cX5_needsEnd.data.toList.drop 0 = dktX5_needsEnd_0 := by decide +kernel
theorem dX5_needsEnd_0 : decode cX5_needsEnd 0 = .ok (.aload_n 0, 1) := dk_42 (dk_at dksX5_needsEnd_0 0 rfl rfl)
theorem dX5_needsEnd_1 : decode cX5_needsEnd 1 = .ok (.getfield 38, 3) := dk_180 0 38 (dk_at dksX5_needsEnd_0 1 rfl rfl)
theorem dX5_needsEnd_4 : decode cX5_needsEnd 4 = .ok (.getstatic 41, 3) := dk_178 0 41 (dk_at dksX5_needsEnd_0 4 rfl rfl)
theorem dX5_needsEnd_7 : decode cX5_needsEnd 7 = .ok (.if_acmp .eq 9, 3) := dk_165 0 9 (dk_at dksX5_needsEnd_0 7 rfl rfl)
theorem dX5_needsEnd_10 : decode cX5_needsEnd 10 = .ok (.aload_n 0, 1) := dk_42 (dk_at dksX5_needsEnd_0 10 rfl rfl)
theorem dX5_needsEnd_11 : decode cX5_needsEnd 11 = .ok (.iconst 1, 1) := dk_4 (dk_at dksX5_needsEnd_0 11 rfl rfl)
theorem dX5_needsEnd_12 : decode cX5_needsEnd 12 = .ok (.invokevirtual 122, 3) := dk_182 0 122 (dk_at dksX5_needsEnd_0 12 rfl rfl)
theorem dX5_needsEnd_15 : decode cX5_needsEnd 15 = .ok (.athrow, 1) := dk_191 (dk_at dksX5_needsEnd_0 15 rfl rfl)
theorem dX5_needsEnd_16 : decode cX5_needsEnd 16 = .ok (.return_, 1) := dk_177 (dk_at dksX5_needsEnd_0 16 rfl rfl)
theorem q105 : (Jvm.Cond.initialized "SoftWheels$Reader") ∈ lw_all := lw_g (lw_at lw_m1 8 rfl) rfl
theorem q334 : (Jvm.Cond.instantiable "SoftWheels$Reader" (8 : Nat)) ∈ lw_all := lw_g (lw_at lw_m1 237 rfl) rfl
theorem q336 : (Jvm.Cond.instanceMethod ({ cls := "SoftWheels$Reader", name := "<init>", desc := "([BI)V" } : Jvm.MethodName)) ∈ lw_all := lw_g (lw_at lw_m1 239 rfl) rfl
theorem q337 : (Jvm.Cond.code ({ cls := "SoftWheels$Reader", name := "<init>", desc := "([BI)V" } : Jvm.MethodName) prog_16_method_1_code (3 : Nat) (Option.none : Option Jvm.ClassFile.FieldType)) ∈ lw_all := lw_g (lw_at lw_m2 0 rfl) rfl
theorem q338 : (Jvm.Cond.methodLink "SoftWheels$Reader" (3 : Nat) ({ cls := "java/lang/Object", name := "<init>", desc := "()V" } : Jvm.MethodName)) ∈ lw_all := lw_g (lw_at lw_m2 1 rfl) rfl
theorem q339 : (Jvm.Cond.methodLink "SoftWheels$Reader" (19 : Nat) ({ cls := "SoftWheels$Reader", name := "next", desc := "()V" } : Jvm.MethodName)) ∈ lw_all := lw_g (lw_at lw_m2 2 rfl) rfl
theorem q340 : (Jvm.Cond.instanceMethod ({ cls := "SoftWheels$Reader", name := "next", desc := "()V" } : Jvm.MethodName)) ∈ lw_all := lw_g (lw_at lw_m2 3 rfl) rfl
theorem q341 : (Jvm.Cond.selects "SoftWheels$Reader" ({ cls := "SoftWheels$Reader", name := "next", desc := "()V" } : Jvm.MethodName) ({ cls := "SoftWheels$Reader", name := "next", desc := "()V" } : Jvm.MethodName)) ∈ lw_all := lw_g (lw_at lw_m2 4 rfl) rfl
theorem q342 : (Jvm.Cond.code ({ cls := "SoftWheels$Reader", name := "next", desc := "()V" } : Jvm.MethodName) prog_16_method_5_code (2 : Nat) (Option.none : Option Jvm.ClassFile.FieldType)) ∈ lw_all := lw_g (lw_at lw_m2 5 rfl) rfl
theorem q343 : (Jvm.Cond.methodLink "SoftWheels$Reader" (25 : Nat) ({ cls := "SoftWheels$Reader", name := "here", desc := "()I" } : Jvm.MethodName)) ∈ lw_all := lw_g (lw_at lw_m2 6 rfl) rfl
theorem q344 : (Jvm.Cond.privateMethod ({ cls := "SoftWheels$Reader", name := "here", desc := "()I" } : Jvm.MethodName)) ∈ lw_tbl := lw_at lw_m2 7 rfl
theorem q345 : (Jvm.Cond.instanceMethod ({ cls := "SoftWheels$Reader", name := "here", desc := "()I" } : Jvm.MethodName)) ∈ lw_all := lw_g (lw_at lw_m2 8 rfl) rfl
theorem q346 : (Jvm.Cond.code ({ cls := "SoftWheels$Reader", name := "here", desc := "()I" } : Jvm.MethodName) prog_16_method_2_code (1 : Nat) (Option.some Jvm.ClassFile.FieldType.int)) ∈ lw_all := lw_g (lw_at lw_m2 9 rfl) rfl
theorem q347 : (Jvm.Cond.fieldLink "SoftWheels$Reader" (32 : Nat) "SoftWheels$Sort" "BAD" "LSoftWheels$Sort;") ∈ lw_all := lw_g (lw_at lw_m2 10 rfl) rfl
theorem q349 : (Jvm.Cond.fieldLink "SoftWheels$Reader" (41 : Nat) "SoftWheels$Sort" "END" "LSoftWheels$Sort;") ∈ lw_all := lw_g (lw_at lw_m2 12 rfl) rfl
theorem q351 : (Jvm.Cond.methodLink "SoftWheels$Reader" (44 : Nat) ({ cls := "SoftWheels$Reader", name := "isLetter", desc := "(I)Z" } : Jvm.MethodName)) ∈ lw_all := lw_g (lw_at lw_m2 14 rfl) rfl
theorem q352 : (Jvm.Cond.static ({ cls := "SoftWheels$Reader", name := "isLetter", desc := "(I)Z" } : Jvm.MethodName)) ∈ lw_all := lw_g (lw_at lw_m2 15 rfl) rfl
theorem q353 : (Jvm.Cond.code ({ cls := "SoftWheels$Reader", name := "isLetter", desc := "(I)Z" } : Jvm.MethodName) prog_16_method_3_code (1 : Nat) (Option.some Jvm.ClassFile.FieldType.boolean)) ∈ lw_all := lw_g (lw_at lw_m2 16 rfl) rfl
theorem q354 : (Jvm.Cond.methodLink "SoftWheels$Reader" (48 : Nat) ({ cls := "SoftWheels$Reader", name := "nextWord", desc := "()V" } : Jvm.MethodName)) ∈ lw_all := lw_g (lw_at lw_m2 17 rfl) rfl
theorem q355 : (Jvm.Cond.privateMethod ({ cls := "SoftWheels$Reader", name := "nextWord", desc := "()V" } : Jvm.MethodName)) ∈ lw_tbl := lw_at lw_m2 18 rfl
theorem q356 : (Jvm.Cond.instanceMethod ({ cls := "SoftWheels$Reader", name := "nextWord", desc := "()V" } : Jvm.MethodName)) ∈ lw_all := lw_g (lw_at lw_m2 19 rfl) rfl
theorem q357 : (Jvm.Cond.code ({ cls := "SoftWheels$Reader", name := "nextWord", desc := "()V" } : Jvm.MethodName) prog_16_method_6_code (3 : Nat) (Option.none : Option Jvm.ClassFile.FieldType)) ∈ lw_all := lw_g (lw_at lw_m2 20 rfl) rfl
theorem q358 : (Jvm.Cond.classLink "SoftWheels$Reader" (72 : Nat) "java/lang/StringBuilder") ∈ lw_all := lw_g (lw_at lw_m2 21 rfl) rfl
theorem q360 : (Jvm.Cond.methodLink "SoftWheels$Reader" (74 : Nat) ({ cls := "java/lang/StringBuilder", name := "<init>", desc := "()V" } : Jvm.MethodName)) ∈ lw_all := lw_g (lw_at lw_m2 23 rfl) rfl
theorem q389 : (Jvm.Cond.methodLink "SoftWheels$Reader" (75 : Nat) ({ cls := "java/lang/StringBuilder", name := "append", desc := "(C)Ljava/lang/StringBuilder;" } : Jvm.MethodName)) ∈ lw_all := lw_g (lw_at lw_m2 52 rfl) rfl
theorem q484 : (Jvm.Cond.methodLink "SoftWheels$Reader" (79 : Nat) ({ cls := "java/lang/StringBuilder", name := "toString", desc := "()Ljava/lang/String;" } : Jvm.MethodName)) ∈ lw_all := lw_g (lw_at lw_m2 147 rfl) rfl
theorem q547 : (Jvm.Cond.fieldLink "SoftWheels$Reader" (87 : Nat) "SoftWheels$Sort" "WORD" "LSoftWheels$Sort;") ∈ lw_all := lw_g (lw_at lw_m2 210 rfl) rfl
theorem q549 : (Jvm.Cond.methodLink "SoftWheels$Reader" (51 : Nat) ({ cls := "SoftWheels$Reader", name := "isDigit", desc := "(I)Z" } : Jvm.MethodName)) ∈ lw_all := lw_g (lw_at lw_m2 212 rfl) rfl
theorem q550 : (Jvm.Cond.static ({ cls := "SoftWheels$Reader", name := "isDigit", desc := "(I)Z" } : Jvm.MethodName)) ∈ lw_all := lw_g (lw_at lw_m2 213 rfl) rfl
theorem q551 : (Jvm.Cond.code ({ cls := "SoftWheels$Reader", name := "isDigit", desc := "(I)Z" } : Jvm.MethodName) prog_16_method_4_code (1 : Nat) (Option.some Jvm.ClassFile.FieldType.boolean)) ∈ lw_all := lw_g (lw_at lw_m2 214 rfl) rfl
theorem q552 : (Jvm.Cond.methodLink "SoftWheels$Reader" (54 : Nat) ({ cls := "SoftWheels$Reader", name := "nextWhole", desc := "()V" } : Jvm.MethodName)) ∈ lw_all := lw_g (lw_at lw_m2 215 rfl) rfl
theorem q553 : (Jvm.Cond.privateMethod ({ cls := "SoftWheels$Reader", name := "nextWhole", desc := "()V" } : Jvm.MethodName)) ∈ lw_tbl := lw_at lw_m2 216 rfl
theorem q554 : (Jvm.Cond.instanceMethod ({ cls := "SoftWheels$Reader", name := "nextWhole", desc := "()V" } : Jvm.MethodName)) ∈ lw_all := lw_g (lw_at lw_m2 217 rfl) rfl
theorem q555 : (Jvm.Cond.code ({ cls := "SoftWheels$Reader", name := "nextWhole", desc := "()V" } : Jvm.MethodName) prog_16_method_7_code (2 : Nat) (Option.none : Option Jvm.ClassFile.FieldType)) ∈ lw_all := lw_g (lw_at lw_m2 218 rfl) rfl
theorem q556 : (Jvm.Cond.fieldLink "SoftWheels$Reader" (93 : Nat) "SoftWheels$Sort" "WHOLE" "LSoftWheels$Sort;") ∈ lw_all := lw_g (lw_at lw_m2 219 rfl) rfl
theorem q558 : (Jvm.Cond.stringRef "SoftWheels$Reader" (57 : Nat) ";,-()") ∈ lw_tbl := lw_at lw_m2 221 rfl
theorem q559 : (Jvm.Cond.methodLink "SoftWheels$Reader" (59 : Nat) ({ cls := "java/lang/String", name := "indexOf", desc := "(I)I" } : Jvm.MethodName)) ∈ lw_all := lw_g (lw_at lw_m2 222 rfl) rfl
theorem q625 : (Jvm.Cond.fieldLink "SoftWheels$Reader" (65 : Nat) "SoftWheels$Sort" "SIGN" "LSoftWheels$Sort;") ∈ lw_all := lw_g (lw_at lw_m3 48 rfl) rfl
theorem q627 : (Jvm.Cond.fieldLink "SoftWheels$Reader" (9 : Nat) "SoftWheels$Reader" "text" "[B") ∈ lw_all := lw_g (lw_at lw_m3 50 rfl) rfl
theorem q628 : (Jvm.Cond.fieldLink "SoftWheels$Reader" (15 : Nat) "SoftWheels$Reader" "size" "I") ∈ lw_all := lw_g (lw_at lw_m3 51 rfl) rfl
theorem q629 : (Jvm.Cond.fieldLink "SoftWheels$Reader" (22 : Nat) "SoftWheels$Reader" "at" "I") ∈ lw_all := lw_g (lw_at lw_m3 52 rfl) rfl
theorem q630 : (Jvm.Cond.fieldLink "SoftWheels$Reader" (29 : Nat) "SoftWheels$Reader" "place" "I") ∈ lw_all := lw_g (lw_at lw_m3 53 rfl) rfl
theorem q633 : (Jvm.Cond.fieldLink "SoftWheels$Reader" (90 : Nat) "SoftWheels$Reader" "whole" "I") ∈ lw_all := lw_g (lw_at lw_m3 56 rfl) rfl
theorem q636 : (Jvm.Cond.fieldLink "SoftWheels$Reader" (38 : Nat) "SoftWheels$Reader" "sort" "LSoftWheels$Sort;") ∈ lw_all := lw_g (lw_at lw_m3 59 rfl) rfl
theorem q638 : (Jvm.Cond.fieldLink "SoftWheels$Reader" (83 : Nat) "SoftWheels$Reader" "word" "Ljava/lang/String;") ∈ lw_all := lw_g (lw_at lw_m3 61 rfl) rfl
theorem q639 : (Jvm.Cond.fieldLink "SoftWheels$Reader" (68 : Nat) "SoftWheels$Reader" "sign" "C") ∈ lw_all := lw_g (lw_at lw_m3 62 rfl) rfl
theorem q640 : (Jvm.Cond.laysFinal "SoftWheels$Reader" "SoftWheels$Reader" "text" "[B") ∈ lw_all := lw_g (lw_at lw_m3 63 rfl) rfl
theorem q641 : (Jvm.Cond.soleField "SoftWheels$Reader" "text") ∈ lw_all := lw_g (lw_at lw_m3 64 rfl) rfl
theorem q642 : (Jvm.Cond.laysFinal "SoftWheels$Reader" "SoftWheels$Reader" "size" "I") ∈ lw_all := lw_g (lw_at lw_m3 65 rfl) rfl
theorem q643 : (Jvm.Cond.soleField "SoftWheels$Reader" "size") ∈ lw_all := lw_g (lw_at lw_m3 66 rfl) rfl
theorem q644 : (Jvm.Cond.lays "SoftWheels$Reader" "SoftWheels$Reader" "at" "I") ∈ lw_all := lw_g (lw_at lw_m3 67 rfl) rfl
theorem q645 : (Jvm.Cond.soleField "SoftWheels$Reader" "at") ∈ lw_all := lw_g (lw_at lw_m3 68 rfl) rfl
theorem q646 : (Jvm.Cond.lays "SoftWheels$Reader" "SoftWheels$Reader" "place" "I") ∈ lw_all := lw_g (lw_at lw_m3 69 rfl) rfl
theorem q647 : (Jvm.Cond.soleField "SoftWheels$Reader" "place") ∈ lw_all := lw_g (lw_at lw_m3 70 rfl) rfl
theorem q648 : (Jvm.Cond.lays "SoftWheels$Reader" "SoftWheels$Reader" "whole" "I") ∈ lw_all := lw_g (lw_at lw_m3 71 rfl) rfl
theorem q649 : (Jvm.Cond.soleField "SoftWheels$Reader" "whole") ∈ lw_all := lw_g (lw_at lw_m3 72 rfl) rfl
theorem q650 : (Jvm.Cond.lays "SoftWheels$Reader" "SoftWheels$Reader" "sort" "LSoftWheels$Sort;") ∈ lw_all := lw_g (lw_at lw_m3 73 rfl) rfl
theorem q651 : (Jvm.Cond.soleField "SoftWheels$Reader" "sort") ∈ lw_all := lw_g (lw_at lw_m3 74 rfl) rfl
theorem q652 : (Jvm.Cond.lays "SoftWheels$Reader" "SoftWheels$Reader" "word" "Ljava/lang/String;") ∈ lw_all := lw_g (lw_at lw_m3 75 rfl) rfl
theorem q653 : (Jvm.Cond.soleField "SoftWheels$Reader" "word") ∈ lw_all := lw_g (lw_at lw_m3 76 rfl) rfl
theorem q654 : (Jvm.Cond.lays "SoftWheels$Reader" "SoftWheels$Reader" "sign" "C") ∈ lw_all := lw_g (lw_at lw_m3 77 rfl) rfl
theorem q655 : (Jvm.Cond.soleField "SoftWheels$Reader" "sign") ∈ lw_all := lw_g (lw_at lw_m3 78 rfl) rfl
theorem q656 : (Jvm.Cond.superclass "SoftWheels$Reader" "java/lang/Object") ∈ lw_all := lw_g (lw_at lw_m3 79 rfl) rfl
theorem q663 : (Jvm.Cond.instanceMethod ({ cls := "SoftWheels$Reader", name := "skips", desc := "(Ljava/lang/String;)Z" } : Jvm.MethodName)) ∈ lw_all := lw_g (lw_at lw_m3 86 rfl) rfl
theorem q664 : (Jvm.Cond.selects "SoftWheels$Reader" ({ cls := "SoftWheels$Reader", name := "skips", desc := "(Ljava/lang/String;)Z" } : Jvm.MethodName) ({ cls := "SoftWheels$Reader", name := "skips", desc := "(Ljava/lang/String;)Z" } : Jvm.MethodName)) ∈ lw_all := lw_g (lw_at lw_m3 87 rfl) rfl
theorem q665 : (Jvm.Cond.code ({ cls := "SoftWheels$Reader", name := "skips", desc := "(Ljava/lang/String;)Z" } : Jvm.MethodName) prog_16_method_11_code (3 : Nat) (Option.some Jvm.ClassFile.FieldType.boolean)) ∈ lw_all := lw_g (lw_at lw_m3 88 rfl) rfl
theorem q666 : (Jvm.Cond.methodLink "SoftWheels$Reader" (105 : Nat) ({ cls := "java/lang/String", name := "length", desc := "()I" } : Jvm.MethodName)) ∈ lw_all := lw_g (lw_at lw_m3 89 rfl) rfl
theorem q667 : (Jvm.Cond.methodLink "SoftWheels$Reader" (108 : Nat) ({ cls := "SoftWheels$Reader", name := "is", desc := "(Ljava/lang/String;)Z" } : Jvm.MethodName)) ∈ lw_all := lw_g (lw_at lw_m3 90 rfl) rfl
theorem q668 : (Jvm.Cond.instanceMethod ({ cls := "SoftWheels$Reader", name := "is", desc := "(Ljava/lang/String;)Z" } : Jvm.MethodName)) ∈ lw_all := lw_g (lw_at lw_m3 91 rfl) rfl
theorem q669 : (Jvm.Cond.selects "SoftWheels$Reader" ({ cls := "SoftWheels$Reader", name := "is", desc := "(Ljava/lang/String;)Z" } : Jvm.MethodName) ({ cls := "SoftWheels$Reader", name := "is", desc := "(Ljava/lang/String;)Z" } : Jvm.MethodName)) ∈ lw_all := lw_g (lw_at lw_m3 92 rfl) rfl
theorem q670 : (Jvm.Cond.code ({ cls := "SoftWheels$Reader", name := "is", desc := "(Ljava/lang/String;)Z" } : Jvm.MethodName) prog_16_method_9_code (2 : Nat) (Option.some Jvm.ClassFile.FieldType.boolean)) ∈ lw_all := lw_g (lw_at lw_m3 93 rfl) rfl
theorem q671 : (Jvm.Cond.methodLink "SoftWheels$Reader" (101 : Nat) ({ cls := "java/lang/String", name := "equals", desc := "(Ljava/lang/Object;)Z" } : Jvm.MethodName)) ∈ lw_all := lw_g (lw_at lw_m3 94 rfl) rfl
theorem q679 : (Jvm.Cond.methodLink "SoftWheels$Reader" (112 : Nat) ({ cls := "java/lang/String", name := "charAt", desc := "(I)C" } : Jvm.MethodName)) ∈ lw_all := lw_g (lw_at lw_m3 102 rfl) rfl
theorem q690 : (Jvm.Cond.methodLink "SoftWheels$Reader" (116 : Nat) ({ cls := "SoftWheels$Reader", name := "is", desc := "(C)Z" } : Jvm.MethodName)) ∈ lw_all := lw_g (lw_at lw_m3 113 rfl) rfl
theorem q691 : (Jvm.Cond.instanceMethod ({ cls := "SoftWheels$Reader", name := "is", desc := "(C)Z" } : Jvm.MethodName)) ∈ lw_all := lw_g (lw_at lw_m3 114 rfl) rfl
theorem q692 : (Jvm.Cond.selects "SoftWheels$Reader" ({ cls := "SoftWheels$Reader", name := "is", desc := "(C)Z" } : Jvm.MethodName) ({ cls := "SoftWheels$Reader", name := "is", desc := "(C)Z" } : Jvm.MethodName)) ∈ lw_all := lw_g (lw_at lw_m3 115 rfl) rfl
theorem q693 : (Jvm.Cond.code ({ cls := "SoftWheels$Reader", name := "is", desc := "(C)Z" } : Jvm.MethodName) prog_16_method_10_code (2 : Nat) (Option.some Jvm.ClassFile.FieldType.boolean)) ∈ lw_all := lw_g (lw_at lw_m3 116 rfl) rfl
theorem q701 : (Jvm.Cond.instanceMethod ({ cls := "SoftWheels$Reader", name := "name", desc := "()Ljava/lang/String;" } : Jvm.MethodName)) ∈ lw_all := lw_g (lw_at lw_m3 124 rfl) rfl
theorem q702 : (Jvm.Cond.selects "SoftWheels$Reader" ({ cls := "SoftWheels$Reader", name := "name", desc := "()Ljava/lang/String;" } : Jvm.MethodName) ({ cls := "SoftWheels$Reader", name := "name", desc := "()Ljava/lang/String;" } : Jvm.MethodName)) ∈ lw_all := lw_g (lw_at lw_m3 125 rfl) rfl
theorem q703 : (Jvm.Cond.code ({ cls := "SoftWheels$Reader", name := "name", desc := "()Ljava/lang/String;" } : Jvm.MethodName) prog_16_method_15_code (1 : Nat) (Option.some (Jvm.ClassFile.FieldType.object "java/lang/String"))) ∈ lw_all := lw_g (lw_at lw_m3 126 rfl) rfl
theorem q704 : (Jvm.Cond.methodLink "SoftWheels$Reader" (146 : Nat) ({ cls := "SoftWheels$Reader", name := "isName", desc := "()Z" } : Jvm.MethodName)) ∈ lw_all := lw_g (lw_at lw_m3 127 rfl) rfl
theorem q705 : (Jvm.Cond.instanceMethod ({ cls := "SoftWheels$Reader", name := "isName", desc := "()Z" } : Jvm.MethodName)) ∈ lw_all := lw_g (lw_at lw_m3 128 rfl) rfl
theorem q706 : (Jvm.Cond.selects "SoftWheels$Reader" ({ cls := "SoftWheels$Reader", name := "isName", desc := "()Z" } : Jvm.MethodName) ({ cls := "SoftWheels$Reader", name := "isName", desc := "()Z" } : Jvm.MethodName)) ∈ lw_all := lw_g (lw_at lw_m3 129 rfl) rfl
theorem q707 : (Jvm.Cond.code ({ cls := "SoftWheels$Reader", name := "isName", desc := "()Z" } : Jvm.MethodName) prog_16_method_14_code (3 : Nat) (Option.some Jvm.ClassFile.FieldType.boolean)) ∈ lw_all := lw_g (lw_at lw_m3 130 rfl) rfl
theorem q708 : (Jvm.Cond.methodLink "SoftWheels$Reader" (126 : Nat) ({ cls := "java/lang/String", name := "hashCode", desc := "()I" } : Jvm.MethodName)) ∈ lw_all := lw_g (lw_at lw_m3 131 rfl) rfl
theorem q757 : (Jvm.Cond.stringRef "SoftWheels$Reader" (129 : Nat) "ground") ∈ lw_tbl := lw_at lw_m3 180 rfl
theorem q758 : (Jvm.Cond.stringRef "SoftWheels$Reader" (131 : Nat) "rover") ∈ lw_tbl := lw_at lw_m3 181 rfl
theorem q759 : (Jvm.Cond.stringRef "SoftWheels$Reader" (133 : Nat) "try") ∈ lw_tbl := lw_at lw_m3 182 rfl
theorem q760 : (Jvm.Cond.stringRef "SoftWheels$Reader" (135 : Nat) "if") ∈ lw_tbl := lw_at lw_m3 183 rfl
theorem q761 : (Jvm.Cond.stringRef "SoftWheels$Reader" (137 : Nat) "is") ∈ lw_tbl := lw_at lw_m3 184 rfl
theorem q762 : (Jvm.Cond.stringRef "SoftWheels$Reader" (138 : Nat) "else") ∈ lw_tbl := lw_at lw_m3 185 rfl
theorem q763 : (Jvm.Cond.methodLink "SoftWheels$Reader" (140 : Nat) ({ cls := "SoftWheels$Way", name := "of", desc := "(Ljava/lang/String;)LSoftWheels$Way;" } : Jvm.MethodName)) ∈ lw_all := lw_g (lw_at lw_m3 186 rfl) rfl
theorem q780 : (Jvm.Cond.methodLink "SoftWheels$Reader" (122 : Nat) ({ cls := "SoftWheels$Reader", name := "fault", desc := "(I)LSoftWheels$Fault;" } : Jvm.MethodName)) ∈ lw_all := lw_g (lw_at lw_m3 203 rfl) rfl
theorem q781 : (Jvm.Cond.instanceMethod ({ cls := "SoftWheels$Reader", name := "fault", desc := "(I)LSoftWheels$Fault;" } : Jvm.MethodName)) ∈ lw_all := lw_g (lw_at lw_m3 204 rfl) rfl
theorem q782 : (Jvm.Cond.selects "SoftWheels$Reader" ({ cls := "SoftWheels$Reader", name := "fault", desc := "(I)LSoftWheels$Fault;" } : Jvm.MethodName) ({ cls := "SoftWheels$Reader", name := "fault", desc := "(I)LSoftWheels$Fault;" } : Jvm.MethodName)) ∈ lw_all := lw_g (lw_at lw_m3 205 rfl) rfl
theorem q783 : (Jvm.Cond.code ({ cls := "SoftWheels$Reader", name := "fault", desc := "(I)LSoftWheels$Fault;" } : Jvm.MethodName) prog_16_method_8_code (2 : Nat) (Option.some (Jvm.ClassFile.FieldType.object "SoftWheels$Fault"))) ∈ lw_all := lw_g (lw_at lw_m3 206 rfl) rfl
theorem q784 : (Jvm.Cond.classLink "SoftWheels$Reader" (96 : Nat) "SoftWheels$Fault") ∈ lw_all := lw_g (lw_at lw_m3 207 rfl) rfl
theorem q822 : (Jvm.Cond.methodLink "SoftWheels$Reader" (98 : Nat) ({ cls := "SoftWheels$Fault", name := "<init>", desc := "(II)V" } : Jvm.MethodName)) ∈ lw_all := lw_g (lw_at lw_m4 5 rfl) rfl
theorem q914 : (Jvm.Cond.instanceMethod ({ cls := "SoftWheels$Reader", name := "needs", desc := "(Ljava/lang/String;)V" } : Jvm.MethodName)) ∈ lw_all := lw_g (lw_at lw_m4 97 rfl) rfl
theorem q915 : (Jvm.Cond.selects "SoftWheels$Reader" ({ cls := "SoftWheels$Reader", name := "needs", desc := "(Ljava/lang/String;)V" } : Jvm.MethodName) ({ cls := "SoftWheels$Reader", name := "needs", desc := "(Ljava/lang/String;)V" } : Jvm.MethodName)) ∈ lw_all := lw_g (lw_at lw_m4 98 rfl) rfl
theorem q916 : (Jvm.Cond.code ({ cls := "SoftWheels$Reader", name := "needs", desc := "(Ljava/lang/String;)V" } : Jvm.MethodName) prog_16_method_12_code (2 : Nat) (Option.none : Option Jvm.ClassFile.FieldType)) ∈ lw_all := lw_g (lw_at lw_m4 99 rfl) rfl
theorem q917 : (Jvm.Cond.methodLink "SoftWheels$Reader" (119 : Nat) ({ cls := "SoftWheels$Reader", name := "skips", desc := "(Ljava/lang/String;)Z" } : Jvm.MethodName)) ∈ lw_all := lw_g (lw_at lw_m4 100 rfl) rfl
theorem q927 : (Jvm.Cond.instanceMethod ({ cls := "SoftWheels$Reader", name := "whole", desc := "(II)I" } : Jvm.MethodName)) ∈ lw_all := lw_g (lw_at lw_m4 110 rfl) rfl
theorem q928 : (Jvm.Cond.selects "SoftWheels$Reader" ({ cls := "SoftWheels$Reader", name := "whole", desc := "(II)I" } : Jvm.MethodName) ({ cls := "SoftWheels$Reader", name := "whole", desc := "(II)I" } : Jvm.MethodName)) ∈ lw_all := lw_g (lw_at lw_m4 111 rfl) rfl
theorem q929 : (Jvm.Cond.code ({ cls := "SoftWheels$Reader", name := "whole", desc := "(II)I" } : Jvm.MethodName) prog_16_method_16_code (4 : Nat) (Option.some Jvm.ClassFile.FieldType.int)) ∈ lw_all := lw_g (lw_at lw_m4 112 rfl) rfl
theorem q930 : (Jvm.Cond.methodLinkNest "SoftWheels$Reader" (150 : Nat) ({ cls := "SoftWheels", name := "in", desc := "(III)Z" } : Jvm.MethodName) "SoftWheels") ∈ lw_tbl := lw_at lw_m4 113 rfl
theorem q970 : (Jvm.Cond.selects "SoftWheels$Reader" ({ cls := "java/lang/Object", name := "getClass", desc := "()Ljava/lang/Class;" } : Jvm.MethodName) ({ cls := "java/lang/Object", name := "getClass", desc := "()Ljava/lang/Class;" } : Jvm.MethodName)) ∈ lw_all := lw_g (lw_at lw_m4 153 rfl) rfl
theorem q1020 : (Jvm.Cond.instanceMethod ({ cls := "SoftWheels$Reader", name := "signed", desc := "(I)I" } : Jvm.MethodName)) ∈ lw_all := lw_g (lw_at lw_m4 203 rfl) rfl
theorem q1021 : (Jvm.Cond.selects "SoftWheels$Reader" ({ cls := "SoftWheels$Reader", name := "signed", desc := "(I)I" } : Jvm.MethodName) ({ cls := "SoftWheels$Reader", name := "signed", desc := "(I)I" } : Jvm.MethodName)) ∈ lw_all := lw_g (lw_at lw_m4 204 rfl) rfl
theorem q1022 : (Jvm.Cond.code ({ cls := "SoftWheels$Reader", name := "signed", desc := "(I)I" } : Jvm.MethodName) prog_16_method_17_code (5 : Nat) (Option.some Jvm.ClassFile.FieldType.int)) ∈ lw_all := lw_g (lw_at lw_m4 205 rfl) rfl
theorem q1023 : (Jvm.Cond.stringRef "SoftWheels$Reader" (154 : Nat) "-") ∈ lw_tbl := lw_at lw_m4 206 rfl
theorem q1049 : (Jvm.Cond.instanceMethod ({ cls := "SoftWheels$Reader", name := "needsEnd", desc := "()V" } : Jvm.MethodName)) ∈ lw_all := lw_g (lw_at lw_m4 232 rfl) rfl
theorem q1050 : (Jvm.Cond.selects "SoftWheels$Reader" ({ cls := "SoftWheels$Reader", name := "needsEnd", desc := "()V" } : Jvm.MethodName) ({ cls := "SoftWheels$Reader", name := "needsEnd", desc := "()V" } : Jvm.MethodName)) ∈ lw_all := lw_g (lw_at lw_m4 233 rfl) rfl
theorem q1051 : (Jvm.Cond.code ({ cls := "SoftWheels$Reader", name := "needsEnd", desc := "()V" } : Jvm.MethodName) prog_16_method_13_code (1 : Nat) (Option.none : Option Jvm.ClassFile.FieldType)) ∈ lw_all := lw_g (lw_at lw_m4 234 rfl) rfl
theorem q2561 : (Jvm.Cond.castable "SoftWheels$Reader" "java/lang/Object") ∈ lw_tbl := lw_at lw_m11 64 rfl
theorem in_X5 : ∀ w ∈ wsX50, w ∈ lw_all := lw_in wsX50 [640, 642, 644, 646, 648, 650, 652, 654] (by decide +kernel) (by decide +kernel)

/-! SoftWheels$Ground -/
set_option maxRecDepth 100000
def RX6 : String := "SoftWheels$Ground"
def TX6 : u_T := fun k => match k with
  | 0 => ("SoftWheels$Ground", "name", "Ljava/lang/String;", true)
  | 1 => ("SoftWheels$Ground", "sinks", "LSoftWheels$Line;", true)
  | _ => ("SoftWheels$Ground", "grips", "LSoftWheels$Line;", true)
def tyX6 : Nat → FieldType := fun k => match k with
  | 0 => .object "java/lang/String"
  | 1 => .object "SoftWheels$Line"
  | _ => .object "SoftWheels$Line"
abbrev wsX60 : List Cond := u_ws RX6 TX6 3
theorem nmX6 : ∀ a, a < 3 → ∀ b, b < 3 → a ≠ b → (TX6 a).2.1 ≠ (TX6 b).2.1 := by decide +kernel
theorem tyX6_ok : ∀ k, k < 3 → parseFieldDescriptor (TX6 k).2.2.1 = some (tyX6 k) := by decide +kernel
abbrev cX6_init : ByteArray := prog_8_method_1_code
def yX6_init : MethodName := ⟨RX6, "<init>", "(Ljava/lang/String;)V"⟩
def dkwX6_init_1 : List UInt8 := [181, 0, 16, 42, 43, 181, 0, 19, 177]
abbrev dktX6_init_1 : List UInt8 := dkwX6_init_1 ++ []
def dkwX6_init_0 : List UInt8 := [42, 183, 0, 1, 42, 187, 0, 7, 89, 183, 0, 9, 181, 0, 10, 42, 187, 0, 7, 89, 183, 0, 9]
abbrev dktX6_init_0 : List UInt8 := dkwX6_init_0 ++ dktX6_init_1
theorem dksX6_init_0 : cX6_init.data.toList.drop 0 = dktX6_init_0 := by decide +kernel
theorem dksX6_init_1 : cX6_init.data.toList.drop 23 = dktX6_init_1 := dk_seg dksX6_init_0 23 rfl rfl
theorem dX6_init_0 : decode cX6_init 0 = .ok (.aload_n 0, 1) := dk_42 (dk_at dksX6_init_0 0 rfl rfl)
theorem dX6_init_1 : decode cX6_init 1 = .ok (.invokespecial 1, 3) := dk_183 0 1 (dk_at dksX6_init_0 1 rfl rfl)
theorem dX6_init_4 : decode cX6_init 4 = .ok (.aload_n 0, 1) := dk_42 (dk_at dksX6_init_0 4 rfl rfl)
theorem dX6_init_5 : decode cX6_init 5 = .ok (.new 7, 3) := dk_187 0 7 (dk_at dksX6_init_0 5 rfl rfl)
theorem dX6_init_8 : decode cX6_init 8 = .ok (.dup, 1) := dk_89 (dk_at dksX6_init_0 8 rfl rfl)
theorem dX6_init_9 : decode cX6_init 9 = .ok (.invokespecial 9, 3) := dk_183 0 9 (dk_at dksX6_init_0 9 rfl rfl)
theorem dX6_init_12 : decode cX6_init 12 = .ok (.putfield 10, 3) := dk_181 0 10 (dk_at dksX6_init_0 12 rfl rfl)
theorem dX6_init_15 : decode cX6_init 15 = .ok (.aload_n 0, 1) := dk_42 (dk_at dksX6_init_0 15 rfl rfl)
theorem dX6_init_16 : decode cX6_init 16 = .ok (.new 7, 3) := dk_187 0 7 (dk_at dksX6_init_0 16 rfl rfl)
theorem dX6_init_19 : decode cX6_init 19 = .ok (.dup, 1) := dk_89 (dk_at dksX6_init_0 19 rfl rfl)
theorem dX6_init_20 : decode cX6_init 20 = .ok (.invokespecial 9, 3) := dk_183 0 9 (dk_at dksX6_init_0 20 rfl rfl)
theorem dX6_init_23 : decode cX6_init 23 = .ok (.putfield 16, 3) := dk_181 0 16 (dk_at dksX6_init_1 0 rfl rfl)
theorem dX6_init_26 : decode cX6_init 26 = .ok (.aload_n 0, 1) := dk_42 (dk_at dksX6_init_1 3 rfl rfl)
theorem dX6_init_27 : decode cX6_init 27 = .ok (.aload_n 1, 1) := dk_43 (dk_at dksX6_init_1 4 rfl rfl)
theorem dX6_init_28 : decode cX6_init 28 = .ok (.putfield 19, 3) := dk_181 0 19 (dk_at dksX6_init_1 5 rfl rfl)
theorem dX6_init_31 : decode cX6_init 31 = .ok (.return_, 1) := dk_177 (dk_at dksX6_init_1 8 rfl rfl)
theorem q119 : (Jvm.Cond.initialized "SoftWheels$Ground") ∈ lw_all := lw_g (lw_at lw_m1 22 rfl) rfl
theorem q699 : (Jvm.Cond.instantiable "SoftWheels$Ground" (3 : Nat)) ∈ lw_all := lw_g (lw_at lw_m3 122 rfl) rfl
theorem q853 : (Jvm.Cond.instanceMethod ({ cls := "SoftWheels$Ground", name := "<init>", desc := "(Ljava/lang/String;)V" } : Jvm.MethodName)) ∈ lw_all := lw_g (lw_at lw_m4 36 rfl) rfl
theorem q854 : (Jvm.Cond.code ({ cls := "SoftWheels$Ground", name := "<init>", desc := "(Ljava/lang/String;)V" } : Jvm.MethodName) prog_8_method_1_code (2 : Nat) (Option.none : Option Jvm.ClassFile.FieldType)) ∈ lw_all := lw_g (lw_at lw_m4 37 rfl) rfl
theorem q855 : (Jvm.Cond.methodLink "SoftWheels$Ground" (1 : Nat) ({ cls := "java/lang/Object", name := "<init>", desc := "()V" } : Jvm.MethodName)) ∈ lw_all := lw_g (lw_at lw_m4 38 rfl) rfl
theorem q856 : (Jvm.Cond.classLink "SoftWheels$Ground" (7 : Nat) "SoftWheels$Line") ∈ lw_all := lw_g (lw_at lw_m4 39 rfl) rfl
theorem q858 : (Jvm.Cond.methodLinkNest "SoftWheels$Ground" (9 : Nat) ({ cls := "SoftWheels$Line", name := "<init>", desc := "()V" } : Jvm.MethodName) "SoftWheels") ∈ lw_tbl := lw_at lw_m4 41 rfl
theorem q872 : (Jvm.Cond.fieldLink "SoftWheels$Ground" (19 : Nat) "SoftWheels$Ground" "name" "Ljava/lang/String;") ∈ lw_all := lw_g (lw_at lw_m4 55 rfl) rfl
theorem q874 : (Jvm.Cond.fieldLink "SoftWheels$Ground" (10 : Nat) "SoftWheels$Ground" "sinks" "LSoftWheels$Line;") ∈ lw_all := lw_g (lw_at lw_m4 57 rfl) rfl
theorem q878 : (Jvm.Cond.fieldLink "SoftWheels$Ground" (16 : Nat) "SoftWheels$Ground" "grips" "LSoftWheels$Line;") ∈ lw_all := lw_g (lw_at lw_m4 61 rfl) rfl
theorem q882 : (Jvm.Cond.laysFinal "SoftWheels$Ground" "SoftWheels$Ground" "name" "Ljava/lang/String;") ∈ lw_all := lw_g (lw_at lw_m4 65 rfl) rfl
theorem q883 : (Jvm.Cond.soleField "SoftWheels$Ground" "name") ∈ lw_all := lw_g (lw_at lw_m4 66 rfl) rfl
theorem q884 : (Jvm.Cond.laysFinal "SoftWheels$Ground" "SoftWheels$Ground" "sinks" "LSoftWheels$Line;") ∈ lw_all := lw_g (lw_at lw_m4 67 rfl) rfl
theorem q885 : (Jvm.Cond.soleField "SoftWheels$Ground" "sinks") ∈ lw_all := lw_g (lw_at lw_m4 68 rfl) rfl
theorem q886 : (Jvm.Cond.laysFinal "SoftWheels$Ground" "SoftWheels$Ground" "grips" "LSoftWheels$Line;") ∈ lw_all := lw_g (lw_at lw_m4 69 rfl) rfl
theorem q887 : (Jvm.Cond.soleField "SoftWheels$Ground" "grips") ∈ lw_all := lw_g (lw_at lw_m4 70 rfl) rfl
theorem q888 : (Jvm.Cond.superclass "SoftWheels$Ground" "java/lang/Object") ∈ lw_all := lw_g (lw_at lw_m4 71 rfl) rfl
theorem q963 : (Jvm.Cond.selects "SoftWheels$Ground" ({ cls := "java/lang/Object", name := "getClass", desc := "()Ljava/lang/Class;" } : Jvm.MethodName) ({ cls := "java/lang/Object", name := "getClass", desc := "()Ljava/lang/Class;" } : Jvm.MethodName)) ∈ lw_all := lw_g (lw_at lw_m4 146 rfl) rfl
theorem q2565 : (Jvm.Cond.castable "SoftWheels$Ground" "java/lang/Object") ∈ lw_tbl := lw_at lw_m11 68 rfl
theorem in_X6 : ∀ w ∈ wsX60, w ∈ lw_all := lw_in wsX60 [882, 884, 886] (by decide +kernel) (by decide +kernel)

/-! SoftWheels$Way -/
set_option maxRecDepth 100000
def RX7 : String := "SoftWheels$Way"
abbrev cX7_of : ByteArray := prog_20_method_4_code
def yX7_of : MethodName := ⟨RX7, "of", "(Ljava/lang/String;)LSoftWheels$Way;"⟩
def dkwX7_of_6 : List UInt8 := [178, 0, 3, 176, 178, 0, 7, 176, 178, 0, 10, 176, 178, 0, 13, 176, 1, 176]
abbrev dktX7_of_6 : List UInt8 := dkwX7_of_6 ++ []
def dkwX7_of_5 : List UInt8 := [170, 0, 0, 0, 0, 46, 0, 0, 0, 0, 0, 0, 0, 3, 0, 0, 0, 30, 0, 0, 0, 34, 0, 0, 0, 38, 0, 0, 0, 42]
abbrev dktX7_of_5 : List UInt8 := dkwX7_of_5 ++ dktX7_of_6
def dkwX7_of_4 : List UInt8 := [153, 0, 5, 6, 61, 28]
abbrev dktX7_of_4 : List UInt8 := dkwX7_of_4 ++ dktX7_of_5
def dkwX7_of_3 : List UInt8 := [61, 167, 0, 28, 43, 18, 56, 182, 0, 50, 153, 0, 19, 5, 61, 167, 0, 14, 43, 18, 58, 182, 0, 50]
abbrev dktX7_of_3 : List UInt8 := dkwX7_of_3 ++ dktX7_of_4
def dkwX7_of_2 : List UInt8 := [43, 18, 48, 182, 0, 50, 153, 0, 47, 3, 61, 167, 0, 42, 43, 18, 54, 182, 0, 50, 153, 0, 33, 4]
abbrev dktX7_of_2 : List UInt8 := dkwX7_of_2 ++ dktX7_of_3
def dkwX7_of_1 : List UInt8 := [171, 0, 0, 0, 0, 0, 0, 97, 0, 0, 0, 4, 0, 0, 14, 155, 0, 0, 0, 72, 0, 47, 36, 162, 0, 0, 0, 86, 0, 50, 160, 7, 0, 0, 0, 58, 6, 119, 194, 28, 0, 0, 0, 44]
abbrev dktX7_of_1 : List UInt8 := dkwX7_of_1 ++ dktX7_of_2
def dkwX7_of_0 : List UInt8 := [42, 76, 2, 61, 43, 182, 0, 42]
abbrev dktX7_of_0 : List UInt8 := dkwX7_of_0 ++ dktX7_of_1
theorem dksX7_of_0 : cX7_of.data.toList.drop 0 = dktX7_of_0 := by decide +kernel
theorem dksX7_of_1 : cX7_of.data.toList.drop 8 = dktX7_of_1 := dk_seg dksX7_of_0 8 rfl rfl
theorem dksX7_of_2 : cX7_of.data.toList.drop 52 = dktX7_of_2 := dk_seg dksX7_of_1 44 rfl rfl
theorem dksX7_of_3 : cX7_of.data.toList.drop 76 = dktX7_of_3 := dk_seg dksX7_of_2 24 rfl rfl
theorem dksX7_of_4 : cX7_of.data.toList.drop 100 = dktX7_of_4 := dk_seg dksX7_of_3 24 rfl rfl
theorem dksX7_of_5 : cX7_of.data.toList.drop 106 = dktX7_of_5 := dk_seg dksX7_of_4 6 rfl rfl
theorem dksX7_of_6 : cX7_of.data.toList.drop 136 = dktX7_of_6 := dk_seg dksX7_of_5 30 rfl rfl
theorem dX7_of_0 : decode cX7_of 0 = .ok (.aload_n 0, 1) := dk_42 (dk_at dksX7_of_0 0 rfl rfl)
theorem dX7_of_1 : decode cX7_of 1 = .ok (.astore_n 1, 1) := dk_76 (dk_at dksX7_of_0 1 rfl rfl)
theorem dX7_of_2 : decode cX7_of 2 = .ok (.iconst (-1), 1) := dk_2 (dk_at dksX7_of_0 2 rfl rfl)
theorem dX7_of_3 : decode cX7_of 3 = .ok (.istore_n 2, 1) := dk_61 (dk_at dksX7_of_0 3 rfl rfl)
theorem dX7_of_4 : decode cX7_of 4 = .ok (.aload_n 1, 1) := dk_43 (dk_at dksX7_of_0 4 rfl rfl)
theorem dX7_of_5 : decode cX7_of 5 = .ok (.invokevirtual 42, 3) := dk_182 0 42 (dk_at dksX7_of_0 5 rfl rfl)
theorem dX7_of_8 : decode cX7_of 8 = .ok (.lookupswitch 97 #[(3739, 72), (3089570, 86), (3317767, 58), (108511772, 44)], 44) := by decide +kernel
theorem dX7_of_52 : decode cX7_of 52 = .ok (.aload_n 1, 1) := dk_43 (dk_at dksX7_of_2 0 rfl rfl)
theorem dX7_of_53 : decode cX7_of 53 = .ok (.ldc 48, 2) := dk_18 48 (dk_at dksX7_of_2 1 rfl rfl)
theorem dX7_of_55 : decode cX7_of 55 = .ok (.invokevirtual 50, 3) := dk_182 0 50 (dk_at dksX7_of_2 3 rfl rfl)
theorem dX7_of_58 : decode cX7_of 58 = .ok (.ifCond .eq 47, 3) := dk_153 0 47 (dk_at dksX7_of_2 6 rfl rfl)
theorem dX7_of_61 : decode cX7_of 61 = .ok (.iconst 0, 1) := dk_3 (dk_at dksX7_of_2 9 rfl rfl)
theorem dX7_of_62 : decode cX7_of 62 = .ok (.istore_n 2, 1) := dk_61 (dk_at dksX7_of_2 10 rfl rfl)
theorem dX7_of_63 : decode cX7_of 63 = .ok (.goto 42, 3) := dk_167 0 42 (dk_at dksX7_of_2 11 rfl rfl)
theorem dX7_of_66 : decode cX7_of 66 = .ok (.aload_n 1, 1) := dk_43 (dk_at dksX7_of_2 14 rfl rfl)
theorem dX7_of_67 : decode cX7_of 67 = .ok (.ldc 54, 2) := dk_18 54 (dk_at dksX7_of_2 15 rfl rfl)
theorem dX7_of_69 : decode cX7_of 69 = .ok (.invokevirtual 50, 3) := dk_182 0 50 (dk_at dksX7_of_2 17 rfl rfl)
theorem dX7_of_72 : decode cX7_of 72 = .ok (.ifCond .eq 33, 3) := dk_153 0 33 (dk_at dksX7_of_2 20 rfl rfl)
theorem dX7_of_75 : decode cX7_of 75 = .ok (.iconst 1, 1) := dk_4 (dk_at dksX7_of_2 23 rfl rfl)
theorem dX7_of_76 : decode cX7_of 76 = .ok (.istore_n 2, 1) := dk_61 (dk_at dksX7_of_3 0 rfl rfl)
theorem dX7_of_77 : decode cX7_of 77 = .ok (.goto 28, 3) := dk_167 0 28 (dk_at dksX7_of_3 1 rfl rfl)
theorem dX7_of_80 : decode cX7_of 80 = .ok (.aload_n 1, 1) := dk_43 (dk_at dksX7_of_3 4 rfl rfl)
theorem dX7_of_81 : decode cX7_of 81 = .ok (.ldc 56, 2) := dk_18 56 (dk_at dksX7_of_3 5 rfl rfl)
theorem dX7_of_83 : decode cX7_of 83 = .ok (.invokevirtual 50, 3) := dk_182 0 50 (dk_at dksX7_of_3 7 rfl rfl)
theorem dX7_of_86 : decode cX7_of 86 = .ok (.ifCond .eq 19, 3) := dk_153 0 19 (dk_at dksX7_of_3 10 rfl rfl)
theorem dX7_of_89 : decode cX7_of 89 = .ok (.iconst 2, 1) := dk_5 (dk_at dksX7_of_3 13 rfl rfl)
theorem dX7_of_90 : decode cX7_of 90 = .ok (.istore_n 2, 1) := dk_61 (dk_at dksX7_of_3 14 rfl rfl)
theorem dX7_of_91 : decode cX7_of 91 = .ok (.goto 14, 3) := dk_167 0 14 (dk_at dksX7_of_3 15 rfl rfl)
theorem dX7_of_94 : decode cX7_of 94 = .ok (.aload_n 1, 1) := dk_43 (dk_at dksX7_of_3 18 rfl rfl)
theorem dX7_of_95 : decode cX7_of 95 = .ok (.ldc 58, 2) := dk_18 58 (dk_at dksX7_of_3 19 rfl rfl)
theorem dX7_of_97 : decode cX7_of 97 = .ok (.invokevirtual 50, 3) := dk_182 0 50 (dk_at dksX7_of_3 21 rfl rfl)
theorem dX7_of_100 : decode cX7_of 100 = .ok (.ifCond .eq 5, 3) := dk_153 0 5 (dk_at dksX7_of_4 0 rfl rfl)
theorem dX7_of_103 : decode cX7_of 103 = .ok (.iconst 3, 1) := dk_6 (dk_at dksX7_of_4 3 rfl rfl)
theorem dX7_of_104 : decode cX7_of 104 = .ok (.istore_n 2, 1) := dk_61 (dk_at dksX7_of_4 4 rfl rfl)
theorem dX7_of_105 : decode cX7_of 105 = .ok (.iload_n 2, 1) := dk_28 (dk_at dksX7_of_4 5 rfl rfl)
theorem dX7_of_106 : decode cX7_of 106 = .ok (.tableswitch 46 0 3 #[30, 34, 38, 42], 30) := by decide +kernel
theorem dX7_of_136 : decode cX7_of 136 = .ok (.getstatic 3, 3) := dk_178 0 3 (dk_at dksX7_of_6 0 rfl rfl)
theorem dX7_of_139 : decode cX7_of 139 = .ok (.areturn, 1) := dk_176 (dk_at dksX7_of_6 3 rfl rfl)
theorem dX7_of_140 : decode cX7_of 140 = .ok (.getstatic 7, 3) := dk_178 0 7 (dk_at dksX7_of_6 4 rfl rfl)
theorem dX7_of_143 : decode cX7_of 143 = .ok (.areturn, 1) := dk_176 (dk_at dksX7_of_6 7 rfl rfl)
theorem dX7_of_144 : decode cX7_of 144 = .ok (.getstatic 10, 3) := dk_178 0 10 (dk_at dksX7_of_6 8 rfl rfl)
theorem dX7_of_147 : decode cX7_of 147 = .ok (.areturn, 1) := dk_176 (dk_at dksX7_of_6 11 rfl rfl)
theorem dX7_of_148 : decode cX7_of 148 = .ok (.getstatic 13, 3) := dk_178 0 13 (dk_at dksX7_of_6 12 rfl rfl)
theorem dX7_of_151 : decode cX7_of 151 = .ok (.areturn, 1) := dk_176 (dk_at dksX7_of_6 15 rfl rfl)
theorem dX7_of_152 : decode cX7_of 152 = .ok (.aconst_null, 1) := dk_1 (dk_at dksX7_of_6 16 rfl rfl)
theorem dX7_of_153 : decode cX7_of 153 = .ok (.areturn, 1) := dk_176 (dk_at dksX7_of_6 17 rfl rfl)
abbrev cX7_values : ByteArray := prog_20_method_1_code
def yX7_values : MethodName := ⟨RX7, "values", "()[LSoftWheels$Way;"⟩
def dkwX7_values_0 : List UInt8 := [178, 0, 16, 182, 0, 20, 192, 0, 21, 176]
abbrev dktX7_values_0 : List UInt8 := dkwX7_values_0 ++ []
theorem dksX7_values_0 : cX7_values.data.toList.drop 0 = dktX7_values_0 := by decide +kernel
theorem dX7_values_0 : decode cX7_values 0 = .ok (.getstatic 16, 3) := dk_178 0 16 (dk_at dksX7_values_0 0 rfl rfl)
theorem dX7_values_3 : decode cX7_values 3 = .ok (.invokevirtual 20, 3) := dk_182 0 20 (dk_at dksX7_values_0 3 rfl rfl)
theorem dX7_values_6 : decode cX7_values 6 = .ok (.checkcast 21, 3) := dk_192 0 21 (dk_at dksX7_values_0 6 rfl rfl)
theorem dX7_values_9 : decode cX7_values 9 = .ok (.areturn, 1) := dk_176 (dk_at dksX7_values_0 9 rfl rfl)
theorem q120 : (Jvm.Cond.initialized "SoftWheels$Way") ∈ lw_all := lw_g (lw_at lw_m1 23 rfl) rfl
theorem q764 : (Jvm.Cond.static ({ cls := "SoftWheels$Way", name := "of", desc := "(Ljava/lang/String;)LSoftWheels$Way;" } : Jvm.MethodName)) ∈ lw_all := lw_g (lw_at lw_m3 187 rfl) rfl
theorem q765 : (Jvm.Cond.code ({ cls := "SoftWheels$Way", name := "of", desc := "(Ljava/lang/String;)LSoftWheels$Way;" } : Jvm.MethodName) prog_20_method_4_code (3 : Nat) (Option.some (Jvm.ClassFile.FieldType.object "SoftWheels$Way"))) ∈ lw_all := lw_g (lw_at lw_m3 188 rfl) rfl
theorem q766 : (Jvm.Cond.methodLink "SoftWheels$Way" (42 : Nat) ({ cls := "java/lang/String", name := "hashCode", desc := "()I" } : Jvm.MethodName)) ∈ lw_all := lw_g (lw_at lw_m3 189 rfl) rfl
theorem q767 : (Jvm.Cond.stringRef "SoftWheels$Way" (48 : Nat) "right") ∈ lw_tbl := lw_at lw_m3 190 rfl
theorem q768 : (Jvm.Cond.methodLink "SoftWheels$Way" (50 : Nat) ({ cls := "java/lang/String", name := "equals", desc := "(Ljava/lang/Object;)Z" } : Jvm.MethodName)) ∈ lw_all := lw_g (lw_at lw_m3 191 rfl) rfl
theorem q769 : (Jvm.Cond.stringRef "SoftWheels$Way" (54 : Nat) "left") ∈ lw_tbl := lw_at lw_m3 192 rfl
theorem q770 : (Jvm.Cond.stringRef "SoftWheels$Way" (56 : Nat) "up") ∈ lw_tbl := lw_at lw_m3 193 rfl
theorem q771 : (Jvm.Cond.stringRef "SoftWheels$Way" (58 : Nat) "down") ∈ lw_tbl := lw_at lw_m3 194 rfl
theorem q772 : (Jvm.Cond.fieldLink "SoftWheels$Way" (3 : Nat) "SoftWheels$Way" "RIGHT" "LSoftWheels$Way;") ∈ lw_all := lw_g (lw_at lw_m3 195 rfl) rfl
theorem q773 : (Jvm.Cond.laysStatic "SoftWheels$Way" "RIGHT" "LSoftWheels$Way;") ∈ lw_tbl := lw_at lw_m3 196 rfl
theorem q774 : (Jvm.Cond.fieldLink "SoftWheels$Way" (7 : Nat) "SoftWheels$Way" "LEFT" "LSoftWheels$Way;") ∈ lw_all := lw_g (lw_at lw_m3 197 rfl) rfl
theorem q775 : (Jvm.Cond.laysStatic "SoftWheels$Way" "LEFT" "LSoftWheels$Way;") ∈ lw_tbl := lw_at lw_m3 198 rfl
theorem q776 : (Jvm.Cond.fieldLink "SoftWheels$Way" (10 : Nat) "SoftWheels$Way" "UP" "LSoftWheels$Way;") ∈ lw_all := lw_g (lw_at lw_m3 199 rfl) rfl
theorem q777 : (Jvm.Cond.laysStatic "SoftWheels$Way" "UP" "LSoftWheels$Way;") ∈ lw_tbl := lw_at lw_m3 200 rfl
theorem q778 : (Jvm.Cond.fieldLink "SoftWheels$Way" (13 : Nat) "SoftWheels$Way" "DOWN" "LSoftWheels$Way;") ∈ lw_all := lw_g (lw_at lw_m3 201 rfl) rfl
theorem q779 : (Jvm.Cond.laysStatic "SoftWheels$Way" "DOWN" "LSoftWheels$Way;") ∈ lw_tbl := lw_at lw_m3 202 rfl
theorem q974 : (Jvm.Cond.selects "SoftWheels$Way" ({ cls := "java/lang/Object", name := "getClass", desc := "()Ljava/lang/Class;" } : Jvm.MethodName) ({ cls := "java/lang/Object", name := "getClass", desc := "()Ljava/lang/Class;" } : Jvm.MethodName)) ∈ lw_all := lw_g (lw_at lw_m4 157 rfl) rfl
theorem q1122 : (Jvm.Cond.static ({ cls := "SoftWheels$Way", name := "values", desc := "()[LSoftWheels$Way;" } : Jvm.MethodName)) ∈ lw_all := lw_g (lw_at lw_m5 65 rfl) rfl
theorem q1123 : (Jvm.Cond.code ({ cls := "SoftWheels$Way", name := "values", desc := "()[LSoftWheels$Way;" } : Jvm.MethodName) prog_20_method_1_code (0 : Nat) (Option.some (Jvm.ClassFile.FieldType.array (Jvm.ClassFile.FieldType.object "SoftWheels$Way")))) ∈ lw_all := lw_g (lw_at lw_m5 66 rfl) rfl
theorem q1124 : (Jvm.Cond.fieldLink "SoftWheels$Way" (16 : Nat) "SoftWheels$Way" "$VALUES" "[LSoftWheels$Way;") ∈ lw_all := lw_g (lw_at lw_m5 67 rfl) rfl
theorem q1125 : (Jvm.Cond.laysStatic "SoftWheels$Way" "$VALUES" "[LSoftWheels$Way;") ∈ lw_tbl := lw_at lw_m5 68 rfl
theorem q1126 : (Jvm.Cond.methodLink "SoftWheels$Way" (20 : Nat) ({ cls := "[LSoftWheels$Way;", name := "clone", desc := "()Ljava/lang/Object;" } : Jvm.MethodName)) ∈ lw_all := lw_g (lw_at lw_m5 69 rfl) rfl
theorem q1131 : (Jvm.Cond.classLink "SoftWheels$Way" (21 : Nat) "[LSoftWheels$Way;") ∈ lw_all := lw_g (lw_at lw_m5 74 rfl) rfl
theorem q1324 : (Jvm.Cond.sameMethod "SoftWheels$Way" "java/lang/Enum" "ordinal" "()I") ∈ lw_all := lw_g (lw_at lw_m6 27 rfl) rfl
theorem q1326 : (Jvm.Cond.selects "SoftWheels$Way" ({ cls := "SoftWheels$Way", name := "ordinal", desc := "()I" } : Jvm.MethodName) ({ cls := "java/lang/Enum", name := "ordinal", desc := "()I" } : Jvm.MethodName)) ∈ lw_all := lw_g (lw_at lw_m6 29 rfl) rfl
theorem q2554 : (Jvm.Cond.castable "SoftWheels$Way" "java/lang/Object") ∈ lw_tbl := lw_at lw_m11 57 rfl

/-! SoftWheels$Fault -/
set_option maxRecDepth 100000
def RX8 : String := "SoftWheels$Fault"
def TX8 : u_T := fun k => match k with
  | 0 => ("java/lang/Throwable", "cause", "Ljava/lang/Throwable;", false)
  | 1 => ("java/lang/Throwable", "stackTrace", "[Ljava/lang/StackTraceElement;", false)
  | 2 => ("java/lang/Throwable", "suppressedExceptions", "Ljava/util/List;", false)
  | 3 => ("java/lang/Throwable", "detailMessage", "Ljava/lang/String;", false)
  | 4 => ("java/lang/Throwable", "backtrace", "Ljava/lang/Object;", false)
  | 5 => ("java/lang/Throwable", "depth", "I", false)
  | 6 => ("SoftWheels$Fault", "kind", "I", true)
  | _ => ("SoftWheels$Fault", "place", "I", true)
def tyX8 : Nat → FieldType := fun k => match k with
  | 0 => .object "java/lang/Throwable"
  | 1 => .array (.object "java/lang/StackTraceElement")
  | 2 => .object "java/util/List"
  | 3 => .object "java/lang/String"
  | 4 => .object "java/lang/Object"
  | 5 => .int
  | 6 => .int
  | _ => .int
abbrev wsX80 : List Cond := u_ws RX8 TX8 8
theorem nmX8 : ∀ a, a < 8 → ∀ b, b < 8 → a ≠ b → (TX8 a).2.1 ≠ (TX8 b).2.1 := by decide +kernel
theorem tyX8_ok : ∀ k, k < 8 → parseFieldDescriptor (TX8 k).2.2.1 = some (tyX8 k) := by decide +kernel
abbrev cX8_init : ByteArray := prog_6_method_1_code
def yX8_init : MethodName := ⟨RX8, "<init>", "(II)V"⟩
def dkwX8_init_0 : List UInt8 := [42, 1, 1, 3, 3, 183, 0, 1, 42, 27, 181, 0, 7, 42, 28, 181, 0, 13, 177]
abbrev dktX8_init_0 : List UInt8 := dkwX8_init_0 ++ []
theorem dksX8_init_0 : cX8_init.data.toList.drop 0 = dktX8_init_0 := by decide +kernel
theorem dX8_init_0 : decode cX8_init 0 = .ok (.aload_n 0, 1) := dk_42 (dk_at dksX8_init_0 0 rfl rfl)
theorem dX8_init_1 : decode cX8_init 1 = .ok (.aconst_null, 1) := dk_1 (dk_at dksX8_init_0 1 rfl rfl)
theorem dX8_init_2 : decode cX8_init 2 = .ok (.aconst_null, 1) := dk_1 (dk_at dksX8_init_0 2 rfl rfl)
theorem dX8_init_3 : decode cX8_init 3 = .ok (.iconst 0, 1) := dk_3 (dk_at dksX8_init_0 3 rfl rfl)
theorem dX8_init_4 : decode cX8_init 4 = .ok (.iconst 0, 1) := dk_3 (dk_at dksX8_init_0 4 rfl rfl)
theorem dX8_init_5 : decode cX8_init 5 = .ok (.invokespecial 1, 3) := dk_183 0 1 (dk_at dksX8_init_0 5 rfl rfl)
theorem dX8_init_8 : decode cX8_init 8 = .ok (.aload_n 0, 1) := dk_42 (dk_at dksX8_init_0 8 rfl rfl)
theorem dX8_init_9 : decode cX8_init 9 = .ok (.iload_n 1, 1) := dk_27 (dk_at dksX8_init_0 9 rfl rfl)
theorem dX8_init_10 : decode cX8_init 10 = .ok (.putfield 7, 3) := dk_181 0 7 (dk_at dksX8_init_0 10 rfl rfl)
theorem dX8_init_13 : decode cX8_init 13 = .ok (.aload_n 0, 1) := dk_42 (dk_at dksX8_init_0 13 rfl rfl)
theorem dX8_init_14 : decode cX8_init 14 = .ok (.iload_n 2, 1) := dk_28 (dk_at dksX8_init_0 14 rfl rfl)
theorem dX8_init_15 : decode cX8_init 15 = .ok (.putfield 13, 3) := dk_181 0 13 (dk_at dksX8_init_0 15 rfl rfl)
theorem dX8_init_18 : decode cX8_init 18 = .ok (.return_, 1) := dk_177 (dk_at dksX8_init_0 18 rfl rfl)
theorem q123 : (Jvm.Cond.initialized "SoftWheels$Fault") ∈ lw_all := lw_g (lw_at lw_m1 26 rfl) rfl
theorem q785 : (Jvm.Cond.instantiable "SoftWheels$Fault" (8 : Nat)) ∈ lw_all := lw_g (lw_at lw_m3 208 rfl) rfl
theorem q786 : (Jvm.Cond.castable "SoftWheels$Fault" "SoftWheels$Fault") ∈ lw_tbl := lw_at lw_m3 209 rfl
theorem q791 : (Jvm.Cond.selects "SoftWheels$Fault" ({ cls := "java/lang/Throwable", name := "fillInStackTrace", desc := "(I)Ljava/lang/Throwable;" } : Jvm.MethodName) ({ cls := "java/lang/Throwable", name := "fillInStackTrace", desc := "(I)Ljava/lang/Throwable;" } : Jvm.MethodName)) ∈ lw_all := lw_g (lw_at lw_m3 214 rfl) rfl
theorem q792 : (Jvm.Cond.selects "SoftWheels$Fault" ({ cls := "java/lang/Throwable", name := "fillInStackTrace", desc := "()Ljava/lang/Throwable;" } : Jvm.MethodName) ({ cls := "java/lang/Throwable", name := "fillInStackTrace", desc := "()Ljava/lang/Throwable;" } : Jvm.MethodName)) ∈ lw_all := lw_g (lw_at lw_m3 215 rfl) rfl
theorem q793 : (Jvm.Cond.lays "SoftWheels$Fault" "java/lang/Throwable" "cause" "Ljava/lang/Throwable;") ∈ lw_all := lw_g (lw_at lw_m3 216 rfl) rfl
theorem q795 : (Jvm.Cond.lays "SoftWheels$Fault" "java/lang/Throwable" "stackTrace" "[Ljava/lang/StackTraceElement;") ∈ lw_all := lw_g (lw_at lw_m3 218 rfl) rfl
theorem q797 : (Jvm.Cond.lays "SoftWheels$Fault" "java/lang/Throwable" "suppressedExceptions" "Ljava/util/List;") ∈ lw_all := lw_g (lw_at lw_m3 220 rfl) rfl
theorem q799 : (Jvm.Cond.lays "SoftWheels$Fault" "java/lang/Throwable" "detailMessage" "Ljava/lang/String;") ∈ lw_all := lw_g (lw_at lw_m3 222 rfl) rfl
theorem q801 : (Jvm.Cond.lays "SoftWheels$Fault" "java/lang/Throwable" "backtrace" "Ljava/lang/Object;") ∈ lw_all := lw_g (lw_at lw_m3 224 rfl) rfl
theorem q823 : (Jvm.Cond.instanceMethod ({ cls := "SoftWheels$Fault", name := "<init>", desc := "(II)V" } : Jvm.MethodName)) ∈ lw_all := lw_g (lw_at lw_m4 6 rfl) rfl
theorem q824 : (Jvm.Cond.code ({ cls := "SoftWheels$Fault", name := "<init>", desc := "(II)V" } : Jvm.MethodName) prog_6_method_1_code (3 : Nat) (Option.none : Option Jvm.ClassFile.FieldType)) ∈ lw_all := lw_g (lw_at lw_m4 7 rfl) rfl
theorem q825 : (Jvm.Cond.methodLink "SoftWheels$Fault" (1 : Nat) ({ cls := "java/lang/Exception", name := "<init>", desc := "(Ljava/lang/String;Ljava/lang/Throwable;ZZ)V" } : Jvm.MethodName)) ∈ lw_all := lw_g (lw_at lw_m4 8 rfl) rfl
theorem q831 : (Jvm.Cond.fieldLink "SoftWheels$Fault" (7 : Nat) "SoftWheels$Fault" "kind" "I") ∈ lw_all := lw_g (lw_at lw_m4 14 rfl) rfl
theorem q833 : (Jvm.Cond.fieldLink "SoftWheels$Fault" (13 : Nat) "SoftWheels$Fault" "place" "I") ∈ lw_all := lw_g (lw_at lw_m4 16 rfl) rfl
theorem q840 : (Jvm.Cond.laysFinal "SoftWheels$Fault" "SoftWheels$Fault" "kind" "I") ∈ lw_all := lw_g (lw_at lw_m4 23 rfl) rfl
theorem q841 : (Jvm.Cond.soleField "SoftWheels$Fault" "kind") ∈ lw_all := lw_g (lw_at lw_m4 24 rfl) rfl
theorem q842 : (Jvm.Cond.laysFinal "SoftWheels$Fault" "SoftWheels$Fault" "place" "I") ∈ lw_all := lw_g (lw_at lw_m4 25 rfl) rfl
theorem q843 : (Jvm.Cond.soleField "SoftWheels$Fault" "place") ∈ lw_all := lw_g (lw_at lw_m4 26 rfl) rfl
theorem q848 : (Jvm.Cond.lays "SoftWheels$Fault" "java/lang/Throwable" "depth" "I") ∈ lw_all := lw_g (lw_at lw_m4 31 rfl) rfl
theorem q851 : (Jvm.Cond.superclass "SoftWheels$Fault" "java/lang/Exception") ∈ lw_all := lw_g (lw_at lw_m4 34 rfl) rfl
theorem q961 : (Jvm.Cond.selects "SoftWheels$Fault" ({ cls := "java/lang/Object", name := "getClass", desc := "()Ljava/lang/Class;" } : Jvm.MethodName) ({ cls := "java/lang/Object", name := "getClass", desc := "()Ljava/lang/Class;" } : Jvm.MethodName)) ∈ lw_all := lw_g (lw_at lw_m4 144 rfl) rfl
theorem q2567 : (Jvm.Cond.castable "SoftWheels$Fault" "java/lang/Object") ∈ lw_tbl := lw_at lw_m11 70 rfl
theorem in_X8 : ∀ w ∈ wsX80, w ∈ lw_all := lw_in wsX80 [793, 795, 797, 799, 801, 848, 840, 842] (by decide +kernel) (by decide +kernel)

/-! SoftWheels$Line -/
set_option maxRecDepth 100000
def RX9 : String := "SoftWheels$Line"
def TX9 : u_T := fun k => match k with
  | 0 => ("SoftWheels$Line", "at", "[I", true)
  | 1 => ("SoftWheels$Line", "value", "[I", true)
  | _ => ("SoftWheels$Line", "size", "I", false)
def tyX9 : Nat → FieldType := fun k => match k with
  | 0 => .array .int
  | 1 => .array .int
  | _ => .int
abbrev wsX90 : List Cond := u_ws RX9 TX9 3
theorem nmX9 : ∀ a, a < 3 → ∀ b, b < 3 → a ≠ b → (TX9 a).2.1 ≠ (TX9 b).2.1 := by decide +kernel
theorem tyX9_ok : ∀ k, k < 3 → parseFieldDescriptor (TX9 k).2.2.1 = some (tyX9 k) := by decide +kernel
abbrev cX9_init : ByteArray := prog_12_method_1_code
def yX9_init : MethodName := ⟨RX9, "<init>", "()V"⟩
def dkwX9_init_0 : List UInt8 := [42, 183, 0, 3, 42, 7, 188, 10, 181, 0, 9, 42, 7, 188, 10, 181, 0, 15, 177]
abbrev dktX9_init_0 : List UInt8 := dkwX9_init_0 ++ []
theorem dksX9_init_0 : cX9_init.data.toList.drop 0 = dktX9_init_0 := by decide +kernel
theorem dX9_init_0 : decode cX9_init 0 = .ok (.aload_n 0, 1) := dk_42 (dk_at dksX9_init_0 0 rfl rfl)
theorem dX9_init_1 : decode cX9_init 1 = .ok (.invokespecial 3, 3) := dk_183 0 3 (dk_at dksX9_init_0 1 rfl rfl)
theorem dX9_init_4 : decode cX9_init 4 = .ok (.aload_n 0, 1) := dk_42 (dk_at dksX9_init_0 4 rfl rfl)
theorem dX9_init_5 : decode cX9_init 5 = .ok (.iconst 4, 1) := dk_7 (dk_at dksX9_init_0 5 rfl rfl)
theorem dX9_init_6 : decode cX9_init 6 = .ok (.newarray .int, 2) := dk_188_10 (dk_at dksX9_init_0 6 rfl rfl)
theorem dX9_init_8 : decode cX9_init 8 = .ok (.putfield 9, 3) := dk_181 0 9 (dk_at dksX9_init_0 8 rfl rfl)
theorem dX9_init_11 : decode cX9_init 11 = .ok (.aload_n 0, 1) := dk_42 (dk_at dksX9_init_0 11 rfl rfl)
theorem dX9_init_12 : decode cX9_init 12 = .ok (.iconst 4, 1) := dk_7 (dk_at dksX9_init_0 12 rfl rfl)
theorem dX9_init_13 : decode cX9_init 13 = .ok (.newarray .int, 2) := dk_188_10 (dk_at dksX9_init_0 13 rfl rfl)
theorem dX9_init_15 : decode cX9_init 15 = .ok (.putfield 15, 3) := dk_181 0 15 (dk_at dksX9_init_0 15 rfl rfl)
theorem dX9_init_18 : decode cX9_init 18 = .ok (.return_, 1) := dk_177 (dk_at dksX9_init_0 18 rfl rfl)
abbrev cX9_read : ByteArray := prog_12_method_2_code
def yX9_read : MethodName := ⟨RX9, "read", "(LSoftWheels$Reader;IIZ)V"⟩
def dkwX9_read_6 : List UInt8 := [181, 0, 33, 43, 18, 50, 182, 0, 52, 154, 255, 107, 177]
abbrev dktX9_read_6 : List UInt8 := dkwX9_read_6 ++ []
def dkwX9_read_5 : List UInt8 := [42, 180, 0, 33, 4, 100, 46, 167, 0, 4, 3, 29, 182, 0, 47, 79, 42, 89, 180, 0, 33, 4, 96]
abbrev dktX9_read_5 : List UInt8 := dkwX9_read_5 ++ dktX9_read_6
def dkwX9_read_4 : List UInt8 := [180, 0, 15, 42, 180, 0, 33, 43, 21, 4, 153, 0, 24, 42, 180, 0, 33, 158, 0, 17, 42, 180, 0, 15]
abbrev dktX9_read_4 : List UInt8 := dkwX9_read_4 ++ dktX9_read_5
def dkwX9_read_3 : List UInt8 := [182, 0, 29, 191, 42, 180, 0, 9, 42, 180, 0, 33, 43, 180, 0, 37, 79, 43, 182, 0, 44, 42]
abbrev dktX9_read_3 : List UInt8 := dkwX9_read_3 ++ dktX9_read_4
def dkwX9_read_2 : List UInt8 := [28, 184, 0, 40, 154, 0, 9, 43, 7, 182, 0, 29, 191, 42, 180, 0, 33, 7, 160, 0, 9, 43, 8]
abbrev dktX9_read_2 : List UInt8 := dkwX9_read_2 ++ dktX9_read_3
def dkwX9_read_1 : List UInt8 := [167, 0, 16, 42, 180, 0, 9, 42, 180, 0, 33, 4, 100, 46, 4, 96, 54, 5, 43, 180, 0, 37, 21, 5]
abbrev dktX9_read_1 : List UInt8 := dkwX9_read_1 ++ dktX9_read_2
def dkwX9_read_0 : List UInt8 := [43, 180, 0, 18, 178, 0, 24, 165, 0, 9, 43, 4, 182, 0, 29, 191, 42, 180, 0, 33, 154, 0, 7, 3]
abbrev dktX9_read_0 : List UInt8 := dkwX9_read_0 ++ dktX9_read_1
theorem dksX9_read_0 : cX9_read.data.toList.drop 0 = dktX9_read_0 := by decide +kernel
theorem dksX9_read_1 : cX9_read.data.toList.drop 24 = dktX9_read_1 := dk_seg dksX9_read_0 24 rfl rfl
theorem dksX9_read_2 : cX9_read.data.toList.drop 48 = dktX9_read_2 := dk_seg dksX9_read_1 24 rfl rfl
theorem dksX9_read_3 : cX9_read.data.toList.drop 71 = dktX9_read_3 := dk_seg dksX9_read_2 23 rfl rfl
theorem dksX9_read_4 : cX9_read.data.toList.drop 93 = dktX9_read_4 := dk_seg dksX9_read_3 22 rfl rfl
theorem dksX9_read_5 : cX9_read.data.toList.drop 117 = dktX9_read_5 := dk_seg dksX9_read_4 24 rfl rfl
theorem dksX9_read_6 : cX9_read.data.toList.drop 140 = dktX9_read_6 := dk_seg dksX9_read_5 23 rfl rfl
theorem dX9_read_0 : decode cX9_read 0 = .ok (.aload_n 1, 1) := dk_43 (dk_at dksX9_read_0 0 rfl rfl)
theorem dX9_read_1 : decode cX9_read 1 = .ok (.getfield 18, 3) := dk_180 0 18 (dk_at dksX9_read_0 1 rfl rfl)
theorem dX9_read_4 : decode cX9_read 4 = .ok (.getstatic 24, 3) := dk_178 0 24 (dk_at dksX9_read_0 4 rfl rfl)
theorem dX9_read_7 : decode cX9_read 7 = .ok (.if_acmp .eq 9, 3) := dk_165 0 9 (dk_at dksX9_read_0 7 rfl rfl)
theorem dX9_read_10 : decode cX9_read 10 = .ok (.aload_n 1, 1) := dk_43 (dk_at dksX9_read_0 10 rfl rfl)
theorem dX9_read_11 : decode cX9_read 11 = .ok (.iconst 1, 1) := dk_4 (dk_at dksX9_read_0 11 rfl rfl)
theorem dX9_read_12 : decode cX9_read 12 = .ok (.invokevirtual 29, 3) := dk_182 0 29 (dk_at dksX9_read_0 12 rfl rfl)
theorem dX9_read_15 : decode cX9_read 15 = .ok (.athrow, 1) := dk_191 (dk_at dksX9_read_0 15 rfl rfl)
theorem dX9_read_16 : decode cX9_read 16 = .ok (.aload_n 0, 1) := dk_42 (dk_at dksX9_read_0 16 rfl rfl)
theorem dX9_read_17 : decode cX9_read 17 = .ok (.getfield 33, 3) := dk_180 0 33 (dk_at dksX9_read_0 17 rfl rfl)
theorem dX9_read_20 : decode cX9_read 20 = .ok (.ifCond .ne 7, 3) := dk_154 0 7 (dk_at dksX9_read_0 20 rfl rfl)
theorem dX9_read_23 : decode cX9_read 23 = .ok (.iconst 0, 1) := dk_3 (dk_at dksX9_read_0 23 rfl rfl)
theorem dX9_read_24 : decode cX9_read 24 = .ok (.goto 16, 3) := dk_167 0 16 (dk_at dksX9_read_1 0 rfl rfl)
theorem dX9_read_27 : decode cX9_read 27 = .ok (.aload_n 0, 1) := dk_42 (dk_at dksX9_read_1 3 rfl rfl)
theorem dX9_read_28 : decode cX9_read 28 = .ok (.getfield 9, 3) := dk_180 0 9 (dk_at dksX9_read_1 4 rfl rfl)
theorem dX9_read_31 : decode cX9_read 31 = .ok (.aload_n 0, 1) := dk_42 (dk_at dksX9_read_1 7 rfl rfl)
theorem dX9_read_32 : decode cX9_read 32 = .ok (.getfield 33, 3) := dk_180 0 33 (dk_at dksX9_read_1 8 rfl rfl)
theorem dX9_read_35 : decode cX9_read 35 = .ok (.iconst 1, 1) := dk_4 (dk_at dksX9_read_1 11 rfl rfl)
theorem dX9_read_36 : decode cX9_read 36 = .ok (.isub, 1) := dk_100 (dk_at dksX9_read_1 12 rfl rfl)
theorem dX9_read_37 : decode cX9_read 37 = .ok (.iaload, 1) := dk_46 (dk_at dksX9_read_1 13 rfl rfl)
theorem dX9_read_38 : decode cX9_read 38 = .ok (.iconst 1, 1) := dk_4 (dk_at dksX9_read_1 14 rfl rfl)
theorem dX9_read_39 : decode cX9_read 39 = .ok (.iadd, 1) := dk_96 (dk_at dksX9_read_1 15 rfl rfl)
theorem dX9_read_40 : decode cX9_read 40 = .ok (.istore 5, 2) := dk_54 5 (dk_at dksX9_read_1 16 rfl rfl)
theorem dX9_read_42 : decode cX9_read 42 = .ok (.aload_n 1, 1) := dk_43 (dk_at dksX9_read_1 18 rfl rfl)
theorem dX9_read_43 : decode cX9_read 43 = .ok (.getfield 37, 3) := dk_180 0 37 (dk_at dksX9_read_1 19 rfl rfl)
theorem dX9_read_46 : decode cX9_read 46 = .ok (.iload 5, 2) := dk_21 5 (dk_at dksX9_read_1 22 rfl rfl)
theorem dX9_read_48 : decode cX9_read 48 = .ok (.iload_n 2, 1) := dk_28 (dk_at dksX9_read_2 0 rfl rfl)
theorem dX9_read_49 : decode cX9_read 49 = .ok (.invokestatic 40, 3) := dk_184 0 40 (dk_at dksX9_read_2 1 rfl rfl)
theorem dX9_read_52 : decode cX9_read 52 = .ok (.ifCond .ne 9, 3) := dk_154 0 9 (dk_at dksX9_read_2 4 rfl rfl)
theorem dX9_read_55 : decode cX9_read 55 = .ok (.aload_n 1, 1) := dk_43 (dk_at dksX9_read_2 7 rfl rfl)
theorem dX9_read_56 : decode cX9_read 56 = .ok (.iconst 4, 1) := dk_7 (dk_at dksX9_read_2 8 rfl rfl)
theorem dX9_read_57 : decode cX9_read 57 = .ok (.invokevirtual 29, 3) := dk_182 0 29 (dk_at dksX9_read_2 9 rfl rfl)
theorem dX9_read_60 : decode cX9_read 60 = .ok (.athrow, 1) := dk_191 (dk_at dksX9_read_2 12 rfl rfl)
theorem dX9_read_61 : decode cX9_read 61 = .ok (.aload_n 0, 1) := dk_42 (dk_at dksX9_read_2 13 rfl rfl)
theorem dX9_read_62 : decode cX9_read 62 = .ok (.getfield 33, 3) := dk_180 0 33 (dk_at dksX9_read_2 14 rfl rfl)
theorem dX9_read_65 : decode cX9_read 65 = .ok (.iconst 4, 1) := dk_7 (dk_at dksX9_read_2 17 rfl rfl)
theorem dX9_read_66 : decode cX9_read 66 = .ok (.if_icmp .ne 9, 3) := dk_160 0 9 (dk_at dksX9_read_2 18 rfl rfl)
theorem dX9_read_69 : decode cX9_read 69 = .ok (.aload_n 1, 1) := dk_43 (dk_at dksX9_read_2 21 rfl rfl)
theorem dX9_read_70 : decode cX9_read 70 = .ok (.iconst 5, 1) := dk_8 (dk_at dksX9_read_2 22 rfl rfl)
theorem dX9_read_71 : decode cX9_read 71 = .ok (.invokevirtual 29, 3) := dk_182 0 29 (dk_at dksX9_read_3 0 rfl rfl)
theorem dX9_read_74 : decode cX9_read 74 = .ok (.athrow, 1) := dk_191 (dk_at dksX9_read_3 3 rfl rfl)
theorem dX9_read_75 : decode cX9_read 75 = .ok (.aload_n 0, 1) := dk_42 (dk_at dksX9_read_3 4 rfl rfl)
theorem dX9_read_76 : decode cX9_read 76 = .ok (.getfield 9, 3) := dk_180 0 9 (dk_at dksX9_read_3 5 rfl rfl)
theorem dX9_read_79 : decode cX9_read 79 = .ok (.aload_n 0, 1) := dk_42 (dk_at dksX9_read_3 8 rfl rfl)
theorem dX9_read_80 : decode cX9_read 80 = .ok (.getfield 33, 3) := dk_180 0 33 (dk_at dksX9_read_3 9 rfl rfl)
theorem dX9_read_83 : decode cX9_read 83 = .ok (.aload_n 1, 1) := dk_43 (dk_at dksX9_read_3 12 rfl rfl)
theorem dX9_read_84 : decode cX9_read 84 = .ok (.getfield 37, 3) := dk_180 0 37 (dk_at dksX9_read_3 13 rfl rfl)
theorem dX9_read_87 : decode cX9_read 87 = .ok (.iastore, 1) := dk_79 (dk_at dksX9_read_3 16 rfl rfl)
theorem dX9_read_88 : decode cX9_read 88 = .ok (.aload_n 1, 1) := dk_43 (dk_at dksX9_read_3 17 rfl rfl)
theorem dX9_read_89 : decode cX9_read 89 = .ok (.invokevirtual 44, 3) := dk_182 0 44 (dk_at dksX9_read_3 18 rfl rfl)
theorem dX9_read_92 : decode cX9_read 92 = .ok (.aload_n 0, 1) := dk_42 (dk_at dksX9_read_3 21 rfl rfl)
theorem dX9_read_93 : decode cX9_read 93 = .ok (.getfield 15, 3) := dk_180 0 15 (dk_at dksX9_read_4 0 rfl rfl)
theorem dX9_read_96 : decode cX9_read 96 = .ok (.aload_n 0, 1) := dk_42 (dk_at dksX9_read_4 3 rfl rfl)
theorem dX9_read_97 : decode cX9_read 97 = .ok (.getfield 33, 3) := dk_180 0 33 (dk_at dksX9_read_4 4 rfl rfl)
theorem dX9_read_100 : decode cX9_read 100 = .ok (.aload_n 1, 1) := dk_43 (dk_at dksX9_read_4 7 rfl rfl)
theorem dX9_read_101 : decode cX9_read 101 = .ok (.iload 4, 2) := dk_21 4 (dk_at dksX9_read_4 8 rfl rfl)
theorem dX9_read_103 : decode cX9_read 103 = .ok (.ifCond .eq 24, 3) := dk_153 0 24 (dk_at dksX9_read_4 10 rfl rfl)
theorem dX9_read_106 : decode cX9_read 106 = .ok (.aload_n 0, 1) := dk_42 (dk_at dksX9_read_4 13 rfl rfl)
theorem dX9_read_107 : decode cX9_read 107 = .ok (.getfield 33, 3) := dk_180 0 33 (dk_at dksX9_read_4 14 rfl rfl)
theorem dX9_read_110 : decode cX9_read 110 = .ok (.ifCond .le 17, 3) := dk_158 0 17 (dk_at dksX9_read_4 17 rfl rfl)
theorem dX9_read_113 : decode cX9_read 113 = .ok (.aload_n 0, 1) := dk_42 (dk_at dksX9_read_4 20 rfl rfl)
theorem dX9_read_114 : decode cX9_read 114 = .ok (.getfield 15, 3) := dk_180 0 15 (dk_at dksX9_read_4 21 rfl rfl)
theorem dX9_read_117 : decode cX9_read 117 = .ok (.aload_n 0, 1) := dk_42 (dk_at dksX9_read_5 0 rfl rfl)
theorem dX9_read_118 : decode cX9_read 118 = .ok (.getfield 33, 3) := dk_180 0 33 (dk_at dksX9_read_5 1 rfl rfl)
theorem dX9_read_121 : decode cX9_read 121 = .ok (.iconst 1, 1) := dk_4 (dk_at dksX9_read_5 4 rfl rfl)
theorem dX9_read_122 : decode cX9_read 122 = .ok (.isub, 1) := dk_100 (dk_at dksX9_read_5 5 rfl rfl)
theorem dX9_read_123 : decode cX9_read 123 = .ok (.iaload, 1) := dk_46 (dk_at dksX9_read_5 6 rfl rfl)
theorem dX9_read_124 : decode cX9_read 124 = .ok (.goto 4, 3) := dk_167 0 4 (dk_at dksX9_read_5 7 rfl rfl)
theorem dX9_read_127 : decode cX9_read 127 = .ok (.iconst 0, 1) := dk_3 (dk_at dksX9_read_5 10 rfl rfl)
theorem dX9_read_128 : decode cX9_read 128 = .ok (.iload_n 3, 1) := dk_29 (dk_at dksX9_read_5 11 rfl rfl)
theorem dX9_read_129 : decode cX9_read 129 = .ok (.invokevirtual 47, 3) := dk_182 0 47 (dk_at dksX9_read_5 12 rfl rfl)
theorem dX9_read_132 : decode cX9_read 132 = .ok (.iastore, 1) := dk_79 (dk_at dksX9_read_5 15 rfl rfl)
theorem dX9_read_133 : decode cX9_read 133 = .ok (.aload_n 0, 1) := dk_42 (dk_at dksX9_read_5 16 rfl rfl)
theorem dX9_read_134 : decode cX9_read 134 = .ok (.dup, 1) := dk_89 (dk_at dksX9_read_5 17 rfl rfl)
theorem dX9_read_135 : decode cX9_read 135 = .ok (.getfield 33, 3) := dk_180 0 33 (dk_at dksX9_read_5 18 rfl rfl)
theorem dX9_read_138 : decode cX9_read 138 = .ok (.iconst 1, 1) := dk_4 (dk_at dksX9_read_5 21 rfl rfl)
theorem dX9_read_139 : decode cX9_read 139 = .ok (.iadd, 1) := dk_96 (dk_at dksX9_read_5 22 rfl rfl)
theorem dX9_read_140 : decode cX9_read 140 = .ok (.putfield 33, 3) := dk_181 0 33 (dk_at dksX9_read_6 0 rfl rfl)
theorem dX9_read_143 : decode cX9_read 143 = .ok (.aload_n 1, 1) := dk_43 (dk_at dksX9_read_6 3 rfl rfl)
theorem dX9_read_144 : decode cX9_read 144 = .ok (.ldc 50, 2) := dk_18 50 (dk_at dksX9_read_6 4 rfl rfl)
theorem dX9_read_146 : decode cX9_read 146 = .ok (.invokevirtual 52, 3) := dk_182 0 52 (dk_at dksX9_read_6 6 rfl rfl)
theorem dX9_read_149 : decode cX9_read 149 = .ok (.ifCond .ne (-149), 3) := dk_154 255 107 (dk_at dksX9_read_6 9 rfl rfl)
theorem dX9_read_152 : decode cX9_read 152 = .ok (.return_, 1) := dk_177 (dk_at dksX9_read_6 12 rfl rfl)
abbrev cX9_value : ByteArray := prog_12_method_3_code
def yX9_value : MethodName := ⟨RX9, "value", "(I)I"⟩
def dkwX9_value_4 : List UInt8 := [180, 0, 9, 28, 46, 42, 180, 0, 9, 28, 4, 100, 46, 100, 184, 0, 56, 96, 172]
abbrev dktX9_value_4 : List UInt8 := dkwX9_value_4 ++ []
def dkwX9_value_3 : List UInt8 := [46, 42, 180, 0, 15, 28, 4, 100, 46, 100, 27, 42, 180, 0, 9, 28, 4, 100, 46, 100, 104, 42]
abbrev dktX9_value_3 : List UInt8 := dkwX9_value_3 ++ dktX9_value_4
def dkwX9_value_2 : List UInt8 := [180, 0, 15, 42, 180, 0, 33, 4, 100, 46, 172, 42, 180, 0, 15, 28, 4, 100, 46, 42, 180, 0, 15, 28]
abbrev dktX9_value_2 : List UInt8 := dkwX9_value_2 ++ dktX9_value_3
def dkwX9_value_1 : List UInt8 := [167, 255, 235, 28, 154, 0, 10, 42, 180, 0, 15, 3, 46, 172, 28, 42, 180, 0, 33, 160, 0, 15, 42]
abbrev dktX9_value_1 : List UInt8 := dkwX9_value_1 ++ dktX9_value_2
def dkwX9_value_0 : List UInt8 := [3, 61, 28, 42, 180, 0, 33, 162, 0, 19, 42, 180, 0, 9, 28, 46, 27, 163, 0, 9, 132, 2, 1]
abbrev dktX9_value_0 : List UInt8 := dkwX9_value_0 ++ dktX9_value_1
theorem dksX9_value_0 : cX9_value.data.toList.drop 0 = dktX9_value_0 := by decide +kernel
theorem dksX9_value_1 : cX9_value.data.toList.drop 23 = dktX9_value_1 := dk_seg dksX9_value_0 23 rfl rfl
theorem dksX9_value_2 : cX9_value.data.toList.drop 46 = dktX9_value_2 := dk_seg dksX9_value_1 23 rfl rfl
theorem dksX9_value_3 : cX9_value.data.toList.drop 70 = dktX9_value_3 := dk_seg dksX9_value_2 24 rfl rfl
theorem dksX9_value_4 : cX9_value.data.toList.drop 92 = dktX9_value_4 := dk_seg dksX9_value_3 22 rfl rfl
theorem dX9_value_0 : decode cX9_value 0 = .ok (.iconst 0, 1) := dk_3 (dk_at dksX9_value_0 0 rfl rfl)
theorem dX9_value_1 : decode cX9_value 1 = .ok (.istore_n 2, 1) := dk_61 (dk_at dksX9_value_0 1 rfl rfl)
theorem dX9_value_2 : decode cX9_value 2 = .ok (.iload_n 2, 1) := dk_28 (dk_at dksX9_value_0 2 rfl rfl)
theorem dX9_value_3 : decode cX9_value 3 = .ok (.aload_n 0, 1) := dk_42 (dk_at dksX9_value_0 3 rfl rfl)
theorem dX9_value_4 : decode cX9_value 4 = .ok (.getfield 33, 3) := dk_180 0 33 (dk_at dksX9_value_0 4 rfl rfl)
theorem dX9_value_7 : decode cX9_value 7 = .ok (.if_icmp .ge 19, 3) := dk_162 0 19 (dk_at dksX9_value_0 7 rfl rfl)
theorem dX9_value_10 : decode cX9_value 10 = .ok (.aload_n 0, 1) := dk_42 (dk_at dksX9_value_0 10 rfl rfl)
theorem dX9_value_11 : decode cX9_value 11 = .ok (.getfield 9, 3) := dk_180 0 9 (dk_at dksX9_value_0 11 rfl rfl)
theorem dX9_value_14 : decode cX9_value 14 = .ok (.iload_n 2, 1) := dk_28 (dk_at dksX9_value_0 14 rfl rfl)
theorem dX9_value_15 : decode cX9_value 15 = .ok (.iaload, 1) := dk_46 (dk_at dksX9_value_0 15 rfl rfl)
theorem dX9_value_16 : decode cX9_value 16 = .ok (.iload_n 1, 1) := dk_27 (dk_at dksX9_value_0 16 rfl rfl)
theorem dX9_value_17 : decode cX9_value 17 = .ok (.if_icmp .gt 9, 3) := dk_163 0 9 (dk_at dksX9_value_0 17 rfl rfl)
theorem dX9_value_20 : decode cX9_value 20 = .ok (.iinc 2 1, 3) := dk_132 2 1 (dk_at dksX9_value_0 20 rfl rfl)
theorem dX9_value_23 : decode cX9_value 23 = .ok (.goto (-21), 3) := dk_167 255 235 (dk_at dksX9_value_1 0 rfl rfl)
theorem dX9_value_26 : decode cX9_value 26 = .ok (.iload_n 2, 1) := dk_28 (dk_at dksX9_value_1 3 rfl rfl)
theorem dX9_value_27 : decode cX9_value 27 = .ok (.ifCond .ne 10, 3) := dk_154 0 10 (dk_at dksX9_value_1 4 rfl rfl)
theorem dX9_value_30 : decode cX9_value 30 = .ok (.aload_n 0, 1) := dk_42 (dk_at dksX9_value_1 7 rfl rfl)
theorem dX9_value_31 : decode cX9_value 31 = .ok (.getfield 15, 3) := dk_180 0 15 (dk_at dksX9_value_1 8 rfl rfl)
theorem dX9_value_34 : decode cX9_value 34 = .ok (.iconst 0, 1) := dk_3 (dk_at dksX9_value_1 11 rfl rfl)
theorem dX9_value_35 : decode cX9_value 35 = .ok (.iaload, 1) := dk_46 (dk_at dksX9_value_1 12 rfl rfl)
theorem dX9_value_36 : decode cX9_value 36 = .ok (.ireturn, 1) := dk_172 (dk_at dksX9_value_1 13 rfl rfl)
theorem dX9_value_37 : decode cX9_value 37 = .ok (.iload_n 2, 1) := dk_28 (dk_at dksX9_value_1 14 rfl rfl)
theorem dX9_value_38 : decode cX9_value 38 = .ok (.aload_n 0, 1) := dk_42 (dk_at dksX9_value_1 15 rfl rfl)
theorem dX9_value_39 : decode cX9_value 39 = .ok (.getfield 33, 3) := dk_180 0 33 (dk_at dksX9_value_1 16 rfl rfl)
theorem dX9_value_42 : decode cX9_value 42 = .ok (.if_icmp .ne 15, 3) := dk_160 0 15 (dk_at dksX9_value_1 19 rfl rfl)
theorem dX9_value_45 : decode cX9_value 45 = .ok (.aload_n 0, 1) := dk_42 (dk_at dksX9_value_1 22 rfl rfl)
theorem dX9_value_46 : decode cX9_value 46 = .ok (.getfield 15, 3) := dk_180 0 15 (dk_at dksX9_value_2 0 rfl rfl)
theorem dX9_value_49 : decode cX9_value 49 = .ok (.aload_n 0, 1) := dk_42 (dk_at dksX9_value_2 3 rfl rfl)
theorem dX9_value_50 : decode cX9_value 50 = .ok (.getfield 33, 3) := dk_180 0 33 (dk_at dksX9_value_2 4 rfl rfl)
theorem dX9_value_53 : decode cX9_value 53 = .ok (.iconst 1, 1) := dk_4 (dk_at dksX9_value_2 7 rfl rfl)
theorem dX9_value_54 : decode cX9_value 54 = .ok (.isub, 1) := dk_100 (dk_at dksX9_value_2 8 rfl rfl)
theorem dX9_value_55 : decode cX9_value 55 = .ok (.iaload, 1) := dk_46 (dk_at dksX9_value_2 9 rfl rfl)
theorem dX9_value_56 : decode cX9_value 56 = .ok (.ireturn, 1) := dk_172 (dk_at dksX9_value_2 10 rfl rfl)
theorem dX9_value_57 : decode cX9_value 57 = .ok (.aload_n 0, 1) := dk_42 (dk_at dksX9_value_2 11 rfl rfl)
theorem dX9_value_58 : decode cX9_value 58 = .ok (.getfield 15, 3) := dk_180 0 15 (dk_at dksX9_value_2 12 rfl rfl)
theorem dX9_value_61 : decode cX9_value 61 = .ok (.iload_n 2, 1) := dk_28 (dk_at dksX9_value_2 15 rfl rfl)
theorem dX9_value_62 : decode cX9_value 62 = .ok (.iconst 1, 1) := dk_4 (dk_at dksX9_value_2 16 rfl rfl)
theorem dX9_value_63 : decode cX9_value 63 = .ok (.isub, 1) := dk_100 (dk_at dksX9_value_2 17 rfl rfl)
theorem dX9_value_64 : decode cX9_value 64 = .ok (.iaload, 1) := dk_46 (dk_at dksX9_value_2 18 rfl rfl)
theorem dX9_value_65 : decode cX9_value 65 = .ok (.aload_n 0, 1) := dk_42 (dk_at dksX9_value_2 19 rfl rfl)
theorem dX9_value_66 : decode cX9_value 66 = .ok (.getfield 15, 3) := dk_180 0 15 (dk_at dksX9_value_2 20 rfl rfl)
theorem dX9_value_69 : decode cX9_value 69 = .ok (.iload_n 2, 1) := dk_28 (dk_at dksX9_value_2 23 rfl rfl)
theorem dX9_value_70 : decode cX9_value 70 = .ok (.iaload, 1) := dk_46 (dk_at dksX9_value_3 0 rfl rfl)
theorem dX9_value_71 : decode cX9_value 71 = .ok (.aload_n 0, 1) := dk_42 (dk_at dksX9_value_3 1 rfl rfl)
theorem dX9_value_72 : decode cX9_value 72 = .ok (.getfield 15, 3) := dk_180 0 15 (dk_at dksX9_value_3 2 rfl rfl)
theorem dX9_value_75 : decode cX9_value 75 = .ok (.iload_n 2, 1) := dk_28 (dk_at dksX9_value_3 5 rfl rfl)
theorem dX9_value_76 : decode cX9_value 76 = .ok (.iconst 1, 1) := dk_4 (dk_at dksX9_value_3 6 rfl rfl)
theorem dX9_value_77 : decode cX9_value 77 = .ok (.isub, 1) := dk_100 (dk_at dksX9_value_3 7 rfl rfl)
theorem dX9_value_78 : decode cX9_value 78 = .ok (.iaload, 1) := dk_46 (dk_at dksX9_value_3 8 rfl rfl)
theorem dX9_value_79 : decode cX9_value 79 = .ok (.isub, 1) := dk_100 (dk_at dksX9_value_3 9 rfl rfl)
theorem dX9_value_80 : decode cX9_value 80 = .ok (.iload_n 1, 1) := dk_27 (dk_at dksX9_value_3 10 rfl rfl)
theorem dX9_value_81 : decode cX9_value 81 = .ok (.aload_n 0, 1) := dk_42 (dk_at dksX9_value_3 11 rfl rfl)
theorem dX9_value_82 : decode cX9_value 82 = .ok (.getfield 9, 3) := dk_180 0 9 (dk_at dksX9_value_3 12 rfl rfl)
theorem dX9_value_85 : decode cX9_value 85 = .ok (.iload_n 2, 1) := dk_28 (dk_at dksX9_value_3 15 rfl rfl)
theorem dX9_value_86 : decode cX9_value 86 = .ok (.iconst 1, 1) := dk_4 (dk_at dksX9_value_3 16 rfl rfl)
theorem dX9_value_87 : decode cX9_value 87 = .ok (.isub, 1) := dk_100 (dk_at dksX9_value_3 17 rfl rfl)
theorem dX9_value_88 : decode cX9_value 88 = .ok (.iaload, 1) := dk_46 (dk_at dksX9_value_3 18 rfl rfl)
theorem dX9_value_89 : decode cX9_value 89 = .ok (.isub, 1) := dk_100 (dk_at dksX9_value_3 19 rfl rfl)
theorem dX9_value_90 : decode cX9_value 90 = .ok (.imul, 1) := dk_104 (dk_at dksX9_value_3 20 rfl rfl)
theorem dX9_value_91 : decode cX9_value 91 = .ok (.aload_n 0, 1) := dk_42 (dk_at dksX9_value_3 21 rfl rfl)
theorem dX9_value_92 : decode cX9_value 92 = .ok (.getfield 9, 3) := dk_180 0 9 (dk_at dksX9_value_4 0 rfl rfl)
theorem dX9_value_95 : decode cX9_value 95 = .ok (.iload_n 2, 1) := dk_28 (dk_at dksX9_value_4 3 rfl rfl)
theorem dX9_value_96 : decode cX9_value 96 = .ok (.iaload, 1) := dk_46 (dk_at dksX9_value_4 4 rfl rfl)
theorem dX9_value_97 : decode cX9_value 97 = .ok (.aload_n 0, 1) := dk_42 (dk_at dksX9_value_4 5 rfl rfl)
theorem dX9_value_98 : decode cX9_value 98 = .ok (.getfield 9, 3) := dk_180 0 9 (dk_at dksX9_value_4 6 rfl rfl)
theorem dX9_value_101 : decode cX9_value 101 = .ok (.iload_n 2, 1) := dk_28 (dk_at dksX9_value_4 9 rfl rfl)
theorem dX9_value_102 : decode cX9_value 102 = .ok (.iconst 1, 1) := dk_4 (dk_at dksX9_value_4 10 rfl rfl)
theorem dX9_value_103 : decode cX9_value 103 = .ok (.isub, 1) := dk_100 (dk_at dksX9_value_4 11 rfl rfl)
theorem dX9_value_104 : decode cX9_value 104 = .ok (.iaload, 1) := dk_46 (dk_at dksX9_value_4 12 rfl rfl)
theorem dX9_value_105 : decode cX9_value 105 = .ok (.isub, 1) := dk_100 (dk_at dksX9_value_4 13 rfl rfl)
theorem dX9_value_106 : decode cX9_value 106 = .ok (.invokestatic 56, 3) := dk_184 0 56 (dk_at dksX9_value_4 14 rfl rfl)
theorem dX9_value_109 : decode cX9_value 109 = .ok (.iadd, 1) := dk_96 (dk_at dksX9_value_4 17 rfl rfl)
theorem dX9_value_110 : decode cX9_value 110 = .ok (.ireturn, 1) := dk_172 (dk_at dksX9_value_4 18 rfl rfl)
theorem q124 : (Jvm.Cond.initialized "SoftWheels$Line") ∈ lw_all := lw_g (lw_at lw_m1 27 rfl) rfl
theorem q631 : (Jvm.Cond.fieldLinkNest "SoftWheels$Line" (37 : Nat) "SoftWheels$Reader" "whole" "I" "SoftWheels") ∈ lw_tbl := lw_at lw_m3 54 rfl
theorem q634 : (Jvm.Cond.fieldLinkNest "SoftWheels$Line" (18 : Nat) "SoftWheels$Reader" "sort" "LSoftWheels$Sort;" "SoftWheels") ∈ lw_tbl := lw_at lw_m3 57 rfl
theorem q857 : (Jvm.Cond.instantiable "SoftWheels$Line" (3 : Nat)) ∈ lw_all := lw_g (lw_at lw_m4 40 rfl) rfl
theorem q859 : (Jvm.Cond.instanceMethod ({ cls := "SoftWheels$Line", name := "<init>", desc := "()V" } : Jvm.MethodName)) ∈ lw_all := lw_g (lw_at lw_m4 42 rfl) rfl
theorem q860 : (Jvm.Cond.code ({ cls := "SoftWheels$Line", name := "<init>", desc := "()V" } : Jvm.MethodName) prog_12_method_1_code (1 : Nat) (Option.none : Option Jvm.ClassFile.FieldType)) ∈ lw_all := lw_g (lw_at lw_m4 43 rfl) rfl
theorem q861 : (Jvm.Cond.methodLink "SoftWheels$Line" (3 : Nat) ({ cls := "java/lang/Object", name := "<init>", desc := "()V" } : Jvm.MethodName)) ∈ lw_all := lw_g (lw_at lw_m4 44 rfl) rfl
theorem q862 : (Jvm.Cond.fieldLink "SoftWheels$Line" (9 : Nat) "SoftWheels$Line" "at" "[I") ∈ lw_all := lw_g (lw_at lw_m4 45 rfl) rfl
theorem q863 : (Jvm.Cond.fieldLink "SoftWheels$Line" (15 : Nat) "SoftWheels$Line" "value" "[I") ∈ lw_all := lw_g (lw_at lw_m4 46 rfl) rfl
theorem q864 : (Jvm.Cond.fieldLink "SoftWheels$Line" (33 : Nat) "SoftWheels$Line" "size" "I") ∈ lw_all := lw_g (lw_at lw_m4 47 rfl) rfl
theorem q865 : (Jvm.Cond.laysFinal "SoftWheels$Line" "SoftWheels$Line" "at" "[I") ∈ lw_all := lw_g (lw_at lw_m4 48 rfl) rfl
theorem q866 : (Jvm.Cond.soleField "SoftWheels$Line" "at") ∈ lw_all := lw_g (lw_at lw_m4 49 rfl) rfl
theorem q867 : (Jvm.Cond.laysFinal "SoftWheels$Line" "SoftWheels$Line" "value" "[I") ∈ lw_all := lw_g (lw_at lw_m4 50 rfl) rfl
theorem q868 : (Jvm.Cond.soleField "SoftWheels$Line" "value") ∈ lw_all := lw_g (lw_at lw_m4 51 rfl) rfl
theorem q869 : (Jvm.Cond.lays "SoftWheels$Line" "SoftWheels$Line" "size" "I") ∈ lw_all := lw_g (lw_at lw_m4 52 rfl) rfl
theorem q870 : (Jvm.Cond.soleField "SoftWheels$Line" "size") ∈ lw_all := lw_g (lw_at lw_m4 53 rfl) rfl
theorem q871 : (Jvm.Cond.superclass "SoftWheels$Line" "java/lang/Object") ∈ lw_all := lw_g (lw_at lw_m4 54 rfl) rfl
theorem q919 : (Jvm.Cond.instanceMethod ({ cls := "SoftWheels$Line", name := "read", desc := "(LSoftWheels$Reader;IIZ)V" } : Jvm.MethodName)) ∈ lw_all := lw_g (lw_at lw_m4 102 rfl) rfl
theorem q920 : (Jvm.Cond.selects "SoftWheels$Line" ({ cls := "SoftWheels$Line", name := "read", desc := "(LSoftWheels$Reader;IIZ)V" } : Jvm.MethodName) ({ cls := "SoftWheels$Line", name := "read", desc := "(LSoftWheels$Reader;IIZ)V" } : Jvm.MethodName)) ∈ lw_all := lw_g (lw_at lw_m4 103 rfl) rfl
theorem q921 : (Jvm.Cond.code ({ cls := "SoftWheels$Line", name := "read", desc := "(LSoftWheels$Reader;IIZ)V" } : Jvm.MethodName) prog_12_method_2_code (6 : Nat) (Option.none : Option Jvm.ClassFile.FieldType)) ∈ lw_all := lw_g (lw_at lw_m4 104 rfl) rfl
theorem q922 : (Jvm.Cond.fieldLink "SoftWheels$Line" (24 : Nat) "SoftWheels$Sort" "WHOLE" "LSoftWheels$Sort;") ∈ lw_all := lw_g (lw_at lw_m4 105 rfl) rfl
theorem q923 : (Jvm.Cond.methodLink "SoftWheels$Line" (29 : Nat) ({ cls := "SoftWheels$Reader", name := "fault", desc := "(I)LSoftWheels$Fault;" } : Jvm.MethodName)) ∈ lw_all := lw_g (lw_at lw_m4 106 rfl) rfl
theorem q924 : (Jvm.Cond.methodLinkNest "SoftWheels$Line" (40 : Nat) ({ cls := "SoftWheels", name := "in", desc := "(III)Z" } : Jvm.MethodName) "SoftWheels") ∈ lw_tbl := lw_at lw_m4 107 rfl
theorem q925 : (Jvm.Cond.methodLink "SoftWheels$Line" (44 : Nat) ({ cls := "SoftWheels$Reader", name := "next", desc := "()V" } : Jvm.MethodName)) ∈ lw_all := lw_g (lw_at lw_m4 108 rfl) rfl
theorem q926 : (Jvm.Cond.methodLink "SoftWheels$Line" (47 : Nat) ({ cls := "SoftWheels$Reader", name := "whole", desc := "(II)I" } : Jvm.MethodName)) ∈ lw_all := lw_g (lw_at lw_m4 109 rfl) rfl
theorem q931 : (Jvm.Cond.stringRef "SoftWheels$Line" (50 : Nat) ",") ∈ lw_tbl := lw_at lw_m4 114 rfl
theorem q932 : (Jvm.Cond.methodLink "SoftWheels$Line" (52 : Nat) ({ cls := "SoftWheels$Reader", name := "skips", desc := "(Ljava/lang/String;)Z" } : Jvm.MethodName)) ∈ lw_all := lw_g (lw_at lw_m4 115 rfl) rfl
theorem q966 : (Jvm.Cond.selects "SoftWheels$Line" ({ cls := "java/lang/Object", name := "getClass", desc := "()Ljava/lang/Class;" } : Jvm.MethodName) ({ cls := "java/lang/Object", name := "getClass", desc := "()Ljava/lang/Class;" } : Jvm.MethodName)) ∈ lw_all := lw_g (lw_at lw_m4 149 rfl) rfl
theorem q1087 : (Jvm.Cond.instanceMethod ({ cls := "SoftWheels$Line", name := "value", desc := "(I)I" } : Jvm.MethodName)) ∈ lw_all := lw_g (lw_at lw_m5 30 rfl) rfl
theorem q1088 : (Jvm.Cond.selects "SoftWheels$Line" ({ cls := "SoftWheels$Line", name := "value", desc := "(I)I" } : Jvm.MethodName) ({ cls := "SoftWheels$Line", name := "value", desc := "(I)I" } : Jvm.MethodName)) ∈ lw_all := lw_g (lw_at lw_m5 31 rfl) rfl
theorem q1089 : (Jvm.Cond.code ({ cls := "SoftWheels$Line", name := "value", desc := "(I)I" } : Jvm.MethodName) prog_12_method_3_code (3 : Nat) (Option.some Jvm.ClassFile.FieldType.int)) ∈ lw_all := lw_g (lw_at lw_m5 32 rfl) rfl
theorem q1090 : (Jvm.Cond.methodLink "SoftWheels$Line" (56 : Nat) ({ cls := "java/lang/Math", name := "floorDiv", desc := "(II)I" } : Jvm.MethodName)) ∈ lw_all := lw_g (lw_at lw_m5 33 rfl) rfl
theorem q2568 : (Jvm.Cond.castable "SoftWheels$Line" "java/lang/Object") ∈ lw_tbl := lw_at lw_m11 71 rfl
theorem in_X9 : ∀ w ∈ wsX90, w ∈ lw_all := lw_in wsX90 [865, 867, 869] (by decide +kernel) (by decide +kernel)

/-! SoftWheels$Attempt -/
set_option maxRecDepth 100000
def RX10 : String := "SoftWheels$Attempt"
def TX10 : u_T := fun k => match k with
  | 0 => ("SoftWheels$Attempt", "name", "Ljava/lang/String;", true)
  | 1 => ("SoftWheels$Attempt", "each", "I", true)
  | 2 => ("SoftWheels$Attempt", "one", "I", true)
  | _ => ("SoftWheels$Attempt", "cost", "I", true)
def tyX10 : Nat → FieldType := fun k => match k with
  | 0 => .object "java/lang/String"
  | 1 => .int
  | 2 => .int
  | _ => .int
abbrev wsX100 : List Cond := u_ws RX10 TX10 4
theorem nmX10 : ∀ a, a < 4 → ∀ b, b < 4 → a ≠ b → (TX10 a).2.1 ≠ (TX10 b).2.1 := by decide +kernel
theorem tyX10_ok : ∀ k, k < 4 → parseFieldDescriptor (TX10 k).2.2.1 = some (tyX10 k) := by decide +kernel
abbrev cX10_name : ByteArray := prog_2_method_5_code
def yX10_name : MethodName := ⟨RX10, "name", "()Ljava/lang/String;"⟩
theorem dX10_name_0 : decode cX10_name 0 = .ok (.aload_n 0, 1) := by decide +kernel
theorem dX10_name_1 : decode cX10_name 1 = .ok (.getfield 7, 3) := by decide +kernel
theorem dX10_name_4 : decode cX10_name 4 = .ok (.areturn, 1) := by decide +kernel
abbrev cX10_init : ByteArray := prog_2_method_1_code
def yX10_init : MethodName := ⟨RX10, "<init>", "(Ljava/lang/String;III)V"⟩
def dkwX10_init_1 : List UInt8 := [181, 0, 20, 177]
abbrev dktX10_init_1 : List UInt8 := dkwX10_init_1 ++ []
def dkwX10_init_0 : List UInt8 := [42, 183, 0, 1, 42, 43, 181, 0, 7, 42, 28, 181, 0, 13, 42, 29, 181, 0, 17, 42, 21, 4]
abbrev dktX10_init_0 : List UInt8 := dkwX10_init_0 ++ dktX10_init_1
theorem dksX10_init_0 : cX10_init.data.toList.drop 0 = dktX10_init_0 := by decide +kernel
theorem dksX10_init_1 : cX10_init.data.toList.drop 22 = dktX10_init_1 := dk_seg dksX10_init_0 22 rfl rfl
theorem dX10_init_0 : decode cX10_init 0 = .ok (.aload_n 0, 1) := dk_42 (dk_at dksX10_init_0 0 rfl rfl)
theorem dX10_init_1 : decode cX10_init 1 = .ok (.invokespecial 1, 3) := dk_183 0 1 (dk_at dksX10_init_0 1 rfl rfl)
theorem dX10_init_4 : decode cX10_init 4 = .ok (.aload_n 0, 1) := dk_42 (dk_at dksX10_init_0 4 rfl rfl)
theorem dX10_init_5 : decode cX10_init 5 = .ok (.aload_n 1, 1) := dk_43 (dk_at dksX10_init_0 5 rfl rfl)
theorem dX10_init_6 : decode cX10_init 6 = .ok (.putfield 7, 3) := dk_181 0 7 (dk_at dksX10_init_0 6 rfl rfl)
theorem dX10_init_9 : decode cX10_init 9 = .ok (.aload_n 0, 1) := dk_42 (dk_at dksX10_init_0 9 rfl rfl)
theorem dX10_init_10 : decode cX10_init 10 = .ok (.iload_n 2, 1) := dk_28 (dk_at dksX10_init_0 10 rfl rfl)
theorem dX10_init_11 : decode cX10_init 11 = .ok (.putfield 13, 3) := dk_181 0 13 (dk_at dksX10_init_0 11 rfl rfl)
theorem dX10_init_14 : decode cX10_init 14 = .ok (.aload_n 0, 1) := dk_42 (dk_at dksX10_init_0 14 rfl rfl)
theorem dX10_init_15 : decode cX10_init 15 = .ok (.iload_n 3, 1) := dk_29 (dk_at dksX10_init_0 15 rfl rfl)
theorem dX10_init_16 : decode cX10_init 16 = .ok (.putfield 17, 3) := dk_181 0 17 (dk_at dksX10_init_0 16 rfl rfl)
theorem dX10_init_19 : decode cX10_init 19 = .ok (.aload_n 0, 1) := dk_42 (dk_at dksX10_init_0 19 rfl rfl)
theorem dX10_init_20 : decode cX10_init 20 = .ok (.iload 4, 2) := dk_21 4 (dk_at dksX10_init_0 20 rfl rfl)
theorem dX10_init_22 : decode cX10_init 22 = .ok (.putfield 20, 3) := dk_181 0 20 (dk_at dksX10_init_1 0 rfl rfl)
theorem dX10_init_25 : decode cX10_init 25 = .ok (.return_, 1) := dk_177 (dk_at dksX10_init_1 3 rfl rfl)
abbrev cX10_cost : ByteArray := prog_2_method_8_code
def yX10_cost : MethodName := ⟨RX10, "cost", "()I"⟩
theorem dX10_cost_0 : decode cX10_cost 0 = .ok (.aload_n 0, 1) := by decide +kernel
theorem dX10_cost_1 : decode cX10_cost 1 = .ok (.getfield 20, 3) := by decide +kernel
theorem dX10_cost_4 : decode cX10_cost 4 = .ok (.ireturn, 1) := by decide +kernel
abbrev cX10_one : ByteArray := prog_2_method_7_code
def yX10_one : MethodName := ⟨RX10, "one", "()I"⟩
theorem dX10_one_0 : decode cX10_one 0 = .ok (.aload_n 0, 1) := by decide +kernel
theorem dX10_one_1 : decode cX10_one 1 = .ok (.getfield 17, 3) := by decide +kernel
theorem dX10_one_4 : decode cX10_one 4 = .ok (.ireturn, 1) := by decide +kernel
abbrev cX10_each : ByteArray := prog_2_method_6_code
def yX10_each : MethodName := ⟨RX10, "each", "()I"⟩
theorem dX10_each_0 : decode cX10_each 0 = .ok (.aload_n 0, 1) := by decide +kernel
theorem dX10_each_1 : decode cX10_each 1 = .ok (.getfield 13, 3) := by decide +kernel
theorem dX10_each_4 : decode cX10_each 4 = .ok (.ireturn, 1) := by decide +kernel
theorem q127 : (Jvm.Cond.initialized "SoftWheels$Attempt") ∈ lw_all := lw_g (lw_at lw_m1 30 rfl) rfl
theorem q958 : (Jvm.Cond.selects "SoftWheels$Attempt" ({ cls := "java/lang/Object", name := "getClass", desc := "()Ljava/lang/Class;" } : Jvm.MethodName) ({ cls := "java/lang/Object", name := "getClass", desc := "()Ljava/lang/Class;" } : Jvm.MethodName)) ∈ lw_all := lw_g (lw_at lw_m4 141 rfl) rfl
theorem q1015 : (Jvm.Cond.instanceMethod ({ cls := "SoftWheels$Attempt", name := "name", desc := "()Ljava/lang/String;" } : Jvm.MethodName)) ∈ lw_all := lw_g (lw_at lw_m4 198 rfl) rfl
theorem q1016 : (Jvm.Cond.selects "SoftWheels$Attempt" ({ cls := "SoftWheels$Attempt", name := "name", desc := "()Ljava/lang/String;" } : Jvm.MethodName) ({ cls := "SoftWheels$Attempt", name := "name", desc := "()Ljava/lang/String;" } : Jvm.MethodName)) ∈ lw_all := lw_g (lw_at lw_m4 199 rfl) rfl
theorem q1017 : (Jvm.Cond.code ({ cls := "SoftWheels$Attempt", name := "name", desc := "()Ljava/lang/String;" } : Jvm.MethodName) prog_2_method_5_code (1 : Nat) (Option.some (Jvm.ClassFile.FieldType.object "java/lang/String"))) ∈ lw_all := lw_g (lw_at lw_m4 200 rfl) rfl
theorem q1026 : (Jvm.Cond.instantiable "SoftWheels$Attempt" (4 : Nat)) ∈ lw_all := lw_g (lw_at lw_m4 209 rfl) rfl
theorem q1028 : (Jvm.Cond.instanceMethod ({ cls := "SoftWheels$Attempt", name := "<init>", desc := "(Ljava/lang/String;III)V" } : Jvm.MethodName)) ∈ lw_all := lw_g (lw_at lw_m4 211 rfl) rfl
theorem q1029 : (Jvm.Cond.code ({ cls := "SoftWheels$Attempt", name := "<init>", desc := "(Ljava/lang/String;III)V" } : Jvm.MethodName) prog_2_method_1_code (5 : Nat) (Option.none : Option Jvm.ClassFile.FieldType)) ∈ lw_all := lw_g (lw_at lw_m4 212 rfl) rfl
theorem q1030 : (Jvm.Cond.methodLink "SoftWheels$Attempt" (1 : Nat) ({ cls := "java/lang/Record", name := "<init>", desc := "()V" } : Jvm.MethodName)) ∈ lw_all := lw_g (lw_at lw_m4 213 rfl) rfl
theorem q1034 : (Jvm.Cond.fieldLink "SoftWheels$Attempt" (7 : Nat) "SoftWheels$Attempt" "name" "Ljava/lang/String;") ∈ lw_all := lw_g (lw_at lw_m4 217 rfl) rfl
theorem q1035 : (Jvm.Cond.fieldLink "SoftWheels$Attempt" (13 : Nat) "SoftWheels$Attempt" "each" "I") ∈ lw_all := lw_g (lw_at lw_m4 218 rfl) rfl
theorem q1036 : (Jvm.Cond.fieldLink "SoftWheels$Attempt" (17 : Nat) "SoftWheels$Attempt" "one" "I") ∈ lw_all := lw_g (lw_at lw_m4 219 rfl) rfl
theorem q1037 : (Jvm.Cond.fieldLink "SoftWheels$Attempt" (20 : Nat) "SoftWheels$Attempt" "cost" "I") ∈ lw_all := lw_g (lw_at lw_m4 220 rfl) rfl
theorem q1038 : (Jvm.Cond.laysFinal "SoftWheels$Attempt" "SoftWheels$Attempt" "name" "Ljava/lang/String;") ∈ lw_all := lw_g (lw_at lw_m4 221 rfl) rfl
theorem q1039 : (Jvm.Cond.soleField "SoftWheels$Attempt" "name") ∈ lw_all := lw_g (lw_at lw_m4 222 rfl) rfl
theorem q1040 : (Jvm.Cond.laysFinal "SoftWheels$Attempt" "SoftWheels$Attempt" "each" "I") ∈ lw_all := lw_g (lw_at lw_m4 223 rfl) rfl
theorem q1041 : (Jvm.Cond.soleField "SoftWheels$Attempt" "each") ∈ lw_all := lw_g (lw_at lw_m4 224 rfl) rfl
theorem q1042 : (Jvm.Cond.laysFinal "SoftWheels$Attempt" "SoftWheels$Attempt" "one" "I") ∈ lw_all := lw_g (lw_at lw_m4 225 rfl) rfl
theorem q1043 : (Jvm.Cond.soleField "SoftWheels$Attempt" "one") ∈ lw_all := lw_g (lw_at lw_m4 226 rfl) rfl
theorem q1044 : (Jvm.Cond.laysFinal "SoftWheels$Attempt" "SoftWheels$Attempt" "cost" "I") ∈ lw_all := lw_g (lw_at lw_m4 227 rfl) rfl
theorem q1045 : (Jvm.Cond.soleField "SoftWheels$Attempt" "cost") ∈ lw_all := lw_g (lw_at lw_m4 228 rfl) rfl
theorem q1046 : (Jvm.Cond.superclass "SoftWheels$Attempt" "java/lang/Record") ∈ lw_all := lw_g (lw_at lw_m4 229 rfl) rfl
theorem q1787 : (Jvm.Cond.instanceMethod ({ cls := "SoftWheels$Attempt", name := "cost", desc := "()I" } : Jvm.MethodName)) ∈ lw_all := lw_g (lw_at lw_m8 10 rfl) rfl
theorem q1788 : (Jvm.Cond.selects "SoftWheels$Attempt" ({ cls := "SoftWheels$Attempt", name := "cost", desc := "()I" } : Jvm.MethodName) ({ cls := "SoftWheels$Attempt", name := "cost", desc := "()I" } : Jvm.MethodName)) ∈ lw_all := lw_g (lw_at lw_m8 11 rfl) rfl
theorem q1789 : (Jvm.Cond.code ({ cls := "SoftWheels$Attempt", name := "cost", desc := "()I" } : Jvm.MethodName) prog_2_method_8_code (1 : Nat) (Option.some Jvm.ClassFile.FieldType.int)) ∈ lw_all := lw_g (lw_at lw_m8 12 rfl) rfl
theorem q1795 : (Jvm.Cond.instanceMethod ({ cls := "SoftWheels$Attempt", name := "one", desc := "()I" } : Jvm.MethodName)) ∈ lw_all := lw_g (lw_at lw_m8 18 rfl) rfl
theorem q1796 : (Jvm.Cond.selects "SoftWheels$Attempt" ({ cls := "SoftWheels$Attempt", name := "one", desc := "()I" } : Jvm.MethodName) ({ cls := "SoftWheels$Attempt", name := "one", desc := "()I" } : Jvm.MethodName)) ∈ lw_all := lw_g (lw_at lw_m8 19 rfl) rfl
theorem q1797 : (Jvm.Cond.code ({ cls := "SoftWheels$Attempt", name := "one", desc := "()I" } : Jvm.MethodName) prog_2_method_7_code (1 : Nat) (Option.some Jvm.ClassFile.FieldType.int)) ∈ lw_all := lw_g (lw_at lw_m8 20 rfl) rfl
theorem q1799 : (Jvm.Cond.instanceMethod ({ cls := "SoftWheels$Attempt", name := "each", desc := "()I" } : Jvm.MethodName)) ∈ lw_all := lw_g (lw_at lw_m8 22 rfl) rfl
theorem q1800 : (Jvm.Cond.selects "SoftWheels$Attempt" ({ cls := "SoftWheels$Attempt", name := "each", desc := "()I" } : Jvm.MethodName) ({ cls := "SoftWheels$Attempt", name := "each", desc := "()I" } : Jvm.MethodName)) ∈ lw_all := lw_g (lw_at lw_m8 23 rfl) rfl
theorem q1801 : (Jvm.Cond.code ({ cls := "SoftWheels$Attempt", name := "each", desc := "()I" } : Jvm.MethodName) prog_2_method_6_code (1 : Nat) (Option.some Jvm.ClassFile.FieldType.int)) ∈ lw_all := lw_g (lw_at lw_m8 24 rfl) rfl
theorem q2569 : (Jvm.Cond.castable "SoftWheels$Attempt" "java/lang/Object") ∈ lw_tbl := lw_at lw_m11 72 rfl
theorem in_X10 : ∀ w ∈ wsX100, w ∈ lw_all := lw_in wsX100 [1038, 1040, 1042, 1044] (by decide +kernel) (by decide +kernel)
