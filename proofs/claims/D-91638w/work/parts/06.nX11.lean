/-! SoftWheels$Planner -/
set_option maxRecDepth 100000
def RX11 : String := "SoftWheels$Planner"
def TX11 : u_T := fun k => match k with
  | 0 => ("SoftWheels$Planner", "\x72", "LSoftWheels$Reader;", true)
  | 1 => ("SoftWheels$Planner", "book", "LSoftWheels$Book;", true)
  | 2 => ("SoftWheels$Planner", "map", "LSoftWheels$Land;", true)
  | 3 => ("SoftWheels$Planner", "steps", "I", false)
  | _ => ("SoftWheels$Planner", "deep", "I", false)
def tyX11 : Nat → FieldType := fun k => match k with
  | 0 => .object "SoftWheels$Reader"
  | 1 => .object "SoftWheels$Book"
  | 2 => .object "SoftWheels$Land"
  | 3 => .int
  | _ => .int
abbrev wsX110 : List Cond := u_ws RX11 TX11 5
theorem nmX11 : ∀ a, a < 5 → ∀ b, b < 5 → a ≠ b → (TX11 a).2.1 ≠ (TX11 b).2.1 := by decide +kernel
theorem tyX11_ok : ∀ k, k < 5 → parseFieldDescriptor (TX11 k).2.2.1 = some (tyX11 k) := by decide +kernel
abbrev cX11_init : ByteArray := prog_15_method_1_code
def yX11_init : MethodName := ⟨RX11, "<init>", "(LSoftWheels$Reader;LSoftWheels$Book;LSoftWheels$Land;)V"⟩
def dkwX11_init_0 : List UInt8 := [42, 183, 0, 3, 42, 43, 181, 0, 9, 42, 44, 181, 0, 15, 42, 45, 181, 0, 19, 177]
abbrev dktX11_init_0 : List UInt8 := dkwX11_init_0 ++ []
theorem dksX11_init_0 : cX11_init.data.toList.drop 0 = dktX11_init_0 := by decide +kernel
theorem dX11_init_0 : decode cX11_init 0 = .ok (.aload_n 0, 1) := dk_42 (dk_at dksX11_init_0 0 rfl rfl)
theorem dX11_init_1 : decode cX11_init 1 = .ok (.invokespecial 3, 3) := dk_183 0 3 (dk_at dksX11_init_0 1 rfl rfl)
theorem dX11_init_4 : decode cX11_init 4 = .ok (.aload_n 0, 1) := dk_42 (dk_at dksX11_init_0 4 rfl rfl)
theorem dX11_init_5 : decode cX11_init 5 = .ok (.aload_n 1, 1) := dk_43 (dk_at dksX11_init_0 5 rfl rfl)
theorem dX11_init_6 : decode cX11_init 6 = .ok (.putfield 9, 3) := dk_181 0 9 (dk_at dksX11_init_0 6 rfl rfl)
theorem dX11_init_9 : decode cX11_init 9 = .ok (.aload_n 0, 1) := dk_42 (dk_at dksX11_init_0 9 rfl rfl)
theorem dX11_init_10 : decode cX11_init 10 = .ok (.aload_n 2, 1) := dk_44 (dk_at dksX11_init_0 10 rfl rfl)
theorem dX11_init_11 : decode cX11_init 11 = .ok (.putfield 15, 3) := dk_181 0 15 (dk_at dksX11_init_0 11 rfl rfl)
theorem dX11_init_14 : decode cX11_init 14 = .ok (.aload_n 0, 1) := dk_42 (dk_at dksX11_init_0 14 rfl rfl)
theorem dX11_init_15 : decode cX11_init 15 = .ok (.aload_n 3, 1) := dk_45 (dk_at dksX11_init_0 15 rfl rfl)
theorem dX11_init_16 : decode cX11_init 16 = .ok (.putfield 19, 3) := dk_181 0 19 (dk_at dksX11_init_0 16 rfl rfl)
theorem dX11_init_19 : decode cX11_init 19 = .ok (.return_, 1) := dk_177 (dk_at dksX11_init_0 19 rfl rfl)
abbrev cX11_all : ByteArray := prog_15_method_2_code
def yX11_all : MethodName := ⟨RX11, "all", "()Ljava/util/List;"⟩
def dkwX11_all_0 : List UInt8 := [42, 182, 0, 23, 76, 42, 180, 0, 9, 182, 0, 27, 43, 176]
abbrev dktX11_all_0 : List UInt8 := dkwX11_all_0 ++ []
theorem dksX11_all_0 : cX11_all.data.toList.drop 0 = dktX11_all_0 := by decide +kernel
theorem dX11_all_0 : decode cX11_all 0 = .ok (.aload_n 0, 1) := dk_42 (dk_at dksX11_all_0 0 rfl rfl)
theorem dX11_all_1 : decode cX11_all 1 = .ok (.invokevirtual 23, 3) := dk_182 0 23 (dk_at dksX11_all_0 1 rfl rfl)
theorem dX11_all_4 : decode cX11_all 4 = .ok (.astore_n 1, 1) := dk_76 (dk_at dksX11_all_0 4 rfl rfl)
theorem dX11_all_5 : decode cX11_all 5 = .ok (.aload_n 0, 1) := dk_42 (dk_at dksX11_all_0 5 rfl rfl)
theorem dX11_all_6 : decode cX11_all 6 = .ok (.getfield 9, 3) := dk_180 0 9 (dk_at dksX11_all_0 6 rfl rfl)
theorem dX11_all_9 : decode cX11_all 9 = .ok (.invokevirtual 27, 3) := dk_182 0 27 (dk_at dksX11_all_0 9 rfl rfl)
theorem dX11_all_12 : decode cX11_all 12 = .ok (.aload_n 1, 1) := dk_43 (dk_at dksX11_all_0 12 rfl rfl)
theorem dX11_all_13 : decode cX11_all 13 = .ok (.areturn, 1) := dk_176 (dk_at dksX11_all_0 13 rfl rfl)
abbrev cX11_plan : ByteArray := prog_15_method_3_code
def yX11_plan : MethodName := ⟨RX11, "plan", "()Ljava/util/List;"⟩
def dkwX11_plan_1 : List UInt8 := [18, 45, 182, 0, 47, 154, 255, 236, 43, 176]
abbrev dktX11_plan_1 : List UInt8 := dkwX11_plan_1 ++ []
def dkwX11_plan_0 : List UInt8 := [187, 0, 32, 89, 183, 0, 34, 76, 43, 42, 182, 0, 35, 185, 0, 39, 2, 0, 87, 42, 180, 0, 9]
abbrev dktX11_plan_0 : List UInt8 := dkwX11_plan_0 ++ dktX11_plan_1
theorem dksX11_plan_0 : cX11_plan.data.toList.drop 0 = dktX11_plan_0 := by decide +kernel
theorem dksX11_plan_1 : cX11_plan.data.toList.drop 23 = dktX11_plan_1 := dk_seg dksX11_plan_0 23 rfl rfl
theorem dX11_plan_0 : decode cX11_plan 0 = .ok (.new 32, 3) := dk_187 0 32 (dk_at dksX11_plan_0 0 rfl rfl)
theorem dX11_plan_3 : decode cX11_plan 3 = .ok (.dup, 1) := dk_89 (dk_at dksX11_plan_0 3 rfl rfl)
theorem dX11_plan_4 : decode cX11_plan 4 = .ok (.invokespecial 34, 3) := dk_183 0 34 (dk_at dksX11_plan_0 4 rfl rfl)
theorem dX11_plan_7 : decode cX11_plan 7 = .ok (.astore_n 1, 1) := dk_76 (dk_at dksX11_plan_0 7 rfl rfl)
theorem dX11_plan_8 : decode cX11_plan 8 = .ok (.aload_n 1, 1) := dk_43 (dk_at dksX11_plan_0 8 rfl rfl)
theorem dX11_plan_9 : decode cX11_plan 9 = .ok (.aload_n 0, 1) := dk_42 (dk_at dksX11_plan_0 9 rfl rfl)
theorem dX11_plan_10 : decode cX11_plan 10 = .ok (.invokevirtual 35, 3) := dk_182 0 35 (dk_at dksX11_plan_0 10 rfl rfl)
theorem dX11_plan_13 : decode cX11_plan 13 = .ok (.invokeinterface 39 2, 5) := by decide +kernel
theorem dX11_plan_18 : decode cX11_plan 18 = .ok (.pop, 1) := dk_87 (dk_at dksX11_plan_0 18 rfl rfl)
theorem dX11_plan_19 : decode cX11_plan 19 = .ok (.aload_n 0, 1) := dk_42 (dk_at dksX11_plan_0 19 rfl rfl)
theorem dX11_plan_20 : decode cX11_plan 20 = .ok (.getfield 9, 3) := dk_180 0 9 (dk_at dksX11_plan_0 20 rfl rfl)
theorem dX11_plan_23 : decode cX11_plan 23 = .ok (.ldc 45, 2) := dk_18 45 (dk_at dksX11_plan_1 0 rfl rfl)
theorem dX11_plan_25 : decode cX11_plan 25 = .ok (.invokevirtual 47, 3) := dk_182 0 47 (dk_at dksX11_plan_1 2 rfl rfl)
theorem dX11_plan_28 : decode cX11_plan 28 = .ok (.ifCond .ne (-20), 3) := dk_154 255 236 (dk_at dksX11_plan_1 5 rfl rfl)
theorem dX11_plan_31 : decode cX11_plan 31 = .ok (.aload_n 1, 1) := dk_43 (dk_at dksX11_plan_1 8 rfl rfl)
theorem dX11_plan_32 : decode cX11_plan 32 = .ok (.areturn, 1) := dk_176 (dk_at dksX11_plan_1 9 rfl rfl)
abbrev cX11_step : ByteArray := prog_15_method_4_code
def yX11_step : MethodName := ⟨RX11, "step", "()LSoftWheels$Doing;"⟩
def dkwX11_step_12 : List UInt8 := [183, 0, 132, 176]
abbrev dktX11_step_12 : List UInt8 := dkwX11_step_12 ++ []
def dkwX11_step_11 : List UInt8 := [18, 130, 182, 0, 47, 153, 0, 10, 42, 182, 0, 125, 167, 0, 10, 187, 0, 32, 89, 183, 0, 34]
abbrev dktX11_step_11 : List UInt8 := dkwX11_step_11 ++ dktX11_step_12
def dkwX11_step_10 : List UInt8 := [180, 0, 9, 182, 0, 83, 42, 182, 0, 125, 58, 4, 187, 0, 128, 89, 28, 29, 25, 4, 42, 180, 0, 9]
abbrev dktX11_step_10 : List UInt8 := dkwX11_step_10 ++ dktX11_step_11
def dkwX11_step_9 : List UInt8 := [182, 0, 115, 182, 0, 119, 62, 29, 2, 160, 0, 12, 42, 180, 0, 9, 5, 182, 0, 75, 191, 42]
abbrev dktX11_step_9 : List UInt8 := dkwX11_step_9 ++ dktX11_step_10
def dkwX11_step_8 : List UInt8 := [180, 0, 9, 182, 0, 83, 42, 180, 0, 9, 18, 110, 182, 0, 111, 42, 180, 0, 15, 42, 180, 0, 9]
abbrev dktX11_step_8 : List UInt8 := dkwX11_step_8 ++ dktX11_step_9
def dkwX11_step_7 : List UInt8 := [42, 180, 0, 19, 180, 0, 100, 182, 0, 106, 161, 0, 12, 42, 180, 0, 9, 5, 182, 0, 75, 191, 42]
abbrev dktX11_step_7 : List UInt8 := dkwX11_step_7 ++ dktX11_step_8
def dkwX11_step_6 : List UInt8 := [178, 0, 88, 165, 0, 12, 42, 180, 0, 9, 4, 182, 0, 75, 191, 42, 180, 0, 9, 180, 0, 98, 61, 28]
abbrev dktX11_step_6 : List UInt8 := dkwX11_step_6 ++ dktX11_step_7
def dkwX11_step_5 : List UInt8 := [180, 0, 9, 4, 16, 9, 182, 0, 91, 167, 0, 4, 4, 183, 0, 95, 176, 42, 180, 0, 9, 180, 0, 51]
abbrev dktX11_step_5 : List UInt8 := dkwX11_step_5 ++ dktX11_step_6
def dkwX11_step_4 : List UInt8 := [198, 0, 39, 187, 0, 86, 89, 43, 42, 180, 0, 9, 180, 0, 51, 178, 0, 88, 166, 0, 16, 42]
abbrev dktX11_step_4 : List UInt8 := dkwX11_step_4 ++ dktX11_step_5
def dkwX11_step_3 : List UInt8 := [182, 0, 75, 191, 42, 89, 180, 0, 79, 4, 96, 181, 0, 79, 42, 180, 0, 9, 182, 0, 83, 43]
abbrev dktX11_step_3 : List UInt8 := dkwX11_step_3 ++ dktX11_step_4
def dkwX11_step_2 : List UInt8 := [180, 0, 9, 4, 182, 0, 75, 191, 42, 180, 0, 79, 16, 40, 160, 0, 12, 42, 180, 0, 9, 8]
abbrev dktX11_step_2 : List UInt8 := dkwX11_step_2 ++ dktX11_step_3
def dkwX11_step_1 : List UInt8 := [167, 0, 4, 1, 76, 43, 199, 0, 24, 42, 180, 0, 9, 18, 70, 182, 0, 72, 154, 0, 12, 42]
abbrev dktX11_step_1 : List UInt8 := dkwX11_step_1 ++ dktX11_step_2
def dkwX11_step_0 : List UInt8 := [42, 180, 0, 9, 180, 0, 51, 178, 0, 55, 166, 0, 16, 42, 180, 0, 9, 180, 0, 60, 184, 0, 64]
abbrev dktX11_step_0 : List UInt8 := dkwX11_step_0 ++ dktX11_step_1
theorem dksX11_step_0 : cX11_step.data.toList.drop 0 = dktX11_step_0 := by decide +kernel
theorem dksX11_step_1 : cX11_step.data.toList.drop 23 = dktX11_step_1 := dk_seg dksX11_step_0 23 rfl rfl
theorem dksX11_step_2 : cX11_step.data.toList.drop 45 = dktX11_step_2 := dk_seg dksX11_step_1 22 rfl rfl
theorem dksX11_step_3 : cX11_step.data.toList.drop 67 = dktX11_step_3 := dk_seg dksX11_step_2 22 rfl rfl
theorem dksX11_step_4 : cX11_step.data.toList.drop 89 = dktX11_step_4 := dk_seg dksX11_step_3 22 rfl rfl
theorem dksX11_step_5 : cX11_step.data.toList.drop 111 = dktX11_step_5 := dk_seg dksX11_step_4 22 rfl rfl
theorem dksX11_step_6 : cX11_step.data.toList.drop 135 = dktX11_step_6 := dk_seg dksX11_step_5 24 rfl rfl
theorem dksX11_step_7 : cX11_step.data.toList.drop 159 = dktX11_step_7 := dk_seg dksX11_step_6 24 rfl rfl
theorem dksX11_step_8 : cX11_step.data.toList.drop 182 = dktX11_step_8 := dk_seg dksX11_step_7 23 rfl rfl
theorem dksX11_step_9 : cX11_step.data.toList.drop 205 = dktX11_step_9 := dk_seg dksX11_step_8 23 rfl rfl
theorem dksX11_step_10 : cX11_step.data.toList.drop 227 = dktX11_step_10 := dk_seg dksX11_step_9 22 rfl rfl
theorem dksX11_step_11 : cX11_step.data.toList.drop 251 = dktX11_step_11 := dk_seg dksX11_step_10 24 rfl rfl
theorem dksX11_step_12 : cX11_step.data.toList.drop 273 = dktX11_step_12 := dk_seg dksX11_step_11 22 rfl rfl
theorem dX11_step_0 : decode cX11_step 0 = .ok (.aload_n 0, 1) := dk_42 (dk_at dksX11_step_0 0 rfl rfl)
theorem dX11_step_1 : decode cX11_step 1 = .ok (.getfield 9, 3) := dk_180 0 9 (dk_at dksX11_step_0 1 rfl rfl)
theorem dX11_step_4 : decode cX11_step 4 = .ok (.getfield 51, 3) := dk_180 0 51 (dk_at dksX11_step_0 4 rfl rfl)
theorem dX11_step_7 : decode cX11_step 7 = .ok (.getstatic 55, 3) := dk_178 0 55 (dk_at dksX11_step_0 7 rfl rfl)
theorem dX11_step_10 : decode cX11_step 10 = .ok (.if_acmp .ne 16, 3) := dk_166 0 16 (dk_at dksX11_step_0 10 rfl rfl)
theorem dX11_step_13 : decode cX11_step 13 = .ok (.aload_n 0, 1) := dk_42 (dk_at dksX11_step_0 13 rfl rfl)
theorem dX11_step_14 : decode cX11_step 14 = .ok (.getfield 9, 3) := dk_180 0 9 (dk_at dksX11_step_0 14 rfl rfl)
theorem dX11_step_17 : decode cX11_step 17 = .ok (.getfield 60, 3) := dk_180 0 60 (dk_at dksX11_step_0 17 rfl rfl)
theorem dX11_step_20 : decode cX11_step 20 = .ok (.invokestatic 64, 3) := dk_184 0 64 (dk_at dksX11_step_0 20 rfl rfl)
theorem dX11_step_23 : decode cX11_step 23 = .ok (.goto 4, 3) := dk_167 0 4 (dk_at dksX11_step_1 0 rfl rfl)
theorem dX11_step_26 : decode cX11_step 26 = .ok (.aconst_null, 1) := dk_1 (dk_at dksX11_step_1 3 rfl rfl)
theorem dX11_step_27 : decode cX11_step 27 = .ok (.astore_n 1, 1) := dk_76 (dk_at dksX11_step_1 4 rfl rfl)
theorem dX11_step_28 : decode cX11_step 28 = .ok (.aload_n 1, 1) := dk_43 (dk_at dksX11_step_1 5 rfl rfl)
theorem dX11_step_29 : decode cX11_step 29 = .ok (.ifnonnull 24, 3) := dk_199 0 24 (dk_at dksX11_step_1 6 rfl rfl)
theorem dX11_step_32 : decode cX11_step 32 = .ok (.aload_n 0, 1) := dk_42 (dk_at dksX11_step_1 9 rfl rfl)
theorem dX11_step_33 : decode cX11_step 33 = .ok (.getfield 9, 3) := dk_180 0 9 (dk_at dksX11_step_1 10 rfl rfl)
theorem dX11_step_36 : decode cX11_step 36 = .ok (.ldc 70, 2) := dk_18 70 (dk_at dksX11_step_1 13 rfl rfl)
theorem dX11_step_38 : decode cX11_step 38 = .ok (.invokevirtual 72, 3) := dk_182 0 72 (dk_at dksX11_step_1 15 rfl rfl)
theorem dX11_step_41 : decode cX11_step 41 = .ok (.ifCond .ne 12, 3) := dk_154 0 12 (dk_at dksX11_step_1 18 rfl rfl)
theorem dX11_step_44 : decode cX11_step 44 = .ok (.aload_n 0, 1) := dk_42 (dk_at dksX11_step_1 21 rfl rfl)
theorem dX11_step_45 : decode cX11_step 45 = .ok (.getfield 9, 3) := dk_180 0 9 (dk_at dksX11_step_2 0 rfl rfl)
theorem dX11_step_48 : decode cX11_step 48 = .ok (.iconst 1, 1) := dk_4 (dk_at dksX11_step_2 3 rfl rfl)
theorem dX11_step_49 : decode cX11_step 49 = .ok (.invokevirtual 75, 3) := dk_182 0 75 (dk_at dksX11_step_2 4 rfl rfl)
theorem dX11_step_52 : decode cX11_step 52 = .ok (.athrow, 1) := dk_191 (dk_at dksX11_step_2 7 rfl rfl)
theorem dX11_step_53 : decode cX11_step 53 = .ok (.aload_n 0, 1) := dk_42 (dk_at dksX11_step_2 8 rfl rfl)
theorem dX11_step_54 : decode cX11_step 54 = .ok (.getfield 79, 3) := dk_180 0 79 (dk_at dksX11_step_2 9 rfl rfl)
theorem dX11_step_57 : decode cX11_step 57 = .ok (.bipush 40, 2) := dk_16 40 (dk_at dksX11_step_2 12 rfl rfl)
theorem dX11_step_59 : decode cX11_step 59 = .ok (.if_icmp .ne 12, 3) := dk_160 0 12 (dk_at dksX11_step_2 14 rfl rfl)
theorem dX11_step_62 : decode cX11_step 62 = .ok (.aload_n 0, 1) := dk_42 (dk_at dksX11_step_2 17 rfl rfl)
theorem dX11_step_63 : decode cX11_step 63 = .ok (.getfield 9, 3) := dk_180 0 9 (dk_at dksX11_step_2 18 rfl rfl)
theorem dX11_step_66 : decode cX11_step 66 = .ok (.iconst 5, 1) := dk_8 (dk_at dksX11_step_2 21 rfl rfl)
theorem dX11_step_67 : decode cX11_step 67 = .ok (.invokevirtual 75, 3) := dk_182 0 75 (dk_at dksX11_step_3 0 rfl rfl)
theorem dX11_step_70 : decode cX11_step 70 = .ok (.athrow, 1) := dk_191 (dk_at dksX11_step_3 3 rfl rfl)
theorem dX11_step_71 : decode cX11_step 71 = .ok (.aload_n 0, 1) := dk_42 (dk_at dksX11_step_3 4 rfl rfl)
theorem dX11_step_72 : decode cX11_step 72 = .ok (.dup, 1) := dk_89 (dk_at dksX11_step_3 5 rfl rfl)
theorem dX11_step_73 : decode cX11_step 73 = .ok (.getfield 79, 3) := dk_180 0 79 (dk_at dksX11_step_3 6 rfl rfl)
theorem dX11_step_76 : decode cX11_step 76 = .ok (.iconst 1, 1) := dk_4 (dk_at dksX11_step_3 9 rfl rfl)
theorem dX11_step_77 : decode cX11_step 77 = .ok (.iadd, 1) := dk_96 (dk_at dksX11_step_3 10 rfl rfl)
theorem dX11_step_78 : decode cX11_step 78 = .ok (.putfield 79, 3) := dk_181 0 79 (dk_at dksX11_step_3 11 rfl rfl)
theorem dX11_step_81 : decode cX11_step 81 = .ok (.aload_n 0, 1) := dk_42 (dk_at dksX11_step_3 14 rfl rfl)
theorem dX11_step_82 : decode cX11_step 82 = .ok (.getfield 9, 3) := dk_180 0 9 (dk_at dksX11_step_3 15 rfl rfl)
theorem dX11_step_85 : decode cX11_step 85 = .ok (.invokevirtual 83, 3) := dk_182 0 83 (dk_at dksX11_step_3 18 rfl rfl)
theorem dX11_step_88 : decode cX11_step 88 = .ok (.aload_n 1, 1) := dk_43 (dk_at dksX11_step_3 21 rfl rfl)
theorem dX11_step_89 : decode cX11_step 89 = .ok (.ifnull 39, 3) := dk_198 0 39 (dk_at dksX11_step_4 0 rfl rfl)
theorem dX11_step_92 : decode cX11_step 92 = .ok (.new 86, 3) := dk_187 0 86 (dk_at dksX11_step_4 3 rfl rfl)
theorem dX11_step_95 : decode cX11_step 95 = .ok (.dup, 1) := dk_89 (dk_at dksX11_step_4 6 rfl rfl)
theorem dX11_step_96 : decode cX11_step 96 = .ok (.aload_n 1, 1) := dk_43 (dk_at dksX11_step_4 7 rfl rfl)
theorem dX11_step_97 : decode cX11_step 97 = .ok (.aload_n 0, 1) := dk_42 (dk_at dksX11_step_4 8 rfl rfl)
theorem dX11_step_98 : decode cX11_step 98 = .ok (.getfield 9, 3) := dk_180 0 9 (dk_at dksX11_step_4 9 rfl rfl)
theorem dX11_step_101 : decode cX11_step 101 = .ok (.getfield 51, 3) := dk_180 0 51 (dk_at dksX11_step_4 12 rfl rfl)
theorem dX11_step_104 : decode cX11_step 104 = .ok (.getstatic 88, 3) := dk_178 0 88 (dk_at dksX11_step_4 15 rfl rfl)
theorem dX11_step_107 : decode cX11_step 107 = .ok (.if_acmp .ne 16, 3) := dk_166 0 16 (dk_at dksX11_step_4 18 rfl rfl)
theorem dX11_step_110 : decode cX11_step 110 = .ok (.aload_n 0, 1) := dk_42 (dk_at dksX11_step_4 21 rfl rfl)
theorem dX11_step_111 : decode cX11_step 111 = .ok (.getfield 9, 3) := dk_180 0 9 (dk_at dksX11_step_5 0 rfl rfl)
theorem dX11_step_114 : decode cX11_step 114 = .ok (.iconst 1, 1) := dk_4 (dk_at dksX11_step_5 3 rfl rfl)
theorem dX11_step_115 : decode cX11_step 115 = .ok (.bipush 9, 2) := dk_16 9 (dk_at dksX11_step_5 4 rfl rfl)
theorem dX11_step_117 : decode cX11_step 117 = .ok (.invokevirtual 91, 3) := dk_182 0 91 (dk_at dksX11_step_5 6 rfl rfl)
theorem dX11_step_120 : decode cX11_step 120 = .ok (.goto 4, 3) := dk_167 0 4 (dk_at dksX11_step_5 9 rfl rfl)
theorem dX11_step_123 : decode cX11_step 123 = .ok (.iconst 1, 1) := dk_4 (dk_at dksX11_step_5 12 rfl rfl)
theorem dX11_step_124 : decode cX11_step 124 = .ok (.invokespecial 95, 3) := dk_183 0 95 (dk_at dksX11_step_5 13 rfl rfl)
theorem dX11_step_127 : decode cX11_step 127 = .ok (.areturn, 1) := dk_176 (dk_at dksX11_step_5 16 rfl rfl)
theorem dX11_step_128 : decode cX11_step 128 = .ok (.aload_n 0, 1) := dk_42 (dk_at dksX11_step_5 17 rfl rfl)
theorem dX11_step_129 : decode cX11_step 129 = .ok (.getfield 9, 3) := dk_180 0 9 (dk_at dksX11_step_5 18 rfl rfl)
theorem dX11_step_132 : decode cX11_step 132 = .ok (.getfield 51, 3) := dk_180 0 51 (dk_at dksX11_step_5 21 rfl rfl)
theorem dX11_step_135 : decode cX11_step 135 = .ok (.getstatic 88, 3) := dk_178 0 88 (dk_at dksX11_step_6 0 rfl rfl)
theorem dX11_step_138 : decode cX11_step 138 = .ok (.if_acmp .eq 12, 3) := dk_165 0 12 (dk_at dksX11_step_6 3 rfl rfl)
theorem dX11_step_141 : decode cX11_step 141 = .ok (.aload_n 0, 1) := dk_42 (dk_at dksX11_step_6 6 rfl rfl)
theorem dX11_step_142 : decode cX11_step 142 = .ok (.getfield 9, 3) := dk_180 0 9 (dk_at dksX11_step_6 7 rfl rfl)
theorem dX11_step_145 : decode cX11_step 145 = .ok (.iconst 1, 1) := dk_4 (dk_at dksX11_step_6 10 rfl rfl)
theorem dX11_step_146 : decode cX11_step 146 = .ok (.invokevirtual 75, 3) := dk_182 0 75 (dk_at dksX11_step_6 11 rfl rfl)
theorem dX11_step_149 : decode cX11_step 149 = .ok (.athrow, 1) := dk_191 (dk_at dksX11_step_6 14 rfl rfl)
theorem dX11_step_150 : decode cX11_step 150 = .ok (.aload_n 0, 1) := dk_42 (dk_at dksX11_step_6 15 rfl rfl)
theorem dX11_step_151 : decode cX11_step 151 = .ok (.getfield 9, 3) := dk_180 0 9 (dk_at dksX11_step_6 16 rfl rfl)
theorem dX11_step_154 : decode cX11_step 154 = .ok (.getfield 98, 3) := dk_180 0 98 (dk_at dksX11_step_6 19 rfl rfl)
theorem dX11_step_157 : decode cX11_step 157 = .ok (.istore_n 2, 1) := dk_61 (dk_at dksX11_step_6 22 rfl rfl)
theorem dX11_step_158 : decode cX11_step 158 = .ok (.iload_n 2, 1) := dk_28 (dk_at dksX11_step_6 23 rfl rfl)
theorem dX11_step_159 : decode cX11_step 159 = .ok (.aload_n 0, 1) := dk_42 (dk_at dksX11_step_7 0 rfl rfl)
theorem dX11_step_160 : decode cX11_step 160 = .ok (.getfield 19, 3) := dk_180 0 19 (dk_at dksX11_step_7 1 rfl rfl)
theorem dX11_step_163 : decode cX11_step 163 = .ok (.getfield 100, 3) := dk_180 0 100 (dk_at dksX11_step_7 4 rfl rfl)
theorem dX11_step_166 : decode cX11_step 166 = .ok (.invokevirtual 106, 3) := dk_182 0 106 (dk_at dksX11_step_7 7 rfl rfl)
theorem dX11_step_169 : decode cX11_step 169 = .ok (.if_icmp .lt 12, 3) := dk_161 0 12 (dk_at dksX11_step_7 10 rfl rfl)
theorem dX11_step_172 : decode cX11_step 172 = .ok (.aload_n 0, 1) := dk_42 (dk_at dksX11_step_7 13 rfl rfl)
theorem dX11_step_173 : decode cX11_step 173 = .ok (.getfield 9, 3) := dk_180 0 9 (dk_at dksX11_step_7 14 rfl rfl)
theorem dX11_step_176 : decode cX11_step 176 = .ok (.iconst 2, 1) := dk_5 (dk_at dksX11_step_7 17 rfl rfl)
theorem dX11_step_177 : decode cX11_step 177 = .ok (.invokevirtual 75, 3) := dk_182 0 75 (dk_at dksX11_step_7 18 rfl rfl)
theorem dX11_step_180 : decode cX11_step 180 = .ok (.athrow, 1) := dk_191 (dk_at dksX11_step_7 21 rfl rfl)
theorem dX11_step_181 : decode cX11_step 181 = .ok (.aload_n 0, 1) := dk_42 (dk_at dksX11_step_7 22 rfl rfl)
theorem dX11_step_182 : decode cX11_step 182 = .ok (.getfield 9, 3) := dk_180 0 9 (dk_at dksX11_step_8 0 rfl rfl)
theorem dX11_step_185 : decode cX11_step 185 = .ok (.invokevirtual 83, 3) := dk_182 0 83 (dk_at dksX11_step_8 3 rfl rfl)
theorem dX11_step_188 : decode cX11_step 188 = .ok (.aload_n 0, 1) := dk_42 (dk_at dksX11_step_8 6 rfl rfl)
theorem dX11_step_189 : decode cX11_step 189 = .ok (.getfield 9, 3) := dk_180 0 9 (dk_at dksX11_step_8 7 rfl rfl)
theorem dX11_step_192 : decode cX11_step 192 = .ok (.ldc 110, 2) := dk_18 110 (dk_at dksX11_step_8 10 rfl rfl)
theorem dX11_step_194 : decode cX11_step 194 = .ok (.invokevirtual 111, 3) := dk_182 0 111 (dk_at dksX11_step_8 12 rfl rfl)
theorem dX11_step_197 : decode cX11_step 197 = .ok (.aload_n 0, 1) := dk_42 (dk_at dksX11_step_8 15 rfl rfl)
theorem dX11_step_198 : decode cX11_step 198 = .ok (.getfield 15, 3) := dk_180 0 15 (dk_at dksX11_step_8 16 rfl rfl)
theorem dX11_step_201 : decode cX11_step 201 = .ok (.aload_n 0, 1) := dk_42 (dk_at dksX11_step_8 19 rfl rfl)
theorem dX11_step_202 : decode cX11_step 202 = .ok (.getfield 9, 3) := dk_180 0 9 (dk_at dksX11_step_8 20 rfl rfl)
theorem dX11_step_205 : decode cX11_step 205 = .ok (.invokevirtual 115, 3) := dk_182 0 115 (dk_at dksX11_step_9 0 rfl rfl)
theorem dX11_step_208 : decode cX11_step 208 = .ok (.invokevirtual 119, 3) := dk_182 0 119 (dk_at dksX11_step_9 3 rfl rfl)
theorem dX11_step_211 : decode cX11_step 211 = .ok (.istore_n 3, 1) := dk_62 (dk_at dksX11_step_9 6 rfl rfl)
theorem dX11_step_212 : decode cX11_step 212 = .ok (.iload_n 3, 1) := dk_29 (dk_at dksX11_step_9 7 rfl rfl)
theorem dX11_step_213 : decode cX11_step 213 = .ok (.iconst (-1), 1) := dk_2 (dk_at dksX11_step_9 8 rfl rfl)
theorem dX11_step_214 : decode cX11_step 214 = .ok (.if_icmp .ne 12, 3) := dk_160 0 12 (dk_at dksX11_step_9 9 rfl rfl)
theorem dX11_step_217 : decode cX11_step 217 = .ok (.aload_n 0, 1) := dk_42 (dk_at dksX11_step_9 12 rfl rfl)
theorem dX11_step_218 : decode cX11_step 218 = .ok (.getfield 9, 3) := dk_180 0 9 (dk_at dksX11_step_9 13 rfl rfl)
theorem dX11_step_221 : decode cX11_step 221 = .ok (.iconst 2, 1) := dk_5 (dk_at dksX11_step_9 16 rfl rfl)
theorem dX11_step_222 : decode cX11_step 222 = .ok (.invokevirtual 75, 3) := dk_182 0 75 (dk_at dksX11_step_9 17 rfl rfl)
theorem dX11_step_225 : decode cX11_step 225 = .ok (.athrow, 1) := dk_191 (dk_at dksX11_step_9 20 rfl rfl)
theorem dX11_step_226 : decode cX11_step 226 = .ok (.aload_n 0, 1) := dk_42 (dk_at dksX11_step_9 21 rfl rfl)
theorem dX11_step_227 : decode cX11_step 227 = .ok (.getfield 9, 3) := dk_180 0 9 (dk_at dksX11_step_10 0 rfl rfl)
theorem dX11_step_230 : decode cX11_step 230 = .ok (.invokevirtual 83, 3) := dk_182 0 83 (dk_at dksX11_step_10 3 rfl rfl)
theorem dX11_step_233 : decode cX11_step 233 = .ok (.aload_n 0, 1) := dk_42 (dk_at dksX11_step_10 6 rfl rfl)
theorem dX11_step_234 : decode cX11_step 234 = .ok (.invokevirtual 125, 3) := dk_182 0 125 (dk_at dksX11_step_10 7 rfl rfl)
theorem dX11_step_237 : decode cX11_step 237 = .ok (.astore 4, 2) := dk_58 4 (dk_at dksX11_step_10 10 rfl rfl)
theorem dX11_step_239 : decode cX11_step 239 = .ok (.new 128, 3) := dk_187 0 128 (dk_at dksX11_step_10 12 rfl rfl)
theorem dX11_step_242 : decode cX11_step 242 = .ok (.dup, 1) := dk_89 (dk_at dksX11_step_10 15 rfl rfl)
theorem dX11_step_243 : decode cX11_step 243 = .ok (.iload_n 2, 1) := dk_28 (dk_at dksX11_step_10 16 rfl rfl)
theorem dX11_step_244 : decode cX11_step 244 = .ok (.iload_n 3, 1) := dk_29 (dk_at dksX11_step_10 17 rfl rfl)
theorem dX11_step_245 : decode cX11_step 245 = .ok (.aload 4, 2) := dk_25 4 (dk_at dksX11_step_10 18 rfl rfl)
theorem dX11_step_247 : decode cX11_step 247 = .ok (.aload_n 0, 1) := dk_42 (dk_at dksX11_step_10 20 rfl rfl)
theorem dX11_step_248 : decode cX11_step 248 = .ok (.getfield 9, 3) := dk_180 0 9 (dk_at dksX11_step_10 21 rfl rfl)
theorem dX11_step_251 : decode cX11_step 251 = .ok (.ldc 130, 2) := dk_18 130 (dk_at dksX11_step_11 0 rfl rfl)
theorem dX11_step_253 : decode cX11_step 253 = .ok (.invokevirtual 47, 3) := dk_182 0 47 (dk_at dksX11_step_11 2 rfl rfl)
theorem dX11_step_256 : decode cX11_step 256 = .ok (.ifCond .eq 10, 3) := dk_153 0 10 (dk_at dksX11_step_11 5 rfl rfl)
theorem dX11_step_259 : decode cX11_step 259 = .ok (.aload_n 0, 1) := dk_42 (dk_at dksX11_step_11 8 rfl rfl)
theorem dX11_step_260 : decode cX11_step 260 = .ok (.invokevirtual 125, 3) := dk_182 0 125 (dk_at dksX11_step_11 9 rfl rfl)
theorem dX11_step_263 : decode cX11_step 263 = .ok (.goto 10, 3) := dk_167 0 10 (dk_at dksX11_step_11 12 rfl rfl)
theorem dX11_step_266 : decode cX11_step 266 = .ok (.new 32, 3) := dk_187 0 32 (dk_at dksX11_step_11 15 rfl rfl)
theorem dX11_step_269 : decode cX11_step 269 = .ok (.dup, 1) := dk_89 (dk_at dksX11_step_11 18 rfl rfl)
theorem dX11_step_270 : decode cX11_step 270 = .ok (.invokespecial 34, 3) := dk_183 0 34 (dk_at dksX11_step_11 19 rfl rfl)
theorem dX11_step_273 : decode cX11_step 273 = .ok (.invokespecial 132, 3) := dk_183 0 132 (dk_at dksX11_step_12 0 rfl rfl)
theorem dX11_step_276 : decode cX11_step 276 = .ok (.areturn, 1) := dk_176 (dk_at dksX11_step_12 3 rfl rfl)
abbrev cX11_inner : ByteArray := prog_15_method_5_code
def yX11_inner : MethodName := ⟨RX11, "inner", "()Ljava/util/List;"⟩
def dkwX11_inner_3 : List UInt8 := [42, 89, 180, 0, 138, 4, 100, 181, 0, 138, 43, 176]
abbrev dktX11_inner_3 : List UInt8 := dkwX11_inner_3 ++ []
def dkwX11_inner_2 : List UInt8 := [181, 0, 138, 42, 180, 0, 9, 182, 0, 83, 42, 182, 0, 23, 76, 42, 180, 0, 9, 18, 141, 182, 0, 111]
abbrev dktX11_inner_2 : List UInt8 := dkwX11_inner_2 ++ dktX11_inner_3
def dkwX11_inner_1 : List UInt8 := [180, 0, 138, 16, 6, 160, 0, 12, 42, 180, 0, 9, 8, 182, 0, 75, 191, 42, 89, 180, 0, 138, 4, 96]
abbrev dktX11_inner_1 : List UInt8 := dkwX11_inner_1 ++ dktX11_inner_2
def dkwX11_inner_0 : List UInt8 := [42, 180, 0, 9, 16, 40, 182, 0, 135, 154, 0, 12, 42, 180, 0, 9, 4, 182, 0, 75, 191, 42]
abbrev dktX11_inner_0 : List UInt8 := dkwX11_inner_0 ++ dktX11_inner_1
theorem dksX11_inner_0 : cX11_inner.data.toList.drop 0 = dktX11_inner_0 := by decide +kernel
theorem dksX11_inner_1 : cX11_inner.data.toList.drop 22 = dktX11_inner_1 := dk_seg dksX11_inner_0 22 rfl rfl
theorem dksX11_inner_2 : cX11_inner.data.toList.drop 46 = dktX11_inner_2 := dk_seg dksX11_inner_1 24 rfl rfl
theorem dksX11_inner_3 : cX11_inner.data.toList.drop 70 = dktX11_inner_3 := dk_seg dksX11_inner_2 24 rfl rfl
theorem dX11_inner_0 : decode cX11_inner 0 = .ok (.aload_n 0, 1) := dk_42 (dk_at dksX11_inner_0 0 rfl rfl)
theorem dX11_inner_1 : decode cX11_inner 1 = .ok (.getfield 9, 3) := dk_180 0 9 (dk_at dksX11_inner_0 1 rfl rfl)
theorem dX11_inner_4 : decode cX11_inner 4 = .ok (.bipush 40, 2) := dk_16 40 (dk_at dksX11_inner_0 4 rfl rfl)
theorem dX11_inner_6 : decode cX11_inner 6 = .ok (.invokevirtual 135, 3) := dk_182 0 135 (dk_at dksX11_inner_0 6 rfl rfl)
theorem dX11_inner_9 : decode cX11_inner 9 = .ok (.ifCond .ne 12, 3) := dk_154 0 12 (dk_at dksX11_inner_0 9 rfl rfl)
theorem dX11_inner_12 : decode cX11_inner 12 = .ok (.aload_n 0, 1) := dk_42 (dk_at dksX11_inner_0 12 rfl rfl)
theorem dX11_inner_13 : decode cX11_inner 13 = .ok (.getfield 9, 3) := dk_180 0 9 (dk_at dksX11_inner_0 13 rfl rfl)
theorem dX11_inner_16 : decode cX11_inner 16 = .ok (.iconst 1, 1) := dk_4 (dk_at dksX11_inner_0 16 rfl rfl)
theorem dX11_inner_17 : decode cX11_inner 17 = .ok (.invokevirtual 75, 3) := dk_182 0 75 (dk_at dksX11_inner_0 17 rfl rfl)
theorem dX11_inner_20 : decode cX11_inner 20 = .ok (.athrow, 1) := dk_191 (dk_at dksX11_inner_0 20 rfl rfl)
theorem dX11_inner_21 : decode cX11_inner 21 = .ok (.aload_n 0, 1) := dk_42 (dk_at dksX11_inner_0 21 rfl rfl)
theorem dX11_inner_22 : decode cX11_inner 22 = .ok (.getfield 138, 3) := dk_180 0 138 (dk_at dksX11_inner_1 0 rfl rfl)
theorem dX11_inner_25 : decode cX11_inner 25 = .ok (.bipush 6, 2) := dk_16 6 (dk_at dksX11_inner_1 3 rfl rfl)
theorem dX11_inner_27 : decode cX11_inner 27 = .ok (.if_icmp .ne 12, 3) := dk_160 0 12 (dk_at dksX11_inner_1 5 rfl rfl)
theorem dX11_inner_30 : decode cX11_inner 30 = .ok (.aload_n 0, 1) := dk_42 (dk_at dksX11_inner_1 8 rfl rfl)
theorem dX11_inner_31 : decode cX11_inner 31 = .ok (.getfield 9, 3) := dk_180 0 9 (dk_at dksX11_inner_1 9 rfl rfl)
theorem dX11_inner_34 : decode cX11_inner 34 = .ok (.iconst 5, 1) := dk_8 (dk_at dksX11_inner_1 12 rfl rfl)
theorem dX11_inner_35 : decode cX11_inner 35 = .ok (.invokevirtual 75, 3) := dk_182 0 75 (dk_at dksX11_inner_1 13 rfl rfl)
theorem dX11_inner_38 : decode cX11_inner 38 = .ok (.athrow, 1) := dk_191 (dk_at dksX11_inner_1 16 rfl rfl)
theorem dX11_inner_39 : decode cX11_inner 39 = .ok (.aload_n 0, 1) := dk_42 (dk_at dksX11_inner_1 17 rfl rfl)
theorem dX11_inner_40 : decode cX11_inner 40 = .ok (.dup, 1) := dk_89 (dk_at dksX11_inner_1 18 rfl rfl)
theorem dX11_inner_41 : decode cX11_inner 41 = .ok (.getfield 138, 3) := dk_180 0 138 (dk_at dksX11_inner_1 19 rfl rfl)
theorem dX11_inner_44 : decode cX11_inner 44 = .ok (.iconst 1, 1) := dk_4 (dk_at dksX11_inner_1 22 rfl rfl)
theorem dX11_inner_45 : decode cX11_inner 45 = .ok (.iadd, 1) := dk_96 (dk_at dksX11_inner_1 23 rfl rfl)
theorem dX11_inner_46 : decode cX11_inner 46 = .ok (.putfield 138, 3) := dk_181 0 138 (dk_at dksX11_inner_2 0 rfl rfl)
theorem dX11_inner_49 : decode cX11_inner 49 = .ok (.aload_n 0, 1) := dk_42 (dk_at dksX11_inner_2 3 rfl rfl)
theorem dX11_inner_50 : decode cX11_inner 50 = .ok (.getfield 9, 3) := dk_180 0 9 (dk_at dksX11_inner_2 4 rfl rfl)
theorem dX11_inner_53 : decode cX11_inner 53 = .ok (.invokevirtual 83, 3) := dk_182 0 83 (dk_at dksX11_inner_2 7 rfl rfl)
theorem dX11_inner_56 : decode cX11_inner 56 = .ok (.aload_n 0, 1) := dk_42 (dk_at dksX11_inner_2 10 rfl rfl)
theorem dX11_inner_57 : decode cX11_inner 57 = .ok (.invokevirtual 23, 3) := dk_182 0 23 (dk_at dksX11_inner_2 11 rfl rfl)
theorem dX11_inner_60 : decode cX11_inner 60 = .ok (.astore_n 1, 1) := dk_76 (dk_at dksX11_inner_2 14 rfl rfl)
theorem dX11_inner_61 : decode cX11_inner 61 = .ok (.aload_n 0, 1) := dk_42 (dk_at dksX11_inner_2 15 rfl rfl)
theorem dX11_inner_62 : decode cX11_inner 62 = .ok (.getfield 9, 3) := dk_180 0 9 (dk_at dksX11_inner_2 16 rfl rfl)
theorem dX11_inner_65 : decode cX11_inner 65 = .ok (.ldc 141, 2) := dk_18 141 (dk_at dksX11_inner_2 19 rfl rfl)
theorem dX11_inner_67 : decode cX11_inner 67 = .ok (.invokevirtual 111, 3) := dk_182 0 111 (dk_at dksX11_inner_2 21 rfl rfl)
theorem dX11_inner_70 : decode cX11_inner 70 = .ok (.aload_n 0, 1) := dk_42 (dk_at dksX11_inner_3 0 rfl rfl)
theorem dX11_inner_71 : decode cX11_inner 71 = .ok (.dup, 1) := dk_89 (dk_at dksX11_inner_3 1 rfl rfl)
theorem dX11_inner_72 : decode cX11_inner 72 = .ok (.getfield 138, 3) := dk_180 0 138 (dk_at dksX11_inner_3 2 rfl rfl)
theorem dX11_inner_75 : decode cX11_inner 75 = .ok (.iconst 1, 1) := dk_4 (dk_at dksX11_inner_3 5 rfl rfl)
theorem dX11_inner_76 : decode cX11_inner 76 = .ok (.isub, 1) := dk_100 (dk_at dksX11_inner_3 6 rfl rfl)
theorem dX11_inner_77 : decode cX11_inner 77 = .ok (.putfield 138, 3) := dk_181 0 138 (dk_at dksX11_inner_3 7 rfl rfl)
theorem dX11_inner_80 : decode cX11_inner 80 = .ok (.aload_n 1, 1) := dk_43 (dk_at dksX11_inner_3 10 rfl rfl)
theorem dX11_inner_81 : decode cX11_inner 81 = .ok (.areturn, 1) := dk_176 (dk_at dksX11_inner_3 11 rfl rfl)
theorem q128 : (Jvm.Cond.initialized "SoftWheels$Planner") ∈ lw_all := lw_g (lw_at lw_m1 31 rfl) rfl
theorem q632 : (Jvm.Cond.fieldLinkNest "SoftWheels$Planner" (98 : Nat) "SoftWheels$Reader" "whole" "I" "SoftWheels") ∈ lw_tbl := lw_at lw_m3 55 rfl
theorem q635 : (Jvm.Cond.fieldLinkNest "SoftWheels$Planner" (51 : Nat) "SoftWheels$Reader" "sort" "LSoftWheels$Sort;" "SoftWheels") ∈ lw_tbl := lw_at lw_m3 58 rfl
theorem q637 : (Jvm.Cond.fieldLinkNest "SoftWheels$Planner" (60 : Nat) "SoftWheels$Reader" "word" "Ljava/lang/String;" "SoftWheels") ∈ lw_tbl := lw_at lw_m3 60 rfl
theorem q969 : (Jvm.Cond.selects "SoftWheels$Planner" ({ cls := "java/lang/Object", name := "getClass", desc := "()Ljava/lang/Class;" } : Jvm.MethodName) ({ cls := "java/lang/Object", name := "getClass", desc := "()Ljava/lang/Class;" } : Jvm.MethodName)) ∈ lw_all := lw_g (lw_at lw_m4 152 rfl) rfl
theorem q1149 : (Jvm.Cond.fieldLinkNest "SoftWheels$Planner" (100 : Nat) "SoftWheels$Land" "doubts" "Ljava/util/ArrayList;" "SoftWheels") ∈ lw_tbl := lw_at lw_m5 92 rfl
theorem q1540 : (Jvm.Cond.instantiable "SoftWheels$Planner" (5 : Nat)) ∈ lw_all := lw_g (lw_at lw_m7 3 rfl) rfl
theorem q1542 : (Jvm.Cond.instanceMethod ({ cls := "SoftWheels$Planner", name := "<init>", desc := "(LSoftWheels$Reader;LSoftWheels$Book;LSoftWheels$Land;)V" } : Jvm.MethodName)) ∈ lw_all := lw_g (lw_at lw_m7 5 rfl) rfl
theorem q1543 : (Jvm.Cond.code ({ cls := "SoftWheels$Planner", name := "<init>", desc := "(LSoftWheels$Reader;LSoftWheels$Book;LSoftWheels$Land;)V" } : Jvm.MethodName) prog_15_method_1_code (4 : Nat) (Option.none : Option Jvm.ClassFile.FieldType)) ∈ lw_all := lw_g (lw_at lw_m7 6 rfl) rfl
theorem q1544 : (Jvm.Cond.methodLink "SoftWheels$Planner" (3 : Nat) ({ cls := "java/lang/Object", name := "<init>", desc := "()V" } : Jvm.MethodName)) ∈ lw_all := lw_g (lw_at lw_m7 7 rfl) rfl
theorem q1545 : (Jvm.Cond.fieldLink "SoftWheels$Planner" (9 : Nat) "SoftWheels$Planner" "\x72" "LSoftWheels$Reader;") ∈ lw_all := lw_g (lw_at lw_m7 8 rfl) rfl
theorem q1546 : (Jvm.Cond.fieldLink "SoftWheels$Planner" (15 : Nat) "SoftWheels$Planner" "book" "LSoftWheels$Book;") ∈ lw_all := lw_g (lw_at lw_m7 9 rfl) rfl
theorem q1547 : (Jvm.Cond.fieldLink "SoftWheels$Planner" (19 : Nat) "SoftWheels$Planner" "map" "LSoftWheels$Land;") ∈ lw_all := lw_g (lw_at lw_m7 10 rfl) rfl
theorem q1548 : (Jvm.Cond.fieldLink "SoftWheels$Planner" (79 : Nat) "SoftWheels$Planner" "steps" "I") ∈ lw_all := lw_g (lw_at lw_m7 11 rfl) rfl
theorem q1549 : (Jvm.Cond.fieldLink "SoftWheels$Planner" (138 : Nat) "SoftWheels$Planner" "deep" "I") ∈ lw_all := lw_g (lw_at lw_m7 12 rfl) rfl
theorem q1550 : (Jvm.Cond.laysFinal "SoftWheels$Planner" "SoftWheels$Planner" "\x72" "LSoftWheels$Reader;") ∈ lw_all := lw_g (lw_at lw_m7 13 rfl) rfl
theorem q1551 : (Jvm.Cond.soleField "SoftWheels$Planner" "\x72") ∈ lw_all := lw_g (lw_at lw_m7 14 rfl) rfl
theorem q1552 : (Jvm.Cond.laysFinal "SoftWheels$Planner" "SoftWheels$Planner" "book" "LSoftWheels$Book;") ∈ lw_all := lw_g (lw_at lw_m7 15 rfl) rfl
theorem q1553 : (Jvm.Cond.soleField "SoftWheels$Planner" "book") ∈ lw_all := lw_g (lw_at lw_m7 16 rfl) rfl
theorem q1554 : (Jvm.Cond.laysFinal "SoftWheels$Planner" "SoftWheels$Planner" "map" "LSoftWheels$Land;") ∈ lw_all := lw_g (lw_at lw_m7 17 rfl) rfl
theorem q1555 : (Jvm.Cond.soleField "SoftWheels$Planner" "map") ∈ lw_all := lw_g (lw_at lw_m7 18 rfl) rfl
theorem q1556 : (Jvm.Cond.lays "SoftWheels$Planner" "SoftWheels$Planner" "steps" "I") ∈ lw_all := lw_g (lw_at lw_m7 19 rfl) rfl
theorem q1557 : (Jvm.Cond.soleField "SoftWheels$Planner" "steps") ∈ lw_all := lw_g (lw_at lw_m7 20 rfl) rfl
theorem q1558 : (Jvm.Cond.lays "SoftWheels$Planner" "SoftWheels$Planner" "deep" "I") ∈ lw_all := lw_g (lw_at lw_m7 21 rfl) rfl
theorem q1559 : (Jvm.Cond.soleField "SoftWheels$Planner" "deep") ∈ lw_all := lw_g (lw_at lw_m7 22 rfl) rfl
theorem q1560 : (Jvm.Cond.superclass "SoftWheels$Planner" "java/lang/Object") ∈ lw_all := lw_g (lw_at lw_m7 23 rfl) rfl
theorem q1562 : (Jvm.Cond.instanceMethod ({ cls := "SoftWheels$Planner", name := "all", desc := "()Ljava/util/List;" } : Jvm.MethodName)) ∈ lw_all := lw_g (lw_at lw_m7 25 rfl) rfl
theorem q1563 : (Jvm.Cond.selects "SoftWheels$Planner" ({ cls := "SoftWheels$Planner", name := "all", desc := "()Ljava/util/List;" } : Jvm.MethodName) ({ cls := "SoftWheels$Planner", name := "all", desc := "()Ljava/util/List;" } : Jvm.MethodName)) ∈ lw_all := lw_g (lw_at lw_m7 26 rfl) rfl
theorem q1564 : (Jvm.Cond.code ({ cls := "SoftWheels$Planner", name := "all", desc := "()Ljava/util/List;" } : Jvm.MethodName) prog_15_method_2_code (2 : Nat) (Option.some (Jvm.ClassFile.FieldType.object "java/util/List"))) ∈ lw_all := lw_g (lw_at lw_m7 27 rfl) rfl
theorem q1565 : (Jvm.Cond.methodLink "SoftWheels$Planner" (23 : Nat) ({ cls := "SoftWheels$Planner", name := "plan", desc := "()Ljava/util/List;" } : Jvm.MethodName)) ∈ lw_all := lw_g (lw_at lw_m7 28 rfl) rfl
theorem q1566 : (Jvm.Cond.privateMethod ({ cls := "SoftWheels$Planner", name := "plan", desc := "()Ljava/util/List;" } : Jvm.MethodName)) ∈ lw_tbl := lw_at lw_m7 29 rfl
theorem q1567 : (Jvm.Cond.instanceMethod ({ cls := "SoftWheels$Planner", name := "plan", desc := "()Ljava/util/List;" } : Jvm.MethodName)) ∈ lw_all := lw_g (lw_at lw_m7 30 rfl) rfl
theorem q1568 : (Jvm.Cond.code ({ cls := "SoftWheels$Planner", name := "plan", desc := "()Ljava/util/List;" } : Jvm.MethodName) prog_15_method_3_code (2 : Nat) (Option.some (Jvm.ClassFile.FieldType.object "java/util/List"))) ∈ lw_all := lw_g (lw_at lw_m7 31 rfl) rfl
theorem q1569 : (Jvm.Cond.classLink "SoftWheels$Planner" (32 : Nat) "java/util/ArrayList") ∈ lw_all := lw_g (lw_at lw_m7 32 rfl) rfl
theorem q1570 : (Jvm.Cond.methodLink "SoftWheels$Planner" (34 : Nat) ({ cls := "java/util/ArrayList", name := "<init>", desc := "()V" } : Jvm.MethodName)) ∈ lw_all := lw_g (lw_at lw_m7 33 rfl) rfl
theorem q1571 : (Jvm.Cond.methodLink "SoftWheels$Planner" (35 : Nat) ({ cls := "SoftWheels$Planner", name := "step", desc := "()LSoftWheels$Doing;" } : Jvm.MethodName)) ∈ lw_all := lw_g (lw_at lw_m7 34 rfl) rfl
theorem q1572 : (Jvm.Cond.privateMethod ({ cls := "SoftWheels$Planner", name := "step", desc := "()LSoftWheels$Doing;" } : Jvm.MethodName)) ∈ lw_tbl := lw_at lw_m7 35 rfl
theorem q1573 : (Jvm.Cond.instanceMethod ({ cls := "SoftWheels$Planner", name := "step", desc := "()LSoftWheels$Doing;" } : Jvm.MethodName)) ∈ lw_all := lw_g (lw_at lw_m7 36 rfl) rfl
theorem q1574 : (Jvm.Cond.code ({ cls := "SoftWheels$Planner", name := "step", desc := "()LSoftWheels$Doing;" } : Jvm.MethodName) prog_15_method_4_code (5 : Nat) (Option.some (Jvm.ClassFile.FieldType.object "SoftWheels$Doing"))) ∈ lw_all := lw_g (lw_at lw_m7 37 rfl) rfl
theorem q1575 : (Jvm.Cond.fieldLink "SoftWheels$Planner" (55 : Nat) "SoftWheels$Sort" "WORD" "LSoftWheels$Sort;") ∈ lw_all := lw_g (lw_at lw_m7 38 rfl) rfl
theorem q1576 : (Jvm.Cond.methodLink "SoftWheels$Planner" (64 : Nat) ({ cls := "SoftWheels$Way", name := "of", desc := "(Ljava/lang/String;)LSoftWheels$Way;" } : Jvm.MethodName)) ∈ lw_all := lw_g (lw_at lw_m7 39 rfl) rfl
theorem q1577 : (Jvm.Cond.stringRef "SoftWheels$Planner" (70 : Nat) "if") ∈ lw_tbl := lw_at lw_m7 40 rfl
theorem q1578 : (Jvm.Cond.methodLink "SoftWheels$Planner" (72 : Nat) ({ cls := "SoftWheels$Reader", name := "is", desc := "(Ljava/lang/String;)Z" } : Jvm.MethodName)) ∈ lw_all := lw_g (lw_at lw_m7 41 rfl) rfl
theorem q1579 : (Jvm.Cond.methodLink "SoftWheels$Planner" (75 : Nat) ({ cls := "SoftWheels$Reader", name := "fault", desc := "(I)LSoftWheels$Fault;" } : Jvm.MethodName)) ∈ lw_all := lw_g (lw_at lw_m7 42 rfl) rfl
theorem q1580 : (Jvm.Cond.methodLink "SoftWheels$Planner" (83 : Nat) ({ cls := "SoftWheels$Reader", name := "next", desc := "()V" } : Jvm.MethodName)) ∈ lw_all := lw_g (lw_at lw_m7 43 rfl) rfl
theorem q1581 : (Jvm.Cond.classLink "SoftWheels$Planner" (86 : Nat) "SoftWheels$Go") ∈ lw_all := lw_g (lw_at lw_m7 44 rfl) rfl
theorem q1583 : (Jvm.Cond.fieldLink "SoftWheels$Planner" (88 : Nat) "SoftWheels$Sort" "WHOLE" "LSoftWheels$Sort;") ∈ lw_all := lw_g (lw_at lw_m7 46 rfl) rfl
theorem q1584 : (Jvm.Cond.methodLink "SoftWheels$Planner" (91 : Nat) ({ cls := "SoftWheels$Reader", name := "whole", desc := "(II)I" } : Jvm.MethodName)) ∈ lw_all := lw_g (lw_at lw_m7 47 rfl) rfl
theorem q1585 : (Jvm.Cond.methodLinkNest "SoftWheels$Planner" (95 : Nat) ({ cls := "SoftWheels$Go", name := "<init>", desc := "(LSoftWheels$Way;I)V" } : Jvm.MethodName) "SoftWheels") ∈ lw_tbl := lw_at lw_m7 48 rfl
theorem q1596 : (Jvm.Cond.methodLink "SoftWheels$Planner" (106 : Nat) ({ cls := "java/util/ArrayList", name := "size", desc := "()I" } : Jvm.MethodName)) ∈ lw_all := lw_g (lw_at lw_m7 59 rfl) rfl
theorem q1597 : (Jvm.Cond.stringRef "SoftWheels$Planner" (110 : Nat) "is") ∈ lw_tbl := lw_at lw_m7 60 rfl
theorem q1598 : (Jvm.Cond.methodLink "SoftWheels$Planner" (111 : Nat) ({ cls := "SoftWheels$Reader", name := "needs", desc := "(Ljava/lang/String;)V" } : Jvm.MethodName)) ∈ lw_all := lw_g (lw_at lw_m7 61 rfl) rfl
theorem q1599 : (Jvm.Cond.methodLink "SoftWheels$Planner" (115 : Nat) ({ cls := "SoftWheels$Reader", name := "name", desc := "()Ljava/lang/String;" } : Jvm.MethodName)) ∈ lw_all := lw_g (lw_at lw_m7 62 rfl) rfl
theorem q1600 : (Jvm.Cond.methodLink "SoftWheels$Planner" (119 : Nat) ({ cls := "SoftWheels$Book", name := "groundOf", desc := "(Ljava/lang/String;)I" } : Jvm.MethodName)) ∈ lw_all := lw_g (lw_at lw_m7 63 rfl) rfl
theorem q1601 : (Jvm.Cond.methodLink "SoftWheels$Planner" (125 : Nat) ({ cls := "SoftWheels$Planner", name := "inner", desc := "()Ljava/util/List;" } : Jvm.MethodName)) ∈ lw_all := lw_g (lw_at lw_m7 64 rfl) rfl
theorem q1602 : (Jvm.Cond.privateMethod ({ cls := "SoftWheels$Planner", name := "inner", desc := "()Ljava/util/List;" } : Jvm.MethodName)) ∈ lw_tbl := lw_at lw_m7 65 rfl
theorem q1603 : (Jvm.Cond.instanceMethod ({ cls := "SoftWheels$Planner", name := "inner", desc := "()Ljava/util/List;" } : Jvm.MethodName)) ∈ lw_all := lw_g (lw_at lw_m7 66 rfl) rfl
theorem q1604 : (Jvm.Cond.code ({ cls := "SoftWheels$Planner", name := "inner", desc := "()Ljava/util/List;" } : Jvm.MethodName) prog_15_method_5_code (2 : Nat) (Option.some (Jvm.ClassFile.FieldType.object "java/util/List"))) ∈ lw_all := lw_g (lw_at lw_m7 67 rfl) rfl
theorem q1605 : (Jvm.Cond.methodLink "SoftWheels$Planner" (135 : Nat) ({ cls := "SoftWheels$Reader", name := "is", desc := "(C)Z" } : Jvm.MethodName)) ∈ lw_all := lw_g (lw_at lw_m7 68 rfl) rfl
theorem q1606 : (Jvm.Cond.stringRef "SoftWheels$Planner" (141 : Nat) ")") ∈ lw_tbl := lw_at lw_m7 69 rfl
theorem q1607 : (Jvm.Cond.classLink "SoftWheels$Planner" (128 : Nat) "SoftWheels$If") ∈ lw_all := lw_g (lw_at lw_m7 70 rfl) rfl
theorem q1609 : (Jvm.Cond.stringRef "SoftWheels$Planner" (130 : Nat) "else") ∈ lw_tbl := lw_at lw_m7 72 rfl
theorem q1610 : (Jvm.Cond.methodLink "SoftWheels$Planner" (47 : Nat) ({ cls := "SoftWheels$Reader", name := "skips", desc := "(Ljava/lang/String;)Z" } : Jvm.MethodName)) ∈ lw_all := lw_g (lw_at lw_m7 73 rfl) rfl
theorem q1611 : (Jvm.Cond.methodLinkNest "SoftWheels$Planner" (132 : Nat) ({ cls := "SoftWheels$If", name := "<init>", desc := "(IILjava/util/List;Ljava/util/List;)V" } : Jvm.MethodName) "SoftWheels") ∈ lw_tbl := lw_at lw_m7 74 rfl
theorem q1628 : (Jvm.Cond.interfaceEntry "SoftWheels$Planner" (39 : Nat)) ∈ lw_tbl := lw_at lw_m7 91 rfl
theorem q1629 : (Jvm.Cond.methodLink "SoftWheels$Planner" (39 : Nat) ({ cls := "java/util/List", name := "add", desc := "(Ljava/lang/Object;)Z" } : Jvm.MethodName)) ∈ lw_all := lw_g (lw_at lw_m7 92 rfl) rfl
theorem q1630 : (Jvm.Cond.stringRef "SoftWheels$Planner" (45 : Nat) ";") ∈ lw_tbl := lw_at lw_m7 93 rfl
theorem q1631 : (Jvm.Cond.methodLink "SoftWheels$Planner" (27 : Nat) ({ cls := "SoftWheels$Reader", name := "needsEnd", desc := "()V" } : Jvm.MethodName)) ∈ lw_all := lw_g (lw_at lw_m7 94 rfl) rfl
theorem q2570 : (Jvm.Cond.castable "SoftWheels$Planner" "java/lang/Object") ∈ lw_tbl := lw_at lw_m11 73 rfl
theorem in_X11 : ∀ w ∈ wsX110, w ∈ lw_all := lw_in wsX110 [1550, 1552, 1554, 1556, 1558] (by decide +kernel) (by decide +kernel)

/-! SoftWheels$Go -/
set_option maxRecDepth 100000
def RX12 : String := "SoftWheels$Go"
def TX12 : u_T := fun k => match k with
  | 0 => ("SoftWheels$Go", "way", "LSoftWheels$Way;", true)
  | _ => ("SoftWheels$Go", "times", "I", true)
def tyX12 : Nat → FieldType := fun k => match k with
  | 0 => .object "SoftWheels$Way"
  | _ => .int
abbrev wsX120 : List Cond := u_ws RX12 TX12 2
theorem nmX12 : ∀ a, a < 2 → ∀ b, b < 2 → a ≠ b → (TX12 a).2.1 ≠ (TX12 b).2.1 := by decide +kernel
theorem tyX12_ok : ∀ k, k < 2 → parseFieldDescriptor (TX12 k).2.2.1 = some (tyX12 k) := by decide +kernel
abbrev cX12_init : ByteArray := prog_7_method_1_code
def yX12_init : MethodName := ⟨RX12, "<init>", "(LSoftWheels$Way;I)V"⟩
def dkwX12_init_0 : List UInt8 := [42, 183, 0, 1, 42, 43, 181, 0, 7, 42, 28, 181, 0, 13, 177]
abbrev dktX12_init_0 : List UInt8 := dkwX12_init_0 ++ []
theorem dksX12_init_0 : cX12_init.data.toList.drop 0 = dktX12_init_0 := by decide +kernel
theorem dX12_init_0 : decode cX12_init 0 = .ok (.aload_n 0, 1) := dk_42 (dk_at dksX12_init_0 0 rfl rfl)
theorem dX12_init_1 : decode cX12_init 1 = .ok (.invokespecial 1, 3) := dk_183 0 1 (dk_at dksX12_init_0 1 rfl rfl)
theorem dX12_init_4 : decode cX12_init 4 = .ok (.aload_n 0, 1) := dk_42 (dk_at dksX12_init_0 4 rfl rfl)
theorem dX12_init_5 : decode cX12_init 5 = .ok (.aload_n 1, 1) := dk_43 (dk_at dksX12_init_0 5 rfl rfl)
theorem dX12_init_6 : decode cX12_init 6 = .ok (.putfield 7, 3) := dk_181 0 7 (dk_at dksX12_init_0 6 rfl rfl)
theorem dX12_init_9 : decode cX12_init 9 = .ok (.aload_n 0, 1) := dk_42 (dk_at dksX12_init_0 9 rfl rfl)
theorem dX12_init_10 : decode cX12_init 10 = .ok (.iload_n 2, 1) := dk_28 (dk_at dksX12_init_0 10 rfl rfl)
theorem dX12_init_11 : decode cX12_init 11 = .ok (.putfield 13, 3) := dk_181 0 13 (dk_at dksX12_init_0 11 rfl rfl)
theorem dX12_init_14 : decode cX12_init 14 = .ok (.return_, 1) := dk_177 (dk_at dksX12_init_0 14 rfl rfl)
abbrev cX12_by : ByteArray := prog_7_method_2_code
def yX12_by : MethodName := ⟨RX12, "by", "(LSoftWheels$Walk;)V"⟩
def dkwX12_by_1 : List UInt8 := [182, 0, 22, 132, 2, 1, 167, 255, 230, 177]
abbrev dktX12_by_1 : List UInt8 := dkwX12_by_1 ++ []
def dkwX12_by_0 : List UInt8 := [3, 61, 28, 42, 180, 0, 13, 162, 0, 24, 43, 180, 0, 17, 154, 0, 17, 43, 42, 180, 0, 7]
abbrev dktX12_by_0 : List UInt8 := dkwX12_by_0 ++ dktX12_by_1
theorem dksX12_by_0 : cX12_by.data.toList.drop 0 = dktX12_by_0 := by decide +kernel
theorem dksX12_by_1 : cX12_by.data.toList.drop 22 = dktX12_by_1 := dk_seg dksX12_by_0 22 rfl rfl
theorem dX12_by_0 : decode cX12_by 0 = .ok (.iconst 0, 1) := dk_3 (dk_at dksX12_by_0 0 rfl rfl)
theorem dX12_by_1 : decode cX12_by 1 = .ok (.istore_n 2, 1) := dk_61 (dk_at dksX12_by_0 1 rfl rfl)
theorem dX12_by_2 : decode cX12_by 2 = .ok (.iload_n 2, 1) := dk_28 (dk_at dksX12_by_0 2 rfl rfl)
theorem dX12_by_3 : decode cX12_by 3 = .ok (.aload_n 0, 1) := dk_42 (dk_at dksX12_by_0 3 rfl rfl)
theorem dX12_by_4 : decode cX12_by 4 = .ok (.getfield 13, 3) := dk_180 0 13 (dk_at dksX12_by_0 4 rfl rfl)
theorem dX12_by_7 : decode cX12_by 7 = .ok (.if_icmp .ge 24, 3) := dk_162 0 24 (dk_at dksX12_by_0 7 rfl rfl)
theorem dX12_by_10 : decode cX12_by 10 = .ok (.aload_n 1, 1) := dk_43 (dk_at dksX12_by_0 10 rfl rfl)
theorem dX12_by_11 : decode cX12_by 11 = .ok (.getfield 17, 3) := dk_180 0 17 (dk_at dksX12_by_0 11 rfl rfl)
theorem dX12_by_14 : decode cX12_by 14 = .ok (.ifCond .ne 17, 3) := dk_154 0 17 (dk_at dksX12_by_0 14 rfl rfl)
theorem dX12_by_17 : decode cX12_by 17 = .ok (.aload_n 1, 1) := dk_43 (dk_at dksX12_by_0 17 rfl rfl)
theorem dX12_by_18 : decode cX12_by 18 = .ok (.aload_n 0, 1) := dk_42 (dk_at dksX12_by_0 18 rfl rfl)
theorem dX12_by_19 : decode cX12_by 19 = .ok (.getfield 7, 3) := dk_180 0 7 (dk_at dksX12_by_0 19 rfl rfl)
theorem dX12_by_22 : decode cX12_by 22 = .ok (.invokevirtual 22, 3) := dk_182 0 22 (dk_at dksX12_by_1 0 rfl rfl)
theorem dX12_by_25 : decode cX12_by 25 = .ok (.iinc 2 1, 3) := dk_132 2 1 (dk_at dksX12_by_1 3 rfl rfl)
theorem dX12_by_28 : decode cX12_by 28 = .ok (.goto (-26), 3) := dk_167 255 230 (dk_at dksX12_by_1 6 rfl rfl)
theorem dX12_by_31 : decode cX12_by 31 = .ok (.return_, 1) := dk_177 (dk_at dksX12_by_1 9 rfl rfl)
theorem q129 : (Jvm.Cond.initialized "SoftWheels$Go") ∈ lw_all := lw_g (lw_at lw_m1 32 rfl) rfl
theorem q962 : (Jvm.Cond.selects "SoftWheels$Go" ({ cls := "java/lang/Object", name := "getClass", desc := "()Ljava/lang/Class;" } : Jvm.MethodName) ({ cls := "java/lang/Object", name := "getClass", desc := "()Ljava/lang/Class;" } : Jvm.MethodName)) ∈ lw_all := lw_g (lw_at lw_m4 145 rfl) rfl
theorem q1582 : (Jvm.Cond.instantiable "SoftWheels$Go" (2 : Nat)) ∈ lw_all := lw_g (lw_at lw_m7 45 rfl) rfl
theorem q1586 : (Jvm.Cond.instanceMethod ({ cls := "SoftWheels$Go", name := "<init>", desc := "(LSoftWheels$Way;I)V" } : Jvm.MethodName)) ∈ lw_all := lw_g (lw_at lw_m7 49 rfl) rfl
theorem q1587 : (Jvm.Cond.code ({ cls := "SoftWheels$Go", name := "<init>", desc := "(LSoftWheels$Way;I)V" } : Jvm.MethodName) prog_7_method_1_code (3 : Nat) (Option.none : Option Jvm.ClassFile.FieldType)) ∈ lw_all := lw_g (lw_at lw_m7 50 rfl) rfl
theorem q1588 : (Jvm.Cond.methodLink "SoftWheels$Go" (1 : Nat) ({ cls := "java/lang/Record", name := "<init>", desc := "()V" } : Jvm.MethodName)) ∈ lw_all := lw_g (lw_at lw_m7 51 rfl) rfl
theorem q1589 : (Jvm.Cond.fieldLink "SoftWheels$Go" (7 : Nat) "SoftWheels$Go" "way" "LSoftWheels$Way;") ∈ lw_all := lw_g (lw_at lw_m7 52 rfl) rfl
theorem q1590 : (Jvm.Cond.fieldLink "SoftWheels$Go" (13 : Nat) "SoftWheels$Go" "times" "I") ∈ lw_all := lw_g (lw_at lw_m7 53 rfl) rfl
theorem q1591 : (Jvm.Cond.laysFinal "SoftWheels$Go" "SoftWheels$Go" "way" "LSoftWheels$Way;") ∈ lw_all := lw_g (lw_at lw_m7 54 rfl) rfl
theorem q1592 : (Jvm.Cond.soleField "SoftWheels$Go" "way") ∈ lw_all := lw_g (lw_at lw_m7 55 rfl) rfl
theorem q1593 : (Jvm.Cond.laysFinal "SoftWheels$Go" "SoftWheels$Go" "times" "I") ∈ lw_all := lw_g (lw_at lw_m7 56 rfl) rfl
theorem q1594 : (Jvm.Cond.soleField "SoftWheels$Go" "times") ∈ lw_all := lw_g (lw_at lw_m7 57 rfl) rfl
theorem q1595 : (Jvm.Cond.superclass "SoftWheels$Go" "java/lang/Record") ∈ lw_all := lw_g (lw_at lw_m7 58 rfl) rfl
theorem q1662 : (Jvm.Cond.fieldLinkNest "SoftWheels$Go" (17 : Nat) "SoftWheels$Walk" "why" "I" "SoftWheels") ∈ lw_tbl := lw_at lw_m7 125 rfl
theorem q1705 : (Jvm.Cond.castable "SoftWheels$Go" "SoftWheels$Doing") ∈ lw_tbl := lw_at lw_m7 168 rfl
theorem q1706 : (Jvm.Cond.selects "SoftWheels$Go" ({ cls := "SoftWheels$Doing", name := "by", desc := "(LSoftWheels$Walk;)V" } : Jvm.MethodName) ({ cls := "SoftWheels$Go", name := "by", desc := "(LSoftWheels$Walk;)V" } : Jvm.MethodName)) ∈ lw_all := lw_g (lw_at lw_m7 169 rfl) rfl
theorem q1707 : (Jvm.Cond.unhidden "SoftWheels$Go" "by" "(LSoftWheels$Walk;)V") ∈ lw_tbl := lw_at lw_m7 170 rfl
theorem q1708 : (Jvm.Cond.instanceMethod ({ cls := "SoftWheels$Go", name := "by", desc := "(LSoftWheels$Walk;)V" } : Jvm.MethodName)) ∈ lw_all := lw_g (lw_at lw_m7 171 rfl) rfl
theorem q1709 : (Jvm.Cond.publicMethod ({ cls := "SoftWheels$Go", name := "by", desc := "(LSoftWheels$Walk;)V" } : Jvm.MethodName)) ∈ lw_tbl := lw_at lw_m7 172 rfl
theorem q1710 : (Jvm.Cond.code ({ cls := "SoftWheels$Go", name := "by", desc := "(LSoftWheels$Walk;)V" } : Jvm.MethodName) prog_7_method_2_code (3 : Nat) (Option.none : Option Jvm.ClassFile.FieldType)) ∈ lw_all := lw_g (lw_at lw_m7 173 rfl) rfl
theorem q1711 : (Jvm.Cond.methodLink "SoftWheels$Go" (22 : Nat) ({ cls := "SoftWheels$Walk", name := "goes", desc := "(LSoftWheels$Way;)V" } : Jvm.MethodName)) ∈ lw_all := lw_g (lw_at lw_m7 174 rfl) rfl
theorem q2571 : (Jvm.Cond.castable "SoftWheels$Go" "java/lang/Object") ∈ lw_tbl := lw_at lw_m11 74 rfl
theorem in_X12 : ∀ w ∈ wsX120, w ∈ lw_all := lw_in wsX120 [1591, 1593] (by decide +kernel) (by decide +kernel)

/-! SoftWheels$If -/
set_option maxRecDepth 100000
def RX13 : String := "SoftWheels$If"
def TX13 : u_T := fun k => match k with
  | 0 => ("SoftWheels$If", "doubt", "I", true)
  | 1 => ("SoftWheels$If", "ground", "I", true)
  | 2 => ("SoftWheels$If", "then", "Ljava/util/List;", true)
  | _ => ("SoftWheels$If", "other", "Ljava/util/List;", true)
def tyX13 : Nat → FieldType := fun k => match k with
  | 0 => .int
  | 1 => .int
  | 2 => .object "java/util/List"
  | _ => .object "java/util/List"
abbrev wsX130 : List Cond := u_ws RX13 TX13 4
theorem nmX13 : ∀ a, a < 4 → ∀ b, b < 4 → a ≠ b → (TX13 a).2.1 ≠ (TX13 b).2.1 := by decide +kernel
theorem tyX13_ok : ∀ k, k < 4 → parseFieldDescriptor (TX13 k).2.2.1 = some (tyX13 k) := by decide +kernel
abbrev cX13_init : ByteArray := prog_9_method_1_code
def yX13_init : MethodName := ⟨RX13, "<init>", "(IILjava/util/List;Ljava/util/List;)V"⟩
def dkwX13_init_1 : List UInt8 := [181, 0, 20, 177]
abbrev dktX13_init_1 : List UInt8 := dkwX13_init_1 ++ []
def dkwX13_init_0 : List UInt8 := [42, 183, 0, 1, 42, 27, 181, 0, 7, 42, 28, 181, 0, 13, 42, 45, 181, 0, 16, 42, 25, 4]
abbrev dktX13_init_0 : List UInt8 := dkwX13_init_0 ++ dktX13_init_1
theorem dksX13_init_0 : cX13_init.data.toList.drop 0 = dktX13_init_0 := by decide +kernel
theorem dksX13_init_1 : cX13_init.data.toList.drop 22 = dktX13_init_1 := dk_seg dksX13_init_0 22 rfl rfl
theorem dX13_init_0 : decode cX13_init 0 = .ok (.aload_n 0, 1) := dk_42 (dk_at dksX13_init_0 0 rfl rfl)
theorem dX13_init_1 : decode cX13_init 1 = .ok (.invokespecial 1, 3) := dk_183 0 1 (dk_at dksX13_init_0 1 rfl rfl)
theorem dX13_init_4 : decode cX13_init 4 = .ok (.aload_n 0, 1) := dk_42 (dk_at dksX13_init_0 4 rfl rfl)
theorem dX13_init_5 : decode cX13_init 5 = .ok (.iload_n 1, 1) := dk_27 (dk_at dksX13_init_0 5 rfl rfl)
theorem dX13_init_6 : decode cX13_init 6 = .ok (.putfield 7, 3) := dk_181 0 7 (dk_at dksX13_init_0 6 rfl rfl)
theorem dX13_init_9 : decode cX13_init 9 = .ok (.aload_n 0, 1) := dk_42 (dk_at dksX13_init_0 9 rfl rfl)
theorem dX13_init_10 : decode cX13_init 10 = .ok (.iload_n 2, 1) := dk_28 (dk_at dksX13_init_0 10 rfl rfl)
theorem dX13_init_11 : decode cX13_init 11 = .ok (.putfield 13, 3) := dk_181 0 13 (dk_at dksX13_init_0 11 rfl rfl)
theorem dX13_init_14 : decode cX13_init 14 = .ok (.aload_n 0, 1) := dk_42 (dk_at dksX13_init_0 14 rfl rfl)
theorem dX13_init_15 : decode cX13_init 15 = .ok (.aload_n 3, 1) := dk_45 (dk_at dksX13_init_0 15 rfl rfl)
theorem dX13_init_16 : decode cX13_init 16 = .ok (.putfield 16, 3) := dk_181 0 16 (dk_at dksX13_init_0 16 rfl rfl)
theorem dX13_init_19 : decode cX13_init 19 = .ok (.aload_n 0, 1) := dk_42 (dk_at dksX13_init_0 19 rfl rfl)
theorem dX13_init_20 : decode cX13_init 20 = .ok (.aload 4, 2) := dk_25 4 (dk_at dksX13_init_0 20 rfl rfl)
theorem dX13_init_22 : decode cX13_init 22 = .ok (.putfield 20, 3) := dk_181 0 20 (dk_at dksX13_init_1 0 rfl rfl)
theorem dX13_init_25 : decode cX13_init 25 = .ok (.return_, 1) := dk_177 (dk_at dksX13_init_1 3 rfl rfl)
abbrev cX13_by : ByteArray := prog_9_method_2_code
def yX13_by : MethodName := ⟨RX13, "by", "(LSoftWheels$Walk;)V"⟩
def dkwX13_by_1 : List UInt8 := [167, 0, 7, 42, 180, 0, 20, 182, 0, 29, 87, 177]
abbrev dktX13_by_1 : List UInt8 := dkwX13_by_1 ++ []
def dkwX13_by_0 : List UInt8 := [43, 42, 180, 0, 7, 42, 180, 0, 13, 182, 0, 23, 61, 43, 28, 153, 0, 10, 42, 180, 0, 16]
abbrev dktX13_by_0 : List UInt8 := dkwX13_by_0 ++ dktX13_by_1
theorem dksX13_by_0 : cX13_by.data.toList.drop 0 = dktX13_by_0 := by decide +kernel
theorem dksX13_by_1 : cX13_by.data.toList.drop 22 = dktX13_by_1 := dk_seg dksX13_by_0 22 rfl rfl
theorem dX13_by_0 : decode cX13_by 0 = .ok (.aload_n 1, 1) := dk_43 (dk_at dksX13_by_0 0 rfl rfl)
theorem dX13_by_1 : decode cX13_by 1 = .ok (.aload_n 0, 1) := dk_42 (dk_at dksX13_by_0 1 rfl rfl)
theorem dX13_by_2 : decode cX13_by 2 = .ok (.getfield 7, 3) := dk_180 0 7 (dk_at dksX13_by_0 2 rfl rfl)
theorem dX13_by_5 : decode cX13_by 5 = .ok (.aload_n 0, 1) := dk_42 (dk_at dksX13_by_0 5 rfl rfl)
theorem dX13_by_6 : decode cX13_by 6 = .ok (.getfield 13, 3) := dk_180 0 13 (dk_at dksX13_by_0 6 rfl rfl)
theorem dX13_by_9 : decode cX13_by 9 = .ok (.invokevirtual 23, 3) := dk_182 0 23 (dk_at dksX13_by_0 9 rfl rfl)
theorem dX13_by_12 : decode cX13_by 12 = .ok (.istore_n 2, 1) := dk_61 (dk_at dksX13_by_0 12 rfl rfl)
theorem dX13_by_13 : decode cX13_by 13 = .ok (.aload_n 1, 1) := dk_43 (dk_at dksX13_by_0 13 rfl rfl)
theorem dX13_by_14 : decode cX13_by 14 = .ok (.iload_n 2, 1) := dk_28 (dk_at dksX13_by_0 14 rfl rfl)
theorem dX13_by_15 : decode cX13_by 15 = .ok (.ifCond .eq 10, 3) := dk_153 0 10 (dk_at dksX13_by_0 15 rfl rfl)
theorem dX13_by_18 : decode cX13_by 18 = .ok (.aload_n 0, 1) := dk_42 (dk_at dksX13_by_0 18 rfl rfl)
theorem dX13_by_19 : decode cX13_by 19 = .ok (.getfield 16, 3) := dk_180 0 16 (dk_at dksX13_by_0 19 rfl rfl)
theorem dX13_by_22 : decode cX13_by 22 = .ok (.goto 7, 3) := dk_167 0 7 (dk_at dksX13_by_1 0 rfl rfl)
theorem dX13_by_25 : decode cX13_by 25 = .ok (.aload_n 0, 1) := dk_42 (dk_at dksX13_by_1 3 rfl rfl)
theorem dX13_by_26 : decode cX13_by 26 = .ok (.getfield 20, 3) := dk_180 0 20 (dk_at dksX13_by_1 4 rfl rfl)
theorem dX13_by_29 : decode cX13_by 29 = .ok (.invokevirtual 29, 3) := dk_182 0 29 (dk_at dksX13_by_1 7 rfl rfl)
theorem dX13_by_32 : decode cX13_by 32 = .ok (.pop, 1) := dk_87 (dk_at dksX13_by_1 10 rfl rfl)
theorem dX13_by_33 : decode cX13_by 33 = .ok (.return_, 1) := dk_177 (dk_at dksX13_by_1 11 rfl rfl)
theorem q130 : (Jvm.Cond.initialized "SoftWheels$If") ∈ lw_all := lw_g (lw_at lw_m1 33 rfl) rfl
theorem q964 : (Jvm.Cond.selects "SoftWheels$If" ({ cls := "java/lang/Object", name := "getClass", desc := "()Ljava/lang/Class;" } : Jvm.MethodName) ({ cls := "java/lang/Object", name := "getClass", desc := "()Ljava/lang/Class;" } : Jvm.MethodName)) ∈ lw_all := lw_g (lw_at lw_m4 147 rfl) rfl
theorem q1608 : (Jvm.Cond.instantiable "SoftWheels$If" (4 : Nat)) ∈ lw_all := lw_g (lw_at lw_m7 71 rfl) rfl
theorem q1612 : (Jvm.Cond.instanceMethod ({ cls := "SoftWheels$If", name := "<init>", desc := "(IILjava/util/List;Ljava/util/List;)V" } : Jvm.MethodName)) ∈ lw_all := lw_g (lw_at lw_m7 75 rfl) rfl
theorem q1613 : (Jvm.Cond.code ({ cls := "SoftWheels$If", name := "<init>", desc := "(IILjava/util/List;Ljava/util/List;)V" } : Jvm.MethodName) prog_9_method_1_code (5 : Nat) (Option.none : Option Jvm.ClassFile.FieldType)) ∈ lw_all := lw_g (lw_at lw_m7 76 rfl) rfl
theorem q1614 : (Jvm.Cond.methodLink "SoftWheels$If" (1 : Nat) ({ cls := "java/lang/Record", name := "<init>", desc := "()V" } : Jvm.MethodName)) ∈ lw_all := lw_g (lw_at lw_m7 77 rfl) rfl
theorem q1615 : (Jvm.Cond.fieldLink "SoftWheels$If" (7 : Nat) "SoftWheels$If" "doubt" "I") ∈ lw_all := lw_g (lw_at lw_m7 78 rfl) rfl
theorem q1616 : (Jvm.Cond.fieldLink "SoftWheels$If" (13 : Nat) "SoftWheels$If" "ground" "I") ∈ lw_all := lw_g (lw_at lw_m7 79 rfl) rfl
theorem q1617 : (Jvm.Cond.fieldLink "SoftWheels$If" (16 : Nat) "SoftWheels$If" "then" "Ljava/util/List;") ∈ lw_all := lw_g (lw_at lw_m7 80 rfl) rfl
theorem q1618 : (Jvm.Cond.fieldLink "SoftWheels$If" (20 : Nat) "SoftWheels$If" "other" "Ljava/util/List;") ∈ lw_all := lw_g (lw_at lw_m7 81 rfl) rfl
theorem q1619 : (Jvm.Cond.laysFinal "SoftWheels$If" "SoftWheels$If" "doubt" "I") ∈ lw_all := lw_g (lw_at lw_m7 82 rfl) rfl
theorem q1620 : (Jvm.Cond.soleField "SoftWheels$If" "doubt") ∈ lw_all := lw_g (lw_at lw_m7 83 rfl) rfl
theorem q1621 : (Jvm.Cond.laysFinal "SoftWheels$If" "SoftWheels$If" "ground" "I") ∈ lw_all := lw_g (lw_at lw_m7 84 rfl) rfl
theorem q1622 : (Jvm.Cond.soleField "SoftWheels$If" "ground") ∈ lw_all := lw_g (lw_at lw_m7 85 rfl) rfl
theorem q1623 : (Jvm.Cond.laysFinal "SoftWheels$If" "SoftWheels$If" "then" "Ljava/util/List;") ∈ lw_all := lw_g (lw_at lw_m7 86 rfl) rfl
theorem q1624 : (Jvm.Cond.soleField "SoftWheels$If" "then") ∈ lw_all := lw_g (lw_at lw_m7 87 rfl) rfl
theorem q1625 : (Jvm.Cond.laysFinal "SoftWheels$If" "SoftWheels$If" "other" "Ljava/util/List;") ∈ lw_all := lw_g (lw_at lw_m7 88 rfl) rfl
theorem q1626 : (Jvm.Cond.soleField "SoftWheels$If" "other") ∈ lw_all := lw_g (lw_at lw_m7 89 rfl) rfl
theorem q1627 : (Jvm.Cond.superclass "SoftWheels$If" "java/lang/Record") ∈ lw_all := lw_g (lw_at lw_m7 90 rfl) rfl
theorem q1721 : (Jvm.Cond.castable "SoftWheels$If" "SoftWheels$Doing") ∈ lw_tbl := lw_at lw_m7 184 rfl
theorem q1722 : (Jvm.Cond.selects "SoftWheels$If" ({ cls := "SoftWheels$Doing", name := "by", desc := "(LSoftWheels$Walk;)V" } : Jvm.MethodName) ({ cls := "SoftWheels$If", name := "by", desc := "(LSoftWheels$Walk;)V" } : Jvm.MethodName)) ∈ lw_all := lw_g (lw_at lw_m7 185 rfl) rfl
theorem q1723 : (Jvm.Cond.unhidden "SoftWheels$If" "by" "(LSoftWheels$Walk;)V") ∈ lw_tbl := lw_at lw_m7 186 rfl
theorem q1724 : (Jvm.Cond.instanceMethod ({ cls := "SoftWheels$If", name := "by", desc := "(LSoftWheels$Walk;)V" } : Jvm.MethodName)) ∈ lw_all := lw_g (lw_at lw_m7 187 rfl) rfl
theorem q1725 : (Jvm.Cond.publicMethod ({ cls := "SoftWheels$If", name := "by", desc := "(LSoftWheels$Walk;)V" } : Jvm.MethodName)) ∈ lw_tbl := lw_at lw_m7 188 rfl
theorem q1726 : (Jvm.Cond.code ({ cls := "SoftWheels$If", name := "by", desc := "(LSoftWheels$Walk;)V" } : Jvm.MethodName) prog_9_method_2_code (3 : Nat) (Option.none : Option Jvm.ClassFile.FieldType)) ∈ lw_all := lw_g (lw_at lw_m7 189 rfl) rfl
theorem q1727 : (Jvm.Cond.methodLink "SoftWheels$If" (23 : Nat) ({ cls := "SoftWheels$Walk", name := "is", desc := "(II)Z" } : Jvm.MethodName)) ∈ lw_all := lw_g (lw_at lw_m7 190 rfl) rfl
theorem q1731 : (Jvm.Cond.methodLink "SoftWheels$If" (29 : Nat) ({ cls := "SoftWheels$Walk", name := "does", desc := "(Ljava/util/List;)LSoftWheels$Walk;" } : Jvm.MethodName)) ∈ lw_all := lw_g (lw_at lw_m7 194 rfl) rfl
theorem q2572 : (Jvm.Cond.castable "SoftWheels$If" "java/lang/Object") ∈ lw_tbl := lw_at lw_m11 75 rfl
theorem in_X13 : ∀ w ∈ wsX130, w ∈ lw_all := lw_in wsX130 [1619, 1621, 1623, 1625] (by decide +kernel) (by decide +kernel)

/-! SoftWheels$Land -/
set_option maxRecDepth 100000
def RX14 : String := "SoftWheels$Land"
def TX14 : u_T := fun k => match k with
  | 0 => ("SoftWheels$Land", "book", "LSoftWheels$Book;", true)
  | 1 => ("SoftWheels$Land", "wide", "I", true)
  | 2 => ("SoftWheels$Land", "high", "I", true)
  | 3 => ("SoftWheels$Land", "height", "[I", true)
  | 4 => ("SoftWheels$Land", "ground", "[I", true)
  | 5 => ("SoftWheels$Land", "doubtAt", "[LSoftWheels$Doubt;", true)
  | 6 => ("SoftWheels$Land", "doubts", "Ljava/util/ArrayList;", true)
  | 7 => ("SoftWheels$Land", "ways", "[LSoftWheels$Way;", true)
  | 8 => ("SoftWheels$Land", "need", "I", false)
  | 9 => ("SoftWheels$Land", "slip", "I", false)
  | _ => ("SoftWheels$Land", "cost", "I", false)
def tyX14 : Nat → FieldType := fun k => match k with
  | 0 => .object "SoftWheels$Book"
  | 1 => .int
  | 2 => .int
  | 3 => .array .int
  | 4 => .array .int
  | 5 => .array (.object "SoftWheels$Doubt")
  | 6 => .object "java/util/ArrayList"
  | 7 => .array (.object "SoftWheels$Way")
  | 8 => .int
  | 9 => .int
  | _ => .int
abbrev wsX140 : List Cond := u_ws RX14 TX14 11
theorem nmX14 : ∀ a, a < 11 → ∀ b, b < 11 → a ≠ b → (TX14 a).2.1 ≠ (TX14 b).2.1 := by decide +kernel
theorem tyX14_ok : ∀ k, k < 11 → parseFieldDescriptor (TX14 k).2.2.1 = some (tyX14 k) := by decide +kernel
abbrev cX14_init : ByteArray := prog_11_method_1_code
def yX14_init : MethodName := ⟨RX14, "<init>", "(LSoftWheels$Book;II)V"⟩
def dkwX14_init_2 : List UInt8 := [29, 104, 188, 10, 181, 0, 43, 42, 28, 29, 104, 189, 0, 46, 181, 0, 48, 177]
abbrev dktX14_init_2 : List UInt8 := dkwX14_init_2 ++ []
def dkwX14_init_1 : List UInt8 := [181, 0, 28, 42, 28, 181, 0, 32, 42, 29, 181, 0, 36, 42, 28, 29, 104, 188, 10, 181, 0, 39, 42, 28]
abbrev dktX14_init_1 : List UInt8 := dkwX14_init_1 ++ dktX14_init_2
def dkwX14_init_0 : List UInt8 := [42, 183, 0, 3, 42, 187, 0, 9, 89, 183, 0, 11, 181, 0, 12, 42, 184, 0, 18, 181, 0, 24, 42, 43]
abbrev dktX14_init_0 : List UInt8 := dkwX14_init_0 ++ dktX14_init_1
theorem dksX14_init_0 : cX14_init.data.toList.drop 0 = dktX14_init_0 := by decide +kernel
theorem dksX14_init_1 : cX14_init.data.toList.drop 24 = dktX14_init_1 := dk_seg dksX14_init_0 24 rfl rfl
theorem dksX14_init_2 : cX14_init.data.toList.drop 48 = dktX14_init_2 := dk_seg dksX14_init_1 24 rfl rfl
theorem dX14_init_0 : decode cX14_init 0 = .ok (.aload_n 0, 1) := dk_42 (dk_at dksX14_init_0 0 rfl rfl)
theorem dX14_init_1 : decode cX14_init 1 = .ok (.invokespecial 3, 3) := dk_183 0 3 (dk_at dksX14_init_0 1 rfl rfl)
theorem dX14_init_4 : decode cX14_init 4 = .ok (.aload_n 0, 1) := dk_42 (dk_at dksX14_init_0 4 rfl rfl)
theorem dX14_init_5 : decode cX14_init 5 = .ok (.new 9, 3) := dk_187 0 9 (dk_at dksX14_init_0 5 rfl rfl)
theorem dX14_init_8 : decode cX14_init 8 = .ok (.dup, 1) := dk_89 (dk_at dksX14_init_0 8 rfl rfl)
theorem dX14_init_9 : decode cX14_init 9 = .ok (.invokespecial 11, 3) := dk_183 0 11 (dk_at dksX14_init_0 9 rfl rfl)
theorem dX14_init_12 : decode cX14_init 12 = .ok (.putfield 12, 3) := dk_181 0 12 (dk_at dksX14_init_0 12 rfl rfl)
theorem dX14_init_15 : decode cX14_init 15 = .ok (.aload_n 0, 1) := dk_42 (dk_at dksX14_init_0 15 rfl rfl)
theorem dX14_init_16 : decode cX14_init 16 = .ok (.invokestatic 18, 3) := dk_184 0 18 (dk_at dksX14_init_0 16 rfl rfl)
theorem dX14_init_19 : decode cX14_init 19 = .ok (.putfield 24, 3) := dk_181 0 24 (dk_at dksX14_init_0 19 rfl rfl)
theorem dX14_init_22 : decode cX14_init 22 = .ok (.aload_n 0, 1) := dk_42 (dk_at dksX14_init_0 22 rfl rfl)
theorem dX14_init_23 : decode cX14_init 23 = .ok (.aload_n 1, 1) := dk_43 (dk_at dksX14_init_0 23 rfl rfl)
theorem dX14_init_24 : decode cX14_init 24 = .ok (.putfield 28, 3) := dk_181 0 28 (dk_at dksX14_init_1 0 rfl rfl)
theorem dX14_init_27 : decode cX14_init 27 = .ok (.aload_n 0, 1) := dk_42 (dk_at dksX14_init_1 3 rfl rfl)
theorem dX14_init_28 : decode cX14_init 28 = .ok (.iload_n 2, 1) := dk_28 (dk_at dksX14_init_1 4 rfl rfl)
theorem dX14_init_29 : decode cX14_init 29 = .ok (.putfield 32, 3) := dk_181 0 32 (dk_at dksX14_init_1 5 rfl rfl)
theorem dX14_init_32 : decode cX14_init 32 = .ok (.aload_n 0, 1) := dk_42 (dk_at dksX14_init_1 8 rfl rfl)
theorem dX14_init_33 : decode cX14_init 33 = .ok (.iload_n 3, 1) := dk_29 (dk_at dksX14_init_1 9 rfl rfl)
theorem dX14_init_34 : decode cX14_init 34 = .ok (.putfield 36, 3) := dk_181 0 36 (dk_at dksX14_init_1 10 rfl rfl)
theorem dX14_init_37 : decode cX14_init 37 = .ok (.aload_n 0, 1) := dk_42 (dk_at dksX14_init_1 13 rfl rfl)
theorem dX14_init_38 : decode cX14_init 38 = .ok (.iload_n 2, 1) := dk_28 (dk_at dksX14_init_1 14 rfl rfl)
theorem dX14_init_39 : decode cX14_init 39 = .ok (.iload_n 3, 1) := dk_29 (dk_at dksX14_init_1 15 rfl rfl)
theorem dX14_init_40 : decode cX14_init 40 = .ok (.imul, 1) := dk_104 (dk_at dksX14_init_1 16 rfl rfl)
theorem dX14_init_41 : decode cX14_init 41 = .ok (.newarray .int, 2) := dk_188_10 (dk_at dksX14_init_1 17 rfl rfl)
theorem dX14_init_43 : decode cX14_init 43 = .ok (.putfield 39, 3) := dk_181 0 39 (dk_at dksX14_init_1 19 rfl rfl)
theorem dX14_init_46 : decode cX14_init 46 = .ok (.aload_n 0, 1) := dk_42 (dk_at dksX14_init_1 22 rfl rfl)
theorem dX14_init_47 : decode cX14_init 47 = .ok (.iload_n 2, 1) := dk_28 (dk_at dksX14_init_1 23 rfl rfl)
theorem dX14_init_48 : decode cX14_init 48 = .ok (.iload_n 3, 1) := dk_29 (dk_at dksX14_init_2 0 rfl rfl)
theorem dX14_init_49 : decode cX14_init 49 = .ok (.imul, 1) := dk_104 (dk_at dksX14_init_2 1 rfl rfl)
theorem dX14_init_50 : decode cX14_init 50 = .ok (.newarray .int, 2) := dk_188_10 (dk_at dksX14_init_2 2 rfl rfl)
theorem dX14_init_52 : decode cX14_init 52 = .ok (.putfield 43, 3) := dk_181 0 43 (dk_at dksX14_init_2 4 rfl rfl)
theorem dX14_init_55 : decode cX14_init 55 = .ok (.aload_n 0, 1) := dk_42 (dk_at dksX14_init_2 7 rfl rfl)
theorem dX14_init_56 : decode cX14_init 56 = .ok (.iload_n 2, 1) := dk_28 (dk_at dksX14_init_2 8 rfl rfl)
theorem dX14_init_57 : decode cX14_init 57 = .ok (.iload_n 3, 1) := dk_29 (dk_at dksX14_init_2 9 rfl rfl)
theorem dX14_init_58 : decode cX14_init 58 = .ok (.imul, 1) := dk_104 (dk_at dksX14_init_2 10 rfl rfl)
theorem dX14_init_59 : decode cX14_init 59 = .ok (.anewarray 46, 3) := dk_189 0 46 (dk_at dksX14_init_2 11 rfl rfl)
theorem dX14_init_62 : decode cX14_init 62 = .ok (.putfield 48, 3) := dk_181 0 48 (dk_at dksX14_init_2 14 rfl rfl)
theorem dX14_init_65 : decode cX14_init 65 = .ok (.return_, 1) := dk_177 (dk_at dksX14_init_2 17 rfl rfl)
abbrev cX14_cells : ByteArray := prog_11_method_2_code
def yX14_cells : MethodName := ⟨RX14, "cells", "()I"⟩
def dkwX14_cells_0 : List UInt8 := [42, 180, 0, 32, 42, 180, 0, 36, 104, 172]
abbrev dktX14_cells_0 : List UInt8 := dkwX14_cells_0 ++ []
theorem dksX14_cells_0 : cX14_cells.data.toList.drop 0 = dktX14_cells_0 := by decide +kernel
theorem dX14_cells_0 : decode cX14_cells 0 = .ok (.aload_n 0, 1) := dk_42 (dk_at dksX14_cells_0 0 rfl rfl)
theorem dX14_cells_1 : decode cX14_cells 1 = .ok (.getfield 32, 3) := dk_180 0 32 (dk_at dksX14_cells_0 1 rfl rfl)
theorem dX14_cells_4 : decode cX14_cells 4 = .ok (.aload_n 0, 1) := dk_42 (dk_at dksX14_cells_0 4 rfl rfl)
theorem dX14_cells_5 : decode cX14_cells 5 = .ok (.getfield 36, 3) := dk_180 0 36 (dk_at dksX14_cells_0 5 rfl rfl)
theorem dX14_cells_8 : decode cX14_cells 8 = .ok (.imul, 1) := dk_104 (dk_at dksX14_cells_0 8 rfl rfl)
theorem dX14_cells_9 : decode cX14_cells 9 = .ok (.ireturn, 1) := dk_172 (dk_at dksX14_cells_0 9 rfl rfl)
abbrev cX14_why : ByteArray := prog_11_method_7_code
def yX14_why : MethodName := ⟨RX14, "why", "(ILSoftWheels$Way;II)I"⟩
def dkwX14_why_9 : List UInt8 := [21, 10, 96, 16, 100, 21, 11, 100, 108, 4, 96, 181, 0, 86, 3, 172, 132, 11, 1, 167, 255, 182, 7, 172]
abbrev dktX14_why_9 : List UInt8 := dkwX14_why_9 ++ []
def dkwX14_why_8 : List UInt8 := [21, 10, 162, 0, 6, 167, 0, 35, 42, 21, 10, 181, 0, 80, 42, 21, 11, 181, 0, 83, 42, 17, 3, 232]
abbrev dktX14_why_8 : List UInt8 := dkwX14_why_8 ++ dktX14_why_9
def dkwX14_why_7 : List UInt8 := [21, 8, 42, 180, 0, 28, 180, 0, 133, 21, 4, 100, 104, 25, 7, 180, 0, 136, 21, 11, 182, 0, 112, 104]
abbrev dktX14_why_7 : List UInt8 := dkwX14_why_7 ++ dktX14_why_8
def dkwX14_why_6 : List UInt8 := [42, 180, 0, 28, 180, 0, 127, 104, 96, 184, 0, 130, 54, 10, 3, 54, 11, 21, 11, 16, 90, 163, 0, 73]
abbrev dktX14_why_6 : List UInt8 := dkwX14_why_6 ++ dktX14_why_7
def dkwX14_why_5 : List UInt8 := [3, 42, 180, 0, 28, 180, 0, 120, 21, 6, 21, 9, 96, 104, 16, 10, 184, 0, 123, 21, 4, 21, 8, 104]
abbrev dktX14_why_5 : List UInt8 := dkwX14_why_5 ++ dktX14_why_6
def dkwX14_why_4 : List UInt8 := [180, 0, 108, 21, 8, 182, 0, 112, 54, 9, 21, 9, 42, 180, 0, 28, 180, 0, 117, 164, 0, 5, 6, 172]
abbrev dktX14_why_4 : List UInt8 := dkwX14_why_4 ++ dktX14_why_5
def dkwX14_why_3 : List UInt8 := [180, 0, 100, 29, 182, 0, 73, 192, 0, 103, 58, 7, 42, 180, 0, 28, 182, 0, 105, 54, 8, 25, 7]
abbrev dktX14_why_3 : List UInt8 := dkwX14_why_3 ++ dktX14_why_4
def dkwX14_why_2 : List UInt8 := [54, 6, 21, 6, 184, 0, 89, 42, 180, 0, 28, 180, 0, 95, 164, 0, 5, 5, 172, 42, 180, 0, 28]
abbrev dktX14_why_2 : List UInt8 := dkwX14_why_2 ++ dktX14_why_3
def dkwX14_why_1 : List UInt8 := [54, 5, 21, 5, 2, 160, 0, 5, 4, 172, 42, 180, 0, 39, 21, 5, 46, 42, 180, 0, 39, 27, 46, 100]
abbrev dktX14_why_1 : List UInt8 := dkwX14_why_1 ++ dktX14_why_2
def dkwX14_why_0 : List UInt8 := [42, 16, 254, 181, 0, 80, 42, 16, 254, 181, 0, 83, 42, 16, 254, 181, 0, 86, 42, 27, 44, 182, 0, 65]
abbrev dktX14_why_0 : List UInt8 := dkwX14_why_0 ++ dktX14_why_1
theorem dksX14_why_0 : cX14_why.data.toList.drop 0 = dktX14_why_0 := by decide +kernel
theorem dksX14_why_1 : cX14_why.data.toList.drop 24 = dktX14_why_1 := dk_seg dksX14_why_0 24 rfl rfl
theorem dksX14_why_2 : cX14_why.data.toList.drop 48 = dktX14_why_2 := dk_seg dksX14_why_1 24 rfl rfl
theorem dksX14_why_3 : cX14_why.data.toList.drop 71 = dktX14_why_3 := dk_seg dksX14_why_2 23 rfl rfl
theorem dksX14_why_4 : cX14_why.data.toList.drop 94 = dktX14_why_4 := dk_seg dksX14_why_3 23 rfl rfl
theorem dksX14_why_5 : cX14_why.data.toList.drop 118 = dktX14_why_5 := dk_seg dksX14_why_4 24 rfl rfl
theorem dksX14_why_6 : cX14_why.data.toList.drop 142 = dktX14_why_6 := dk_seg dksX14_why_5 24 rfl rfl
theorem dksX14_why_7 : cX14_why.data.toList.drop 166 = dktX14_why_7 := dk_seg dksX14_why_6 24 rfl rfl
theorem dksX14_why_8 : cX14_why.data.toList.drop 190 = dktX14_why_8 := dk_seg dksX14_why_7 24 rfl rfl
theorem dksX14_why_9 : cX14_why.data.toList.drop 214 = dktX14_why_9 := dk_seg dksX14_why_8 24 rfl rfl
theorem dX14_why_0 : decode cX14_why 0 = .ok (.aload_n 0, 1) := dk_42 (dk_at dksX14_why_0 0 rfl rfl)
theorem dX14_why_1 : decode cX14_why 1 = .ok (.bipush (-2), 2) := dk_16 254 (dk_at dksX14_why_0 1 rfl rfl)
theorem dX14_why_3 : decode cX14_why 3 = .ok (.putfield 80, 3) := dk_181 0 80 (dk_at dksX14_why_0 3 rfl rfl)
theorem dX14_why_6 : decode cX14_why 6 = .ok (.aload_n 0, 1) := dk_42 (dk_at dksX14_why_0 6 rfl rfl)
theorem dX14_why_7 : decode cX14_why 7 = .ok (.bipush (-2), 2) := dk_16 254 (dk_at dksX14_why_0 7 rfl rfl)
theorem dX14_why_9 : decode cX14_why 9 = .ok (.putfield 83, 3) := dk_181 0 83 (dk_at dksX14_why_0 9 rfl rfl)
theorem dX14_why_12 : decode cX14_why 12 = .ok (.aload_n 0, 1) := dk_42 (dk_at dksX14_why_0 12 rfl rfl)
theorem dX14_why_13 : decode cX14_why 13 = .ok (.bipush (-2), 2) := dk_16 254 (dk_at dksX14_why_0 13 rfl rfl)
theorem dX14_why_15 : decode cX14_why 15 = .ok (.putfield 86, 3) := dk_181 0 86 (dk_at dksX14_why_0 15 rfl rfl)
theorem dX14_why_18 : decode cX14_why 18 = .ok (.aload_n 0, 1) := dk_42 (dk_at dksX14_why_0 18 rfl rfl)
theorem dX14_why_19 : decode cX14_why 19 = .ok (.iload_n 1, 1) := dk_27 (dk_at dksX14_why_0 19 rfl rfl)
theorem dX14_why_20 : decode cX14_why 20 = .ok (.aload_n 2, 1) := dk_44 (dk_at dksX14_why_0 20 rfl rfl)
theorem dX14_why_21 : decode cX14_why 21 = .ok (.invokevirtual 65, 3) := dk_182 0 65 (dk_at dksX14_why_0 21 rfl rfl)
theorem dX14_why_24 : decode cX14_why 24 = .ok (.istore 5, 2) := dk_54 5 (dk_at dksX14_why_1 0 rfl rfl)
theorem dX14_why_26 : decode cX14_why 26 = .ok (.iload 5, 2) := dk_21 5 (dk_at dksX14_why_1 2 rfl rfl)
theorem dX14_why_28 : decode cX14_why 28 = .ok (.iconst (-1), 1) := dk_2 (dk_at dksX14_why_1 4 rfl rfl)
theorem dX14_why_29 : decode cX14_why 29 = .ok (.if_icmp .ne 5, 3) := dk_160 0 5 (dk_at dksX14_why_1 5 rfl rfl)
theorem dX14_why_32 : decode cX14_why 32 = .ok (.iconst 1, 1) := dk_4 (dk_at dksX14_why_1 8 rfl rfl)
theorem dX14_why_33 : decode cX14_why 33 = .ok (.ireturn, 1) := dk_172 (dk_at dksX14_why_1 9 rfl rfl)
theorem dX14_why_34 : decode cX14_why 34 = .ok (.aload_n 0, 1) := dk_42 (dk_at dksX14_why_1 10 rfl rfl)
theorem dX14_why_35 : decode cX14_why 35 = .ok (.getfield 39, 3) := dk_180 0 39 (dk_at dksX14_why_1 11 rfl rfl)
theorem dX14_why_38 : decode cX14_why 38 = .ok (.iload 5, 2) := dk_21 5 (dk_at dksX14_why_1 14 rfl rfl)
theorem dX14_why_40 : decode cX14_why 40 = .ok (.iaload, 1) := dk_46 (dk_at dksX14_why_1 16 rfl rfl)
theorem dX14_why_41 : decode cX14_why 41 = .ok (.aload_n 0, 1) := dk_42 (dk_at dksX14_why_1 17 rfl rfl)
theorem dX14_why_42 : decode cX14_why 42 = .ok (.getfield 39, 3) := dk_180 0 39 (dk_at dksX14_why_1 18 rfl rfl)
theorem dX14_why_45 : decode cX14_why 45 = .ok (.iload_n 1, 1) := dk_27 (dk_at dksX14_why_1 21 rfl rfl)
theorem dX14_why_46 : decode cX14_why 46 = .ok (.iaload, 1) := dk_46 (dk_at dksX14_why_1 22 rfl rfl)
theorem dX14_why_47 : decode cX14_why 47 = .ok (.isub, 1) := dk_100 (dk_at dksX14_why_1 23 rfl rfl)
theorem dX14_why_48 : decode cX14_why 48 = .ok (.istore 6, 2) := dk_54 6 (dk_at dksX14_why_2 0 rfl rfl)
theorem dX14_why_50 : decode cX14_why 50 = .ok (.iload 6, 2) := dk_21 6 (dk_at dksX14_why_2 2 rfl rfl)
theorem dX14_why_52 : decode cX14_why 52 = .ok (.invokestatic 89, 3) := dk_184 0 89 (dk_at dksX14_why_2 4 rfl rfl)
theorem dX14_why_55 : decode cX14_why 55 = .ok (.aload_n 0, 1) := dk_42 (dk_at dksX14_why_2 7 rfl rfl)
theorem dX14_why_56 : decode cX14_why 56 = .ok (.getfield 28, 3) := dk_180 0 28 (dk_at dksX14_why_2 8 rfl rfl)
theorem dX14_why_59 : decode cX14_why 59 = .ok (.getfield 95, 3) := dk_180 0 95 (dk_at dksX14_why_2 11 rfl rfl)
theorem dX14_why_62 : decode cX14_why 62 = .ok (.if_icmp .le 5, 3) := dk_164 0 5 (dk_at dksX14_why_2 14 rfl rfl)
theorem dX14_why_65 : decode cX14_why 65 = .ok (.iconst 2, 1) := dk_5 (dk_at dksX14_why_2 17 rfl rfl)
theorem dX14_why_66 : decode cX14_why 66 = .ok (.ireturn, 1) := dk_172 (dk_at dksX14_why_2 18 rfl rfl)
theorem dX14_why_67 : decode cX14_why 67 = .ok (.aload_n 0, 1) := dk_42 (dk_at dksX14_why_2 19 rfl rfl)
theorem dX14_why_68 : decode cX14_why 68 = .ok (.getfield 28, 3) := dk_180 0 28 (dk_at dksX14_why_2 20 rfl rfl)
theorem dX14_why_71 : decode cX14_why 71 = .ok (.getfield 100, 3) := dk_180 0 100 (dk_at dksX14_why_3 0 rfl rfl)
theorem dX14_why_74 : decode cX14_why 74 = .ok (.iload_n 3, 1) := dk_29 (dk_at dksX14_why_3 3 rfl rfl)
theorem dX14_why_75 : decode cX14_why 75 = .ok (.invokevirtual 73, 3) := dk_182 0 73 (dk_at dksX14_why_3 4 rfl rfl)
theorem dX14_why_78 : decode cX14_why 78 = .ok (.checkcast 103, 3) := dk_192 0 103 (dk_at dksX14_why_3 7 rfl rfl)
theorem dX14_why_81 : decode cX14_why 81 = .ok (.astore 7, 2) := dk_58 7 (dk_at dksX14_why_3 10 rfl rfl)
theorem dX14_why_83 : decode cX14_why 83 = .ok (.aload_n 0, 1) := dk_42 (dk_at dksX14_why_3 12 rfl rfl)
theorem dX14_why_84 : decode cX14_why 84 = .ok (.getfield 28, 3) := dk_180 0 28 (dk_at dksX14_why_3 13 rfl rfl)
theorem dX14_why_87 : decode cX14_why 87 = .ok (.invokevirtual 105, 3) := dk_182 0 105 (dk_at dksX14_why_3 16 rfl rfl)
theorem dX14_why_90 : decode cX14_why 90 = .ok (.istore 8, 2) := dk_54 8 (dk_at dksX14_why_3 19 rfl rfl)
theorem dX14_why_92 : decode cX14_why 92 = .ok (.aload 7, 2) := dk_25 7 (dk_at dksX14_why_3 21 rfl rfl)
theorem dX14_why_94 : decode cX14_why 94 = .ok (.getfield 108, 3) := dk_180 0 108 (dk_at dksX14_why_4 0 rfl rfl)
theorem dX14_why_97 : decode cX14_why 97 = .ok (.iload 8, 2) := dk_21 8 (dk_at dksX14_why_4 3 rfl rfl)
theorem dX14_why_99 : decode cX14_why 99 = .ok (.invokevirtual 112, 3) := dk_182 0 112 (dk_at dksX14_why_4 5 rfl rfl)
theorem dX14_why_102 : decode cX14_why 102 = .ok (.istore 9, 2) := dk_54 9 (dk_at dksX14_why_4 8 rfl rfl)
theorem dX14_why_104 : decode cX14_why 104 = .ok (.iload 9, 2) := dk_21 9 (dk_at dksX14_why_4 10 rfl rfl)
theorem dX14_why_106 : decode cX14_why 106 = .ok (.aload_n 0, 1) := dk_42 (dk_at dksX14_why_4 12 rfl rfl)
theorem dX14_why_107 : decode cX14_why 107 = .ok (.getfield 28, 3) := dk_180 0 28 (dk_at dksX14_why_4 13 rfl rfl)
theorem dX14_why_110 : decode cX14_why 110 = .ok (.getfield 117, 3) := dk_180 0 117 (dk_at dksX14_why_4 16 rfl rfl)
theorem dX14_why_113 : decode cX14_why 113 = .ok (.if_icmp .le 5, 3) := dk_164 0 5 (dk_at dksX14_why_4 19 rfl rfl)
theorem dX14_why_116 : decode cX14_why 116 = .ok (.iconst 3, 1) := dk_6 (dk_at dksX14_why_4 22 rfl rfl)
theorem dX14_why_117 : decode cX14_why 117 = .ok (.ireturn, 1) := dk_172 (dk_at dksX14_why_4 23 rfl rfl)
theorem dX14_why_118 : decode cX14_why 118 = .ok (.iconst 0, 1) := dk_3 (dk_at dksX14_why_5 0 rfl rfl)
theorem dX14_why_119 : decode cX14_why 119 = .ok (.aload_n 0, 1) := dk_42 (dk_at dksX14_why_5 1 rfl rfl)
theorem dX14_why_120 : decode cX14_why 120 = .ok (.getfield 28, 3) := dk_180 0 28 (dk_at dksX14_why_5 2 rfl rfl)
theorem dX14_why_123 : decode cX14_why 123 = .ok (.getfield 120, 3) := dk_180 0 120 (dk_at dksX14_why_5 5 rfl rfl)
theorem dX14_why_126 : decode cX14_why 126 = .ok (.iload 6, 2) := dk_21 6 (dk_at dksX14_why_5 8 rfl rfl)
theorem dX14_why_128 : decode cX14_why 128 = .ok (.iload 9, 2) := dk_21 9 (dk_at dksX14_why_5 10 rfl rfl)
theorem dX14_why_130 : decode cX14_why 130 = .ok (.iadd, 1) := dk_96 (dk_at dksX14_why_5 12 rfl rfl)
theorem dX14_why_131 : decode cX14_why 131 = .ok (.imul, 1) := dk_104 (dk_at dksX14_why_5 13 rfl rfl)
theorem dX14_why_132 : decode cX14_why 132 = .ok (.bipush 10, 2) := dk_16 10 (dk_at dksX14_why_5 14 rfl rfl)
theorem dX14_why_134 : decode cX14_why 134 = .ok (.invokestatic 123, 3) := dk_184 0 123 (dk_at dksX14_why_5 16 rfl rfl)
theorem dX14_why_137 : decode cX14_why 137 = .ok (.iload 4, 2) := dk_21 4 (dk_at dksX14_why_5 19 rfl rfl)
theorem dX14_why_139 : decode cX14_why 139 = .ok (.iload 8, 2) := dk_21 8 (dk_at dksX14_why_5 21 rfl rfl)
theorem dX14_why_141 : decode cX14_why 141 = .ok (.imul, 1) := dk_104 (dk_at dksX14_why_5 23 rfl rfl)
theorem dX14_why_142 : decode cX14_why 142 = .ok (.aload_n 0, 1) := dk_42 (dk_at dksX14_why_6 0 rfl rfl)
theorem dX14_why_143 : decode cX14_why 143 = .ok (.getfield 28, 3) := dk_180 0 28 (dk_at dksX14_why_6 1 rfl rfl)
theorem dX14_why_146 : decode cX14_why 146 = .ok (.getfield 127, 3) := dk_180 0 127 (dk_at dksX14_why_6 4 rfl rfl)
theorem dX14_why_149 : decode cX14_why 149 = .ok (.imul, 1) := dk_104 (dk_at dksX14_why_6 7 rfl rfl)
theorem dX14_why_150 : decode cX14_why 150 = .ok (.iadd, 1) := dk_96 (dk_at dksX14_why_6 8 rfl rfl)
theorem dX14_why_151 : decode cX14_why 151 = .ok (.invokestatic 130, 3) := dk_184 0 130 (dk_at dksX14_why_6 9 rfl rfl)
theorem dX14_why_154 : decode cX14_why 154 = .ok (.istore 10, 2) := dk_54 10 (dk_at dksX14_why_6 12 rfl rfl)
theorem dX14_why_156 : decode cX14_why 156 = .ok (.iconst 0, 1) := dk_3 (dk_at dksX14_why_6 14 rfl rfl)
theorem dX14_why_157 : decode cX14_why 157 = .ok (.istore 11, 2) := dk_54 11 (dk_at dksX14_why_6 15 rfl rfl)
theorem dX14_why_159 : decode cX14_why 159 = .ok (.iload 11, 2) := dk_21 11 (dk_at dksX14_why_6 17 rfl rfl)
theorem dX14_why_161 : decode cX14_why 161 = .ok (.bipush 90, 2) := dk_16 90 (dk_at dksX14_why_6 19 rfl rfl)
theorem dX14_why_163 : decode cX14_why 163 = .ok (.if_icmp .gt 73, 3) := dk_163 0 73 (dk_at dksX14_why_6 21 rfl rfl)
theorem dX14_why_166 : decode cX14_why 166 = .ok (.iload 8, 2) := dk_21 8 (dk_at dksX14_why_7 0 rfl rfl)
theorem dX14_why_168 : decode cX14_why 168 = .ok (.aload_n 0, 1) := dk_42 (dk_at dksX14_why_7 2 rfl rfl)
theorem dX14_why_169 : decode cX14_why 169 = .ok (.getfield 28, 3) := dk_180 0 28 (dk_at dksX14_why_7 3 rfl rfl)
theorem dX14_why_172 : decode cX14_why 172 = .ok (.getfield 133, 3) := dk_180 0 133 (dk_at dksX14_why_7 6 rfl rfl)
theorem dX14_why_175 : decode cX14_why 175 = .ok (.iload 4, 2) := dk_21 4 (dk_at dksX14_why_7 9 rfl rfl)
theorem dX14_why_177 : decode cX14_why 177 = .ok (.isub, 1) := dk_100 (dk_at dksX14_why_7 11 rfl rfl)
theorem dX14_why_178 : decode cX14_why 178 = .ok (.imul, 1) := dk_104 (dk_at dksX14_why_7 12 rfl rfl)
theorem dX14_why_179 : decode cX14_why 179 = .ok (.aload 7, 2) := dk_25 7 (dk_at dksX14_why_7 13 rfl rfl)
theorem dX14_why_181 : decode cX14_why 181 = .ok (.getfield 136, 3) := dk_180 0 136 (dk_at dksX14_why_7 15 rfl rfl)
theorem dX14_why_184 : decode cX14_why 184 = .ok (.iload 11, 2) := dk_21 11 (dk_at dksX14_why_7 18 rfl rfl)
theorem dX14_why_186 : decode cX14_why 186 = .ok (.invokevirtual 112, 3) := dk_182 0 112 (dk_at dksX14_why_7 20 rfl rfl)
theorem dX14_why_189 : decode cX14_why 189 = .ok (.imul, 1) := dk_104 (dk_at dksX14_why_7 23 rfl rfl)
theorem dX14_why_190 : decode cX14_why 190 = .ok (.iload 10, 2) := dk_21 10 (dk_at dksX14_why_8 0 rfl rfl)
theorem dX14_why_192 : decode cX14_why 192 = .ok (.if_icmp .ge 6, 3) := dk_162 0 6 (dk_at dksX14_why_8 2 rfl rfl)
theorem dX14_why_195 : decode cX14_why 195 = .ok (.goto 35, 3) := dk_167 0 35 (dk_at dksX14_why_8 5 rfl rfl)
theorem dX14_why_198 : decode cX14_why 198 = .ok (.aload_n 0, 1) := dk_42 (dk_at dksX14_why_8 8 rfl rfl)
theorem dX14_why_199 : decode cX14_why 199 = .ok (.iload 10, 2) := dk_21 10 (dk_at dksX14_why_8 9 rfl rfl)
theorem dX14_why_201 : decode cX14_why 201 = .ok (.putfield 80, 3) := dk_181 0 80 (dk_at dksX14_why_8 11 rfl rfl)
theorem dX14_why_204 : decode cX14_why 204 = .ok (.aload_n 0, 1) := dk_42 (dk_at dksX14_why_8 14 rfl rfl)
theorem dX14_why_205 : decode cX14_why 205 = .ok (.iload 11, 2) := dk_21 11 (dk_at dksX14_why_8 15 rfl rfl)
theorem dX14_why_207 : decode cX14_why 207 = .ok (.putfield 83, 3) := dk_181 0 83 (dk_at dksX14_why_8 17 rfl rfl)
theorem dX14_why_210 : decode cX14_why 210 = .ok (.aload_n 0, 1) := dk_42 (dk_at dksX14_why_8 20 rfl rfl)
theorem dX14_why_211 : decode cX14_why 211 = .ok (.sipush 1000, 3) := dk_17 3 232 (dk_at dksX14_why_8 21 rfl rfl)
theorem dX14_why_214 : decode cX14_why 214 = .ok (.iload 10, 2) := dk_21 10 (dk_at dksX14_why_9 0 rfl rfl)
theorem dX14_why_216 : decode cX14_why 216 = .ok (.iadd, 1) := dk_96 (dk_at dksX14_why_9 2 rfl rfl)
theorem dX14_why_217 : decode cX14_why 217 = .ok (.bipush 100, 2) := dk_16 100 (dk_at dksX14_why_9 3 rfl rfl)
theorem dX14_why_219 : decode cX14_why 219 = .ok (.iload 11, 2) := dk_21 11 (dk_at dksX14_why_9 5 rfl rfl)
theorem dX14_why_221 : decode cX14_why 221 = .ok (.isub, 1) := dk_100 (dk_at dksX14_why_9 7 rfl rfl)
theorem dX14_why_222 : decode cX14_why 222 = .ok (.idiv, 1) := dk_108 (dk_at dksX14_why_9 8 rfl rfl)
theorem dX14_why_223 : decode cX14_why 223 = .ok (.iconst 1, 1) := dk_4 (dk_at dksX14_why_9 9 rfl rfl)
theorem dX14_why_224 : decode cX14_why 224 = .ok (.iadd, 1) := dk_96 (dk_at dksX14_why_9 10 rfl rfl)
theorem dX14_why_225 : decode cX14_why 225 = .ok (.putfield 86, 3) := dk_181 0 86 (dk_at dksX14_why_9 11 rfl rfl)
theorem dX14_why_228 : decode cX14_why 228 = .ok (.iconst 0, 1) := dk_3 (dk_at dksX14_why_9 14 rfl rfl)
theorem dX14_why_229 : decode cX14_why 229 = .ok (.ireturn, 1) := dk_172 (dk_at dksX14_why_9 15 rfl rfl)
theorem dX14_why_230 : decode cX14_why 230 = .ok (.iinc 11 1, 3) := dk_132 11 1 (dk_at dksX14_why_9 16 rfl rfl)
theorem dX14_why_233 : decode cX14_why 233 = .ok (.goto (-74), 3) := dk_167 255 182 (dk_at dksX14_why_9 19 rfl rfl)
theorem dX14_why_236 : decode cX14_why 236 = .ok (.iconst 4, 1) := dk_7 (dk_at dksX14_why_9 22 rfl rfl)
theorem dX14_why_237 : decode cX14_why 237 = .ok (.ireturn, 1) := dk_172 (dk_at dksX14_why_9 23 rfl rfl)
abbrev cX14_beside : ByteArray := prog_11_method_3_code
def yX14_beside : MethodName := ⟨RX14, "beside", "(ILSoftWheels$Way;)I"⟩
def dkwX14_beside_2 : List UInt8 := [100, 184, 0, 58, 153, 0, 15, 21, 4, 42, 180, 0, 32, 104, 29, 96, 167, 0, 4, 2, 172]
abbrev dktX14_beside_2 : List UInt8 := dkwX14_beside_2 ++ []
def dkwX14_beside_1 : List UInt8 := [54, 4, 29, 3, 42, 180, 0, 32, 4, 100, 184, 0, 58, 153, 0, 30, 21, 4, 3, 42, 180, 0, 36, 4]
abbrev dktX14_beside_1 : List UInt8 := dkwX14_beside_1 ++ dktX14_beside_2
def dkwX14_beside_0 : List UInt8 := [27, 42, 180, 0, 32, 112, 44, 180, 0, 52, 96, 62, 27, 42, 180, 0, 32, 108, 44, 180, 0, 55, 96]
abbrev dktX14_beside_0 : List UInt8 := dkwX14_beside_0 ++ dktX14_beside_1
theorem dksX14_beside_0 : cX14_beside.data.toList.drop 0 = dktX14_beside_0 := by decide +kernel
theorem dksX14_beside_1 : cX14_beside.data.toList.drop 23 = dktX14_beside_1 := dk_seg dksX14_beside_0 23 rfl rfl
theorem dksX14_beside_2 : cX14_beside.data.toList.drop 47 = dktX14_beside_2 := dk_seg dksX14_beside_1 24 rfl rfl
theorem dX14_beside_0 : decode cX14_beside 0 = .ok (.iload_n 1, 1) := dk_27 (dk_at dksX14_beside_0 0 rfl rfl)
theorem dX14_beside_1 : decode cX14_beside 1 = .ok (.aload_n 0, 1) := dk_42 (dk_at dksX14_beside_0 1 rfl rfl)
theorem dX14_beside_2 : decode cX14_beside 2 = .ok (.getfield 32, 3) := dk_180 0 32 (dk_at dksX14_beside_0 2 rfl rfl)
theorem dX14_beside_5 : decode cX14_beside 5 = .ok (.irem, 1) := dk_112 (dk_at dksX14_beside_0 5 rfl rfl)
theorem dX14_beside_6 : decode cX14_beside 6 = .ok (.aload_n 2, 1) := dk_44 (dk_at dksX14_beside_0 6 rfl rfl)
theorem dX14_beside_7 : decode cX14_beside 7 = .ok (.getfield 52, 3) := dk_180 0 52 (dk_at dksX14_beside_0 7 rfl rfl)
theorem dX14_beside_10 : decode cX14_beside 10 = .ok (.iadd, 1) := dk_96 (dk_at dksX14_beside_0 10 rfl rfl)
theorem dX14_beside_11 : decode cX14_beside 11 = .ok (.istore_n 3, 1) := dk_62 (dk_at dksX14_beside_0 11 rfl rfl)
theorem dX14_beside_12 : decode cX14_beside 12 = .ok (.iload_n 1, 1) := dk_27 (dk_at dksX14_beside_0 12 rfl rfl)
theorem dX14_beside_13 : decode cX14_beside 13 = .ok (.aload_n 0, 1) := dk_42 (dk_at dksX14_beside_0 13 rfl rfl)
theorem dX14_beside_14 : decode cX14_beside 14 = .ok (.getfield 32, 3) := dk_180 0 32 (dk_at dksX14_beside_0 14 rfl rfl)
theorem dX14_beside_17 : decode cX14_beside 17 = .ok (.idiv, 1) := dk_108 (dk_at dksX14_beside_0 17 rfl rfl)
theorem dX14_beside_18 : decode cX14_beside 18 = .ok (.aload_n 2, 1) := dk_44 (dk_at dksX14_beside_0 18 rfl rfl)
theorem dX14_beside_19 : decode cX14_beside 19 = .ok (.getfield 55, 3) := dk_180 0 55 (dk_at dksX14_beside_0 19 rfl rfl)
theorem dX14_beside_22 : decode cX14_beside 22 = .ok (.iadd, 1) := dk_96 (dk_at dksX14_beside_0 22 rfl rfl)
theorem dX14_beside_23 : decode cX14_beside 23 = .ok (.istore 4, 2) := dk_54 4 (dk_at dksX14_beside_1 0 rfl rfl)
theorem dX14_beside_25 : decode cX14_beside 25 = .ok (.iload_n 3, 1) := dk_29 (dk_at dksX14_beside_1 2 rfl rfl)
theorem dX14_beside_26 : decode cX14_beside 26 = .ok (.iconst 0, 1) := dk_3 (dk_at dksX14_beside_1 3 rfl rfl)
theorem dX14_beside_27 : decode cX14_beside 27 = .ok (.aload_n 0, 1) := dk_42 (dk_at dksX14_beside_1 4 rfl rfl)
theorem dX14_beside_28 : decode cX14_beside 28 = .ok (.getfield 32, 3) := dk_180 0 32 (dk_at dksX14_beside_1 5 rfl rfl)
theorem dX14_beside_31 : decode cX14_beside 31 = .ok (.iconst 1, 1) := dk_4 (dk_at dksX14_beside_1 8 rfl rfl)
theorem dX14_beside_32 : decode cX14_beside 32 = .ok (.isub, 1) := dk_100 (dk_at dksX14_beside_1 9 rfl rfl)
theorem dX14_beside_33 : decode cX14_beside 33 = .ok (.invokestatic 58, 3) := dk_184 0 58 (dk_at dksX14_beside_1 10 rfl rfl)
theorem dX14_beside_36 : decode cX14_beside 36 = .ok (.ifCond .eq 30, 3) := dk_153 0 30 (dk_at dksX14_beside_1 13 rfl rfl)
theorem dX14_beside_39 : decode cX14_beside 39 = .ok (.iload 4, 2) := dk_21 4 (dk_at dksX14_beside_1 16 rfl rfl)
theorem dX14_beside_41 : decode cX14_beside 41 = .ok (.iconst 0, 1) := dk_3 (dk_at dksX14_beside_1 18 rfl rfl)
theorem dX14_beside_42 : decode cX14_beside 42 = .ok (.aload_n 0, 1) := dk_42 (dk_at dksX14_beside_1 19 rfl rfl)
theorem dX14_beside_43 : decode cX14_beside 43 = .ok (.getfield 36, 3) := dk_180 0 36 (dk_at dksX14_beside_1 20 rfl rfl)
theorem dX14_beside_46 : decode cX14_beside 46 = .ok (.iconst 1, 1) := dk_4 (dk_at dksX14_beside_1 23 rfl rfl)
theorem dX14_beside_47 : decode cX14_beside 47 = .ok (.isub, 1) := dk_100 (dk_at dksX14_beside_2 0 rfl rfl)
theorem dX14_beside_48 : decode cX14_beside 48 = .ok (.invokestatic 58, 3) := dk_184 0 58 (dk_at dksX14_beside_2 1 rfl rfl)
theorem dX14_beside_51 : decode cX14_beside 51 = .ok (.ifCond .eq 15, 3) := dk_153 0 15 (dk_at dksX14_beside_2 4 rfl rfl)
theorem dX14_beside_54 : decode cX14_beside 54 = .ok (.iload 4, 2) := dk_21 4 (dk_at dksX14_beside_2 7 rfl rfl)
theorem dX14_beside_56 : decode cX14_beside 56 = .ok (.aload_n 0, 1) := dk_42 (dk_at dksX14_beside_2 9 rfl rfl)
theorem dX14_beside_57 : decode cX14_beside 57 = .ok (.getfield 32, 3) := dk_180 0 32 (dk_at dksX14_beside_2 10 rfl rfl)
theorem dX14_beside_60 : decode cX14_beside 60 = .ok (.imul, 1) := dk_104 (dk_at dksX14_beside_2 13 rfl rfl)
theorem dX14_beside_61 : decode cX14_beside 61 = .ok (.iload_n 3, 1) := dk_29 (dk_at dksX14_beside_2 14 rfl rfl)
theorem dX14_beside_62 : decode cX14_beside 62 = .ok (.iadd, 1) := dk_96 (dk_at dksX14_beside_2 15 rfl rfl)
theorem dX14_beside_63 : decode cX14_beside 63 = .ok (.goto 4, 3) := dk_167 0 4 (dk_at dksX14_beside_2 16 rfl rfl)
theorem dX14_beside_66 : decode cX14_beside 66 = .ok (.iconst (-1), 1) := dk_2 (dk_at dksX14_beside_2 19 rfl rfl)
theorem dX14_beside_67 : decode cX14_beside 67 = .ok (.ireturn, 1) := dk_172 (dk_at dksX14_beside_2 20 rfl rfl)
abbrev cX14_sees : ByteArray := prog_11_method_4_code
def yX14_sees : MethodName := ⟨RX14, "sees", "(I)I"⟩
def dkwX14_sees_4 : List UInt8 := [28, 172]
abbrev dktX14_sees_4 : List UInt8 := dkwX14_sees_4 ++ []
def dkwX14_sees_3 : List UInt8 := [198, 0, 18, 28, 4, 42, 180, 0, 48, 21, 7, 50, 180, 0, 62, 120, 128, 61, 132, 5, 1, 167, 255, 200]
abbrev dktX14_sees_3 : List UInt8 := dkwX14_sees_3 ++ dktX14_sees_4
def dkwX14_sees_2 : List UInt8 := [58, 6, 42, 27, 25, 6, 182, 0, 65, 54, 7, 21, 7, 2, 159, 0, 28, 42, 180, 0, 48, 21, 7, 50]
abbrev dktX14_sees_2 : List UInt8 := dkwX14_sees_2 ++ dktX14_sees_3
def dkwX14_sees_1 : List UInt8 := [61, 42, 180, 0, 24, 78, 45, 190, 54, 4, 3, 54, 5, 21, 5, 21, 4, 162, 0, 55, 45, 21, 5, 50]
abbrev dktX14_sees_1 : List UInt8 := dkwX14_sees_1 ++ dktX14_sees_2
def dkwX14_sees_0 : List UInt8 := [42, 180, 0, 48, 27, 50, 199, 0, 7, 3, 167, 0, 14, 4, 42, 180, 0, 48, 27, 50, 180, 0, 62, 120]
abbrev dktX14_sees_0 : List UInt8 := dkwX14_sees_0 ++ dktX14_sees_1
theorem dksX14_sees_0 : cX14_sees.data.toList.drop 0 = dktX14_sees_0 := by decide +kernel
theorem dksX14_sees_1 : cX14_sees.data.toList.drop 24 = dktX14_sees_1 := dk_seg dksX14_sees_0 24 rfl rfl
theorem dksX14_sees_2 : cX14_sees.data.toList.drop 48 = dktX14_sees_2 := dk_seg dksX14_sees_1 24 rfl rfl
theorem dksX14_sees_3 : cX14_sees.data.toList.drop 72 = dktX14_sees_3 := dk_seg dksX14_sees_2 24 rfl rfl
theorem dksX14_sees_4 : cX14_sees.data.toList.drop 96 = dktX14_sees_4 := dk_seg dksX14_sees_3 24 rfl rfl
theorem dX14_sees_0 : decode cX14_sees 0 = .ok (.aload_n 0, 1) := dk_42 (dk_at dksX14_sees_0 0 rfl rfl)
theorem dX14_sees_1 : decode cX14_sees 1 = .ok (.getfield 48, 3) := dk_180 0 48 (dk_at dksX14_sees_0 1 rfl rfl)
theorem dX14_sees_4 : decode cX14_sees 4 = .ok (.iload_n 1, 1) := dk_27 (dk_at dksX14_sees_0 4 rfl rfl)
theorem dX14_sees_5 : decode cX14_sees 5 = .ok (.aaload, 1) := dk_50 (dk_at dksX14_sees_0 5 rfl rfl)
theorem dX14_sees_6 : decode cX14_sees 6 = .ok (.ifnonnull 7, 3) := dk_199 0 7 (dk_at dksX14_sees_0 6 rfl rfl)
theorem dX14_sees_9 : decode cX14_sees 9 = .ok (.iconst 0, 1) := dk_3 (dk_at dksX14_sees_0 9 rfl rfl)
theorem dX14_sees_10 : decode cX14_sees 10 = .ok (.goto 14, 3) := dk_167 0 14 (dk_at dksX14_sees_0 10 rfl rfl)
theorem dX14_sees_13 : decode cX14_sees 13 = .ok (.iconst 1, 1) := dk_4 (dk_at dksX14_sees_0 13 rfl rfl)
theorem dX14_sees_14 : decode cX14_sees 14 = .ok (.aload_n 0, 1) := dk_42 (dk_at dksX14_sees_0 14 rfl rfl)
theorem dX14_sees_15 : decode cX14_sees 15 = .ok (.getfield 48, 3) := dk_180 0 48 (dk_at dksX14_sees_0 15 rfl rfl)
theorem dX14_sees_18 : decode cX14_sees 18 = .ok (.iload_n 1, 1) := dk_27 (dk_at dksX14_sees_0 18 rfl rfl)
theorem dX14_sees_19 : decode cX14_sees 19 = .ok (.aaload, 1) := dk_50 (dk_at dksX14_sees_0 19 rfl rfl)
theorem dX14_sees_20 : decode cX14_sees 20 = .ok (.getfield 62, 3) := dk_180 0 62 (dk_at dksX14_sees_0 20 rfl rfl)
theorem dX14_sees_23 : decode cX14_sees 23 = .ok (.ishl, 1) := dk_120 (dk_at dksX14_sees_0 23 rfl rfl)
theorem dX14_sees_24 : decode cX14_sees 24 = .ok (.istore_n 2, 1) := dk_61 (dk_at dksX14_sees_1 0 rfl rfl)
theorem dX14_sees_25 : decode cX14_sees 25 = .ok (.aload_n 0, 1) := dk_42 (dk_at dksX14_sees_1 1 rfl rfl)
theorem dX14_sees_26 : decode cX14_sees 26 = .ok (.getfield 24, 3) := dk_180 0 24 (dk_at dksX14_sees_1 2 rfl rfl)
theorem dX14_sees_29 : decode cX14_sees 29 = .ok (.astore_n 3, 1) := dk_78 (dk_at dksX14_sees_1 5 rfl rfl)
theorem dX14_sees_30 : decode cX14_sees 30 = .ok (.aload_n 3, 1) := dk_45 (dk_at dksX14_sees_1 6 rfl rfl)
theorem dX14_sees_31 : decode cX14_sees 31 = .ok (.arraylength, 1) := dk_190 (dk_at dksX14_sees_1 7 rfl rfl)
theorem dX14_sees_32 : decode cX14_sees 32 = .ok (.istore 4, 2) := dk_54 4 (dk_at dksX14_sees_1 8 rfl rfl)
theorem dX14_sees_34 : decode cX14_sees 34 = .ok (.iconst 0, 1) := dk_3 (dk_at dksX14_sees_1 10 rfl rfl)
theorem dX14_sees_35 : decode cX14_sees 35 = .ok (.istore 5, 2) := dk_54 5 (dk_at dksX14_sees_1 11 rfl rfl)
theorem dX14_sees_37 : decode cX14_sees 37 = .ok (.iload 5, 2) := dk_21 5 (dk_at dksX14_sees_1 13 rfl rfl)
theorem dX14_sees_39 : decode cX14_sees 39 = .ok (.iload 4, 2) := dk_21 4 (dk_at dksX14_sees_1 15 rfl rfl)
theorem dX14_sees_41 : decode cX14_sees 41 = .ok (.if_icmp .ge 55, 3) := dk_162 0 55 (dk_at dksX14_sees_1 17 rfl rfl)
theorem dX14_sees_44 : decode cX14_sees 44 = .ok (.aload_n 3, 1) := dk_45 (dk_at dksX14_sees_1 20 rfl rfl)
theorem dX14_sees_45 : decode cX14_sees 45 = .ok (.iload 5, 2) := dk_21 5 (dk_at dksX14_sees_1 21 rfl rfl)
theorem dX14_sees_47 : decode cX14_sees 47 = .ok (.aaload, 1) := dk_50 (dk_at dksX14_sees_1 23 rfl rfl)
theorem dX14_sees_48 : decode cX14_sees 48 = .ok (.astore 6, 2) := dk_58 6 (dk_at dksX14_sees_2 0 rfl rfl)
theorem dX14_sees_50 : decode cX14_sees 50 = .ok (.aload_n 0, 1) := dk_42 (dk_at dksX14_sees_2 2 rfl rfl)
theorem dX14_sees_51 : decode cX14_sees 51 = .ok (.iload_n 1, 1) := dk_27 (dk_at dksX14_sees_2 3 rfl rfl)
theorem dX14_sees_52 : decode cX14_sees 52 = .ok (.aload 6, 2) := dk_25 6 (dk_at dksX14_sees_2 4 rfl rfl)
theorem dX14_sees_54 : decode cX14_sees 54 = .ok (.invokevirtual 65, 3) := dk_182 0 65 (dk_at dksX14_sees_2 6 rfl rfl)
theorem dX14_sees_57 : decode cX14_sees 57 = .ok (.istore 7, 2) := dk_54 7 (dk_at dksX14_sees_2 9 rfl rfl)
theorem dX14_sees_59 : decode cX14_sees 59 = .ok (.iload 7, 2) := dk_21 7 (dk_at dksX14_sees_2 11 rfl rfl)
theorem dX14_sees_61 : decode cX14_sees 61 = .ok (.iconst (-1), 1) := dk_2 (dk_at dksX14_sees_2 13 rfl rfl)
theorem dX14_sees_62 : decode cX14_sees 62 = .ok (.if_icmp .eq 28, 3) := dk_159 0 28 (dk_at dksX14_sees_2 14 rfl rfl)
theorem dX14_sees_65 : decode cX14_sees 65 = .ok (.aload_n 0, 1) := dk_42 (dk_at dksX14_sees_2 17 rfl rfl)
theorem dX14_sees_66 : decode cX14_sees 66 = .ok (.getfield 48, 3) := dk_180 0 48 (dk_at dksX14_sees_2 18 rfl rfl)
theorem dX14_sees_69 : decode cX14_sees 69 = .ok (.iload 7, 2) := dk_21 7 (dk_at dksX14_sees_2 21 rfl rfl)
theorem dX14_sees_71 : decode cX14_sees 71 = .ok (.aaload, 1) := dk_50 (dk_at dksX14_sees_2 23 rfl rfl)
theorem dX14_sees_72 : decode cX14_sees 72 = .ok (.ifnull 18, 3) := dk_198 0 18 (dk_at dksX14_sees_3 0 rfl rfl)
theorem dX14_sees_75 : decode cX14_sees 75 = .ok (.iload_n 2, 1) := dk_28 (dk_at dksX14_sees_3 3 rfl rfl)
theorem dX14_sees_76 : decode cX14_sees 76 = .ok (.iconst 1, 1) := dk_4 (dk_at dksX14_sees_3 4 rfl rfl)
theorem dX14_sees_77 : decode cX14_sees 77 = .ok (.aload_n 0, 1) := dk_42 (dk_at dksX14_sees_3 5 rfl rfl)
theorem dX14_sees_78 : decode cX14_sees 78 = .ok (.getfield 48, 3) := dk_180 0 48 (dk_at dksX14_sees_3 6 rfl rfl)
theorem dX14_sees_81 : decode cX14_sees 81 = .ok (.iload 7, 2) := dk_21 7 (dk_at dksX14_sees_3 9 rfl rfl)
theorem dX14_sees_83 : decode cX14_sees 83 = .ok (.aaload, 1) := dk_50 (dk_at dksX14_sees_3 11 rfl rfl)
theorem dX14_sees_84 : decode cX14_sees 84 = .ok (.getfield 62, 3) := dk_180 0 62 (dk_at dksX14_sees_3 12 rfl rfl)
theorem dX14_sees_87 : decode cX14_sees 87 = .ok (.ishl, 1) := dk_120 (dk_at dksX14_sees_3 15 rfl rfl)
theorem dX14_sees_88 : decode cX14_sees 88 = .ok (.ior, 1) := dk_128 (dk_at dksX14_sees_3 16 rfl rfl)
theorem dX14_sees_89 : decode cX14_sees 89 = .ok (.istore_n 2, 1) := dk_61 (dk_at dksX14_sees_3 17 rfl rfl)
theorem dX14_sees_90 : decode cX14_sees 90 = .ok (.iinc 5 1, 3) := dk_132 5 1 (dk_at dksX14_sees_3 18 rfl rfl)
theorem dX14_sees_93 : decode cX14_sees 93 = .ok (.goto (-56), 3) := dk_167 255 200 (dk_at dksX14_sees_3 21 rfl rfl)
theorem dX14_sees_96 : decode cX14_sees 96 = .ok (.iload_n 2, 1) := dk_28 (dk_at dksX14_sees_4 0 rfl rfl)
theorem dX14_sees_97 : decode cX14_sees 97 = .ok (.ireturn, 1) := dk_172 (dk_at dksX14_sees_4 1 rfl rfl)
abbrev cX14_open : ByteArray := prog_11_method_5_code
def yX14_open : MethodName := ⟨RX14, "open", "()I"⟩
def dkwX14_open_2 : List UInt8 := [167, 255, 214, 27, 172]
abbrev dktX14_open_2 : List UInt8 := dkwX14_open_2 ++ []
def dkwX14_open_1 : List UInt8 := [192, 0, 46, 180, 0, 77, 2, 160, 0, 9, 4, 28, 120, 167, 0, 4, 3, 128, 60, 132, 2, 1]
abbrev dktX14_open_1 : List UInt8 := dkwX14_open_1 ++ dktX14_open_2
def dkwX14_open_0 : List UInt8 := [3, 60, 3, 61, 28, 42, 180, 0, 12, 182, 0, 69, 162, 0, 37, 27, 42, 180, 0, 12, 28, 182, 0, 73]
abbrev dktX14_open_0 : List UInt8 := dkwX14_open_0 ++ dktX14_open_1
theorem dksX14_open_0 : cX14_open.data.toList.drop 0 = dktX14_open_0 := by decide +kernel
theorem dksX14_open_1 : cX14_open.data.toList.drop 24 = dktX14_open_1 := dk_seg dksX14_open_0 24 rfl rfl
theorem dksX14_open_2 : cX14_open.data.toList.drop 46 = dktX14_open_2 := dk_seg dksX14_open_1 22 rfl rfl
theorem dX14_open_0 : decode cX14_open 0 = .ok (.iconst 0, 1) := dk_3 (dk_at dksX14_open_0 0 rfl rfl)
theorem dX14_open_1 : decode cX14_open 1 = .ok (.istore_n 1, 1) := dk_60 (dk_at dksX14_open_0 1 rfl rfl)
theorem dX14_open_2 : decode cX14_open 2 = .ok (.iconst 0, 1) := dk_3 (dk_at dksX14_open_0 2 rfl rfl)
theorem dX14_open_3 : decode cX14_open 3 = .ok (.istore_n 2, 1) := dk_61 (dk_at dksX14_open_0 3 rfl rfl)
theorem dX14_open_4 : decode cX14_open 4 = .ok (.iload_n 2, 1) := dk_28 (dk_at dksX14_open_0 4 rfl rfl)
theorem dX14_open_5 : decode cX14_open 5 = .ok (.aload_n 0, 1) := dk_42 (dk_at dksX14_open_0 5 rfl rfl)
theorem dX14_open_6 : decode cX14_open 6 = .ok (.getfield 12, 3) := dk_180 0 12 (dk_at dksX14_open_0 6 rfl rfl)
theorem dX14_open_9 : decode cX14_open 9 = .ok (.invokevirtual 69, 3) := dk_182 0 69 (dk_at dksX14_open_0 9 rfl rfl)
theorem dX14_open_12 : decode cX14_open 12 = .ok (.if_icmp .ge 37, 3) := dk_162 0 37 (dk_at dksX14_open_0 12 rfl rfl)
theorem dX14_open_15 : decode cX14_open 15 = .ok (.iload_n 1, 1) := dk_27 (dk_at dksX14_open_0 15 rfl rfl)
theorem dX14_open_16 : decode cX14_open 16 = .ok (.aload_n 0, 1) := dk_42 (dk_at dksX14_open_0 16 rfl rfl)
theorem dX14_open_17 : decode cX14_open 17 = .ok (.getfield 12, 3) := dk_180 0 12 (dk_at dksX14_open_0 17 rfl rfl)
theorem dX14_open_20 : decode cX14_open 20 = .ok (.iload_n 2, 1) := dk_28 (dk_at dksX14_open_0 20 rfl rfl)
theorem dX14_open_21 : decode cX14_open 21 = .ok (.invokevirtual 73, 3) := dk_182 0 73 (dk_at dksX14_open_0 21 rfl rfl)
theorem dX14_open_24 : decode cX14_open 24 = .ok (.checkcast 46, 3) := dk_192 0 46 (dk_at dksX14_open_1 0 rfl rfl)
theorem dX14_open_27 : decode cX14_open 27 = .ok (.getfield 77, 3) := dk_180 0 77 (dk_at dksX14_open_1 3 rfl rfl)
theorem dX14_open_30 : decode cX14_open 30 = .ok (.iconst (-1), 1) := dk_2 (dk_at dksX14_open_1 6 rfl rfl)
theorem dX14_open_31 : decode cX14_open 31 = .ok (.if_icmp .ne 9, 3) := dk_160 0 9 (dk_at dksX14_open_1 7 rfl rfl)
theorem dX14_open_34 : decode cX14_open 34 = .ok (.iconst 1, 1) := dk_4 (dk_at dksX14_open_1 10 rfl rfl)
theorem dX14_open_35 : decode cX14_open 35 = .ok (.iload_n 2, 1) := dk_28 (dk_at dksX14_open_1 11 rfl rfl)
theorem dX14_open_36 : decode cX14_open 36 = .ok (.ishl, 1) := dk_120 (dk_at dksX14_open_1 12 rfl rfl)
theorem dX14_open_37 : decode cX14_open 37 = .ok (.goto 4, 3) := dk_167 0 4 (dk_at dksX14_open_1 13 rfl rfl)
theorem dX14_open_40 : decode cX14_open 40 = .ok (.iconst 0, 1) := dk_3 (dk_at dksX14_open_1 16 rfl rfl)
theorem dX14_open_41 : decode cX14_open 41 = .ok (.ior, 1) := dk_128 (dk_at dksX14_open_1 17 rfl rfl)
theorem dX14_open_42 : decode cX14_open 42 = .ok (.istore_n 1, 1) := dk_60 (dk_at dksX14_open_1 18 rfl rfl)
theorem dX14_open_43 : decode cX14_open 43 = .ok (.iinc 2 1, 3) := dk_132 2 1 (dk_at dksX14_open_1 19 rfl rfl)
theorem dX14_open_46 : decode cX14_open 46 = .ok (.goto (-42), 3) := dk_167 255 214 (dk_at dksX14_open_2 0 rfl rfl)
theorem dX14_open_49 : decode cX14_open 49 = .ok (.iload_n 1, 1) := dk_27 (dk_at dksX14_open_2 3 rfl rfl)
theorem dX14_open_50 : decode cX14_open 50 = .ok (.ireturn, 1) := dk_172 (dk_at dksX14_open_2 4 rfl rfl)
abbrev cX14_truths : ByteArray := prog_11_method_8_code
def yX14_truths : MethodName := ⟨RX14, "truths", "()I"⟩
def dkwX14_truths_2 : List UInt8 := [167, 0, 4, 4, 104, 60, 132, 2, 1, 167, 255, 203, 27, 172]
abbrev dktX14_truths_2 : List UInt8 := dkwX14_truths_2 ++ []
def dkwX14_truths_1 : List UInt8 := [192, 0, 46, 180, 0, 77, 2, 160, 0, 20, 42, 180, 0, 12, 28, 182, 0, 73, 192, 0, 46, 182, 0, 139]
abbrev dktX14_truths_1 : List UInt8 := dkwX14_truths_1 ++ dktX14_truths_2
def dkwX14_truths_0 : List UInt8 := [4, 60, 3, 61, 28, 42, 180, 0, 12, 182, 0, 69, 162, 0, 48, 27, 42, 180, 0, 12, 28, 182, 0, 73]
abbrev dktX14_truths_0 : List UInt8 := dkwX14_truths_0 ++ dktX14_truths_1
theorem dksX14_truths_0 : cX14_truths.data.toList.drop 0 = dktX14_truths_0 := by decide +kernel
theorem dksX14_truths_1 : cX14_truths.data.toList.drop 24 = dktX14_truths_1 := dk_seg dksX14_truths_0 24 rfl rfl
theorem dksX14_truths_2 : cX14_truths.data.toList.drop 48 = dktX14_truths_2 := dk_seg dksX14_truths_1 24 rfl rfl
theorem dX14_truths_0 : decode cX14_truths 0 = .ok (.iconst 1, 1) := dk_4 (dk_at dksX14_truths_0 0 rfl rfl)
theorem dX14_truths_1 : decode cX14_truths 1 = .ok (.istore_n 1, 1) := dk_60 (dk_at dksX14_truths_0 1 rfl rfl)
theorem dX14_truths_2 : decode cX14_truths 2 = .ok (.iconst 0, 1) := dk_3 (dk_at dksX14_truths_0 2 rfl rfl)
theorem dX14_truths_3 : decode cX14_truths 3 = .ok (.istore_n 2, 1) := dk_61 (dk_at dksX14_truths_0 3 rfl rfl)
theorem dX14_truths_4 : decode cX14_truths 4 = .ok (.iload_n 2, 1) := dk_28 (dk_at dksX14_truths_0 4 rfl rfl)
theorem dX14_truths_5 : decode cX14_truths 5 = .ok (.aload_n 0, 1) := dk_42 (dk_at dksX14_truths_0 5 rfl rfl)
theorem dX14_truths_6 : decode cX14_truths 6 = .ok (.getfield 12, 3) := dk_180 0 12 (dk_at dksX14_truths_0 6 rfl rfl)
theorem dX14_truths_9 : decode cX14_truths 9 = .ok (.invokevirtual 69, 3) := dk_182 0 69 (dk_at dksX14_truths_0 9 rfl rfl)
theorem dX14_truths_12 : decode cX14_truths 12 = .ok (.if_icmp .ge 48, 3) := dk_162 0 48 (dk_at dksX14_truths_0 12 rfl rfl)
theorem dX14_truths_15 : decode cX14_truths 15 = .ok (.iload_n 1, 1) := dk_27 (dk_at dksX14_truths_0 15 rfl rfl)
theorem dX14_truths_16 : decode cX14_truths 16 = .ok (.aload_n 0, 1) := dk_42 (dk_at dksX14_truths_0 16 rfl rfl)
theorem dX14_truths_17 : decode cX14_truths 17 = .ok (.getfield 12, 3) := dk_180 0 12 (dk_at dksX14_truths_0 17 rfl rfl)
theorem dX14_truths_20 : decode cX14_truths 20 = .ok (.iload_n 2, 1) := dk_28 (dk_at dksX14_truths_0 20 rfl rfl)
theorem dX14_truths_21 : decode cX14_truths 21 = .ok (.invokevirtual 73, 3) := dk_182 0 73 (dk_at dksX14_truths_0 21 rfl rfl)
theorem dX14_truths_24 : decode cX14_truths 24 = .ok (.checkcast 46, 3) := dk_192 0 46 (dk_at dksX14_truths_1 0 rfl rfl)
theorem dX14_truths_27 : decode cX14_truths 27 = .ok (.getfield 77, 3) := dk_180 0 77 (dk_at dksX14_truths_1 3 rfl rfl)
theorem dX14_truths_30 : decode cX14_truths 30 = .ok (.iconst (-1), 1) := dk_2 (dk_at dksX14_truths_1 6 rfl rfl)
theorem dX14_truths_31 : decode cX14_truths 31 = .ok (.if_icmp .ne 20, 3) := dk_160 0 20 (dk_at dksX14_truths_1 7 rfl rfl)
theorem dX14_truths_34 : decode cX14_truths 34 = .ok (.aload_n 0, 1) := dk_42 (dk_at dksX14_truths_1 10 rfl rfl)
theorem dX14_truths_35 : decode cX14_truths 35 = .ok (.getfield 12, 3) := dk_180 0 12 (dk_at dksX14_truths_1 11 rfl rfl)
theorem dX14_truths_38 : decode cX14_truths 38 = .ok (.iload_n 2, 1) := dk_28 (dk_at dksX14_truths_1 14 rfl rfl)
theorem dX14_truths_39 : decode cX14_truths 39 = .ok (.invokevirtual 73, 3) := dk_182 0 73 (dk_at dksX14_truths_1 15 rfl rfl)
theorem dX14_truths_42 : decode cX14_truths 42 = .ok (.checkcast 46, 3) := dk_192 0 46 (dk_at dksX14_truths_1 18 rfl rfl)
theorem dX14_truths_45 : decode cX14_truths 45 = .ok (.invokevirtual 139, 3) := dk_182 0 139 (dk_at dksX14_truths_1 21 rfl rfl)
theorem dX14_truths_48 : decode cX14_truths 48 = .ok (.goto 4, 3) := dk_167 0 4 (dk_at dksX14_truths_2 0 rfl rfl)
theorem dX14_truths_51 : decode cX14_truths 51 = .ok (.iconst 1, 1) := dk_4 (dk_at dksX14_truths_2 3 rfl rfl)
theorem dX14_truths_52 : decode cX14_truths 52 = .ok (.imul, 1) := dk_104 (dk_at dksX14_truths_2 4 rfl rfl)
theorem dX14_truths_53 : decode cX14_truths 53 = .ok (.istore_n 1, 1) := dk_60 (dk_at dksX14_truths_2 5 rfl rfl)
theorem dX14_truths_54 : decode cX14_truths 54 = .ok (.iinc 2 1, 3) := dk_132 2 1 (dk_at dksX14_truths_2 6 rfl rfl)
theorem dX14_truths_57 : decode cX14_truths 57 = .ok (.goto (-53), 3) := dk_167 255 203 (dk_at dksX14_truths_2 9 rfl rfl)
theorem dX14_truths_60 : decode cX14_truths 60 = .ok (.iload_n 1, 1) := dk_27 (dk_at dksX14_truths_2 12 rfl rfl)
theorem dX14_truths_61 : decode cX14_truths 61 = .ok (.ireturn, 1) := dk_172 (dk_at dksX14_truths_2 13 rfl rfl)
abbrev cX14_truth : ByteArray := prog_11_method_9_code
def yX14_truth : MethodName := ⟨RX14, "truth", "(I)[I"⟩
def dkwX14_truth_3 : List UInt8 := [182, 0, 142, 79, 29, 25, 5, 182, 0, 139, 108, 62, 132, 4, 255, 167, 255, 189, 44, 176]
abbrev dktX14_truth_3 : List UInt8 := dkwX14_truth_3 ++ []
def dkwX14_truth_2 : List UInt8 := [21, 4, 25, 5, 180, 0, 77, 79, 167, 0, 27, 44, 21, 4, 25, 5, 29, 25, 5, 182, 0, 139, 112]
abbrev dktX14_truth_2 : List UInt8 := dkwX14_truth_2 ++ dktX14_truth_3
def dkwX14_truth_1 : List UInt8 := [180, 0, 12, 21, 4, 182, 0, 73, 192, 0, 46, 58, 5, 25, 5, 180, 0, 77, 2, 159, 0, 15, 44]
abbrev dktX14_truth_1 : List UInt8 := dkwX14_truth_1 ++ dktX14_truth_2
def dkwX14_truth_0 : List UInt8 := [8, 188, 10, 77, 27, 62, 42, 180, 0, 12, 182, 0, 69, 4, 100, 54, 4, 21, 4, 155, 0, 68, 42]
abbrev dktX14_truth_0 : List UInt8 := dkwX14_truth_0 ++ dktX14_truth_1
theorem dksX14_truth_0 : cX14_truth.data.toList.drop 0 = dktX14_truth_0 := by decide +kernel
theorem dksX14_truth_1 : cX14_truth.data.toList.drop 23 = dktX14_truth_1 := dk_seg dksX14_truth_0 23 rfl rfl
theorem dksX14_truth_2 : cX14_truth.data.toList.drop 46 = dktX14_truth_2 := dk_seg dksX14_truth_1 23 rfl rfl
theorem dksX14_truth_3 : cX14_truth.data.toList.drop 69 = dktX14_truth_3 := dk_seg dksX14_truth_2 23 rfl rfl
theorem dX14_truth_0 : decode cX14_truth 0 = .ok (.iconst 5, 1) := dk_8 (dk_at dksX14_truth_0 0 rfl rfl)
theorem dX14_truth_1 : decode cX14_truth 1 = .ok (.newarray .int, 2) := dk_188_10 (dk_at dksX14_truth_0 1 rfl rfl)
theorem dX14_truth_3 : decode cX14_truth 3 = .ok (.astore_n 2, 1) := dk_77 (dk_at dksX14_truth_0 3 rfl rfl)
theorem dX14_truth_4 : decode cX14_truth 4 = .ok (.iload_n 1, 1) := dk_27 (dk_at dksX14_truth_0 4 rfl rfl)
theorem dX14_truth_5 : decode cX14_truth 5 = .ok (.istore_n 3, 1) := dk_62 (dk_at dksX14_truth_0 5 rfl rfl)
theorem dX14_truth_6 : decode cX14_truth 6 = .ok (.aload_n 0, 1) := dk_42 (dk_at dksX14_truth_0 6 rfl rfl)
theorem dX14_truth_7 : decode cX14_truth 7 = .ok (.getfield 12, 3) := dk_180 0 12 (dk_at dksX14_truth_0 7 rfl rfl)
theorem dX14_truth_10 : decode cX14_truth 10 = .ok (.invokevirtual 69, 3) := dk_182 0 69 (dk_at dksX14_truth_0 10 rfl rfl)
theorem dX14_truth_13 : decode cX14_truth 13 = .ok (.iconst 1, 1) := dk_4 (dk_at dksX14_truth_0 13 rfl rfl)
theorem dX14_truth_14 : decode cX14_truth 14 = .ok (.isub, 1) := dk_100 (dk_at dksX14_truth_0 14 rfl rfl)
theorem dX14_truth_15 : decode cX14_truth 15 = .ok (.istore 4, 2) := dk_54 4 (dk_at dksX14_truth_0 15 rfl rfl)
theorem dX14_truth_17 : decode cX14_truth 17 = .ok (.iload 4, 2) := dk_21 4 (dk_at dksX14_truth_0 17 rfl rfl)
theorem dX14_truth_19 : decode cX14_truth 19 = .ok (.ifCond .lt 68, 3) := dk_155 0 68 (dk_at dksX14_truth_0 19 rfl rfl)
theorem dX14_truth_22 : decode cX14_truth 22 = .ok (.aload_n 0, 1) := dk_42 (dk_at dksX14_truth_0 22 rfl rfl)
theorem dX14_truth_23 : decode cX14_truth 23 = .ok (.getfield 12, 3) := dk_180 0 12 (dk_at dksX14_truth_1 0 rfl rfl)
theorem dX14_truth_26 : decode cX14_truth 26 = .ok (.iload 4, 2) := dk_21 4 (dk_at dksX14_truth_1 3 rfl rfl)
theorem dX14_truth_28 : decode cX14_truth 28 = .ok (.invokevirtual 73, 3) := dk_182 0 73 (dk_at dksX14_truth_1 5 rfl rfl)
theorem dX14_truth_31 : decode cX14_truth 31 = .ok (.checkcast 46, 3) := dk_192 0 46 (dk_at dksX14_truth_1 8 rfl rfl)
theorem dX14_truth_34 : decode cX14_truth 34 = .ok (.astore 5, 2) := dk_58 5 (dk_at dksX14_truth_1 11 rfl rfl)
theorem dX14_truth_36 : decode cX14_truth 36 = .ok (.aload 5, 2) := dk_25 5 (dk_at dksX14_truth_1 13 rfl rfl)
theorem dX14_truth_38 : decode cX14_truth 38 = .ok (.getfield 77, 3) := dk_180 0 77 (dk_at dksX14_truth_1 15 rfl rfl)
theorem dX14_truth_41 : decode cX14_truth 41 = .ok (.iconst (-1), 1) := dk_2 (dk_at dksX14_truth_1 18 rfl rfl)
theorem dX14_truth_42 : decode cX14_truth 42 = .ok (.if_icmp .eq 15, 3) := dk_159 0 15 (dk_at dksX14_truth_1 19 rfl rfl)
theorem dX14_truth_45 : decode cX14_truth 45 = .ok (.aload_n 2, 1) := dk_44 (dk_at dksX14_truth_1 22 rfl rfl)
theorem dX14_truth_46 : decode cX14_truth 46 = .ok (.iload 4, 2) := dk_21 4 (dk_at dksX14_truth_2 0 rfl rfl)
theorem dX14_truth_48 : decode cX14_truth 48 = .ok (.aload 5, 2) := dk_25 5 (dk_at dksX14_truth_2 2 rfl rfl)
theorem dX14_truth_50 : decode cX14_truth 50 = .ok (.getfield 77, 3) := dk_180 0 77 (dk_at dksX14_truth_2 4 rfl rfl)
theorem dX14_truth_53 : decode cX14_truth 53 = .ok (.iastore, 1) := dk_79 (dk_at dksX14_truth_2 7 rfl rfl)
theorem dX14_truth_54 : decode cX14_truth 54 = .ok (.goto 27, 3) := dk_167 0 27 (dk_at dksX14_truth_2 8 rfl rfl)
theorem dX14_truth_57 : decode cX14_truth 57 = .ok (.aload_n 2, 1) := dk_44 (dk_at dksX14_truth_2 11 rfl rfl)
theorem dX14_truth_58 : decode cX14_truth 58 = .ok (.iload 4, 2) := dk_21 4 (dk_at dksX14_truth_2 12 rfl rfl)
theorem dX14_truth_60 : decode cX14_truth 60 = .ok (.aload 5, 2) := dk_25 5 (dk_at dksX14_truth_2 14 rfl rfl)
theorem dX14_truth_62 : decode cX14_truth 62 = .ok (.iload_n 3, 1) := dk_29 (dk_at dksX14_truth_2 16 rfl rfl)
theorem dX14_truth_63 : decode cX14_truth 63 = .ok (.aload 5, 2) := dk_25 5 (dk_at dksX14_truth_2 17 rfl rfl)
theorem dX14_truth_65 : decode cX14_truth 65 = .ok (.invokevirtual 139, 3) := dk_182 0 139 (dk_at dksX14_truth_2 19 rfl rfl)
theorem dX14_truth_68 : decode cX14_truth 68 = .ok (.irem, 1) := dk_112 (dk_at dksX14_truth_2 22 rfl rfl)
theorem dX14_truth_69 : decode cX14_truth 69 = .ok (.invokevirtual 142, 3) := dk_182 0 142 (dk_at dksX14_truth_3 0 rfl rfl)
theorem dX14_truth_72 : decode cX14_truth 72 = .ok (.iastore, 1) := dk_79 (dk_at dksX14_truth_3 3 rfl rfl)
theorem dX14_truth_73 : decode cX14_truth 73 = .ok (.iload_n 3, 1) := dk_29 (dk_at dksX14_truth_3 4 rfl rfl)
theorem dX14_truth_74 : decode cX14_truth 74 = .ok (.aload 5, 2) := dk_25 5 (dk_at dksX14_truth_3 5 rfl rfl)
theorem dX14_truth_76 : decode cX14_truth 76 = .ok (.invokevirtual 139, 3) := dk_182 0 139 (dk_at dksX14_truth_3 7 rfl rfl)
theorem dX14_truth_79 : decode cX14_truth 79 = .ok (.idiv, 1) := dk_108 (dk_at dksX14_truth_3 10 rfl rfl)
theorem dX14_truth_80 : decode cX14_truth 80 = .ok (.istore_n 3, 1) := dk_62 (dk_at dksX14_truth_3 11 rfl rfl)
theorem dX14_truth_81 : decode cX14_truth 81 = .ok (.iinc 4 (-1), 3) := dk_132 4 255 (dk_at dksX14_truth_3 12 rfl rfl)
theorem dX14_truth_84 : decode cX14_truth 84 = .ok (.goto (-67), 3) := dk_167 255 189 (dk_at dksX14_truth_3 15 rfl rfl)
theorem dX14_truth_87 : decode cX14_truth 87 = .ok (.aload_n 2, 1) := dk_44 (dk_at dksX14_truth_3 18 rfl rfl)
theorem dX14_truth_88 : decode cX14_truth 88 = .ok (.areturn, 1) := dk_176 (dk_at dksX14_truth_3 19 rfl rfl)
abbrev cX14_openOnes : ByteArray := prog_11_method_6_code
def yX14_openOnes : MethodName := ⟨RX14, "openOnes", "()I"⟩
def dkwX14_openOnes_2 : List UInt8 := [172]
abbrev dktX14_openOnes_2 : List UInt8 := dkwX14_openOnes_2 ++ []
def dkwX14_openOnes_1 : List UInt8 := [192, 0, 46, 180, 0, 77, 2, 160, 0, 7, 4, 167, 0, 4, 3, 96, 60, 132, 2, 1, 167, 255, 216, 27]
abbrev dktX14_openOnes_1 : List UInt8 := dkwX14_openOnes_1 ++ dktX14_openOnes_2
def dkwX14_openOnes_0 : List UInt8 := [3, 60, 3, 61, 28, 42, 180, 0, 12, 182, 0, 69, 162, 0, 35, 27, 42, 180, 0, 12, 28, 182, 0, 73]
abbrev dktX14_openOnes_0 : List UInt8 := dkwX14_openOnes_0 ++ dktX14_openOnes_1
theorem dksX14_openOnes_0 : cX14_openOnes.data.toList.drop 0 = dktX14_openOnes_0 := by decide +kernel
theorem dksX14_openOnes_1 : cX14_openOnes.data.toList.drop 24 = dktX14_openOnes_1 := dk_seg dksX14_openOnes_0 24 rfl rfl
theorem dksX14_openOnes_2 : cX14_openOnes.data.toList.drop 48 = dktX14_openOnes_2 := dk_seg dksX14_openOnes_1 24 rfl rfl
theorem dX14_openOnes_0 : decode cX14_openOnes 0 = .ok (.iconst 0, 1) := dk_3 (dk_at dksX14_openOnes_0 0 rfl rfl)
theorem dX14_openOnes_1 : decode cX14_openOnes 1 = .ok (.istore_n 1, 1) := dk_60 (dk_at dksX14_openOnes_0 1 rfl rfl)
theorem dX14_openOnes_2 : decode cX14_openOnes 2 = .ok (.iconst 0, 1) := dk_3 (dk_at dksX14_openOnes_0 2 rfl rfl)
theorem dX14_openOnes_3 : decode cX14_openOnes 3 = .ok (.istore_n 2, 1) := dk_61 (dk_at dksX14_openOnes_0 3 rfl rfl)
theorem dX14_openOnes_4 : decode cX14_openOnes 4 = .ok (.iload_n 2, 1) := dk_28 (dk_at dksX14_openOnes_0 4 rfl rfl)
theorem dX14_openOnes_5 : decode cX14_openOnes 5 = .ok (.aload_n 0, 1) := dk_42 (dk_at dksX14_openOnes_0 5 rfl rfl)
theorem dX14_openOnes_6 : decode cX14_openOnes 6 = .ok (.getfield 12, 3) := dk_180 0 12 (dk_at dksX14_openOnes_0 6 rfl rfl)
theorem dX14_openOnes_9 : decode cX14_openOnes 9 = .ok (.invokevirtual 69, 3) := dk_182 0 69 (dk_at dksX14_openOnes_0 9 rfl rfl)
theorem dX14_openOnes_12 : decode cX14_openOnes 12 = .ok (.if_icmp .ge 35, 3) := dk_162 0 35 (dk_at dksX14_openOnes_0 12 rfl rfl)
theorem dX14_openOnes_15 : decode cX14_openOnes 15 = .ok (.iload_n 1, 1) := dk_27 (dk_at dksX14_openOnes_0 15 rfl rfl)
theorem dX14_openOnes_16 : decode cX14_openOnes 16 = .ok (.aload_n 0, 1) := dk_42 (dk_at dksX14_openOnes_0 16 rfl rfl)
theorem dX14_openOnes_17 : decode cX14_openOnes 17 = .ok (.getfield 12, 3) := dk_180 0 12 (dk_at dksX14_openOnes_0 17 rfl rfl)
theorem dX14_openOnes_20 : decode cX14_openOnes 20 = .ok (.iload_n 2, 1) := dk_28 (dk_at dksX14_openOnes_0 20 rfl rfl)
theorem dX14_openOnes_21 : decode cX14_openOnes 21 = .ok (.invokevirtual 73, 3) := dk_182 0 73 (dk_at dksX14_openOnes_0 21 rfl rfl)
theorem dX14_openOnes_24 : decode cX14_openOnes 24 = .ok (.checkcast 46, 3) := dk_192 0 46 (dk_at dksX14_openOnes_1 0 rfl rfl)
theorem dX14_openOnes_27 : decode cX14_openOnes 27 = .ok (.getfield 77, 3) := dk_180 0 77 (dk_at dksX14_openOnes_1 3 rfl rfl)
theorem dX14_openOnes_30 : decode cX14_openOnes 30 = .ok (.iconst (-1), 1) := dk_2 (dk_at dksX14_openOnes_1 6 rfl rfl)
theorem dX14_openOnes_31 : decode cX14_openOnes 31 = .ok (.if_icmp .ne 7, 3) := dk_160 0 7 (dk_at dksX14_openOnes_1 7 rfl rfl)
theorem dX14_openOnes_34 : decode cX14_openOnes 34 = .ok (.iconst 1, 1) := dk_4 (dk_at dksX14_openOnes_1 10 rfl rfl)
theorem dX14_openOnes_35 : decode cX14_openOnes 35 = .ok (.goto 4, 3) := dk_167 0 4 (dk_at dksX14_openOnes_1 11 rfl rfl)
theorem dX14_openOnes_38 : decode cX14_openOnes 38 = .ok (.iconst 0, 1) := dk_3 (dk_at dksX14_openOnes_1 14 rfl rfl)
theorem dX14_openOnes_39 : decode cX14_openOnes 39 = .ok (.iadd, 1) := dk_96 (dk_at dksX14_openOnes_1 15 rfl rfl)
theorem dX14_openOnes_40 : decode cX14_openOnes 40 = .ok (.istore_n 1, 1) := dk_60 (dk_at dksX14_openOnes_1 16 rfl rfl)
theorem dX14_openOnes_41 : decode cX14_openOnes 41 = .ok (.iinc 2 1, 3) := dk_132 2 1 (dk_at dksX14_openOnes_1 17 rfl rfl)
theorem dX14_openOnes_44 : decode cX14_openOnes 44 = .ok (.goto (-40), 3) := dk_167 255 216 (dk_at dksX14_openOnes_1 20 rfl rfl)
theorem dX14_openOnes_47 : decode cX14_openOnes 47 = .ok (.iload_n 1, 1) := dk_27 (dk_at dksX14_openOnes_1 23 rfl rfl)
theorem dX14_openOnes_48 : decode cX14_openOnes 48 = .ok (.ireturn, 1) := dk_172 (dk_at dksX14_openOnes_2 0 rfl rfl)
theorem q131 : (Jvm.Cond.initialized "SoftWheels$Land") ∈ lw_all := lw_g (lw_at lw_m1 34 rfl) rfl
theorem q290 : (Jvm.Cond.fieldLinkNest "SoftWheels$Land" (100 : Nat) "SoftWheels$Book" "grounds" "Ljava/util/ArrayList;" "SoftWheels") ∈ lw_tbl := lw_at lw_m1 193 rfl
theorem q298 : (Jvm.Cond.fieldLinkNest "SoftWheels$Land" (133 : Nat) "SoftWheels$Book" "wheels" "I" "SoftWheels") ∈ lw_tbl := lw_at lw_m1 201 rfl
theorem q301 : (Jvm.Cond.fieldLinkNest "SoftWheels$Land" (120 : Nat) "SoftWheels$Book" "weight" "I" "SoftWheels") ∈ lw_tbl := lw_at lw_m1 204 rfl
theorem q304 : (Jvm.Cond.fieldLinkNest "SoftWheels$Land" (117 : Nat) "SoftWheels$Book" "clear" "I" "SoftWheels") ∈ lw_tbl := lw_at lw_m1 207 rfl
theorem q307 : (Jvm.Cond.fieldLinkNest "SoftWheels$Land" (95 : Nat) "SoftWheels$Book" "tip" "I" "SoftWheels") ∈ lw_tbl := lw_at lw_m1 210 rfl
theorem q310 : (Jvm.Cond.fieldLinkNest "SoftWheels$Land" (127 : Nat) "SoftWheels$Book" "drag" "I" "SoftWheels") ∈ lw_tbl := lw_at lw_m1 213 rfl
theorem q876 : (Jvm.Cond.fieldLinkNest "SoftWheels$Land" (108 : Nat) "SoftWheels$Ground" "sinks" "LSoftWheels$Line;" "SoftWheels") ∈ lw_tbl := lw_at lw_m4 59 rfl
theorem q880 : (Jvm.Cond.fieldLinkNest "SoftWheels$Land" (136 : Nat) "SoftWheels$Ground" "grips" "LSoftWheels$Line;" "SoftWheels") ∈ lw_tbl := lw_at lw_m4 63 rfl
theorem q965 : (Jvm.Cond.selects "SoftWheels$Land" ({ cls := "java/lang/Object", name := "getClass", desc := "()Ljava/lang/Class;" } : Jvm.MethodName) ({ cls := "java/lang/Object", name := "getClass", desc := "()Ljava/lang/Class;" } : Jvm.MethodName)) ∈ lw_all := lw_g (lw_at lw_m4 148 rfl) rfl
theorem q1114 : (Jvm.Cond.instantiable "SoftWheels$Land" (11 : Nat)) ∈ lw_all := lw_g (lw_at lw_m5 57 rfl) rfl
theorem q1116 : (Jvm.Cond.instanceMethod ({ cls := "SoftWheels$Land", name := "<init>", desc := "(LSoftWheels$Book;II)V" } : Jvm.MethodName)) ∈ lw_all := lw_g (lw_at lw_m5 59 rfl) rfl
theorem q1117 : (Jvm.Cond.code ({ cls := "SoftWheels$Land", name := "<init>", desc := "(LSoftWheels$Book;II)V" } : Jvm.MethodName) prog_11_method_1_code (4 : Nat) (Option.none : Option Jvm.ClassFile.FieldType)) ∈ lw_all := lw_g (lw_at lw_m5 60 rfl) rfl
theorem q1118 : (Jvm.Cond.methodLink "SoftWheels$Land" (3 : Nat) ({ cls := "java/lang/Object", name := "<init>", desc := "()V" } : Jvm.MethodName)) ∈ lw_all := lw_g (lw_at lw_m5 61 rfl) rfl
theorem q1119 : (Jvm.Cond.classLink "SoftWheels$Land" (9 : Nat) "java/util/ArrayList") ∈ lw_all := lw_g (lw_at lw_m5 62 rfl) rfl
theorem q1120 : (Jvm.Cond.methodLink "SoftWheels$Land" (11 : Nat) ({ cls := "java/util/ArrayList", name := "<init>", desc := "()V" } : Jvm.MethodName)) ∈ lw_all := lw_g (lw_at lw_m5 63 rfl) rfl
theorem q1121 : (Jvm.Cond.methodLink "SoftWheels$Land" (18 : Nat) ({ cls := "SoftWheels$Way", name := "values", desc := "()[LSoftWheels$Way;" } : Jvm.MethodName)) ∈ lw_all := lw_g (lw_at lw_m5 64 rfl) rfl
theorem q1132 : (Jvm.Cond.classLink "SoftWheels$Land" (46 : Nat) "SoftWheels$Doubt") ∈ lw_all := lw_g (lw_at lw_m5 75 rfl) rfl
theorem q1134 : (Jvm.Cond.fieldLink "SoftWheels$Land" (28 : Nat) "SoftWheels$Land" "book" "LSoftWheels$Book;") ∈ lw_all := lw_g (lw_at lw_m5 77 rfl) rfl
theorem q1136 : (Jvm.Cond.fieldLink "SoftWheels$Land" (32 : Nat) "SoftWheels$Land" "wide" "I") ∈ lw_all := lw_g (lw_at lw_m5 79 rfl) rfl
theorem q1137 : (Jvm.Cond.fieldLink "SoftWheels$Land" (36 : Nat) "SoftWheels$Land" "high" "I") ∈ lw_all := lw_g (lw_at lw_m5 80 rfl) rfl
theorem q1138 : (Jvm.Cond.fieldLink "SoftWheels$Land" (39 : Nat) "SoftWheels$Land" "height" "[I") ∈ lw_all := lw_g (lw_at lw_m5 81 rfl) rfl
theorem q1140 : (Jvm.Cond.fieldLink "SoftWheels$Land" (43 : Nat) "SoftWheels$Land" "ground" "[I") ∈ lw_all := lw_g (lw_at lw_m5 83 rfl) rfl
theorem q1144 : (Jvm.Cond.fieldLink "SoftWheels$Land" (48 : Nat) "SoftWheels$Land" "doubtAt" "[LSoftWheels$Doubt;") ∈ lw_all := lw_g (lw_at lw_m5 87 rfl) rfl
theorem q1148 : (Jvm.Cond.fieldLink "SoftWheels$Land" (12 : Nat) "SoftWheels$Land" "doubts" "Ljava/util/ArrayList;") ∈ lw_all := lw_g (lw_at lw_m5 91 rfl) rfl
theorem q1152 : (Jvm.Cond.fieldLink "SoftWheels$Land" (24 : Nat) "SoftWheels$Land" "ways" "[LSoftWheels$Way;") ∈ lw_all := lw_g (lw_at lw_m5 95 rfl) rfl
theorem q1155 : (Jvm.Cond.fieldLink "SoftWheels$Land" (80 : Nat) "SoftWheels$Land" "need" "I") ∈ lw_all := lw_g (lw_at lw_m5 98 rfl) rfl
theorem q1157 : (Jvm.Cond.fieldLink "SoftWheels$Land" (83 : Nat) "SoftWheels$Land" "slip" "I") ∈ lw_all := lw_g (lw_at lw_m5 100 rfl) rfl
theorem q1161 : (Jvm.Cond.fieldLink "SoftWheels$Land" (86 : Nat) "SoftWheels$Land" "cost" "I") ∈ lw_all := lw_g (lw_at lw_m5 104 rfl) rfl
theorem q1163 : (Jvm.Cond.laysFinal "SoftWheels$Land" "SoftWheels$Land" "book" "LSoftWheels$Book;") ∈ lw_all := lw_g (lw_at lw_m5 106 rfl) rfl
theorem q1164 : (Jvm.Cond.soleField "SoftWheels$Land" "book") ∈ lw_all := lw_g (lw_at lw_m5 107 rfl) rfl
theorem q1165 : (Jvm.Cond.laysFinal "SoftWheels$Land" "SoftWheels$Land" "wide" "I") ∈ lw_all := lw_g (lw_at lw_m5 108 rfl) rfl
theorem q1166 : (Jvm.Cond.soleField "SoftWheels$Land" "wide") ∈ lw_all := lw_g (lw_at lw_m5 109 rfl) rfl
theorem q1167 : (Jvm.Cond.laysFinal "SoftWheels$Land" "SoftWheels$Land" "high" "I") ∈ lw_all := lw_g (lw_at lw_m5 110 rfl) rfl
theorem q1168 : (Jvm.Cond.soleField "SoftWheels$Land" "high") ∈ lw_all := lw_g (lw_at lw_m5 111 rfl) rfl
theorem q1169 : (Jvm.Cond.laysFinal "SoftWheels$Land" "SoftWheels$Land" "height" "[I") ∈ lw_all := lw_g (lw_at lw_m5 112 rfl) rfl
theorem q1170 : (Jvm.Cond.soleField "SoftWheels$Land" "height") ∈ lw_all := lw_g (lw_at lw_m5 113 rfl) rfl
theorem q1171 : (Jvm.Cond.laysFinal "SoftWheels$Land" "SoftWheels$Land" "ground" "[I") ∈ lw_all := lw_g (lw_at lw_m5 114 rfl) rfl
theorem q1172 : (Jvm.Cond.soleField "SoftWheels$Land" "ground") ∈ lw_all := lw_g (lw_at lw_m5 115 rfl) rfl
theorem q1173 : (Jvm.Cond.laysFinal "SoftWheels$Land" "SoftWheels$Land" "doubtAt" "[LSoftWheels$Doubt;") ∈ lw_all := lw_g (lw_at lw_m5 116 rfl) rfl
theorem q1174 : (Jvm.Cond.soleField "SoftWheels$Land" "doubtAt") ∈ lw_all := lw_g (lw_at lw_m5 117 rfl) rfl
theorem q1175 : (Jvm.Cond.laysFinal "SoftWheels$Land" "SoftWheels$Land" "doubts" "Ljava/util/ArrayList;") ∈ lw_all := lw_g (lw_at lw_m5 118 rfl) rfl
theorem q1176 : (Jvm.Cond.soleField "SoftWheels$Land" "doubts") ∈ lw_all := lw_g (lw_at lw_m5 119 rfl) rfl
theorem q1177 : (Jvm.Cond.laysFinal "SoftWheels$Land" "SoftWheels$Land" "ways" "[LSoftWheels$Way;") ∈ lw_all := lw_g (lw_at lw_m5 120 rfl) rfl
theorem q1178 : (Jvm.Cond.soleField "SoftWheels$Land" "ways") ∈ lw_all := lw_g (lw_at lw_m5 121 rfl) rfl
theorem q1179 : (Jvm.Cond.lays "SoftWheels$Land" "SoftWheels$Land" "need" "I") ∈ lw_all := lw_g (lw_at lw_m5 122 rfl) rfl
theorem q1180 : (Jvm.Cond.soleField "SoftWheels$Land" "need") ∈ lw_all := lw_g (lw_at lw_m5 123 rfl) rfl
theorem q1181 : (Jvm.Cond.lays "SoftWheels$Land" "SoftWheels$Land" "slip" "I") ∈ lw_all := lw_g (lw_at lw_m5 124 rfl) rfl
theorem q1182 : (Jvm.Cond.soleField "SoftWheels$Land" "slip") ∈ lw_all := lw_g (lw_at lw_m5 125 rfl) rfl
theorem q1183 : (Jvm.Cond.lays "SoftWheels$Land" "SoftWheels$Land" "cost" "I") ∈ lw_all := lw_g (lw_at lw_m5 126 rfl) rfl
theorem q1184 : (Jvm.Cond.soleField "SoftWheels$Land" "cost") ∈ lw_all := lw_g (lw_at lw_m5 127 rfl) rfl
theorem q1185 : (Jvm.Cond.superclass "SoftWheels$Land" "java/lang/Object") ∈ lw_all := lw_g (lw_at lw_m5 128 rfl) rfl
theorem q1187 : (Jvm.Cond.instanceMethod ({ cls := "SoftWheels$Land", name := "cells", desc := "()I" } : Jvm.MethodName)) ∈ lw_all := lw_g (lw_at lw_m5 130 rfl) rfl
theorem q1188 : (Jvm.Cond.selects "SoftWheels$Land" ({ cls := "SoftWheels$Land", name := "cells", desc := "()I" } : Jvm.MethodName) ({ cls := "SoftWheels$Land", name := "cells", desc := "()I" } : Jvm.MethodName)) ∈ lw_all := lw_g (lw_at lw_m5 131 rfl) rfl
theorem q1189 : (Jvm.Cond.code ({ cls := "SoftWheels$Land", name := "cells", desc := "()I" } : Jvm.MethodName) prog_11_method_2_code (1 : Nat) (Option.some Jvm.ClassFile.FieldType.int)) ∈ lw_all := lw_g (lw_at lw_m5 132 rfl) rfl
theorem q1214 : (Jvm.Cond.fieldLinkNest "SoftWheels$Land" (62 : Nat) "SoftWheels$Doubt" "number" "I" "SoftWheels") ∈ lw_tbl := lw_at lw_m5 157 rfl
theorem q1221 : (Jvm.Cond.fieldLinkNest "SoftWheels$Land" (77 : Nat) "SoftWheels$Doubt" "known" "I" "SoftWheels") ∈ lw_tbl := lw_at lw_m5 164 rfl
theorem q1261 : (Jvm.Cond.instanceMethod ({ cls := "SoftWheels$Land", name := "why", desc := "(ILSoftWheels$Way;II)I" } : Jvm.MethodName)) ∈ lw_all := lw_g (lw_at lw_m5 204 rfl) rfl
theorem q1262 : (Jvm.Cond.selects "SoftWheels$Land" ({ cls := "SoftWheels$Land", name := "why", desc := "(ILSoftWheels$Way;II)I" } : Jvm.MethodName) ({ cls := "SoftWheels$Land", name := "why", desc := "(ILSoftWheels$Way;II)I" } : Jvm.MethodName)) ∈ lw_all := lw_g (lw_at lw_m5 205 rfl) rfl
theorem q1263 : (Jvm.Cond.code ({ cls := "SoftWheels$Land", name := "why", desc := "(ILSoftWheels$Way;II)I" } : Jvm.MethodName) prog_11_method_7_code (12 : Nat) (Option.some Jvm.ClassFile.FieldType.int)) ∈ lw_all := lw_g (lw_at lw_m5 206 rfl) rfl
theorem q1264 : (Jvm.Cond.methodLink "SoftWheels$Land" (65 : Nat) ({ cls := "SoftWheels$Land", name := "beside", desc := "(ILSoftWheels$Way;)I" } : Jvm.MethodName)) ∈ lw_all := lw_g (lw_at lw_m5 207 rfl) rfl
theorem q1265 : (Jvm.Cond.instanceMethod ({ cls := "SoftWheels$Land", name := "beside", desc := "(ILSoftWheels$Way;)I" } : Jvm.MethodName)) ∈ lw_all := lw_g (lw_at lw_m5 208 rfl) rfl
theorem q1266 : (Jvm.Cond.selects "SoftWheels$Land" ({ cls := "SoftWheels$Land", name := "beside", desc := "(ILSoftWheels$Way;)I" } : Jvm.MethodName) ({ cls := "SoftWheels$Land", name := "beside", desc := "(ILSoftWheels$Way;)I" } : Jvm.MethodName)) ∈ lw_all := lw_g (lw_at lw_m5 209 rfl) rfl
theorem q1267 : (Jvm.Cond.code ({ cls := "SoftWheels$Land", name := "beside", desc := "(ILSoftWheels$Way;)I" } : Jvm.MethodName) prog_11_method_3_code (5 : Nat) (Option.some Jvm.ClassFile.FieldType.int)) ∈ lw_all := lw_g (lw_at lw_m5 210 rfl) rfl
theorem q1268 : (Jvm.Cond.methodLinkNest "SoftWheels$Land" (58 : Nat) ({ cls := "SoftWheels", name := "in", desc := "(III)Z" } : Jvm.MethodName) "SoftWheels") ∈ lw_tbl := lw_at lw_m5 211 rfl
theorem q1269 : (Jvm.Cond.methodLink "SoftWheels$Land" (89 : Nat) ({ cls := "java/lang/Math", name := "abs", desc := "(I)I" } : Jvm.MethodName)) ∈ lw_all := lw_g (lw_at lw_m5 212 rfl) rfl
theorem q1272 : (Jvm.Cond.methodLink "SoftWheels$Land" (73 : Nat) ({ cls := "java/util/ArrayList", name := "get", desc := "(I)Ljava/lang/Object;" } : Jvm.MethodName)) ∈ lw_all := lw_g (lw_at lw_m5 215 rfl) rfl
theorem q1273 : (Jvm.Cond.classLink "SoftWheels$Land" (103 : Nat) "SoftWheels$Ground") ∈ lw_all := lw_g (lw_at lw_m5 216 rfl) rfl
theorem q1274 : (Jvm.Cond.methodLink "SoftWheels$Land" (105 : Nat) ({ cls := "SoftWheels$Book", name := "load", desc := "()I" } : Jvm.MethodName)) ∈ lw_all := lw_g (lw_at lw_m5 217 rfl) rfl
theorem q1278 : (Jvm.Cond.methodLink "SoftWheels$Land" (112 : Nat) ({ cls := "SoftWheels$Line", name := "value", desc := "(I)I" } : Jvm.MethodName)) ∈ lw_all := lw_g (lw_at lw_m5 221 rfl) rfl
theorem q1279 : (Jvm.Cond.methodLink "SoftWheels$Land" (123 : Nat) ({ cls := "java/lang/Math", name := "floorDiv", desc := "(II)I" } : Jvm.MethodName)) ∈ lw_all := lw_g (lw_at lw_m5 222 rfl) rfl
theorem q1280 : (Jvm.Cond.methodLink "SoftWheels$Land" (130 : Nat) ({ cls := "java/lang/Math", name := "max", desc := "(II)I" } : Jvm.MethodName)) ∈ lw_all := lw_g (lw_at lw_m5 223 rfl) rfl
theorem q1316 : (Jvm.Cond.instanceMethod ({ cls := "SoftWheels$Land", name := "sees", desc := "(I)I" } : Jvm.MethodName)) ∈ lw_all := lw_g (lw_at lw_m6 19 rfl) rfl
theorem q1317 : (Jvm.Cond.selects "SoftWheels$Land" ({ cls := "SoftWheels$Land", name := "sees", desc := "(I)I" } : Jvm.MethodName) ({ cls := "SoftWheels$Land", name := "sees", desc := "(I)I" } : Jvm.MethodName)) ∈ lw_all := lw_g (lw_at lw_m6 20 rfl) rfl
theorem q1318 : (Jvm.Cond.code ({ cls := "SoftWheels$Land", name := "sees", desc := "(I)I" } : Jvm.MethodName) prog_11_method_4_code (8 : Nat) (Option.some Jvm.ClassFile.FieldType.int)) ∈ lw_all := lw_g (lw_at lw_m6 21 rfl) rfl
theorem q1452 : (Jvm.Cond.instanceMethod ({ cls := "SoftWheels$Land", name := "open", desc := "()I" } : Jvm.MethodName)) ∈ lw_all := lw_g (lw_at lw_m6 155 rfl) rfl
theorem q1453 : (Jvm.Cond.selects "SoftWheels$Land" ({ cls := "SoftWheels$Land", name := "open", desc := "()I" } : Jvm.MethodName) ({ cls := "SoftWheels$Land", name := "open", desc := "()I" } : Jvm.MethodName)) ∈ lw_all := lw_g (lw_at lw_m6 156 rfl) rfl
theorem q1454 : (Jvm.Cond.code ({ cls := "SoftWheels$Land", name := "open", desc := "()I" } : Jvm.MethodName) prog_11_method_5_code (3 : Nat) (Option.some Jvm.ClassFile.FieldType.int)) ∈ lw_all := lw_g (lw_at lw_m6 157 rfl) rfl
theorem q1455 : (Jvm.Cond.methodLink "SoftWheels$Land" (69 : Nat) ({ cls := "java/util/ArrayList", name := "size", desc := "()I" } : Jvm.MethodName)) ∈ lw_all := lw_g (lw_at lw_m6 158 rfl) rfl
theorem q1466 : (Jvm.Cond.instanceMethod ({ cls := "SoftWheels$Land", name := "truths", desc := "()I" } : Jvm.MethodName)) ∈ lw_all := lw_g (lw_at lw_m6 169 rfl) rfl
theorem q1467 : (Jvm.Cond.selects "SoftWheels$Land" ({ cls := "SoftWheels$Land", name := "truths", desc := "()I" } : Jvm.MethodName) ({ cls := "SoftWheels$Land", name := "truths", desc := "()I" } : Jvm.MethodName)) ∈ lw_all := lw_g (lw_at lw_m6 170 rfl) rfl
theorem q1468 : (Jvm.Cond.code ({ cls := "SoftWheels$Land", name := "truths", desc := "()I" } : Jvm.MethodName) prog_11_method_8_code (3 : Nat) (Option.some Jvm.ClassFile.FieldType.int)) ∈ lw_all := lw_g (lw_at lw_m6 171 rfl) rfl
theorem q1469 : (Jvm.Cond.methodLink "SoftWheels$Land" (139 : Nat) ({ cls := "SoftWheels$Doubt", name := "kinds", desc := "()I" } : Jvm.MethodName)) ∈ lw_all := lw_g (lw_at lw_m6 172 rfl) rfl
theorem q1475 : (Jvm.Cond.instanceMethod ({ cls := "SoftWheels$Land", name := "truth", desc := "(I)[I" } : Jvm.MethodName)) ∈ lw_all := lw_g (lw_at lw_m6 178 rfl) rfl
theorem q1476 : (Jvm.Cond.selects "SoftWheels$Land" ({ cls := "SoftWheels$Land", name := "truth", desc := "(I)[I" } : Jvm.MethodName) ({ cls := "SoftWheels$Land", name := "truth", desc := "(I)[I" } : Jvm.MethodName)) ∈ lw_all := lw_g (lw_at lw_m6 179 rfl) rfl
theorem q1477 : (Jvm.Cond.code ({ cls := "SoftWheels$Land", name := "truth", desc := "(I)[I" } : Jvm.MethodName) prog_11_method_9_code (6 : Nat) (Option.some (Jvm.ClassFile.FieldType.array Jvm.ClassFile.FieldType.int))) ∈ lw_all := lw_g (lw_at lw_m6 180 rfl) rfl
theorem q1478 : (Jvm.Cond.methodLink "SoftWheels$Land" (142 : Nat) ({ cls := "SoftWheels$Doubt", name := "kind", desc := "(I)I" } : Jvm.MethodName)) ∈ lw_all := lw_g (lw_at lw_m6 181 rfl) rfl
theorem q1843 : (Jvm.Cond.instanceMethod ({ cls := "SoftWheels$Land", name := "openOnes", desc := "()I" } : Jvm.MethodName)) ∈ lw_all := lw_g (lw_at lw_m8 66 rfl) rfl
theorem q1844 : (Jvm.Cond.selects "SoftWheels$Land" ({ cls := "SoftWheels$Land", name := "openOnes", desc := "()I" } : Jvm.MethodName) ({ cls := "SoftWheels$Land", name := "openOnes", desc := "()I" } : Jvm.MethodName)) ∈ lw_all := lw_g (lw_at lw_m8 67 rfl) rfl
theorem q1845 : (Jvm.Cond.code ({ cls := "SoftWheels$Land", name := "openOnes", desc := "()I" } : Jvm.MethodName) prog_11_method_6_code (3 : Nat) (Option.some Jvm.ClassFile.FieldType.int)) ∈ lw_all := lw_g (lw_at lw_m8 68 rfl) rfl
theorem q2573 : (Jvm.Cond.castable "SoftWheels$Land" "java/lang/Object") ∈ lw_tbl := lw_at lw_m11 76 rfl
theorem q2593 : (Jvm.Cond.fieldLinkNest "SoftWheels$Land" (52 : Nat) "SoftWheels$Way" "x" "I" "SoftWheels") ∈ lw_tbl := lw_at lw_m11 96 rfl
theorem q2594 : (Jvm.Cond.fieldLinkNest "SoftWheels$Land" (55 : Nat) "SoftWheels$Way" "y" "I" "SoftWheels") ∈ lw_tbl := lw_at lw_m11 97 rfl
theorem in_X14 : ∀ w ∈ wsX140, w ∈ lw_all := lw_in wsX140 [1163, 1165, 1167, 1169, 1171, 1173, 1175, 1177, 1179, 1181, 1183] (by decide +kernel) (by decide +kernel)

/-! SoftWheels$Doubt -/
set_option maxRecDepth 100000
def RX15 : String := "SoftWheels$Doubt"
def TX15 : u_T := fun k => match k with
  | 0 => ("SoftWheels$Doubt", "number", "I", true)
  | 1 => ("SoftWheels$Doubt", "weight", "[I", true)
  | _ => ("SoftWheels$Doubt", "known", "I", false)
def tyX15 : Nat → FieldType := fun k => match k with
  | 0 => .int
  | 1 => .array .int
  | _ => .int
abbrev wsX150 : List Cond := u_ws RX15 TX15 3
theorem nmX15 : ∀ a, a < 3 → ∀ b, b < 3 → a ≠ b → (TX15 a).2.1 ≠ (TX15 b).2.1 := by decide +kernel
theorem tyX15_ok : ∀ k, k < 3 → parseFieldDescriptor (TX15 k).2.2.1 = some (tyX15 k) := by decide +kernel
abbrev cX15_init : ByteArray := prog_5_method_1_code
def yX15_init : MethodName := ⟨RX15, "<init>", "(II)V"⟩
def dkwX15_init_1 : List UInt8 := [180, 0, 9, 28, 4, 79, 177]
abbrev dktX15_init_1 : List UInt8 := dkwX15_init_1 ++ []
def dkwX15_init_0 : List UInt8 := [42, 183, 0, 3, 42, 16, 8, 188, 10, 181, 0, 9, 42, 2, 181, 0, 15, 42, 27, 181, 0, 19, 42]
abbrev dktX15_init_0 : List UInt8 := dkwX15_init_0 ++ dktX15_init_1
theorem dksX15_init_0 : cX15_init.data.toList.drop 0 = dktX15_init_0 := by decide +kernel
theorem dksX15_init_1 : cX15_init.data.toList.drop 23 = dktX15_init_1 := dk_seg dksX15_init_0 23 rfl rfl
theorem dX15_init_0 : decode cX15_init 0 = .ok (.aload_n 0, 1) := dk_42 (dk_at dksX15_init_0 0 rfl rfl)
theorem dX15_init_1 : decode cX15_init 1 = .ok (.invokespecial 3, 3) := dk_183 0 3 (dk_at dksX15_init_0 1 rfl rfl)
theorem dX15_init_4 : decode cX15_init 4 = .ok (.aload_n 0, 1) := dk_42 (dk_at dksX15_init_0 4 rfl rfl)
theorem dX15_init_5 : decode cX15_init 5 = .ok (.bipush 8, 2) := dk_16 8 (dk_at dksX15_init_0 5 rfl rfl)
theorem dX15_init_7 : decode cX15_init 7 = .ok (.newarray .int, 2) := dk_188_10 (dk_at dksX15_init_0 7 rfl rfl)
theorem dX15_init_9 : decode cX15_init 9 = .ok (.putfield 9, 3) := dk_181 0 9 (dk_at dksX15_init_0 9 rfl rfl)
theorem dX15_init_12 : decode cX15_init 12 = .ok (.aload_n 0, 1) := dk_42 (dk_at dksX15_init_0 12 rfl rfl)
theorem dX15_init_13 : decode cX15_init 13 = .ok (.iconst (-1), 1) := dk_2 (dk_at dksX15_init_0 13 rfl rfl)
theorem dX15_init_14 : decode cX15_init 14 = .ok (.putfield 15, 3) := dk_181 0 15 (dk_at dksX15_init_0 14 rfl rfl)
theorem dX15_init_17 : decode cX15_init 17 = .ok (.aload_n 0, 1) := dk_42 (dk_at dksX15_init_0 17 rfl rfl)
theorem dX15_init_18 : decode cX15_init 18 = .ok (.iload_n 1, 1) := dk_27 (dk_at dksX15_init_0 18 rfl rfl)
theorem dX15_init_19 : decode cX15_init 19 = .ok (.putfield 19, 3) := dk_181 0 19 (dk_at dksX15_init_0 19 rfl rfl)
theorem dX15_init_22 : decode cX15_init 22 = .ok (.aload_n 0, 1) := dk_42 (dk_at dksX15_init_0 22 rfl rfl)
theorem dX15_init_23 : decode cX15_init 23 = .ok (.getfield 9, 3) := dk_180 0 9 (dk_at dksX15_init_1 0 rfl rfl)
theorem dX15_init_26 : decode cX15_init 26 = .ok (.iload_n 2, 1) := dk_28 (dk_at dksX15_init_1 3 rfl rfl)
theorem dX15_init_27 : decode cX15_init 27 = .ok (.iconst 1, 1) := dk_4 (dk_at dksX15_init_1 4 rfl rfl)
theorem dX15_init_28 : decode cX15_init 28 = .ok (.iastore, 1) := dk_79 (dk_at dksX15_init_1 5 rfl rfl)
theorem dX15_init_29 : decode cX15_init 29 = .ok (.return_, 1) := dk_177 (dk_at dksX15_init_1 6 rfl rfl)
abbrev cX15_kinds : ByteArray := prog_5_method_2_code
def yX15_kinds : MethodName := ⟨RX15, "kinds", "()I"⟩
def dkwX15_kinds_1 : List UInt8 := [54, 5, 27, 21, 5, 158, 0, 7, 4, 167, 0, 4, 3, 96, 60, 132, 4, 1, 167, 255, 228, 27, 172]
abbrev dktX15_kinds_1 : List UInt8 := dkwX15_kinds_1 ++ []
def dkwX15_kinds_0 : List UInt8 := [3, 60, 42, 180, 0, 9, 77, 44, 190, 62, 3, 54, 4, 21, 4, 29, 162, 0, 28, 44, 21, 4, 46]
abbrev dktX15_kinds_0 : List UInt8 := dkwX15_kinds_0 ++ dktX15_kinds_1
theorem dksX15_kinds_0 : cX15_kinds.data.toList.drop 0 = dktX15_kinds_0 := by decide +kernel
theorem dksX15_kinds_1 : cX15_kinds.data.toList.drop 23 = dktX15_kinds_1 := dk_seg dksX15_kinds_0 23 rfl rfl
theorem dX15_kinds_0 : decode cX15_kinds 0 = .ok (.iconst 0, 1) := dk_3 (dk_at dksX15_kinds_0 0 rfl rfl)
theorem dX15_kinds_1 : decode cX15_kinds 1 = .ok (.istore_n 1, 1) := dk_60 (dk_at dksX15_kinds_0 1 rfl rfl)
theorem dX15_kinds_2 : decode cX15_kinds 2 = .ok (.aload_n 0, 1) := dk_42 (dk_at dksX15_kinds_0 2 rfl rfl)
theorem dX15_kinds_3 : decode cX15_kinds 3 = .ok (.getfield 9, 3) := dk_180 0 9 (dk_at dksX15_kinds_0 3 rfl rfl)
theorem dX15_kinds_6 : decode cX15_kinds 6 = .ok (.astore_n 2, 1) := dk_77 (dk_at dksX15_kinds_0 6 rfl rfl)
theorem dX15_kinds_7 : decode cX15_kinds 7 = .ok (.aload_n 2, 1) := dk_44 (dk_at dksX15_kinds_0 7 rfl rfl)
theorem dX15_kinds_8 : decode cX15_kinds 8 = .ok (.arraylength, 1) := dk_190 (dk_at dksX15_kinds_0 8 rfl rfl)
theorem dX15_kinds_9 : decode cX15_kinds 9 = .ok (.istore_n 3, 1) := dk_62 (dk_at dksX15_kinds_0 9 rfl rfl)
theorem dX15_kinds_10 : decode cX15_kinds 10 = .ok (.iconst 0, 1) := dk_3 (dk_at dksX15_kinds_0 10 rfl rfl)
theorem dX15_kinds_11 : decode cX15_kinds 11 = .ok (.istore 4, 2) := dk_54 4 (dk_at dksX15_kinds_0 11 rfl rfl)
theorem dX15_kinds_13 : decode cX15_kinds 13 = .ok (.iload 4, 2) := dk_21 4 (dk_at dksX15_kinds_0 13 rfl rfl)
theorem dX15_kinds_15 : decode cX15_kinds 15 = .ok (.iload_n 3, 1) := dk_29 (dk_at dksX15_kinds_0 15 rfl rfl)
theorem dX15_kinds_16 : decode cX15_kinds 16 = .ok (.if_icmp .ge 28, 3) := dk_162 0 28 (dk_at dksX15_kinds_0 16 rfl rfl)
theorem dX15_kinds_19 : decode cX15_kinds 19 = .ok (.aload_n 2, 1) := dk_44 (dk_at dksX15_kinds_0 19 rfl rfl)
theorem dX15_kinds_20 : decode cX15_kinds 20 = .ok (.iload 4, 2) := dk_21 4 (dk_at dksX15_kinds_0 20 rfl rfl)
theorem dX15_kinds_22 : decode cX15_kinds 22 = .ok (.iaload, 1) := dk_46 (dk_at dksX15_kinds_0 22 rfl rfl)
theorem dX15_kinds_23 : decode cX15_kinds 23 = .ok (.istore 5, 2) := dk_54 5 (dk_at dksX15_kinds_1 0 rfl rfl)
theorem dX15_kinds_25 : decode cX15_kinds 25 = .ok (.iload_n 1, 1) := dk_27 (dk_at dksX15_kinds_1 2 rfl rfl)
theorem dX15_kinds_26 : decode cX15_kinds 26 = .ok (.iload 5, 2) := dk_21 5 (dk_at dksX15_kinds_1 3 rfl rfl)
theorem dX15_kinds_28 : decode cX15_kinds 28 = .ok (.ifCond .le 7, 3) := dk_158 0 7 (dk_at dksX15_kinds_1 5 rfl rfl)
theorem dX15_kinds_31 : decode cX15_kinds 31 = .ok (.iconst 1, 1) := dk_4 (dk_at dksX15_kinds_1 8 rfl rfl)
theorem dX15_kinds_32 : decode cX15_kinds 32 = .ok (.goto 4, 3) := dk_167 0 4 (dk_at dksX15_kinds_1 9 rfl rfl)
theorem dX15_kinds_35 : decode cX15_kinds 35 = .ok (.iconst 0, 1) := dk_3 (dk_at dksX15_kinds_1 12 rfl rfl)
theorem dX15_kinds_36 : decode cX15_kinds 36 = .ok (.iadd, 1) := dk_96 (dk_at dksX15_kinds_1 13 rfl rfl)
theorem dX15_kinds_37 : decode cX15_kinds 37 = .ok (.istore_n 1, 1) := dk_60 (dk_at dksX15_kinds_1 14 rfl rfl)
theorem dX15_kinds_38 : decode cX15_kinds 38 = .ok (.iinc 4 1, 3) := dk_132 4 1 (dk_at dksX15_kinds_1 15 rfl rfl)
theorem dX15_kinds_41 : decode cX15_kinds 41 = .ok (.goto (-28), 3) := dk_167 255 228 (dk_at dksX15_kinds_1 18 rfl rfl)
theorem dX15_kinds_44 : decode cX15_kinds 44 = .ok (.iload_n 1, 1) := dk_27 (dk_at dksX15_kinds_1 21 rfl rfl)
theorem dX15_kinds_45 : decode cX15_kinds 45 = .ok (.ireturn, 1) := dk_172 (dk_at dksX15_kinds_1 22 rfl rfl)
abbrev cX15_kind : ByteArray := prog_5_method_4_code
def yX15_kind : MethodName := ⟨RX15, "kind", "(I)I"⟩
def dkwX15_kind_1 : List UInt8 := [154, 0, 5, 29, 172, 132, 3, 1, 167, 255, 229, 2, 172]
abbrev dktX15_kind_1 : List UInt8 := dkwX15_kind_1 ++ []
def dkwX15_kind_0 : List UInt8 := [27, 61, 3, 62, 29, 16, 8, 162, 0, 27, 42, 180, 0, 9, 29, 46, 158, 0, 12, 28, 132, 2, 255]
abbrev dktX15_kind_0 : List UInt8 := dkwX15_kind_0 ++ dktX15_kind_1
theorem dksX15_kind_0 : cX15_kind.data.toList.drop 0 = dktX15_kind_0 := by decide +kernel
theorem dksX15_kind_1 : cX15_kind.data.toList.drop 23 = dktX15_kind_1 := dk_seg dksX15_kind_0 23 rfl rfl
theorem dX15_kind_0 : decode cX15_kind 0 = .ok (.iload_n 1, 1) := dk_27 (dk_at dksX15_kind_0 0 rfl rfl)
theorem dX15_kind_1 : decode cX15_kind 1 = .ok (.istore_n 2, 1) := dk_61 (dk_at dksX15_kind_0 1 rfl rfl)
theorem dX15_kind_2 : decode cX15_kind 2 = .ok (.iconst 0, 1) := dk_3 (dk_at dksX15_kind_0 2 rfl rfl)
theorem dX15_kind_3 : decode cX15_kind 3 = .ok (.istore_n 3, 1) := dk_62 (dk_at dksX15_kind_0 3 rfl rfl)
theorem dX15_kind_4 : decode cX15_kind 4 = .ok (.iload_n 3, 1) := dk_29 (dk_at dksX15_kind_0 4 rfl rfl)
theorem dX15_kind_5 : decode cX15_kind 5 = .ok (.bipush 8, 2) := dk_16 8 (dk_at dksX15_kind_0 5 rfl rfl)
theorem dX15_kind_7 : decode cX15_kind 7 = .ok (.if_icmp .ge 27, 3) := dk_162 0 27 (dk_at dksX15_kind_0 7 rfl rfl)
theorem dX15_kind_10 : decode cX15_kind 10 = .ok (.aload_n 0, 1) := dk_42 (dk_at dksX15_kind_0 10 rfl rfl)
theorem dX15_kind_11 : decode cX15_kind 11 = .ok (.getfield 9, 3) := dk_180 0 9 (dk_at dksX15_kind_0 11 rfl rfl)
theorem dX15_kind_14 : decode cX15_kind 14 = .ok (.iload_n 3, 1) := dk_29 (dk_at dksX15_kind_0 14 rfl rfl)
theorem dX15_kind_15 : decode cX15_kind 15 = .ok (.iaload, 1) := dk_46 (dk_at dksX15_kind_0 15 rfl rfl)
theorem dX15_kind_16 : decode cX15_kind 16 = .ok (.ifCond .le 12, 3) := dk_158 0 12 (dk_at dksX15_kind_0 16 rfl rfl)
theorem dX15_kind_19 : decode cX15_kind 19 = .ok (.iload_n 2, 1) := dk_28 (dk_at dksX15_kind_0 19 rfl rfl)
theorem dX15_kind_20 : decode cX15_kind 20 = .ok (.iinc 2 (-1), 3) := dk_132 2 255 (dk_at dksX15_kind_0 20 rfl rfl)
theorem dX15_kind_23 : decode cX15_kind 23 = .ok (.ifCond .ne 5, 3) := dk_154 0 5 (dk_at dksX15_kind_1 0 rfl rfl)
theorem dX15_kind_26 : decode cX15_kind 26 = .ok (.iload_n 3, 1) := dk_29 (dk_at dksX15_kind_1 3 rfl rfl)
theorem dX15_kind_27 : decode cX15_kind 27 = .ok (.ireturn, 1) := dk_172 (dk_at dksX15_kind_1 4 rfl rfl)
theorem dX15_kind_28 : decode cX15_kind 28 = .ok (.iinc 3 1, 3) := dk_132 3 1 (dk_at dksX15_kind_1 5 rfl rfl)
theorem dX15_kind_31 : decode cX15_kind 31 = .ok (.goto (-27), 3) := dk_167 255 229 (dk_at dksX15_kind_1 8 rfl rfl)
theorem dX15_kind_34 : decode cX15_kind 34 = .ok (.iconst (-1), 1) := dk_2 (dk_at dksX15_kind_1 11 rfl rfl)
theorem dX15_kind_35 : decode cX15_kind 35 = .ok (.ireturn, 1) := dk_172 (dk_at dksX15_kind_1 12 rfl rfl)
abbrev cX15_all : ByteArray := prog_5_method_3_code
def yX15_all : MethodName := ⟨RX15, "all", "()I"⟩
def dkwX15_all_1 : List UInt8 := [54, 5, 27, 21, 5, 96, 60, 132, 4, 1, 167, 255, 236, 27, 172]
abbrev dktX15_all_1 : List UInt8 := dkwX15_all_1 ++ []
def dkwX15_all_0 : List UInt8 := [3, 60, 42, 180, 0, 9, 77, 44, 190, 62, 3, 54, 4, 21, 4, 29, 162, 0, 20, 44, 21, 4, 46]
abbrev dktX15_all_0 : List UInt8 := dkwX15_all_0 ++ dktX15_all_1
theorem dksX15_all_0 : cX15_all.data.toList.drop 0 = dktX15_all_0 := by decide +kernel
theorem dksX15_all_1 : cX15_all.data.toList.drop 23 = dktX15_all_1 := dk_seg dksX15_all_0 23 rfl rfl
theorem dX15_all_0 : decode cX15_all 0 = .ok (.iconst 0, 1) := dk_3 (dk_at dksX15_all_0 0 rfl rfl)
theorem dX15_all_1 : decode cX15_all 1 = .ok (.istore_n 1, 1) := dk_60 (dk_at dksX15_all_0 1 rfl rfl)
theorem dX15_all_2 : decode cX15_all 2 = .ok (.aload_n 0, 1) := dk_42 (dk_at dksX15_all_0 2 rfl rfl)
theorem dX15_all_3 : decode cX15_all 3 = .ok (.getfield 9, 3) := dk_180 0 9 (dk_at dksX15_all_0 3 rfl rfl)
theorem dX15_all_6 : decode cX15_all 6 = .ok (.astore_n 2, 1) := dk_77 (dk_at dksX15_all_0 6 rfl rfl)
theorem dX15_all_7 : decode cX15_all 7 = .ok (.aload_n 2, 1) := dk_44 (dk_at dksX15_all_0 7 rfl rfl)
theorem dX15_all_8 : decode cX15_all 8 = .ok (.arraylength, 1) := dk_190 (dk_at dksX15_all_0 8 rfl rfl)
theorem dX15_all_9 : decode cX15_all 9 = .ok (.istore_n 3, 1) := dk_62 (dk_at dksX15_all_0 9 rfl rfl)
theorem dX15_all_10 : decode cX15_all 10 = .ok (.iconst 0, 1) := dk_3 (dk_at dksX15_all_0 10 rfl rfl)
theorem dX15_all_11 : decode cX15_all 11 = .ok (.istore 4, 2) := dk_54 4 (dk_at dksX15_all_0 11 rfl rfl)
theorem dX15_all_13 : decode cX15_all 13 = .ok (.iload 4, 2) := dk_21 4 (dk_at dksX15_all_0 13 rfl rfl)
theorem dX15_all_15 : decode cX15_all 15 = .ok (.iload_n 3, 1) := dk_29 (dk_at dksX15_all_0 15 rfl rfl)
theorem dX15_all_16 : decode cX15_all 16 = .ok (.if_icmp .ge 20, 3) := dk_162 0 20 (dk_at dksX15_all_0 16 rfl rfl)
theorem dX15_all_19 : decode cX15_all 19 = .ok (.aload_n 2, 1) := dk_44 (dk_at dksX15_all_0 19 rfl rfl)
theorem dX15_all_20 : decode cX15_all 20 = .ok (.iload 4, 2) := dk_21 4 (dk_at dksX15_all_0 20 rfl rfl)
theorem dX15_all_22 : decode cX15_all 22 = .ok (.iaload, 1) := dk_46 (dk_at dksX15_all_0 22 rfl rfl)
theorem dX15_all_23 : decode cX15_all 23 = .ok (.istore 5, 2) := dk_54 5 (dk_at dksX15_all_1 0 rfl rfl)
theorem dX15_all_25 : decode cX15_all 25 = .ok (.iload_n 1, 1) := dk_27 (dk_at dksX15_all_1 2 rfl rfl)
theorem dX15_all_26 : decode cX15_all 26 = .ok (.iload 5, 2) := dk_21 5 (dk_at dksX15_all_1 3 rfl rfl)
theorem dX15_all_28 : decode cX15_all 28 = .ok (.iadd, 1) := dk_96 (dk_at dksX15_all_1 5 rfl rfl)
theorem dX15_all_29 : decode cX15_all 29 = .ok (.istore_n 1, 1) := dk_60 (dk_at dksX15_all_1 6 rfl rfl)
theorem dX15_all_30 : decode cX15_all 30 = .ok (.iinc 4 1, 3) := dk_132 4 1 (dk_at dksX15_all_1 7 rfl rfl)
theorem dX15_all_33 : decode cX15_all 33 = .ok (.goto (-20), 3) := dk_167 255 236 (dk_at dksX15_all_1 10 rfl rfl)
theorem dX15_all_36 : decode cX15_all 36 = .ok (.iload_n 1, 1) := dk_27 (dk_at dksX15_all_1 13 rfl rfl)
theorem dX15_all_37 : decode cX15_all 37 = .ok (.ireturn, 1) := dk_172 (dk_at dksX15_all_1 14 rfl rfl)
theorem q132 : (Jvm.Cond.initialized "SoftWheels$Doubt") ∈ lw_all := lw_g (lw_at lw_m1 35 rfl) rfl
theorem q960 : (Jvm.Cond.selects "SoftWheels$Doubt" ({ cls := "java/lang/Object", name := "getClass", desc := "()Ljava/lang/Class;" } : Jvm.MethodName) ({ cls := "java/lang/Object", name := "getClass", desc := "()Ljava/lang/Class;" } : Jvm.MethodName)) ∈ lw_all := lw_g (lw_at lw_m4 143 rfl) rfl
theorem q1207 : (Jvm.Cond.instantiable "SoftWheels$Doubt" (3 : Nat)) ∈ lw_all := lw_g (lw_at lw_m5 150 rfl) rfl
theorem q1209 : (Jvm.Cond.instanceMethod ({ cls := "SoftWheels$Doubt", name := "<init>", desc := "(II)V" } : Jvm.MethodName)) ∈ lw_all := lw_g (lw_at lw_m5 152 rfl) rfl
theorem q1210 : (Jvm.Cond.code ({ cls := "SoftWheels$Doubt", name := "<init>", desc := "(II)V" } : Jvm.MethodName) prog_5_method_1_code (3 : Nat) (Option.none : Option Jvm.ClassFile.FieldType)) ∈ lw_all := lw_g (lw_at lw_m5 153 rfl) rfl
theorem q1211 : (Jvm.Cond.methodLink "SoftWheels$Doubt" (3 : Nat) ({ cls := "java/lang/Object", name := "<init>", desc := "()V" } : Jvm.MethodName)) ∈ lw_all := lw_g (lw_at lw_m5 154 rfl) rfl
theorem q1212 : (Jvm.Cond.fieldLink "SoftWheels$Doubt" (19 : Nat) "SoftWheels$Doubt" "number" "I") ∈ lw_all := lw_g (lw_at lw_m5 155 rfl) rfl
theorem q1217 : (Jvm.Cond.fieldLink "SoftWheels$Doubt" (9 : Nat) "SoftWheels$Doubt" "weight" "[I") ∈ lw_all := lw_g (lw_at lw_m5 160 rfl) rfl
theorem q1220 : (Jvm.Cond.fieldLink "SoftWheels$Doubt" (15 : Nat) "SoftWheels$Doubt" "known" "I") ∈ lw_all := lw_g (lw_at lw_m5 163 rfl) rfl
theorem q1224 : (Jvm.Cond.laysFinal "SoftWheels$Doubt" "SoftWheels$Doubt" "number" "I") ∈ lw_all := lw_g (lw_at lw_m5 167 rfl) rfl
theorem q1225 : (Jvm.Cond.soleField "SoftWheels$Doubt" "number") ∈ lw_all := lw_g (lw_at lw_m5 168 rfl) rfl
theorem q1226 : (Jvm.Cond.laysFinal "SoftWheels$Doubt" "SoftWheels$Doubt" "weight" "[I") ∈ lw_all := lw_g (lw_at lw_m5 169 rfl) rfl
theorem q1227 : (Jvm.Cond.soleField "SoftWheels$Doubt" "weight") ∈ lw_all := lw_g (lw_at lw_m5 170 rfl) rfl
theorem q1228 : (Jvm.Cond.lays "SoftWheels$Doubt" "SoftWheels$Doubt" "known" "I") ∈ lw_all := lw_g (lw_at lw_m5 171 rfl) rfl
theorem q1229 : (Jvm.Cond.soleField "SoftWheels$Doubt" "known") ∈ lw_all := lw_g (lw_at lw_m5 172 rfl) rfl
theorem q1230 : (Jvm.Cond.superclass "SoftWheels$Doubt" "java/lang/Object") ∈ lw_all := lw_g (lw_at lw_m5 173 rfl) rfl
theorem q1241 : (Jvm.Cond.instanceMethod ({ cls := "SoftWheels$Doubt", name := "kinds", desc := "()I" } : Jvm.MethodName)) ∈ lw_all := lw_g (lw_at lw_m5 184 rfl) rfl
theorem q1242 : (Jvm.Cond.selects "SoftWheels$Doubt" ({ cls := "SoftWheels$Doubt", name := "kinds", desc := "()I" } : Jvm.MethodName) ({ cls := "SoftWheels$Doubt", name := "kinds", desc := "()I" } : Jvm.MethodName)) ∈ lw_all := lw_g (lw_at lw_m5 185 rfl) rfl
theorem q1243 : (Jvm.Cond.code ({ cls := "SoftWheels$Doubt", name := "kinds", desc := "()I" } : Jvm.MethodName) prog_5_method_2_code (6 : Nat) (Option.some Jvm.ClassFile.FieldType.int)) ∈ lw_all := lw_g (lw_at lw_m5 186 rfl) rfl
theorem q1341 : (Jvm.Cond.instanceMethod ({ cls := "SoftWheels$Doubt", name := "kind", desc := "(I)I" } : Jvm.MethodName)) ∈ lw_all := lw_g (lw_at lw_m6 44 rfl) rfl
theorem q1342 : (Jvm.Cond.selects "SoftWheels$Doubt" ({ cls := "SoftWheels$Doubt", name := "kind", desc := "(I)I" } : Jvm.MethodName) ({ cls := "SoftWheels$Doubt", name := "kind", desc := "(I)I" } : Jvm.MethodName)) ∈ lw_all := lw_g (lw_at lw_m6 45 rfl) rfl
theorem q1343 : (Jvm.Cond.code ({ cls := "SoftWheels$Doubt", name := "kind", desc := "(I)I" } : Jvm.MethodName) prog_5_method_4_code (4 : Nat) (Option.some Jvm.ClassFile.FieldType.int)) ∈ lw_all := lw_g (lw_at lw_m6 46 rfl) rfl
theorem q1395 : (Jvm.Cond.instanceMethod ({ cls := "SoftWheels$Doubt", name := "all", desc := "()I" } : Jvm.MethodName)) ∈ lw_all := lw_g (lw_at lw_m6 98 rfl) rfl
theorem q1396 : (Jvm.Cond.selects "SoftWheels$Doubt" ({ cls := "SoftWheels$Doubt", name := "all", desc := "()I" } : Jvm.MethodName) ({ cls := "SoftWheels$Doubt", name := "all", desc := "()I" } : Jvm.MethodName)) ∈ lw_all := lw_g (lw_at lw_m6 99 rfl) rfl
theorem q1397 : (Jvm.Cond.code ({ cls := "SoftWheels$Doubt", name := "all", desc := "()I" } : Jvm.MethodName) prog_5_method_3_code (6 : Nat) (Option.some Jvm.ClassFile.FieldType.int)) ∈ lw_all := lw_g (lw_at lw_m6 100 rfl) rfl
theorem q2555 : (Jvm.Cond.castable "SoftWheels$Doubt" "java/lang/Object") ∈ lw_tbl := lw_at lw_m11 58 rfl
theorem in_X15 : ∀ w ∈ wsX150, w ∈ lw_all := lw_in wsX150 [1224, 1226, 1228] (by decide +kernel) (by decide +kernel)

/-! SoftWheels$Mean -/
set_option maxRecDepth 100000
def RX16 : String := "SoftWheels$Mean"
abbrev cX16_init : ByteArray := prog_13_method_1_code
def yX16_init : MethodName := ⟨RX16, "<init>", "()V"⟩
theorem dX16_init_0 : decode cX16_init 0 = .ok (.aload_n 0, 1) := by decide +kernel
theorem dX16_init_1 : decode cX16_init 1 = .ok (.invokespecial 3, 3) := by decide +kernel
theorem dX16_init_4 : decode cX16_init 4 = .ok (.return_, 1) := by decide +kernel
abbrev cX16_join : ByteArray := prog_13_method_2_code
def yX16_join : MethodName := ⟨RX16, "join", "(JJI)J"⟩
def dkwX16_join_1 : List UInt8 := [21, 5, 133, 33, 105, 97, 173]
abbrev dktX16_join_1 : List UInt8 := dkwX16_join_1 ++ []
def dkwX16_join_0 : List UInt8 := [31, 20, 0, 9, 148, 153, 0, 11, 33, 20, 0, 9, 148, 154, 0, 9, 20, 0, 9, 167, 0, 10, 31]
abbrev dktX16_join_0 : List UInt8 := dkwX16_join_0 ++ dktX16_join_1
theorem dksX16_join_0 : cX16_join.data.toList.drop 0 = dktX16_join_0 := by decide +kernel
theorem dksX16_join_1 : cX16_join.data.toList.drop 23 = dktX16_join_1 := dk_seg dksX16_join_0 23 rfl rfl
theorem dX16_join_0 : decode cX16_join 0 = .ok (.lload_n 1, 1) := dk_31 (dk_at dksX16_join_0 0 rfl rfl)
theorem dX16_join_1 : decode cX16_join 1 = .ok (.ldc2_w 9, 3) := dk_20 0 9 (dk_at dksX16_join_0 1 rfl rfl)
theorem dX16_join_4 : decode cX16_join 4 = .ok (.lcmp, 1) := dk_148 (dk_at dksX16_join_0 4 rfl rfl)
theorem dX16_join_5 : decode cX16_join 5 = .ok (.ifCond .eq 11, 3) := dk_153 0 11 (dk_at dksX16_join_0 5 rfl rfl)
theorem dX16_join_8 : decode cX16_join 8 = .ok (.lload_n 3, 1) := dk_33 (dk_at dksX16_join_0 8 rfl rfl)
theorem dX16_join_9 : decode cX16_join 9 = .ok (.ldc2_w 9, 3) := dk_20 0 9 (dk_at dksX16_join_0 9 rfl rfl)
theorem dX16_join_12 : decode cX16_join 12 = .ok (.lcmp, 1) := dk_148 (dk_at dksX16_join_0 12 rfl rfl)
theorem dX16_join_13 : decode cX16_join 13 = .ok (.ifCond .ne 9, 3) := dk_154 0 9 (dk_at dksX16_join_0 13 rfl rfl)
theorem dX16_join_16 : decode cX16_join 16 = .ok (.ldc2_w 9, 3) := dk_20 0 9 (dk_at dksX16_join_0 16 rfl rfl)
theorem dX16_join_19 : decode cX16_join 19 = .ok (.goto 10, 3) := dk_167 0 10 (dk_at dksX16_join_0 19 rfl rfl)
theorem dX16_join_22 : decode cX16_join 22 = .ok (.lload_n 1, 1) := dk_31 (dk_at dksX16_join_0 22 rfl rfl)
theorem dX16_join_23 : decode cX16_join 23 = .ok (.iload 5, 2) := dk_21 5 (dk_at dksX16_join_1 0 rfl rfl)
theorem dX16_join_25 : decode cX16_join 25 = .ok (.i2l, 1) := dk_133 (dk_at dksX16_join_1 2 rfl rfl)
theorem dX16_join_26 : decode cX16_join 26 = .ok (.lload_n 3, 1) := dk_33 (dk_at dksX16_join_1 3 rfl rfl)
theorem dX16_join_27 : decode cX16_join 27 = .ok (.lmul, 1) := dk_105 (dk_at dksX16_join_1 4 rfl rfl)
theorem dX16_join_28 : decode cX16_join 28 = .ok (.ladd, 1) := dk_97 (dk_at dksX16_join_1 5 rfl rfl)
theorem dX16_join_29 : decode cX16_join 29 = .ok (.lreturn, 1) := dk_173 (dk_at dksX16_join_1 6 rfl rfl)
abbrev cX16_parts : ByteArray := prog_13_method_3_code
def yX16_parts : MethodName := ⟨RX16, "parts", "(JJ)J"⟩
def dkwX16_parts_0 : List UInt8 := [31, 33, 105, 173]
abbrev dktX16_parts_0 : List UInt8 := dkwX16_parts_0 ++ []
theorem dksX16_parts_0 : cX16_parts.data.toList.drop 0 = dktX16_parts_0 := by decide +kernel
theorem dX16_parts_0 : decode cX16_parts 0 = .ok (.lload_n 1, 1) := dk_31 (dk_at dksX16_parts_0 0 rfl rfl)
theorem dX16_parts_1 : decode cX16_parts 1 = .ok (.lload_n 3, 1) := dk_33 (dk_at dksX16_parts_0 1 rfl rfl)
theorem dX16_parts_2 : decode cX16_parts 2 = .ok (.lmul, 1) := dk_105 (dk_at dksX16_parts_0 2 rfl rfl)
theorem dX16_parts_3 : decode cX16_parts 3 = .ok (.lreturn, 1) := dk_173 (dk_at dksX16_parts_0 3 rfl rfl)
theorem q133 : (Jvm.Cond.initialized "SoftWheels$Mean") ∈ lw_all := lw_g (lw_at lw_m1 36 rfl) rfl
theorem q967 : (Jvm.Cond.selects "SoftWheels$Mean" ({ cls := "java/lang/Object", name := "getClass", desc := "()Ljava/lang/Class;" } : Jvm.MethodName) ({ cls := "java/lang/Object", name := "getClass", desc := "()Ljava/lang/Class;" } : Jvm.MethodName)) ∈ lw_all := lw_g (lw_at lw_m4 150 rfl) rfl
theorem q1294 : (Jvm.Cond.instantiable "SoftWheels$Mean" (0 : Nat)) ∈ lw_all := lw_g (lw_at lw_m5 237 rfl) rfl
theorem q1296 : (Jvm.Cond.instanceMethod ({ cls := "SoftWheels$Mean", name := "<init>", desc := "()V" } : Jvm.MethodName)) ∈ lw_all := lw_g (lw_at lw_m5 239 rfl) rfl
theorem q1297 : (Jvm.Cond.code ({ cls := "SoftWheels$Mean", name := "<init>", desc := "()V" } : Jvm.MethodName) prog_13_method_1_code (1 : Nat) (Option.none : Option Jvm.ClassFile.FieldType)) ∈ lw_all := lw_g (lw_at lw_m6 0 rfl) rfl
theorem q1298 : (Jvm.Cond.methodLink "SoftWheels$Mean" (3 : Nat) ({ cls := "java/lang/Record", name := "<init>", desc := "()V" } : Jvm.MethodName)) ∈ lw_all := lw_g (lw_at lw_m6 1 rfl) rfl
theorem q1299 : (Jvm.Cond.superclass "SoftWheels$Mean" "java/lang/Record") ∈ lw_all := lw_g (lw_at lw_m6 2 rfl) rfl
theorem q1372 : (Jvm.Cond.castable "SoftWheels$Mean" "SoftWheels$Judge") ∈ lw_tbl := lw_at lw_m6 75 rfl
theorem q1373 : (Jvm.Cond.selects "SoftWheels$Mean" ({ cls := "SoftWheels$Judge", name := "join", desc := "(JJI)J" } : Jvm.MethodName) ({ cls := "SoftWheels$Mean", name := "join", desc := "(JJI)J" } : Jvm.MethodName)) ∈ lw_all := lw_g (lw_at lw_m6 76 rfl) rfl
theorem q1374 : (Jvm.Cond.unhidden "SoftWheels$Mean" "join" "(JJI)J") ∈ lw_tbl := lw_at lw_m6 77 rfl
theorem q1375 : (Jvm.Cond.instanceMethod ({ cls := "SoftWheels$Mean", name := "join", desc := "(JJI)J" } : Jvm.MethodName)) ∈ lw_all := lw_g (lw_at lw_m6 78 rfl) rfl
theorem q1376 : (Jvm.Cond.publicMethod ({ cls := "SoftWheels$Mean", name := "join", desc := "(JJI)J" } : Jvm.MethodName)) ∈ lw_tbl := lw_at lw_m6 79 rfl
theorem q1377 : (Jvm.Cond.code ({ cls := "SoftWheels$Mean", name := "join", desc := "(JJI)J" } : Jvm.MethodName) prog_13_method_2_code (6 : Nat) (Option.some Jvm.ClassFile.FieldType.long)) ∈ lw_all := lw_g (lw_at lw_m6 80 rfl) rfl
theorem q1378 : (Jvm.Cond.constantLong "SoftWheels$Mean" (9 : Nat) (9223372036854775807 : Int64)) ∈ lw_all := lw_g (lw_at lw_m6 81 rfl) rfl
theorem q1411 : (Jvm.Cond.selects "SoftWheels$Mean" ({ cls := "SoftWheels$Judge", name := "parts", desc := "(JJ)J" } : Jvm.MethodName) ({ cls := "SoftWheels$Mean", name := "parts", desc := "(JJ)J" } : Jvm.MethodName)) ∈ lw_all := lw_g (lw_at lw_m6 114 rfl) rfl
theorem q1412 : (Jvm.Cond.unhidden "SoftWheels$Mean" "parts" "(JJ)J") ∈ lw_tbl := lw_at lw_m6 115 rfl
theorem q1413 : (Jvm.Cond.instanceMethod ({ cls := "SoftWheels$Mean", name := "parts", desc := "(JJ)J" } : Jvm.MethodName)) ∈ lw_all := lw_g (lw_at lw_m6 116 rfl) rfl
theorem q1414 : (Jvm.Cond.publicMethod ({ cls := "SoftWheels$Mean", name := "parts", desc := "(JJ)J" } : Jvm.MethodName)) ∈ lw_tbl := lw_at lw_m6 117 rfl
theorem q1415 : (Jvm.Cond.code ({ cls := "SoftWheels$Mean", name := "parts", desc := "(JJ)J" } : Jvm.MethodName) prog_13_method_3_code (5 : Nat) (Option.some Jvm.ClassFile.FieldType.long)) ∈ lw_all := lw_g (lw_at lw_m6 118 rfl) rfl
theorem q2574 : (Jvm.Cond.castable "SoftWheels$Mean" "java/lang/Object") ∈ lw_tbl := lw_at lw_m11 77 rfl

/-! SoftWheels$Worst -/
set_option maxRecDepth 100000
def RX17 : String := "SoftWheels$Worst"
abbrev cX17_init : ByteArray := prog_21_method_1_code
def yX17_init : MethodName := ⟨RX17, "<init>", "()V"⟩
theorem dX17_init_0 : decode cX17_init 0 = .ok (.aload_n 0, 1) := by decide +kernel
theorem dX17_init_1 : decode cX17_init 1 = .ok (.invokespecial 3, 3) := by decide +kernel
theorem dX17_init_4 : decode cX17_init 4 = .ok (.return_, 1) := by decide +kernel
abbrev cX17_join : ByteArray := prog_21_method_2_code
def yX17_join : MethodName := ⟨RX17, "join", "(JJI)J"⟩
def dkwX17_join_1 : List UInt8 := [184, 0, 11, 173]
abbrev dktX17_join_1 : List UInt8 := dkwX17_join_1 ++ []
def dkwX17_join_0 : List UInt8 := [31, 20, 0, 9, 148, 153, 0, 11, 33, 20, 0, 9, 148, 154, 0, 9, 20, 0, 9, 167, 0, 8, 31, 33]
abbrev dktX17_join_0 : List UInt8 := dkwX17_join_0 ++ dktX17_join_1
theorem dksX17_join_0 : cX17_join.data.toList.drop 0 = dktX17_join_0 := by decide +kernel
theorem dksX17_join_1 : cX17_join.data.toList.drop 24 = dktX17_join_1 := dk_seg dksX17_join_0 24 rfl rfl
theorem dX17_join_0 : decode cX17_join 0 = .ok (.lload_n 1, 1) := dk_31 (dk_at dksX17_join_0 0 rfl rfl)
theorem dX17_join_1 : decode cX17_join 1 = .ok (.ldc2_w 9, 3) := dk_20 0 9 (dk_at dksX17_join_0 1 rfl rfl)
theorem dX17_join_4 : decode cX17_join 4 = .ok (.lcmp, 1) := dk_148 (dk_at dksX17_join_0 4 rfl rfl)
theorem dX17_join_5 : decode cX17_join 5 = .ok (.ifCond .eq 11, 3) := dk_153 0 11 (dk_at dksX17_join_0 5 rfl rfl)
theorem dX17_join_8 : decode cX17_join 8 = .ok (.lload_n 3, 1) := dk_33 (dk_at dksX17_join_0 8 rfl rfl)
theorem dX17_join_9 : decode cX17_join 9 = .ok (.ldc2_w 9, 3) := dk_20 0 9 (dk_at dksX17_join_0 9 rfl rfl)
theorem dX17_join_12 : decode cX17_join 12 = .ok (.lcmp, 1) := dk_148 (dk_at dksX17_join_0 12 rfl rfl)
theorem dX17_join_13 : decode cX17_join 13 = .ok (.ifCond .ne 9, 3) := dk_154 0 9 (dk_at dksX17_join_0 13 rfl rfl)
theorem dX17_join_16 : decode cX17_join 16 = .ok (.ldc2_w 9, 3) := dk_20 0 9 (dk_at dksX17_join_0 16 rfl rfl)
theorem dX17_join_19 : decode cX17_join 19 = .ok (.goto 8, 3) := dk_167 0 8 (dk_at dksX17_join_0 19 rfl rfl)
theorem dX17_join_22 : decode cX17_join 22 = .ok (.lload_n 1, 1) := dk_31 (dk_at dksX17_join_0 22 rfl rfl)
theorem dX17_join_23 : decode cX17_join 23 = .ok (.lload_n 3, 1) := dk_33 (dk_at dksX17_join_0 23 rfl rfl)
theorem dX17_join_24 : decode cX17_join 24 = .ok (.invokestatic 11, 3) := dk_184 0 11 (dk_at dksX17_join_1 0 rfl rfl)
theorem dX17_join_27 : decode cX17_join 27 = .ok (.lreturn, 1) := dk_173 (dk_at dksX17_join_1 3 rfl rfl)
abbrev cX17_parts : ByteArray := prog_21_method_3_code
def yX17_parts : MethodName := ⟨RX17, "parts", "(JJ)J"⟩
theorem dX17_parts_0 : decode cX17_parts 0 = .ok (.lload_n 1, 1) := by decide +kernel
theorem dX17_parts_1 : decode cX17_parts 1 = .ok (.lreturn, 1) := by decide +kernel
theorem q134 : (Jvm.Cond.initialized "SoftWheels$Worst") ∈ lw_all := lw_g (lw_at lw_m1 37 rfl) rfl
theorem q975 : (Jvm.Cond.selects "SoftWheels$Worst" ({ cls := "java/lang/Object", name := "getClass", desc := "()Ljava/lang/Class;" } : Jvm.MethodName) ({ cls := "java/lang/Object", name := "getClass", desc := "()Ljava/lang/Class;" } : Jvm.MethodName)) ∈ lw_all := lw_g (lw_at lw_m4 158 rfl) rfl
theorem q1301 : (Jvm.Cond.instantiable "SoftWheels$Worst" (0 : Nat)) ∈ lw_all := lw_g (lw_at lw_m6 4 rfl) rfl
theorem q1303 : (Jvm.Cond.instanceMethod ({ cls := "SoftWheels$Worst", name := "<init>", desc := "()V" } : Jvm.MethodName)) ∈ lw_all := lw_g (lw_at lw_m6 6 rfl) rfl
theorem q1304 : (Jvm.Cond.code ({ cls := "SoftWheels$Worst", name := "<init>", desc := "()V" } : Jvm.MethodName) prog_21_method_1_code (1 : Nat) (Option.none : Option Jvm.ClassFile.FieldType)) ∈ lw_all := lw_g (lw_at lw_m6 7 rfl) rfl
theorem q1305 : (Jvm.Cond.methodLink "SoftWheels$Worst" (3 : Nat) ({ cls := "java/lang/Record", name := "<init>", desc := "()V" } : Jvm.MethodName)) ∈ lw_all := lw_g (lw_at lw_m6 8 rfl) rfl
theorem q1306 : (Jvm.Cond.superclass "SoftWheels$Worst" "java/lang/Record") ∈ lw_all := lw_g (lw_at lw_m6 9 rfl) rfl
theorem q1379 : (Jvm.Cond.castable "SoftWheels$Worst" "SoftWheels$Judge") ∈ lw_tbl := lw_at lw_m6 82 rfl
theorem q1380 : (Jvm.Cond.selects "SoftWheels$Worst" ({ cls := "SoftWheels$Judge", name := "join", desc := "(JJI)J" } : Jvm.MethodName) ({ cls := "SoftWheels$Worst", name := "join", desc := "(JJI)J" } : Jvm.MethodName)) ∈ lw_all := lw_g (lw_at lw_m6 83 rfl) rfl
theorem q1381 : (Jvm.Cond.unhidden "SoftWheels$Worst" "join" "(JJI)J") ∈ lw_tbl := lw_at lw_m6 84 rfl
theorem q1382 : (Jvm.Cond.instanceMethod ({ cls := "SoftWheels$Worst", name := "join", desc := "(JJI)J" } : Jvm.MethodName)) ∈ lw_all := lw_g (lw_at lw_m6 85 rfl) rfl
theorem q1383 : (Jvm.Cond.publicMethod ({ cls := "SoftWheels$Worst", name := "join", desc := "(JJI)J" } : Jvm.MethodName)) ∈ lw_tbl := lw_at lw_m6 86 rfl
theorem q1384 : (Jvm.Cond.code ({ cls := "SoftWheels$Worst", name := "join", desc := "(JJI)J" } : Jvm.MethodName) prog_21_method_2_code (6 : Nat) (Option.some Jvm.ClassFile.FieldType.long)) ∈ lw_all := lw_g (lw_at lw_m6 87 rfl) rfl
theorem q1385 : (Jvm.Cond.constantLong "SoftWheels$Worst" (9 : Nat) (9223372036854775807 : Int64)) ∈ lw_all := lw_g (lw_at lw_m6 88 rfl) rfl
theorem q1386 : (Jvm.Cond.methodLink "SoftWheels$Worst" (11 : Nat) ({ cls := "java/lang/Math", name := "max", desc := "(JJ)J" } : Jvm.MethodName)) ∈ lw_all := lw_g (lw_at lw_m6 89 rfl) rfl
theorem q1416 : (Jvm.Cond.selects "SoftWheels$Worst" ({ cls := "SoftWheels$Judge", name := "parts", desc := "(JJ)J" } : Jvm.MethodName) ({ cls := "SoftWheels$Worst", name := "parts", desc := "(JJ)J" } : Jvm.MethodName)) ∈ lw_all := lw_g (lw_at lw_m6 119 rfl) rfl
theorem q1417 : (Jvm.Cond.unhidden "SoftWheels$Worst" "parts" "(JJ)J") ∈ lw_tbl := lw_at lw_m6 120 rfl
theorem q1418 : (Jvm.Cond.instanceMethod ({ cls := "SoftWheels$Worst", name := "parts", desc := "(JJ)J" } : Jvm.MethodName)) ∈ lw_all := lw_g (lw_at lw_m6 121 rfl) rfl
theorem q1419 : (Jvm.Cond.publicMethod ({ cls := "SoftWheels$Worst", name := "parts", desc := "(JJ)J" } : Jvm.MethodName)) ∈ lw_tbl := lw_at lw_m6 122 rfl
theorem q1420 : (Jvm.Cond.code ({ cls := "SoftWheels$Worst", name := "parts", desc := "(JJ)J" } : Jvm.MethodName) prog_21_method_3_code (5 : Nat) (Option.some Jvm.ClassFile.FieldType.long)) ∈ lw_all := lw_g (lw_at lw_m6 123 rfl) rfl
theorem q2575 : (Jvm.Cond.castable "SoftWheels$Worst" "java/lang/Object") ∈ lw_tbl := lw_at lw_m11 78 rfl

/-! SoftWheels$Walk -/
set_option maxRecDepth 100000
def RX18 : String := "SoftWheels$Walk"
def TX18 : u_T := fun k => match k with
  | 0 => ("SoftWheels$Walk", "map", "LSoftWheels$Land;", true)
  | 1 => ("SoftWheels$Walk", "dead", "I", true)
  | 2 => ("SoftWheels$Walk", "truth", "[I", true)
  | 3 => ("SoftWheels$Walk", "cell", "I", false)
  | 4 => ("SoftWheels$Walk", "seen", "I", false)
  | 5 => ("SoftWheels$Walk", "cost", "I", false)
  | 6 => ("SoftWheels$Walk", "made", "I", false)
  | _ => ("SoftWheels$Walk", "why", "I", false)
def tyX18 : Nat → FieldType := fun k => match k with
  | 0 => .object "SoftWheels$Land"
  | 1 => .int
  | 2 => .array .int
  | 3 => .int
  | 4 => .int
  | 5 => .int
  | 6 => .int
  | _ => .int
abbrev wsX180 : List Cond := u_ws RX18 TX18 8
theorem nmX18 : ∀ a, a < 8 → ∀ b, b < 8 → a ≠ b → (TX18 a).2.1 ≠ (TX18 b).2.1 := by decide +kernel
theorem tyX18_ok : ∀ k, k < 8 → parseFieldDescriptor (TX18 k).2.2.1 = some (tyX18 k) := by decide +kernel
abbrev cX18_init : ByteArray := prog_19_method_1_code
def yX18_init : MethodName := ⟨RX18, "<init>", "(LSoftWheels$Land;II[I)V"⟩
def dkwX18_init_1 : List UInt8 := [181, 0, 23, 42, 43, 182, 0, 26, 2, 130, 43, 29, 182, 0, 32, 128, 181, 0, 36, 177]
abbrev dktX18_init_1 : List UInt8 := dkwX18_init_1 ++ []
def dkwX18_init_0 : List UInt8 := [42, 183, 0, 3, 42, 43, 181, 0, 9, 42, 28, 181, 0, 15, 42, 25, 4, 181, 0, 19, 42, 29]
abbrev dktX18_init_0 : List UInt8 := dkwX18_init_0 ++ dktX18_init_1
theorem dksX18_init_0 : cX18_init.data.toList.drop 0 = dktX18_init_0 := by decide +kernel
theorem dksX18_init_1 : cX18_init.data.toList.drop 22 = dktX18_init_1 := dk_seg dksX18_init_0 22 rfl rfl
theorem dX18_init_0 : decode cX18_init 0 = .ok (.aload_n 0, 1) := dk_42 (dk_at dksX18_init_0 0 rfl rfl)
theorem dX18_init_1 : decode cX18_init 1 = .ok (.invokespecial 3, 3) := dk_183 0 3 (dk_at dksX18_init_0 1 rfl rfl)
theorem dX18_init_4 : decode cX18_init 4 = .ok (.aload_n 0, 1) := dk_42 (dk_at dksX18_init_0 4 rfl rfl)
theorem dX18_init_5 : decode cX18_init 5 = .ok (.aload_n 1, 1) := dk_43 (dk_at dksX18_init_0 5 rfl rfl)
theorem dX18_init_6 : decode cX18_init 6 = .ok (.putfield 9, 3) := dk_181 0 9 (dk_at dksX18_init_0 6 rfl rfl)
theorem dX18_init_9 : decode cX18_init 9 = .ok (.aload_n 0, 1) := dk_42 (dk_at dksX18_init_0 9 rfl rfl)
theorem dX18_init_10 : decode cX18_init 10 = .ok (.iload_n 2, 1) := dk_28 (dk_at dksX18_init_0 10 rfl rfl)
theorem dX18_init_11 : decode cX18_init 11 = .ok (.putfield 15, 3) := dk_181 0 15 (dk_at dksX18_init_0 11 rfl rfl)
theorem dX18_init_14 : decode cX18_init 14 = .ok (.aload_n 0, 1) := dk_42 (dk_at dksX18_init_0 14 rfl rfl)
theorem dX18_init_15 : decode cX18_init 15 = .ok (.aload 4, 2) := dk_25 4 (dk_at dksX18_init_0 15 rfl rfl)
theorem dX18_init_17 : decode cX18_init 17 = .ok (.putfield 19, 3) := dk_181 0 19 (dk_at dksX18_init_0 17 rfl rfl)
theorem dX18_init_20 : decode cX18_init 20 = .ok (.aload_n 0, 1) := dk_42 (dk_at dksX18_init_0 20 rfl rfl)
theorem dX18_init_21 : decode cX18_init 21 = .ok (.iload_n 3, 1) := dk_29 (dk_at dksX18_init_0 21 rfl rfl)
theorem dX18_init_22 : decode cX18_init 22 = .ok (.putfield 23, 3) := dk_181 0 23 (dk_at dksX18_init_1 0 rfl rfl)
theorem dX18_init_25 : decode cX18_init 25 = .ok (.aload_n 0, 1) := dk_42 (dk_at dksX18_init_1 3 rfl rfl)
theorem dX18_init_26 : decode cX18_init 26 = .ok (.aload_n 1, 1) := dk_43 (dk_at dksX18_init_1 4 rfl rfl)
theorem dX18_init_27 : decode cX18_init 27 = .ok (.invokevirtual 26, 3) := dk_182 0 26 (dk_at dksX18_init_1 5 rfl rfl)
theorem dX18_init_30 : decode cX18_init 30 = .ok (.iconst (-1), 1) := dk_2 (dk_at dksX18_init_1 8 rfl rfl)
theorem dX18_init_31 : decode cX18_init 31 = .ok (.ixor, 1) := dk_130 (dk_at dksX18_init_1 9 rfl rfl)
theorem dX18_init_32 : decode cX18_init 32 = .ok (.aload_n 1, 1) := dk_43 (dk_at dksX18_init_1 10 rfl rfl)
theorem dX18_init_33 : decode cX18_init 33 = .ok (.iload_n 3, 1) := dk_29 (dk_at dksX18_init_1 11 rfl rfl)
theorem dX18_init_34 : decode cX18_init 34 = .ok (.invokevirtual 32, 3) := dk_182 0 32 (dk_at dksX18_init_1 12 rfl rfl)
theorem dX18_init_37 : decode cX18_init 37 = .ok (.ior, 1) := dk_128 (dk_at dksX18_init_1 15 rfl rfl)
theorem dX18_init_38 : decode cX18_init 38 = .ok (.putfield 36, 3) := dk_181 0 36 (dk_at dksX18_init_1 16 rfl rfl)
theorem dX18_init_41 : decode cX18_init 41 = .ok (.return_, 1) := dk_177 (dk_at dksX18_init_1 19 rfl rfl)
abbrev cX18_does : ByteArray := prog_19_method_5_code
def yX18_does : MethodName := ⟨RX18, "does", "(Ljava/util/List;)LSoftWheels$Walk;"⟩
def dkwX18_does_1 : List UInt8 := [185, 0, 76, 2, 0, 192, 0, 80, 42, 185, 0, 82, 2, 0, 132, 2, 1, 167, 255, 220, 42, 176]
abbrev dktX18_does_1 : List UInt8 := dkwX18_does_1 ++ []
def dkwX18_does_0 : List UInt8 := [3, 61, 28, 43, 185, 0, 71, 1, 0, 162, 0, 32, 42, 180, 0, 62, 154, 0, 19, 43, 28]
abbrev dktX18_does_0 : List UInt8 := dkwX18_does_0 ++ dktX18_does_1
theorem dksX18_does_0 : cX18_does.data.toList.drop 0 = dktX18_does_0 := by decide +kernel
theorem dksX18_does_1 : cX18_does.data.toList.drop 21 = dktX18_does_1 := dk_seg dksX18_does_0 21 rfl rfl
theorem dX18_does_0 : decode cX18_does 0 = .ok (.iconst 0, 1) := dk_3 (dk_at dksX18_does_0 0 rfl rfl)
theorem dX18_does_1 : decode cX18_does 1 = .ok (.istore_n 2, 1) := dk_61 (dk_at dksX18_does_0 1 rfl rfl)
theorem dX18_does_2 : decode cX18_does 2 = .ok (.iload_n 2, 1) := dk_28 (dk_at dksX18_does_0 2 rfl rfl)
theorem dX18_does_3 : decode cX18_does 3 = .ok (.aload_n 1, 1) := dk_43 (dk_at dksX18_does_0 3 rfl rfl)
theorem dX18_does_4 : decode cX18_does 4 = .ok (.invokeinterface 71 1, 5) := by decide +kernel
theorem dX18_does_9 : decode cX18_does 9 = .ok (.if_icmp .ge 32, 3) := dk_162 0 32 (dk_at dksX18_does_0 9 rfl rfl)
theorem dX18_does_12 : decode cX18_does 12 = .ok (.aload_n 0, 1) := dk_42 (dk_at dksX18_does_0 12 rfl rfl)
theorem dX18_does_13 : decode cX18_does 13 = .ok (.getfield 62, 3) := dk_180 0 62 (dk_at dksX18_does_0 13 rfl rfl)
theorem dX18_does_16 : decode cX18_does 16 = .ok (.ifCond .ne 19, 3) := dk_154 0 19 (dk_at dksX18_does_0 16 rfl rfl)
theorem dX18_does_19 : decode cX18_does 19 = .ok (.aload_n 1, 1) := dk_43 (dk_at dksX18_does_0 19 rfl rfl)
theorem dX18_does_20 : decode cX18_does 20 = .ok (.iload_n 2, 1) := dk_28 (dk_at dksX18_does_0 20 rfl rfl)
theorem dX18_does_21 : decode cX18_does 21 = .ok (.invokeinterface 76 2, 5) := by decide +kernel
theorem dX18_does_26 : decode cX18_does 26 = .ok (.checkcast 80, 3) := dk_192 0 80 (dk_at dksX18_does_1 5 rfl rfl)
theorem dX18_does_29 : decode cX18_does 29 = .ok (.aload_n 0, 1) := dk_42 (dk_at dksX18_does_1 8 rfl rfl)
theorem dX18_does_30 : decode cX18_does 30 = .ok (.invokeinterface 82 2, 5) := by decide +kernel
theorem dX18_does_35 : decode cX18_does 35 = .ok (.iinc 2 1, 3) := dk_132 2 1 (dk_at dksX18_does_1 14 rfl rfl)
theorem dX18_does_38 : decode cX18_does 38 = .ok (.goto (-36), 3) := dk_167 255 220 (dk_at dksX18_does_1 17 rfl rfl)
theorem dX18_does_41 : decode cX18_does 41 = .ok (.aload_n 0, 1) := dk_42 (dk_at dksX18_does_1 20 rfl rfl)
theorem dX18_does_42 : decode cX18_does 42 = .ok (.areturn, 1) := dk_176 (dk_at dksX18_does_1 21 rfl rfl)
abbrev cX18_goes : ByteArray := prog_19_method_3_code
def yX18_goes : MethodName := ⟨RX18, "goes", "(LSoftWheels$Way;)V"⟩
def dkwX18_goes_4 : List UInt8 := [180, 0, 23, 182, 0, 32, 128, 181, 0, 36, 177]
abbrev dktX18_goes_4 : List UInt8 := dkwX18_goes_4 ++ []
def dkwX18_goes_3 : List UInt8 := [96, 181, 0, 64, 42, 89, 180, 0, 68, 4, 96, 181, 0, 68, 42, 89, 180, 0, 36, 42, 180, 0, 9, 42]
abbrev dktX18_goes_3 : List UInt8 := dkwX18_goes_3 ++ dktX18_goes_4
def dkwX18_goes_2 : List UInt8 := [180, 0, 62, 153, 0, 4, 177, 42, 28, 181, 0, 23, 42, 89, 180, 0, 64, 42, 180, 0, 9, 180, 0, 67]
abbrev dktX18_goes_2 : List UInt8 := dkwX18_goes_2 ++ dktX18_goes_3
def dkwX18_goes_1 : List UInt8 := [2, 160, 0, 7, 3, 167, 0, 8, 42, 28, 182, 0, 55, 42, 180, 0, 15, 182, 0, 58, 181, 0, 62, 42]
abbrev dktX18_goes_1 : List UInt8 := dkwX18_goes_1 ++ dktX18_goes_2
def dkwX18_goes_0 : List UInt8 := [42, 180, 0, 9, 42, 180, 0, 23, 43, 182, 0, 51, 61, 42, 42, 180, 0, 9, 42, 180, 0, 23, 43, 28]
abbrev dktX18_goes_0 : List UInt8 := dkwX18_goes_0 ++ dktX18_goes_1
theorem dksX18_goes_0 : cX18_goes.data.toList.drop 0 = dktX18_goes_0 := by decide +kernel
theorem dksX18_goes_1 : cX18_goes.data.toList.drop 24 = dktX18_goes_1 := dk_seg dksX18_goes_0 24 rfl rfl
theorem dksX18_goes_2 : cX18_goes.data.toList.drop 48 = dktX18_goes_2 := dk_seg dksX18_goes_1 24 rfl rfl
theorem dksX18_goes_3 : cX18_goes.data.toList.drop 72 = dktX18_goes_3 := dk_seg dksX18_goes_2 24 rfl rfl
theorem dksX18_goes_4 : cX18_goes.data.toList.drop 96 = dktX18_goes_4 := dk_seg dksX18_goes_3 24 rfl rfl
theorem dX18_goes_0 : decode cX18_goes 0 = .ok (.aload_n 0, 1) := dk_42 (dk_at dksX18_goes_0 0 rfl rfl)
theorem dX18_goes_1 : decode cX18_goes 1 = .ok (.getfield 9, 3) := dk_180 0 9 (dk_at dksX18_goes_0 1 rfl rfl)
theorem dX18_goes_4 : decode cX18_goes 4 = .ok (.aload_n 0, 1) := dk_42 (dk_at dksX18_goes_0 4 rfl rfl)
theorem dX18_goes_5 : decode cX18_goes 5 = .ok (.getfield 23, 3) := dk_180 0 23 (dk_at dksX18_goes_0 5 rfl rfl)
theorem dX18_goes_8 : decode cX18_goes 8 = .ok (.aload_n 1, 1) := dk_43 (dk_at dksX18_goes_0 8 rfl rfl)
theorem dX18_goes_9 : decode cX18_goes 9 = .ok (.invokevirtual 51, 3) := dk_182 0 51 (dk_at dksX18_goes_0 9 rfl rfl)
theorem dX18_goes_12 : decode cX18_goes 12 = .ok (.istore_n 2, 1) := dk_61 (dk_at dksX18_goes_0 12 rfl rfl)
theorem dX18_goes_13 : decode cX18_goes 13 = .ok (.aload_n 0, 1) := dk_42 (dk_at dksX18_goes_0 13 rfl rfl)
theorem dX18_goes_14 : decode cX18_goes 14 = .ok (.aload_n 0, 1) := dk_42 (dk_at dksX18_goes_0 14 rfl rfl)
theorem dX18_goes_15 : decode cX18_goes 15 = .ok (.getfield 9, 3) := dk_180 0 9 (dk_at dksX18_goes_0 15 rfl rfl)
theorem dX18_goes_18 : decode cX18_goes 18 = .ok (.aload_n 0, 1) := dk_42 (dk_at dksX18_goes_0 18 rfl rfl)
theorem dX18_goes_19 : decode cX18_goes 19 = .ok (.getfield 23, 3) := dk_180 0 23 (dk_at dksX18_goes_0 19 rfl rfl)
theorem dX18_goes_22 : decode cX18_goes 22 = .ok (.aload_n 1, 1) := dk_43 (dk_at dksX18_goes_0 22 rfl rfl)
theorem dX18_goes_23 : decode cX18_goes 23 = .ok (.iload_n 2, 1) := dk_28 (dk_at dksX18_goes_0 23 rfl rfl)
theorem dX18_goes_24 : decode cX18_goes 24 = .ok (.iconst (-1), 1) := dk_2 (dk_at dksX18_goes_1 0 rfl rfl)
theorem dX18_goes_25 : decode cX18_goes 25 = .ok (.if_icmp .ne 7, 3) := dk_160 0 7 (dk_at dksX18_goes_1 1 rfl rfl)
theorem dX18_goes_28 : decode cX18_goes 28 = .ok (.iconst 0, 1) := dk_3 (dk_at dksX18_goes_1 4 rfl rfl)
theorem dX18_goes_29 : decode cX18_goes 29 = .ok (.goto 8, 3) := dk_167 0 8 (dk_at dksX18_goes_1 5 rfl rfl)
theorem dX18_goes_32 : decode cX18_goes 32 = .ok (.aload_n 0, 1) := dk_42 (dk_at dksX18_goes_1 8 rfl rfl)
theorem dX18_goes_33 : decode cX18_goes 33 = .ok (.iload_n 2, 1) := dk_28 (dk_at dksX18_goes_1 9 rfl rfl)
theorem dX18_goes_34 : decode cX18_goes 34 = .ok (.invokevirtual 55, 3) := dk_182 0 55 (dk_at dksX18_goes_1 10 rfl rfl)
theorem dX18_goes_37 : decode cX18_goes 37 = .ok (.aload_n 0, 1) := dk_42 (dk_at dksX18_goes_1 13 rfl rfl)
theorem dX18_goes_38 : decode cX18_goes 38 = .ok (.getfield 15, 3) := dk_180 0 15 (dk_at dksX18_goes_1 14 rfl rfl)
theorem dX18_goes_41 : decode cX18_goes 41 = .ok (.invokevirtual 58, 3) := dk_182 0 58 (dk_at dksX18_goes_1 17 rfl rfl)
theorem dX18_goes_44 : decode cX18_goes 44 = .ok (.putfield 62, 3) := dk_181 0 62 (dk_at dksX18_goes_1 20 rfl rfl)
theorem dX18_goes_47 : decode cX18_goes 47 = .ok (.aload_n 0, 1) := dk_42 (dk_at dksX18_goes_1 23 rfl rfl)
theorem dX18_goes_48 : decode cX18_goes 48 = .ok (.getfield 62, 3) := dk_180 0 62 (dk_at dksX18_goes_2 0 rfl rfl)
theorem dX18_goes_51 : decode cX18_goes 51 = .ok (.ifCond .eq 4, 3) := dk_153 0 4 (dk_at dksX18_goes_2 3 rfl rfl)
theorem dX18_goes_54 : decode cX18_goes 54 = .ok (.return_, 1) := dk_177 (dk_at dksX18_goes_2 6 rfl rfl)
theorem dX18_goes_55 : decode cX18_goes 55 = .ok (.aload_n 0, 1) := dk_42 (dk_at dksX18_goes_2 7 rfl rfl)
theorem dX18_goes_56 : decode cX18_goes 56 = .ok (.iload_n 2, 1) := dk_28 (dk_at dksX18_goes_2 8 rfl rfl)
theorem dX18_goes_57 : decode cX18_goes 57 = .ok (.putfield 23, 3) := dk_181 0 23 (dk_at dksX18_goes_2 9 rfl rfl)
theorem dX18_goes_60 : decode cX18_goes 60 = .ok (.aload_n 0, 1) := dk_42 (dk_at dksX18_goes_2 12 rfl rfl)
theorem dX18_goes_61 : decode cX18_goes 61 = .ok (.dup, 1) := dk_89 (dk_at dksX18_goes_2 13 rfl rfl)
theorem dX18_goes_62 : decode cX18_goes 62 = .ok (.getfield 64, 3) := dk_180 0 64 (dk_at dksX18_goes_2 14 rfl rfl)
theorem dX18_goes_65 : decode cX18_goes 65 = .ok (.aload_n 0, 1) := dk_42 (dk_at dksX18_goes_2 17 rfl rfl)
theorem dX18_goes_66 : decode cX18_goes 66 = .ok (.getfield 9, 3) := dk_180 0 9 (dk_at dksX18_goes_2 18 rfl rfl)
theorem dX18_goes_69 : decode cX18_goes 69 = .ok (.getfield 67, 3) := dk_180 0 67 (dk_at dksX18_goes_2 21 rfl rfl)
theorem dX18_goes_72 : decode cX18_goes 72 = .ok (.iadd, 1) := dk_96 (dk_at dksX18_goes_3 0 rfl rfl)
theorem dX18_goes_73 : decode cX18_goes 73 = .ok (.putfield 64, 3) := dk_181 0 64 (dk_at dksX18_goes_3 1 rfl rfl)
theorem dX18_goes_76 : decode cX18_goes 76 = .ok (.aload_n 0, 1) := dk_42 (dk_at dksX18_goes_3 4 rfl rfl)
theorem dX18_goes_77 : decode cX18_goes 77 = .ok (.dup, 1) := dk_89 (dk_at dksX18_goes_3 5 rfl rfl)
theorem dX18_goes_78 : decode cX18_goes 78 = .ok (.getfield 68, 3) := dk_180 0 68 (dk_at dksX18_goes_3 6 rfl rfl)
theorem dX18_goes_81 : decode cX18_goes 81 = .ok (.iconst 1, 1) := dk_4 (dk_at dksX18_goes_3 9 rfl rfl)
theorem dX18_goes_82 : decode cX18_goes 82 = .ok (.iadd, 1) := dk_96 (dk_at dksX18_goes_3 10 rfl rfl)
theorem dX18_goes_83 : decode cX18_goes 83 = .ok (.putfield 68, 3) := dk_181 0 68 (dk_at dksX18_goes_3 11 rfl rfl)
theorem dX18_goes_86 : decode cX18_goes 86 = .ok (.aload_n 0, 1) := dk_42 (dk_at dksX18_goes_3 14 rfl rfl)
theorem dX18_goes_87 : decode cX18_goes 87 = .ok (.dup, 1) := dk_89 (dk_at dksX18_goes_3 15 rfl rfl)
theorem dX18_goes_88 : decode cX18_goes 88 = .ok (.getfield 36, 3) := dk_180 0 36 (dk_at dksX18_goes_3 16 rfl rfl)
theorem dX18_goes_91 : decode cX18_goes 91 = .ok (.aload_n 0, 1) := dk_42 (dk_at dksX18_goes_3 19 rfl rfl)
theorem dX18_goes_92 : decode cX18_goes 92 = .ok (.getfield 9, 3) := dk_180 0 9 (dk_at dksX18_goes_3 20 rfl rfl)
theorem dX18_goes_95 : decode cX18_goes 95 = .ok (.aload_n 0, 1) := dk_42 (dk_at dksX18_goes_3 23 rfl rfl)
theorem dX18_goes_96 : decode cX18_goes 96 = .ok (.getfield 23, 3) := dk_180 0 23 (dk_at dksX18_goes_4 0 rfl rfl)
theorem dX18_goes_99 : decode cX18_goes 99 = .ok (.invokevirtual 32, 3) := dk_182 0 32 (dk_at dksX18_goes_4 3 rfl rfl)
theorem dX18_goes_102 : decode cX18_goes 102 = .ok (.ior, 1) := dk_128 (dk_at dksX18_goes_4 6 rfl rfl)
theorem dX18_goes_103 : decode cX18_goes 103 = .ok (.putfield 36, 3) := dk_181 0 36 (dk_at dksX18_goes_4 7 rfl rfl)
theorem dX18_goes_106 : decode cX18_goes 106 = .ok (.return_, 1) := dk_177 (dk_at dksX18_goes_4 10 rfl rfl)
abbrev cX18_groundOf : ByteArray := prog_19_method_2_code
def yX18_groundOf : MethodName := ⟨RX18, "groundOf", "(I)I"⟩
def dkwX18_groundOf_1 : List UInt8 := [42, 180, 0, 19, 42, 180, 0, 9, 180, 0, 39, 27, 50, 180, 0, 46, 46, 172]
abbrev dktX18_groundOf_1 : List UInt8 := dkwX18_groundOf_1 ++ []
def dkwX18_groundOf_0 : List UInt8 := [42, 180, 0, 9, 180, 0, 39, 27, 50, 199, 0, 15, 42, 180, 0, 9, 180, 0, 43, 27, 46, 167, 0, 20]
abbrev dktX18_groundOf_0 : List UInt8 := dkwX18_groundOf_0 ++ dktX18_groundOf_1
theorem dksX18_groundOf_0 : cX18_groundOf.data.toList.drop 0 = dktX18_groundOf_0 := by decide +kernel
theorem dksX18_groundOf_1 : cX18_groundOf.data.toList.drop 24 = dktX18_groundOf_1 := dk_seg dksX18_groundOf_0 24 rfl rfl
theorem dX18_groundOf_0 : decode cX18_groundOf 0 = .ok (.aload_n 0, 1) := dk_42 (dk_at dksX18_groundOf_0 0 rfl rfl)
theorem dX18_groundOf_1 : decode cX18_groundOf 1 = .ok (.getfield 9, 3) := dk_180 0 9 (dk_at dksX18_groundOf_0 1 rfl rfl)
theorem dX18_groundOf_4 : decode cX18_groundOf 4 = .ok (.getfield 39, 3) := dk_180 0 39 (dk_at dksX18_groundOf_0 4 rfl rfl)
theorem dX18_groundOf_7 : decode cX18_groundOf 7 = .ok (.iload_n 1, 1) := dk_27 (dk_at dksX18_groundOf_0 7 rfl rfl)
theorem dX18_groundOf_8 : decode cX18_groundOf 8 = .ok (.aaload, 1) := dk_50 (dk_at dksX18_groundOf_0 8 rfl rfl)
theorem dX18_groundOf_9 : decode cX18_groundOf 9 = .ok (.ifnonnull 15, 3) := dk_199 0 15 (dk_at dksX18_groundOf_0 9 rfl rfl)
theorem dX18_groundOf_12 : decode cX18_groundOf 12 = .ok (.aload_n 0, 1) := dk_42 (dk_at dksX18_groundOf_0 12 rfl rfl)
theorem dX18_groundOf_13 : decode cX18_groundOf 13 = .ok (.getfield 9, 3) := dk_180 0 9 (dk_at dksX18_groundOf_0 13 rfl rfl)
theorem dX18_groundOf_16 : decode cX18_groundOf 16 = .ok (.getfield 43, 3) := dk_180 0 43 (dk_at dksX18_groundOf_0 16 rfl rfl)
theorem dX18_groundOf_19 : decode cX18_groundOf 19 = .ok (.iload_n 1, 1) := dk_27 (dk_at dksX18_groundOf_0 19 rfl rfl)
theorem dX18_groundOf_20 : decode cX18_groundOf 20 = .ok (.iaload, 1) := dk_46 (dk_at dksX18_groundOf_0 20 rfl rfl)
theorem dX18_groundOf_21 : decode cX18_groundOf 21 = .ok (.goto 20, 3) := dk_167 0 20 (dk_at dksX18_groundOf_0 21 rfl rfl)
theorem dX18_groundOf_24 : decode cX18_groundOf 24 = .ok (.aload_n 0, 1) := dk_42 (dk_at dksX18_groundOf_1 0 rfl rfl)
theorem dX18_groundOf_25 : decode cX18_groundOf 25 = .ok (.getfield 19, 3) := dk_180 0 19 (dk_at dksX18_groundOf_1 1 rfl rfl)
theorem dX18_groundOf_28 : decode cX18_groundOf 28 = .ok (.aload_n 0, 1) := dk_42 (dk_at dksX18_groundOf_1 4 rfl rfl)
theorem dX18_groundOf_29 : decode cX18_groundOf 29 = .ok (.getfield 9, 3) := dk_180 0 9 (dk_at dksX18_groundOf_1 5 rfl rfl)
theorem dX18_groundOf_32 : decode cX18_groundOf 32 = .ok (.getfield 39, 3) := dk_180 0 39 (dk_at dksX18_groundOf_1 8 rfl rfl)
theorem dX18_groundOf_35 : decode cX18_groundOf 35 = .ok (.iload_n 1, 1) := dk_27 (dk_at dksX18_groundOf_1 11 rfl rfl)
theorem dX18_groundOf_36 : decode cX18_groundOf 36 = .ok (.aaload, 1) := dk_50 (dk_at dksX18_groundOf_1 12 rfl rfl)
theorem dX18_groundOf_37 : decode cX18_groundOf 37 = .ok (.getfield 46, 3) := dk_180 0 46 (dk_at dksX18_groundOf_1 13 rfl rfl)
theorem dX18_groundOf_40 : decode cX18_groundOf 40 = .ok (.iaload, 1) := dk_46 (dk_at dksX18_groundOf_1 16 rfl rfl)
theorem dX18_groundOf_41 : decode cX18_groundOf 41 = .ok (.ireturn, 1) := dk_172 (dk_at dksX18_groundOf_1 17 rfl rfl)
abbrev cX18_is : ByteArray := prog_19_method_4_code
def yX18_is : MethodName := ⟨RX18, "is", "(II)Z"⟩
def dkwX18_is_1 : List UInt8 := [160, 0, 7, 4, 167, 0, 4, 3, 172]
abbrev dktX18_is_1 : List UInt8 := dkwX18_is_1 ++ []
def dkwX18_is_0 : List UInt8 := [42, 180, 0, 36, 27, 122, 4, 126, 154, 0, 8, 42, 8, 181, 0, 62, 42, 180, 0, 19, 27, 46, 28]
abbrev dktX18_is_0 : List UInt8 := dkwX18_is_0 ++ dktX18_is_1
theorem dksX18_is_0 : cX18_is.data.toList.drop 0 = dktX18_is_0 := by decide +kernel
theorem dksX18_is_1 : cX18_is.data.toList.drop 23 = dktX18_is_1 := dk_seg dksX18_is_0 23 rfl rfl
theorem dX18_is_0 : decode cX18_is 0 = .ok (.aload_n 0, 1) := dk_42 (dk_at dksX18_is_0 0 rfl rfl)
theorem dX18_is_1 : decode cX18_is 1 = .ok (.getfield 36, 3) := dk_180 0 36 (dk_at dksX18_is_0 1 rfl rfl)
theorem dX18_is_4 : decode cX18_is 4 = .ok (.iload_n 1, 1) := dk_27 (dk_at dksX18_is_0 4 rfl rfl)
theorem dX18_is_5 : decode cX18_is 5 = .ok (.ishr, 1) := dk_122 (dk_at dksX18_is_0 5 rfl rfl)
theorem dX18_is_6 : decode cX18_is 6 = .ok (.iconst 1, 1) := dk_4 (dk_at dksX18_is_0 6 rfl rfl)
theorem dX18_is_7 : decode cX18_is 7 = .ok (.iand, 1) := dk_126 (dk_at dksX18_is_0 7 rfl rfl)
theorem dX18_is_8 : decode cX18_is 8 = .ok (.ifCond .ne 8, 3) := dk_154 0 8 (dk_at dksX18_is_0 8 rfl rfl)
theorem dX18_is_11 : decode cX18_is 11 = .ok (.aload_n 0, 1) := dk_42 (dk_at dksX18_is_0 11 rfl rfl)
theorem dX18_is_12 : decode cX18_is 12 = .ok (.iconst 5, 1) := dk_8 (dk_at dksX18_is_0 12 rfl rfl)
theorem dX18_is_13 : decode cX18_is 13 = .ok (.putfield 62, 3) := dk_181 0 62 (dk_at dksX18_is_0 13 rfl rfl)
theorem dX18_is_16 : decode cX18_is 16 = .ok (.aload_n 0, 1) := dk_42 (dk_at dksX18_is_0 16 rfl rfl)
theorem dX18_is_17 : decode cX18_is 17 = .ok (.getfield 19, 3) := dk_180 0 19 (dk_at dksX18_is_0 17 rfl rfl)
theorem dX18_is_20 : decode cX18_is 20 = .ok (.iload_n 1, 1) := dk_27 (dk_at dksX18_is_0 20 rfl rfl)
theorem dX18_is_21 : decode cX18_is 21 = .ok (.iaload, 1) := dk_46 (dk_at dksX18_is_0 21 rfl rfl)
theorem dX18_is_22 : decode cX18_is 22 = .ok (.iload_n 2, 1) := dk_28 (dk_at dksX18_is_0 22 rfl rfl)
theorem dX18_is_23 : decode cX18_is 23 = .ok (.if_icmp .ne 7, 3) := dk_160 0 7 (dk_at dksX18_is_1 0 rfl rfl)
theorem dX18_is_26 : decode cX18_is 26 = .ok (.iconst 1, 1) := dk_4 (dk_at dksX18_is_1 3 rfl rfl)
theorem dX18_is_27 : decode cX18_is 27 = .ok (.goto 4, 3) := dk_167 0 4 (dk_at dksX18_is_1 4 rfl rfl)
theorem dX18_is_30 : decode cX18_is 30 = .ok (.iconst 0, 1) := dk_3 (dk_at dksX18_is_1 7 rfl rfl)
theorem dX18_is_31 : decode cX18_is 31 = .ok (.ireturn, 1) := dk_172 (dk_at dksX18_is_1 8 rfl rfl)
abbrev cX18_fails : ByteArray := prog_19_method_6_code
def yX18_fails : MethodName := ⟨RX18, "fails", "(II)I"⟩
def dkwX18_fails_1 : List UInt8 := [167, 0, 17, 42, 180, 0, 64, 28, 164, 0, 8, 16, 7, 167, 0, 4, 3, 172]
abbrev dktX18_fails_1 : List UInt8 := dkwX18_fails_1 ++ []
def dkwX18_fails_0 : List UInt8 := [42, 180, 0, 62, 153, 0, 10, 42, 180, 0, 62, 167, 0, 30, 42, 180, 0, 23, 27, 159, 0, 8, 16, 6]
abbrev dktX18_fails_0 : List UInt8 := dkwX18_fails_0 ++ dktX18_fails_1
theorem dksX18_fails_0 : cX18_fails.data.toList.drop 0 = dktX18_fails_0 := by decide +kernel
theorem dksX18_fails_1 : cX18_fails.data.toList.drop 24 = dktX18_fails_1 := dk_seg dksX18_fails_0 24 rfl rfl
theorem dX18_fails_0 : decode cX18_fails 0 = .ok (.aload_n 0, 1) := dk_42 (dk_at dksX18_fails_0 0 rfl rfl)
theorem dX18_fails_1 : decode cX18_fails 1 = .ok (.getfield 62, 3) := dk_180 0 62 (dk_at dksX18_fails_0 1 rfl rfl)
theorem dX18_fails_4 : decode cX18_fails 4 = .ok (.ifCond .eq 10, 3) := dk_153 0 10 (dk_at dksX18_fails_0 4 rfl rfl)
theorem dX18_fails_7 : decode cX18_fails 7 = .ok (.aload_n 0, 1) := dk_42 (dk_at dksX18_fails_0 7 rfl rfl)
theorem dX18_fails_8 : decode cX18_fails 8 = .ok (.getfield 62, 3) := dk_180 0 62 (dk_at dksX18_fails_0 8 rfl rfl)
theorem dX18_fails_11 : decode cX18_fails 11 = .ok (.goto 30, 3) := dk_167 0 30 (dk_at dksX18_fails_0 11 rfl rfl)
theorem dX18_fails_14 : decode cX18_fails 14 = .ok (.aload_n 0, 1) := dk_42 (dk_at dksX18_fails_0 14 rfl rfl)
theorem dX18_fails_15 : decode cX18_fails 15 = .ok (.getfield 23, 3) := dk_180 0 23 (dk_at dksX18_fails_0 15 rfl rfl)
theorem dX18_fails_18 : decode cX18_fails 18 = .ok (.iload_n 1, 1) := dk_27 (dk_at dksX18_fails_0 18 rfl rfl)
theorem dX18_fails_19 : decode cX18_fails 19 = .ok (.if_icmp .eq 8, 3) := dk_159 0 8 (dk_at dksX18_fails_0 19 rfl rfl)
theorem dX18_fails_22 : decode cX18_fails 22 = .ok (.bipush 6, 2) := dk_16 6 (dk_at dksX18_fails_0 22 rfl rfl)
theorem dX18_fails_24 : decode cX18_fails 24 = .ok (.goto 17, 3) := dk_167 0 17 (dk_at dksX18_fails_1 0 rfl rfl)
theorem dX18_fails_27 : decode cX18_fails 27 = .ok (.aload_n 0, 1) := dk_42 (dk_at dksX18_fails_1 3 rfl rfl)
theorem dX18_fails_28 : decode cX18_fails 28 = .ok (.getfield 64, 3) := dk_180 0 64 (dk_at dksX18_fails_1 4 rfl rfl)
theorem dX18_fails_31 : decode cX18_fails 31 = .ok (.iload_n 2, 1) := dk_28 (dk_at dksX18_fails_1 7 rfl rfl)
theorem dX18_fails_32 : decode cX18_fails 32 = .ok (.if_icmp .le 8, 3) := dk_164 0 8 (dk_at dksX18_fails_1 8 rfl rfl)
theorem dX18_fails_35 : decode cX18_fails 35 = .ok (.bipush 7, 2) := dk_16 7 (dk_at dksX18_fails_1 11 rfl rfl)
theorem dX18_fails_37 : decode cX18_fails 37 = .ok (.goto 4, 3) := dk_167 0 4 (dk_at dksX18_fails_1 13 rfl rfl)
theorem dX18_fails_40 : decode cX18_fails 40 = .ok (.iconst 0, 1) := dk_3 (dk_at dksX18_fails_1 16 rfl rfl)
theorem dX18_fails_41 : decode cX18_fails 41 = .ok (.ireturn, 1) := dk_172 (dk_at dksX18_fails_1 17 rfl rfl)
theorem q140 : (Jvm.Cond.initialized "SoftWheels$Walk") ∈ lw_all := lw_g (lw_at lw_m1 43 rfl) rfl
theorem q973 : (Jvm.Cond.selects "SoftWheels$Walk" ({ cls := "java/lang/Object", name := "getClass", desc := "()Ljava/lang/Class;" } : Jvm.MethodName) ({ cls := "java/lang/Object", name := "getClass", desc := "()Ljava/lang/Class;" } : Jvm.MethodName)) ∈ lw_all := lw_g (lw_at lw_m4 156 rfl) rfl
theorem q1141 : (Jvm.Cond.fieldLinkNest "SoftWheels$Walk" (43 : Nat) "SoftWheels$Land" "ground" "[I" "SoftWheels") ∈ lw_tbl := lw_at lw_m5 84 rfl
theorem q1145 : (Jvm.Cond.fieldLinkNest "SoftWheels$Walk" (39 : Nat) "SoftWheels$Land" "doubtAt" "[LSoftWheels$Doubt;" "SoftWheels") ∈ lw_tbl := lw_at lw_m5 88 rfl
theorem q1160 : (Jvm.Cond.fieldLinkNest "SoftWheels$Walk" (67 : Nat) "SoftWheels$Land" "cost" "I" "SoftWheels") ∈ lw_tbl := lw_at lw_m5 103 rfl
theorem q1213 : (Jvm.Cond.fieldLinkNest "SoftWheels$Walk" (46 : Nat) "SoftWheels$Doubt" "number" "I" "SoftWheels") ∈ lw_tbl := lw_at lw_m5 156 rfl
theorem q1646 : (Jvm.Cond.instantiable "SoftWheels$Walk" (8 : Nat)) ∈ lw_all := lw_g (lw_at lw_m7 109 rfl) rfl
theorem q1648 : (Jvm.Cond.instanceMethod ({ cls := "SoftWheels$Walk", name := "<init>", desc := "(LSoftWheels$Land;II[I)V" } : Jvm.MethodName)) ∈ lw_all := lw_g (lw_at lw_m7 111 rfl) rfl
theorem q1649 : (Jvm.Cond.code ({ cls := "SoftWheels$Walk", name := "<init>", desc := "(LSoftWheels$Land;II[I)V" } : Jvm.MethodName) prog_19_method_1_code (5 : Nat) (Option.none : Option Jvm.ClassFile.FieldType)) ∈ lw_all := lw_g (lw_at lw_m7 112 rfl) rfl
theorem q1650 : (Jvm.Cond.methodLink "SoftWheels$Walk" (3 : Nat) ({ cls := "java/lang/Object", name := "<init>", desc := "()V" } : Jvm.MethodName)) ∈ lw_all := lw_g (lw_at lw_m7 113 rfl) rfl
theorem q1651 : (Jvm.Cond.methodLink "SoftWheels$Walk" (26 : Nat) ({ cls := "SoftWheels$Land", name := "open", desc := "()I" } : Jvm.MethodName)) ∈ lw_all := lw_g (lw_at lw_m7 114 rfl) rfl
theorem q1652 : (Jvm.Cond.methodLink "SoftWheels$Walk" (32 : Nat) ({ cls := "SoftWheels$Land", name := "sees", desc := "(I)I" } : Jvm.MethodName)) ∈ lw_all := lw_g (lw_at lw_m7 115 rfl) rfl
theorem q1653 : (Jvm.Cond.fieldLink "SoftWheels$Walk" (9 : Nat) "SoftWheels$Walk" "map" "LSoftWheels$Land;") ∈ lw_all := lw_g (lw_at lw_m7 116 rfl) rfl
theorem q1654 : (Jvm.Cond.fieldLink "SoftWheels$Walk" (15 : Nat) "SoftWheels$Walk" "dead" "I") ∈ lw_all := lw_g (lw_at lw_m7 117 rfl) rfl
theorem q1655 : (Jvm.Cond.fieldLink "SoftWheels$Walk" (19 : Nat) "SoftWheels$Walk" "truth" "[I") ∈ lw_all := lw_g (lw_at lw_m7 118 rfl) rfl
theorem q1656 : (Jvm.Cond.fieldLink "SoftWheels$Walk" (23 : Nat) "SoftWheels$Walk" "cell" "I") ∈ lw_all := lw_g (lw_at lw_m7 119 rfl) rfl
theorem q1657 : (Jvm.Cond.fieldLink "SoftWheels$Walk" (36 : Nat) "SoftWheels$Walk" "seen" "I") ∈ lw_all := lw_g (lw_at lw_m7 120 rfl) rfl
theorem q1658 : (Jvm.Cond.fieldLink "SoftWheels$Walk" (64 : Nat) "SoftWheels$Walk" "cost" "I") ∈ lw_all := lw_g (lw_at lw_m7 121 rfl) rfl
theorem q1660 : (Jvm.Cond.fieldLink "SoftWheels$Walk" (68 : Nat) "SoftWheels$Walk" "made" "I") ∈ lw_all := lw_g (lw_at lw_m7 123 rfl) rfl
theorem q1663 : (Jvm.Cond.fieldLink "SoftWheels$Walk" (62 : Nat) "SoftWheels$Walk" "why" "I") ∈ lw_all := lw_g (lw_at lw_m7 126 rfl) rfl
theorem q1664 : (Jvm.Cond.laysFinal "SoftWheels$Walk" "SoftWheels$Walk" "map" "LSoftWheels$Land;") ∈ lw_all := lw_g (lw_at lw_m7 127 rfl) rfl
theorem q1665 : (Jvm.Cond.soleField "SoftWheels$Walk" "map") ∈ lw_all := lw_g (lw_at lw_m7 128 rfl) rfl
theorem q1666 : (Jvm.Cond.laysFinal "SoftWheels$Walk" "SoftWheels$Walk" "dead" "I") ∈ lw_all := lw_g (lw_at lw_m7 129 rfl) rfl
theorem q1667 : (Jvm.Cond.soleField "SoftWheels$Walk" "dead") ∈ lw_all := lw_g (lw_at lw_m7 130 rfl) rfl
theorem q1668 : (Jvm.Cond.laysFinal "SoftWheels$Walk" "SoftWheels$Walk" "truth" "[I") ∈ lw_all := lw_g (lw_at lw_m7 131 rfl) rfl
theorem q1669 : (Jvm.Cond.soleField "SoftWheels$Walk" "truth") ∈ lw_all := lw_g (lw_at lw_m7 132 rfl) rfl
theorem q1670 : (Jvm.Cond.lays "SoftWheels$Walk" "SoftWheels$Walk" "cell" "I") ∈ lw_all := lw_g (lw_at lw_m7 133 rfl) rfl
theorem q1671 : (Jvm.Cond.soleField "SoftWheels$Walk" "cell") ∈ lw_all := lw_g (lw_at lw_m7 134 rfl) rfl
theorem q1672 : (Jvm.Cond.lays "SoftWheels$Walk" "SoftWheels$Walk" "seen" "I") ∈ lw_all := lw_g (lw_at lw_m7 135 rfl) rfl
theorem q1673 : (Jvm.Cond.soleField "SoftWheels$Walk" "seen") ∈ lw_all := lw_g (lw_at lw_m7 136 rfl) rfl
theorem q1674 : (Jvm.Cond.lays "SoftWheels$Walk" "SoftWheels$Walk" "cost" "I") ∈ lw_all := lw_g (lw_at lw_m7 137 rfl) rfl
theorem q1675 : (Jvm.Cond.soleField "SoftWheels$Walk" "cost") ∈ lw_all := lw_g (lw_at lw_m7 138 rfl) rfl
theorem q1676 : (Jvm.Cond.lays "SoftWheels$Walk" "SoftWheels$Walk" "made" "I") ∈ lw_all := lw_g (lw_at lw_m7 139 rfl) rfl
theorem q1677 : (Jvm.Cond.soleField "SoftWheels$Walk" "made") ∈ lw_all := lw_g (lw_at lw_m7 140 rfl) rfl
theorem q1678 : (Jvm.Cond.lays "SoftWheels$Walk" "SoftWheels$Walk" "why" "I") ∈ lw_all := lw_g (lw_at lw_m7 141 rfl) rfl
theorem q1679 : (Jvm.Cond.soleField "SoftWheels$Walk" "why") ∈ lw_all := lw_g (lw_at lw_m7 142 rfl) rfl
theorem q1680 : (Jvm.Cond.superclass "SoftWheels$Walk" "java/lang/Object") ∈ lw_all := lw_g (lw_at lw_m7 143 rfl) rfl
theorem q1683 : (Jvm.Cond.instanceMethod ({ cls := "SoftWheels$Walk", name := "does", desc := "(Ljava/util/List;)LSoftWheels$Walk;" } : Jvm.MethodName)) ∈ lw_all := lw_g (lw_at lw_m7 146 rfl) rfl
theorem q1684 : (Jvm.Cond.selects "SoftWheels$Walk" ({ cls := "SoftWheels$Walk", name := "does", desc := "(Ljava/util/List;)LSoftWheels$Walk;" } : Jvm.MethodName) ({ cls := "SoftWheels$Walk", name := "does", desc := "(Ljava/util/List;)LSoftWheels$Walk;" } : Jvm.MethodName)) ∈ lw_all := lw_g (lw_at lw_m7 147 rfl) rfl
theorem q1685 : (Jvm.Cond.code ({ cls := "SoftWheels$Walk", name := "does", desc := "(Ljava/util/List;)LSoftWheels$Walk;" } : Jvm.MethodName) prog_19_method_5_code (3 : Nat) (Option.some (Jvm.ClassFile.FieldType.object "SoftWheels$Walk"))) ∈ lw_all := lw_g (lw_at lw_m7 148 rfl) rfl
theorem q1686 : (Jvm.Cond.interfaceEntry "SoftWheels$Walk" (71 : Nat)) ∈ lw_tbl := lw_at lw_m7 149 rfl
theorem q1687 : (Jvm.Cond.methodLink "SoftWheels$Walk" (71 : Nat) ({ cls := "java/util/List", name := "size", desc := "()I" } : Jvm.MethodName)) ∈ lw_all := lw_g (lw_at lw_m7 150 rfl) rfl
theorem q1693 : (Jvm.Cond.interfaceEntry "SoftWheels$Walk" (76 : Nat)) ∈ lw_tbl := lw_at lw_m7 156 rfl
theorem q1694 : (Jvm.Cond.methodLink "SoftWheels$Walk" (76 : Nat) ({ cls := "java/util/List", name := "get", desc := "(I)Ljava/lang/Object;" } : Jvm.MethodName)) ∈ lw_all := lw_g (lw_at lw_m7 157 rfl) rfl
theorem q1700 : (Jvm.Cond.classLink "SoftWheels$Walk" (80 : Nat) "SoftWheels$Doing") ∈ lw_all := lw_g (lw_at lw_m7 163 rfl) rfl
theorem q1701 : (Jvm.Cond.interfaceEntry "SoftWheels$Walk" (82 : Nat)) ∈ lw_tbl := lw_at lw_m7 164 rfl
theorem q1702 : (Jvm.Cond.methodLink "SoftWheels$Walk" (82 : Nat) ({ cls := "SoftWheels$Doing", name := "by", desc := "(LSoftWheels$Walk;)V" } : Jvm.MethodName)) ∈ lw_all := lw_g (lw_at lw_m7 165 rfl) rfl
theorem q1712 : (Jvm.Cond.instanceMethod ({ cls := "SoftWheels$Walk", name := "goes", desc := "(LSoftWheels$Way;)V" } : Jvm.MethodName)) ∈ lw_all := lw_g (lw_at lw_m7 175 rfl) rfl
theorem q1713 : (Jvm.Cond.selects "SoftWheels$Walk" ({ cls := "SoftWheels$Walk", name := "goes", desc := "(LSoftWheels$Way;)V" } : Jvm.MethodName) ({ cls := "SoftWheels$Walk", name := "goes", desc := "(LSoftWheels$Way;)V" } : Jvm.MethodName)) ∈ lw_all := lw_g (lw_at lw_m7 176 rfl) rfl
theorem q1714 : (Jvm.Cond.code ({ cls := "SoftWheels$Walk", name := "goes", desc := "(LSoftWheels$Way;)V" } : Jvm.MethodName) prog_19_method_3_code (3 : Nat) (Option.none : Option Jvm.ClassFile.FieldType)) ∈ lw_all := lw_g (lw_at lw_m7 177 rfl) rfl
theorem q1715 : (Jvm.Cond.methodLink "SoftWheels$Walk" (51 : Nat) ({ cls := "SoftWheels$Land", name := "beside", desc := "(ILSoftWheels$Way;)I" } : Jvm.MethodName)) ∈ lw_all := lw_g (lw_at lw_m7 178 rfl) rfl
theorem q1716 : (Jvm.Cond.methodLink "SoftWheels$Walk" (55 : Nat) ({ cls := "SoftWheels$Walk", name := "groundOf", desc := "(I)I" } : Jvm.MethodName)) ∈ lw_all := lw_g (lw_at lw_m7 179 rfl) rfl
theorem q1717 : (Jvm.Cond.privateMethod ({ cls := "SoftWheels$Walk", name := "groundOf", desc := "(I)I" } : Jvm.MethodName)) ∈ lw_tbl := lw_at lw_m7 180 rfl
theorem q1718 : (Jvm.Cond.instanceMethod ({ cls := "SoftWheels$Walk", name := "groundOf", desc := "(I)I" } : Jvm.MethodName)) ∈ lw_all := lw_g (lw_at lw_m7 181 rfl) rfl
theorem q1719 : (Jvm.Cond.code ({ cls := "SoftWheels$Walk", name := "groundOf", desc := "(I)I" } : Jvm.MethodName) prog_19_method_2_code (2 : Nat) (Option.some Jvm.ClassFile.FieldType.int)) ∈ lw_all := lw_g (lw_at lw_m7 182 rfl) rfl
theorem q1720 : (Jvm.Cond.methodLink "SoftWheels$Walk" (58 : Nat) ({ cls := "SoftWheels$Land", name := "why", desc := "(ILSoftWheels$Way;II)I" } : Jvm.MethodName)) ∈ lw_all := lw_g (lw_at lw_m7 183 rfl) rfl
theorem q1728 : (Jvm.Cond.instanceMethod ({ cls := "SoftWheels$Walk", name := "is", desc := "(II)Z" } : Jvm.MethodName)) ∈ lw_all := lw_g (lw_at lw_m7 191 rfl) rfl
theorem q1729 : (Jvm.Cond.selects "SoftWheels$Walk" ({ cls := "SoftWheels$Walk", name := "is", desc := "(II)Z" } : Jvm.MethodName) ({ cls := "SoftWheels$Walk", name := "is", desc := "(II)Z" } : Jvm.MethodName)) ∈ lw_all := lw_g (lw_at lw_m7 192 rfl) rfl
theorem q1730 : (Jvm.Cond.code ({ cls := "SoftWheels$Walk", name := "is", desc := "(II)Z" } : Jvm.MethodName) prog_19_method_4_code (3 : Nat) (Option.some Jvm.ClassFile.FieldType.boolean)) ∈ lw_all := lw_g (lw_at lw_m7 193 rfl) rfl
theorem q1733 : (Jvm.Cond.instanceMethod ({ cls := "SoftWheels$Walk", name := "fails", desc := "(II)I" } : Jvm.MethodName)) ∈ lw_all := lw_g (lw_at lw_m7 196 rfl) rfl
theorem q1734 : (Jvm.Cond.selects "SoftWheels$Walk" ({ cls := "SoftWheels$Walk", name := "fails", desc := "(II)I" } : Jvm.MethodName) ({ cls := "SoftWheels$Walk", name := "fails", desc := "(II)I" } : Jvm.MethodName)) ∈ lw_all := lw_g (lw_at lw_m7 197 rfl) rfl
theorem q1735 : (Jvm.Cond.code ({ cls := "SoftWheels$Walk", name := "fails", desc := "(II)I" } : Jvm.MethodName) prog_19_method_6_code (3 : Nat) (Option.some Jvm.ClassFile.FieldType.int)) ∈ lw_all := lw_g (lw_at lw_m7 198 rfl) rfl
theorem q2578 : (Jvm.Cond.castable "SoftWheels$Walk" "java/lang/Object") ∈ lw_tbl := lw_at lw_m11 81 rfl
theorem in_X18 : ∀ w ∈ wsX180, w ∈ lw_all := lw_in wsX180 [1664, 1666, 1668, 1670, 1672, 1674, 1676, 1678] (by decide +kernel) (by decide +kernel)

/-! SoftWheels$Pit -/
set_option maxRecDepth 100000
def RX19 : String := "SoftWheels$Pit"
def TX19 : u_T := fun k => match k with
  | 0 => ("SoftWheels$Pit", "book", "LSoftWheels$Book;", true)
  | _ => ("SoftWheels$Pit", "out", "[J", true)
def tyX19 : Nat → FieldType := fun k => match k with
  | 0 => .object "SoftWheels$Book"
  | _ => .array .long
abbrev wsX190 : List Cond := u_ws RX19 TX19 2
theorem nmX19 : ∀ a, a < 2 → ∀ b, b < 2 → a ≠ b → (TX19 a).2.1 ≠ (TX19 b).2.1 := by decide +kernel
theorem tyX19_ok : ∀ k, k < 2 → parseFieldDescriptor (TX19 k).2.2.1 = some (tyX19 k) := by decide +kernel
abbrev cX19_init : ByteArray := prog_14_method_1_code
def yX19_init : MethodName := ⟨RX19, "<init>", "(LSoftWheels$Book;)V"⟩
def dkwX19_init_3 : List UInt8 := [182, 0, 33, 62, 132, 4, 1, 167, 255, 238, 177]
abbrev dktX19_init_3 : List UInt8 := dkwX19_init_3 ++ []
def dkwX19_init_2 : List UInt8 := [42, 180, 0, 21, 3, 9, 80, 4, 62, 3, 54, 4, 21, 4, 28, 162, 0, 18, 29, 153, 0, 14, 42]
abbrev dktX19_init_2 : List UInt8 := dkwX19_init_2 ++ dktX19_init_3
def dkwX19_init_1 : List UInt8 := [61, 132, 3, 1, 167, 255, 241, 42, 28, 188, 11, 181, 0, 21, 42, 180, 0, 21, 20, 0, 25, 184, 0, 27]
abbrev dktX19_init_1 : List UInt8 := dkwX19_init_1 ++ dktX19_init_2
def dkwX19_init_0 : List UInt8 := [42, 183, 0, 3, 42, 43, 181, 0, 9, 4, 61, 3, 62, 29, 43, 180, 0, 15, 162, 0, 13, 28, 8, 104]
abbrev dktX19_init_0 : List UInt8 := dkwX19_init_0 ++ dktX19_init_1
theorem dksX19_init_0 : cX19_init.data.toList.drop 0 = dktX19_init_0 := by decide +kernel
theorem dksX19_init_1 : cX19_init.data.toList.drop 24 = dktX19_init_1 := dk_seg dksX19_init_0 24 rfl rfl
theorem dksX19_init_2 : cX19_init.data.toList.drop 48 = dktX19_init_2 := dk_seg dksX19_init_1 24 rfl rfl
theorem dksX19_init_3 : cX19_init.data.toList.drop 71 = dktX19_init_3 := dk_seg dksX19_init_2 23 rfl rfl
theorem dX19_init_0 : decode cX19_init 0 = .ok (.aload_n 0, 1) := dk_42 (dk_at dksX19_init_0 0 rfl rfl)
theorem dX19_init_1 : decode cX19_init 1 = .ok (.invokespecial 3, 3) := dk_183 0 3 (dk_at dksX19_init_0 1 rfl rfl)
theorem dX19_init_4 : decode cX19_init 4 = .ok (.aload_n 0, 1) := dk_42 (dk_at dksX19_init_0 4 rfl rfl)
theorem dX19_init_5 : decode cX19_init 5 = .ok (.aload_n 1, 1) := dk_43 (dk_at dksX19_init_0 5 rfl rfl)
theorem dX19_init_6 : decode cX19_init 6 = .ok (.putfield 9, 3) := dk_181 0 9 (dk_at dksX19_init_0 6 rfl rfl)
theorem dX19_init_9 : decode cX19_init 9 = .ok (.iconst 1, 1) := dk_4 (dk_at dksX19_init_0 9 rfl rfl)
theorem dX19_init_10 : decode cX19_init 10 = .ok (.istore_n 2, 1) := dk_61 (dk_at dksX19_init_0 10 rfl rfl)
theorem dX19_init_11 : decode cX19_init 11 = .ok (.iconst 0, 1) := dk_3 (dk_at dksX19_init_0 11 rfl rfl)
theorem dX19_init_12 : decode cX19_init 12 = .ok (.istore_n 3, 1) := dk_62 (dk_at dksX19_init_0 12 rfl rfl)
theorem dX19_init_13 : decode cX19_init 13 = .ok (.iload_n 3, 1) := dk_29 (dk_at dksX19_init_0 13 rfl rfl)
theorem dX19_init_14 : decode cX19_init 14 = .ok (.aload_n 1, 1) := dk_43 (dk_at dksX19_init_0 14 rfl rfl)
theorem dX19_init_15 : decode cX19_init 15 = .ok (.getfield 15, 3) := dk_180 0 15 (dk_at dksX19_init_0 15 rfl rfl)
theorem dX19_init_18 : decode cX19_init 18 = .ok (.if_icmp .ge 13, 3) := dk_162 0 13 (dk_at dksX19_init_0 18 rfl rfl)
theorem dX19_init_21 : decode cX19_init 21 = .ok (.iload_n 2, 1) := dk_28 (dk_at dksX19_init_0 21 rfl rfl)
theorem dX19_init_22 : decode cX19_init 22 = .ok (.iconst 5, 1) := dk_8 (dk_at dksX19_init_0 22 rfl rfl)
theorem dX19_init_23 : decode cX19_init 23 = .ok (.imul, 1) := dk_104 (dk_at dksX19_init_0 23 rfl rfl)
theorem dX19_init_24 : decode cX19_init 24 = .ok (.istore_n 2, 1) := dk_61 (dk_at dksX19_init_1 0 rfl rfl)
theorem dX19_init_25 : decode cX19_init 25 = .ok (.iinc 3 1, 3) := dk_132 3 1 (dk_at dksX19_init_1 1 rfl rfl)
theorem dX19_init_28 : decode cX19_init 28 = .ok (.goto (-15), 3) := dk_167 255 241 (dk_at dksX19_init_1 4 rfl rfl)
theorem dX19_init_31 : decode cX19_init 31 = .ok (.aload_n 0, 1) := dk_42 (dk_at dksX19_init_1 7 rfl rfl)
theorem dX19_init_32 : decode cX19_init 32 = .ok (.iload_n 2, 1) := dk_28 (dk_at dksX19_init_1 8 rfl rfl)
theorem dX19_init_33 : decode cX19_init 33 = .ok (.newarray .long, 2) := dk_188_11 (dk_at dksX19_init_1 9 rfl rfl)
theorem dX19_init_35 : decode cX19_init 35 = .ok (.putfield 21, 3) := dk_181 0 21 (dk_at dksX19_init_1 11 rfl rfl)
theorem dX19_init_38 : decode cX19_init 38 = .ok (.aload_n 0, 1) := dk_42 (dk_at dksX19_init_1 14 rfl rfl)
theorem dX19_init_39 : decode cX19_init 39 = .ok (.getfield 21, 3) := dk_180 0 21 (dk_at dksX19_init_1 15 rfl rfl)
theorem dX19_init_42 : decode cX19_init 42 = .ok (.ldc2_w 25, 3) := dk_20 0 25 (dk_at dksX19_init_1 18 rfl rfl)
theorem dX19_init_45 : decode cX19_init 45 = .ok (.invokestatic 27, 3) := dk_184 0 27 (dk_at dksX19_init_1 21 rfl rfl)
theorem dX19_init_48 : decode cX19_init 48 = .ok (.aload_n 0, 1) := dk_42 (dk_at dksX19_init_2 0 rfl rfl)
theorem dX19_init_49 : decode cX19_init 49 = .ok (.getfield 21, 3) := dk_180 0 21 (dk_at dksX19_init_2 1 rfl rfl)
theorem dX19_init_52 : decode cX19_init 52 = .ok (.iconst 0, 1) := dk_3 (dk_at dksX19_init_2 4 rfl rfl)
theorem dX19_init_53 : decode cX19_init 53 = .ok (.lconst 0, 1) := dk_9 (dk_at dksX19_init_2 5 rfl rfl)
theorem dX19_init_54 : decode cX19_init 54 = .ok (.lastore, 1) := dk_80 (dk_at dksX19_init_2 6 rfl rfl)
theorem dX19_init_55 : decode cX19_init 55 = .ok (.iconst 1, 1) := dk_4 (dk_at dksX19_init_2 7 rfl rfl)
theorem dX19_init_56 : decode cX19_init 56 = .ok (.istore_n 3, 1) := dk_62 (dk_at dksX19_init_2 8 rfl rfl)
theorem dX19_init_57 : decode cX19_init 57 = .ok (.iconst 0, 1) := dk_3 (dk_at dksX19_init_2 9 rfl rfl)
theorem dX19_init_58 : decode cX19_init 58 = .ok (.istore 4, 2) := dk_54 4 (dk_at dksX19_init_2 10 rfl rfl)
theorem dX19_init_60 : decode cX19_init 60 = .ok (.iload 4, 2) := dk_21 4 (dk_at dksX19_init_2 12 rfl rfl)
theorem dX19_init_62 : decode cX19_init 62 = .ok (.iload_n 2, 1) := dk_28 (dk_at dksX19_init_2 14 rfl rfl)
theorem dX19_init_63 : decode cX19_init 63 = .ok (.if_icmp .ge 18, 3) := dk_162 0 18 (dk_at dksX19_init_2 15 rfl rfl)
theorem dX19_init_66 : decode cX19_init 66 = .ok (.iload_n 3, 1) := dk_29 (dk_at dksX19_init_2 18 rfl rfl)
theorem dX19_init_67 : decode cX19_init 67 = .ok (.ifCond .eq 14, 3) := dk_153 0 14 (dk_at dksX19_init_2 19 rfl rfl)
theorem dX19_init_70 : decode cX19_init 70 = .ok (.aload_n 0, 1) := dk_42 (dk_at dksX19_init_2 22 rfl rfl)
theorem dX19_init_71 : decode cX19_init 71 = .ok (.invokevirtual 33, 3) := dk_182 0 33 (dk_at dksX19_init_3 0 rfl rfl)
theorem dX19_init_74 : decode cX19_init 74 = .ok (.istore_n 3, 1) := dk_62 (dk_at dksX19_init_3 3 rfl rfl)
theorem dX19_init_75 : decode cX19_init 75 = .ok (.iinc 4 1, 3) := dk_132 4 1 (dk_at dksX19_init_3 4 rfl rfl)
theorem dX19_init_78 : decode cX19_init 78 = .ok (.goto (-18), 3) := dk_167 255 238 (dk_at dksX19_init_3 7 rfl rfl)
theorem dX19_init_81 : decode cX19_init 81 = .ok (.return_, 1) := dk_177 (dk_at dksX19_init_3 10 rfl rfl)
abbrev cX19_lowers : ByteArray := prog_14_method_5_code
def yX19_lowers : MethodName := ⟨RX19, "lowers", "()Z"⟩
def dkwX19_lowers_4 : List UInt8 := [33, 97, 80, 4, 60, 132, 5, 1, 167, 255, 176, 132, 2, 1, 167, 255, 150, 27, 172]
abbrev dktX19_lowers_4 : List UInt8 := dkwX19_lowers_4 ++ []
def dkwX19_lowers_3 : List UInt8 := [33, 97, 42, 180, 0, 21, 21, 5, 47, 148, 155, 0, 6, 167, 0, 16, 42, 180, 0, 21, 21, 5, 22, 6]
abbrev dktX19_lowers_3 : List UInt8 := dkwX19_lowers_3 ++ dktX19_lowers_4
def dkwX19_lowers_2 : List UInt8 := [180, 0, 9, 180, 0, 15, 112, 182, 0, 66, 47, 55, 6, 22, 6, 20, 0, 25, 148, 153, 0, 34, 22, 6]
abbrev dktX19_lowers_2 : List UInt8 := dkwX19_lowers_2 ++ dktX19_lowers_3
def dkwX19_lowers_1 : List UInt8 := [21, 5, 42, 180, 0, 21, 190, 162, 0, 76, 42, 180, 0, 21, 42, 21, 5, 42, 28, 182, 0, 59, 28, 42]
abbrev dktX19_lowers_1 : List UInt8 := dkwX19_lowers_1 ++ dktX19_lowers_2
def dkwX19_lowers_0 : List UInt8 := [3, 60, 3, 61, 28, 42, 182, 0, 56, 162, 0, 104, 42, 28, 182, 0, 59, 184, 0, 63, 66, 4, 54, 5]
abbrev dktX19_lowers_0 : List UInt8 := dkwX19_lowers_0 ++ dktX19_lowers_1
theorem dksX19_lowers_0 : cX19_lowers.data.toList.drop 0 = dktX19_lowers_0 := by decide +kernel
theorem dksX19_lowers_1 : cX19_lowers.data.toList.drop 24 = dktX19_lowers_1 := dk_seg dksX19_lowers_0 24 rfl rfl
theorem dksX19_lowers_2 : cX19_lowers.data.toList.drop 48 = dktX19_lowers_2 := dk_seg dksX19_lowers_1 24 rfl rfl
theorem dksX19_lowers_3 : cX19_lowers.data.toList.drop 72 = dktX19_lowers_3 := dk_seg dksX19_lowers_2 24 rfl rfl
theorem dksX19_lowers_4 : cX19_lowers.data.toList.drop 96 = dktX19_lowers_4 := dk_seg dksX19_lowers_3 24 rfl rfl
theorem dX19_lowers_0 : decode cX19_lowers 0 = .ok (.iconst 0, 1) := dk_3 (dk_at dksX19_lowers_0 0 rfl rfl)
theorem dX19_lowers_1 : decode cX19_lowers 1 = .ok (.istore_n 1, 1) := dk_60 (dk_at dksX19_lowers_0 1 rfl rfl)
theorem dX19_lowers_2 : decode cX19_lowers 2 = .ok (.iconst 0, 1) := dk_3 (dk_at dksX19_lowers_0 2 rfl rfl)
theorem dX19_lowers_3 : decode cX19_lowers 3 = .ok (.istore_n 2, 1) := dk_61 (dk_at dksX19_lowers_0 3 rfl rfl)
theorem dX19_lowers_4 : decode cX19_lowers 4 = .ok (.iload_n 2, 1) := dk_28 (dk_at dksX19_lowers_0 4 rfl rfl)
theorem dX19_lowers_5 : decode cX19_lowers 5 = .ok (.aload_n 0, 1) := dk_42 (dk_at dksX19_lowers_0 5 rfl rfl)
theorem dX19_lowers_6 : decode cX19_lowers 6 = .ok (.invokevirtual 56, 3) := dk_182 0 56 (dk_at dksX19_lowers_0 6 rfl rfl)
theorem dX19_lowers_9 : decode cX19_lowers 9 = .ok (.if_icmp .ge 104, 3) := dk_162 0 104 (dk_at dksX19_lowers_0 9 rfl rfl)
theorem dX19_lowers_12 : decode cX19_lowers 12 = .ok (.aload_n 0, 1) := dk_42 (dk_at dksX19_lowers_0 12 rfl rfl)
theorem dX19_lowers_13 : decode cX19_lowers 13 = .ok (.iload_n 2, 1) := dk_28 (dk_at dksX19_lowers_0 13 rfl rfl)
theorem dX19_lowers_14 : decode cX19_lowers 14 = .ok (.invokevirtual 59, 3) := dk_182 0 59 (dk_at dksX19_lowers_0 14 rfl rfl)
theorem dX19_lowers_17 : decode cX19_lowers 17 = .ok (.invokestatic 63, 3) := dk_184 0 63 (dk_at dksX19_lowers_0 17 rfl rfl)
theorem dX19_lowers_20 : decode cX19_lowers 20 = .ok (.lstore_n 3, 1) := dk_66 (dk_at dksX19_lowers_0 20 rfl rfl)
theorem dX19_lowers_21 : decode cX19_lowers 21 = .ok (.iconst 1, 1) := dk_4 (dk_at dksX19_lowers_0 21 rfl rfl)
theorem dX19_lowers_22 : decode cX19_lowers 22 = .ok (.istore 5, 2) := dk_54 5 (dk_at dksX19_lowers_0 22 rfl rfl)
theorem dX19_lowers_24 : decode cX19_lowers 24 = .ok (.iload 5, 2) := dk_21 5 (dk_at dksX19_lowers_1 0 rfl rfl)
theorem dX19_lowers_26 : decode cX19_lowers 26 = .ok (.aload_n 0, 1) := dk_42 (dk_at dksX19_lowers_1 2 rfl rfl)
theorem dX19_lowers_27 : decode cX19_lowers 27 = .ok (.getfield 21, 3) := dk_180 0 21 (dk_at dksX19_lowers_1 3 rfl rfl)
theorem dX19_lowers_30 : decode cX19_lowers 30 = .ok (.arraylength, 1) := dk_190 (dk_at dksX19_lowers_1 6 rfl rfl)
theorem dX19_lowers_31 : decode cX19_lowers 31 = .ok (.if_icmp .ge 76, 3) := dk_162 0 76 (dk_at dksX19_lowers_1 7 rfl rfl)
theorem dX19_lowers_34 : decode cX19_lowers 34 = .ok (.aload_n 0, 1) := dk_42 (dk_at dksX19_lowers_1 10 rfl rfl)
theorem dX19_lowers_35 : decode cX19_lowers 35 = .ok (.getfield 21, 3) := dk_180 0 21 (dk_at dksX19_lowers_1 11 rfl rfl)
theorem dX19_lowers_38 : decode cX19_lowers 38 = .ok (.aload_n 0, 1) := dk_42 (dk_at dksX19_lowers_1 14 rfl rfl)
theorem dX19_lowers_39 : decode cX19_lowers 39 = .ok (.iload 5, 2) := dk_21 5 (dk_at dksX19_lowers_1 15 rfl rfl)
theorem dX19_lowers_41 : decode cX19_lowers 41 = .ok (.aload_n 0, 1) := dk_42 (dk_at dksX19_lowers_1 17 rfl rfl)
theorem dX19_lowers_42 : decode cX19_lowers 42 = .ok (.iload_n 2, 1) := dk_28 (dk_at dksX19_lowers_1 18 rfl rfl)
theorem dX19_lowers_43 : decode cX19_lowers 43 = .ok (.invokevirtual 59, 3) := dk_182 0 59 (dk_at dksX19_lowers_1 19 rfl rfl)
theorem dX19_lowers_46 : decode cX19_lowers 46 = .ok (.iload_n 2, 1) := dk_28 (dk_at dksX19_lowers_1 22 rfl rfl)
theorem dX19_lowers_47 : decode cX19_lowers 47 = .ok (.aload_n 0, 1) := dk_42 (dk_at dksX19_lowers_1 23 rfl rfl)
theorem dX19_lowers_48 : decode cX19_lowers 48 = .ok (.getfield 9, 3) := dk_180 0 9 (dk_at dksX19_lowers_2 0 rfl rfl)
theorem dX19_lowers_51 : decode cX19_lowers 51 = .ok (.getfield 15, 3) := dk_180 0 15 (dk_at dksX19_lowers_2 3 rfl rfl)
theorem dX19_lowers_54 : decode cX19_lowers 54 = .ok (.irem, 1) := dk_112 (dk_at dksX19_lowers_2 6 rfl rfl)
theorem dX19_lowers_55 : decode cX19_lowers 55 = .ok (.invokevirtual 66, 3) := dk_182 0 66 (dk_at dksX19_lowers_2 7 rfl rfl)
theorem dX19_lowers_58 : decode cX19_lowers 58 = .ok (.laload, 1) := dk_47 (dk_at dksX19_lowers_2 10 rfl rfl)
theorem dX19_lowers_59 : decode cX19_lowers 59 = .ok (.lstore 6, 2) := dk_55 6 (dk_at dksX19_lowers_2 11 rfl rfl)
theorem dX19_lowers_61 : decode cX19_lowers 61 = .ok (.lload 6, 2) := dk_22 6 (dk_at dksX19_lowers_2 13 rfl rfl)
theorem dX19_lowers_63 : decode cX19_lowers 63 = .ok (.ldc2_w 25, 3) := dk_20 0 25 (dk_at dksX19_lowers_2 15 rfl rfl)
theorem dX19_lowers_66 : decode cX19_lowers 66 = .ok (.lcmp, 1) := dk_148 (dk_at dksX19_lowers_2 18 rfl rfl)
theorem dX19_lowers_67 : decode cX19_lowers 67 = .ok (.ifCond .eq 34, 3) := dk_153 0 34 (dk_at dksX19_lowers_2 19 rfl rfl)
theorem dX19_lowers_70 : decode cX19_lowers 70 = .ok (.lload 6, 2) := dk_22 6 (dk_at dksX19_lowers_2 22 rfl rfl)
theorem dX19_lowers_72 : decode cX19_lowers 72 = .ok (.lload_n 3, 1) := dk_33 (dk_at dksX19_lowers_3 0 rfl rfl)
theorem dX19_lowers_73 : decode cX19_lowers 73 = .ok (.ladd, 1) := dk_97 (dk_at dksX19_lowers_3 1 rfl rfl)
theorem dX19_lowers_74 : decode cX19_lowers 74 = .ok (.aload_n 0, 1) := dk_42 (dk_at dksX19_lowers_3 2 rfl rfl)
theorem dX19_lowers_75 : decode cX19_lowers 75 = .ok (.getfield 21, 3) := dk_180 0 21 (dk_at dksX19_lowers_3 3 rfl rfl)
theorem dX19_lowers_78 : decode cX19_lowers 78 = .ok (.iload 5, 2) := dk_21 5 (dk_at dksX19_lowers_3 6 rfl rfl)
theorem dX19_lowers_80 : decode cX19_lowers 80 = .ok (.laload, 1) := dk_47 (dk_at dksX19_lowers_3 8 rfl rfl)
theorem dX19_lowers_81 : decode cX19_lowers 81 = .ok (.lcmp, 1) := dk_148 (dk_at dksX19_lowers_3 9 rfl rfl)
theorem dX19_lowers_82 : decode cX19_lowers 82 = .ok (.ifCond .lt 6, 3) := dk_155 0 6 (dk_at dksX19_lowers_3 10 rfl rfl)
theorem dX19_lowers_85 : decode cX19_lowers 85 = .ok (.goto 16, 3) := dk_167 0 16 (dk_at dksX19_lowers_3 13 rfl rfl)
theorem dX19_lowers_88 : decode cX19_lowers 88 = .ok (.aload_n 0, 1) := dk_42 (dk_at dksX19_lowers_3 16 rfl rfl)
theorem dX19_lowers_89 : decode cX19_lowers 89 = .ok (.getfield 21, 3) := dk_180 0 21 (dk_at dksX19_lowers_3 17 rfl rfl)
theorem dX19_lowers_92 : decode cX19_lowers 92 = .ok (.iload 5, 2) := dk_21 5 (dk_at dksX19_lowers_3 20 rfl rfl)
theorem dX19_lowers_94 : decode cX19_lowers 94 = .ok (.lload 6, 2) := dk_22 6 (dk_at dksX19_lowers_3 22 rfl rfl)
theorem dX19_lowers_96 : decode cX19_lowers 96 = .ok (.lload_n 3, 1) := dk_33 (dk_at dksX19_lowers_4 0 rfl rfl)
theorem dX19_lowers_97 : decode cX19_lowers 97 = .ok (.ladd, 1) := dk_97 (dk_at dksX19_lowers_4 1 rfl rfl)
theorem dX19_lowers_98 : decode cX19_lowers 98 = .ok (.lastore, 1) := dk_80 (dk_at dksX19_lowers_4 2 rfl rfl)
theorem dX19_lowers_99 : decode cX19_lowers 99 = .ok (.iconst 1, 1) := dk_4 (dk_at dksX19_lowers_4 3 rfl rfl)
theorem dX19_lowers_100 : decode cX19_lowers 100 = .ok (.istore_n 1, 1) := dk_60 (dk_at dksX19_lowers_4 4 rfl rfl)
theorem dX19_lowers_101 : decode cX19_lowers 101 = .ok (.iinc 5 1, 3) := dk_132 5 1 (dk_at dksX19_lowers_4 5 rfl rfl)
theorem dX19_lowers_104 : decode cX19_lowers 104 = .ok (.goto (-80), 3) := dk_167 255 176 (dk_at dksX19_lowers_4 8 rfl rfl)
theorem dX19_lowers_107 : decode cX19_lowers 107 = .ok (.iinc 2 1, 3) := dk_132 2 1 (dk_at dksX19_lowers_4 11 rfl rfl)
theorem dX19_lowers_110 : decode cX19_lowers 110 = .ok (.goto (-106), 3) := dk_167 255 150 (dk_at dksX19_lowers_4 14 rfl rfl)
theorem dX19_lowers_113 : decode cX19_lowers 113 = .ok (.iload_n 1, 1) := dk_27 (dk_at dksX19_lowers_4 17 rfl rfl)
theorem dX19_lowers_114 : decode cX19_lowers 114 = .ok (.ireturn, 1) := dk_172 (dk_at dksX19_lowers_4 18 rfl rfl)
abbrev cX19_many : ByteArray := prog_14_method_2_code
def yX19_many : MethodName := ⟨RX19, "many", "()I"⟩
def dkwX19_many_0 : List UInt8 := [42, 180, 0, 9, 180, 0, 37, 182, 0, 41, 42, 180, 0, 9, 180, 0, 15, 104, 172]
abbrev dktX19_many_0 : List UInt8 := dkwX19_many_0 ++ []
theorem dksX19_many_0 : cX19_many.data.toList.drop 0 = dktX19_many_0 := by decide +kernel
theorem dX19_many_0 : decode cX19_many 0 = .ok (.aload_n 0, 1) := dk_42 (dk_at dksX19_many_0 0 rfl rfl)
theorem dX19_many_1 : decode cX19_many 1 = .ok (.getfield 9, 3) := dk_180 0 9 (dk_at dksX19_many_0 1 rfl rfl)
theorem dX19_many_4 : decode cX19_many 4 = .ok (.getfield 37, 3) := dk_180 0 37 (dk_at dksX19_many_0 4 rfl rfl)
theorem dX19_many_7 : decode cX19_many 7 = .ok (.invokevirtual 41, 3) := dk_182 0 41 (dk_at dksX19_many_0 7 rfl rfl)
theorem dX19_many_10 : decode cX19_many 10 = .ok (.aload_n 0, 1) := dk_42 (dk_at dksX19_many_0 10 rfl rfl)
theorem dX19_many_11 : decode cX19_many 11 = .ok (.getfield 9, 3) := dk_180 0 9 (dk_at dksX19_many_0 11 rfl rfl)
theorem dX19_many_14 : decode cX19_many 14 = .ok (.getfield 15, 3) := dk_180 0 15 (dk_at dksX19_many_0 14 rfl rfl)
theorem dX19_many_17 : decode cX19_many 17 = .ok (.imul, 1) := dk_104 (dk_at dksX19_many_0 17 rfl rfl)
theorem dX19_many_18 : decode cX19_many 18 = .ok (.ireturn, 1) := dk_172 (dk_at dksX19_many_0 18 rfl rfl)
abbrev cX19_attempt : ByteArray := prog_14_method_3_code
def yX19_attempt : MethodName := ⟨RX19, "attempt", "(I)LSoftWheels$Attempt;"⟩
def dkwX19_attempt_0 : List UInt8 := [42, 180, 0, 9, 180, 0, 37, 27, 42, 180, 0, 9, 180, 0, 15, 108, 182, 0, 47, 192, 0, 51, 176]
abbrev dktX19_attempt_0 : List UInt8 := dkwX19_attempt_0 ++ []
theorem dksX19_attempt_0 : cX19_attempt.data.toList.drop 0 = dktX19_attempt_0 := by decide +kernel
theorem dX19_attempt_0 : decode cX19_attempt 0 = .ok (.aload_n 0, 1) := dk_42 (dk_at dksX19_attempt_0 0 rfl rfl)
theorem dX19_attempt_1 : decode cX19_attempt 1 = .ok (.getfield 9, 3) := dk_180 0 9 (dk_at dksX19_attempt_0 1 rfl rfl)
theorem dX19_attempt_4 : decode cX19_attempt 4 = .ok (.getfield 37, 3) := dk_180 0 37 (dk_at dksX19_attempt_0 4 rfl rfl)
theorem dX19_attempt_7 : decode cX19_attempt 7 = .ok (.iload_n 1, 1) := dk_27 (dk_at dksX19_attempt_0 7 rfl rfl)
theorem dX19_attempt_8 : decode cX19_attempt 8 = .ok (.aload_n 0, 1) := dk_42 (dk_at dksX19_attempt_0 8 rfl rfl)
theorem dX19_attempt_9 : decode cX19_attempt 9 = .ok (.getfield 9, 3) := dk_180 0 9 (dk_at dksX19_attempt_0 9 rfl rfl)
theorem dX19_attempt_12 : decode cX19_attempt 12 = .ok (.getfield 15, 3) := dk_180 0 15 (dk_at dksX19_attempt_0 12 rfl rfl)
theorem dX19_attempt_15 : decode cX19_attempt 15 = .ok (.idiv, 1) := dk_108 (dk_at dksX19_attempt_0 15 rfl rfl)
theorem dX19_attempt_16 : decode cX19_attempt 16 = .ok (.invokevirtual 47, 3) := dk_182 0 47 (dk_at dksX19_attempt_0 16 rfl rfl)
theorem dX19_attempt_19 : decode cX19_attempt 19 = .ok (.checkcast 51, 3) := dk_192 0 51 (dk_at dksX19_attempt_0 19 rfl rfl)
theorem dX19_attempt_22 : decode cX19_attempt 22 = .ok (.areturn, 1) := dk_176 (dk_at dksX19_attempt_0 22 rfl rfl)
abbrev cX19_cost : ByteArray := prog_14_method_4_code
def yX19_cost : MethodName := ⟨RX19, "cost", "(LSoftWheels$Attempt;)J"⟩
def dkwX19_cost_0 : List UInt8 := [42, 182, 0, 53, 133, 16, 20, 121, 10, 97, 173]
abbrev dktX19_cost_0 : List UInt8 := dkwX19_cost_0 ++ []
theorem dksX19_cost_0 : cX19_cost.data.toList.drop 0 = dktX19_cost_0 := by decide +kernel
theorem dX19_cost_0 : decode cX19_cost 0 = .ok (.aload_n 0, 1) := dk_42 (dk_at dksX19_cost_0 0 rfl rfl)
theorem dX19_cost_1 : decode cX19_cost 1 = .ok (.invokevirtual 53, 3) := dk_182 0 53 (dk_at dksX19_cost_0 1 rfl rfl)
theorem dX19_cost_4 : decode cX19_cost 4 = .ok (.i2l, 1) := dk_133 (dk_at dksX19_cost_0 4 rfl rfl)
theorem dX19_cost_5 : decode cX19_cost 5 = .ok (.bipush 20, 2) := dk_16 20 (dk_at dksX19_cost_0 5 rfl rfl)
theorem dX19_cost_7 : decode cX19_cost 7 = .ok (.lshl, 1) := dk_121 (dk_at dksX19_cost_0 7 rfl rfl)
theorem dX19_cost_8 : decode cX19_cost 8 = .ok (.lconst 1, 1) := dk_10 (dk_at dksX19_cost_0 8 rfl rfl)
theorem dX19_cost_9 : decode cX19_cost 9 = .ok (.ladd, 1) := dk_97 (dk_at dksX19_cost_0 9 rfl rfl)
theorem dX19_cost_10 : decode cX19_cost 10 = .ok (.lreturn, 1) := dk_173 (dk_at dksX19_cost_0 10 rfl rfl)
abbrev cX19_next : ByteArray := prog_14_method_6_code
def yX19_next : MethodName := ⟨RX19, "next", "(ILSoftWheels$Attempt;I)I"⟩
def dkwX19_next_3 : List UInt8 := [21, 6, 8, 108, 54, 6, 132, 7, 1, 167, 255, 187, 21, 4, 172]
abbrev dktX19_next_3 : List UInt8 := dkwX19_next_3 ++ []
def dkwX19_next_2 : List UInt8 := [21, 4, 21, 5, 3, 7, 21, 8, 184, 0, 76, 184, 0, 82, 104, 96, 54, 4, 21, 5, 8, 104, 54, 5]
abbrev dktX19_next_2 : List UInt8 := dkwX19_next_2 ++ dktX19_next_3
def dkwX19_next_1 : List UInt8 := [21, 6, 8, 112, 21, 7, 29, 160, 0, 10, 44, 182, 0, 70, 167, 0, 7, 44, 182, 0, 73, 96, 54, 8]
abbrev dktX19_next_1 : List UInt8 := dkwX19_next_1 ++ dktX19_next_2
def dkwX19_next_0 : List UInt8 := [3, 54, 4, 4, 54, 5, 27, 54, 6, 3, 54, 7, 21, 7, 42, 180, 0, 9, 180, 0, 15, 162, 0, 63]
abbrev dktX19_next_0 : List UInt8 := dkwX19_next_0 ++ dktX19_next_1
theorem dksX19_next_0 : cX19_next.data.toList.drop 0 = dktX19_next_0 := by decide +kernel
theorem dksX19_next_1 : cX19_next.data.toList.drop 24 = dktX19_next_1 := dk_seg dksX19_next_0 24 rfl rfl
theorem dksX19_next_2 : cX19_next.data.toList.drop 48 = dktX19_next_2 := dk_seg dksX19_next_1 24 rfl rfl
theorem dksX19_next_3 : cX19_next.data.toList.drop 72 = dktX19_next_3 := dk_seg dksX19_next_2 24 rfl rfl
theorem dX19_next_0 : decode cX19_next 0 = .ok (.iconst 0, 1) := dk_3 (dk_at dksX19_next_0 0 rfl rfl)
theorem dX19_next_1 : decode cX19_next 1 = .ok (.istore 4, 2) := dk_54 4 (dk_at dksX19_next_0 1 rfl rfl)
theorem dX19_next_3 : decode cX19_next 3 = .ok (.iconst 1, 1) := dk_4 (dk_at dksX19_next_0 3 rfl rfl)
theorem dX19_next_4 : decode cX19_next 4 = .ok (.istore 5, 2) := dk_54 5 (dk_at dksX19_next_0 4 rfl rfl)
theorem dX19_next_6 : decode cX19_next 6 = .ok (.iload_n 1, 1) := dk_27 (dk_at dksX19_next_0 6 rfl rfl)
theorem dX19_next_7 : decode cX19_next 7 = .ok (.istore 6, 2) := dk_54 6 (dk_at dksX19_next_0 7 rfl rfl)
theorem dX19_next_9 : decode cX19_next 9 = .ok (.iconst 0, 1) := dk_3 (dk_at dksX19_next_0 9 rfl rfl)
theorem dX19_next_10 : decode cX19_next 10 = .ok (.istore 7, 2) := dk_54 7 (dk_at dksX19_next_0 10 rfl rfl)
theorem dX19_next_12 : decode cX19_next 12 = .ok (.iload 7, 2) := dk_21 7 (dk_at dksX19_next_0 12 rfl rfl)
theorem dX19_next_14 : decode cX19_next 14 = .ok (.aload_n 0, 1) := dk_42 (dk_at dksX19_next_0 14 rfl rfl)
theorem dX19_next_15 : decode cX19_next 15 = .ok (.getfield 9, 3) := dk_180 0 9 (dk_at dksX19_next_0 15 rfl rfl)
theorem dX19_next_18 : decode cX19_next 18 = .ok (.getfield 15, 3) := dk_180 0 15 (dk_at dksX19_next_0 18 rfl rfl)
theorem dX19_next_21 : decode cX19_next 21 = .ok (.if_icmp .ge 63, 3) := dk_162 0 63 (dk_at dksX19_next_0 21 rfl rfl)
theorem dX19_next_24 : decode cX19_next 24 = .ok (.iload 6, 2) := dk_21 6 (dk_at dksX19_next_1 0 rfl rfl)
theorem dX19_next_26 : decode cX19_next 26 = .ok (.iconst 5, 1) := dk_8 (dk_at dksX19_next_1 2 rfl rfl)
theorem dX19_next_27 : decode cX19_next 27 = .ok (.irem, 1) := dk_112 (dk_at dksX19_next_1 3 rfl rfl)
theorem dX19_next_28 : decode cX19_next 28 = .ok (.iload 7, 2) := dk_21 7 (dk_at dksX19_next_1 4 rfl rfl)
theorem dX19_next_30 : decode cX19_next 30 = .ok (.iload_n 3, 1) := dk_29 (dk_at dksX19_next_1 6 rfl rfl)
theorem dX19_next_31 : decode cX19_next 31 = .ok (.if_icmp .ne 10, 3) := dk_160 0 10 (dk_at dksX19_next_1 7 rfl rfl)
theorem dX19_next_34 : decode cX19_next 34 = .ok (.aload_n 2, 1) := dk_44 (dk_at dksX19_next_1 10 rfl rfl)
theorem dX19_next_35 : decode cX19_next 35 = .ok (.invokevirtual 70, 3) := dk_182 0 70 (dk_at dksX19_next_1 11 rfl rfl)
theorem dX19_next_38 : decode cX19_next 38 = .ok (.goto 7, 3) := dk_167 0 7 (dk_at dksX19_next_1 14 rfl rfl)
theorem dX19_next_41 : decode cX19_next 41 = .ok (.aload_n 2, 1) := dk_44 (dk_at dksX19_next_1 17 rfl rfl)
theorem dX19_next_42 : decode cX19_next 42 = .ok (.invokevirtual 73, 3) := dk_182 0 73 (dk_at dksX19_next_1 18 rfl rfl)
theorem dX19_next_45 : decode cX19_next 45 = .ok (.iadd, 1) := dk_96 (dk_at dksX19_next_1 21 rfl rfl)
theorem dX19_next_46 : decode cX19_next 46 = .ok (.istore 8, 2) := dk_54 8 (dk_at dksX19_next_1 22 rfl rfl)
theorem dX19_next_48 : decode cX19_next 48 = .ok (.iload 4, 2) := dk_21 4 (dk_at dksX19_next_2 0 rfl rfl)
theorem dX19_next_50 : decode cX19_next 50 = .ok (.iload 5, 2) := dk_21 5 (dk_at dksX19_next_2 2 rfl rfl)
theorem dX19_next_52 : decode cX19_next 52 = .ok (.iconst 0, 1) := dk_3 (dk_at dksX19_next_2 4 rfl rfl)
theorem dX19_next_53 : decode cX19_next 53 = .ok (.iconst 4, 1) := dk_7 (dk_at dksX19_next_2 5 rfl rfl)
theorem dX19_next_54 : decode cX19_next 54 = .ok (.iload 8, 2) := dk_21 8 (dk_at dksX19_next_2 6 rfl rfl)
theorem dX19_next_56 : decode cX19_next 56 = .ok (.invokestatic 76, 3) := dk_184 0 76 (dk_at dksX19_next_2 8 rfl rfl)
theorem dX19_next_59 : decode cX19_next 59 = .ok (.invokestatic 82, 3) := dk_184 0 82 (dk_at dksX19_next_2 11 rfl rfl)
theorem dX19_next_62 : decode cX19_next 62 = .ok (.imul, 1) := dk_104 (dk_at dksX19_next_2 14 rfl rfl)
theorem dX19_next_63 : decode cX19_next 63 = .ok (.iadd, 1) := dk_96 (dk_at dksX19_next_2 15 rfl rfl)
theorem dX19_next_64 : decode cX19_next 64 = .ok (.istore 4, 2) := dk_54 4 (dk_at dksX19_next_2 16 rfl rfl)
theorem dX19_next_66 : decode cX19_next 66 = .ok (.iload 5, 2) := dk_21 5 (dk_at dksX19_next_2 18 rfl rfl)
theorem dX19_next_68 : decode cX19_next 68 = .ok (.iconst 5, 1) := dk_8 (dk_at dksX19_next_2 20 rfl rfl)
theorem dX19_next_69 : decode cX19_next 69 = .ok (.imul, 1) := dk_104 (dk_at dksX19_next_2 21 rfl rfl)
theorem dX19_next_70 : decode cX19_next 70 = .ok (.istore 5, 2) := dk_54 5 (dk_at dksX19_next_2 22 rfl rfl)
theorem dX19_next_72 : decode cX19_next 72 = .ok (.iload 6, 2) := dk_21 6 (dk_at dksX19_next_3 0 rfl rfl)
theorem dX19_next_74 : decode cX19_next 74 = .ok (.iconst 5, 1) := dk_8 (dk_at dksX19_next_3 2 rfl rfl)
theorem dX19_next_75 : decode cX19_next 75 = .ok (.idiv, 1) := dk_108 (dk_at dksX19_next_3 3 rfl rfl)
theorem dX19_next_76 : decode cX19_next 76 = .ok (.istore 6, 2) := dk_54 6 (dk_at dksX19_next_3 4 rfl rfl)
theorem dX19_next_78 : decode cX19_next 78 = .ok (.iinc 7 1, 3) := dk_132 7 1 (dk_at dksX19_next_3 6 rfl rfl)
theorem dX19_next_81 : decode cX19_next 81 = .ok (.goto (-69), 3) := dk_167 255 187 (dk_at dksX19_next_3 9 rfl rfl)
theorem dX19_next_84 : decode cX19_next 84 = .ok (.iload 4, 2) := dk_21 4 (dk_at dksX19_next_3 12 rfl rfl)
theorem dX19_next_86 : decode cX19_next 86 = .ok (.ireturn, 1) := dk_172 (dk_at dksX19_next_3 14 rfl rfl)
theorem q141 : (Jvm.Cond.initialized "SoftWheels$Pit") ∈ lw_all := lw_g (lw_at lw_m1 44 rfl) rfl
theorem q293 : (Jvm.Cond.fieldLinkNest "SoftWheels$Pit" (37 : Nat) "SoftWheels$Book" "attempts" "Ljava/util/ArrayList;" "SoftWheels") ∈ lw_tbl := lw_at lw_m1 196 rfl
theorem q296 : (Jvm.Cond.fieldLinkNest "SoftWheels$Pit" (15 : Nat) "SoftWheels$Book" "wheels" "I" "SoftWheels") ∈ lw_tbl := lw_at lw_m1 199 rfl
theorem q968 : (Jvm.Cond.selects "SoftWheels$Pit" ({ cls := "java/lang/Object", name := "getClass", desc := "()Ljava/lang/Class;" } : Jvm.MethodName) ({ cls := "java/lang/Object", name := "getClass", desc := "()Ljava/lang/Class;" } : Jvm.MethodName)) ∈ lw_all := lw_g (lw_at lw_m4 151 rfl) rfl
theorem q1759 : (Jvm.Cond.instantiable "SoftWheels$Pit" (2 : Nat)) ∈ lw_all := lw_g (lw_at lw_m7 222 rfl) rfl
theorem q1761 : (Jvm.Cond.instanceMethod ({ cls := "SoftWheels$Pit", name := "<init>", desc := "(LSoftWheels$Book;)V" } : Jvm.MethodName)) ∈ lw_all := lw_g (lw_at lw_m7 224 rfl) rfl
theorem q1762 : (Jvm.Cond.code ({ cls := "SoftWheels$Pit", name := "<init>", desc := "(LSoftWheels$Book;)V" } : Jvm.MethodName) prog_14_method_1_code (5 : Nat) (Option.none : Option Jvm.ClassFile.FieldType)) ∈ lw_all := lw_g (lw_at lw_m7 225 rfl) rfl
theorem q1763 : (Jvm.Cond.methodLink "SoftWheels$Pit" (3 : Nat) ({ cls := "java/lang/Object", name := "<init>", desc := "()V" } : Jvm.MethodName)) ∈ lw_all := lw_g (lw_at lw_m7 226 rfl) rfl
theorem q1764 : (Jvm.Cond.constantLong "SoftWheels$Pit" (25 : Nat) (1152921504606846976 : Int64)) ∈ lw_all := lw_g (lw_at lw_m7 227 rfl) rfl
theorem q1765 : (Jvm.Cond.methodLink "SoftWheels$Pit" (27 : Nat) ({ cls := "java/util/Arrays", name := "fill", desc := "([JJ)V" } : Jvm.MethodName)) ∈ lw_all := lw_g (lw_at lw_m7 228 rfl) rfl
theorem q1768 : (Jvm.Cond.methodLink "SoftWheels$Pit" (33 : Nat) ({ cls := "SoftWheels$Pit", name := "lowers", desc := "()Z" } : Jvm.MethodName)) ∈ lw_all := lw_g (lw_at lw_m7 231 rfl) rfl
theorem q1769 : (Jvm.Cond.privateMethod ({ cls := "SoftWheels$Pit", name := "lowers", desc := "()Z" } : Jvm.MethodName)) ∈ lw_tbl := lw_at lw_m7 232 rfl
theorem q1770 : (Jvm.Cond.instanceMethod ({ cls := "SoftWheels$Pit", name := "lowers", desc := "()Z" } : Jvm.MethodName)) ∈ lw_all := lw_g (lw_at lw_m7 233 rfl) rfl
theorem q1771 : (Jvm.Cond.code ({ cls := "SoftWheels$Pit", name := "lowers", desc := "()Z" } : Jvm.MethodName) prog_14_method_5_code (8 : Nat) (Option.some Jvm.ClassFile.FieldType.boolean)) ∈ lw_all := lw_g (lw_at lw_m7 234 rfl) rfl
theorem q1772 : (Jvm.Cond.methodLink "SoftWheels$Pit" (56 : Nat) ({ cls := "SoftWheels$Pit", name := "many", desc := "()I" } : Jvm.MethodName)) ∈ lw_all := lw_g (lw_at lw_m7 235 rfl) rfl
theorem q1773 : (Jvm.Cond.instanceMethod ({ cls := "SoftWheels$Pit", name := "many", desc := "()I" } : Jvm.MethodName)) ∈ lw_all := lw_g (lw_at lw_m7 236 rfl) rfl
theorem q1774 : (Jvm.Cond.selects "SoftWheels$Pit" ({ cls := "SoftWheels$Pit", name := "many", desc := "()I" } : Jvm.MethodName) ({ cls := "SoftWheels$Pit", name := "many", desc := "()I" } : Jvm.MethodName)) ∈ lw_all := lw_g (lw_at lw_m7 237 rfl) rfl
theorem q1775 : (Jvm.Cond.code ({ cls := "SoftWheels$Pit", name := "many", desc := "()I" } : Jvm.MethodName) prog_14_method_2_code (1 : Nat) (Option.some Jvm.ClassFile.FieldType.int)) ∈ lw_all := lw_g (lw_at lw_m7 238 rfl) rfl
theorem q1776 : (Jvm.Cond.methodLink "SoftWheels$Pit" (41 : Nat) ({ cls := "java/util/ArrayList", name := "size", desc := "()I" } : Jvm.MethodName)) ∈ lw_all := lw_g (lw_at lw_m7 239 rfl) rfl
theorem q1777 : (Jvm.Cond.methodLink "SoftWheels$Pit" (59 : Nat) ({ cls := "SoftWheels$Pit", name := "attempt", desc := "(I)LSoftWheels$Attempt;" } : Jvm.MethodName)) ∈ lw_all := lw_g (lw_at lw_m8 0 rfl) rfl
theorem q1778 : (Jvm.Cond.instanceMethod ({ cls := "SoftWheels$Pit", name := "attempt", desc := "(I)LSoftWheels$Attempt;" } : Jvm.MethodName)) ∈ lw_all := lw_g (lw_at lw_m8 1 rfl) rfl
theorem q1779 : (Jvm.Cond.selects "SoftWheels$Pit" ({ cls := "SoftWheels$Pit", name := "attempt", desc := "(I)LSoftWheels$Attempt;" } : Jvm.MethodName) ({ cls := "SoftWheels$Pit", name := "attempt", desc := "(I)LSoftWheels$Attempt;" } : Jvm.MethodName)) ∈ lw_all := lw_g (lw_at lw_m8 2 rfl) rfl
theorem q1780 : (Jvm.Cond.code ({ cls := "SoftWheels$Pit", name := "attempt", desc := "(I)LSoftWheels$Attempt;" } : Jvm.MethodName) prog_14_method_3_code (2 : Nat) (Option.some (Jvm.ClassFile.FieldType.object "SoftWheels$Attempt"))) ∈ lw_all := lw_g (lw_at lw_m8 3 rfl) rfl
theorem q1781 : (Jvm.Cond.methodLink "SoftWheels$Pit" (47 : Nat) ({ cls := "java/util/ArrayList", name := "get", desc := "(I)Ljava/lang/Object;" } : Jvm.MethodName)) ∈ lw_all := lw_g (lw_at lw_m8 4 rfl) rfl
theorem q1782 : (Jvm.Cond.classLink "SoftWheels$Pit" (51 : Nat) "SoftWheels$Attempt") ∈ lw_all := lw_g (lw_at lw_m8 5 rfl) rfl
theorem q1783 : (Jvm.Cond.methodLink "SoftWheels$Pit" (63 : Nat) ({ cls := "SoftWheels$Pit", name := "cost", desc := "(LSoftWheels$Attempt;)J" } : Jvm.MethodName)) ∈ lw_all := lw_g (lw_at lw_m8 6 rfl) rfl
theorem q1784 : (Jvm.Cond.static ({ cls := "SoftWheels$Pit", name := "cost", desc := "(LSoftWheels$Attempt;)J" } : Jvm.MethodName)) ∈ lw_all := lw_g (lw_at lw_m8 7 rfl) rfl
theorem q1785 : (Jvm.Cond.code ({ cls := "SoftWheels$Pit", name := "cost", desc := "(LSoftWheels$Attempt;)J" } : Jvm.MethodName) prog_14_method_4_code (1 : Nat) (Option.some Jvm.ClassFile.FieldType.long)) ∈ lw_all := lw_g (lw_at lw_m8 8 rfl) rfl
theorem q1786 : (Jvm.Cond.methodLink "SoftWheels$Pit" (53 : Nat) ({ cls := "SoftWheels$Attempt", name := "cost", desc := "()I" } : Jvm.MethodName)) ∈ lw_all := lw_g (lw_at lw_m8 9 rfl) rfl
theorem q1790 : (Jvm.Cond.methodLink "SoftWheels$Pit" (66 : Nat) ({ cls := "SoftWheels$Pit", name := "next", desc := "(ILSoftWheels$Attempt;I)I" } : Jvm.MethodName)) ∈ lw_all := lw_g (lw_at lw_m8 13 rfl) rfl
theorem q1791 : (Jvm.Cond.instanceMethod ({ cls := "SoftWheels$Pit", name := "next", desc := "(ILSoftWheels$Attempt;I)I" } : Jvm.MethodName)) ∈ lw_all := lw_g (lw_at lw_m8 14 rfl) rfl
theorem q1792 : (Jvm.Cond.selects "SoftWheels$Pit" ({ cls := "SoftWheels$Pit", name := "next", desc := "(ILSoftWheels$Attempt;I)I" } : Jvm.MethodName) ({ cls := "SoftWheels$Pit", name := "next", desc := "(ILSoftWheels$Attempt;I)I" } : Jvm.MethodName)) ∈ lw_all := lw_g (lw_at lw_m8 15 rfl) rfl
theorem q1793 : (Jvm.Cond.code ({ cls := "SoftWheels$Pit", name := "next", desc := "(ILSoftWheels$Attempt;I)I" } : Jvm.MethodName) prog_14_method_6_code (9 : Nat) (Option.some Jvm.ClassFile.FieldType.int)) ∈ lw_all := lw_g (lw_at lw_m8 16 rfl) rfl
theorem q1794 : (Jvm.Cond.methodLink "SoftWheels$Pit" (70 : Nat) ({ cls := "SoftWheels$Attempt", name := "one", desc := "()I" } : Jvm.MethodName)) ∈ lw_all := lw_g (lw_at lw_m8 17 rfl) rfl
theorem q1798 : (Jvm.Cond.methodLink "SoftWheels$Pit" (73 : Nat) ({ cls := "SoftWheels$Attempt", name := "each", desc := "()I" } : Jvm.MethodName)) ∈ lw_all := lw_g (lw_at lw_m8 21 rfl) rfl
theorem q1802 : (Jvm.Cond.methodLink "SoftWheels$Pit" (76 : Nat) ({ cls := "java/lang/Math", name := "min", desc := "(II)I" } : Jvm.MethodName)) ∈ lw_all := lw_g (lw_at lw_m8 25 rfl) rfl
theorem q1803 : (Jvm.Cond.methodLink "SoftWheels$Pit" (82 : Nat) ({ cls := "java/lang/Math", name := "max", desc := "(II)I" } : Jvm.MethodName)) ∈ lw_all := lw_g (lw_at lw_m8 26 rfl) rfl
theorem q1804 : (Jvm.Cond.fieldLink "SoftWheels$Pit" (9 : Nat) "SoftWheels$Pit" "book" "LSoftWheels$Book;") ∈ lw_all := lw_g (lw_at lw_m8 27 rfl) rfl
theorem q1806 : (Jvm.Cond.fieldLink "SoftWheels$Pit" (21 : Nat) "SoftWheels$Pit" "out" "[J") ∈ lw_all := lw_g (lw_at lw_m8 29 rfl) rfl
theorem q1808 : (Jvm.Cond.laysFinal "SoftWheels$Pit" "SoftWheels$Pit" "book" "LSoftWheels$Book;") ∈ lw_all := lw_g (lw_at lw_m8 31 rfl) rfl
theorem q1809 : (Jvm.Cond.soleField "SoftWheels$Pit" "book") ∈ lw_all := lw_g (lw_at lw_m8 32 rfl) rfl
theorem q1810 : (Jvm.Cond.laysFinal "SoftWheels$Pit" "SoftWheels$Pit" "out" "[J") ∈ lw_all := lw_g (lw_at lw_m8 33 rfl) rfl
theorem q1811 : (Jvm.Cond.soleField "SoftWheels$Pit" "out") ∈ lw_all := lw_g (lw_at lw_m8 34 rfl) rfl
theorem q1812 : (Jvm.Cond.superclass "SoftWheels$Pit" "java/lang/Object") ∈ lw_all := lw_g (lw_at lw_m8 35 rfl) rfl
theorem q2579 : (Jvm.Cond.castable "SoftWheels$Pit" "java/lang/Object") ∈ lw_tbl := lw_at lw_m11 82 rfl
theorem in_X19 : ∀ w ∈ wsX190, w ∈ lw_all := lw_in wsX190 [1808, 1810] (by decide +kernel) (by decide +kernel)

/-! SoftWheelsLaw -/
set_option maxRecDepth 100000
def RX0 : String := "SoftWheelsLaw"
abbrev cX0_led : ByteArray := method_3_code
def yX0_led : MethodName := ⟨RX0, "led", "(LSoftWheels;I[J)I"⟩
def dkwX0_led_0 : List UInt8 := [44, 3, 42, 27, 182, 0, 7, 133, 80, 167, 0, 6, 78, 4, 172, 3, 172]
abbrev dktX0_led_0 : List UInt8 := dkwX0_led_0 ++ []
theorem dksX0_led_0 : cX0_led.data.toList.drop 0 = dktX0_led_0 := by decide +kernel
theorem dX0_led_0 : decode cX0_led 0 = .ok (.aload_n 2, 1) := dk_44 (dk_at dksX0_led_0 0 rfl rfl)
theorem dX0_led_1 : decode cX0_led 1 = .ok (.iconst 0, 1) := dk_3 (dk_at dksX0_led_0 1 rfl rfl)
theorem dX0_led_2 : decode cX0_led 2 = .ok (.aload_n 0, 1) := dk_42 (dk_at dksX0_led_0 2 rfl rfl)
theorem dX0_led_3 : decode cX0_led 3 = .ok (.iload_n 1, 1) := dk_27 (dk_at dksX0_led_0 3 rfl rfl)
theorem dX0_led_4 : decode cX0_led 4 = .ok (.invokevirtual 7, 3) := dk_182 0 7 (dk_at dksX0_led_0 4 rfl rfl)
theorem dX0_led_7 : decode cX0_led 7 = .ok (.i2l, 1) := dk_133 (dk_at dksX0_led_0 7 rfl rfl)
theorem dX0_led_8 : decode cX0_led 8 = .ok (.lastore, 1) := dk_80 (dk_at dksX0_led_0 8 rfl rfl)
theorem dX0_led_9 : decode cX0_led 9 = .ok (.goto 6, 3) := dk_167 0 6 (dk_at dksX0_led_0 9 rfl rfl)
theorem dX0_led_12 : decode cX0_led 12 = .ok (.astore_n 3, 1) := dk_78 (dk_at dksX0_led_0 12 rfl rfl)
theorem dX0_led_13 : decode cX0_led 13 = .ok (.iconst 1, 1) := dk_4 (dk_at dksX0_led_0 13 rfl rfl)
theorem dX0_led_14 : decode cX0_led 14 = .ok (.ireturn, 1) := dk_172 (dk_at dksX0_led_0 14 rfl rfl)
theorem dX0_led_15 : decode cX0_led 15 = .ok (.iconst 0, 1) := dk_3 (dk_at dksX0_led_0 15 rfl rfl)
theorem dX0_led_16 : decode cX0_led 16 = .ok (.ireturn, 1) := dk_172 (dk_at dksX0_led_0 16 rfl rfl)
theorem q97 : (Jvm.Cond.initialized "SoftWheelsLaw") ∈ lw_all := lw_g (lw_at lw_m1 0 rfl) rfl
theorem q142 : (Jvm.Cond.classLink "SoftWheelsLaw" (8 : Nat) "SoftWheels") ∈ lw_all := lw_g (lw_at lw_m1 45 rfl) rfl
theorem q144 : (Jvm.Cond.methodLink "SoftWheelsLaw" (15 : Nat) ({ cls := "SoftWheels", name := "<init>", desc := "()V" } : Jvm.MethodName)) ∈ lw_all := lw_g (lw_at lw_m1 47 rfl) rfl
theorem q264 : (Jvm.Cond.methodLink "SoftWheelsLaw" (19 : Nat) ({ cls := "SoftWheels", name := "feed", desc := "(IIIII)I" } : Jvm.MethodName)) ∈ lw_all := lw_g (lw_at lw_m1 167 rfl) rfl
theorem q268 : (Jvm.Cond.methodLink "SoftWheelsLaw" (24 : Nat) ({ cls := "SoftWheels", name := "book", desc := "(I)I" } : Jvm.MethodName)) ∈ lw_all := lw_g (lw_at lw_m1 171 rfl) rfl
theorem q1068 : (Jvm.Cond.methodLink "SoftWheelsLaw" (32 : Nat) ({ cls := "SoftWheels", name := "fault", desc := "()I" } : Jvm.MethodName)) ∈ lw_all := lw_g (lw_at lw_m5 11 rfl) rfl
theorem q1072 : (Jvm.Cond.methodLink "SoftWheelsLaw" (37 : Nat) ({ cls := "SoftWheels", name := "where", desc := "()I" } : Jvm.MethodName)) ∈ lw_all := lw_g (lw_at lw_m5 15 rfl) rfl
theorem q1076 : (Jvm.Cond.methodLink "SoftWheelsLaw" (41 : Nat) ({ cls := "SoftWheels", name := "sink", desc := "(II)I" } : Jvm.MethodName)) ∈ lw_all := lw_g (lw_at lw_m5 19 rfl) rfl
theorem q1093 : (Jvm.Cond.methodLink "SoftWheelsLaw" (46 : Nat) ({ cls := "SoftWheels", name := "grip", desc := "(II)I" } : Jvm.MethodName)) ∈ lw_all := lw_g (lw_at lw_m5 36 rfl) rfl
theorem q1097 : (Jvm.Cond.methodLink "SoftWheelsLaw" (50 : Nat) ({ cls := "SoftWheels", name := "dead", desc := "(I)Z" } : Jvm.MethodName)) ∈ lw_all := lw_g (lw_at lw_m5 40 rfl) rfl
theorem q1109 : (Jvm.Cond.methodLink "SoftWheelsLaw" (55 : Nat) ({ cls := "SoftWheels", name := "map", desc := "(II)I" } : Jvm.MethodName)) ∈ lw_all := lw_g (lw_at lw_m5 52 rfl) rfl
theorem q1190 : (Jvm.Cond.methodLink "SoftWheelsLaw" (59 : Nat) ({ cls := "SoftWheels", name := "height", desc := "(II)Z" } : Jvm.MethodName)) ∈ lw_all := lw_g (lw_at lw_m5 133 rfl) rfl
theorem q1198 : (Jvm.Cond.methodLink "SoftWheelsLaw" (64 : Nat) ({ cls := "SoftWheels", name := "ground", desc := "(II)Z" } : Jvm.MethodName)) ∈ lw_all := lw_g (lw_at lw_m5 141 rfl) rfl
theorem q1202 : (Jvm.Cond.methodLink "SoftWheelsLaw" (68 : Nat) ({ cls := "SoftWheels", name := "doubt", desc := "(I)I" } : Jvm.MethodName)) ∈ lw_all := lw_g (lw_at lw_m5 145 rfl) rfl
theorem q1232 : (Jvm.Cond.methodLink "SoftWheelsLaw" (72 : Nat) ({ cls := "SoftWheels", name := "weigh", desc := "(III)Z" } : Jvm.MethodName)) ∈ lw_all := lw_g (lw_at lw_m5 175 rfl) rfl
theorem q1244 : (Jvm.Cond.methodLink "SoftWheelsLaw" (77 : Nat) ({ cls := "SoftWheels", name := "told", desc := "(II)Z" } : Jvm.MethodName)) ∈ lw_all := lw_g (lw_at lw_m5 187 rfl) rfl
theorem q1248 : (Jvm.Cond.methodLink "SoftWheelsLaw" (81 : Nat) ({ cls := "SoftWheels", name := "forget", desc := "(I)Z" } : Jvm.MethodName)) ∈ lw_all := lw_g (lw_at lw_m5 191 rfl) rfl
theorem q1252 : (Jvm.Cond.methodLink "SoftWheelsLaw" (85 : Nat) ({ cls := "SoftWheels", name := "of", desc := "(II)I" } : Jvm.MethodName)) ∈ lw_all := lw_g (lw_at lw_m5 195 rfl) rfl
theorem q1256 : (Jvm.Cond.methodLink "SoftWheelsLaw" (89 : Nat) ({ cls := "SoftWheels", name := "step", desc := "(IIII)I" } : Jvm.MethodName)) ∈ lw_all := lw_g (lw_at lw_m5 199 rfl) rfl
theorem q1281 : (Jvm.Cond.methodLink "SoftWheelsLaw" (94 : Nat) ({ cls := "SoftWheels", name := "worst", desc := "(II)I" } : Jvm.MethodName)) ∈ lw_all := lw_g (lw_at lw_m5 224 rfl) rfl
theorem q1425 : (Jvm.Cond.methodLink "SoftWheelsLaw" (98 : Nat) ({ cls := "SoftWheels", name := "mean", desc := "(IIZ)J" } : Jvm.MethodName)) ∈ lw_all := lw_g (lw_at lw_m6 128 rfl) rfl
theorem q1446 : (Jvm.Cond.methodLink "SoftWheelsLaw" (103 : Nat) ({ cls := "SoftWheels", name := "way", desc := "(IIZ)I" } : Jvm.MethodName)) ∈ lw_all := lw_g (lw_at lw_m6 149 rfl) rfl
theorem q1461 : (Jvm.Cond.methodLink "SoftWheelsLaw" (108 : Nat) ({ cls := "SoftWheels", name := "truths", desc := "()I" } : Jvm.MethodName)) ∈ lw_all := lw_g (lw_at lw_m6 164 rfl) rfl
theorem q1470 : (Jvm.Cond.methodLink "SoftWheelsLaw" (112 : Nat) ({ cls := "SoftWheels", name := "truth", desc := "(II)I" } : Jvm.MethodName)) ∈ lw_all := lw_g (lw_at lw_m6 173 rfl) rfl
theorem q1479 : (Jvm.Cond.methodLink "SoftWheelsLaw" (116 : Nat) ({ cls := "SoftWheels", name := "run", desc := "(IIZI)I" } : Jvm.MethodName)) ∈ lw_all := lw_g (lw_at lw_m6 182 rfl) rfl
theorem q1521 : (Jvm.Cond.methodLink "SoftWheelsLaw" (130 : Nat) ({ cls := "SoftWheels", name := "regret", desc := "(II)I" } : Jvm.MethodName)) ∈ lw_all := lw_g (lw_at lw_m6 224 rfl) rfl
theorem q1527 : (Jvm.Cond.methodLink "SoftWheelsLaw" (134 : Nat) ({ cls := "SoftWheels", name := "worth", desc := "(IIIZ)J" } : Jvm.MethodName)) ∈ lw_all := lw_g (lw_at lw_m6 230 rfl) rfl
theorem q1531 : (Jvm.Cond.methodLink "SoftWheelsLaw" (139 : Nat) ({ cls := "SoftWheels", name := "spared", desc := "(III)I" } : Jvm.MethodName)) ∈ lw_all := lw_g (lw_at lw_m6 234 rfl) rfl
theorem q1535 : (Jvm.Cond.methodLink "SoftWheelsLaw" (28 : Nat) ({ cls := "SoftWheels", name := "plan", desc := "(I)I" } : Jvm.MethodName)) ∈ lw_all := lw_g (lw_at lw_m6 238 rfl) rfl
theorem q1632 : (Jvm.Cond.methodLink "SoftWheelsLaw" (144 : Nat) ({ cls := "SoftWheels", name := "failing", desc := "(IIII)I" } : Jvm.MethodName)) ∈ lw_all := lw_g (lw_at lw_m7 95 rfl) rfl
theorem q1736 : (Jvm.Cond.methodLink "SoftWheelsLaw" (148 : Nat) ({ cls := "SoftWheels", name := "first", desc := "(I)I" } : Jvm.MethodName)) ∈ lw_all := lw_g (lw_at lw_m7 199 rfl) rfl
theorem q1740 : (Jvm.Cond.methodLink "SoftWheelsLaw" (152 : Nat) ({ cls := "SoftWheels", name := "costs", desc := "(III)I" } : Jvm.MethodName)) ∈ lw_all := lw_g (lw_at lw_m7 203 rfl) rfl
theorem q1746 : (Jvm.Cond.methodLink "SoftWheelsLaw" (156 : Nat) ({ cls := "SoftWheels", name := "dig", desc := "(II)Z" } : Jvm.MethodName)) ∈ lw_all := lw_g (lw_at lw_m7 209 rfl) rfl
theorem q1750 : (Jvm.Cond.methodLink "SoftWheelsLaw" (160 : Nat) ({ cls := "SoftWheels", name := "out", desc := "()I" } : Jvm.MethodName)) ∈ lw_all := lw_g (lw_at lw_m7 213 rfl) rfl
theorem q1818 : (Jvm.Cond.methodLink "SoftWheelsLaw" (164 : Nat) ({ cls := "SoftWheels", name := "tryAt", desc := "(I)I" } : Jvm.MethodName)) ∈ lw_all := lw_g (lw_at lw_m8 41 rfl) rfl
theorem q1826 : (Jvm.Cond.methodLink "SoftWheelsLaw" (168 : Nat) ({ cls := "SoftWheels", name := "make", desc := "(II)I" } : Jvm.MethodName)) ∈ lw_all := lw_g (lw_at lw_m8 49 rfl) rfl
theorem q1838 : (Jvm.Cond.methodLink "SoftWheelsLaw" (172 : Nat) ({ cls := "SoftWheels", name := "count", desc := "(I)I" } : Jvm.MethodName)) ∈ lw_all := lw_g (lw_at lw_m8 61 rfl) rfl
theorem q1846 : (Jvm.Cond.methodLink "SoftWheelsLaw" (176 : Nat) ({ cls := "SoftWheels", name := "trouble", desc := "()I" } : Jvm.MethodName)) ∈ lw_all := lw_g (lw_at lw_m8 69 rfl) rfl
theorem q1850 : (Jvm.Cond.methodLink "SoftWheelsLaw" (121 : Nat) ({ cls := "SoftWheelsLaw", name := "led", desc := "(LSoftWheels;I[J)I" } : Jvm.MethodName)) ∈ lw_all := lw_g (lw_at lw_m8 73 rfl) rfl
theorem q1851 : (Jvm.Cond.static ({ cls := "SoftWheelsLaw", name := "led", desc := "(LSoftWheels;I[J)I" } : Jvm.MethodName)) ∈ lw_all := lw_g (lw_at lw_m8 74 rfl) rfl
theorem q1852 : (Jvm.Cond.codeWith ({ cls := "SoftWheelsLaw", name := "led", desc := "(LSoftWheels;I[J)I" } : Jvm.MethodName) method_3_code (4 : Nat) (Option.some Jvm.ClassFile.FieldType.int) [((0 : Nat), (9 : Nat), (12 : Nat), (13 : Nat))]) ∈ lw_all := lw_g (lw_at lw_m8 75 rfl) rfl
theorem q1853 : (Jvm.Cond.classLink "SoftWheelsLaw" (13 : Nat) "java/util/NoSuchElementException") ∈ lw_all := lw_g (lw_at lw_m8 76 rfl) rfl
theorem q1854 : (Jvm.Cond.methodLink "SoftWheelsLaw" (7 : Nat) ({ cls := "SoftWheels", name := "led", desc := "(I)I" } : Jvm.MethodName)) ∈ lw_all := lw_g (lw_at lw_m8 77 rfl) rfl
theorem q1886 : (Jvm.Cond.classLink "SoftWheelsLaw" (16 : Nat) "SoftWheelsModel") ∈ lw_all := lw_g (lw_at lw_m8 109 rfl) rfl
theorem q1888 : (Jvm.Cond.methodLink "SoftWheelsLaw" (18 : Nat) ({ cls := "SoftWheelsModel", name := "<init>", desc := "()V" } : Jvm.MethodName)) ∈ lw_all := lw_g (lw_at lw_m8 111 rfl) rfl
theorem q2119 : (Jvm.Cond.methodLink "SoftWheelsLaw" (127 : Nat) ({ cls := "SoftWheelsModel", name := "thrown", desc := "()I" } : Jvm.MethodName)) ∈ lw_all := lw_g (lw_at lw_m9 102 rfl) rfl
theorem q2123 : (Jvm.Cond.methodLink "SoftWheelsLaw" (23 : Nat) ({ cls := "SoftWheelsModel", name := "feed", desc := "(IIIII)I" } : Jvm.MethodName)) ∈ lw_all := lw_g (lw_at lw_m9 106 rfl) rfl
theorem q2127 : (Jvm.Cond.methodLink "SoftWheelsLaw" (27 : Nat) ({ cls := "SoftWheelsModel", name := "book", desc := "(I)I" } : Jvm.MethodName)) ∈ lw_all := lw_g (lw_at lw_m9 110 rfl) rfl
theorem q2234 : (Jvm.Cond.methodLink "SoftWheelsLaw" (36 : Nat) ({ cls := "SoftWheelsModel", name := "fault", desc := "()I" } : Jvm.MethodName)) ∈ lw_all := lw_g (lw_at lw_m9 217 rfl) rfl
theorem q2238 : (Jvm.Cond.methodLink "SoftWheelsLaw" (40 : Nat) ({ cls := "SoftWheelsModel", name := "where", desc := "()I" } : Jvm.MethodName)) ∈ lw_all := lw_g (lw_at lw_m9 221 rfl) rfl
theorem q2242 : (Jvm.Cond.methodLink "SoftWheelsLaw" (45 : Nat) ({ cls := "SoftWheelsModel", name := "sink", desc := "(II)I" } : Jvm.MethodName)) ∈ lw_all := lw_g (lw_at lw_m9 225 rfl) rfl
theorem q2256 : (Jvm.Cond.methodLink "SoftWheelsLaw" (49 : Nat) ({ cls := "SoftWheelsModel", name := "grip", desc := "(II)I" } : Jvm.MethodName)) ∈ lw_all := lw_g (lw_at lw_m9 239 rfl) rfl
theorem q2260 : (Jvm.Cond.methodLink "SoftWheelsLaw" (54 : Nat) ({ cls := "SoftWheelsModel", name := "dead", desc := "(I)Z" } : Jvm.MethodName)) ∈ lw_all := lw_g (lw_at lw_m10 3 rfl) rfl
theorem q2268 : (Jvm.Cond.methodLink "SoftWheelsLaw" (58 : Nat) ({ cls := "SoftWheelsModel", name := "map", desc := "(II)I" } : Jvm.MethodName)) ∈ lw_all := lw_g (lw_at lw_m10 11 rfl) rfl
theorem q2272 : (Jvm.Cond.methodLink "SoftWheelsLaw" (63 : Nat) ({ cls := "SoftWheelsModel", name := "height", desc := "(II)Z" } : Jvm.MethodName)) ∈ lw_all := lw_g (lw_at lw_m10 15 rfl) rfl
theorem q2280 : (Jvm.Cond.methodLink "SoftWheelsLaw" (67 : Nat) ({ cls := "SoftWheelsModel", name := "ground", desc := "(II)Z" } : Jvm.MethodName)) ∈ lw_all := lw_g (lw_at lw_m10 23 rfl) rfl
theorem q2284 : (Jvm.Cond.methodLink "SoftWheelsLaw" (71 : Nat) ({ cls := "SoftWheelsModel", name := "doubt", desc := "(I)I" } : Jvm.MethodName)) ∈ lw_all := lw_g (lw_at lw_m10 27 rfl) rfl
theorem q2288 : (Jvm.Cond.methodLink "SoftWheelsLaw" (76 : Nat) ({ cls := "SoftWheelsModel", name := "weigh", desc := "(III)Z" } : Jvm.MethodName)) ∈ lw_all := lw_g (lw_at lw_m10 31 rfl) rfl
theorem q2296 : (Jvm.Cond.methodLink "SoftWheelsLaw" (80 : Nat) ({ cls := "SoftWheelsModel", name := "told", desc := "(II)Z" } : Jvm.MethodName)) ∈ lw_all := lw_g (lw_at lw_m10 39 rfl) rfl
theorem q2300 : (Jvm.Cond.methodLink "SoftWheelsLaw" (84 : Nat) ({ cls := "SoftWheelsModel", name := "forget", desc := "(I)Z" } : Jvm.MethodName)) ∈ lw_all := lw_g (lw_at lw_m10 43 rfl) rfl
theorem q2304 : (Jvm.Cond.methodLink "SoftWheelsLaw" (88 : Nat) ({ cls := "SoftWheelsModel", name := "of", desc := "(II)I" } : Jvm.MethodName)) ∈ lw_all := lw_g (lw_at lw_m10 47 rfl) rfl
theorem q2308 : (Jvm.Cond.methodLink "SoftWheelsLaw" (93 : Nat) ({ cls := "SoftWheelsModel", name := "step", desc := "(IIII)I" } : Jvm.MethodName)) ∈ lw_all := lw_g (lw_at lw_m10 51 rfl) rfl
theorem q2332 : (Jvm.Cond.methodLink "SoftWheelsLaw" (97 : Nat) ({ cls := "SoftWheelsModel", name := "worst", desc := "(II)I" } : Jvm.MethodName)) ∈ lw_all := lw_g (lw_at lw_m10 75 rfl) rfl
theorem q2404 : (Jvm.Cond.methodLink "SoftWheelsLaw" (102 : Nat) ({ cls := "SoftWheelsModel", name := "mean", desc := "(IIZ)J" } : Jvm.MethodName)) ∈ lw_all := lw_g (lw_at lw_m10 147 rfl) rfl
theorem q2415 : (Jvm.Cond.methodLink "SoftWheelsLaw" (107 : Nat) ({ cls := "SoftWheelsModel", name := "way", desc := "(IIZ)I" } : Jvm.MethodName)) ∈ lw_all := lw_g (lw_at lw_m10 158 rfl) rfl
theorem q2423 : (Jvm.Cond.methodLink "SoftWheelsLaw" (111 : Nat) ({ cls := "SoftWheelsModel", name := "truths", desc := "()I" } : Jvm.MethodName)) ∈ lw_all := lw_g (lw_at lw_m10 166 rfl) rfl
theorem q2431 : (Jvm.Cond.methodLink "SoftWheelsLaw" (115 : Nat) ({ cls := "SoftWheelsModel", name := "truth", desc := "(II)I" } : Jvm.MethodName)) ∈ lw_all := lw_g (lw_at lw_m10 174 rfl) rfl
theorem q2439 : (Jvm.Cond.methodLink "SoftWheelsLaw" (120 : Nat) ({ cls := "SoftWheelsModel", name := "run", desc := "(IIZI)I" } : Jvm.MethodName)) ∈ lw_all := lw_g (lw_at lw_m10 182 rfl) rfl
theorem q2451 : (Jvm.Cond.methodLink "SoftWheelsLaw" (126 : Nat) ({ cls := "SoftWheelsModel", name := "led", desc := "(I)I" } : Jvm.MethodName)) ∈ lw_all := lw_g (lw_at lw_m10 194 rfl) rfl
theorem q2455 : (Jvm.Cond.methodLink "SoftWheelsLaw" (133 : Nat) ({ cls := "SoftWheelsModel", name := "regret", desc := "(II)I" } : Jvm.MethodName)) ∈ lw_all := lw_g (lw_at lw_m10 198 rfl) rfl
theorem q2459 : (Jvm.Cond.methodLink "SoftWheelsLaw" (138 : Nat) ({ cls := "SoftWheelsModel", name := "worth", desc := "(IIIZ)J" } : Jvm.MethodName)) ∈ lw_all := lw_g (lw_at lw_m10 202 rfl) rfl
theorem q2463 : (Jvm.Cond.methodLink "SoftWheelsLaw" (143 : Nat) ({ cls := "SoftWheelsModel", name := "spared", desc := "(III)I" } : Jvm.MethodName)) ∈ lw_all := lw_g (lw_at lw_m10 206 rfl) rfl
theorem q2467 : (Jvm.Cond.methodLink "SoftWheelsLaw" (31 : Nat) ({ cls := "SoftWheelsModel", name := "plan", desc := "(I)I" } : Jvm.MethodName)) ∈ lw_all := lw_g (lw_at lw_m10 210 rfl) rfl
theorem q2491 : (Jvm.Cond.methodLink "SoftWheelsLaw" (147 : Nat) ({ cls := "SoftWheelsModel", name := "failing", desc := "(IIII)I" } : Jvm.MethodName)) ∈ lw_all := lw_g (lw_at lw_m10 234 rfl) rfl
theorem q2500 : (Jvm.Cond.methodLink "SoftWheelsLaw" (151 : Nat) ({ cls := "SoftWheelsModel", name := "first", desc := "(I)I" } : Jvm.MethodName)) ∈ lw_all := lw_g (lw_at lw_m11 3 rfl) rfl
theorem q2504 : (Jvm.Cond.methodLink "SoftWheelsLaw" (155 : Nat) ({ cls := "SoftWheelsModel", name := "costs", desc := "(III)I" } : Jvm.MethodName)) ∈ lw_all := lw_g (lw_at lw_m11 7 rfl) rfl
theorem q2508 : (Jvm.Cond.methodLink "SoftWheelsLaw" (159 : Nat) ({ cls := "SoftWheelsModel", name := "dig", desc := "(II)Z" } : Jvm.MethodName)) ∈ lw_all := lw_g (lw_at lw_m11 11 rfl) rfl
theorem q2512 : (Jvm.Cond.methodLink "SoftWheelsLaw" (163 : Nat) ({ cls := "SoftWheelsModel", name := "out", desc := "()I" } : Jvm.MethodName)) ∈ lw_all := lw_g (lw_at lw_m11 15 rfl) rfl
theorem q2529 : (Jvm.Cond.methodLink "SoftWheelsLaw" (167 : Nat) ({ cls := "SoftWheelsModel", name := "tryAt", desc := "(I)I" } : Jvm.MethodName)) ∈ lw_all := lw_g (lw_at lw_m11 32 rfl) rfl
theorem q2533 : (Jvm.Cond.methodLink "SoftWheelsLaw" (171 : Nat) ({ cls := "SoftWheelsModel", name := "make", desc := "(II)I" } : Jvm.MethodName)) ∈ lw_all := lw_g (lw_at lw_m11 36 rfl) rfl
theorem q2541 : (Jvm.Cond.methodLink "SoftWheelsLaw" (175 : Nat) ({ cls := "SoftWheelsModel", name := "count", desc := "(I)I" } : Jvm.MethodName)) ∈ lw_all := lw_g (lw_at lw_m11 44 rfl) rfl
theorem q2545 : (Jvm.Cond.methodLink "SoftWheelsLaw" (179 : Nat) ({ cls := "SoftWheelsModel", name := "trouble", desc := "()I" } : Jvm.MethodName)) ∈ lw_all := lw_g (lw_at lw_m11 48 rfl) rfl
