/-! java/util/AbstractCollection -/
set_option maxRecDepth 100000
def RJ0 : String := "java/util/AbstractCollection"
abbrev cJ0_init : ByteArray := prog_49_method_1_code
def yJ0_init : MethodName := ⟨RJ0, "<init>", "()V"⟩
theorem dJ0_init_0 : decode cJ0_init 0 = .ok (.aload_n 0, 1) := by decide +kernel
theorem dJ0_init_1 : decode cJ0_init 1 = .ok (.invokespecial 1, 3) := by decide +kernel
theorem dJ0_init_4 : decode cJ0_init 4 = .ok (.return_, 1) := by decide +kernel
theorem q100 : (Jvm.Cond.initialized "java/util/AbstractCollection") ∈ lw_all := lw_g (lw_at lw_m1 3 rfl) rfl
theorem q198 : (Jvm.Cond.instanceMethod ({ cls := "java/util/AbstractCollection", name := "<init>", desc := "()V" } : Jvm.MethodName)) ∈ lw_all := lw_g (lw_at lw_m1 101 rfl) rfl
theorem q199 : (Jvm.Cond.code ({ cls := "java/util/AbstractCollection", name := "<init>", desc := "()V" } : Jvm.MethodName) prog_49_method_1_code (1 : Nat) (Option.none : Option Jvm.ClassFile.FieldType)) ∈ lw_all := lw_g (lw_at lw_m1 102 rfl) rfl
theorem q200 : (Jvm.Cond.methodLink "java/util/AbstractCollection" (1 : Nat) ({ cls := "java/lang/Object", name := "<init>", desc := "()V" } : Jvm.MethodName)) ∈ lw_all := lw_g (lw_at lw_m1 103 rfl) rfl

/-! java/util/AbstractList -/
set_option maxRecDepth 100000
def RJ1 : String := "java/util/AbstractList"
abbrev cJ1_init : ByteArray := prog_50_method_1_code
def yJ1_init : MethodName := ⟨RJ1, "<init>", "()V"⟩
def dkwJ1_init_0 : List UInt8 := [42, 183, 0, 1, 42, 3, 181, 0, 7, 177]
abbrev dktJ1_init_0 : List UInt8 := dkwJ1_init_0 ++ []
theorem dksJ1_init_0 : cJ1_init.data.toList.drop 0 = dktJ1_init_0 := by decide +kernel
theorem dJ1_init_0 : decode cJ1_init 0 = .ok (.aload_n 0, 1) := dk_42 (dk_at dksJ1_init_0 0 rfl rfl)
theorem dJ1_init_1 : decode cJ1_init 1 = .ok (.invokespecial 1, 3) := dk_183 0 1 (dk_at dksJ1_init_0 1 rfl rfl)
theorem dJ1_init_4 : decode cJ1_init 4 = .ok (.aload_n 0, 1) := dk_42 (dk_at dksJ1_init_0 4 rfl rfl)
theorem dJ1_init_5 : decode cJ1_init 5 = .ok (.iconst 0, 1) := dk_3 (dk_at dksJ1_init_0 5 rfl rfl)
theorem dJ1_init_6 : decode cJ1_init 6 = .ok (.putfield 7, 3) := dk_181 0 7 (dk_at dksJ1_init_0 6 rfl rfl)
theorem dJ1_init_9 : decode cJ1_init 9 = .ok (.return_, 1) := dk_177 (dk_at dksJ1_init_0 9 rfl rfl)
theorem q101 : (Jvm.Cond.initialized "java/util/AbstractList") ∈ lw_all := lw_g (lw_at lw_m1 4 rfl) rfl
theorem q195 : (Jvm.Cond.instanceMethod ({ cls := "java/util/AbstractList", name := "<init>", desc := "()V" } : Jvm.MethodName)) ∈ lw_all := lw_g (lw_at lw_m1 98 rfl) rfl
theorem q196 : (Jvm.Cond.code ({ cls := "java/util/AbstractList", name := "<init>", desc := "()V" } : Jvm.MethodName) prog_50_method_1_code (1 : Nat) (Option.none : Option Jvm.ClassFile.FieldType)) ∈ lw_all := lw_g (lw_at lw_m1 99 rfl) rfl
theorem q197 : (Jvm.Cond.methodLink "java/util/AbstractList" (1 : Nat) ({ cls := "java/util/AbstractCollection", name := "<init>", desc := "()V" } : Jvm.MethodName)) ∈ lw_all := lw_g (lw_at lw_m1 100 rfl) rfl
theorem q205 : (Jvm.Cond.fieldLink "java/util/AbstractList" (7 : Nat) "java/util/AbstractList" "modCount" "I") ∈ lw_all := lw_g (lw_at lw_m1 108 rfl) rfl
theorem q213 : (Jvm.Cond.soleField "java/util/AbstractList" "modCount") ∈ lw_all := lw_g (lw_at lw_m1 116 rfl) rfl

/-! java/util/ArrayList -/
set_option maxRecDepth 100000
def RJ2 : String := "java/util/ArrayList"
def TJ2 : u_T := fun k => match k with
  | 0 => ("java/util/AbstractList", "modCount", "I", false)
  | 1 => ("java/util/ArrayList", "elementData", "[Ljava/lang/Object;", false)
  | _ => ("java/util/ArrayList", "size", "I", false)
def tyJ2 : Nat → FieldType := fun k => match k with
  | 0 => .int
  | 1 => .array (.object "java/lang/Object")
  | _ => .int
abbrev wsJ20 : List Cond := u_ws RJ2 TJ2 3
theorem nmJ2 : ∀ a, a < 3 → ∀ b, b < 3 → a ≠ b → (TJ2 a).2.1 ≠ (TJ2 b).2.1 := by decide +kernel
theorem tyJ2_ok : ∀ k, k < 3 → parseFieldDescriptor (TJ2 k).2.2.1 = some (tyJ2 k) := by decide +kernel
abbrev cJ2_init : ByteArray := prog_51_method_2_code
def yJ2_init : MethodName := ⟨RJ2, "<init>", "()V"⟩
def dkwJ2_init_0 : List UInt8 := [42, 183, 0, 1, 42, 178, 0, 39, 181, 0, 9, 177]
abbrev dktJ2_init_0 : List UInt8 := dkwJ2_init_0 ++ []
theorem dksJ2_init_0 : cJ2_init.data.toList.drop 0 = dktJ2_init_0 := by decide +kernel
theorem dJ2_init_0 : decode cJ2_init 0 = .ok (.aload_n 0, 1) := dk_42 (dk_at dksJ2_init_0 0 rfl rfl)
theorem dJ2_init_1 : decode cJ2_init 1 = .ok (.invokespecial 1, 3) := dk_183 0 1 (dk_at dksJ2_init_0 1 rfl rfl)
theorem dJ2_init_4 : decode cJ2_init 4 = .ok (.aload_n 0, 1) := dk_42 (dk_at dksJ2_init_0 4 rfl rfl)
theorem dJ2_init_5 : decode cJ2_init 5 = .ok (.getstatic 39, 3) := dk_178 0 39 (dk_at dksJ2_init_0 5 rfl rfl)
theorem dJ2_init_8 : decode cJ2_init 8 = .ok (.putfield 9, 3) := dk_181 0 9 (dk_at dksJ2_init_0 8 rfl rfl)
theorem dJ2_init_11 : decode cJ2_init 11 = .ok (.return_, 1) := dk_177 (dk_at dksJ2_init_0 11 rfl rfl)
abbrev cJ2_size : ByteArray := prog_51_method_8_code
def yJ2_size : MethodName := ⟨RJ2, "size", "()I"⟩
theorem dJ2_size_0 : decode cJ2_size 0 = .ok (.aload_n 0, 1) := by decide +kernel
theorem dJ2_size_1 : decode cJ2_size 1 = .ok (.getfield 48, 3) := by decide +kernel
theorem dJ2_size_4 : decode cJ2_size 4 = .ok (.ireturn, 1) := by decide +kernel
abbrev cJ2_get : ByteArray := prog_51_method_20_code
def yJ2_get : MethodName := ⟨RJ2, "get", "(I)Ljava/lang/Object;"⟩
def dkwJ2_get_0 : List UInt8 := [27, 42, 180, 0, 48, 184, 0, 118, 87, 42, 27, 182, 0, 123, 176]
abbrev dktJ2_get_0 : List UInt8 := dkwJ2_get_0 ++ []
theorem dksJ2_get_0 : cJ2_get.data.toList.drop 0 = dktJ2_get_0 := by decide +kernel
theorem dJ2_get_0 : decode cJ2_get 0 = .ok (.iload_n 1, 1) := dk_27 (dk_at dksJ2_get_0 0 rfl rfl)
theorem dJ2_get_1 : decode cJ2_get 1 = .ok (.aload_n 0, 1) := dk_42 (dk_at dksJ2_get_0 1 rfl rfl)
theorem dJ2_get_2 : decode cJ2_get 2 = .ok (.getfield 48, 3) := dk_180 0 48 (dk_at dksJ2_get_0 2 rfl rfl)
theorem dJ2_get_5 : decode cJ2_get 5 = .ok (.invokestatic 118, 3) := dk_184 0 118 (dk_at dksJ2_get_0 5 rfl rfl)
theorem dJ2_get_8 : decode cJ2_get 8 = .ok (.pop, 1) := dk_87 (dk_at dksJ2_get_0 8 rfl rfl)
theorem dJ2_get_9 : decode cJ2_get 9 = .ok (.aload_n 0, 1) := dk_42 (dk_at dksJ2_get_0 9 rfl rfl)
theorem dJ2_get_10 : decode cJ2_get 10 = .ok (.iload_n 1, 1) := dk_27 (dk_at dksJ2_get_0 10 rfl rfl)
theorem dJ2_get_11 : decode cJ2_get 11 = .ok (.invokevirtual 123, 3) := dk_182 0 123 (dk_at dksJ2_get_0 11 rfl rfl)
theorem dJ2_get_14 : decode cJ2_get 14 = .ok (.areturn, 1) := dk_176 (dk_at dksJ2_get_0 14 rfl rfl)
abbrev cJ2_elementData : ByteArray := prog_51_method_18_code
def yJ2_elementData : MethodName := ⟨RJ2, "elementData", "(I)Ljava/lang/Object;"⟩
def dkwJ2_elementData_0 : List UInt8 := [42, 180, 0, 9, 27, 50, 176]
abbrev dktJ2_elementData_0 : List UInt8 := dkwJ2_elementData_0 ++ []
theorem dksJ2_elementData_0 : cJ2_elementData.data.toList.drop 0 = dktJ2_elementData_0 := by decide +kernel
theorem dJ2_elementData_0 : decode cJ2_elementData 0 = .ok (.aload_n 0, 1) := dk_42 (dk_at dksJ2_elementData_0 0 rfl rfl)
theorem dJ2_elementData_1 : decode cJ2_elementData 1 = .ok (.getfield 9, 3) := dk_180 0 9 (dk_at dksJ2_elementData_0 1 rfl rfl)
theorem dJ2_elementData_4 : decode cJ2_elementData 4 = .ok (.iload_n 1, 1) := dk_27 (dk_at dksJ2_elementData_0 4 rfl rfl)
theorem dJ2_elementData_5 : decode cJ2_elementData 5 = .ok (.aaload, 1) := dk_50 (dk_at dksJ2_elementData_0 5 rfl rfl)
theorem dJ2_elementData_6 : decode cJ2_elementData 6 = .ok (.areturn, 1) := dk_176 (dk_at dksJ2_elementData_0 6 rfl rfl)
abbrev cJ2_add : ByteArray := prog_51_method_25_code
def yJ2_add : MethodName := ⟨RJ2, "add", "(Ljava/lang/Object;)Z"⟩
def dkwJ2_add_1 : List UInt8 := [172]
abbrev dktJ2_add_1 : List UInt8 := dkwJ2_add_1 ++ []
def dkwJ2_add_0 : List UInt8 := [42, 89, 180, 0, 63, 4, 96, 181, 0, 63, 42, 43, 42, 180, 0, 9, 42, 180, 0, 48, 182, 0, 131, 4]
abbrev dktJ2_add_0 : List UInt8 := dkwJ2_add_0 ++ dktJ2_add_1
theorem dksJ2_add_0 : cJ2_add.data.toList.drop 0 = dktJ2_add_0 := by decide +kernel
theorem dksJ2_add_1 : cJ2_add.data.toList.drop 24 = dktJ2_add_1 := dk_seg dksJ2_add_0 24 rfl rfl
theorem dJ2_add_0 : decode cJ2_add 0 = .ok (.aload_n 0, 1) := dk_42 (dk_at dksJ2_add_0 0 rfl rfl)
theorem dJ2_add_1 : decode cJ2_add 1 = .ok (.dup, 1) := dk_89 (dk_at dksJ2_add_0 1 rfl rfl)
theorem dJ2_add_2 : decode cJ2_add 2 = .ok (.getfield 63, 3) := dk_180 0 63 (dk_at dksJ2_add_0 2 rfl rfl)
theorem dJ2_add_5 : decode cJ2_add 5 = .ok (.iconst 1, 1) := dk_4 (dk_at dksJ2_add_0 5 rfl rfl)
theorem dJ2_add_6 : decode cJ2_add 6 = .ok (.iadd, 1) := dk_96 (dk_at dksJ2_add_0 6 rfl rfl)
theorem dJ2_add_7 : decode cJ2_add 7 = .ok (.putfield 63, 3) := dk_181 0 63 (dk_at dksJ2_add_0 7 rfl rfl)
theorem dJ2_add_10 : decode cJ2_add 10 = .ok (.aload_n 0, 1) := dk_42 (dk_at dksJ2_add_0 10 rfl rfl)
theorem dJ2_add_11 : decode cJ2_add 11 = .ok (.aload_n 1, 1) := dk_43 (dk_at dksJ2_add_0 11 rfl rfl)
theorem dJ2_add_12 : decode cJ2_add 12 = .ok (.aload_n 0, 1) := dk_42 (dk_at dksJ2_add_0 12 rfl rfl)
theorem dJ2_add_13 : decode cJ2_add 13 = .ok (.getfield 9, 3) := dk_180 0 9 (dk_at dksJ2_add_0 13 rfl rfl)
theorem dJ2_add_16 : decode cJ2_add 16 = .ok (.aload_n 0, 1) := dk_42 (dk_at dksJ2_add_0 16 rfl rfl)
theorem dJ2_add_17 : decode cJ2_add 17 = .ok (.getfield 48, 3) := dk_180 0 48 (dk_at dksJ2_add_0 17 rfl rfl)
theorem dJ2_add_20 : decode cJ2_add 20 = .ok (.invokevirtual 131, 3) := dk_182 0 131 (dk_at dksJ2_add_0 20 rfl rfl)
theorem dJ2_add_23 : decode cJ2_add 23 = .ok (.iconst 1, 1) := dk_4 (dk_at dksJ2_add_0 23 rfl rfl)
theorem dJ2_add_24 : decode cJ2_add 24 = .ok (.ireturn, 1) := dk_172 (dk_at dksJ2_add_1 0 rfl rfl)
abbrev cJ2_add_2 : ByteArray := prog_51_method_24_code
def yJ2_add_2 : MethodName := ⟨RJ2, "add", "(Ljava/lang/Object;[Ljava/lang/Object;I)V"⟩
def dkwJ2_add_2_0 : List UInt8 := [29, 44, 190, 160, 0, 8, 42, 182, 0, 129, 77, 44, 29, 43, 83, 42, 29, 4, 96, 181, 0, 48, 177]
abbrev dktJ2_add_2_0 : List UInt8 := dkwJ2_add_2_0 ++ []
theorem dksJ2_add_2_0 : cJ2_add_2.data.toList.drop 0 = dktJ2_add_2_0 := by decide +kernel
theorem dJ2_add_2_0 : decode cJ2_add_2 0 = .ok (.iload_n 3, 1) := dk_29 (dk_at dksJ2_add_2_0 0 rfl rfl)
theorem dJ2_add_2_1 : decode cJ2_add_2 1 = .ok (.aload_n 2, 1) := dk_44 (dk_at dksJ2_add_2_0 1 rfl rfl)
theorem dJ2_add_2_2 : decode cJ2_add_2 2 = .ok (.arraylength, 1) := dk_190 (dk_at dksJ2_add_2_0 2 rfl rfl)
theorem dJ2_add_2_3 : decode cJ2_add_2 3 = .ok (.if_icmp .ne 8, 3) := dk_160 0 8 (dk_at dksJ2_add_2_0 3 rfl rfl)
theorem dJ2_add_2_6 : decode cJ2_add_2 6 = .ok (.aload_n 0, 1) := dk_42 (dk_at dksJ2_add_2_0 6 rfl rfl)
theorem dJ2_add_2_7 : decode cJ2_add_2 7 = .ok (.invokevirtual 129, 3) := dk_182 0 129 (dk_at dksJ2_add_2_0 7 rfl rfl)
theorem dJ2_add_2_10 : decode cJ2_add_2 10 = .ok (.astore_n 2, 1) := dk_77 (dk_at dksJ2_add_2_0 10 rfl rfl)
theorem dJ2_add_2_11 : decode cJ2_add_2 11 = .ok (.aload_n 2, 1) := dk_44 (dk_at dksJ2_add_2_0 11 rfl rfl)
theorem dJ2_add_2_12 : decode cJ2_add_2 12 = .ok (.iload_n 3, 1) := dk_29 (dk_at dksJ2_add_2_0 12 rfl rfl)
theorem dJ2_add_2_13 : decode cJ2_add_2 13 = .ok (.aload_n 1, 1) := dk_43 (dk_at dksJ2_add_2_0 13 rfl rfl)
theorem dJ2_add_2_14 : decode cJ2_add_2 14 = .ok (.aastore, 1) := dk_83 (dk_at dksJ2_add_2_0 14 rfl rfl)
theorem dJ2_add_2_15 : decode cJ2_add_2 15 = .ok (.aload_n 0, 1) := dk_42 (dk_at dksJ2_add_2_0 15 rfl rfl)
theorem dJ2_add_2_16 : decode cJ2_add_2 16 = .ok (.iload_n 3, 1) := dk_29 (dk_at dksJ2_add_2_0 16 rfl rfl)
theorem dJ2_add_2_17 : decode cJ2_add_2 17 = .ok (.iconst 1, 1) := dk_4 (dk_at dksJ2_add_2_0 17 rfl rfl)
theorem dJ2_add_2_18 : decode cJ2_add_2 18 = .ok (.iadd, 1) := dk_96 (dk_at dksJ2_add_2_0 18 rfl rfl)
theorem dJ2_add_2_19 : decode cJ2_add_2 19 = .ok (.putfield 48, 3) := dk_181 0 48 (dk_at dksJ2_add_2_0 19 rfl rfl)
theorem dJ2_add_2_22 : decode cJ2_add_2 22 = .ok (.return_, 1) := dk_177 (dk_at dksJ2_add_2_0 22 rfl rfl)
abbrev cJ2_grow : ByteArray := prog_51_method_7_code
def yJ2_grow : MethodName := ⟨RJ2, "grow", "()[Ljava/lang/Object;"⟩
def dkwJ2_grow_0 : List UInt8 := [42, 42, 180, 0, 48, 4, 96, 182, 0, 69, 176]
abbrev dktJ2_grow_0 : List UInt8 := dkwJ2_grow_0 ++ []
theorem dksJ2_grow_0 : cJ2_grow.data.toList.drop 0 = dktJ2_grow_0 := by decide +kernel
theorem dJ2_grow_0 : decode cJ2_grow 0 = .ok (.aload_n 0, 1) := dk_42 (dk_at dksJ2_grow_0 0 rfl rfl)
theorem dJ2_grow_1 : decode cJ2_grow 1 = .ok (.aload_n 0, 1) := dk_42 (dk_at dksJ2_grow_0 1 rfl rfl)
theorem dJ2_grow_2 : decode cJ2_grow 2 = .ok (.getfield 48, 3) := dk_180 0 48 (dk_at dksJ2_grow_0 2 rfl rfl)
theorem dJ2_grow_5 : decode cJ2_grow 5 = .ok (.iconst 1, 1) := dk_4 (dk_at dksJ2_grow_0 5 rfl rfl)
theorem dJ2_grow_6 : decode cJ2_grow 6 = .ok (.iadd, 1) := dk_96 (dk_at dksJ2_grow_0 6 rfl rfl)
theorem dJ2_grow_7 : decode cJ2_grow 7 = .ok (.invokevirtual 69, 3) := dk_182 0 69 (dk_at dksJ2_grow_0 7 rfl rfl)
theorem dJ2_grow_10 : decode cJ2_grow 10 = .ok (.areturn, 1) := dk_176 (dk_at dksJ2_grow_0 10 rfl rfl)
abbrev cJ2_grow_2 : ByteArray := prog_51_method_6_code
def yJ2_grow_2 : MethodName := ⟨RJ2, "grow", "(I)[Ljava/lang/Object;"⟩
def dkwJ2_grow_2_2 : List UInt8 := [27, 184, 0, 79, 189, 0, 7, 90, 181, 0, 9, 176]
abbrev dktJ2_grow_2_2 : List UInt8 := dkwJ2_grow_2_2 ++ []
def dkwJ2_grow_2_1 : List UInt8 := [28, 4, 122, 184, 0, 73, 62, 42, 42, 180, 0, 9, 29, 184, 0, 66, 90, 181, 0, 9, 176, 42, 16, 10]
abbrev dktJ2_grow_2_1 : List UInt8 := dkwJ2_grow_2_1 ++ dktJ2_grow_2_2
def dkwJ2_grow_2_0 : List UInt8 := [42, 180, 0, 9, 190, 61, 28, 157, 0, 13, 42, 180, 0, 9, 178, 0, 39, 165, 0, 28, 28, 27, 28, 100]
abbrev dktJ2_grow_2_0 : List UInt8 := dkwJ2_grow_2_0 ++ dktJ2_grow_2_1
theorem dksJ2_grow_2_0 : cJ2_grow_2.data.toList.drop 0 = dktJ2_grow_2_0 := by decide +kernel
theorem dksJ2_grow_2_1 : cJ2_grow_2.data.toList.drop 24 = dktJ2_grow_2_1 := dk_seg dksJ2_grow_2_0 24 rfl rfl
theorem dksJ2_grow_2_2 : cJ2_grow_2.data.toList.drop 48 = dktJ2_grow_2_2 := dk_seg dksJ2_grow_2_1 24 rfl rfl
theorem dJ2_grow_2_0 : decode cJ2_grow_2 0 = .ok (.aload_n 0, 1) := dk_42 (dk_at dksJ2_grow_2_0 0 rfl rfl)
theorem dJ2_grow_2_1 : decode cJ2_grow_2 1 = .ok (.getfield 9, 3) := dk_180 0 9 (dk_at dksJ2_grow_2_0 1 rfl rfl)
theorem dJ2_grow_2_4 : decode cJ2_grow_2 4 = .ok (.arraylength, 1) := dk_190 (dk_at dksJ2_grow_2_0 4 rfl rfl)
theorem dJ2_grow_2_5 : decode cJ2_grow_2 5 = .ok (.istore_n 2, 1) := dk_61 (dk_at dksJ2_grow_2_0 5 rfl rfl)
theorem dJ2_grow_2_6 : decode cJ2_grow_2 6 = .ok (.iload_n 2, 1) := dk_28 (dk_at dksJ2_grow_2_0 6 rfl rfl)
theorem dJ2_grow_2_7 : decode cJ2_grow_2 7 = .ok (.ifCond .gt 13, 3) := dk_157 0 13 (dk_at dksJ2_grow_2_0 7 rfl rfl)
theorem dJ2_grow_2_10 : decode cJ2_grow_2 10 = .ok (.aload_n 0, 1) := dk_42 (dk_at dksJ2_grow_2_0 10 rfl rfl)
theorem dJ2_grow_2_11 : decode cJ2_grow_2 11 = .ok (.getfield 9, 3) := dk_180 0 9 (dk_at dksJ2_grow_2_0 11 rfl rfl)
theorem dJ2_grow_2_14 : decode cJ2_grow_2 14 = .ok (.getstatic 39, 3) := dk_178 0 39 (dk_at dksJ2_grow_2_0 14 rfl rfl)
theorem dJ2_grow_2_17 : decode cJ2_grow_2 17 = .ok (.if_acmp .eq 28, 3) := dk_165 0 28 (dk_at dksJ2_grow_2_0 17 rfl rfl)
theorem dJ2_grow_2_20 : decode cJ2_grow_2 20 = .ok (.iload_n 2, 1) := dk_28 (dk_at dksJ2_grow_2_0 20 rfl rfl)
theorem dJ2_grow_2_21 : decode cJ2_grow_2 21 = .ok (.iload_n 1, 1) := dk_27 (dk_at dksJ2_grow_2_0 21 rfl rfl)
theorem dJ2_grow_2_22 : decode cJ2_grow_2 22 = .ok (.iload_n 2, 1) := dk_28 (dk_at dksJ2_grow_2_0 22 rfl rfl)
theorem dJ2_grow_2_23 : decode cJ2_grow_2 23 = .ok (.isub, 1) := dk_100 (dk_at dksJ2_grow_2_0 23 rfl rfl)
theorem dJ2_grow_2_24 : decode cJ2_grow_2 24 = .ok (.iload_n 2, 1) := dk_28 (dk_at dksJ2_grow_2_1 0 rfl rfl)
theorem dJ2_grow_2_25 : decode cJ2_grow_2 25 = .ok (.iconst 1, 1) := dk_4 (dk_at dksJ2_grow_2_1 1 rfl rfl)
theorem dJ2_grow_2_26 : decode cJ2_grow_2 26 = .ok (.ishr, 1) := dk_122 (dk_at dksJ2_grow_2_1 2 rfl rfl)
theorem dJ2_grow_2_27 : decode cJ2_grow_2 27 = .ok (.invokestatic 73, 3) := dk_184 0 73 (dk_at dksJ2_grow_2_1 3 rfl rfl)
theorem dJ2_grow_2_30 : decode cJ2_grow_2 30 = .ok (.istore_n 3, 1) := dk_62 (dk_at dksJ2_grow_2_1 6 rfl rfl)
theorem dJ2_grow_2_31 : decode cJ2_grow_2 31 = .ok (.aload_n 0, 1) := dk_42 (dk_at dksJ2_grow_2_1 7 rfl rfl)
theorem dJ2_grow_2_32 : decode cJ2_grow_2 32 = .ok (.aload_n 0, 1) := dk_42 (dk_at dksJ2_grow_2_1 8 rfl rfl)
theorem dJ2_grow_2_33 : decode cJ2_grow_2 33 = .ok (.getfield 9, 3) := dk_180 0 9 (dk_at dksJ2_grow_2_1 9 rfl rfl)
theorem dJ2_grow_2_36 : decode cJ2_grow_2 36 = .ok (.iload_n 3, 1) := dk_29 (dk_at dksJ2_grow_2_1 12 rfl rfl)
theorem dJ2_grow_2_37 : decode cJ2_grow_2 37 = .ok (.invokestatic 66, 3) := dk_184 0 66 (dk_at dksJ2_grow_2_1 13 rfl rfl)
theorem dJ2_grow_2_40 : decode cJ2_grow_2 40 = .ok (.dup_x1, 1) := dk_90 (dk_at dksJ2_grow_2_1 16 rfl rfl)
theorem dJ2_grow_2_41 : decode cJ2_grow_2 41 = .ok (.putfield 9, 3) := dk_181 0 9 (dk_at dksJ2_grow_2_1 17 rfl rfl)
theorem dJ2_grow_2_44 : decode cJ2_grow_2 44 = .ok (.areturn, 1) := dk_176 (dk_at dksJ2_grow_2_1 20 rfl rfl)
theorem dJ2_grow_2_45 : decode cJ2_grow_2 45 = .ok (.aload_n 0, 1) := dk_42 (dk_at dksJ2_grow_2_1 21 rfl rfl)
theorem dJ2_grow_2_46 : decode cJ2_grow_2 46 = .ok (.bipush 10, 2) := dk_16 10 (dk_at dksJ2_grow_2_1 22 rfl rfl)
theorem dJ2_grow_2_48 : decode cJ2_grow_2 48 = .ok (.iload_n 1, 1) := dk_27 (dk_at dksJ2_grow_2_2 0 rfl rfl)
theorem dJ2_grow_2_49 : decode cJ2_grow_2 49 = .ok (.invokestatic 79, 3) := dk_184 0 79 (dk_at dksJ2_grow_2_2 1 rfl rfl)
theorem dJ2_grow_2_52 : decode cJ2_grow_2 52 = .ok (.anewarray 7, 3) := dk_189 0 7 (dk_at dksJ2_grow_2_2 4 rfl rfl)
theorem dJ2_grow_2_55 : decode cJ2_grow_2 55 = .ok (.dup_x1, 1) := dk_90 (dk_at dksJ2_grow_2_2 7 rfl rfl)
theorem dJ2_grow_2_56 : decode cJ2_grow_2 56 = .ok (.putfield 9, 3) := dk_181 0 9 (dk_at dksJ2_grow_2_2 8 rfl rfl)
theorem dJ2_grow_2_59 : decode cJ2_grow_2 59 = .ok (.areturn, 1) := dk_176 (dk_at dksJ2_grow_2_2 11 rfl rfl)
abbrev cJ2_clear : ByteArray := prog_51_method_40_code
def yJ2_clear : MethodName := ⟨RJ2, "clear", "()V"⟩
def dkwJ2_clear_1 : List UInt8 := [181, 0, 48, 62, 29, 28, 162, 0, 13, 43, 29, 1, 83, 132, 3, 1, 167, 255, 244, 177]
abbrev dktJ2_clear_1 : List UInt8 := dkwJ2_clear_1 ++ []
def dkwJ2_clear_0 : List UInt8 := [42, 89, 180, 0, 63, 4, 96, 181, 0, 63, 42, 180, 0, 9, 76, 42, 180, 0, 48, 61, 42, 3, 90]
abbrev dktJ2_clear_0 : List UInt8 := dkwJ2_clear_0 ++ dktJ2_clear_1
theorem dksJ2_clear_0 : cJ2_clear.data.toList.drop 0 = dktJ2_clear_0 := by decide +kernel
theorem dksJ2_clear_1 : cJ2_clear.data.toList.drop 23 = dktJ2_clear_1 := dk_seg dksJ2_clear_0 23 rfl rfl
theorem dJ2_clear_0 : decode cJ2_clear 0 = .ok (.aload_n 0, 1) := dk_42 (dk_at dksJ2_clear_0 0 rfl rfl)
theorem dJ2_clear_1 : decode cJ2_clear 1 = .ok (.dup, 1) := dk_89 (dk_at dksJ2_clear_0 1 rfl rfl)
theorem dJ2_clear_2 : decode cJ2_clear 2 = .ok (.getfield 63, 3) := dk_180 0 63 (dk_at dksJ2_clear_0 2 rfl rfl)
theorem dJ2_clear_5 : decode cJ2_clear 5 = .ok (.iconst 1, 1) := dk_4 (dk_at dksJ2_clear_0 5 rfl rfl)
theorem dJ2_clear_6 : decode cJ2_clear 6 = .ok (.iadd, 1) := dk_96 (dk_at dksJ2_clear_0 6 rfl rfl)
theorem dJ2_clear_7 : decode cJ2_clear 7 = .ok (.putfield 63, 3) := dk_181 0 63 (dk_at dksJ2_clear_0 7 rfl rfl)
theorem dJ2_clear_10 : decode cJ2_clear 10 = .ok (.aload_n 0, 1) := dk_42 (dk_at dksJ2_clear_0 10 rfl rfl)
theorem dJ2_clear_11 : decode cJ2_clear 11 = .ok (.getfield 9, 3) := dk_180 0 9 (dk_at dksJ2_clear_0 11 rfl rfl)
theorem dJ2_clear_14 : decode cJ2_clear 14 = .ok (.astore_n 1, 1) := dk_76 (dk_at dksJ2_clear_0 14 rfl rfl)
theorem dJ2_clear_15 : decode cJ2_clear 15 = .ok (.aload_n 0, 1) := dk_42 (dk_at dksJ2_clear_0 15 rfl rfl)
theorem dJ2_clear_16 : decode cJ2_clear 16 = .ok (.getfield 48, 3) := dk_180 0 48 (dk_at dksJ2_clear_0 16 rfl rfl)
theorem dJ2_clear_19 : decode cJ2_clear 19 = .ok (.istore_n 2, 1) := dk_61 (dk_at dksJ2_clear_0 19 rfl rfl)
theorem dJ2_clear_20 : decode cJ2_clear 20 = .ok (.aload_n 0, 1) := dk_42 (dk_at dksJ2_clear_0 20 rfl rfl)
theorem dJ2_clear_21 : decode cJ2_clear 21 = .ok (.iconst 0, 1) := dk_3 (dk_at dksJ2_clear_0 21 rfl rfl)
theorem dJ2_clear_22 : decode cJ2_clear 22 = .ok (.dup_x1, 1) := dk_90 (dk_at dksJ2_clear_0 22 rfl rfl)
theorem dJ2_clear_23 : decode cJ2_clear 23 = .ok (.putfield 48, 3) := dk_181 0 48 (dk_at dksJ2_clear_1 0 rfl rfl)
theorem dJ2_clear_26 : decode cJ2_clear 26 = .ok (.istore_n 3, 1) := dk_62 (dk_at dksJ2_clear_1 3 rfl rfl)
theorem dJ2_clear_27 : decode cJ2_clear 27 = .ok (.iload_n 3, 1) := dk_29 (dk_at dksJ2_clear_1 4 rfl rfl)
theorem dJ2_clear_28 : decode cJ2_clear 28 = .ok (.iload_n 2, 1) := dk_28 (dk_at dksJ2_clear_1 5 rfl rfl)
theorem dJ2_clear_29 : decode cJ2_clear 29 = .ok (.if_icmp .ge 13, 3) := dk_162 0 13 (dk_at dksJ2_clear_1 6 rfl rfl)
theorem dJ2_clear_32 : decode cJ2_clear 32 = .ok (.aload_n 1, 1) := dk_43 (dk_at dksJ2_clear_1 9 rfl rfl)
theorem dJ2_clear_33 : decode cJ2_clear 33 = .ok (.iload_n 3, 1) := dk_29 (dk_at dksJ2_clear_1 10 rfl rfl)
theorem dJ2_clear_34 : decode cJ2_clear 34 = .ok (.aconst_null, 1) := dk_1 (dk_at dksJ2_clear_1 11 rfl rfl)
theorem dJ2_clear_35 : decode cJ2_clear 35 = .ok (.aastore, 1) := dk_83 (dk_at dksJ2_clear_1 12 rfl rfl)
theorem dJ2_clear_36 : decode cJ2_clear 36 = .ok (.iinc 3 1, 3) := dk_132 3 1 (dk_at dksJ2_clear_1 13 rfl rfl)
theorem dJ2_clear_39 : decode cJ2_clear 39 = .ok (.goto (-12), 3) := dk_167 255 244 (dk_at dksJ2_clear_1 16 rfl rfl)
theorem dJ2_clear_42 : decode cJ2_clear 42 = .ok (.return_, 1) := dk_177 (dk_at dksJ2_clear_1 19 rfl rfl)
theorem q102 : (Jvm.Cond.initialized "java/util/ArrayList") ∈ lw_all := lw_g (lw_at lw_m1 5 rfl) rfl
theorem q190 : (Jvm.Cond.instantiable "java/util/ArrayList" (3 : Nat)) ∈ lw_all := lw_g (lw_at lw_m1 93 rfl) rfl
theorem q192 : (Jvm.Cond.instanceMethod ({ cls := "java/util/ArrayList", name := "<init>", desc := "()V" } : Jvm.MethodName)) ∈ lw_all := lw_g (lw_at lw_m1 95 rfl) rfl
theorem q193 : (Jvm.Cond.code ({ cls := "java/util/ArrayList", name := "<init>", desc := "()V" } : Jvm.MethodName) prog_51_method_2_code (1 : Nat) (Option.none : Option Jvm.ClassFile.FieldType)) ∈ lw_all := lw_g (lw_at lw_m1 96 rfl) rfl
theorem q194 : (Jvm.Cond.methodLink "java/util/ArrayList" (1 : Nat) ({ cls := "java/util/AbstractList", name := "<init>", desc := "()V" } : Jvm.MethodName)) ∈ lw_all := lw_g (lw_at lw_m1 97 rfl) rfl
theorem q201 : (Jvm.Cond.fieldLink "java/util/ArrayList" (39 : Nat) "java/util/ArrayList" "DEFAULTCAPACITY_EMPTY_ELEMENTDATA" "[Ljava/lang/Object;") ∈ lw_all := lw_g (lw_at lw_m1 104 rfl) rfl
theorem q202 : (Jvm.Cond.laysStatic "java/util/ArrayList" "DEFAULTCAPACITY_EMPTY_ELEMENTDATA" "[Ljava/lang/Object;") ∈ lw_tbl := lw_at lw_m1 105 rfl
theorem q203 : (Jvm.Cond.fieldLink "java/util/ArrayList" (9 : Nat) "java/util/ArrayList" "elementData" "[Ljava/lang/Object;") ∈ lw_all := lw_g (lw_at lw_m1 106 rfl) rfl
theorem q204 : (Jvm.Cond.fieldLink "java/util/ArrayList" (48 : Nat) "java/util/ArrayList" "size" "I") ∈ lw_all := lw_g (lw_at lw_m1 107 rfl) rfl
theorem q206 : (Jvm.Cond.fieldLink "java/util/ArrayList" (63 : Nat) "java/util/ArrayList" "modCount" "I") ∈ lw_all := lw_g (lw_at lw_m1 109 rfl) rfl
theorem q207 : (Jvm.Cond.sameField "java/util/ArrayList" "java/util/AbstractList" "modCount" "I") ∈ lw_all := lw_g (lw_at lw_m1 110 rfl) rfl
theorem q208 : (Jvm.Cond.lays "java/util/ArrayList" "java/util/ArrayList" "elementData" "[Ljava/lang/Object;") ∈ lw_all := lw_g (lw_at lw_m1 111 rfl) rfl
theorem q209 : (Jvm.Cond.soleField "java/util/ArrayList" "elementData") ∈ lw_all := lw_g (lw_at lw_m1 112 rfl) rfl
theorem q210 : (Jvm.Cond.lays "java/util/ArrayList" "java/util/ArrayList" "size" "I") ∈ lw_all := lw_g (lw_at lw_m1 113 rfl) rfl
theorem q211 : (Jvm.Cond.soleField "java/util/ArrayList" "size") ∈ lw_all := lw_g (lw_at lw_m1 114 rfl) rfl
theorem q212 : (Jvm.Cond.lays "java/util/ArrayList" "java/util/AbstractList" "modCount" "I") ∈ lw_all := lw_g (lw_at lw_m1 115 rfl) rfl
theorem q214 : (Jvm.Cond.superclass "java/util/ArrayList" "java/util/AbstractList") ∈ lw_all := lw_g (lw_at lw_m1 117 rfl) rfl
theorem q894 : (Jvm.Cond.instanceMethod ({ cls := "java/util/ArrayList", name := "size", desc := "()I" } : Jvm.MethodName)) ∈ lw_all := lw_g (lw_at lw_m4 77 rfl) rfl
theorem q895 : (Jvm.Cond.selects "java/util/ArrayList" ({ cls := "java/util/ArrayList", name := "size", desc := "()I" } : Jvm.MethodName) ({ cls := "java/util/ArrayList", name := "size", desc := "()I" } : Jvm.MethodName)) ∈ lw_all := lw_g (lw_at lw_m4 78 rfl) rfl
theorem q896 : (Jvm.Cond.code ({ cls := "java/util/ArrayList", name := "size", desc := "()I" } : Jvm.MethodName) prog_51_method_8_code (1 : Nat) (Option.some Jvm.ClassFile.FieldType.int)) ∈ lw_all := lw_g (lw_at lw_m4 79 rfl) rfl
theorem q898 : (Jvm.Cond.instanceMethod ({ cls := "java/util/ArrayList", name := "get", desc := "(I)Ljava/lang/Object;" } : Jvm.MethodName)) ∈ lw_all := lw_g (lw_at lw_m4 81 rfl) rfl
theorem q899 : (Jvm.Cond.selects "java/util/ArrayList" ({ cls := "java/util/ArrayList", name := "get", desc := "(I)Ljava/lang/Object;" } : Jvm.MethodName) ({ cls := "java/util/ArrayList", name := "get", desc := "(I)Ljava/lang/Object;" } : Jvm.MethodName)) ∈ lw_all := lw_g (lw_at lw_m4 82 rfl) rfl
theorem q900 : (Jvm.Cond.code ({ cls := "java/util/ArrayList", name := "get", desc := "(I)Ljava/lang/Object;" } : Jvm.MethodName) prog_51_method_20_code (2 : Nat) (Option.some (Jvm.ClassFile.FieldType.object "java/lang/Object"))) ∈ lw_all := lw_g (lw_at lw_m4 83 rfl) rfl
theorem q901 : (Jvm.Cond.methodLink "java/util/ArrayList" (118 : Nat) ({ cls := "java/util/Objects", name := "checkIndex", desc := "(II)I" } : Jvm.MethodName)) ∈ lw_all := lw_g (lw_at lw_m4 84 rfl) rfl
theorem q905 : (Jvm.Cond.methodLink "java/util/ArrayList" (123 : Nat) ({ cls := "java/util/ArrayList", name := "elementData", desc := "(I)Ljava/lang/Object;" } : Jvm.MethodName)) ∈ lw_all := lw_g (lw_at lw_m4 88 rfl) rfl
theorem q906 : (Jvm.Cond.instanceMethod ({ cls := "java/util/ArrayList", name := "elementData", desc := "(I)Ljava/lang/Object;" } : Jvm.MethodName)) ∈ lw_all := lw_g (lw_at lw_m4 89 rfl) rfl
theorem q907 : (Jvm.Cond.selects "java/util/ArrayList" ({ cls := "java/util/ArrayList", name := "elementData", desc := "(I)Ljava/lang/Object;" } : Jvm.MethodName) ({ cls := "java/util/ArrayList", name := "elementData", desc := "(I)Ljava/lang/Object;" } : Jvm.MethodName)) ∈ lw_all := lw_g (lw_at lw_m4 90 rfl) rfl
theorem q908 : (Jvm.Cond.code ({ cls := "java/util/ArrayList", name := "elementData", desc := "(I)Ljava/lang/Object;" } : Jvm.MethodName) prog_51_method_18_code (2 : Nat) (Option.some (Jvm.ClassFile.FieldType.object "java/lang/Object"))) ∈ lw_all := lw_g (lw_at lw_m4 91 rfl) rfl
theorem q935 : (Jvm.Cond.instanceMethod ({ cls := "java/util/ArrayList", name := "add", desc := "(Ljava/lang/Object;)Z" } : Jvm.MethodName)) ∈ lw_all := lw_g (lw_at lw_m4 118 rfl) rfl
theorem q936 : (Jvm.Cond.selects "java/util/ArrayList" ({ cls := "java/util/ArrayList", name := "add", desc := "(Ljava/lang/Object;)Z" } : Jvm.MethodName) ({ cls := "java/util/ArrayList", name := "add", desc := "(Ljava/lang/Object;)Z" } : Jvm.MethodName)) ∈ lw_all := lw_g (lw_at lw_m4 119 rfl) rfl
theorem q937 : (Jvm.Cond.code ({ cls := "java/util/ArrayList", name := "add", desc := "(Ljava/lang/Object;)Z" } : Jvm.MethodName) prog_51_method_25_code (2 : Nat) (Option.some Jvm.ClassFile.FieldType.boolean)) ∈ lw_all := lw_g (lw_at lw_m4 120 rfl) rfl
theorem q938 : (Jvm.Cond.methodLink "java/util/ArrayList" (131 : Nat) ({ cls := "java/util/ArrayList", name := "add", desc := "(Ljava/lang/Object;[Ljava/lang/Object;I)V" } : Jvm.MethodName)) ∈ lw_all := lw_g (lw_at lw_m4 121 rfl) rfl
theorem q939 : (Jvm.Cond.privateMethod ({ cls := "java/util/ArrayList", name := "add", desc := "(Ljava/lang/Object;[Ljava/lang/Object;I)V" } : Jvm.MethodName)) ∈ lw_tbl := lw_at lw_m4 122 rfl
theorem q940 : (Jvm.Cond.instanceMethod ({ cls := "java/util/ArrayList", name := "add", desc := "(Ljava/lang/Object;[Ljava/lang/Object;I)V" } : Jvm.MethodName)) ∈ lw_all := lw_g (lw_at lw_m4 123 rfl) rfl
theorem q941 : (Jvm.Cond.code ({ cls := "java/util/ArrayList", name := "add", desc := "(Ljava/lang/Object;[Ljava/lang/Object;I)V" } : Jvm.MethodName) prog_51_method_24_code (4 : Nat) (Option.none : Option Jvm.ClassFile.FieldType)) ∈ lw_all := lw_g (lw_at lw_m4 124 rfl) rfl
theorem q942 : (Jvm.Cond.methodLink "java/util/ArrayList" (129 : Nat) ({ cls := "java/util/ArrayList", name := "grow", desc := "()[Ljava/lang/Object;" } : Jvm.MethodName)) ∈ lw_all := lw_g (lw_at lw_m4 125 rfl) rfl
theorem q943 : (Jvm.Cond.privateMethod ({ cls := "java/util/ArrayList", name := "grow", desc := "()[Ljava/lang/Object;" } : Jvm.MethodName)) ∈ lw_tbl := lw_at lw_m4 126 rfl
theorem q944 : (Jvm.Cond.instanceMethod ({ cls := "java/util/ArrayList", name := "grow", desc := "()[Ljava/lang/Object;" } : Jvm.MethodName)) ∈ lw_all := lw_g (lw_at lw_m4 127 rfl) rfl
theorem q945 : (Jvm.Cond.code ({ cls := "java/util/ArrayList", name := "grow", desc := "()[Ljava/lang/Object;" } : Jvm.MethodName) prog_51_method_7_code (1 : Nat) (Option.some (Jvm.ClassFile.FieldType.array (Jvm.ClassFile.FieldType.object "java/lang/Object")))) ∈ lw_all := lw_g (lw_at lw_m4 128 rfl) rfl
theorem q946 : (Jvm.Cond.methodLink "java/util/ArrayList" (69 : Nat) ({ cls := "java/util/ArrayList", name := "grow", desc := "(I)[Ljava/lang/Object;" } : Jvm.MethodName)) ∈ lw_all := lw_g (lw_at lw_m4 129 rfl) rfl
theorem q947 : (Jvm.Cond.privateMethod ({ cls := "java/util/ArrayList", name := "grow", desc := "(I)[Ljava/lang/Object;" } : Jvm.MethodName)) ∈ lw_tbl := lw_at lw_m4 130 rfl
theorem q948 : (Jvm.Cond.instanceMethod ({ cls := "java/util/ArrayList", name := "grow", desc := "(I)[Ljava/lang/Object;" } : Jvm.MethodName)) ∈ lw_all := lw_g (lw_at lw_m4 131 rfl) rfl
theorem q949 : (Jvm.Cond.code ({ cls := "java/util/ArrayList", name := "grow", desc := "(I)[Ljava/lang/Object;" } : Jvm.MethodName) prog_51_method_6_code (4 : Nat) (Option.some (Jvm.ClassFile.FieldType.array (Jvm.ClassFile.FieldType.object "java/lang/Object")))) ∈ lw_all := lw_g (lw_at lw_m4 132 rfl) rfl
theorem q950 : (Jvm.Cond.methodLink "java/util/ArrayList" (73 : Nat) ({ cls := "jdk/internal/util/ArraysSupport", name := "newLength", desc := "(III)I" } : Jvm.MethodName)) ∈ lw_all := lw_g (lw_at lw_m4 133 rfl) rfl
theorem q951 : (Jvm.Cond.methodLink "java/util/ArrayList" (66 : Nat) ({ cls := "java/util/Arrays", name := "copyOf", desc := "([Ljava/lang/Object;I)[Ljava/lang/Object;" } : Jvm.MethodName)) ∈ lw_all := lw_g (lw_at lw_m4 134 rfl) rfl
theorem q981 : (Jvm.Cond.selects "java/util/ArrayList" ({ cls := "java/lang/Object", name := "getClass", desc := "()Ljava/lang/Class;" } : Jvm.MethodName) ({ cls := "java/lang/Object", name := "getClass", desc := "()Ljava/lang/Class;" } : Jvm.MethodName)) ∈ lw_all := lw_g (lw_at lw_m4 164 rfl) rfl
theorem q990 : (Jvm.Cond.methodLink "java/util/ArrayList" (79 : Nat) ({ cls := "java/lang/Math", name := "max", desc := "(II)I" } : Jvm.MethodName)) ∈ lw_all := lw_g (lw_at lw_m4 173 rfl) rfl
theorem q991 : (Jvm.Cond.classLink "java/util/ArrayList" (7 : Nat) "java/lang/Object") ∈ lw_all := lw_g (lw_at lw_m4 174 rfl) rfl
theorem q1060 : (Jvm.Cond.instanceMethod ({ cls := "java/util/ArrayList", name := "clear", desc := "()V" } : Jvm.MethodName)) ∈ lw_all := lw_g (lw_at lw_m5 3 rfl) rfl
theorem q1061 : (Jvm.Cond.selects "java/util/ArrayList" ({ cls := "java/util/ArrayList", name := "clear", desc := "()V" } : Jvm.MethodName) ({ cls := "java/util/ArrayList", name := "clear", desc := "()V" } : Jvm.MethodName)) ∈ lw_all := lw_g (lw_at lw_m5 4 rfl) rfl
theorem q1062 : (Jvm.Cond.code ({ cls := "java/util/ArrayList", name := "clear", desc := "()V" } : Jvm.MethodName) prog_51_method_40_code (4 : Nat) (Option.none : Option Jvm.ClassFile.FieldType)) ∈ lw_all := lw_g (lw_at lw_m5 5 rfl) rfl
theorem q1512 : (Jvm.Cond.castable "java/util/ArrayList" "java/util/List") ∈ lw_tbl := lw_at lw_m6 215 rfl
theorem q1513 : (Jvm.Cond.selects "java/util/ArrayList" ({ cls := "java/util/List", name := "add", desc := "(Ljava/lang/Object;)Z" } : Jvm.MethodName) ({ cls := "java/util/ArrayList", name := "add", desc := "(Ljava/lang/Object;)Z" } : Jvm.MethodName)) ∈ lw_all := lw_g (lw_at lw_m6 216 rfl) rfl
theorem q1514 : (Jvm.Cond.unhidden "java/util/ArrayList" "add" "(Ljava/lang/Object;)Z") ∈ lw_tbl := lw_at lw_m6 217 rfl
theorem q1515 : (Jvm.Cond.publicMethod ({ cls := "java/util/ArrayList", name := "add", desc := "(Ljava/lang/Object;)Z" } : Jvm.MethodName)) ∈ lw_tbl := lw_at lw_m6 218 rfl
theorem q1690 : (Jvm.Cond.selects "java/util/ArrayList" ({ cls := "java/util/List", name := "size", desc := "()I" } : Jvm.MethodName) ({ cls := "java/util/ArrayList", name := "size", desc := "()I" } : Jvm.MethodName)) ∈ lw_all := lw_g (lw_at lw_m7 153 rfl) rfl
theorem q1691 : (Jvm.Cond.unhidden "java/util/ArrayList" "size" "()I") ∈ lw_tbl := lw_at lw_m7 154 rfl
theorem q1692 : (Jvm.Cond.publicMethod ({ cls := "java/util/ArrayList", name := "size", desc := "()I" } : Jvm.MethodName)) ∈ lw_tbl := lw_at lw_m7 155 rfl
theorem q1697 : (Jvm.Cond.selects "java/util/ArrayList" ({ cls := "java/util/List", name := "get", desc := "(I)Ljava/lang/Object;" } : Jvm.MethodName) ({ cls := "java/util/ArrayList", name := "get", desc := "(I)Ljava/lang/Object;" } : Jvm.MethodName)) ∈ lw_all := lw_g (lw_at lw_m7 160 rfl) rfl
theorem q1698 : (Jvm.Cond.unhidden "java/util/ArrayList" "get" "(I)Ljava/lang/Object;") ∈ lw_tbl := lw_at lw_m7 161 rfl
theorem q1699 : (Jvm.Cond.publicMethod ({ cls := "java/util/ArrayList", name := "get", desc := "(I)Ljava/lang/Object;" } : Jvm.MethodName)) ∈ lw_tbl := lw_at lw_m7 162 rfl
theorem q2558 : (Jvm.Cond.castable "java/util/ArrayList" "java/lang/Object") ∈ lw_tbl := lw_at lw_m11 61 rfl
theorem in_J2 : ∀ w ∈ wsJ20, w ∈ lw_all := lw_in wsJ20 [212, 208, 210] (by decide +kernel) (by decide +kernel)

/-! java/lang/Enum -/
set_option maxRecDepth 100000
def RJ3 : String := "java/lang/Enum"
abbrev cJ3_ordinal : ByteArray := prog_31_method_2_code
def yJ3_ordinal : MethodName := ⟨RJ3, "ordinal", "()I"⟩
theorem dJ3_ordinal_0 : decode cJ3_ordinal 0 = .ok (.aload_n 0, 1) := by decide +kernel
theorem dJ3_ordinal_1 : decode cJ3_ordinal 1 = .ok (.getfield 7, 3) := by decide +kernel
theorem dJ3_ordinal_4 : decode cJ3_ordinal 4 = .ok (.ireturn, 1) := by decide +kernel
theorem q106 : (Jvm.Cond.initialized "java/lang/Enum") ∈ lw_all := lw_g (lw_at lw_m1 9 rfl) rfl
theorem q1325 : (Jvm.Cond.declares ({ cls := "java/lang/Enum", name := "ordinal", desc := "()I" } : Jvm.MethodName)) ∈ lw_tbl := lw_at lw_m6 28 rfl
theorem q1327 : (Jvm.Cond.instanceMethod ({ cls := "java/lang/Enum", name := "ordinal", desc := "()I" } : Jvm.MethodName)) ∈ lw_all := lw_g (lw_at lw_m6 30 rfl) rfl
theorem q1328 : (Jvm.Cond.code ({ cls := "java/lang/Enum", name := "ordinal", desc := "()I" } : Jvm.MethodName) prog_31_method_2_code (1 : Nat) (Option.some Jvm.ClassFile.FieldType.int)) ∈ lw_all := lw_g (lw_at lw_m6 31 rfl) rfl
theorem q2595 : (Jvm.Cond.fieldLink "java/lang/Enum" (7 : Nat) "java/lang/Enum" "ordinal" "I") ∈ lw_all := lw_g (lw_at lw_m11 98 rfl) rfl

/-! java/lang/AbstractStringBuilder -/
set_option maxRecDepth 100000
def RJ4 : String := "java/lang/AbstractStringBuilder"
abbrev cJ4_init : ByteArray := prog_25_method_2_code
def yJ4_init : MethodName := ⟨RJ4, "<init>", "(I)V"⟩
def dkwJ4_init_1 : List UInt8 := [167, 0, 16, 42, 27, 184, 0, 26, 181, 0, 15, 42, 4, 181, 0, 22, 177]
abbrev dktJ4_init_1 : List UInt8 := dkwJ4_init_1 ++ []
def dkwJ4_init_0 : List UInt8 := [42, 183, 0, 3, 178, 0, 18, 153, 0, 18, 42, 27, 188, 8, 181, 0, 15, 42, 3, 181, 0, 22]
abbrev dktJ4_init_0 : List UInt8 := dkwJ4_init_0 ++ dktJ4_init_1
theorem dksJ4_init_0 : cJ4_init.data.toList.drop 0 = dktJ4_init_0 := by decide +kernel
theorem dksJ4_init_1 : cJ4_init.data.toList.drop 22 = dktJ4_init_1 := dk_seg dksJ4_init_0 22 rfl rfl
theorem dJ4_init_0 : decode cJ4_init 0 = .ok (.aload_n 0, 1) := dk_42 (dk_at dksJ4_init_0 0 rfl rfl)
theorem dJ4_init_1 : decode cJ4_init 1 = .ok (.invokespecial 3, 3) := dk_183 0 3 (dk_at dksJ4_init_0 1 rfl rfl)
theorem dJ4_init_4 : decode cJ4_init 4 = .ok (.getstatic 18, 3) := dk_178 0 18 (dk_at dksJ4_init_0 4 rfl rfl)
theorem dJ4_init_7 : decode cJ4_init 7 = .ok (.ifCond .eq 18, 3) := dk_153 0 18 (dk_at dksJ4_init_0 7 rfl rfl)
theorem dJ4_init_10 : decode cJ4_init 10 = .ok (.aload_n 0, 1) := dk_42 (dk_at dksJ4_init_0 10 rfl rfl)
theorem dJ4_init_11 : decode cJ4_init 11 = .ok (.iload_n 1, 1) := dk_27 (dk_at dksJ4_init_0 11 rfl rfl)
theorem dJ4_init_12 : decode cJ4_init 12 = .ok (.newarray .byte, 2) := dk_188_8 (dk_at dksJ4_init_0 12 rfl rfl)
theorem dJ4_init_14 : decode cJ4_init 14 = .ok (.putfield 15, 3) := dk_181 0 15 (dk_at dksJ4_init_0 14 rfl rfl)
theorem dJ4_init_17 : decode cJ4_init 17 = .ok (.aload_n 0, 1) := dk_42 (dk_at dksJ4_init_0 17 rfl rfl)
theorem dJ4_init_18 : decode cJ4_init 18 = .ok (.iconst 0, 1) := dk_3 (dk_at dksJ4_init_0 18 rfl rfl)
theorem dJ4_init_19 : decode cJ4_init 19 = .ok (.putfield 22, 3) := dk_181 0 22 (dk_at dksJ4_init_0 19 rfl rfl)
theorem dJ4_init_22 : decode cJ4_init 22 = .ok (.goto 16, 3) := dk_167 0 16 (dk_at dksJ4_init_1 0 rfl rfl)
theorem dJ4_init_25 : decode cJ4_init 25 = .ok (.aload_n 0, 1) := dk_42 (dk_at dksJ4_init_1 3 rfl rfl)
theorem dJ4_init_26 : decode cJ4_init 26 = .ok (.iload_n 1, 1) := dk_27 (dk_at dksJ4_init_1 4 rfl rfl)
theorem dJ4_init_27 : decode cJ4_init 27 = .ok (.invokestatic 26, 3) := dk_184 0 26 (dk_at dksJ4_init_1 5 rfl rfl)
theorem dJ4_init_30 : decode cJ4_init 30 = .ok (.putfield 15, 3) := dk_181 0 15 (dk_at dksJ4_init_1 8 rfl rfl)
theorem dJ4_init_33 : decode cJ4_init 33 = .ok (.aload_n 0, 1) := dk_42 (dk_at dksJ4_init_1 11 rfl rfl)
theorem dJ4_init_34 : decode cJ4_init 34 = .ok (.iconst 1, 1) := dk_4 (dk_at dksJ4_init_1 12 rfl rfl)
theorem dJ4_init_35 : decode cJ4_init 35 = .ok (.putfield 22, 3) := dk_181 0 22 (dk_at dksJ4_init_1 13 rfl rfl)
theorem dJ4_init_38 : decode cJ4_init 38 = .ok (.return_, 1) := dk_177 (dk_at dksJ4_init_1 16 rfl rfl)
abbrev cJ4_append : ByteArray := prog_25_method_31_code
def yJ4_append : MethodName := ⟨RJ4, "append", "(C)Ljava/lang/AbstractStringBuilder;"⟩
def dkwJ4_append_3 : List UInt8 := [181, 0, 79, 27, 184, 0, 197, 42, 176]
abbrev dktJ4_append_3 : List UInt8 := dkwJ4_append_3 ++ []
def dkwJ4_append_2 : List UInt8 := [182, 0, 83, 153, 0, 7, 42, 182, 0, 195, 42, 180, 0, 15, 42, 89, 180, 0, 79, 90, 4, 96]
abbrev dktJ4_append_2 : List UInt8 := dkwJ4_append_2 ++ dktJ4_append_3
def dkwJ4_append_1 : List UInt8 := [42, 180, 0, 15, 42, 89, 180, 0, 79, 90, 4, 96, 181, 0, 79, 27, 145, 84, 167, 0, 33, 42]
abbrev dktJ4_append_1 : List UInt8 := dkwJ4_append_1 ++ dktJ4_append_2
def dkwJ4_append_0 : List UInt8 := [42, 42, 180, 0, 79, 4, 96, 182, 0, 100, 42, 182, 0, 83, 153, 0, 31, 27, 184, 0, 191, 153, 0, 24]
abbrev dktJ4_append_0 : List UInt8 := dkwJ4_append_0 ++ dktJ4_append_1
theorem dksJ4_append_0 : cJ4_append.data.toList.drop 0 = dktJ4_append_0 := by decide +kernel
theorem dksJ4_append_1 : cJ4_append.data.toList.drop 24 = dktJ4_append_1 := dk_seg dksJ4_append_0 24 rfl rfl
theorem dksJ4_append_2 : cJ4_append.data.toList.drop 46 = dktJ4_append_2 := dk_seg dksJ4_append_1 22 rfl rfl
theorem dksJ4_append_3 : cJ4_append.data.toList.drop 68 = dktJ4_append_3 := dk_seg dksJ4_append_2 22 rfl rfl
theorem dJ4_append_0 : decode cJ4_append 0 = .ok (.aload_n 0, 1) := dk_42 (dk_at dksJ4_append_0 0 rfl rfl)
theorem dJ4_append_1 : decode cJ4_append 1 = .ok (.aload_n 0, 1) := dk_42 (dk_at dksJ4_append_0 1 rfl rfl)
theorem dJ4_append_2 : decode cJ4_append 2 = .ok (.getfield 79, 3) := dk_180 0 79 (dk_at dksJ4_append_0 2 rfl rfl)
theorem dJ4_append_5 : decode cJ4_append 5 = .ok (.iconst 1, 1) := dk_4 (dk_at dksJ4_append_0 5 rfl rfl)
theorem dJ4_append_6 : decode cJ4_append 6 = .ok (.iadd, 1) := dk_96 (dk_at dksJ4_append_0 6 rfl rfl)
theorem dJ4_append_7 : decode cJ4_append 7 = .ok (.invokevirtual 100, 3) := dk_182 0 100 (dk_at dksJ4_append_0 7 rfl rfl)
theorem dJ4_append_10 : decode cJ4_append 10 = .ok (.aload_n 0, 1) := dk_42 (dk_at dksJ4_append_0 10 rfl rfl)
theorem dJ4_append_11 : decode cJ4_append 11 = .ok (.invokevirtual 83, 3) := dk_182 0 83 (dk_at dksJ4_append_0 11 rfl rfl)
theorem dJ4_append_14 : decode cJ4_append 14 = .ok (.ifCond .eq 31, 3) := dk_153 0 31 (dk_at dksJ4_append_0 14 rfl rfl)
theorem dJ4_append_17 : decode cJ4_append 17 = .ok (.iload_n 1, 1) := dk_27 (dk_at dksJ4_append_0 17 rfl rfl)
theorem dJ4_append_18 : decode cJ4_append 18 = .ok (.invokestatic 191, 3) := dk_184 0 191 (dk_at dksJ4_append_0 18 rfl rfl)
theorem dJ4_append_21 : decode cJ4_append 21 = .ok (.ifCond .eq 24, 3) := dk_153 0 24 (dk_at dksJ4_append_0 21 rfl rfl)
theorem dJ4_append_24 : decode cJ4_append 24 = .ok (.aload_n 0, 1) := dk_42 (dk_at dksJ4_append_1 0 rfl rfl)
theorem dJ4_append_25 : decode cJ4_append 25 = .ok (.getfield 15, 3) := dk_180 0 15 (dk_at dksJ4_append_1 1 rfl rfl)
theorem dJ4_append_28 : decode cJ4_append 28 = .ok (.aload_n 0, 1) := dk_42 (dk_at dksJ4_append_1 4 rfl rfl)
theorem dJ4_append_29 : decode cJ4_append 29 = .ok (.dup, 1) := dk_89 (dk_at dksJ4_append_1 5 rfl rfl)
theorem dJ4_append_30 : decode cJ4_append 30 = .ok (.getfield 79, 3) := dk_180 0 79 (dk_at dksJ4_append_1 6 rfl rfl)
theorem dJ4_append_33 : decode cJ4_append 33 = .ok (.dup_x1, 1) := dk_90 (dk_at dksJ4_append_1 9 rfl rfl)
theorem dJ4_append_34 : decode cJ4_append 34 = .ok (.iconst 1, 1) := dk_4 (dk_at dksJ4_append_1 10 rfl rfl)
theorem dJ4_append_35 : decode cJ4_append 35 = .ok (.iadd, 1) := dk_96 (dk_at dksJ4_append_1 11 rfl rfl)
theorem dJ4_append_36 : decode cJ4_append 36 = .ok (.putfield 79, 3) := dk_181 0 79 (dk_at dksJ4_append_1 12 rfl rfl)
theorem dJ4_append_39 : decode cJ4_append 39 = .ok (.iload_n 1, 1) := dk_27 (dk_at dksJ4_append_1 15 rfl rfl)
theorem dJ4_append_40 : decode cJ4_append 40 = .ok (.i2b, 1) := dk_145 (dk_at dksJ4_append_1 16 rfl rfl)
theorem dJ4_append_41 : decode cJ4_append 41 = .ok (.bastore, 1) := dk_84 (dk_at dksJ4_append_1 17 rfl rfl)
theorem dJ4_append_42 : decode cJ4_append 42 = .ok (.goto 33, 3) := dk_167 0 33 (dk_at dksJ4_append_1 18 rfl rfl)
theorem dJ4_append_45 : decode cJ4_append 45 = .ok (.aload_n 0, 1) := dk_42 (dk_at dksJ4_append_1 21 rfl rfl)
theorem dJ4_append_46 : decode cJ4_append 46 = .ok (.invokevirtual 83, 3) := dk_182 0 83 (dk_at dksJ4_append_2 0 rfl rfl)
theorem dJ4_append_49 : decode cJ4_append 49 = .ok (.ifCond .eq 7, 3) := dk_153 0 7 (dk_at dksJ4_append_2 3 rfl rfl)
theorem dJ4_append_52 : decode cJ4_append 52 = .ok (.aload_n 0, 1) := dk_42 (dk_at dksJ4_append_2 6 rfl rfl)
theorem dJ4_append_53 : decode cJ4_append 53 = .ok (.invokevirtual 195, 3) := dk_182 0 195 (dk_at dksJ4_append_2 7 rfl rfl)
theorem dJ4_append_56 : decode cJ4_append 56 = .ok (.aload_n 0, 1) := dk_42 (dk_at dksJ4_append_2 10 rfl rfl)
theorem dJ4_append_57 : decode cJ4_append 57 = .ok (.getfield 15, 3) := dk_180 0 15 (dk_at dksJ4_append_2 11 rfl rfl)
theorem dJ4_append_60 : decode cJ4_append 60 = .ok (.aload_n 0, 1) := dk_42 (dk_at dksJ4_append_2 14 rfl rfl)
theorem dJ4_append_61 : decode cJ4_append 61 = .ok (.dup, 1) := dk_89 (dk_at dksJ4_append_2 15 rfl rfl)
theorem dJ4_append_62 : decode cJ4_append 62 = .ok (.getfield 79, 3) := dk_180 0 79 (dk_at dksJ4_append_2 16 rfl rfl)
theorem dJ4_append_65 : decode cJ4_append 65 = .ok (.dup_x1, 1) := dk_90 (dk_at dksJ4_append_2 19 rfl rfl)
theorem dJ4_append_66 : decode cJ4_append 66 = .ok (.iconst 1, 1) := dk_4 (dk_at dksJ4_append_2 20 rfl rfl)
theorem dJ4_append_67 : decode cJ4_append 67 = .ok (.iadd, 1) := dk_96 (dk_at dksJ4_append_2 21 rfl rfl)
theorem dJ4_append_68 : decode cJ4_append 68 = .ok (.putfield 79, 3) := dk_181 0 79 (dk_at dksJ4_append_3 0 rfl rfl)
theorem dJ4_append_71 : decode cJ4_append 71 = .ok (.iload_n 1, 1) := dk_27 (dk_at dksJ4_append_3 3 rfl rfl)
theorem dJ4_append_72 : decode cJ4_append 72 = .ok (.invokestatic 197, 3) := dk_184 0 197 (dk_at dksJ4_append_3 4 rfl rfl)
theorem dJ4_append_75 : decode cJ4_append 75 = .ok (.aload_n 0, 1) := dk_42 (dk_at dksJ4_append_3 7 rfl rfl)
theorem dJ4_append_76 : decode cJ4_append 76 = .ok (.areturn, 1) := dk_176 (dk_at dksJ4_append_3 8 rfl rfl)
abbrev cJ4_ensureCapacityInternal : ByteArray := prog_25_method_9_code
def yJ4_ensureCapacityInternal : MethodName := ⟨RJ4, "ensureCapacityInternal", "(I)V"⟩
def dkwJ4_ensureCapacityInternal_1 : List UInt8 := [182, 0, 104, 42, 180, 0, 22, 120, 184, 0, 108, 181, 0, 15, 177]
abbrev dktJ4_ensureCapacityInternal_1 : List UInt8 := dkwJ4_ensureCapacityInternal_1 ++ []
def dkwJ4_ensureCapacityInternal_0 : List UInt8 := [42, 180, 0, 15, 190, 42, 180, 0, 22, 122, 61, 27, 28, 100, 158, 0, 24, 42, 42, 180, 0, 15, 42, 27]
abbrev dktJ4_ensureCapacityInternal_0 : List UInt8 := dkwJ4_ensureCapacityInternal_0 ++ dktJ4_ensureCapacityInternal_1
theorem dksJ4_ensureCapacityInternal_0 : cJ4_ensureCapacityInternal.data.toList.drop 0 = dktJ4_ensureCapacityInternal_0 := by decide +kernel
theorem dksJ4_ensureCapacityInternal_1 : cJ4_ensureCapacityInternal.data.toList.drop 24 = dktJ4_ensureCapacityInternal_1 := dk_seg dksJ4_ensureCapacityInternal_0 24 rfl rfl
theorem dJ4_ensureCapacityInternal_0 : decode cJ4_ensureCapacityInternal 0 = .ok (.aload_n 0, 1) := dk_42 (dk_at dksJ4_ensureCapacityInternal_0 0 rfl rfl)
theorem dJ4_ensureCapacityInternal_1 : decode cJ4_ensureCapacityInternal 1 = .ok (.getfield 15, 3) := dk_180 0 15 (dk_at dksJ4_ensureCapacityInternal_0 1 rfl rfl)
theorem dJ4_ensureCapacityInternal_4 : decode cJ4_ensureCapacityInternal 4 = .ok (.arraylength, 1) := dk_190 (dk_at dksJ4_ensureCapacityInternal_0 4 rfl rfl)
theorem dJ4_ensureCapacityInternal_5 : decode cJ4_ensureCapacityInternal 5 = .ok (.aload_n 0, 1) := dk_42 (dk_at dksJ4_ensureCapacityInternal_0 5 rfl rfl)
theorem dJ4_ensureCapacityInternal_6 : decode cJ4_ensureCapacityInternal 6 = .ok (.getfield 22, 3) := dk_180 0 22 (dk_at dksJ4_ensureCapacityInternal_0 6 rfl rfl)
theorem dJ4_ensureCapacityInternal_9 : decode cJ4_ensureCapacityInternal 9 = .ok (.ishr, 1) := dk_122 (dk_at dksJ4_ensureCapacityInternal_0 9 rfl rfl)
theorem dJ4_ensureCapacityInternal_10 : decode cJ4_ensureCapacityInternal 10 = .ok (.istore_n 2, 1) := dk_61 (dk_at dksJ4_ensureCapacityInternal_0 10 rfl rfl)
theorem dJ4_ensureCapacityInternal_11 : decode cJ4_ensureCapacityInternal 11 = .ok (.iload_n 1, 1) := dk_27 (dk_at dksJ4_ensureCapacityInternal_0 11 rfl rfl)
theorem dJ4_ensureCapacityInternal_12 : decode cJ4_ensureCapacityInternal 12 = .ok (.iload_n 2, 1) := dk_28 (dk_at dksJ4_ensureCapacityInternal_0 12 rfl rfl)
theorem dJ4_ensureCapacityInternal_13 : decode cJ4_ensureCapacityInternal 13 = .ok (.isub, 1) := dk_100 (dk_at dksJ4_ensureCapacityInternal_0 13 rfl rfl)
theorem dJ4_ensureCapacityInternal_14 : decode cJ4_ensureCapacityInternal 14 = .ok (.ifCond .le 24, 3) := dk_158 0 24 (dk_at dksJ4_ensureCapacityInternal_0 14 rfl rfl)
theorem dJ4_ensureCapacityInternal_17 : decode cJ4_ensureCapacityInternal 17 = .ok (.aload_n 0, 1) := dk_42 (dk_at dksJ4_ensureCapacityInternal_0 17 rfl rfl)
theorem dJ4_ensureCapacityInternal_18 : decode cJ4_ensureCapacityInternal 18 = .ok (.aload_n 0, 1) := dk_42 (dk_at dksJ4_ensureCapacityInternal_0 18 rfl rfl)
theorem dJ4_ensureCapacityInternal_19 : decode cJ4_ensureCapacityInternal 19 = .ok (.getfield 15, 3) := dk_180 0 15 (dk_at dksJ4_ensureCapacityInternal_0 19 rfl rfl)
theorem dJ4_ensureCapacityInternal_22 : decode cJ4_ensureCapacityInternal 22 = .ok (.aload_n 0, 1) := dk_42 (dk_at dksJ4_ensureCapacityInternal_0 22 rfl rfl)
theorem dJ4_ensureCapacityInternal_23 : decode cJ4_ensureCapacityInternal 23 = .ok (.iload_n 1, 1) := dk_27 (dk_at dksJ4_ensureCapacityInternal_0 23 rfl rfl)
theorem dJ4_ensureCapacityInternal_24 : decode cJ4_ensureCapacityInternal 24 = .ok (.invokevirtual 104, 3) := dk_182 0 104 (dk_at dksJ4_ensureCapacityInternal_1 0 rfl rfl)
theorem dJ4_ensureCapacityInternal_27 : decode cJ4_ensureCapacityInternal 27 = .ok (.aload_n 0, 1) := dk_42 (dk_at dksJ4_ensureCapacityInternal_1 3 rfl rfl)
theorem dJ4_ensureCapacityInternal_28 : decode cJ4_ensureCapacityInternal 28 = .ok (.getfield 22, 3) := dk_180 0 22 (dk_at dksJ4_ensureCapacityInternal_1 4 rfl rfl)
theorem dJ4_ensureCapacityInternal_31 : decode cJ4_ensureCapacityInternal 31 = .ok (.ishl, 1) := dk_120 (dk_at dksJ4_ensureCapacityInternal_1 7 rfl rfl)
theorem dJ4_ensureCapacityInternal_32 : decode cJ4_ensureCapacityInternal 32 = .ok (.invokestatic 108, 3) := dk_184 0 108 (dk_at dksJ4_ensureCapacityInternal_1 8 rfl rfl)
theorem dJ4_ensureCapacityInternal_35 : decode cJ4_ensureCapacityInternal 35 = .ok (.putfield 15, 3) := dk_181 0 15 (dk_at dksJ4_ensureCapacityInternal_1 11 rfl rfl)
theorem dJ4_ensureCapacityInternal_38 : decode cJ4_ensureCapacityInternal 38 = .ok (.return_, 1) := dk_177 (dk_at dksJ4_ensureCapacityInternal_1 14 rfl rfl)
abbrev cJ4_newCapacity : ByteArray := prog_25_method_10_code
def yJ4_newCapacity : MethodName := ⟨RJ4, "newCapacity", "(I)I"⟩
def dkwJ4_newCapacity_2 : List UInt8 := [183, 0, 124, 191, 21, 5, 42, 180, 0, 22, 122, 172]
abbrev dktJ4_newCapacity_2 : List UInt8 := dkwJ4_newCapacity_2 ++ []
def dkwJ4_newCapacity_1 : List UInt8 := [180, 0, 22, 120, 96, 184, 0, 114, 54, 5, 21, 5, 18, 39, 160, 0, 13, 187, 0, 120, 89, 18, 122]
abbrev dktJ4_newCapacity_1 : List UInt8 := dkwJ4_newCapacity_1 ++ dktJ4_newCapacity_2
def dkwJ4_newCapacity_0 : List UInt8 := [42, 180, 0, 15, 190, 61, 27, 42, 180, 0, 22, 120, 62, 29, 28, 100, 54, 4, 28, 21, 4, 28, 5, 42]
abbrev dktJ4_newCapacity_0 : List UInt8 := dkwJ4_newCapacity_0 ++ dktJ4_newCapacity_1
theorem dksJ4_newCapacity_0 : cJ4_newCapacity.data.toList.drop 0 = dktJ4_newCapacity_0 := by decide +kernel
theorem dksJ4_newCapacity_1 : cJ4_newCapacity.data.toList.drop 24 = dktJ4_newCapacity_1 := dk_seg dksJ4_newCapacity_0 24 rfl rfl
theorem dksJ4_newCapacity_2 : cJ4_newCapacity.data.toList.drop 47 = dktJ4_newCapacity_2 := dk_seg dksJ4_newCapacity_1 23 rfl rfl
theorem dJ4_newCapacity_0 : decode cJ4_newCapacity 0 = .ok (.aload_n 0, 1) := dk_42 (dk_at dksJ4_newCapacity_0 0 rfl rfl)
theorem dJ4_newCapacity_1 : decode cJ4_newCapacity 1 = .ok (.getfield 15, 3) := dk_180 0 15 (dk_at dksJ4_newCapacity_0 1 rfl rfl)
theorem dJ4_newCapacity_4 : decode cJ4_newCapacity 4 = .ok (.arraylength, 1) := dk_190 (dk_at dksJ4_newCapacity_0 4 rfl rfl)
theorem dJ4_newCapacity_5 : decode cJ4_newCapacity 5 = .ok (.istore_n 2, 1) := dk_61 (dk_at dksJ4_newCapacity_0 5 rfl rfl)
theorem dJ4_newCapacity_6 : decode cJ4_newCapacity 6 = .ok (.iload_n 1, 1) := dk_27 (dk_at dksJ4_newCapacity_0 6 rfl rfl)
theorem dJ4_newCapacity_7 : decode cJ4_newCapacity 7 = .ok (.aload_n 0, 1) := dk_42 (dk_at dksJ4_newCapacity_0 7 rfl rfl)
theorem dJ4_newCapacity_8 : decode cJ4_newCapacity 8 = .ok (.getfield 22, 3) := dk_180 0 22 (dk_at dksJ4_newCapacity_0 8 rfl rfl)
theorem dJ4_newCapacity_11 : decode cJ4_newCapacity 11 = .ok (.ishl, 1) := dk_120 (dk_at dksJ4_newCapacity_0 11 rfl rfl)
theorem dJ4_newCapacity_12 : decode cJ4_newCapacity 12 = .ok (.istore_n 3, 1) := dk_62 (dk_at dksJ4_newCapacity_0 12 rfl rfl)
theorem dJ4_newCapacity_13 : decode cJ4_newCapacity 13 = .ok (.iload_n 3, 1) := dk_29 (dk_at dksJ4_newCapacity_0 13 rfl rfl)
theorem dJ4_newCapacity_14 : decode cJ4_newCapacity 14 = .ok (.iload_n 2, 1) := dk_28 (dk_at dksJ4_newCapacity_0 14 rfl rfl)
theorem dJ4_newCapacity_15 : decode cJ4_newCapacity 15 = .ok (.isub, 1) := dk_100 (dk_at dksJ4_newCapacity_0 15 rfl rfl)
theorem dJ4_newCapacity_16 : decode cJ4_newCapacity 16 = .ok (.istore 4, 2) := dk_54 4 (dk_at dksJ4_newCapacity_0 16 rfl rfl)
theorem dJ4_newCapacity_18 : decode cJ4_newCapacity 18 = .ok (.iload_n 2, 1) := dk_28 (dk_at dksJ4_newCapacity_0 18 rfl rfl)
theorem dJ4_newCapacity_19 : decode cJ4_newCapacity 19 = .ok (.iload 4, 2) := dk_21 4 (dk_at dksJ4_newCapacity_0 19 rfl rfl)
theorem dJ4_newCapacity_21 : decode cJ4_newCapacity 21 = .ok (.iload_n 2, 1) := dk_28 (dk_at dksJ4_newCapacity_0 21 rfl rfl)
theorem dJ4_newCapacity_22 : decode cJ4_newCapacity 22 = .ok (.iconst 2, 1) := dk_5 (dk_at dksJ4_newCapacity_0 22 rfl rfl)
theorem dJ4_newCapacity_23 : decode cJ4_newCapacity 23 = .ok (.aload_n 0, 1) := dk_42 (dk_at dksJ4_newCapacity_0 23 rfl rfl)
theorem dJ4_newCapacity_24 : decode cJ4_newCapacity 24 = .ok (.getfield 22, 3) := dk_180 0 22 (dk_at dksJ4_newCapacity_1 0 rfl rfl)
theorem dJ4_newCapacity_27 : decode cJ4_newCapacity 27 = .ok (.ishl, 1) := dk_120 (dk_at dksJ4_newCapacity_1 3 rfl rfl)
theorem dJ4_newCapacity_28 : decode cJ4_newCapacity 28 = .ok (.iadd, 1) := dk_96 (dk_at dksJ4_newCapacity_1 4 rfl rfl)
theorem dJ4_newCapacity_29 : decode cJ4_newCapacity 29 = .ok (.invokestatic 114, 3) := dk_184 0 114 (dk_at dksJ4_newCapacity_1 5 rfl rfl)
theorem dJ4_newCapacity_32 : decode cJ4_newCapacity 32 = .ok (.istore 5, 2) := dk_54 5 (dk_at dksJ4_newCapacity_1 8 rfl rfl)
theorem dJ4_newCapacity_34 : decode cJ4_newCapacity 34 = .ok (.iload 5, 2) := dk_21 5 (dk_at dksJ4_newCapacity_1 10 rfl rfl)
theorem dJ4_newCapacity_36 : decode cJ4_newCapacity 36 = .ok (.ldc 39, 2) := dk_18 39 (dk_at dksJ4_newCapacity_1 12 rfl rfl)
theorem dJ4_newCapacity_38 : decode cJ4_newCapacity 38 = .ok (.if_icmp .ne 13, 3) := dk_160 0 13 (dk_at dksJ4_newCapacity_1 14 rfl rfl)
theorem dJ4_newCapacity_41 : decode cJ4_newCapacity 41 = .ok (.new 120, 3) := dk_187 0 120 (dk_at dksJ4_newCapacity_1 17 rfl rfl)
theorem dJ4_newCapacity_44 : decode cJ4_newCapacity 44 = .ok (.dup, 1) := dk_89 (dk_at dksJ4_newCapacity_1 20 rfl rfl)
theorem dJ4_newCapacity_45 : decode cJ4_newCapacity 45 = .ok (.ldc 122, 2) := dk_18 122 (dk_at dksJ4_newCapacity_1 21 rfl rfl)
theorem dJ4_newCapacity_47 : decode cJ4_newCapacity 47 = .ok (.invokespecial 124, 3) := dk_183 0 124 (dk_at dksJ4_newCapacity_2 0 rfl rfl)
theorem dJ4_newCapacity_50 : decode cJ4_newCapacity 50 = .ok (.athrow, 1) := dk_191 (dk_at dksJ4_newCapacity_2 3 rfl rfl)
theorem dJ4_newCapacity_51 : decode cJ4_newCapacity 51 = .ok (.iload 5, 2) := dk_21 5 (dk_at dksJ4_newCapacity_2 4 rfl rfl)
theorem dJ4_newCapacity_53 : decode cJ4_newCapacity 53 = .ok (.aload_n 0, 1) := dk_42 (dk_at dksJ4_newCapacity_2 6 rfl rfl)
theorem dJ4_newCapacity_54 : decode cJ4_newCapacity 54 = .ok (.getfield 22, 3) := dk_180 0 22 (dk_at dksJ4_newCapacity_2 7 rfl rfl)
theorem dJ4_newCapacity_57 : decode cJ4_newCapacity 57 = .ok (.ishr, 1) := dk_122 (dk_at dksJ4_newCapacity_2 10 rfl rfl)
theorem dJ4_newCapacity_58 : decode cJ4_newCapacity 58 = .ok (.ireturn, 1) := dk_172 (dk_at dksJ4_newCapacity_2 11 rfl rfl)
abbrev cJ4_isLatin1 : ByteArray := prog_25_method_68_code
def yJ4_isLatin1 : MethodName := ⟨RJ4, "isLatin1", "()Z"⟩
def dkwJ4_isLatin1_0 : List UInt8 := [178, 0, 18, 153, 0, 14, 42, 180, 0, 22, 154, 0, 7, 4, 167, 0, 4, 3, 172]
abbrev dktJ4_isLatin1_0 : List UInt8 := dkwJ4_isLatin1_0 ++ []
theorem dksJ4_isLatin1_0 : cJ4_isLatin1.data.toList.drop 0 = dktJ4_isLatin1_0 := by decide +kernel
theorem dJ4_isLatin1_0 : decode cJ4_isLatin1 0 = .ok (.getstatic 18, 3) := dk_178 0 18 (dk_at dksJ4_isLatin1_0 0 rfl rfl)
theorem dJ4_isLatin1_3 : decode cJ4_isLatin1 3 = .ok (.ifCond .eq 14, 3) := dk_153 0 14 (dk_at dksJ4_isLatin1_0 3 rfl rfl)
theorem dJ4_isLatin1_6 : decode cJ4_isLatin1 6 = .ok (.aload_n 0, 1) := dk_42 (dk_at dksJ4_isLatin1_0 6 rfl rfl)
theorem dJ4_isLatin1_7 : decode cJ4_isLatin1 7 = .ok (.getfield 22, 3) := dk_180 0 22 (dk_at dksJ4_isLatin1_0 7 rfl rfl)
theorem dJ4_isLatin1_10 : decode cJ4_isLatin1 10 = .ok (.ifCond .ne 7, 3) := dk_154 0 7 (dk_at dksJ4_isLatin1_0 10 rfl rfl)
theorem dJ4_isLatin1_13 : decode cJ4_isLatin1 13 = .ok (.iconst 1, 1) := dk_4 (dk_at dksJ4_isLatin1_0 13 rfl rfl)
theorem dJ4_isLatin1_14 : decode cJ4_isLatin1 14 = .ok (.goto 4, 3) := dk_167 0 4 (dk_at dksJ4_isLatin1_0 14 rfl rfl)
theorem dJ4_isLatin1_17 : decode cJ4_isLatin1 17 = .ok (.iconst 0, 1) := dk_3 (dk_at dksJ4_isLatin1_0 17 rfl rfl)
theorem dJ4_isLatin1_18 : decode cJ4_isLatin1 18 = .ok (.ireturn, 1) := dk_172 (dk_at dksJ4_isLatin1_0 18 rfl rfl)
abbrev cJ4_inflate : ByteArray := prog_25_method_11_code
def yJ4_inflate : MethodName := ⟨RJ4, "inflate", "()V"⟩
def dkwJ4_inflate_1 : List UInt8 := [42, 180, 0, 79, 184, 0, 125, 42, 43, 181, 0, 15, 42, 4, 181, 0, 22, 177]
abbrev dktJ4_inflate_1 : List UInt8 := dkwJ4_inflate_1 ++ []
def dkwJ4_inflate_0 : List UInt8 := [42, 182, 0, 83, 154, 0, 4, 177, 42, 180, 0, 15, 190, 184, 0, 26, 76, 42, 180, 0, 15, 3, 43, 3]
abbrev dktJ4_inflate_0 : List UInt8 := dkwJ4_inflate_0 ++ dktJ4_inflate_1
theorem dksJ4_inflate_0 : cJ4_inflate.data.toList.drop 0 = dktJ4_inflate_0 := by decide +kernel
theorem dksJ4_inflate_1 : cJ4_inflate.data.toList.drop 24 = dktJ4_inflate_1 := dk_seg dksJ4_inflate_0 24 rfl rfl
theorem dJ4_inflate_0 : decode cJ4_inflate 0 = .ok (.aload_n 0, 1) := dk_42 (dk_at dksJ4_inflate_0 0 rfl rfl)
theorem dJ4_inflate_1 : decode cJ4_inflate 1 = .ok (.invokevirtual 83, 3) := dk_182 0 83 (dk_at dksJ4_inflate_0 1 rfl rfl)
theorem dJ4_inflate_4 : decode cJ4_inflate 4 = .ok (.ifCond .ne 4, 3) := dk_154 0 4 (dk_at dksJ4_inflate_0 4 rfl rfl)
theorem dJ4_inflate_7 : decode cJ4_inflate 7 = .ok (.return_, 1) := dk_177 (dk_at dksJ4_inflate_0 7 rfl rfl)
theorem dJ4_inflate_8 : decode cJ4_inflate 8 = .ok (.aload_n 0, 1) := dk_42 (dk_at dksJ4_inflate_0 8 rfl rfl)
theorem dJ4_inflate_9 : decode cJ4_inflate 9 = .ok (.getfield 15, 3) := dk_180 0 15 (dk_at dksJ4_inflate_0 9 rfl rfl)
theorem dJ4_inflate_12 : decode cJ4_inflate 12 = .ok (.arraylength, 1) := dk_190 (dk_at dksJ4_inflate_0 12 rfl rfl)
theorem dJ4_inflate_13 : decode cJ4_inflate 13 = .ok (.invokestatic 26, 3) := dk_184 0 26 (dk_at dksJ4_inflate_0 13 rfl rfl)
theorem dJ4_inflate_16 : decode cJ4_inflate 16 = .ok (.astore_n 1, 1) := dk_76 (dk_at dksJ4_inflate_0 16 rfl rfl)
theorem dJ4_inflate_17 : decode cJ4_inflate 17 = .ok (.aload_n 0, 1) := dk_42 (dk_at dksJ4_inflate_0 17 rfl rfl)
theorem dJ4_inflate_18 : decode cJ4_inflate 18 = .ok (.getfield 15, 3) := dk_180 0 15 (dk_at dksJ4_inflate_0 18 rfl rfl)
theorem dJ4_inflate_21 : decode cJ4_inflate 21 = .ok (.iconst 0, 1) := dk_3 (dk_at dksJ4_inflate_0 21 rfl rfl)
theorem dJ4_inflate_22 : decode cJ4_inflate 22 = .ok (.aload_n 1, 1) := dk_43 (dk_at dksJ4_inflate_0 22 rfl rfl)
theorem dJ4_inflate_23 : decode cJ4_inflate 23 = .ok (.iconst 0, 1) := dk_3 (dk_at dksJ4_inflate_0 23 rfl rfl)
theorem dJ4_inflate_24 : decode cJ4_inflate 24 = .ok (.aload_n 0, 1) := dk_42 (dk_at dksJ4_inflate_1 0 rfl rfl)
theorem dJ4_inflate_25 : decode cJ4_inflate 25 = .ok (.getfield 79, 3) := dk_180 0 79 (dk_at dksJ4_inflate_1 1 rfl rfl)
theorem dJ4_inflate_28 : decode cJ4_inflate 28 = .ok (.invokestatic 125, 3) := dk_184 0 125 (dk_at dksJ4_inflate_1 4 rfl rfl)
theorem dJ4_inflate_31 : decode cJ4_inflate 31 = .ok (.aload_n 0, 1) := dk_42 (dk_at dksJ4_inflate_1 7 rfl rfl)
theorem dJ4_inflate_32 : decode cJ4_inflate 32 = .ok (.aload_n 1, 1) := dk_43 (dk_at dksJ4_inflate_1 8 rfl rfl)
theorem dJ4_inflate_33 : decode cJ4_inflate 33 = .ok (.putfield 15, 3) := dk_181 0 15 (dk_at dksJ4_inflate_1 9 rfl rfl)
theorem dJ4_inflate_36 : decode cJ4_inflate 36 = .ok (.aload_n 0, 1) := dk_42 (dk_at dksJ4_inflate_1 12 rfl rfl)
theorem dJ4_inflate_37 : decode cJ4_inflate 37 = .ok (.iconst 1, 1) := dk_4 (dk_at dksJ4_inflate_1 13 rfl rfl)
theorem dJ4_inflate_38 : decode cJ4_inflate 38 = .ok (.putfield 22, 3) := dk_181 0 22 (dk_at dksJ4_inflate_1 14 rfl rfl)
theorem dJ4_inflate_41 : decode cJ4_inflate 41 = .ok (.return_, 1) := dk_177 (dk_at dksJ4_inflate_1 17 rfl rfl)
abbrev cJ4_getValue : ByteArray := prog_25_method_64_code
def yJ4_getValue : MethodName := ⟨RJ4, "getValue", "()[B"⟩
theorem dJ4_getValue_0 : decode cJ4_getValue 0 = .ok (.aload_n 0, 1) := by decide +kernel
theorem dJ4_getValue_1 : decode cJ4_getValue 1 = .ok (.getfield 15, 3) := by decide +kernel
theorem dJ4_getValue_4 : decode cJ4_getValue 4 = .ok (.areturn, 1) := by decide +kernel
abbrev cJ4_length : ByteArray := prog_25_method_6_code
def yJ4_length : MethodName := ⟨RJ4, "length", "()I"⟩
theorem dJ4_length_0 : decode cJ4_length 0 = .ok (.aload_n 0, 1) := by decide +kernel
theorem dJ4_length_1 : decode cJ4_length 1 = .ok (.getfield 79, 3) := by decide +kernel
theorem dJ4_length_4 : decode cJ4_length 4 = .ok (.ireturn, 1) := by decide +kernel
theorem q108 : (Jvm.Cond.initialized "java/lang/AbstractStringBuilder") ∈ lw_all := lw_g (lw_at lw_m1 11 rfl) rfl
theorem q364 : (Jvm.Cond.instanceMethod ({ cls := "java/lang/AbstractStringBuilder", name := "<init>", desc := "(I)V" } : Jvm.MethodName)) ∈ lw_all := lw_g (lw_at lw_m2 27 rfl) rfl
theorem q365 : (Jvm.Cond.code ({ cls := "java/lang/AbstractStringBuilder", name := "<init>", desc := "(I)V" } : Jvm.MethodName) prog_25_method_2_code (2 : Nat) (Option.none : Option Jvm.ClassFile.FieldType)) ∈ lw_all := lw_g (lw_at lw_m2 28 rfl) rfl
theorem q366 : (Jvm.Cond.methodLink "java/lang/AbstractStringBuilder" (3 : Nat) ({ cls := "java/lang/Object", name := "<init>", desc := "()V" } : Jvm.MethodName)) ∈ lw_all := lw_g (lw_at lw_m2 29 rfl) rfl
theorem q367 : (Jvm.Cond.fieldLink "java/lang/AbstractStringBuilder" (18 : Nat) "java/lang/String" "COMPACT_STRINGS" "Z") ∈ lw_all := lw_g (lw_at lw_m2 30 rfl) rfl
theorem q369 : (Jvm.Cond.methodLink "java/lang/AbstractStringBuilder" (26 : Nat) ({ cls := "java/lang/StringUTF16", name := "newBytesFor", desc := "(I)[B" } : Jvm.MethodName)) ∈ lw_all := lw_g (lw_at lw_m2 32 rfl) rfl
theorem q376 : (Jvm.Cond.fieldLink "java/lang/AbstractStringBuilder" (15 : Nat) "java/lang/AbstractStringBuilder" "value" "[B") ∈ lw_all := lw_g (lw_at lw_m2 39 rfl) rfl
theorem q377 : (Jvm.Cond.fieldLink "java/lang/AbstractStringBuilder" (22 : Nat) "java/lang/AbstractStringBuilder" "coder" "B") ∈ lw_all := lw_g (lw_at lw_m2 40 rfl) rfl
theorem q379 : (Jvm.Cond.fieldLink "java/lang/AbstractStringBuilder" (79 : Nat) "java/lang/AbstractStringBuilder" "count" "I") ∈ lw_all := lw_g (lw_at lw_m2 42 rfl) rfl
theorem q381 : (Jvm.Cond.soleField "java/lang/AbstractStringBuilder" "value") ∈ lw_all := lw_g (lw_at lw_m2 44 rfl) rfl
theorem q383 : (Jvm.Cond.soleField "java/lang/AbstractStringBuilder" "coder") ∈ lw_all := lw_g (lw_at lw_m2 46 rfl) rfl
theorem q385 : (Jvm.Cond.soleField "java/lang/AbstractStringBuilder" "maybeLatin1") ∈ lw_all := lw_g (lw_at lw_m2 48 rfl) rfl
theorem q387 : (Jvm.Cond.soleField "java/lang/AbstractStringBuilder" "count") ∈ lw_all := lw_g (lw_at lw_m2 50 rfl) rfl
theorem q394 : (Jvm.Cond.instanceMethod ({ cls := "java/lang/AbstractStringBuilder", name := "append", desc := "(C)Ljava/lang/AbstractStringBuilder;" } : Jvm.MethodName)) ∈ lw_all := lw_g (lw_at lw_m2 57 rfl) rfl
theorem q395 : (Jvm.Cond.code ({ cls := "java/lang/AbstractStringBuilder", name := "append", desc := "(C)Ljava/lang/AbstractStringBuilder;" } : Jvm.MethodName) prog_25_method_31_code (2 : Nat) (Option.some (Jvm.ClassFile.FieldType.object "java/lang/AbstractStringBuilder"))) ∈ lw_all := lw_g (lw_at lw_m2 58 rfl) rfl
theorem q396 : (Jvm.Cond.methodLink "java/lang/AbstractStringBuilder" (100 : Nat) ({ cls := "java/lang/AbstractStringBuilder", name := "ensureCapacityInternal", desc := "(I)V" } : Jvm.MethodName)) ∈ lw_all := lw_g (lw_at lw_m2 59 rfl) rfl
theorem q397 : (Jvm.Cond.privateMethod ({ cls := "java/lang/AbstractStringBuilder", name := "ensureCapacityInternal", desc := "(I)V" } : Jvm.MethodName)) ∈ lw_tbl := lw_at lw_m2 60 rfl
theorem q398 : (Jvm.Cond.instanceMethod ({ cls := "java/lang/AbstractStringBuilder", name := "ensureCapacityInternal", desc := "(I)V" } : Jvm.MethodName)) ∈ lw_all := lw_g (lw_at lw_m2 61 rfl) rfl
theorem q399 : (Jvm.Cond.code ({ cls := "java/lang/AbstractStringBuilder", name := "ensureCapacityInternal", desc := "(I)V" } : Jvm.MethodName) prog_25_method_9_code (3 : Nat) (Option.none : Option Jvm.ClassFile.FieldType)) ∈ lw_all := lw_g (lw_at lw_m2 62 rfl) rfl
theorem q400 : (Jvm.Cond.methodLink "java/lang/AbstractStringBuilder" (104 : Nat) ({ cls := "java/lang/AbstractStringBuilder", name := "newCapacity", desc := "(I)I" } : Jvm.MethodName)) ∈ lw_all := lw_g (lw_at lw_m2 63 rfl) rfl
theorem q401 : (Jvm.Cond.privateMethod ({ cls := "java/lang/AbstractStringBuilder", name := "newCapacity", desc := "(I)I" } : Jvm.MethodName)) ∈ lw_tbl := lw_at lw_m2 64 rfl
theorem q402 : (Jvm.Cond.instanceMethod ({ cls := "java/lang/AbstractStringBuilder", name := "newCapacity", desc := "(I)I" } : Jvm.MethodName)) ∈ lw_all := lw_g (lw_at lw_m2 65 rfl) rfl
theorem q403 : (Jvm.Cond.code ({ cls := "java/lang/AbstractStringBuilder", name := "newCapacity", desc := "(I)I" } : Jvm.MethodName) prog_25_method_10_code (6 : Nat) (Option.some Jvm.ClassFile.FieldType.int)) ∈ lw_all := lw_g (lw_at lw_m2 66 rfl) rfl
theorem q404 : (Jvm.Cond.methodLink "java/lang/AbstractStringBuilder" (114 : Nat) ({ cls := "jdk/internal/util/ArraysSupport", name := "newLength", desc := "(III)I" } : Jvm.MethodName)) ∈ lw_all := lw_g (lw_at lw_m2 67 rfl) rfl
theorem q414 : (Jvm.Cond.constant "java/lang/AbstractStringBuilder" (39 : Nat) (2147483647 : Int32)) ∈ lw_all := lw_g (lw_at lw_m2 77 rfl) rfl
theorem q415 : (Jvm.Cond.methodLink "java/lang/AbstractStringBuilder" (108 : Nat) ({ cls := "java/util/Arrays", name := "copyOf", desc := "([BI)[B" } : Jvm.MethodName)) ∈ lw_all := lw_g (lw_at lw_m2 78 rfl) rfl
theorem q431 : (Jvm.Cond.methodLink "java/lang/AbstractStringBuilder" (83 : Nat) ({ cls := "java/lang/AbstractStringBuilder", name := "isLatin1", desc := "()Z" } : Jvm.MethodName)) ∈ lw_all := lw_g (lw_at lw_m2 94 rfl) rfl
theorem q432 : (Jvm.Cond.instanceMethod ({ cls := "java/lang/AbstractStringBuilder", name := "isLatin1", desc := "()Z" } : Jvm.MethodName)) ∈ lw_all := lw_g (lw_at lw_m2 95 rfl) rfl
theorem q433 : (Jvm.Cond.sameMethod "java/lang/AbstractStringBuilder" "java/lang/AbstractStringBuilder" "isLatin1" "()Z") ∈ lw_all := lw_g (lw_at lw_m2 96 rfl) rfl
theorem q435 : (Jvm.Cond.code ({ cls := "java/lang/AbstractStringBuilder", name := "isLatin1", desc := "()Z" } : Jvm.MethodName) prog_25_method_68_code (1 : Nat) (Option.some Jvm.ClassFile.FieldType.boolean)) ∈ lw_all := lw_g (lw_at lw_m2 98 rfl) rfl
theorem q436 : (Jvm.Cond.methodLink "java/lang/AbstractStringBuilder" (191 : Nat) ({ cls := "java/lang/StringLatin1", name := "canEncode", desc := "(C)Z" } : Jvm.MethodName)) ∈ lw_all := lw_g (lw_at lw_m2 99 rfl) rfl
theorem q439 : (Jvm.Cond.methodLink "java/lang/AbstractStringBuilder" (195 : Nat) ({ cls := "java/lang/AbstractStringBuilder", name := "inflate", desc := "()V" } : Jvm.MethodName)) ∈ lw_all := lw_g (lw_at lw_m2 102 rfl) rfl
theorem q440 : (Jvm.Cond.privateMethod ({ cls := "java/lang/AbstractStringBuilder", name := "inflate", desc := "()V" } : Jvm.MethodName)) ∈ lw_tbl := lw_at lw_m2 103 rfl
theorem q441 : (Jvm.Cond.instanceMethod ({ cls := "java/lang/AbstractStringBuilder", name := "inflate", desc := "()V" } : Jvm.MethodName)) ∈ lw_all := lw_g (lw_at lw_m2 104 rfl) rfl
theorem q442 : (Jvm.Cond.code ({ cls := "java/lang/AbstractStringBuilder", name := "inflate", desc := "()V" } : Jvm.MethodName) prog_25_method_11_code (2 : Nat) (Option.none : Option Jvm.ClassFile.FieldType)) ∈ lw_all := lw_g (lw_at lw_m2 105 rfl) rfl
theorem q443 : (Jvm.Cond.methodLink "java/lang/AbstractStringBuilder" (125 : Nat) ({ cls := "java/lang/StringLatin1", name := "inflate", desc := "([BI[BII)V" } : Jvm.MethodName)) ∈ lw_all := lw_g (lw_at lw_m2 106 rfl) rfl
theorem q472 : (Jvm.Cond.methodLink "java/lang/AbstractStringBuilder" (197 : Nat) ({ cls := "java/lang/StringUTF16", name := "putCharSB", desc := "([BII)V" } : Jvm.MethodName)) ∈ lw_all := lw_g (lw_at lw_m2 135 rfl) rfl
theorem q498 : (Jvm.Cond.instanceMethod ({ cls := "java/lang/AbstractStringBuilder", name := "getValue", desc := "()[B" } : Jvm.MethodName)) ∈ lw_all := lw_g (lw_at lw_m2 161 rfl) rfl
theorem q499 : (Jvm.Cond.sameMethod "java/lang/AbstractStringBuilder" "java/lang/AbstractStringBuilder" "getValue" "()[B") ∈ lw_all := lw_g (lw_at lw_m2 162 rfl) rfl
theorem q501 : (Jvm.Cond.code ({ cls := "java/lang/AbstractStringBuilder", name := "getValue", desc := "()[B" } : Jvm.MethodName) prog_25_method_64_code (1 : Nat) (Option.some (Jvm.ClassFile.FieldType.array Jvm.ClassFile.FieldType.byte))) ∈ lw_all := lw_g (lw_at lw_m2 164 rfl) rfl
theorem q503 : (Jvm.Cond.instanceMethod ({ cls := "java/lang/AbstractStringBuilder", name := "length", desc := "()I" } : Jvm.MethodName)) ∈ lw_all := lw_g (lw_at lw_m2 166 rfl) rfl
theorem q504 : (Jvm.Cond.sameMethod "java/lang/AbstractStringBuilder" "java/lang/AbstractStringBuilder" "length" "()I") ∈ lw_all := lw_g (lw_at lw_m2 167 rfl) rfl
theorem q509 : (Jvm.Cond.code ({ cls := "java/lang/AbstractStringBuilder", name := "length", desc := "()I" } : Jvm.MethodName) prog_25_method_6_code (1 : Nat) (Option.some Jvm.ClassFile.FieldType.int)) ∈ lw_all := lw_g (lw_at lw_m2 172 rfl) rfl
theorem q2549 : (Jvm.Cond.sameMethod "java/lang/AbstractStringBuilder" "java/lang/AbstractStringBuilder" "append" "(C)Ljava/lang/AbstractStringBuilder;") ∈ lw_all := lw_g (lw_at lw_m11 52 rfl) rfl
theorem q2550 : (Jvm.Cond.sameMethod "java/lang/AbstractStringBuilder" "java/lang/AbstractStringBuilder" "ensureCapacityInternal" "(I)V") ∈ lw_all := lw_g (lw_at lw_m11 53 rfl) rfl
theorem q2551 : (Jvm.Cond.sameMethod "java/lang/AbstractStringBuilder" "java/lang/AbstractStringBuilder" "newCapacity" "(I)I") ∈ lw_all := lw_g (lw_at lw_m11 54 rfl) rfl
theorem q2552 : (Jvm.Cond.sameMethod "java/lang/AbstractStringBuilder" "java/lang/AbstractStringBuilder" "inflate" "()V") ∈ lw_all := lw_g (lw_at lw_m11 55 rfl) rfl

/-! java/lang/StringBuilder -/
set_option maxRecDepth 100000
def RJ5 : String := "java/lang/StringBuilder"
def TJ5 : u_T := fun k => match k with
  | 0 => ("java/lang/AbstractStringBuilder", "value", "[B", false)
  | 1 => ("java/lang/AbstractStringBuilder", "coder", "B", false)
  | 2 => ("java/lang/AbstractStringBuilder", "maybeLatin1", "Z", false)
  | _ => ("java/lang/AbstractStringBuilder", "count", "I", false)
def tyJ5 : Nat → FieldType := fun k => match k with
  | 0 => .array .byte
  | 1 => .byte
  | 2 => .boolean
  | _ => .int
abbrev wsJ50 : List Cond := u_ws RJ5 TJ5 4
theorem nmJ5 : ∀ a, a < 4 → ∀ b, b < 4 → a ≠ b → (TJ5 a).2.1 ≠ (TJ5 b).2.1 := by decide +kernel
theorem tyJ5_ok : ∀ k, k < 4 → parseFieldDescriptor (TJ5 k).2.2.1 = some (tyJ5 k) := by decide +kernel
abbrev cJ5_init : ByteArray := prog_41_method_1_code
def yJ5_init : MethodName := ⟨RJ5, "<init>", "()V"⟩
def dkwJ5_init_0 : List UInt8 := [42, 16, 16, 183, 0, 1, 177]
abbrev dktJ5_init_0 : List UInt8 := dkwJ5_init_0 ++ []
theorem dksJ5_init_0 : cJ5_init.data.toList.drop 0 = dktJ5_init_0 := by decide +kernel
theorem dJ5_init_0 : decode cJ5_init 0 = .ok (.aload_n 0, 1) := dk_42 (dk_at dksJ5_init_0 0 rfl rfl)
theorem dJ5_init_1 : decode cJ5_init 1 = .ok (.bipush 16, 2) := dk_16 16 (dk_at dksJ5_init_0 1 rfl rfl)
theorem dJ5_init_3 : decode cJ5_init 3 = .ok (.invokespecial 1, 3) := dk_183 0 1 (dk_at dksJ5_init_0 3 rfl rfl)
theorem dJ5_init_6 : decode cJ5_init 6 = .ok (.return_, 1) := dk_177 (dk_at dksJ5_init_0 6 rfl rfl)
abbrev cJ5_append : ByteArray := prog_41_method_14_code
def yJ5_append : MethodName := ⟨RJ5, "append", "(C)Ljava/lang/StringBuilder;"⟩
def dkwJ5_append_0 : List UInt8 := [42, 27, 183, 0, 50, 87, 42, 176]
abbrev dktJ5_append_0 : List UInt8 := dkwJ5_append_0 ++ []
theorem dksJ5_append_0 : cJ5_append.data.toList.drop 0 = dktJ5_append_0 := by decide +kernel
theorem dJ5_append_0 : decode cJ5_append 0 = .ok (.aload_n 0, 1) := dk_42 (dk_at dksJ5_append_0 0 rfl rfl)
theorem dJ5_append_1 : decode cJ5_append 1 = .ok (.iload_n 1, 1) := dk_27 (dk_at dksJ5_append_0 1 rfl rfl)
theorem dJ5_append_2 : decode cJ5_append 2 = .ok (.invokespecial 50, 3) := dk_183 0 50 (dk_at dksJ5_append_0 2 rfl rfl)
theorem dJ5_append_5 : decode cJ5_append 5 = .ok (.pop, 1) := dk_87 (dk_at dksJ5_append_0 5 rfl rfl)
theorem dJ5_append_6 : decode cJ5_append 6 = .ok (.aload_n 0, 1) := dk_42 (dk_at dksJ5_append_0 6 rfl rfl)
theorem dJ5_append_7 : decode cJ5_append 7 = .ok (.areturn, 1) := dk_176 (dk_at dksJ5_append_0 7 rfl rfl)
abbrev cJ5_toString : ByteArray := prog_41_method_42_code
def yJ5_toString : MethodName := ⟨RJ5, "toString", "()Ljava/lang/String;"⟩
def dkwJ5_toString_0 : List UInt8 := [187, 0, 18, 89, 42, 183, 0, 137, 176]
abbrev dktJ5_toString_0 : List UInt8 := dkwJ5_toString_0 ++ []
theorem dksJ5_toString_0 : cJ5_toString.data.toList.drop 0 = dktJ5_toString_0 := by decide +kernel
theorem dJ5_toString_0 : decode cJ5_toString 0 = .ok (.new 18, 3) := dk_187 0 18 (dk_at dksJ5_toString_0 0 rfl rfl)
theorem dJ5_toString_3 : decode cJ5_toString 3 = .ok (.dup, 1) := dk_89 (dk_at dksJ5_toString_0 3 rfl rfl)
theorem dJ5_toString_4 : decode cJ5_toString 4 = .ok (.aload_n 0, 1) := dk_42 (dk_at dksJ5_toString_0 4 rfl rfl)
theorem dJ5_toString_5 : decode cJ5_toString 5 = .ok (.invokespecial 137, 3) := dk_183 0 137 (dk_at dksJ5_toString_0 5 rfl rfl)
theorem dJ5_toString_8 : decode cJ5_toString 8 = .ok (.areturn, 1) := dk_176 (dk_at dksJ5_toString_0 8 rfl rfl)
abbrev cJ5_length : ByteArray := prog_41_method_93_code
def yJ5_length : MethodName := ⟨RJ5, "length", "()I"⟩
theorem dJ5_length_0 : decode cJ5_length 0 = .ok (.aload_n 0, 1) := by decide +kernel
theorem dJ5_length_1 : decode cJ5_length 1 = .ok (.invokespecial 343, 3) := by decide +kernel
theorem dJ5_length_4 : decode cJ5_length 4 = .ok (.ireturn, 1) := by decide +kernel
theorem q109 : (Jvm.Cond.initialized "java/lang/StringBuilder") ∈ lw_all := lw_g (lw_at lw_m1 12 rfl) rfl
theorem q359 : (Jvm.Cond.instantiable "java/lang/StringBuilder" (4 : Nat)) ∈ lw_all := lw_g (lw_at lw_m2 22 rfl) rfl
theorem q361 : (Jvm.Cond.instanceMethod ({ cls := "java/lang/StringBuilder", name := "<init>", desc := "()V" } : Jvm.MethodName)) ∈ lw_all := lw_g (lw_at lw_m2 24 rfl) rfl
theorem q362 : (Jvm.Cond.code ({ cls := "java/lang/StringBuilder", name := "<init>", desc := "()V" } : Jvm.MethodName) prog_41_method_1_code (1 : Nat) (Option.none : Option Jvm.ClassFile.FieldType)) ∈ lw_all := lw_g (lw_at lw_m2 25 rfl) rfl
theorem q363 : (Jvm.Cond.methodLink "java/lang/StringBuilder" (1 : Nat) ({ cls := "java/lang/AbstractStringBuilder", name := "<init>", desc := "(I)V" } : Jvm.MethodName)) ∈ lw_all := lw_g (lw_at lw_m2 26 rfl) rfl
theorem q380 : (Jvm.Cond.lays "java/lang/StringBuilder" "java/lang/AbstractStringBuilder" "value" "[B") ∈ lw_all := lw_g (lw_at lw_m2 43 rfl) rfl
theorem q382 : (Jvm.Cond.lays "java/lang/StringBuilder" "java/lang/AbstractStringBuilder" "coder" "B") ∈ lw_all := lw_g (lw_at lw_m2 45 rfl) rfl
theorem q384 : (Jvm.Cond.lays "java/lang/StringBuilder" "java/lang/AbstractStringBuilder" "maybeLatin1" "Z") ∈ lw_all := lw_g (lw_at lw_m2 47 rfl) rfl
theorem q386 : (Jvm.Cond.lays "java/lang/StringBuilder" "java/lang/AbstractStringBuilder" "count" "I") ∈ lw_all := lw_g (lw_at lw_m2 49 rfl) rfl
theorem q388 : (Jvm.Cond.superclass "java/lang/StringBuilder" "java/lang/AbstractStringBuilder") ∈ lw_all := lw_g (lw_at lw_m2 51 rfl) rfl
theorem q390 : (Jvm.Cond.instanceMethod ({ cls := "java/lang/StringBuilder", name := "append", desc := "(C)Ljava/lang/StringBuilder;" } : Jvm.MethodName)) ∈ lw_all := lw_g (lw_at lw_m2 53 rfl) rfl
theorem q391 : (Jvm.Cond.selects "java/lang/StringBuilder" ({ cls := "java/lang/StringBuilder", name := "append", desc := "(C)Ljava/lang/StringBuilder;" } : Jvm.MethodName) ({ cls := "java/lang/StringBuilder", name := "append", desc := "(C)Ljava/lang/StringBuilder;" } : Jvm.MethodName)) ∈ lw_all := lw_g (lw_at lw_m2 54 rfl) rfl
theorem q392 : (Jvm.Cond.code ({ cls := "java/lang/StringBuilder", name := "append", desc := "(C)Ljava/lang/StringBuilder;" } : Jvm.MethodName) prog_41_method_14_code (2 : Nat) (Option.some (Jvm.ClassFile.FieldType.object "java/lang/StringBuilder"))) ∈ lw_all := lw_g (lw_at lw_m2 55 rfl) rfl
theorem q393 : (Jvm.Cond.methodLink "java/lang/StringBuilder" (50 : Nat) ({ cls := "java/lang/AbstractStringBuilder", name := "append", desc := "(C)Ljava/lang/AbstractStringBuilder;" } : Jvm.MethodName)) ∈ lw_all := lw_g (lw_at lw_m2 56 rfl) rfl
theorem q434 : (Jvm.Cond.selects "java/lang/StringBuilder" ({ cls := "java/lang/AbstractStringBuilder", name := "isLatin1", desc := "()Z" } : Jvm.MethodName) ({ cls := "java/lang/AbstractStringBuilder", name := "isLatin1", desc := "()Z" } : Jvm.MethodName)) ∈ lw_all := lw_g (lw_at lw_m2 97 rfl) rfl
theorem q485 : (Jvm.Cond.instanceMethod ({ cls := "java/lang/StringBuilder", name := "toString", desc := "()Ljava/lang/String;" } : Jvm.MethodName)) ∈ lw_all := lw_g (lw_at lw_m2 148 rfl) rfl
theorem q486 : (Jvm.Cond.selects "java/lang/StringBuilder" ({ cls := "java/lang/StringBuilder", name := "toString", desc := "()Ljava/lang/String;" } : Jvm.MethodName) ({ cls := "java/lang/StringBuilder", name := "toString", desc := "()Ljava/lang/String;" } : Jvm.MethodName)) ∈ lw_all := lw_g (lw_at lw_m2 149 rfl) rfl
theorem q487 : (Jvm.Cond.code ({ cls := "java/lang/StringBuilder", name := "toString", desc := "()Ljava/lang/String;" } : Jvm.MethodName) prog_41_method_42_code (1 : Nat) (Option.some (Jvm.ClassFile.FieldType.object "java/lang/String"))) ∈ lw_all := lw_g (lw_at lw_m2 150 rfl) rfl
theorem q488 : (Jvm.Cond.classLink "java/lang/StringBuilder" (18 : Nat) "java/lang/String") ∈ lw_all := lw_g (lw_at lw_m2 151 rfl) rfl
theorem q490 : (Jvm.Cond.methodLink "java/lang/StringBuilder" (137 : Nat) ({ cls := "java/lang/String", name := "<init>", desc := "(Ljava/lang/StringBuilder;)V" } : Jvm.MethodName)) ∈ lw_all := lw_g (lw_at lw_m2 153 rfl) rfl
theorem q500 : (Jvm.Cond.selects "java/lang/StringBuilder" ({ cls := "java/lang/AbstractStringBuilder", name := "getValue", desc := "()[B" } : Jvm.MethodName) ({ cls := "java/lang/AbstractStringBuilder", name := "getValue", desc := "()[B" } : Jvm.MethodName)) ∈ lw_all := lw_g (lw_at lw_m2 163 rfl) rfl
theorem q505 : (Jvm.Cond.selects "java/lang/StringBuilder" ({ cls := "java/lang/AbstractStringBuilder", name := "length", desc := "()I" } : Jvm.MethodName) ({ cls := "java/lang/StringBuilder", name := "length", desc := "()I" } : Jvm.MethodName)) ∈ lw_all := lw_g (lw_at lw_m2 168 rfl) rfl
theorem q506 : (Jvm.Cond.instanceMethod ({ cls := "java/lang/StringBuilder", name := "length", desc := "()I" } : Jvm.MethodName)) ∈ lw_all := lw_g (lw_at lw_m2 169 rfl) rfl
theorem q507 : (Jvm.Cond.code ({ cls := "java/lang/StringBuilder", name := "length", desc := "()I" } : Jvm.MethodName) prog_41_method_93_code (1 : Nat) (Option.some Jvm.ClassFile.FieldType.int)) ∈ lw_all := lw_g (lw_at lw_m2 170 rfl) rfl
theorem q508 : (Jvm.Cond.methodLink "java/lang/StringBuilder" (343 : Nat) ({ cls := "java/lang/AbstractStringBuilder", name := "length", desc := "()I" } : Jvm.MethodName)) ∈ lw_all := lw_g (lw_at lw_m2 171 rfl) rfl
theorem q979 : (Jvm.Cond.selects "java/lang/StringBuilder" ({ cls := "java/lang/Object", name := "getClass", desc := "()Ljava/lang/Class;" } : Jvm.MethodName) ({ cls := "java/lang/Object", name := "getClass", desc := "()Ljava/lang/Class;" } : Jvm.MethodName)) ∈ lw_all := lw_g (lw_at lw_m4 162 rfl) rfl
theorem q2563 : (Jvm.Cond.castable "java/lang/StringBuilder" "java/lang/Object") ∈ lw_tbl := lw_at lw_m11 66 rfl
theorem in_J5 : ∀ w ∈ wsJ50, w ∈ lw_all := lw_in wsJ50 [380, 382, 384, 386] (by decide +kernel) (by decide +kernel)

/-! java/lang/String -/
set_option maxRecDepth 100000
def RJ6 : String := "java/lang/String"
def TJ6 : u_T := fun k => match k with
  | 0 => ("java/lang/String", "value", "[B", true)
  | 1 => ("java/lang/String", "coder", "B", true)
  | 2 => ("java/lang/String", "hash", "I", false)
  | _ => ("java/lang/String", "hashIsZero", "Z", false)
def tyJ6 : Nat → FieldType := fun k => match k with
  | 0 => .array .byte
  | 1 => .byte
  | 2 => .int
  | _ => .boolean
abbrev wsJ60 : List Cond := u_ws RJ6 TJ6 4
theorem nmJ6 : ∀ a, a < 4 → ∀ b, b < 4 → a ≠ b → (TJ6 a).2.1 ≠ (TJ6 b).2.1 := by decide +kernel
theorem tyJ6_ok : ∀ k, k < 4 → parseFieldDescriptor (TJ6 k).2.2.1 = some (tyJ6 k) := by decide +kernel
abbrev cJ6_checkBoundsOffCount : ByteArray := prog_40_method_157_code
def yJ6_checkBoundsOffCount : MethodName := ⟨RJ6, "checkBoundsOffCount", "(III)I"⟩
def dkwJ6_checkBoundsOffCount_0 : List UInt8 := [26, 27, 28, 178, 4, 29, 184, 4, 41, 172]
abbrev dktJ6_checkBoundsOffCount_0 : List UInt8 := dkwJ6_checkBoundsOffCount_0 ++ []
theorem dksJ6_checkBoundsOffCount_0 : cJ6_checkBoundsOffCount.data.toList.drop 0 = dktJ6_checkBoundsOffCount_0 := by decide +kernel
theorem dJ6_checkBoundsOffCount_0 : decode cJ6_checkBoundsOffCount 0 = .ok (.iload_n 0, 1) := dk_26 (dk_at dksJ6_checkBoundsOffCount_0 0 rfl rfl)
theorem dJ6_checkBoundsOffCount_1 : decode cJ6_checkBoundsOffCount 1 = .ok (.iload_n 1, 1) := dk_27 (dk_at dksJ6_checkBoundsOffCount_0 1 rfl rfl)
theorem dJ6_checkBoundsOffCount_2 : decode cJ6_checkBoundsOffCount 2 = .ok (.iload_n 2, 1) := dk_28 (dk_at dksJ6_checkBoundsOffCount_0 2 rfl rfl)
theorem dJ6_checkBoundsOffCount_3 : decode cJ6_checkBoundsOffCount 3 = .ok (.getstatic 1053, 3) := dk_178 4 29 (dk_at dksJ6_checkBoundsOffCount_0 3 rfl rfl)
theorem dJ6_checkBoundsOffCount_6 : decode cJ6_checkBoundsOffCount 6 = .ok (.invokestatic 1065, 3) := dk_184 4 41 (dk_at dksJ6_checkBoundsOffCount_0 6 rfl rfl)
theorem dJ6_checkBoundsOffCount_9 : decode cJ6_checkBoundsOffCount 9 = .ok (.ireturn, 1) := dk_172 (dk_at dksJ6_checkBoundsOffCount_0 9 rfl rfl)
abbrev cJ6_checkIndex : ByteArray := prog_40_method_155_code
def yJ6_checkIndex : MethodName := ⟨RJ6, "checkIndex", "(II)V"⟩
def dkwJ6_checkIndex_0 : List UInt8 := [26, 27, 178, 4, 29, 184, 4, 35, 87, 177]
abbrev dktJ6_checkIndex_0 : List UInt8 := dkwJ6_checkIndex_0 ++ []
theorem dksJ6_checkIndex_0 : cJ6_checkIndex.data.toList.drop 0 = dktJ6_checkIndex_0 := by decide +kernel
theorem dJ6_checkIndex_0 : decode cJ6_checkIndex 0 = .ok (.iload_n 0, 1) := dk_26 (dk_at dksJ6_checkIndex_0 0 rfl rfl)
theorem dJ6_checkIndex_1 : decode cJ6_checkIndex 1 = .ok (.iload_n 1, 1) := dk_27 (dk_at dksJ6_checkIndex_0 1 rfl rfl)
theorem dJ6_checkIndex_2 : decode cJ6_checkIndex 2 = .ok (.getstatic 1053, 3) := dk_178 4 29 (dk_at dksJ6_checkIndex_0 2 rfl rfl)
theorem dJ6_checkIndex_5 : decode cJ6_checkIndex 5 = .ok (.invokestatic 1059, 3) := dk_184 4 35 (dk_at dksJ6_checkIndex_0 5 rfl rfl)
theorem dJ6_checkIndex_8 : decode cJ6_checkIndex 8 = .ok (.pop, 1) := dk_87 (dk_at dksJ6_checkIndex_0 8 rfl rfl)
theorem dJ6_checkIndex_9 : decode cJ6_checkIndex 9 = .ok (.return_, 1) := dk_177 (dk_at dksJ6_checkIndex_0 9 rfl rfl)
abbrev cJ6_init : ByteArray := prog_40_method_53_code
def yJ6_init : MethodName := ⟨RJ6, "<init>", "(Ljava/lang/StringBuilder;)V"⟩
def dkwJ6_init_0 : List UInt8 := [42, 43, 1, 183, 1, 233, 177]
abbrev dktJ6_init_0 : List UInt8 := dkwJ6_init_0 ++ []
theorem dksJ6_init_0 : cJ6_init.data.toList.drop 0 = dktJ6_init_0 := by decide +kernel
theorem dJ6_init_0 : decode cJ6_init 0 = .ok (.aload_n 0, 1) := dk_42 (dk_at dksJ6_init_0 0 rfl rfl)
theorem dJ6_init_1 : decode cJ6_init 1 = .ok (.aload_n 1, 1) := dk_43 (dk_at dksJ6_init_0 1 rfl rfl)
theorem dJ6_init_2 : decode cJ6_init 2 = .ok (.aconst_null, 1) := dk_1 (dk_at dksJ6_init_0 2 rfl rfl)
theorem dJ6_init_3 : decode cJ6_init 3 = .ok (.invokespecial 489, 3) := dk_183 1 233 (dk_at dksJ6_init_0 3 rfl rfl)
theorem dJ6_init_6 : decode cJ6_init 6 = .ok (.return_, 1) := dk_177 (dk_at dksJ6_init_0 6 rfl rfl)
abbrev cJ6_init_2 : ByteArray := prog_40_method_150_code
def yJ6_init_2 : MethodName := ⟨RJ6, "<init>", "(Ljava/lang/AbstractStringBuilder;Ljava/lang/Void;)V"⟩
def dkwJ6_init_2_4 : List UInt8 := [181, 0, 9, 177]
abbrev dktJ6_init_2_4 : List UInt8 := dkwJ6_init_2_4 ++ []
def dkwJ6_init_2_3 : List UInt8 := [184, 0, 47, 181, 0, 15, 177, 42, 4, 181, 0, 15, 42, 45, 3, 21, 4, 4, 120, 184, 0, 54]
abbrev dktJ6_init_2_3 : List UInt8 := dkwJ6_init_2_3 ++ dktJ6_init_2_4
def dkwJ6_init_2_2 : List UInt8 := [180, 4, 24, 153, 0, 28, 42, 45, 3, 21, 4, 184, 4, 27, 181, 0, 9, 42, 42, 180, 0, 9, 21, 4]
abbrev dktJ6_init_2_2 : List UInt8 := dkwJ6_init_2_2 ++ dktJ6_init_2_3
def dkwJ6_init_2_1 : List UInt8 := [181, 0, 15, 42, 45, 3, 21, 4, 184, 0, 54, 181, 0, 9, 167, 0, 59, 178, 0, 38, 153, 0, 35, 43]
abbrev dktJ6_init_2_1 : List UInt8 := dkwJ6_init_2_1 ++ dktJ6_init_2_2
def dkwJ6_init_2_0 : List UInt8 := [42, 183, 0, 1, 43, 182, 2, 40, 78, 43, 182, 2, 37, 54, 4, 43, 182, 4, 23, 153, 0, 22, 42, 3]
abbrev dktJ6_init_2_0 : List UInt8 := dkwJ6_init_2_0 ++ dktJ6_init_2_1
theorem dksJ6_init_2_0 : cJ6_init_2.data.toList.drop 0 = dktJ6_init_2_0 := by decide +kernel
theorem dksJ6_init_2_1 : cJ6_init_2.data.toList.drop 24 = dktJ6_init_2_1 := dk_seg dksJ6_init_2_0 24 rfl rfl
theorem dksJ6_init_2_2 : cJ6_init_2.data.toList.drop 48 = dktJ6_init_2_2 := dk_seg dksJ6_init_2_1 24 rfl rfl
theorem dksJ6_init_2_3 : cJ6_init_2.data.toList.drop 72 = dktJ6_init_2_3 := dk_seg dksJ6_init_2_2 24 rfl rfl
theorem dksJ6_init_2_4 : cJ6_init_2.data.toList.drop 94 = dktJ6_init_2_4 := dk_seg dksJ6_init_2_3 22 rfl rfl
theorem dJ6_init_2_0 : decode cJ6_init_2 0 = .ok (.aload_n 0, 1) := dk_42 (dk_at dksJ6_init_2_0 0 rfl rfl)
theorem dJ6_init_2_1 : decode cJ6_init_2 1 = .ok (.invokespecial 1, 3) := dk_183 0 1 (dk_at dksJ6_init_2_0 1 rfl rfl)
theorem dJ6_init_2_4 : decode cJ6_init_2 4 = .ok (.aload_n 1, 1) := dk_43 (dk_at dksJ6_init_2_0 4 rfl rfl)
theorem dJ6_init_2_5 : decode cJ6_init_2 5 = .ok (.invokevirtual 552, 3) := dk_182 2 40 (dk_at dksJ6_init_2_0 5 rfl rfl)
theorem dJ6_init_2_8 : decode cJ6_init_2 8 = .ok (.astore_n 3, 1) := dk_78 (dk_at dksJ6_init_2_0 8 rfl rfl)
theorem dJ6_init_2_9 : decode cJ6_init_2 9 = .ok (.aload_n 1, 1) := dk_43 (dk_at dksJ6_init_2_0 9 rfl rfl)
theorem dJ6_init_2_10 : decode cJ6_init_2 10 = .ok (.invokevirtual 549, 3) := dk_182 2 37 (dk_at dksJ6_init_2_0 10 rfl rfl)
theorem dJ6_init_2_13 : decode cJ6_init_2 13 = .ok (.istore 4, 2) := dk_54 4 (dk_at dksJ6_init_2_0 13 rfl rfl)
theorem dJ6_init_2_15 : decode cJ6_init_2 15 = .ok (.aload_n 1, 1) := dk_43 (dk_at dksJ6_init_2_0 15 rfl rfl)
theorem dJ6_init_2_16 : decode cJ6_init_2 16 = .ok (.invokevirtual 1047, 3) := dk_182 4 23 (dk_at dksJ6_init_2_0 16 rfl rfl)
theorem dJ6_init_2_19 : decode cJ6_init_2 19 = .ok (.ifCond .eq 22, 3) := dk_153 0 22 (dk_at dksJ6_init_2_0 19 rfl rfl)
theorem dJ6_init_2_22 : decode cJ6_init_2 22 = .ok (.aload_n 0, 1) := dk_42 (dk_at dksJ6_init_2_0 22 rfl rfl)
theorem dJ6_init_2_23 : decode cJ6_init_2 23 = .ok (.iconst 0, 1) := dk_3 (dk_at dksJ6_init_2_0 23 rfl rfl)
theorem dJ6_init_2_24 : decode cJ6_init_2 24 = .ok (.putfield 15, 3) := dk_181 0 15 (dk_at dksJ6_init_2_1 0 rfl rfl)
theorem dJ6_init_2_27 : decode cJ6_init_2 27 = .ok (.aload_n 0, 1) := dk_42 (dk_at dksJ6_init_2_1 3 rfl rfl)
theorem dJ6_init_2_28 : decode cJ6_init_2 28 = .ok (.aload_n 3, 1) := dk_45 (dk_at dksJ6_init_2_1 4 rfl rfl)
theorem dJ6_init_2_29 : decode cJ6_init_2 29 = .ok (.iconst 0, 1) := dk_3 (dk_at dksJ6_init_2_1 5 rfl rfl)
theorem dJ6_init_2_30 : decode cJ6_init_2 30 = .ok (.iload 4, 2) := dk_21 4 (dk_at dksJ6_init_2_1 6 rfl rfl)
theorem dJ6_init_2_32 : decode cJ6_init_2 32 = .ok (.invokestatic 54, 3) := dk_184 0 54 (dk_at dksJ6_init_2_1 8 rfl rfl)
theorem dJ6_init_2_35 : decode cJ6_init_2 35 = .ok (.putfield 9, 3) := dk_181 0 9 (dk_at dksJ6_init_2_1 11 rfl rfl)
theorem dJ6_init_2_38 : decode cJ6_init_2 38 = .ok (.goto 59, 3) := dk_167 0 59 (dk_at dksJ6_init_2_1 14 rfl rfl)
theorem dJ6_init_2_41 : decode cJ6_init_2 41 = .ok (.getstatic 38, 3) := dk_178 0 38 (dk_at dksJ6_init_2_1 17 rfl rfl)
theorem dJ6_init_2_44 : decode cJ6_init_2 44 = .ok (.ifCond .eq 35, 3) := dk_153 0 35 (dk_at dksJ6_init_2_1 20 rfl rfl)
theorem dJ6_init_2_47 : decode cJ6_init_2 47 = .ok (.aload_n 1, 1) := dk_43 (dk_at dksJ6_init_2_1 23 rfl rfl)
theorem dJ6_init_2_48 : decode cJ6_init_2 48 = .ok (.getfield 1048, 3) := dk_180 4 24 (dk_at dksJ6_init_2_2 0 rfl rfl)
theorem dJ6_init_2_51 : decode cJ6_init_2 51 = .ok (.ifCond .eq 28, 3) := dk_153 0 28 (dk_at dksJ6_init_2_2 3 rfl rfl)
theorem dJ6_init_2_54 : decode cJ6_init_2 54 = .ok (.aload_n 0, 1) := dk_42 (dk_at dksJ6_init_2_2 6 rfl rfl)
theorem dJ6_init_2_55 : decode cJ6_init_2 55 = .ok (.aload_n 3, 1) := dk_45 (dk_at dksJ6_init_2_2 7 rfl rfl)
theorem dJ6_init_2_56 : decode cJ6_init_2 56 = .ok (.iconst 0, 1) := dk_3 (dk_at dksJ6_init_2_2 8 rfl rfl)
theorem dJ6_init_2_57 : decode cJ6_init_2 57 = .ok (.iload 4, 2) := dk_21 4 (dk_at dksJ6_init_2_2 9 rfl rfl)
theorem dJ6_init_2_59 : decode cJ6_init_2 59 = .ok (.invokestatic 1051, 3) := dk_184 4 27 (dk_at dksJ6_init_2_2 11 rfl rfl)
theorem dJ6_init_2_62 : decode cJ6_init_2 62 = .ok (.putfield 9, 3) := dk_181 0 9 (dk_at dksJ6_init_2_2 14 rfl rfl)
theorem dJ6_init_2_65 : decode cJ6_init_2 65 = .ok (.aload_n 0, 1) := dk_42 (dk_at dksJ6_init_2_2 17 rfl rfl)
theorem dJ6_init_2_66 : decode cJ6_init_2 66 = .ok (.aload_n 0, 1) := dk_42 (dk_at dksJ6_init_2_2 18 rfl rfl)
theorem dJ6_init_2_67 : decode cJ6_init_2 67 = .ok (.getfield 9, 3) := dk_180 0 9 (dk_at dksJ6_init_2_2 19 rfl rfl)
theorem dJ6_init_2_70 : decode cJ6_init_2 70 = .ok (.iload 4, 2) := dk_21 4 (dk_at dksJ6_init_2_2 22 rfl rfl)
theorem dJ6_init_2_72 : decode cJ6_init_2 72 = .ok (.invokestatic 47, 3) := dk_184 0 47 (dk_at dksJ6_init_2_3 0 rfl rfl)
theorem dJ6_init_2_75 : decode cJ6_init_2 75 = .ok (.putfield 15, 3) := dk_181 0 15 (dk_at dksJ6_init_2_3 3 rfl rfl)
theorem dJ6_init_2_78 : decode cJ6_init_2 78 = .ok (.return_, 1) := dk_177 (dk_at dksJ6_init_2_3 6 rfl rfl)
theorem dJ6_init_2_79 : decode cJ6_init_2 79 = .ok (.aload_n 0, 1) := dk_42 (dk_at dksJ6_init_2_3 7 rfl rfl)
theorem dJ6_init_2_80 : decode cJ6_init_2 80 = .ok (.iconst 1, 1) := dk_4 (dk_at dksJ6_init_2_3 8 rfl rfl)
theorem dJ6_init_2_81 : decode cJ6_init_2 81 = .ok (.putfield 15, 3) := dk_181 0 15 (dk_at dksJ6_init_2_3 9 rfl rfl)
theorem dJ6_init_2_84 : decode cJ6_init_2 84 = .ok (.aload_n 0, 1) := dk_42 (dk_at dksJ6_init_2_3 12 rfl rfl)
theorem dJ6_init_2_85 : decode cJ6_init_2 85 = .ok (.aload_n 3, 1) := dk_45 (dk_at dksJ6_init_2_3 13 rfl rfl)
theorem dJ6_init_2_86 : decode cJ6_init_2 86 = .ok (.iconst 0, 1) := dk_3 (dk_at dksJ6_init_2_3 14 rfl rfl)
theorem dJ6_init_2_87 : decode cJ6_init_2 87 = .ok (.iload 4, 2) := dk_21 4 (dk_at dksJ6_init_2_3 15 rfl rfl)
theorem dJ6_init_2_89 : decode cJ6_init_2 89 = .ok (.iconst 1, 1) := dk_4 (dk_at dksJ6_init_2_3 17 rfl rfl)
theorem dJ6_init_2_90 : decode cJ6_init_2 90 = .ok (.ishl, 1) := dk_120 (dk_at dksJ6_init_2_3 18 rfl rfl)
theorem dJ6_init_2_91 : decode cJ6_init_2 91 = .ok (.invokestatic 54, 3) := dk_184 0 54 (dk_at dksJ6_init_2_3 19 rfl rfl)
theorem dJ6_init_2_94 : decode cJ6_init_2 94 = .ok (.putfield 9, 3) := dk_181 0 9 (dk_at dksJ6_init_2_4 0 rfl rfl)
theorem dJ6_init_2_97 : decode cJ6_init_2 97 = .ok (.return_, 1) := dk_177 (dk_at dksJ6_init_2_4 3 rfl rfl)
abbrev cJ6_indexOf : ByteArray := prog_40_method_79_code
def yJ6_indexOf : MethodName := ⟨RJ6, "indexOf", "(I)I"⟩
def dkwJ6_indexOf_0 : List UInt8 := [42, 27, 3, 182, 2, 121, 172]
abbrev dktJ6_indexOf_0 : List UInt8 := dkwJ6_indexOf_0 ++ []
theorem dksJ6_indexOf_0 : cJ6_indexOf.data.toList.drop 0 = dktJ6_indexOf_0 := by decide +kernel
theorem dJ6_indexOf_0 : decode cJ6_indexOf 0 = .ok (.aload_n 0, 1) := dk_42 (dk_at dksJ6_indexOf_0 0 rfl rfl)
theorem dJ6_indexOf_1 : decode cJ6_indexOf 1 = .ok (.iload_n 1, 1) := dk_27 (dk_at dksJ6_indexOf_0 1 rfl rfl)
theorem dJ6_indexOf_2 : decode cJ6_indexOf 2 = .ok (.iconst 0, 1) := dk_3 (dk_at dksJ6_indexOf_0 2 rfl rfl)
theorem dJ6_indexOf_3 : decode cJ6_indexOf 3 = .ok (.invokevirtual 633, 3) := dk_182 2 121 (dk_at dksJ6_indexOf_0 3 rfl rfl)
theorem dJ6_indexOf_6 : decode cJ6_indexOf 6 = .ok (.ireturn, 1) := dk_172 (dk_at dksJ6_indexOf_0 6 rfl rfl)
abbrev cJ6_indexOf_2 : ByteArray := prog_40_method_80_code
def yJ6_indexOf_2 : MethodName := ⟨RJ6, "indexOf", "(II)I"⟩
def dkwJ6_indexOf_2_1 : List UInt8 := [180, 0, 9, 27, 28, 42, 182, 1, 249, 184, 2, 128, 172]
abbrev dktJ6_indexOf_2_1 : List UInt8 := dkwJ6_indexOf_2_1 ++ []
def dkwJ6_indexOf_2_0 : List UInt8 := [42, 182, 1, 236, 153, 0, 19, 42, 180, 0, 9, 27, 28, 42, 182, 1, 249, 184, 2, 125, 167, 0, 16, 42]
abbrev dktJ6_indexOf_2_0 : List UInt8 := dkwJ6_indexOf_2_0 ++ dktJ6_indexOf_2_1
theorem dksJ6_indexOf_2_0 : cJ6_indexOf_2.data.toList.drop 0 = dktJ6_indexOf_2_0 := by decide +kernel
theorem dksJ6_indexOf_2_1 : cJ6_indexOf_2.data.toList.drop 24 = dktJ6_indexOf_2_1 := dk_seg dksJ6_indexOf_2_0 24 rfl rfl
theorem dJ6_indexOf_2_0 : decode cJ6_indexOf_2 0 = .ok (.aload_n 0, 1) := dk_42 (dk_at dksJ6_indexOf_2_0 0 rfl rfl)
theorem dJ6_indexOf_2_1 : decode cJ6_indexOf_2 1 = .ok (.invokevirtual 492, 3) := dk_182 1 236 (dk_at dksJ6_indexOf_2_0 1 rfl rfl)
theorem dJ6_indexOf_2_4 : decode cJ6_indexOf_2 4 = .ok (.ifCond .eq 19, 3) := dk_153 0 19 (dk_at dksJ6_indexOf_2_0 4 rfl rfl)
theorem dJ6_indexOf_2_7 : decode cJ6_indexOf_2 7 = .ok (.aload_n 0, 1) := dk_42 (dk_at dksJ6_indexOf_2_0 7 rfl rfl)
theorem dJ6_indexOf_2_8 : decode cJ6_indexOf_2 8 = .ok (.getfield 9, 3) := dk_180 0 9 (dk_at dksJ6_indexOf_2_0 8 rfl rfl)
theorem dJ6_indexOf_2_11 : decode cJ6_indexOf_2 11 = .ok (.iload_n 1, 1) := dk_27 (dk_at dksJ6_indexOf_2_0 11 rfl rfl)
theorem dJ6_indexOf_2_12 : decode cJ6_indexOf_2 12 = .ok (.iload_n 2, 1) := dk_28 (dk_at dksJ6_indexOf_2_0 12 rfl rfl)
theorem dJ6_indexOf_2_13 : decode cJ6_indexOf_2 13 = .ok (.aload_n 0, 1) := dk_42 (dk_at dksJ6_indexOf_2_0 13 rfl rfl)
theorem dJ6_indexOf_2_14 : decode cJ6_indexOf_2 14 = .ok (.invokevirtual 505, 3) := dk_182 1 249 (dk_at dksJ6_indexOf_2_0 14 rfl rfl)
theorem dJ6_indexOf_2_17 : decode cJ6_indexOf_2 17 = .ok (.invokestatic 637, 3) := dk_184 2 125 (dk_at dksJ6_indexOf_2_0 17 rfl rfl)
theorem dJ6_indexOf_2_20 : decode cJ6_indexOf_2 20 = .ok (.goto 16, 3) := dk_167 0 16 (dk_at dksJ6_indexOf_2_0 20 rfl rfl)
theorem dJ6_indexOf_2_23 : decode cJ6_indexOf_2 23 = .ok (.aload_n 0, 1) := dk_42 (dk_at dksJ6_indexOf_2_0 23 rfl rfl)
theorem dJ6_indexOf_2_24 : decode cJ6_indexOf_2 24 = .ok (.getfield 9, 3) := dk_180 0 9 (dk_at dksJ6_indexOf_2_1 0 rfl rfl)
theorem dJ6_indexOf_2_27 : decode cJ6_indexOf_2 27 = .ok (.iload_n 1, 1) := dk_27 (dk_at dksJ6_indexOf_2_1 3 rfl rfl)
theorem dJ6_indexOf_2_28 : decode cJ6_indexOf_2 28 = .ok (.iload_n 2, 1) := dk_28 (dk_at dksJ6_indexOf_2_1 4 rfl rfl)
theorem dJ6_indexOf_2_29 : decode cJ6_indexOf_2 29 = .ok (.aload_n 0, 1) := dk_42 (dk_at dksJ6_indexOf_2_1 5 rfl rfl)
theorem dJ6_indexOf_2_30 : decode cJ6_indexOf_2 30 = .ok (.invokevirtual 505, 3) := dk_182 1 249 (dk_at dksJ6_indexOf_2_1 6 rfl rfl)
theorem dJ6_indexOf_2_33 : decode cJ6_indexOf_2 33 = .ok (.invokestatic 640, 3) := dk_184 2 128 (dk_at dksJ6_indexOf_2_1 9 rfl rfl)
theorem dJ6_indexOf_2_36 : decode cJ6_indexOf_2 36 = .ok (.ireturn, 1) := dk_172 (dk_at dksJ6_indexOf_2_1 12 rfl rfl)
abbrev cJ6_isLatin1 : ByteArray := prog_40_method_154_code
def yJ6_isLatin1 : MethodName := ⟨RJ6, "isLatin1", "()Z"⟩
def dkwJ6_isLatin1_0 : List UInt8 := [178, 0, 38, 153, 0, 14, 42, 180, 0, 15, 154, 0, 7, 4, 167, 0, 4, 3, 172]
abbrev dktJ6_isLatin1_0 : List UInt8 := dkwJ6_isLatin1_0 ++ []
theorem dksJ6_isLatin1_0 : cJ6_isLatin1.data.toList.drop 0 = dktJ6_isLatin1_0 := by decide +kernel
theorem dJ6_isLatin1_0 : decode cJ6_isLatin1 0 = .ok (.getstatic 38, 3) := dk_178 0 38 (dk_at dksJ6_isLatin1_0 0 rfl rfl)
theorem dJ6_isLatin1_3 : decode cJ6_isLatin1 3 = .ok (.ifCond .eq 14, 3) := dk_153 0 14 (dk_at dksJ6_isLatin1_0 3 rfl rfl)
theorem dJ6_isLatin1_6 : decode cJ6_isLatin1 6 = .ok (.aload_n 0, 1) := dk_42 (dk_at dksJ6_isLatin1_0 6 rfl rfl)
theorem dJ6_isLatin1_7 : decode cJ6_isLatin1 7 = .ok (.getfield 15, 3) := dk_180 0 15 (dk_at dksJ6_isLatin1_0 7 rfl rfl)
theorem dJ6_isLatin1_10 : decode cJ6_isLatin1 10 = .ok (.ifCond .ne 7, 3) := dk_154 0 7 (dk_at dksJ6_isLatin1_0 10 rfl rfl)
theorem dJ6_isLatin1_13 : decode cJ6_isLatin1 13 = .ok (.iconst 1, 1) := dk_4 (dk_at dksJ6_isLatin1_0 13 rfl rfl)
theorem dJ6_isLatin1_14 : decode cJ6_isLatin1 14 = .ok (.goto 4, 3) := dk_167 0 4 (dk_at dksJ6_isLatin1_0 14 rfl rfl)
theorem dJ6_isLatin1_17 : decode cJ6_isLatin1 17 = .ok (.iconst 0, 1) := dk_3 (dk_at dksJ6_isLatin1_0 17 rfl rfl)
theorem dJ6_isLatin1_18 : decode cJ6_isLatin1 18 = .ok (.ireturn, 1) := dk_172 (dk_at dksJ6_isLatin1_0 18 rfl rfl)
abbrev cJ6_length : ByteArray := prog_40_method_54_code
def yJ6_length : MethodName := ⟨RJ6, "length", "()I"⟩
def dkwJ6_length_0 : List UInt8 := [42, 180, 0, 9, 190, 42, 182, 1, 79, 122, 172]
abbrev dktJ6_length_0 : List UInt8 := dkwJ6_length_0 ++ []
theorem dksJ6_length_0 : cJ6_length.data.toList.drop 0 = dktJ6_length_0 := by decide +kernel
theorem dJ6_length_0 : decode cJ6_length 0 = .ok (.aload_n 0, 1) := dk_42 (dk_at dksJ6_length_0 0 rfl rfl)
theorem dJ6_length_1 : decode cJ6_length 1 = .ok (.getfield 9, 3) := dk_180 0 9 (dk_at dksJ6_length_0 1 rfl rfl)
theorem dJ6_length_4 : decode cJ6_length 4 = .ok (.arraylength, 1) := dk_190 (dk_at dksJ6_length_0 4 rfl rfl)
theorem dJ6_length_5 : decode cJ6_length 5 = .ok (.aload_n 0, 1) := dk_42 (dk_at dksJ6_length_0 5 rfl rfl)
theorem dJ6_length_6 : decode cJ6_length 6 = .ok (.invokevirtual 335, 3) := dk_182 1 79 (dk_at dksJ6_length_0 6 rfl rfl)
theorem dJ6_length_9 : decode cJ6_length 9 = .ok (.ishr, 1) := dk_122 (dk_at dksJ6_length_0 9 rfl rfl)
theorem dJ6_length_10 : decode cJ6_length 10 = .ok (.ireturn, 1) := dk_172 (dk_at dksJ6_length_0 10 rfl rfl)
abbrev cJ6_coder : ByteArray := prog_40_method_152_code
def yJ6_coder : MethodName := ⟨RJ6, "coder", "()B"⟩
def dkwJ6_coder_0 : List UInt8 := [178, 0, 38, 153, 0, 10, 42, 180, 0, 15, 167, 0, 4, 4, 172]
abbrev dktJ6_coder_0 : List UInt8 := dkwJ6_coder_0 ++ []
theorem dksJ6_coder_0 : cJ6_coder.data.toList.drop 0 = dktJ6_coder_0 := by decide +kernel
theorem dJ6_coder_0 : decode cJ6_coder 0 = .ok (.getstatic 38, 3) := dk_178 0 38 (dk_at dksJ6_coder_0 0 rfl rfl)
theorem dJ6_coder_3 : decode cJ6_coder 3 = .ok (.ifCond .eq 10, 3) := dk_153 0 10 (dk_at dksJ6_coder_0 3 rfl rfl)
theorem dJ6_coder_6 : decode cJ6_coder 6 = .ok (.aload_n 0, 1) := dk_42 (dk_at dksJ6_coder_0 6 rfl rfl)
theorem dJ6_coder_7 : decode cJ6_coder 7 = .ok (.getfield 15, 3) := dk_180 0 15 (dk_at dksJ6_coder_0 7 rfl rfl)
theorem dJ6_coder_10 : decode cJ6_coder 10 = .ok (.goto 4, 3) := dk_167 0 4 (dk_at dksJ6_coder_0 10 rfl rfl)
theorem dJ6_coder_13 : decode cJ6_coder 13 = .ok (.iconst 1, 1) := dk_4 (dk_at dksJ6_coder_0 13 rfl rfl)
theorem dJ6_coder_14 : decode cJ6_coder 14 = .ok (.ireturn, 1) := dk_172 (dk_at dksJ6_coder_0 14 rfl rfl)
abbrev cJ6_checkBoundsBeginEnd : ByteArray := prog_40_method_158_code
def yJ6_checkBoundsBeginEnd : MethodName := ⟨RJ6, "checkBoundsBeginEnd", "(III)V"⟩
def dkwJ6_checkBoundsBeginEnd_0 : List UInt8 := [26, 27, 28, 178, 4, 29, 184, 4, 38, 87, 177]
abbrev dktJ6_checkBoundsBeginEnd_0 : List UInt8 := dkwJ6_checkBoundsBeginEnd_0 ++ []
theorem dksJ6_checkBoundsBeginEnd_0 : cJ6_checkBoundsBeginEnd.data.toList.drop 0 = dktJ6_checkBoundsBeginEnd_0 := by decide +kernel
theorem dJ6_checkBoundsBeginEnd_0 : decode cJ6_checkBoundsBeginEnd 0 = .ok (.iload_n 0, 1) := dk_26 (dk_at dksJ6_checkBoundsBeginEnd_0 0 rfl rfl)
theorem dJ6_checkBoundsBeginEnd_1 : decode cJ6_checkBoundsBeginEnd 1 = .ok (.iload_n 1, 1) := dk_27 (dk_at dksJ6_checkBoundsBeginEnd_0 1 rfl rfl)
theorem dJ6_checkBoundsBeginEnd_2 : decode cJ6_checkBoundsBeginEnd 2 = .ok (.iload_n 2, 1) := dk_28 (dk_at dksJ6_checkBoundsBeginEnd_0 2 rfl rfl)
theorem dJ6_checkBoundsBeginEnd_3 : decode cJ6_checkBoundsBeginEnd 3 = .ok (.getstatic 1053, 3) := dk_178 4 29 (dk_at dksJ6_checkBoundsBeginEnd_0 3 rfl rfl)
theorem dJ6_checkBoundsBeginEnd_6 : decode cJ6_checkBoundsBeginEnd 6 = .ok (.invokestatic 1062, 3) := dk_184 4 38 (dk_at dksJ6_checkBoundsBeginEnd_0 6 rfl rfl)
theorem dJ6_checkBoundsBeginEnd_9 : decode cJ6_checkBoundsBeginEnd 9 = .ok (.pop, 1) := dk_87 (dk_at dksJ6_checkBoundsBeginEnd_0 9 rfl rfl)
theorem dJ6_checkBoundsBeginEnd_10 : decode cJ6_checkBoundsBeginEnd 10 = .ok (.return_, 1) := dk_177 (dk_at dksJ6_checkBoundsBeginEnd_0 10 rfl rfl)
abbrev cJ6_equals : ByteArray := prog_40_method_66_code
def yJ6_equals : MethodName := ⟨RJ6, "equals", "(Ljava/lang/Object;)Z"⟩
def dkwJ6_equals_2 : List UInt8 := [184, 2, 29, 153, 0, 7, 4, 167, 0, 4, 3, 172]
abbrev dktJ6_equals_2 : List UInt8 := dkwJ6_equals_2 ++ []
def dkwJ6_equals_1 : List UInt8 := [153, 0, 14, 42, 180, 0, 15, 44, 180, 0, 15, 160, 0, 21, 42, 180, 0, 9, 44, 180, 0, 9]
abbrev dktJ6_equals_1 : List UInt8 := dkwJ6_equals_1 ++ dktJ6_equals_2
def dkwJ6_equals_0 : List UInt8 := [42, 43, 166, 0, 5, 4, 172, 43, 193, 0, 10, 153, 0, 43, 43, 192, 0, 10, 77, 178, 0, 38]
abbrev dktJ6_equals_0 : List UInt8 := dkwJ6_equals_0 ++ dktJ6_equals_1
theorem dksJ6_equals_0 : cJ6_equals.data.toList.drop 0 = dktJ6_equals_0 := by decide +kernel
theorem dksJ6_equals_1 : cJ6_equals.data.toList.drop 22 = dktJ6_equals_1 := dk_seg dksJ6_equals_0 22 rfl rfl
theorem dksJ6_equals_2 : cJ6_equals.data.toList.drop 44 = dktJ6_equals_2 := dk_seg dksJ6_equals_1 22 rfl rfl
theorem dJ6_equals_0 : decode cJ6_equals 0 = .ok (.aload_n 0, 1) := dk_42 (dk_at dksJ6_equals_0 0 rfl rfl)
theorem dJ6_equals_1 : decode cJ6_equals 1 = .ok (.aload_n 1, 1) := dk_43 (dk_at dksJ6_equals_0 1 rfl rfl)
theorem dJ6_equals_2 : decode cJ6_equals 2 = .ok (.if_acmp .ne 5, 3) := dk_166 0 5 (dk_at dksJ6_equals_0 2 rfl rfl)
theorem dJ6_equals_5 : decode cJ6_equals 5 = .ok (.iconst 1, 1) := dk_4 (dk_at dksJ6_equals_0 5 rfl rfl)
theorem dJ6_equals_6 : decode cJ6_equals 6 = .ok (.ireturn, 1) := dk_172 (dk_at dksJ6_equals_0 6 rfl rfl)
theorem dJ6_equals_7 : decode cJ6_equals 7 = .ok (.aload_n 1, 1) := dk_43 (dk_at dksJ6_equals_0 7 rfl rfl)
theorem dJ6_equals_8 : decode cJ6_equals 8 = .ok (.instanceof 10, 3) := dk_193 0 10 (dk_at dksJ6_equals_0 8 rfl rfl)
theorem dJ6_equals_11 : decode cJ6_equals 11 = .ok (.ifCond .eq 43, 3) := dk_153 0 43 (dk_at dksJ6_equals_0 11 rfl rfl)
theorem dJ6_equals_14 : decode cJ6_equals 14 = .ok (.aload_n 1, 1) := dk_43 (dk_at dksJ6_equals_0 14 rfl rfl)
theorem dJ6_equals_15 : decode cJ6_equals 15 = .ok (.checkcast 10, 3) := dk_192 0 10 (dk_at dksJ6_equals_0 15 rfl rfl)
theorem dJ6_equals_18 : decode cJ6_equals 18 = .ok (.astore_n 2, 1) := dk_77 (dk_at dksJ6_equals_0 18 rfl rfl)
theorem dJ6_equals_19 : decode cJ6_equals 19 = .ok (.getstatic 38, 3) := dk_178 0 38 (dk_at dksJ6_equals_0 19 rfl rfl)
theorem dJ6_equals_22 : decode cJ6_equals 22 = .ok (.ifCond .eq 14, 3) := dk_153 0 14 (dk_at dksJ6_equals_1 0 rfl rfl)
theorem dJ6_equals_25 : decode cJ6_equals 25 = .ok (.aload_n 0, 1) := dk_42 (dk_at dksJ6_equals_1 3 rfl rfl)
theorem dJ6_equals_26 : decode cJ6_equals 26 = .ok (.getfield 15, 3) := dk_180 0 15 (dk_at dksJ6_equals_1 4 rfl rfl)
theorem dJ6_equals_29 : decode cJ6_equals 29 = .ok (.aload_n 2, 1) := dk_44 (dk_at dksJ6_equals_1 7 rfl rfl)
theorem dJ6_equals_30 : decode cJ6_equals 30 = .ok (.getfield 15, 3) := dk_180 0 15 (dk_at dksJ6_equals_1 8 rfl rfl)
theorem dJ6_equals_33 : decode cJ6_equals 33 = .ok (.if_icmp .ne 21, 3) := dk_160 0 21 (dk_at dksJ6_equals_1 11 rfl rfl)
theorem dJ6_equals_36 : decode cJ6_equals 36 = .ok (.aload_n 0, 1) := dk_42 (dk_at dksJ6_equals_1 14 rfl rfl)
theorem dJ6_equals_37 : decode cJ6_equals 37 = .ok (.getfield 9, 3) := dk_180 0 9 (dk_at dksJ6_equals_1 15 rfl rfl)
theorem dJ6_equals_40 : decode cJ6_equals 40 = .ok (.aload_n 2, 1) := dk_44 (dk_at dksJ6_equals_1 18 rfl rfl)
theorem dJ6_equals_41 : decode cJ6_equals 41 = .ok (.getfield 9, 3) := dk_180 0 9 (dk_at dksJ6_equals_1 19 rfl rfl)
theorem dJ6_equals_44 : decode cJ6_equals 44 = .ok (.invokestatic 541, 3) := dk_184 2 29 (dk_at dksJ6_equals_2 0 rfl rfl)
theorem dJ6_equals_47 : decode cJ6_equals 47 = .ok (.ifCond .eq 7, 3) := dk_153 0 7 (dk_at dksJ6_equals_2 3 rfl rfl)
theorem dJ6_equals_50 : decode cJ6_equals 50 = .ok (.iconst 1, 1) := dk_4 (dk_at dksJ6_equals_2 6 rfl rfl)
theorem dJ6_equals_51 : decode cJ6_equals 51 = .ok (.goto 4, 3) := dk_167 0 4 (dk_at dksJ6_equals_2 7 rfl rfl)
theorem dJ6_equals_54 : decode cJ6_equals 54 = .ok (.iconst 0, 1) := dk_3 (dk_at dksJ6_equals_2 10 rfl rfl)
theorem dJ6_equals_55 : decode cJ6_equals 55 = .ok (.ireturn, 1) := dk_172 (dk_at dksJ6_equals_2 11 rfl rfl)
abbrev cJ6_charAt : ByteArray := prog_40_method_56_code
def yJ6_charAt : MethodName := ⟨RJ6, "charAt", "(I)C"⟩
def dkwJ6_charAt_1 : List UInt8 := [172]
abbrev dktJ6_charAt_1 : List UInt8 := dkwJ6_charAt_1 ++ []
def dkwJ6_charAt_0 : List UInt8 := [42, 182, 1, 236, 153, 0, 12, 42, 180, 0, 9, 27, 184, 1, 239, 172, 42, 180, 0, 9, 27, 184, 1, 242]
abbrev dktJ6_charAt_0 : List UInt8 := dkwJ6_charAt_0 ++ dktJ6_charAt_1
theorem dksJ6_charAt_0 : cJ6_charAt.data.toList.drop 0 = dktJ6_charAt_0 := by decide +kernel
theorem dksJ6_charAt_1 : cJ6_charAt.data.toList.drop 24 = dktJ6_charAt_1 := dk_seg dksJ6_charAt_0 24 rfl rfl
theorem dJ6_charAt_0 : decode cJ6_charAt 0 = .ok (.aload_n 0, 1) := dk_42 (dk_at dksJ6_charAt_0 0 rfl rfl)
theorem dJ6_charAt_1 : decode cJ6_charAt 1 = .ok (.invokevirtual 492, 3) := dk_182 1 236 (dk_at dksJ6_charAt_0 1 rfl rfl)
theorem dJ6_charAt_4 : decode cJ6_charAt 4 = .ok (.ifCond .eq 12, 3) := dk_153 0 12 (dk_at dksJ6_charAt_0 4 rfl rfl)
theorem dJ6_charAt_7 : decode cJ6_charAt 7 = .ok (.aload_n 0, 1) := dk_42 (dk_at dksJ6_charAt_0 7 rfl rfl)
theorem dJ6_charAt_8 : decode cJ6_charAt 8 = .ok (.getfield 9, 3) := dk_180 0 9 (dk_at dksJ6_charAt_0 8 rfl rfl)
theorem dJ6_charAt_11 : decode cJ6_charAt 11 = .ok (.iload_n 1, 1) := dk_27 (dk_at dksJ6_charAt_0 11 rfl rfl)
theorem dJ6_charAt_12 : decode cJ6_charAt 12 = .ok (.invokestatic 495, 3) := dk_184 1 239 (dk_at dksJ6_charAt_0 12 rfl rfl)
theorem dJ6_charAt_15 : decode cJ6_charAt 15 = .ok (.ireturn, 1) := dk_172 (dk_at dksJ6_charAt_0 15 rfl rfl)
theorem dJ6_charAt_16 : decode cJ6_charAt 16 = .ok (.aload_n 0, 1) := dk_42 (dk_at dksJ6_charAt_0 16 rfl rfl)
theorem dJ6_charAt_17 : decode cJ6_charAt 17 = .ok (.getfield 9, 3) := dk_180 0 9 (dk_at dksJ6_charAt_0 17 rfl rfl)
theorem dJ6_charAt_20 : decode cJ6_charAt 20 = .ok (.iload_n 1, 1) := dk_27 (dk_at dksJ6_charAt_0 20 rfl rfl)
theorem dJ6_charAt_21 : decode cJ6_charAt 21 = .ok (.invokestatic 498, 3) := dk_184 1 242 (dk_at dksJ6_charAt_0 21 rfl rfl)
theorem dJ6_charAt_24 : decode cJ6_charAt 24 = .ok (.ireturn, 1) := dk_172 (dk_at dksJ6_charAt_1 0 rfl rfl)
abbrev cJ6_hashCode : ByteArray := prog_40_method_78_code
def yJ6_hashCode : MethodName := ⟨RJ6, "hashCode", "()I"⟩
def dkwJ6_hashCode_2 : List UInt8 := [181, 0, 23, 167, 0, 8, 42, 27, 181, 0, 19, 27, 172]
abbrev dktJ6_hashCode_2 : List UInt8 := dkwJ6_hashCode_2 ++ []
def dkwJ6_hashCode_1 : List UInt8 := [180, 0, 9, 184, 2, 116, 167, 0, 10, 42, 180, 0, 9, 184, 2, 120, 60, 27, 154, 0, 11, 42, 4]
abbrev dktJ6_hashCode_1 : List UInt8 := dkwJ6_hashCode_1 ++ dktJ6_hashCode_2
def dkwJ6_hashCode_0 : List UInt8 := [42, 180, 0, 19, 60, 27, 154, 0, 52, 42, 180, 0, 23, 154, 0, 45, 42, 182, 1, 236, 153, 0, 13, 42]
abbrev dktJ6_hashCode_0 : List UInt8 := dkwJ6_hashCode_0 ++ dktJ6_hashCode_1
theorem dksJ6_hashCode_0 : cJ6_hashCode.data.toList.drop 0 = dktJ6_hashCode_0 := by decide +kernel
theorem dksJ6_hashCode_1 : cJ6_hashCode.data.toList.drop 24 = dktJ6_hashCode_1 := dk_seg dksJ6_hashCode_0 24 rfl rfl
theorem dksJ6_hashCode_2 : cJ6_hashCode.data.toList.drop 47 = dktJ6_hashCode_2 := dk_seg dksJ6_hashCode_1 23 rfl rfl
theorem dJ6_hashCode_0 : decode cJ6_hashCode 0 = .ok (.aload_n 0, 1) := dk_42 (dk_at dksJ6_hashCode_0 0 rfl rfl)
theorem dJ6_hashCode_1 : decode cJ6_hashCode 1 = .ok (.getfield 19, 3) := dk_180 0 19 (dk_at dksJ6_hashCode_0 1 rfl rfl)
theorem dJ6_hashCode_4 : decode cJ6_hashCode 4 = .ok (.istore_n 1, 1) := dk_60 (dk_at dksJ6_hashCode_0 4 rfl rfl)
theorem dJ6_hashCode_5 : decode cJ6_hashCode 5 = .ok (.iload_n 1, 1) := dk_27 (dk_at dksJ6_hashCode_0 5 rfl rfl)
theorem dJ6_hashCode_6 : decode cJ6_hashCode 6 = .ok (.ifCond .ne 52, 3) := dk_154 0 52 (dk_at dksJ6_hashCode_0 6 rfl rfl)
theorem dJ6_hashCode_9 : decode cJ6_hashCode 9 = .ok (.aload_n 0, 1) := dk_42 (dk_at dksJ6_hashCode_0 9 rfl rfl)
theorem dJ6_hashCode_10 : decode cJ6_hashCode 10 = .ok (.getfield 23, 3) := dk_180 0 23 (dk_at dksJ6_hashCode_0 10 rfl rfl)
theorem dJ6_hashCode_13 : decode cJ6_hashCode 13 = .ok (.ifCond .ne 45, 3) := dk_154 0 45 (dk_at dksJ6_hashCode_0 13 rfl rfl)
theorem dJ6_hashCode_16 : decode cJ6_hashCode 16 = .ok (.aload_n 0, 1) := dk_42 (dk_at dksJ6_hashCode_0 16 rfl rfl)
theorem dJ6_hashCode_17 : decode cJ6_hashCode 17 = .ok (.invokevirtual 492, 3) := dk_182 1 236 (dk_at dksJ6_hashCode_0 17 rfl rfl)
theorem dJ6_hashCode_20 : decode cJ6_hashCode 20 = .ok (.ifCond .eq 13, 3) := dk_153 0 13 (dk_at dksJ6_hashCode_0 20 rfl rfl)
theorem dJ6_hashCode_23 : decode cJ6_hashCode 23 = .ok (.aload_n 0, 1) := dk_42 (dk_at dksJ6_hashCode_0 23 rfl rfl)
theorem dJ6_hashCode_24 : decode cJ6_hashCode 24 = .ok (.getfield 9, 3) := dk_180 0 9 (dk_at dksJ6_hashCode_1 0 rfl rfl)
theorem dJ6_hashCode_27 : decode cJ6_hashCode 27 = .ok (.invokestatic 628, 3) := dk_184 2 116 (dk_at dksJ6_hashCode_1 3 rfl rfl)
theorem dJ6_hashCode_30 : decode cJ6_hashCode 30 = .ok (.goto 10, 3) := dk_167 0 10 (dk_at dksJ6_hashCode_1 6 rfl rfl)
theorem dJ6_hashCode_33 : decode cJ6_hashCode 33 = .ok (.aload_n 0, 1) := dk_42 (dk_at dksJ6_hashCode_1 9 rfl rfl)
theorem dJ6_hashCode_34 : decode cJ6_hashCode 34 = .ok (.getfield 9, 3) := dk_180 0 9 (dk_at dksJ6_hashCode_1 10 rfl rfl)
theorem dJ6_hashCode_37 : decode cJ6_hashCode 37 = .ok (.invokestatic 632, 3) := dk_184 2 120 (dk_at dksJ6_hashCode_1 13 rfl rfl)
theorem dJ6_hashCode_40 : decode cJ6_hashCode 40 = .ok (.istore_n 1, 1) := dk_60 (dk_at dksJ6_hashCode_1 16 rfl rfl)
theorem dJ6_hashCode_41 : decode cJ6_hashCode 41 = .ok (.iload_n 1, 1) := dk_27 (dk_at dksJ6_hashCode_1 17 rfl rfl)
theorem dJ6_hashCode_42 : decode cJ6_hashCode 42 = .ok (.ifCond .ne 11, 3) := dk_154 0 11 (dk_at dksJ6_hashCode_1 18 rfl rfl)
theorem dJ6_hashCode_45 : decode cJ6_hashCode 45 = .ok (.aload_n 0, 1) := dk_42 (dk_at dksJ6_hashCode_1 21 rfl rfl)
theorem dJ6_hashCode_46 : decode cJ6_hashCode 46 = .ok (.iconst 1, 1) := dk_4 (dk_at dksJ6_hashCode_1 22 rfl rfl)
theorem dJ6_hashCode_47 : decode cJ6_hashCode 47 = .ok (.putfield 23, 3) := dk_181 0 23 (dk_at dksJ6_hashCode_2 0 rfl rfl)
theorem dJ6_hashCode_50 : decode cJ6_hashCode 50 = .ok (.goto 8, 3) := dk_167 0 8 (dk_at dksJ6_hashCode_2 3 rfl rfl)
theorem dJ6_hashCode_53 : decode cJ6_hashCode 53 = .ok (.aload_n 0, 1) := dk_42 (dk_at dksJ6_hashCode_2 6 rfl rfl)
theorem dJ6_hashCode_54 : decode cJ6_hashCode 54 = .ok (.iload_n 1, 1) := dk_27 (dk_at dksJ6_hashCode_2 7 rfl rfl)
theorem dJ6_hashCode_55 : decode cJ6_hashCode 55 = .ok (.putfield 19, 3) := dk_181 0 19 (dk_at dksJ6_hashCode_2 8 rfl rfl)
theorem dJ6_hashCode_58 : decode cJ6_hashCode 58 = .ok (.iload_n 1, 1) := dk_27 (dk_at dksJ6_hashCode_2 11 rfl rfl)
theorem dJ6_hashCode_59 : decode cJ6_hashCode 59 = .ok (.ireturn, 1) := dk_172 (dk_at dksJ6_hashCode_2 12 rfl rfl)
theorem q110 : (Jvm.Cond.initialized "java/lang/String") ∈ lw_all := lw_g (lw_at lw_m1 13 rfl) rfl
theorem q368 : (Jvm.Cond.laysStatic "java/lang/String" "COMPACT_STRINGS" "Z") ∈ lw_tbl := lw_at lw_m2 31 rfl
theorem q378 : (Jvm.Cond.fieldLink "java/lang/String" (1048 : Nat) "java/lang/AbstractStringBuilder" "maybeLatin1" "Z") ∈ lw_all := lw_g (lw_at lw_m2 41 rfl) rfl
theorem q456 : (Jvm.Cond.static ({ cls := "java/lang/String", name := "checkBoundsOffCount", desc := "(III)I" } : Jvm.MethodName)) ∈ lw_all := lw_g (lw_at lw_m2 119 rfl) rfl
theorem q457 : (Jvm.Cond.code ({ cls := "java/lang/String", name := "checkBoundsOffCount", desc := "(III)I" } : Jvm.MethodName) prog_40_method_157_code (3 : Nat) (Option.some Jvm.ClassFile.FieldType.int)) ∈ lw_all := lw_g (lw_at lw_m2 120 rfl) rfl
theorem q458 : (Jvm.Cond.fieldLink "java/lang/String" (1053 : Nat) "jdk/internal/util/Preconditions" "SIOOBE_FORMATTER" "Ljava/util/function/BiFunction;") ∈ lw_all := lw_g (lw_at lw_m2 121 rfl) rfl
theorem q460 : (Jvm.Cond.methodLink "java/lang/String" (1065 : Nat) ({ cls := "jdk/internal/util/Preconditions", name := "checkFromIndexSize", desc := "(IIILjava/util/function/BiFunction;)I" } : Jvm.MethodName)) ∈ lw_all := lw_g (lw_at lw_m2 123 rfl) rfl
theorem q479 : (Jvm.Cond.static ({ cls := "java/lang/String", name := "checkIndex", desc := "(II)V" } : Jvm.MethodName)) ∈ lw_all := lw_g (lw_at lw_m2 142 rfl) rfl
theorem q480 : (Jvm.Cond.code ({ cls := "java/lang/String", name := "checkIndex", desc := "(II)V" } : Jvm.MethodName) prog_40_method_155_code (2 : Nat) (Option.none : Option Jvm.ClassFile.FieldType)) ∈ lw_all := lw_g (lw_at lw_m2 143 rfl) rfl
theorem q481 : (Jvm.Cond.methodLink "java/lang/String" (1059 : Nat) ({ cls := "jdk/internal/util/Preconditions", name := "checkIndex", desc := "(IILjava/util/function/BiFunction;)I" } : Jvm.MethodName)) ∈ lw_all := lw_g (lw_at lw_m2 144 rfl) rfl
theorem q489 : (Jvm.Cond.instantiable "java/lang/String" (4 : Nat)) ∈ lw_all := lw_g (lw_at lw_m2 152 rfl) rfl
theorem q491 : (Jvm.Cond.instanceMethod ({ cls := "java/lang/String", name := "<init>", desc := "(Ljava/lang/StringBuilder;)V" } : Jvm.MethodName)) ∈ lw_all := lw_g (lw_at lw_m2 154 rfl) rfl
theorem q492 : (Jvm.Cond.code ({ cls := "java/lang/String", name := "<init>", desc := "(Ljava/lang/StringBuilder;)V" } : Jvm.MethodName) prog_40_method_53_code (2 : Nat) (Option.none : Option Jvm.ClassFile.FieldType)) ∈ lw_all := lw_g (lw_at lw_m2 155 rfl) rfl
theorem q493 : (Jvm.Cond.methodLink "java/lang/String" (489 : Nat) ({ cls := "java/lang/String", name := "<init>", desc := "(Ljava/lang/AbstractStringBuilder;Ljava/lang/Void;)V" } : Jvm.MethodName)) ∈ lw_all := lw_g (lw_at lw_m2 156 rfl) rfl
theorem q494 : (Jvm.Cond.instanceMethod ({ cls := "java/lang/String", name := "<init>", desc := "(Ljava/lang/AbstractStringBuilder;Ljava/lang/Void;)V" } : Jvm.MethodName)) ∈ lw_all := lw_g (lw_at lw_m2 157 rfl) rfl
theorem q495 : (Jvm.Cond.code ({ cls := "java/lang/String", name := "<init>", desc := "(Ljava/lang/AbstractStringBuilder;Ljava/lang/Void;)V" } : Jvm.MethodName) prog_40_method_150_code (5 : Nat) (Option.none : Option Jvm.ClassFile.FieldType)) ∈ lw_all := lw_g (lw_at lw_m2 158 rfl) rfl
theorem q496 : (Jvm.Cond.methodLink "java/lang/String" (1 : Nat) ({ cls := "java/lang/Object", name := "<init>", desc := "()V" } : Jvm.MethodName)) ∈ lw_all := lw_g (lw_at lw_m2 159 rfl) rfl
theorem q497 : (Jvm.Cond.methodLink "java/lang/String" (552 : Nat) ({ cls := "java/lang/AbstractStringBuilder", name := "getValue", desc := "()[B" } : Jvm.MethodName)) ∈ lw_all := lw_g (lw_at lw_m2 160 rfl) rfl
theorem q502 : (Jvm.Cond.methodLink "java/lang/String" (549 : Nat) ({ cls := "java/lang/AbstractStringBuilder", name := "length", desc := "()I" } : Jvm.MethodName)) ∈ lw_all := lw_g (lw_at lw_m2 165 rfl) rfl
theorem q510 : (Jvm.Cond.methodLink "java/lang/String" (1047 : Nat) ({ cls := "java/lang/AbstractStringBuilder", name := "isLatin1", desc := "()Z" } : Jvm.MethodName)) ∈ lw_all := lw_g (lw_at lw_m2 173 rfl) rfl
theorem q511 : (Jvm.Cond.methodLink "java/lang/String" (54 : Nat) ({ cls := "java/util/Arrays", name := "copyOfRange", desc := "([BII)[B" } : Jvm.MethodName)) ∈ lw_all := lw_g (lw_at lw_m2 174 rfl) rfl
theorem q520 : (Jvm.Cond.fieldLink "java/lang/String" (38 : Nat) "java/lang/String" "COMPACT_STRINGS" "Z") ∈ lw_all := lw_g (lw_at lw_m2 183 rfl) rfl
theorem q521 : (Jvm.Cond.methodLink "java/lang/String" (1051 : Nat) ({ cls := "java/lang/StringUTF16", name := "compress", desc := "([BII)[B" } : Jvm.MethodName)) ∈ lw_all := lw_g (lw_at lw_m2 184 rfl) rfl
theorem q531 : (Jvm.Cond.methodLink "java/lang/String" (47 : Nat) ({ cls := "java/lang/StringUTF16", name := "coderFromArrayLen", desc := "([BI)B" } : Jvm.MethodName)) ∈ lw_all := lw_g (lw_at lw_m2 194 rfl) rfl
theorem q534 : (Jvm.Cond.fieldLink "java/lang/String" (9 : Nat) "java/lang/String" "value" "[B") ∈ lw_all := lw_g (lw_at lw_m2 197 rfl) rfl
theorem q535 : (Jvm.Cond.fieldLink "java/lang/String" (15 : Nat) "java/lang/String" "coder" "B") ∈ lw_all := lw_g (lw_at lw_m2 198 rfl) rfl
theorem q536 : (Jvm.Cond.fieldLink "java/lang/String" (19 : Nat) "java/lang/String" "hash" "I") ∈ lw_all := lw_g (lw_at lw_m2 199 rfl) rfl
theorem q537 : (Jvm.Cond.fieldLink "java/lang/String" (23 : Nat) "java/lang/String" "hashIsZero" "Z") ∈ lw_all := lw_g (lw_at lw_m2 200 rfl) rfl
theorem q538 : (Jvm.Cond.laysFinal "java/lang/String" "java/lang/String" "value" "[B") ∈ lw_all := lw_g (lw_at lw_m2 201 rfl) rfl
theorem q539 : (Jvm.Cond.soleField "java/lang/String" "value") ∈ lw_all := lw_g (lw_at lw_m2 202 rfl) rfl
theorem q540 : (Jvm.Cond.laysFinal "java/lang/String" "java/lang/String" "coder" "B") ∈ lw_all := lw_g (lw_at lw_m2 203 rfl) rfl
theorem q541 : (Jvm.Cond.soleField "java/lang/String" "coder") ∈ lw_all := lw_g (lw_at lw_m2 204 rfl) rfl
theorem q542 : (Jvm.Cond.lays "java/lang/String" "java/lang/String" "hash" "I") ∈ lw_all := lw_g (lw_at lw_m2 205 rfl) rfl
theorem q543 : (Jvm.Cond.soleField "java/lang/String" "hash") ∈ lw_all := lw_g (lw_at lw_m2 206 rfl) rfl
theorem q544 : (Jvm.Cond.lays "java/lang/String" "java/lang/String" "hashIsZero" "Z") ∈ lw_all := lw_g (lw_at lw_m2 207 rfl) rfl
theorem q545 : (Jvm.Cond.soleField "java/lang/String" "hashIsZero") ∈ lw_all := lw_g (lw_at lw_m2 208 rfl) rfl
theorem q546 : (Jvm.Cond.superclass "java/lang/String" "java/lang/Object") ∈ lw_all := lw_g (lw_at lw_m2 209 rfl) rfl
theorem q560 : (Jvm.Cond.instanceMethod ({ cls := "java/lang/String", name := "indexOf", desc := "(I)I" } : Jvm.MethodName)) ∈ lw_all := lw_g (lw_at lw_m2 223 rfl) rfl
theorem q561 : (Jvm.Cond.selects "java/lang/String" ({ cls := "java/lang/String", name := "indexOf", desc := "(I)I" } : Jvm.MethodName) ({ cls := "java/lang/String", name := "indexOf", desc := "(I)I" } : Jvm.MethodName)) ∈ lw_all := lw_g (lw_at lw_m2 224 rfl) rfl
theorem q562 : (Jvm.Cond.code ({ cls := "java/lang/String", name := "indexOf", desc := "(I)I" } : Jvm.MethodName) prog_40_method_79_code (2 : Nat) (Option.some Jvm.ClassFile.FieldType.int)) ∈ lw_all := lw_g (lw_at lw_m2 225 rfl) rfl
theorem q563 : (Jvm.Cond.methodLink "java/lang/String" (633 : Nat) ({ cls := "java/lang/String", name := "indexOf", desc := "(II)I" } : Jvm.MethodName)) ∈ lw_all := lw_g (lw_at lw_m2 226 rfl) rfl
theorem q564 : (Jvm.Cond.instanceMethod ({ cls := "java/lang/String", name := "indexOf", desc := "(II)I" } : Jvm.MethodName)) ∈ lw_all := lw_g (lw_at lw_m2 227 rfl) rfl
theorem q565 : (Jvm.Cond.selects "java/lang/String" ({ cls := "java/lang/String", name := "indexOf", desc := "(II)I" } : Jvm.MethodName) ({ cls := "java/lang/String", name := "indexOf", desc := "(II)I" } : Jvm.MethodName)) ∈ lw_all := lw_g (lw_at lw_m2 228 rfl) rfl
theorem q566 : (Jvm.Cond.code ({ cls := "java/lang/String", name := "indexOf", desc := "(II)I" } : Jvm.MethodName) prog_40_method_80_code (3 : Nat) (Option.some Jvm.ClassFile.FieldType.int)) ∈ lw_all := lw_g (lw_at lw_m2 229 rfl) rfl
theorem q567 : (Jvm.Cond.methodLink "java/lang/String" (492 : Nat) ({ cls := "java/lang/String", name := "isLatin1", desc := "()Z" } : Jvm.MethodName)) ∈ lw_all := lw_g (lw_at lw_m2 230 rfl) rfl
theorem q568 : (Jvm.Cond.instanceMethod ({ cls := "java/lang/String", name := "isLatin1", desc := "()Z" } : Jvm.MethodName)) ∈ lw_all := lw_g (lw_at lw_m2 231 rfl) rfl
theorem q569 : (Jvm.Cond.selects "java/lang/String" ({ cls := "java/lang/String", name := "isLatin1", desc := "()Z" } : Jvm.MethodName) ({ cls := "java/lang/String", name := "isLatin1", desc := "()Z" } : Jvm.MethodName)) ∈ lw_all := lw_g (lw_at lw_m2 232 rfl) rfl
theorem q570 : (Jvm.Cond.code ({ cls := "java/lang/String", name := "isLatin1", desc := "()Z" } : Jvm.MethodName) prog_40_method_154_code (1 : Nat) (Option.some Jvm.ClassFile.FieldType.boolean)) ∈ lw_all := lw_g (lw_at lw_m2 233 rfl) rfl
theorem q571 : (Jvm.Cond.methodLink "java/lang/String" (505 : Nat) ({ cls := "java/lang/String", name := "length", desc := "()I" } : Jvm.MethodName)) ∈ lw_all := lw_g (lw_at lw_m2 234 rfl) rfl
theorem q572 : (Jvm.Cond.instanceMethod ({ cls := "java/lang/String", name := "length", desc := "()I" } : Jvm.MethodName)) ∈ lw_all := lw_g (lw_at lw_m2 235 rfl) rfl
theorem q573 : (Jvm.Cond.selects "java/lang/String" ({ cls := "java/lang/String", name := "length", desc := "()I" } : Jvm.MethodName) ({ cls := "java/lang/String", name := "length", desc := "()I" } : Jvm.MethodName)) ∈ lw_all := lw_g (lw_at lw_m2 236 rfl) rfl
theorem q574 : (Jvm.Cond.code ({ cls := "java/lang/String", name := "length", desc := "()I" } : Jvm.MethodName) prog_40_method_54_code (1 : Nat) (Option.some Jvm.ClassFile.FieldType.int)) ∈ lw_all := lw_g (lw_at lw_m2 237 rfl) rfl
theorem q575 : (Jvm.Cond.methodLink "java/lang/String" (335 : Nat) ({ cls := "java/lang/String", name := "coder", desc := "()B" } : Jvm.MethodName)) ∈ lw_all := lw_g (lw_at lw_m2 238 rfl) rfl
theorem q576 : (Jvm.Cond.instanceMethod ({ cls := "java/lang/String", name := "coder", desc := "()B" } : Jvm.MethodName)) ∈ lw_all := lw_g (lw_at lw_m2 239 rfl) rfl
theorem q577 : (Jvm.Cond.selects "java/lang/String" ({ cls := "java/lang/String", name := "coder", desc := "()B" } : Jvm.MethodName) ({ cls := "java/lang/String", name := "coder", desc := "()B" } : Jvm.MethodName)) ∈ lw_all := lw_g (lw_at lw_m3 0 rfl) rfl
theorem q578 : (Jvm.Cond.code ({ cls := "java/lang/String", name := "coder", desc := "()B" } : Jvm.MethodName) prog_40_method_152_code (1 : Nat) (Option.some Jvm.ClassFile.FieldType.byte)) ∈ lw_all := lw_g (lw_at lw_m3 1 rfl) rfl
theorem q579 : (Jvm.Cond.methodLink "java/lang/String" (637 : Nat) ({ cls := "java/lang/StringLatin1", name := "indexOf", desc := "([BIII)I" } : Jvm.MethodName)) ∈ lw_all := lw_g (lw_at lw_m3 2 rfl) rfl
theorem q590 : (Jvm.Cond.methodLink "java/lang/String" (640 : Nat) ({ cls := "java/lang/StringUTF16", name := "indexOf", desc := "([BIII)I" } : Jvm.MethodName)) ∈ lw_all := lw_g (lw_at lw_m3 13 rfl) rfl
theorem q603 : (Jvm.Cond.static ({ cls := "java/lang/String", name := "checkBoundsBeginEnd", desc := "(III)V" } : Jvm.MethodName)) ∈ lw_all := lw_g (lw_at lw_m3 26 rfl) rfl
theorem q604 : (Jvm.Cond.code ({ cls := "java/lang/String", name := "checkBoundsBeginEnd", desc := "(III)V" } : Jvm.MethodName) prog_40_method_158_code (3 : Nat) (Option.none : Option Jvm.ClassFile.FieldType)) ∈ lw_all := lw_g (lw_at lw_m3 27 rfl) rfl
theorem q605 : (Jvm.Cond.methodLink "java/lang/String" (1062 : Nat) ({ cls := "jdk/internal/util/Preconditions", name := "checkFromToIndex", desc := "(IIILjava/util/function/BiFunction;)I" } : Jvm.MethodName)) ∈ lw_all := lw_g (lw_at lw_m3 28 rfl) rfl
theorem q672 : (Jvm.Cond.instanceMethod ({ cls := "java/lang/String", name := "equals", desc := "(Ljava/lang/Object;)Z" } : Jvm.MethodName)) ∈ lw_all := lw_g (lw_at lw_m3 95 rfl) rfl
theorem q673 : (Jvm.Cond.selects "java/lang/String" ({ cls := "java/lang/String", name := "equals", desc := "(Ljava/lang/Object;)Z" } : Jvm.MethodName) ({ cls := "java/lang/String", name := "equals", desc := "(Ljava/lang/Object;)Z" } : Jvm.MethodName)) ∈ lw_all := lw_g (lw_at lw_m3 96 rfl) rfl
theorem q674 : (Jvm.Cond.code ({ cls := "java/lang/String", name := "equals", desc := "(Ljava/lang/Object;)Z" } : Jvm.MethodName) prog_40_method_66_code (3 : Nat) (Option.some Jvm.ClassFile.FieldType.boolean)) ∈ lw_all := lw_g (lw_at lw_m3 97 rfl) rfl
theorem q675 : (Jvm.Cond.classLink "java/lang/String" (10 : Nat) "java/lang/String") ∈ lw_all := lw_g (lw_at lw_m3 98 rfl) rfl
theorem q676 : (Jvm.Cond.methodLink "java/lang/String" (541 : Nat) ({ cls := "java/lang/StringLatin1", name := "equals", desc := "([B[B)Z" } : Jvm.MethodName)) ∈ lw_all := lw_g (lw_at lw_m3 99 rfl) rfl
theorem q680 : (Jvm.Cond.instanceMethod ({ cls := "java/lang/String", name := "charAt", desc := "(I)C" } : Jvm.MethodName)) ∈ lw_all := lw_g (lw_at lw_m3 103 rfl) rfl
theorem q681 : (Jvm.Cond.selects "java/lang/String" ({ cls := "java/lang/String", name := "charAt", desc := "(I)C" } : Jvm.MethodName) ({ cls := "java/lang/String", name := "charAt", desc := "(I)C" } : Jvm.MethodName)) ∈ lw_all := lw_g (lw_at lw_m3 104 rfl) rfl
theorem q682 : (Jvm.Cond.code ({ cls := "java/lang/String", name := "charAt", desc := "(I)C" } : Jvm.MethodName) prog_40_method_56_code (2 : Nat) (Option.some Jvm.ClassFile.FieldType.char)) ∈ lw_all := lw_g (lw_at lw_m3 105 rfl) rfl
theorem q683 : (Jvm.Cond.methodLink "java/lang/String" (495 : Nat) ({ cls := "java/lang/StringLatin1", name := "charAt", desc := "([BI)C" } : Jvm.MethodName)) ∈ lw_all := lw_g (lw_at lw_m3 106 rfl) rfl
theorem q687 : (Jvm.Cond.methodLink "java/lang/String" (498 : Nat) ({ cls := "java/lang/StringUTF16", name := "charAt", desc := "([BI)C" } : Jvm.MethodName)) ∈ lw_all := lw_g (lw_at lw_m3 110 rfl) rfl
theorem q709 : (Jvm.Cond.instanceMethod ({ cls := "java/lang/String", name := "hashCode", desc := "()I" } : Jvm.MethodName)) ∈ lw_all := lw_g (lw_at lw_m3 132 rfl) rfl
theorem q710 : (Jvm.Cond.selects "java/lang/String" ({ cls := "java/lang/String", name := "hashCode", desc := "()I" } : Jvm.MethodName) ({ cls := "java/lang/String", name := "hashCode", desc := "()I" } : Jvm.MethodName)) ∈ lw_all := lw_g (lw_at lw_m3 133 rfl) rfl
theorem q711 : (Jvm.Cond.code ({ cls := "java/lang/String", name := "hashCode", desc := "()I" } : Jvm.MethodName) prog_40_method_78_code (2 : Nat) (Option.some Jvm.ClassFile.FieldType.int)) ∈ lw_all := lw_g (lw_at lw_m3 134 rfl) rfl
theorem q712 : (Jvm.Cond.methodLink "java/lang/String" (628 : Nat) ({ cls := "java/lang/StringLatin1", name := "hashCode", desc := "([B)I" } : Jvm.MethodName)) ∈ lw_all := lw_g (lw_at lw_m3 135 rfl) rfl
theorem q753 : (Jvm.Cond.methodLink "java/lang/String" (632 : Nat) ({ cls := "java/lang/StringUTF16", name := "hashCode", desc := "([B)I" } : Jvm.MethodName)) ∈ lw_all := lw_g (lw_at lw_m3 176 rfl) rfl
theorem q978 : (Jvm.Cond.selects "java/lang/String" ({ cls := "java/lang/Object", name := "getClass", desc := "()Ljava/lang/Class;" } : Jvm.MethodName) ({ cls := "java/lang/Object", name := "getClass", desc := "()Ljava/lang/Class;" } : Jvm.MethodName)) ∈ lw_all := lw_g (lw_at lw_m4 161 rfl) rfl
theorem q2564 : (Jvm.Cond.castable "java/lang/String" "java/lang/Object") ∈ lw_tbl := lw_at lw_m11 67 rfl
theorem in_J6 : ∀ w ∈ wsJ60, w ∈ lw_all := lw_in wsJ60 [538, 540, 542, 544] (by decide +kernel) (by decide +kernel)

/-! java/lang/Math -/
set_option maxRecDepth 100000
def RJ9 : String := "java/lang/Math"
abbrev cJ9_max : ByteArray := prog_36_method_65_code
def yJ9_max : MethodName := ⟨RJ9, "max", "(II)I"⟩
def dkwJ9_max_0 : List UInt8 := [26, 27, 161, 0, 7, 26, 167, 0, 4, 27, 172]
abbrev dktJ9_max_0 : List UInt8 := dkwJ9_max_0 ++ []
theorem dksJ9_max_0 : cJ9_max.data.toList.drop 0 = dktJ9_max_0 := by decide +kernel
theorem dJ9_max_0 : decode cJ9_max 0 = .ok (.iload_n 0, 1) := dk_26 (dk_at dksJ9_max_0 0 rfl rfl)
theorem dJ9_max_1 : decode cJ9_max 1 = .ok (.iload_n 1, 1) := dk_27 (dk_at dksJ9_max_0 1 rfl rfl)
theorem dJ9_max_2 : decode cJ9_max 2 = .ok (.if_icmp .lt 7, 3) := dk_161 0 7 (dk_at dksJ9_max_0 2 rfl rfl)
theorem dJ9_max_5 : decode cJ9_max 5 = .ok (.iload_n 0, 1) := dk_26 (dk_at dksJ9_max_0 5 rfl rfl)
theorem dJ9_max_6 : decode cJ9_max 6 = .ok (.goto 4, 3) := dk_167 0 4 (dk_at dksJ9_max_0 6 rfl rfl)
theorem dJ9_max_9 : decode cJ9_max 9 = .ok (.iload_n 1, 1) := dk_27 (dk_at dksJ9_max_0 9 rfl rfl)
theorem dJ9_max_10 : decode cJ9_max 10 = .ok (.ireturn, 1) := dk_172 (dk_at dksJ9_max_0 10 rfl rfl)
abbrev cJ9_min : ByteArray := prog_36_method_69_code
def yJ9_min : MethodName := ⟨RJ9, "min", "(II)I"⟩
def dkwJ9_min_0 : List UInt8 := [26, 27, 163, 0, 7, 26, 167, 0, 4, 27, 172]
abbrev dktJ9_min_0 : List UInt8 := dkwJ9_min_0 ++ []
theorem dksJ9_min_0 : cJ9_min.data.toList.drop 0 = dktJ9_min_0 := by decide +kernel
theorem dJ9_min_0 : decode cJ9_min 0 = .ok (.iload_n 0, 1) := dk_26 (dk_at dksJ9_min_0 0 rfl rfl)
theorem dJ9_min_1 : decode cJ9_min 1 = .ok (.iload_n 1, 1) := dk_27 (dk_at dksJ9_min_0 1 rfl rfl)
theorem dJ9_min_2 : decode cJ9_min 2 = .ok (.if_icmp .gt 7, 3) := dk_163 0 7 (dk_at dksJ9_min_0 2 rfl rfl)
theorem dJ9_min_5 : decode cJ9_min 5 = .ok (.iload_n 0, 1) := dk_26 (dk_at dksJ9_min_0 5 rfl rfl)
theorem dJ9_min_6 : decode cJ9_min 6 = .ok (.goto 4, 3) := dk_167 0 4 (dk_at dksJ9_min_0 6 rfl rfl)
theorem dJ9_min_9 : decode cJ9_min 9 = .ok (.iload_n 1, 1) := dk_27 (dk_at dksJ9_min_0 9 rfl rfl)
theorem dJ9_min_10 : decode cJ9_min 10 = .ok (.ireturn, 1) := dk_172 (dk_at dksJ9_min_0 10 rfl rfl)
abbrev cJ9_floorDiv : ByteArray := prog_36_method_47_code
def yJ9_floorDiv : MethodName := ⟨RJ9, "floorDiv", "(II)I"⟩
def dkwJ9_floorDiv_0 : List UInt8 := [26, 27, 108, 61, 26, 27, 130, 156, 0, 14, 28, 27, 104, 26, 159, 0, 7, 28, 4, 100, 172, 28, 172]
abbrev dktJ9_floorDiv_0 : List UInt8 := dkwJ9_floorDiv_0 ++ []
theorem dksJ9_floorDiv_0 : cJ9_floorDiv.data.toList.drop 0 = dktJ9_floorDiv_0 := by decide +kernel
theorem dJ9_floorDiv_0 : decode cJ9_floorDiv 0 = .ok (.iload_n 0, 1) := dk_26 (dk_at dksJ9_floorDiv_0 0 rfl rfl)
theorem dJ9_floorDiv_1 : decode cJ9_floorDiv 1 = .ok (.iload_n 1, 1) := dk_27 (dk_at dksJ9_floorDiv_0 1 rfl rfl)
theorem dJ9_floorDiv_2 : decode cJ9_floorDiv 2 = .ok (.idiv, 1) := dk_108 (dk_at dksJ9_floorDiv_0 2 rfl rfl)
theorem dJ9_floorDiv_3 : decode cJ9_floorDiv 3 = .ok (.istore_n 2, 1) := dk_61 (dk_at dksJ9_floorDiv_0 3 rfl rfl)
theorem dJ9_floorDiv_4 : decode cJ9_floorDiv 4 = .ok (.iload_n 0, 1) := dk_26 (dk_at dksJ9_floorDiv_0 4 rfl rfl)
theorem dJ9_floorDiv_5 : decode cJ9_floorDiv 5 = .ok (.iload_n 1, 1) := dk_27 (dk_at dksJ9_floorDiv_0 5 rfl rfl)
theorem dJ9_floorDiv_6 : decode cJ9_floorDiv 6 = .ok (.ixor, 1) := dk_130 (dk_at dksJ9_floorDiv_0 6 rfl rfl)
theorem dJ9_floorDiv_7 : decode cJ9_floorDiv 7 = .ok (.ifCond .ge 14, 3) := dk_156 0 14 (dk_at dksJ9_floorDiv_0 7 rfl rfl)
theorem dJ9_floorDiv_10 : decode cJ9_floorDiv 10 = .ok (.iload_n 2, 1) := dk_28 (dk_at dksJ9_floorDiv_0 10 rfl rfl)
theorem dJ9_floorDiv_11 : decode cJ9_floorDiv 11 = .ok (.iload_n 1, 1) := dk_27 (dk_at dksJ9_floorDiv_0 11 rfl rfl)
theorem dJ9_floorDiv_12 : decode cJ9_floorDiv 12 = .ok (.imul, 1) := dk_104 (dk_at dksJ9_floorDiv_0 12 rfl rfl)
theorem dJ9_floorDiv_13 : decode cJ9_floorDiv 13 = .ok (.iload_n 0, 1) := dk_26 (dk_at dksJ9_floorDiv_0 13 rfl rfl)
theorem dJ9_floorDiv_14 : decode cJ9_floorDiv 14 = .ok (.if_icmp .eq 7, 3) := dk_159 0 7 (dk_at dksJ9_floorDiv_0 14 rfl rfl)
theorem dJ9_floorDiv_17 : decode cJ9_floorDiv 17 = .ok (.iload_n 2, 1) := dk_28 (dk_at dksJ9_floorDiv_0 17 rfl rfl)
theorem dJ9_floorDiv_18 : decode cJ9_floorDiv 18 = .ok (.iconst 1, 1) := dk_4 (dk_at dksJ9_floorDiv_0 18 rfl rfl)
theorem dJ9_floorDiv_19 : decode cJ9_floorDiv 19 = .ok (.isub, 1) := dk_100 (dk_at dksJ9_floorDiv_0 19 rfl rfl)
theorem dJ9_floorDiv_20 : decode cJ9_floorDiv 20 = .ok (.ireturn, 1) := dk_172 (dk_at dksJ9_floorDiv_0 20 rfl rfl)
theorem dJ9_floorDiv_21 : decode cJ9_floorDiv 21 = .ok (.iload_n 2, 1) := dk_28 (dk_at dksJ9_floorDiv_0 21 rfl rfl)
theorem dJ9_floorDiv_22 : decode cJ9_floorDiv 22 = .ok (.ireturn, 1) := dk_172 (dk_at dksJ9_floorDiv_0 22 rfl rfl)
abbrev cJ9_abs : ByteArray := prog_36_method_59_code
def yJ9_abs : MethodName := ⟨RJ9, "abs", "(I)I"⟩
def dkwJ9_abs_0 : List UInt8 := [26, 156, 0, 8, 26, 116, 167, 0, 4, 26, 172]
abbrev dktJ9_abs_0 : List UInt8 := dkwJ9_abs_0 ++ []
theorem dksJ9_abs_0 : cJ9_abs.data.toList.drop 0 = dktJ9_abs_0 := by decide +kernel
theorem dJ9_abs_0 : decode cJ9_abs 0 = .ok (.iload_n 0, 1) := dk_26 (dk_at dksJ9_abs_0 0 rfl rfl)
theorem dJ9_abs_1 : decode cJ9_abs 1 = .ok (.ifCond .ge 8, 3) := dk_156 0 8 (dk_at dksJ9_abs_0 1 rfl rfl)
theorem dJ9_abs_4 : decode cJ9_abs 4 = .ok (.iload_n 0, 1) := dk_26 (dk_at dksJ9_abs_0 4 rfl rfl)
theorem dJ9_abs_5 : decode cJ9_abs 5 = .ok (.ineg, 1) := dk_116 (dk_at dksJ9_abs_0 5 rfl rfl)
theorem dJ9_abs_6 : decode cJ9_abs 6 = .ok (.goto 4, 3) := dk_167 0 4 (dk_at dksJ9_abs_0 6 rfl rfl)
theorem dJ9_abs_9 : decode cJ9_abs 9 = .ok (.iload_n 0, 1) := dk_26 (dk_at dksJ9_abs_0 9 rfl rfl)
theorem dJ9_abs_10 : decode cJ9_abs 10 = .ok (.ireturn, 1) := dk_172 (dk_at dksJ9_abs_0 10 rfl rfl)
abbrev cJ9_max_2 : ByteArray := prog_36_method_66_code
def yJ9_max_2 : MethodName := ⟨RJ9, "max", "(JJ)J"⟩
def dkwJ9_max_2_0 : List UInt8 := [30, 32, 148, 155, 0, 7, 30, 167, 0, 4, 32, 173]
abbrev dktJ9_max_2_0 : List UInt8 := dkwJ9_max_2_0 ++ []
theorem dksJ9_max_2_0 : cJ9_max_2.data.toList.drop 0 = dktJ9_max_2_0 := by decide +kernel
theorem dJ9_max_2_0 : decode cJ9_max_2 0 = .ok (.lload_n 0, 1) := dk_30 (dk_at dksJ9_max_2_0 0 rfl rfl)
theorem dJ9_max_2_1 : decode cJ9_max_2 1 = .ok (.lload_n 2, 1) := dk_32 (dk_at dksJ9_max_2_0 1 rfl rfl)
theorem dJ9_max_2_2 : decode cJ9_max_2 2 = .ok (.lcmp, 1) := dk_148 (dk_at dksJ9_max_2_0 2 rfl rfl)
theorem dJ9_max_2_3 : decode cJ9_max_2 3 = .ok (.ifCond .lt 7, 3) := dk_155 0 7 (dk_at dksJ9_max_2_0 3 rfl rfl)
theorem dJ9_max_2_6 : decode cJ9_max_2 6 = .ok (.lload_n 0, 1) := dk_30 (dk_at dksJ9_max_2_0 6 rfl rfl)
theorem dJ9_max_2_7 : decode cJ9_max_2 7 = .ok (.goto 4, 3) := dk_167 0 4 (dk_at dksJ9_max_2_0 7 rfl rfl)
theorem dJ9_max_2_10 : decode cJ9_max_2 10 = .ok (.lload_n 2, 1) := dk_32 (dk_at dksJ9_max_2_0 10 rfl rfl)
theorem dJ9_max_2_11 : decode cJ9_max_2 11 = .ok (.lreturn, 1) := dk_173 (dk_at dksJ9_max_2_0 11 rfl rfl)
abbrev cJ9_min_2 : ByteArray := prog_36_method_70_code
def yJ9_min_2 : MethodName := ⟨RJ9, "min", "(JJ)J"⟩
def dkwJ9_min_2_0 : List UInt8 := [30, 32, 148, 157, 0, 7, 30, 167, 0, 4, 32, 173]
abbrev dktJ9_min_2_0 : List UInt8 := dkwJ9_min_2_0 ++ []
theorem dksJ9_min_2_0 : cJ9_min_2.data.toList.drop 0 = dktJ9_min_2_0 := by decide +kernel
theorem dJ9_min_2_0 : decode cJ9_min_2 0 = .ok (.lload_n 0, 1) := dk_30 (dk_at dksJ9_min_2_0 0 rfl rfl)
theorem dJ9_min_2_1 : decode cJ9_min_2 1 = .ok (.lload_n 2, 1) := dk_32 (dk_at dksJ9_min_2_0 1 rfl rfl)
theorem dJ9_min_2_2 : decode cJ9_min_2 2 = .ok (.lcmp, 1) := dk_148 (dk_at dksJ9_min_2_0 2 rfl rfl)
theorem dJ9_min_2_3 : decode cJ9_min_2 3 = .ok (.ifCond .gt 7, 3) := dk_157 0 7 (dk_at dksJ9_min_2_0 3 rfl rfl)
theorem dJ9_min_2_6 : decode cJ9_min_2 6 = .ok (.lload_n 0, 1) := dk_30 (dk_at dksJ9_min_2_0 6 rfl rfl)
theorem dJ9_min_2_7 : decode cJ9_min_2 7 = .ok (.goto 4, 3) := dk_167 0 4 (dk_at dksJ9_min_2_0 7 rfl rfl)
theorem dJ9_min_2_10 : decode cJ9_min_2 10 = .ok (.lload_n 2, 1) := dk_32 (dk_at dksJ9_min_2_0 10 rfl rfl)
theorem dJ9_min_2_11 : decode cJ9_min_2 11 = .ok (.lreturn, 1) := dk_173 (dk_at dksJ9_min_2_0 11 rfl rfl)
theorem q113 : (Jvm.Cond.initialized "java/lang/Math") ∈ lw_all := lw_g (lw_at lw_m1 16 rfl) rfl
theorem q408 : (Jvm.Cond.static ({ cls := "java/lang/Math", name := "max", desc := "(II)I" } : Jvm.MethodName)) ∈ lw_all := lw_g (lw_at lw_m2 71 rfl) rfl
theorem q409 : (Jvm.Cond.code ({ cls := "java/lang/Math", name := "max", desc := "(II)I" } : Jvm.MethodName) prog_36_method_65_code (2 : Nat) (Option.some Jvm.ClassFile.FieldType.int)) ∈ lw_all := lw_g (lw_at lw_m2 72 rfl) rfl
theorem q426 : (Jvm.Cond.static ({ cls := "java/lang/Math", name := "min", desc := "(II)I" } : Jvm.MethodName)) ∈ lw_all := lw_g (lw_at lw_m2 89 rfl) rfl
theorem q427 : (Jvm.Cond.code ({ cls := "java/lang/Math", name := "min", desc := "(II)I" } : Jvm.MethodName) prog_36_method_69_code (2 : Nat) (Option.some Jvm.ClassFile.FieldType.int)) ∈ lw_all := lw_g (lw_at lw_m2 90 rfl) rfl
theorem q1091 : (Jvm.Cond.static ({ cls := "java/lang/Math", name := "floorDiv", desc := "(II)I" } : Jvm.MethodName)) ∈ lw_all := lw_g (lw_at lw_m5 34 rfl) rfl
theorem q1092 : (Jvm.Cond.code ({ cls := "java/lang/Math", name := "floorDiv", desc := "(II)I" } : Jvm.MethodName) prog_36_method_47_code (3 : Nat) (Option.some Jvm.ClassFile.FieldType.int)) ∈ lw_all := lw_g (lw_at lw_m5 35 rfl) rfl
theorem q1270 : (Jvm.Cond.static ({ cls := "java/lang/Math", name := "abs", desc := "(I)I" } : Jvm.MethodName)) ∈ lw_all := lw_g (lw_at lw_m5 213 rfl) rfl
theorem q1271 : (Jvm.Cond.code ({ cls := "java/lang/Math", name := "abs", desc := "(I)I" } : Jvm.MethodName) prog_36_method_59_code (1 : Nat) (Option.some Jvm.ClassFile.FieldType.int)) ∈ lw_all := lw_g (lw_at lw_m5 214 rfl) rfl
theorem q1387 : (Jvm.Cond.static ({ cls := "java/lang/Math", name := "max", desc := "(JJ)J" } : Jvm.MethodName)) ∈ lw_all := lw_g (lw_at lw_m6 90 rfl) rfl
theorem q1388 : (Jvm.Cond.code ({ cls := "java/lang/Math", name := "max", desc := "(JJ)J" } : Jvm.MethodName) prog_36_method_66_code (4 : Nat) (Option.some Jvm.ClassFile.FieldType.long)) ∈ lw_all := lw_g (lw_at lw_m6 91 rfl) rfl
theorem q1422 : (Jvm.Cond.static ({ cls := "java/lang/Math", name := "min", desc := "(JJ)J" } : Jvm.MethodName)) ∈ lw_all := lw_g (lw_at lw_m6 125 rfl) rfl
theorem q1423 : (Jvm.Cond.code ({ cls := "java/lang/Math", name := "min", desc := "(JJ)J" } : Jvm.MethodName) prog_36_method_70_code (4 : Nat) (Option.some Jvm.ClassFile.FieldType.long)) ∈ lw_all := lw_g (lw_at lw_m6 126 rfl) rfl

/-! java/util/Arrays -/
set_option maxRecDepth 100000
def RJ10 : String := "java/util/Arrays"
abbrev cJ10_copyOf : ByteArray := prog_52_method_121_code
def yJ10_copyOf : MethodName := ⟨RJ10, "copyOf", "([BI)[B"⟩
def dkwJ10_copyOf_1 : List UInt8 := [27, 184, 1, 48, 184, 0, 150, 44, 176]
abbrev dktJ10_copyOf_1 : List UInt8 := dkwJ10_copyOf_1 ++ []
def dkwJ10_copyOf_0 : List UInt8 := [27, 42, 190, 160, 0, 11, 42, 182, 1, 54, 192, 1, 55, 176, 27, 188, 8, 77, 42, 3, 44, 3, 42, 190]
abbrev dktJ10_copyOf_0 : List UInt8 := dkwJ10_copyOf_0 ++ dktJ10_copyOf_1
theorem dksJ10_copyOf_0 : cJ10_copyOf.data.toList.drop 0 = dktJ10_copyOf_0 := by decide +kernel
theorem dksJ10_copyOf_1 : cJ10_copyOf.data.toList.drop 24 = dktJ10_copyOf_1 := dk_seg dksJ10_copyOf_0 24 rfl rfl
theorem dJ10_copyOf_0 : decode cJ10_copyOf 0 = .ok (.iload_n 1, 1) := dk_27 (dk_at dksJ10_copyOf_0 0 rfl rfl)
theorem dJ10_copyOf_1 : decode cJ10_copyOf 1 = .ok (.aload_n 0, 1) := dk_42 (dk_at dksJ10_copyOf_0 1 rfl rfl)
theorem dJ10_copyOf_2 : decode cJ10_copyOf 2 = .ok (.arraylength, 1) := dk_190 (dk_at dksJ10_copyOf_0 2 rfl rfl)
theorem dJ10_copyOf_3 : decode cJ10_copyOf 3 = .ok (.if_icmp .ne 11, 3) := dk_160 0 11 (dk_at dksJ10_copyOf_0 3 rfl rfl)
theorem dJ10_copyOf_6 : decode cJ10_copyOf 6 = .ok (.aload_n 0, 1) := dk_42 (dk_at dksJ10_copyOf_0 6 rfl rfl)
theorem dJ10_copyOf_7 : decode cJ10_copyOf 7 = .ok (.invokevirtual 310, 3) := dk_182 1 54 (dk_at dksJ10_copyOf_0 7 rfl rfl)
theorem dJ10_copyOf_10 : decode cJ10_copyOf 10 = .ok (.checkcast 311, 3) := dk_192 1 55 (dk_at dksJ10_copyOf_0 10 rfl rfl)
theorem dJ10_copyOf_13 : decode cJ10_copyOf 13 = .ok (.areturn, 1) := dk_176 (dk_at dksJ10_copyOf_0 13 rfl rfl)
theorem dJ10_copyOf_14 : decode cJ10_copyOf 14 = .ok (.iload_n 1, 1) := dk_27 (dk_at dksJ10_copyOf_0 14 rfl rfl)
theorem dJ10_copyOf_15 : decode cJ10_copyOf 15 = .ok (.newarray .byte, 2) := dk_188_8 (dk_at dksJ10_copyOf_0 15 rfl rfl)
theorem dJ10_copyOf_17 : decode cJ10_copyOf 17 = .ok (.astore_n 2, 1) := dk_77 (dk_at dksJ10_copyOf_0 17 rfl rfl)
theorem dJ10_copyOf_18 : decode cJ10_copyOf 18 = .ok (.aload_n 0, 1) := dk_42 (dk_at dksJ10_copyOf_0 18 rfl rfl)
theorem dJ10_copyOf_19 : decode cJ10_copyOf 19 = .ok (.iconst 0, 1) := dk_3 (dk_at dksJ10_copyOf_0 19 rfl rfl)
theorem dJ10_copyOf_20 : decode cJ10_copyOf 20 = .ok (.aload_n 2, 1) := dk_44 (dk_at dksJ10_copyOf_0 20 rfl rfl)
theorem dJ10_copyOf_21 : decode cJ10_copyOf 21 = .ok (.iconst 0, 1) := dk_3 (dk_at dksJ10_copyOf_0 21 rfl rfl)
theorem dJ10_copyOf_22 : decode cJ10_copyOf 22 = .ok (.aload_n 0, 1) := dk_42 (dk_at dksJ10_copyOf_0 22 rfl rfl)
theorem dJ10_copyOf_23 : decode cJ10_copyOf 23 = .ok (.arraylength, 1) := dk_190 (dk_at dksJ10_copyOf_0 23 rfl rfl)
theorem dJ10_copyOf_24 : decode cJ10_copyOf 24 = .ok (.iload_n 1, 1) := dk_27 (dk_at dksJ10_copyOf_1 0 rfl rfl)
theorem dJ10_copyOf_25 : decode cJ10_copyOf 25 = .ok (.invokestatic 304, 3) := dk_184 1 48 (dk_at dksJ10_copyOf_1 1 rfl rfl)
theorem dJ10_copyOf_28 : decode cJ10_copyOf 28 = .ok (.invokestatic 150, 3) := dk_184 0 150 (dk_at dksJ10_copyOf_1 4 rfl rfl)
theorem dJ10_copyOf_31 : decode cJ10_copyOf 31 = .ok (.aload_n 2, 1) := dk_44 (dk_at dksJ10_copyOf_1 7 rfl rfl)
theorem dJ10_copyOf_32 : decode cJ10_copyOf 32 = .ok (.areturn, 1) := dk_176 (dk_at dksJ10_copyOf_1 8 rfl rfl)
abbrev cJ10_copyOfRange : ByteArray := prog_52_method_132_code
def yJ10_copyOfRange : MethodName := ⟨RJ10, "copyOfRange", "([BII)[B"⟩
def dkwJ10_copyOfRange_1 : List UInt8 := [176]
abbrev dktJ10_copyOfRange_1 : List UInt8 := dkwJ10_copyOfRange_1 ++ []
def dkwJ10_copyOfRange_0 : List UInt8 := [27, 154, 0, 9, 28, 42, 190, 159, 0, 10, 42, 27, 28, 184, 1, 83, 176, 42, 182, 1, 54, 192, 1, 55]
abbrev dktJ10_copyOfRange_0 : List UInt8 := dkwJ10_copyOfRange_0 ++ dktJ10_copyOfRange_1
theorem dksJ10_copyOfRange_0 : cJ10_copyOfRange.data.toList.drop 0 = dktJ10_copyOfRange_0 := by decide +kernel
theorem dksJ10_copyOfRange_1 : cJ10_copyOfRange.data.toList.drop 24 = dktJ10_copyOfRange_1 := dk_seg dksJ10_copyOfRange_0 24 rfl rfl
theorem dJ10_copyOfRange_0 : decode cJ10_copyOfRange 0 = .ok (.iload_n 1, 1) := dk_27 (dk_at dksJ10_copyOfRange_0 0 rfl rfl)
theorem dJ10_copyOfRange_1 : decode cJ10_copyOfRange 1 = .ok (.ifCond .ne 9, 3) := dk_154 0 9 (dk_at dksJ10_copyOfRange_0 1 rfl rfl)
theorem dJ10_copyOfRange_4 : decode cJ10_copyOfRange 4 = .ok (.iload_n 2, 1) := dk_28 (dk_at dksJ10_copyOfRange_0 4 rfl rfl)
theorem dJ10_copyOfRange_5 : decode cJ10_copyOfRange 5 = .ok (.aload_n 0, 1) := dk_42 (dk_at dksJ10_copyOfRange_0 5 rfl rfl)
theorem dJ10_copyOfRange_6 : decode cJ10_copyOfRange 6 = .ok (.arraylength, 1) := dk_190 (dk_at dksJ10_copyOfRange_0 6 rfl rfl)
theorem dJ10_copyOfRange_7 : decode cJ10_copyOfRange 7 = .ok (.if_icmp .eq 10, 3) := dk_159 0 10 (dk_at dksJ10_copyOfRange_0 7 rfl rfl)
theorem dJ10_copyOfRange_10 : decode cJ10_copyOfRange 10 = .ok (.aload_n 0, 1) := dk_42 (dk_at dksJ10_copyOfRange_0 10 rfl rfl)
theorem dJ10_copyOfRange_11 : decode cJ10_copyOfRange 11 = .ok (.iload_n 1, 1) := dk_27 (dk_at dksJ10_copyOfRange_0 11 rfl rfl)
theorem dJ10_copyOfRange_12 : decode cJ10_copyOfRange 12 = .ok (.iload_n 2, 1) := dk_28 (dk_at dksJ10_copyOfRange_0 12 rfl rfl)
theorem dJ10_copyOfRange_13 : decode cJ10_copyOfRange 13 = .ok (.invokestatic 339, 3) := dk_184 1 83 (dk_at dksJ10_copyOfRange_0 13 rfl rfl)
theorem dJ10_copyOfRange_16 : decode cJ10_copyOfRange 16 = .ok (.areturn, 1) := dk_176 (dk_at dksJ10_copyOfRange_0 16 rfl rfl)
theorem dJ10_copyOfRange_17 : decode cJ10_copyOfRange 17 = .ok (.aload_n 0, 1) := dk_42 (dk_at dksJ10_copyOfRange_0 17 rfl rfl)
theorem dJ10_copyOfRange_18 : decode cJ10_copyOfRange 18 = .ok (.invokevirtual 310, 3) := dk_182 1 54 (dk_at dksJ10_copyOfRange_0 18 rfl rfl)
theorem dJ10_copyOfRange_21 : decode cJ10_copyOfRange 21 = .ok (.checkcast 311, 3) := dk_192 1 55 (dk_at dksJ10_copyOfRange_0 21 rfl rfl)
theorem dJ10_copyOfRange_24 : decode cJ10_copyOfRange 24 = .ok (.areturn, 1) := dk_176 (dk_at dksJ10_copyOfRange_1 0 rfl rfl)
abbrev cJ10_copyOfRangeByte : ByteArray := prog_52_method_133_code
def yJ10_copyOfRangeByte : MethodName := ⟨RJ10, "copyOfRangeByte", "([BII)[B"⟩
def dkwJ10_copyOfRangeByte_1 : List UInt8 := [184, 1, 48, 184, 0, 150, 25, 4, 176]
abbrev dktJ10_copyOfRangeByte_1 : List UInt8 := dkwJ10_copyOfRangeByte_1 ++ []
def dkwJ10_copyOfRangeByte_0 : List UInt8 := [27, 28, 184, 1, 87, 28, 27, 100, 62, 29, 188, 8, 58, 4, 42, 27, 25, 4, 3, 42, 190, 27, 100, 29]
abbrev dktJ10_copyOfRangeByte_0 : List UInt8 := dkwJ10_copyOfRangeByte_0 ++ dktJ10_copyOfRangeByte_1
theorem dksJ10_copyOfRangeByte_0 : cJ10_copyOfRangeByte.data.toList.drop 0 = dktJ10_copyOfRangeByte_0 := by decide +kernel
theorem dksJ10_copyOfRangeByte_1 : cJ10_copyOfRangeByte.data.toList.drop 24 = dktJ10_copyOfRangeByte_1 := dk_seg dksJ10_copyOfRangeByte_0 24 rfl rfl
theorem dJ10_copyOfRangeByte_0 : decode cJ10_copyOfRangeByte 0 = .ok (.iload_n 1, 1) := dk_27 (dk_at dksJ10_copyOfRangeByte_0 0 rfl rfl)
theorem dJ10_copyOfRangeByte_1 : decode cJ10_copyOfRangeByte 1 = .ok (.iload_n 2, 1) := dk_28 (dk_at dksJ10_copyOfRangeByte_0 1 rfl rfl)
theorem dJ10_copyOfRangeByte_2 : decode cJ10_copyOfRangeByte 2 = .ok (.invokestatic 343, 3) := dk_184 1 87 (dk_at dksJ10_copyOfRangeByte_0 2 rfl rfl)
theorem dJ10_copyOfRangeByte_5 : decode cJ10_copyOfRangeByte 5 = .ok (.iload_n 2, 1) := dk_28 (dk_at dksJ10_copyOfRangeByte_0 5 rfl rfl)
theorem dJ10_copyOfRangeByte_6 : decode cJ10_copyOfRangeByte 6 = .ok (.iload_n 1, 1) := dk_27 (dk_at dksJ10_copyOfRangeByte_0 6 rfl rfl)
theorem dJ10_copyOfRangeByte_7 : decode cJ10_copyOfRangeByte 7 = .ok (.isub, 1) := dk_100 (dk_at dksJ10_copyOfRangeByte_0 7 rfl rfl)
theorem dJ10_copyOfRangeByte_8 : decode cJ10_copyOfRangeByte 8 = .ok (.istore_n 3, 1) := dk_62 (dk_at dksJ10_copyOfRangeByte_0 8 rfl rfl)
theorem dJ10_copyOfRangeByte_9 : decode cJ10_copyOfRangeByte 9 = .ok (.iload_n 3, 1) := dk_29 (dk_at dksJ10_copyOfRangeByte_0 9 rfl rfl)
theorem dJ10_copyOfRangeByte_10 : decode cJ10_copyOfRangeByte 10 = .ok (.newarray .byte, 2) := dk_188_8 (dk_at dksJ10_copyOfRangeByte_0 10 rfl rfl)
theorem dJ10_copyOfRangeByte_12 : decode cJ10_copyOfRangeByte 12 = .ok (.astore 4, 2) := dk_58 4 (dk_at dksJ10_copyOfRangeByte_0 12 rfl rfl)
theorem dJ10_copyOfRangeByte_14 : decode cJ10_copyOfRangeByte 14 = .ok (.aload_n 0, 1) := dk_42 (dk_at dksJ10_copyOfRangeByte_0 14 rfl rfl)
theorem dJ10_copyOfRangeByte_15 : decode cJ10_copyOfRangeByte 15 = .ok (.iload_n 1, 1) := dk_27 (dk_at dksJ10_copyOfRangeByte_0 15 rfl rfl)
theorem dJ10_copyOfRangeByte_16 : decode cJ10_copyOfRangeByte 16 = .ok (.aload 4, 2) := dk_25 4 (dk_at dksJ10_copyOfRangeByte_0 16 rfl rfl)
theorem dJ10_copyOfRangeByte_18 : decode cJ10_copyOfRangeByte 18 = .ok (.iconst 0, 1) := dk_3 (dk_at dksJ10_copyOfRangeByte_0 18 rfl rfl)
theorem dJ10_copyOfRangeByte_19 : decode cJ10_copyOfRangeByte 19 = .ok (.aload_n 0, 1) := dk_42 (dk_at dksJ10_copyOfRangeByte_0 19 rfl rfl)
theorem dJ10_copyOfRangeByte_20 : decode cJ10_copyOfRangeByte 20 = .ok (.arraylength, 1) := dk_190 (dk_at dksJ10_copyOfRangeByte_0 20 rfl rfl)
theorem dJ10_copyOfRangeByte_21 : decode cJ10_copyOfRangeByte 21 = .ok (.iload_n 1, 1) := dk_27 (dk_at dksJ10_copyOfRangeByte_0 21 rfl rfl)
theorem dJ10_copyOfRangeByte_22 : decode cJ10_copyOfRangeByte 22 = .ok (.isub, 1) := dk_100 (dk_at dksJ10_copyOfRangeByte_0 22 rfl rfl)
theorem dJ10_copyOfRangeByte_23 : decode cJ10_copyOfRangeByte 23 = .ok (.iload_n 3, 1) := dk_29 (dk_at dksJ10_copyOfRangeByte_0 23 rfl rfl)
theorem dJ10_copyOfRangeByte_24 : decode cJ10_copyOfRangeByte 24 = .ok (.invokestatic 304, 3) := dk_184 1 48 (dk_at dksJ10_copyOfRangeByte_1 0 rfl rfl)
theorem dJ10_copyOfRangeByte_27 : decode cJ10_copyOfRangeByte 27 = .ok (.invokestatic 150, 3) := dk_184 0 150 (dk_at dksJ10_copyOfRangeByte_1 3 rfl rfl)
theorem dJ10_copyOfRangeByte_30 : decode cJ10_copyOfRangeByte 30 = .ok (.aload 4, 2) := dk_25 4 (dk_at dksJ10_copyOfRangeByte_1 6 rfl rfl)
theorem dJ10_copyOfRangeByte_32 : decode cJ10_copyOfRangeByte 32 = .ok (.areturn, 1) := dk_176 (dk_at dksJ10_copyOfRangeByte_1 8 rfl rfl)
abbrev cJ10_checkLength : ByteArray := prog_52_method_131_code
def yJ10_checkLength : MethodName := ⟨RJ10, "checkLength", "(II)V"⟩
def dkwJ10_checkLength_1 : List UInt8 := [182, 0, 50, 27, 182, 0, 54, 182, 0, 61, 183, 0, 65, 191, 177]
abbrev dktJ10_checkLength_1 : List UInt8 := dkwJ10_checkLength_1 ++ []
def dkwJ10_checkLength_0 : List UInt8 := [27, 26, 162, 0, 35, 187, 0, 43, 89, 187, 0, 45, 89, 183, 0, 47, 26, 182, 0, 54, 19, 1, 81]
abbrev dktJ10_checkLength_0 : List UInt8 := dkwJ10_checkLength_0 ++ dktJ10_checkLength_1
theorem dksJ10_checkLength_0 : cJ10_checkLength.data.toList.drop 0 = dktJ10_checkLength_0 := by decide +kernel
theorem dksJ10_checkLength_1 : cJ10_checkLength.data.toList.drop 23 = dktJ10_checkLength_1 := dk_seg dksJ10_checkLength_0 23 rfl rfl
theorem dJ10_checkLength_0 : decode cJ10_checkLength 0 = .ok (.iload_n 1, 1) := dk_27 (dk_at dksJ10_checkLength_0 0 rfl rfl)
theorem dJ10_checkLength_1 : decode cJ10_checkLength 1 = .ok (.iload_n 0, 1) := dk_26 (dk_at dksJ10_checkLength_0 1 rfl rfl)
theorem dJ10_checkLength_2 : decode cJ10_checkLength 2 = .ok (.if_icmp .ge 35, 3) := dk_162 0 35 (dk_at dksJ10_checkLength_0 2 rfl rfl)
theorem dJ10_checkLength_5 : decode cJ10_checkLength 5 = .ok (.new 43, 3) := dk_187 0 43 (dk_at dksJ10_checkLength_0 5 rfl rfl)
theorem dJ10_checkLength_8 : decode cJ10_checkLength 8 = .ok (.dup, 1) := dk_89 (dk_at dksJ10_checkLength_0 8 rfl rfl)
theorem dJ10_checkLength_9 : decode cJ10_checkLength 9 = .ok (.new 45, 3) := dk_187 0 45 (dk_at dksJ10_checkLength_0 9 rfl rfl)
theorem dJ10_checkLength_12 : decode cJ10_checkLength 12 = .ok (.dup, 1) := dk_89 (dk_at dksJ10_checkLength_0 12 rfl rfl)
theorem dJ10_checkLength_13 : decode cJ10_checkLength 13 = .ok (.invokespecial 47, 3) := dk_183 0 47 (dk_at dksJ10_checkLength_0 13 rfl rfl)
theorem dJ10_checkLength_16 : decode cJ10_checkLength 16 = .ok (.iload_n 0, 1) := dk_26 (dk_at dksJ10_checkLength_0 16 rfl rfl)
theorem dJ10_checkLength_17 : decode cJ10_checkLength 17 = .ok (.invokevirtual 54, 3) := dk_182 0 54 (dk_at dksJ10_checkLength_0 17 rfl rfl)
theorem dJ10_checkLength_20 : decode cJ10_checkLength 20 = .ok (.ldc_w 337, 3) := dk_19 1 81 (dk_at dksJ10_checkLength_0 20 rfl rfl)
theorem dJ10_checkLength_23 : decode cJ10_checkLength 23 = .ok (.invokevirtual 50, 3) := dk_182 0 50 (dk_at dksJ10_checkLength_1 0 rfl rfl)
theorem dJ10_checkLength_26 : decode cJ10_checkLength 26 = .ok (.iload_n 1, 1) := dk_27 (dk_at dksJ10_checkLength_1 3 rfl rfl)
theorem dJ10_checkLength_27 : decode cJ10_checkLength 27 = .ok (.invokevirtual 54, 3) := dk_182 0 54 (dk_at dksJ10_checkLength_1 4 rfl rfl)
theorem dJ10_checkLength_30 : decode cJ10_checkLength 30 = .ok (.invokevirtual 61, 3) := dk_182 0 61 (dk_at dksJ10_checkLength_1 7 rfl rfl)
theorem dJ10_checkLength_33 : decode cJ10_checkLength 33 = .ok (.invokespecial 65, 3) := dk_183 0 65 (dk_at dksJ10_checkLength_1 10 rfl rfl)
theorem dJ10_checkLength_36 : decode cJ10_checkLength 36 = .ok (.athrow, 1) := dk_191 (dk_at dksJ10_checkLength_1 13 rfl rfl)
theorem dJ10_checkLength_37 : decode cJ10_checkLength 37 = .ok (.return_, 1) := dk_177 (dk_at dksJ10_checkLength_1 14 rfl rfl)
abbrev cJ10_copyOf_2 : ByteArray := prog_52_method_119_code
def yJ10_copyOf_2 : MethodName := ⟨RJ10, "copyOf", "([Ljava/lang/Object;I)[Ljava/lang/Object;"⟩
def dkwJ10_copyOf_2_0 : List UInt8 := [42, 27, 42, 182, 0, 86, 184, 1, 44, 176]
abbrev dktJ10_copyOf_2_0 : List UInt8 := dkwJ10_copyOf_2_0 ++ []
theorem dksJ10_copyOf_2_0 : cJ10_copyOf_2.data.toList.drop 0 = dktJ10_copyOf_2_0 := by decide +kernel
theorem dJ10_copyOf_2_0 : decode cJ10_copyOf_2 0 = .ok (.aload_n 0, 1) := dk_42 (dk_at dksJ10_copyOf_2_0 0 rfl rfl)
theorem dJ10_copyOf_2_1 : decode cJ10_copyOf_2 1 = .ok (.iload_n 1, 1) := dk_27 (dk_at dksJ10_copyOf_2_0 1 rfl rfl)
theorem dJ10_copyOf_2_2 : decode cJ10_copyOf_2 2 = .ok (.aload_n 0, 1) := dk_42 (dk_at dksJ10_copyOf_2_0 2 rfl rfl)
theorem dJ10_copyOf_2_3 : decode cJ10_copyOf_2 3 = .ok (.invokevirtual 86, 3) := dk_182 0 86 (dk_at dksJ10_copyOf_2_0 3 rfl rfl)
theorem dJ10_copyOf_2_6 : decode cJ10_copyOf_2 6 = .ok (.invokestatic 300, 3) := dk_184 1 44 (dk_at dksJ10_copyOf_2_0 6 rfl rfl)
theorem dJ10_copyOf_2_9 : decode cJ10_copyOf_2 9 = .ok (.areturn, 1) := dk_176 (dk_at dksJ10_copyOf_2_0 9 rfl rfl)
abbrev cJ10_copyOf_3 : ByteArray := prog_52_method_120_code
def yJ10_copyOf_3 : MethodName := ⟨RJ10, "copyOf", "([Ljava/lang/Object;ILjava/lang/Class;)[Ljava/lang/Object;"⟩
def dkwJ10_copyOf_3_1 : List UInt8 := [78, 42, 3, 45, 3, 42, 190, 27, 184, 1, 48, 184, 0, 150, 45, 176]
abbrev dktJ10_copyOf_3_1 : List UInt8 := dkwJ10_copyOf_3_1 ++ []
def dkwJ10_copyOf_3_0 : List UInt8 := [44, 18, 110, 166, 0, 10, 27, 189, 0, 2, 167, 0, 14, 44, 182, 0, 90, 27, 184, 0, 95, 192, 0, 110]
abbrev dktJ10_copyOf_3_0 : List UInt8 := dkwJ10_copyOf_3_0 ++ dktJ10_copyOf_3_1
theorem dksJ10_copyOf_3_0 : cJ10_copyOf_3.data.toList.drop 0 = dktJ10_copyOf_3_0 := by decide +kernel
theorem dksJ10_copyOf_3_1 : cJ10_copyOf_3.data.toList.drop 24 = dktJ10_copyOf_3_1 := dk_seg dksJ10_copyOf_3_0 24 rfl rfl
theorem dJ10_copyOf_3_0 : decode cJ10_copyOf_3 0 = .ok (.aload_n 2, 1) := dk_44 (dk_at dksJ10_copyOf_3_0 0 rfl rfl)
theorem dJ10_copyOf_3_1 : decode cJ10_copyOf_3 1 = .ok (.ldc 110, 2) := dk_18 110 (dk_at dksJ10_copyOf_3_0 1 rfl rfl)
theorem dJ10_copyOf_3_3 : decode cJ10_copyOf_3 3 = .ok (.if_acmp .ne 10, 3) := dk_166 0 10 (dk_at dksJ10_copyOf_3_0 3 rfl rfl)
theorem dJ10_copyOf_3_6 : decode cJ10_copyOf_3 6 = .ok (.iload_n 1, 1) := dk_27 (dk_at dksJ10_copyOf_3_0 6 rfl rfl)
theorem dJ10_copyOf_3_7 : decode cJ10_copyOf_3 7 = .ok (.anewarray 2, 3) := dk_189 0 2 (dk_at dksJ10_copyOf_3_0 7 rfl rfl)
theorem dJ10_copyOf_3_10 : decode cJ10_copyOf_3 10 = .ok (.goto 14, 3) := dk_167 0 14 (dk_at dksJ10_copyOf_3_0 10 rfl rfl)
theorem dJ10_copyOf_3_13 : decode cJ10_copyOf_3 13 = .ok (.aload_n 2, 1) := dk_44 (dk_at dksJ10_copyOf_3_0 13 rfl rfl)
theorem dJ10_copyOf_3_14 : decode cJ10_copyOf_3 14 = .ok (.invokevirtual 90, 3) := dk_182 0 90 (dk_at dksJ10_copyOf_3_0 14 rfl rfl)
theorem dJ10_copyOf_3_17 : decode cJ10_copyOf_3 17 = .ok (.iload_n 1, 1) := dk_27 (dk_at dksJ10_copyOf_3_0 17 rfl rfl)
theorem dJ10_copyOf_3_18 : decode cJ10_copyOf_3 18 = .ok (.invokestatic 95, 3) := dk_184 0 95 (dk_at dksJ10_copyOf_3_0 18 rfl rfl)
theorem dJ10_copyOf_3_21 : decode cJ10_copyOf_3 21 = .ok (.checkcast 110, 3) := dk_192 0 110 (dk_at dksJ10_copyOf_3_0 21 rfl rfl)
theorem dJ10_copyOf_3_24 : decode cJ10_copyOf_3 24 = .ok (.astore_n 3, 1) := dk_78 (dk_at dksJ10_copyOf_3_1 0 rfl rfl)
theorem dJ10_copyOf_3_25 : decode cJ10_copyOf_3 25 = .ok (.aload_n 0, 1) := dk_42 (dk_at dksJ10_copyOf_3_1 1 rfl rfl)
theorem dJ10_copyOf_3_26 : decode cJ10_copyOf_3 26 = .ok (.iconst 0, 1) := dk_3 (dk_at dksJ10_copyOf_3_1 2 rfl rfl)
theorem dJ10_copyOf_3_27 : decode cJ10_copyOf_3 27 = .ok (.aload_n 3, 1) := dk_45 (dk_at dksJ10_copyOf_3_1 3 rfl rfl)
theorem dJ10_copyOf_3_28 : decode cJ10_copyOf_3 28 = .ok (.iconst 0, 1) := dk_3 (dk_at dksJ10_copyOf_3_1 4 rfl rfl)
theorem dJ10_copyOf_3_29 : decode cJ10_copyOf_3 29 = .ok (.aload_n 0, 1) := dk_42 (dk_at dksJ10_copyOf_3_1 5 rfl rfl)
theorem dJ10_copyOf_3_30 : decode cJ10_copyOf_3 30 = .ok (.arraylength, 1) := dk_190 (dk_at dksJ10_copyOf_3_1 6 rfl rfl)
theorem dJ10_copyOf_3_31 : decode cJ10_copyOf_3 31 = .ok (.iload_n 1, 1) := dk_27 (dk_at dksJ10_copyOf_3_1 7 rfl rfl)
theorem dJ10_copyOf_3_32 : decode cJ10_copyOf_3 32 = .ok (.invokestatic 304, 3) := dk_184 1 48 (dk_at dksJ10_copyOf_3_1 8 rfl rfl)
theorem dJ10_copyOf_3_35 : decode cJ10_copyOf_3 35 = .ok (.invokestatic 150, 3) := dk_184 0 150 (dk_at dksJ10_copyOf_3_1 11 rfl rfl)
theorem dJ10_copyOf_3_38 : decode cJ10_copyOf_3 38 = .ok (.aload_n 3, 1) := dk_45 (dk_at dksJ10_copyOf_3_1 14 rfl rfl)
theorem dJ10_copyOf_3_39 : decode cJ10_copyOf_3 39 = .ok (.areturn, 1) := dk_176 (dk_at dksJ10_copyOf_3_1 15 rfl rfl)
abbrev cJ10_fill : ByteArray := prog_52_method_103_code
def yJ10_fill : MethodName := ⟨RJ10, "fill", "([II)V"⟩
def dkwJ10_fill_0 : List UInt8 := [3, 61, 42, 190, 62, 28, 29, 162, 0, 13, 42, 28, 27, 79, 132, 2, 1, 167, 255, 244, 177]
abbrev dktJ10_fill_0 : List UInt8 := dkwJ10_fill_0 ++ []
theorem dksJ10_fill_0 : cJ10_fill.data.toList.drop 0 = dktJ10_fill_0 := by decide +kernel
theorem dJ10_fill_0 : decode cJ10_fill 0 = .ok (.iconst 0, 1) := dk_3 (dk_at dksJ10_fill_0 0 rfl rfl)
theorem dJ10_fill_1 : decode cJ10_fill 1 = .ok (.istore_n 2, 1) := dk_61 (dk_at dksJ10_fill_0 1 rfl rfl)
theorem dJ10_fill_2 : decode cJ10_fill 2 = .ok (.aload_n 0, 1) := dk_42 (dk_at dksJ10_fill_0 2 rfl rfl)
theorem dJ10_fill_3 : decode cJ10_fill 3 = .ok (.arraylength, 1) := dk_190 (dk_at dksJ10_fill_0 3 rfl rfl)
theorem dJ10_fill_4 : decode cJ10_fill 4 = .ok (.istore_n 3, 1) := dk_62 (dk_at dksJ10_fill_0 4 rfl rfl)
theorem dJ10_fill_5 : decode cJ10_fill 5 = .ok (.iload_n 2, 1) := dk_28 (dk_at dksJ10_fill_0 5 rfl rfl)
theorem dJ10_fill_6 : decode cJ10_fill 6 = .ok (.iload_n 3, 1) := dk_29 (dk_at dksJ10_fill_0 6 rfl rfl)
theorem dJ10_fill_7 : decode cJ10_fill 7 = .ok (.if_icmp .ge 13, 3) := dk_162 0 13 (dk_at dksJ10_fill_0 7 rfl rfl)
theorem dJ10_fill_10 : decode cJ10_fill 10 = .ok (.aload_n 0, 1) := dk_42 (dk_at dksJ10_fill_0 10 rfl rfl)
theorem dJ10_fill_11 : decode cJ10_fill 11 = .ok (.iload_n 2, 1) := dk_28 (dk_at dksJ10_fill_0 11 rfl rfl)
theorem dJ10_fill_12 : decode cJ10_fill 12 = .ok (.iload_n 1, 1) := dk_27 (dk_at dksJ10_fill_0 12 rfl rfl)
theorem dJ10_fill_13 : decode cJ10_fill 13 = .ok (.iastore, 1) := dk_79 (dk_at dksJ10_fill_0 13 rfl rfl)
theorem dJ10_fill_14 : decode cJ10_fill 14 = .ok (.iinc 2 1, 3) := dk_132 2 1 (dk_at dksJ10_fill_0 14 rfl rfl)
theorem dJ10_fill_17 : decode cJ10_fill 17 = .ok (.goto (-12), 3) := dk_167 255 244 (dk_at dksJ10_fill_0 17 rfl rfl)
theorem dJ10_fill_20 : decode cJ10_fill 20 = .ok (.return_, 1) := dk_177 (dk_at dksJ10_fill_0 20 rfl rfl)
abbrev cJ10_fill_2 : ByteArray := prog_52_method_111_code
def yJ10_fill_2 : MethodName := ⟨RJ10, "fill", "([ZZ)V"⟩
def dkwJ10_fill_2_0 : List UInt8 := [3, 61, 42, 190, 62, 28, 29, 162, 0, 13, 42, 28, 27, 84, 132, 2, 1, 167, 255, 244, 177]
abbrev dktJ10_fill_2_0 : List UInt8 := dkwJ10_fill_2_0 ++ []
theorem dksJ10_fill_2_0 : cJ10_fill_2.data.toList.drop 0 = dktJ10_fill_2_0 := by decide +kernel
theorem dJ10_fill_2_0 : decode cJ10_fill_2 0 = .ok (.iconst 0, 1) := dk_3 (dk_at dksJ10_fill_2_0 0 rfl rfl)
theorem dJ10_fill_2_1 : decode cJ10_fill_2 1 = .ok (.istore_n 2, 1) := dk_61 (dk_at dksJ10_fill_2_0 1 rfl rfl)
theorem dJ10_fill_2_2 : decode cJ10_fill_2 2 = .ok (.aload_n 0, 1) := dk_42 (dk_at dksJ10_fill_2_0 2 rfl rfl)
theorem dJ10_fill_2_3 : decode cJ10_fill_2 3 = .ok (.arraylength, 1) := dk_190 (dk_at dksJ10_fill_2_0 3 rfl rfl)
theorem dJ10_fill_2_4 : decode cJ10_fill_2 4 = .ok (.istore_n 3, 1) := dk_62 (dk_at dksJ10_fill_2_0 4 rfl rfl)
theorem dJ10_fill_2_5 : decode cJ10_fill_2 5 = .ok (.iload_n 2, 1) := dk_28 (dk_at dksJ10_fill_2_0 5 rfl rfl)
theorem dJ10_fill_2_6 : decode cJ10_fill_2 6 = .ok (.iload_n 3, 1) := dk_29 (dk_at dksJ10_fill_2_0 6 rfl rfl)
theorem dJ10_fill_2_7 : decode cJ10_fill_2 7 = .ok (.if_icmp .ge 13, 3) := dk_162 0 13 (dk_at dksJ10_fill_2_0 7 rfl rfl)
theorem dJ10_fill_2_10 : decode cJ10_fill_2 10 = .ok (.aload_n 0, 1) := dk_42 (dk_at dksJ10_fill_2_0 10 rfl rfl)
theorem dJ10_fill_2_11 : decode cJ10_fill_2 11 = .ok (.iload_n 2, 1) := dk_28 (dk_at dksJ10_fill_2_0 11 rfl rfl)
theorem dJ10_fill_2_12 : decode cJ10_fill_2 12 = .ok (.iload_n 1, 1) := dk_27 (dk_at dksJ10_fill_2_0 12 rfl rfl)
theorem dJ10_fill_2_13 : decode cJ10_fill_2 13 = .ok (.bastore, 1) := dk_84 (dk_at dksJ10_fill_2_0 13 rfl rfl)
theorem dJ10_fill_2_14 : decode cJ10_fill_2 14 = .ok (.iinc 2 1, 3) := dk_132 2 1 (dk_at dksJ10_fill_2_0 14 rfl rfl)
theorem dJ10_fill_2_17 : decode cJ10_fill_2 17 = .ok (.goto (-12), 3) := dk_167 255 244 (dk_at dksJ10_fill_2_0 17 rfl rfl)
theorem dJ10_fill_2_20 : decode cJ10_fill_2 20 = .ok (.return_, 1) := dk_177 (dk_at dksJ10_fill_2_0 20 rfl rfl)
abbrev cJ10_fill_3 : ByteArray := prog_52_method_101_code
def yJ10_fill_3 : MethodName := ⟨RJ10, "fill", "([JJ)V"⟩
def dkwJ10_fill_3_0 : List UInt8 := [3, 62, 42, 190, 54, 4, 29, 21, 4, 162, 0, 13, 42, 29, 31, 80, 132, 3, 1, 167, 255, 243, 177]
abbrev dktJ10_fill_3_0 : List UInt8 := dkwJ10_fill_3_0 ++ []
theorem dksJ10_fill_3_0 : cJ10_fill_3.data.toList.drop 0 = dktJ10_fill_3_0 := by decide +kernel
theorem dJ10_fill_3_0 : decode cJ10_fill_3 0 = .ok (.iconst 0, 1) := dk_3 (dk_at dksJ10_fill_3_0 0 rfl rfl)
theorem dJ10_fill_3_1 : decode cJ10_fill_3 1 = .ok (.istore_n 3, 1) := dk_62 (dk_at dksJ10_fill_3_0 1 rfl rfl)
theorem dJ10_fill_3_2 : decode cJ10_fill_3 2 = .ok (.aload_n 0, 1) := dk_42 (dk_at dksJ10_fill_3_0 2 rfl rfl)
theorem dJ10_fill_3_3 : decode cJ10_fill_3 3 = .ok (.arraylength, 1) := dk_190 (dk_at dksJ10_fill_3_0 3 rfl rfl)
theorem dJ10_fill_3_4 : decode cJ10_fill_3 4 = .ok (.istore 4, 2) := dk_54 4 (dk_at dksJ10_fill_3_0 4 rfl rfl)
theorem dJ10_fill_3_6 : decode cJ10_fill_3 6 = .ok (.iload_n 3, 1) := dk_29 (dk_at dksJ10_fill_3_0 6 rfl rfl)
theorem dJ10_fill_3_7 : decode cJ10_fill_3 7 = .ok (.iload 4, 2) := dk_21 4 (dk_at dksJ10_fill_3_0 7 rfl rfl)
theorem dJ10_fill_3_9 : decode cJ10_fill_3 9 = .ok (.if_icmp .ge 13, 3) := dk_162 0 13 (dk_at dksJ10_fill_3_0 9 rfl rfl)
theorem dJ10_fill_3_12 : decode cJ10_fill_3 12 = .ok (.aload_n 0, 1) := dk_42 (dk_at dksJ10_fill_3_0 12 rfl rfl)
theorem dJ10_fill_3_13 : decode cJ10_fill_3 13 = .ok (.iload_n 3, 1) := dk_29 (dk_at dksJ10_fill_3_0 13 rfl rfl)
theorem dJ10_fill_3_14 : decode cJ10_fill_3 14 = .ok (.lload_n 1, 1) := dk_31 (dk_at dksJ10_fill_3_0 14 rfl rfl)
theorem dJ10_fill_3_15 : decode cJ10_fill_3 15 = .ok (.lastore, 1) := dk_80 (dk_at dksJ10_fill_3_0 15 rfl rfl)
theorem dJ10_fill_3_16 : decode cJ10_fill_3 16 = .ok (.iinc 3 1, 3) := dk_132 3 1 (dk_at dksJ10_fill_3_0 16 rfl rfl)
theorem dJ10_fill_3_19 : decode cJ10_fill_3 19 = .ok (.goto (-13), 3) := dk_167 255 243 (dk_at dksJ10_fill_3_0 19 rfl rfl)
theorem dJ10_fill_3_22 : decode cJ10_fill_3 22 = .ok (.return_, 1) := dk_177 (dk_at dksJ10_fill_3_0 22 rfl rfl)
theorem q114 : (Jvm.Cond.initialized "java/util/Arrays") ∈ lw_all := lw_g (lw_at lw_m1 17 rfl) rfl
theorem q416 : (Jvm.Cond.static ({ cls := "java/util/Arrays", name := "copyOf", desc := "([BI)[B" } : Jvm.MethodName)) ∈ lw_all := lw_g (lw_at lw_m2 79 rfl) rfl
theorem q417 : (Jvm.Cond.code ({ cls := "java/util/Arrays", name := "copyOf", desc := "([BI)[B" } : Jvm.MethodName) prog_52_method_121_code (3 : Nat) (Option.some (Jvm.ClassFile.FieldType.array Jvm.ClassFile.FieldType.byte))) ∈ lw_all := lw_g (lw_at lw_m2 80 rfl) rfl
theorem q418 : (Jvm.Cond.methodLink "java/util/Arrays" (310 : Nat) ({ cls := "[B", name := "clone", desc := "()Ljava/lang/Object;" } : Jvm.MethodName)) ∈ lw_all := lw_g (lw_at lw_m2 81 rfl) rfl
theorem q424 : (Jvm.Cond.classLink "java/util/Arrays" (311 : Nat) "[B") ∈ lw_all := lw_g (lw_at lw_m2 87 rfl) rfl
theorem q425 : (Jvm.Cond.methodLink "java/util/Arrays" (304 : Nat) ({ cls := "java/lang/Math", name := "min", desc := "(II)I" } : Jvm.MethodName)) ∈ lw_all := lw_g (lw_at lw_m2 88 rfl) rfl
theorem q428 : (Jvm.Cond.methodLink "java/util/Arrays" (150 : Nat) ({ cls := "java/lang/System", name := "arraycopy", desc := "(Ljava/lang/Object;ILjava/lang/Object;II)V" } : Jvm.MethodName)) ∈ lw_all := lw_g (lw_at lw_m2 91 rfl) rfl
theorem q512 : (Jvm.Cond.static ({ cls := "java/util/Arrays", name := "copyOfRange", desc := "([BII)[B" } : Jvm.MethodName)) ∈ lw_all := lw_g (lw_at lw_m2 175 rfl) rfl
theorem q513 : (Jvm.Cond.code ({ cls := "java/util/Arrays", name := "copyOfRange", desc := "([BII)[B" } : Jvm.MethodName) prog_52_method_132_code (3 : Nat) (Option.some (Jvm.ClassFile.FieldType.array Jvm.ClassFile.FieldType.byte))) ∈ lw_all := lw_g (lw_at lw_m2 176 rfl) rfl
theorem q514 : (Jvm.Cond.methodLink "java/util/Arrays" (339 : Nat) ({ cls := "java/util/Arrays", name := "copyOfRangeByte", desc := "([BII)[B" } : Jvm.MethodName)) ∈ lw_all := lw_g (lw_at lw_m2 177 rfl) rfl
theorem q515 : (Jvm.Cond.static ({ cls := "java/util/Arrays", name := "copyOfRangeByte", desc := "([BII)[B" } : Jvm.MethodName)) ∈ lw_all := lw_g (lw_at lw_m2 178 rfl) rfl
theorem q516 : (Jvm.Cond.code ({ cls := "java/util/Arrays", name := "copyOfRangeByte", desc := "([BII)[B" } : Jvm.MethodName) prog_52_method_133_code (5 : Nat) (Option.some (Jvm.ClassFile.FieldType.array Jvm.ClassFile.FieldType.byte))) ∈ lw_all := lw_g (lw_at lw_m2 179 rfl) rfl
theorem q517 : (Jvm.Cond.methodLink "java/util/Arrays" (343 : Nat) ({ cls := "java/util/Arrays", name := "checkLength", desc := "(II)V" } : Jvm.MethodName)) ∈ lw_all := lw_g (lw_at lw_m2 180 rfl) rfl
theorem q518 : (Jvm.Cond.static ({ cls := "java/util/Arrays", name := "checkLength", desc := "(II)V" } : Jvm.MethodName)) ∈ lw_all := lw_g (lw_at lw_m2 181 rfl) rfl
theorem q519 : (Jvm.Cond.code ({ cls := "java/util/Arrays", name := "checkLength", desc := "(II)V" } : Jvm.MethodName) prog_52_method_131_code (2 : Nat) (Option.none : Option Jvm.ClassFile.FieldType)) ∈ lw_all := lw_g (lw_at lw_m2 182 rfl) rfl
theorem q952 : (Jvm.Cond.static ({ cls := "java/util/Arrays", name := "copyOf", desc := "([Ljava/lang/Object;I)[Ljava/lang/Object;" } : Jvm.MethodName)) ∈ lw_all := lw_g (lw_at lw_m4 135 rfl) rfl
theorem q953 : (Jvm.Cond.code ({ cls := "java/util/Arrays", name := "copyOf", desc := "([Ljava/lang/Object;I)[Ljava/lang/Object;" } : Jvm.MethodName) prog_52_method_119_code (2 : Nat) (Option.some (Jvm.ClassFile.FieldType.array (Jvm.ClassFile.FieldType.object "java/lang/Object")))) ∈ lw_all := lw_g (lw_at lw_m4 136 rfl) rfl
theorem q954 : (Jvm.Cond.methodLink "java/util/Arrays" (86 : Nat) ({ cls := "java/lang/Object", name := "getClass", desc := "()Ljava/lang/Class;" } : Jvm.MethodName)) ∈ lw_all := lw_g (lw_at lw_m4 137 rfl) rfl
theorem q984 : (Jvm.Cond.methodLink "java/util/Arrays" (300 : Nat) ({ cls := "java/util/Arrays", name := "copyOf", desc := "([Ljava/lang/Object;ILjava/lang/Class;)[Ljava/lang/Object;" } : Jvm.MethodName)) ∈ lw_all := lw_g (lw_at lw_m4 167 rfl) rfl
theorem q985 : (Jvm.Cond.static ({ cls := "java/util/Arrays", name := "copyOf", desc := "([Ljava/lang/Object;ILjava/lang/Class;)[Ljava/lang/Object;" } : Jvm.MethodName)) ∈ lw_all := lw_g (lw_at lw_m4 168 rfl) rfl
theorem q986 : (Jvm.Cond.code ({ cls := "java/util/Arrays", name := "copyOf", desc := "([Ljava/lang/Object;ILjava/lang/Class;)[Ljava/lang/Object;" } : Jvm.MethodName) prog_52_method_120_code (4 : Nat) (Option.some (Jvm.ClassFile.FieldType.array (Jvm.ClassFile.FieldType.object "java/lang/Object")))) ∈ lw_all := lw_g (lw_at lw_m4 169 rfl) rfl
theorem q987 : (Jvm.Cond.classLink "java/util/Arrays" (110 : Nat) "[Ljava/lang/Object;") ∈ lw_all := lw_g (lw_at lw_m4 170 rfl) rfl
theorem q989 : (Jvm.Cond.classLink "java/util/Arrays" (2 : Nat) "java/lang/Object") ∈ lw_all := lw_g (lw_at lw_m4 172 rfl) rfl
theorem q1057 : (Jvm.Cond.static ({ cls := "java/util/Arrays", name := "fill", desc := "([II)V" } : Jvm.MethodName)) ∈ lw_all := lw_g (lw_at lw_m5 0 rfl) rfl
theorem q1058 : (Jvm.Cond.code ({ cls := "java/util/Arrays", name := "fill", desc := "([II)V" } : Jvm.MethodName) prog_52_method_103_code (4 : Nat) (Option.none : Option Jvm.ClassFile.FieldType)) ∈ lw_all := lw_g (lw_at lw_m5 1 rfl) rfl
theorem q1313 : (Jvm.Cond.static ({ cls := "java/util/Arrays", name := "fill", desc := "([ZZ)V" } : Jvm.MethodName)) ∈ lw_all := lw_g (lw_at lw_m6 16 rfl) rfl
theorem q1314 : (Jvm.Cond.code ({ cls := "java/util/Arrays", name := "fill", desc := "([ZZ)V" } : Jvm.MethodName) prog_52_method_111_code (4 : Nat) (Option.none : Option Jvm.ClassFile.FieldType)) ∈ lw_all := lw_g (lw_at lw_m6 17 rfl) rfl
theorem q1766 : (Jvm.Cond.static ({ cls := "java/util/Arrays", name := "fill", desc := "([JJ)V" } : Jvm.MethodName)) ∈ lw_all := lw_g (lw_at lw_m7 229 rfl) rfl
theorem q1767 : (Jvm.Cond.code ({ cls := "java/util/Arrays", name := "fill", desc := "([JJ)V" } : Jvm.MethodName) prog_52_method_101_code (5 : Nat) (Option.none : Option Jvm.ClassFile.FieldType)) ∈ lw_all := lw_g (lw_at lw_m7 230 rfl) rfl

/-! java/lang/StringLatin1 -/
set_option maxRecDepth 100000
def RJ11 : String := "java/lang/StringLatin1"
abbrev cJ11_canEncode : ByteArray := prog_42_method_3_code
def yJ11_canEncode : MethodName := ⟨RJ11, "canEncode", "(C)Z"⟩
def dkwJ11_canEncode_0 : List UInt8 := [26, 17, 0, 255, 163, 0, 7, 4, 167, 0, 4, 3, 172]
abbrev dktJ11_canEncode_0 : List UInt8 := dkwJ11_canEncode_0 ++ []
theorem dksJ11_canEncode_0 : cJ11_canEncode.data.toList.drop 0 = dktJ11_canEncode_0 := by decide +kernel
theorem dJ11_canEncode_0 : decode cJ11_canEncode 0 = .ok (.iload_n 0, 1) := dk_26 (dk_at dksJ11_canEncode_0 0 rfl rfl)
theorem dJ11_canEncode_1 : decode cJ11_canEncode 1 = .ok (.sipush 255, 3) := dk_17 0 255 (dk_at dksJ11_canEncode_0 1 rfl rfl)
theorem dJ11_canEncode_4 : decode cJ11_canEncode 4 = .ok (.if_icmp .gt 7, 3) := dk_163 0 7 (dk_at dksJ11_canEncode_0 4 rfl rfl)
theorem dJ11_canEncode_7 : decode cJ11_canEncode 7 = .ok (.iconst 1, 1) := dk_4 (dk_at dksJ11_canEncode_0 7 rfl rfl)
theorem dJ11_canEncode_8 : decode cJ11_canEncode 8 = .ok (.goto 4, 3) := dk_167 0 4 (dk_at dksJ11_canEncode_0 8 rfl rfl)
theorem dJ11_canEncode_11 : decode cJ11_canEncode 11 = .ok (.iconst 0, 1) := dk_3 (dk_at dksJ11_canEncode_0 11 rfl rfl)
theorem dJ11_canEncode_12 : decode cJ11_canEncode 12 = .ok (.ireturn, 1) := dk_172 (dk_at dksJ11_canEncode_0 12 rfl rfl)
abbrev cJ11_inflate : ByteArray := prog_42_method_50_code
def yJ11_inflate : MethodName := ⟨RJ11, "inflate", "([BI[BII)V"⟩
def dkwJ11_inflate_0 : List UInt8 := [42, 27, 44, 29, 21, 4, 184, 0, 240, 177]
abbrev dktJ11_inflate_0 : List UInt8 := dkwJ11_inflate_0 ++ []
theorem dksJ11_inflate_0 : cJ11_inflate.data.toList.drop 0 = dktJ11_inflate_0 := by decide +kernel
theorem dJ11_inflate_0 : decode cJ11_inflate 0 = .ok (.aload_n 0, 1) := dk_42 (dk_at dksJ11_inflate_0 0 rfl rfl)
theorem dJ11_inflate_1 : decode cJ11_inflate 1 = .ok (.iload_n 1, 1) := dk_27 (dk_at dksJ11_inflate_0 1 rfl rfl)
theorem dJ11_inflate_2 : decode cJ11_inflate 2 = .ok (.aload_n 2, 1) := dk_44 (dk_at dksJ11_inflate_0 2 rfl rfl)
theorem dJ11_inflate_3 : decode cJ11_inflate 3 = .ok (.iload_n 3, 1) := dk_29 (dk_at dksJ11_inflate_0 3 rfl rfl)
theorem dJ11_inflate_4 : decode cJ11_inflate 4 = .ok (.iload 4, 2) := dk_21 4 (dk_at dksJ11_inflate_0 4 rfl rfl)
theorem dJ11_inflate_6 : decode cJ11_inflate 6 = .ok (.invokestatic 240, 3) := dk_184 0 240 (dk_at dksJ11_inflate_0 6 rfl rfl)
theorem dJ11_inflate_9 : decode cJ11_inflate 9 = .ok (.return_, 1) := dk_177 (dk_at dksJ11_inflate_0 9 rfl rfl)
abbrev cJ11_indexOf : ByteArray := prog_42_method_22_code
def yJ11_indexOf : MethodName := ⟨RJ11, "indexOf", "([BIII)I"⟩
def dkwJ11_indexOf_1 : List UInt8 := [161, 0, 5, 2, 172, 42, 27, 28, 29, 184, 0, 95, 172]
abbrev dktJ11_indexOf_1 : List UInt8 := dkwJ11_indexOf_1 ++ []
def dkwJ11_indexOf_0 : List UInt8 := [27, 184, 0, 88, 154, 0, 5, 2, 172, 28, 3, 184, 0, 92, 61, 29, 42, 190, 184, 0, 38, 62, 28, 29]
abbrev dktJ11_indexOf_0 : List UInt8 := dkwJ11_indexOf_0 ++ dktJ11_indexOf_1
theorem dksJ11_indexOf_0 : cJ11_indexOf.data.toList.drop 0 = dktJ11_indexOf_0 := by decide +kernel
theorem dksJ11_indexOf_1 : cJ11_indexOf.data.toList.drop 24 = dktJ11_indexOf_1 := dk_seg dksJ11_indexOf_0 24 rfl rfl
theorem dJ11_indexOf_0 : decode cJ11_indexOf 0 = .ok (.iload_n 1, 1) := dk_27 (dk_at dksJ11_indexOf_0 0 rfl rfl)
theorem dJ11_indexOf_1 : decode cJ11_indexOf 1 = .ok (.invokestatic 88, 3) := dk_184 0 88 (dk_at dksJ11_indexOf_0 1 rfl rfl)
theorem dJ11_indexOf_4 : decode cJ11_indexOf 4 = .ok (.ifCond .ne 5, 3) := dk_154 0 5 (dk_at dksJ11_indexOf_0 4 rfl rfl)
theorem dJ11_indexOf_7 : decode cJ11_indexOf 7 = .ok (.iconst (-1), 1) := dk_2 (dk_at dksJ11_indexOf_0 7 rfl rfl)
theorem dJ11_indexOf_8 : decode cJ11_indexOf 8 = .ok (.ireturn, 1) := dk_172 (dk_at dksJ11_indexOf_0 8 rfl rfl)
theorem dJ11_indexOf_9 : decode cJ11_indexOf 9 = .ok (.iload_n 2, 1) := dk_28 (dk_at dksJ11_indexOf_0 9 rfl rfl)
theorem dJ11_indexOf_10 : decode cJ11_indexOf 10 = .ok (.iconst 0, 1) := dk_3 (dk_at dksJ11_indexOf_0 10 rfl rfl)
theorem dJ11_indexOf_11 : decode cJ11_indexOf 11 = .ok (.invokestatic 92, 3) := dk_184 0 92 (dk_at dksJ11_indexOf_0 11 rfl rfl)
theorem dJ11_indexOf_14 : decode cJ11_indexOf 14 = .ok (.istore_n 2, 1) := dk_61 (dk_at dksJ11_indexOf_0 14 rfl rfl)
theorem dJ11_indexOf_15 : decode cJ11_indexOf 15 = .ok (.iload_n 3, 1) := dk_29 (dk_at dksJ11_indexOf_0 15 rfl rfl)
theorem dJ11_indexOf_16 : decode cJ11_indexOf 16 = .ok (.aload_n 0, 1) := dk_42 (dk_at dksJ11_indexOf_0 16 rfl rfl)
theorem dJ11_indexOf_17 : decode cJ11_indexOf 17 = .ok (.arraylength, 1) := dk_190 (dk_at dksJ11_indexOf_0 17 rfl rfl)
theorem dJ11_indexOf_18 : decode cJ11_indexOf 18 = .ok (.invokestatic 38, 3) := dk_184 0 38 (dk_at dksJ11_indexOf_0 18 rfl rfl)
theorem dJ11_indexOf_21 : decode cJ11_indexOf 21 = .ok (.istore_n 3, 1) := dk_62 (dk_at dksJ11_indexOf_0 21 rfl rfl)
theorem dJ11_indexOf_22 : decode cJ11_indexOf 22 = .ok (.iload_n 2, 1) := dk_28 (dk_at dksJ11_indexOf_0 22 rfl rfl)
theorem dJ11_indexOf_23 : decode cJ11_indexOf 23 = .ok (.iload_n 3, 1) := dk_29 (dk_at dksJ11_indexOf_0 23 rfl rfl)
theorem dJ11_indexOf_24 : decode cJ11_indexOf 24 = .ok (.if_icmp .lt 5, 3) := dk_161 0 5 (dk_at dksJ11_indexOf_1 0 rfl rfl)
theorem dJ11_indexOf_27 : decode cJ11_indexOf 27 = .ok (.iconst (-1), 1) := dk_2 (dk_at dksJ11_indexOf_1 3 rfl rfl)
theorem dJ11_indexOf_28 : decode cJ11_indexOf 28 = .ok (.ireturn, 1) := dk_172 (dk_at dksJ11_indexOf_1 4 rfl rfl)
theorem dJ11_indexOf_29 : decode cJ11_indexOf 29 = .ok (.aload_n 0, 1) := dk_42 (dk_at dksJ11_indexOf_1 5 rfl rfl)
theorem dJ11_indexOf_30 : decode cJ11_indexOf 30 = .ok (.iload_n 1, 1) := dk_27 (dk_at dksJ11_indexOf_1 6 rfl rfl)
theorem dJ11_indexOf_31 : decode cJ11_indexOf 31 = .ok (.iload_n 2, 1) := dk_28 (dk_at dksJ11_indexOf_1 7 rfl rfl)
theorem dJ11_indexOf_32 : decode cJ11_indexOf 32 = .ok (.iload_n 3, 1) := dk_29 (dk_at dksJ11_indexOf_1 8 rfl rfl)
theorem dJ11_indexOf_33 : decode cJ11_indexOf 33 = .ok (.invokestatic 95, 3) := dk_184 0 95 (dk_at dksJ11_indexOf_1 9 rfl rfl)
theorem dJ11_indexOf_36 : decode cJ11_indexOf 36 = .ok (.ireturn, 1) := dk_172 (dk_at dksJ11_indexOf_1 12 rfl rfl)
abbrev cJ11_canEncode_2 : ByteArray := prog_42_method_4_code
def yJ11_canEncode_2 : MethodName := ⟨RJ11, "canEncode", "(I)Z"⟩
def dkwJ11_canEncode_2_0 : List UInt8 := [26, 155, 0, 14, 26, 17, 0, 255, 163, 0, 7, 4, 167, 0, 4, 3, 172]
abbrev dktJ11_canEncode_2_0 : List UInt8 := dkwJ11_canEncode_2_0 ++ []
theorem dksJ11_canEncode_2_0 : cJ11_canEncode_2.data.toList.drop 0 = dktJ11_canEncode_2_0 := by decide +kernel
theorem dJ11_canEncode_2_0 : decode cJ11_canEncode_2 0 = .ok (.iload_n 0, 1) := dk_26 (dk_at dksJ11_canEncode_2_0 0 rfl rfl)
theorem dJ11_canEncode_2_1 : decode cJ11_canEncode_2 1 = .ok (.ifCond .lt 14, 3) := dk_155 0 14 (dk_at dksJ11_canEncode_2_0 1 rfl rfl)
theorem dJ11_canEncode_2_4 : decode cJ11_canEncode_2 4 = .ok (.iload_n 0, 1) := dk_26 (dk_at dksJ11_canEncode_2_0 4 rfl rfl)
theorem dJ11_canEncode_2_5 : decode cJ11_canEncode_2 5 = .ok (.sipush 255, 3) := dk_17 0 255 (dk_at dksJ11_canEncode_2_0 5 rfl rfl)
theorem dJ11_canEncode_2_8 : decode cJ11_canEncode_2 8 = .ok (.if_icmp .gt 7, 3) := dk_163 0 7 (dk_at dksJ11_canEncode_2_0 8 rfl rfl)
theorem dJ11_canEncode_2_11 : decode cJ11_canEncode_2 11 = .ok (.iconst 1, 1) := dk_4 (dk_at dksJ11_canEncode_2_0 11 rfl rfl)
theorem dJ11_canEncode_2_12 : decode cJ11_canEncode_2 12 = .ok (.goto 4, 3) := dk_167 0 4 (dk_at dksJ11_canEncode_2_0 12 rfl rfl)
theorem dJ11_canEncode_2_15 : decode cJ11_canEncode_2 15 = .ok (.iconst 0, 1) := dk_3 (dk_at dksJ11_canEncode_2_0 15 rfl rfl)
theorem dJ11_canEncode_2_16 : decode cJ11_canEncode_2 16 = .ok (.ireturn, 1) := dk_172 (dk_at dksJ11_canEncode_2_0 16 rfl rfl)
abbrev cJ11_indexOfChar : ByteArray := prog_42_method_23_code
def yJ11_indexOfChar : MethodName := ⟨RJ11, "indexOfChar", "([BIII)I"⟩
def dkwJ11_indexOfChar_1 : List UInt8 := [172, 132, 5, 1, 167, 255, 235, 2, 172]
abbrev dktJ11_indexOfChar_1 : List UInt8 := dkwJ11_indexOfChar_1 ++ []
def dkwJ11_indexOfChar_0 : List UInt8 := [27, 145, 54, 4, 28, 54, 5, 21, 5, 29, 162, 0, 21, 42, 21, 5, 51, 21, 4, 160, 0, 6, 21, 5]
abbrev dktJ11_indexOfChar_0 : List UInt8 := dkwJ11_indexOfChar_0 ++ dktJ11_indexOfChar_1
theorem dksJ11_indexOfChar_0 : cJ11_indexOfChar.data.toList.drop 0 = dktJ11_indexOfChar_0 := by decide +kernel
theorem dksJ11_indexOfChar_1 : cJ11_indexOfChar.data.toList.drop 24 = dktJ11_indexOfChar_1 := dk_seg dksJ11_indexOfChar_0 24 rfl rfl
theorem dJ11_indexOfChar_0 : decode cJ11_indexOfChar 0 = .ok (.iload_n 1, 1) := dk_27 (dk_at dksJ11_indexOfChar_0 0 rfl rfl)
theorem dJ11_indexOfChar_1 : decode cJ11_indexOfChar 1 = .ok (.i2b, 1) := dk_145 (dk_at dksJ11_indexOfChar_0 1 rfl rfl)
theorem dJ11_indexOfChar_2 : decode cJ11_indexOfChar 2 = .ok (.istore 4, 2) := dk_54 4 (dk_at dksJ11_indexOfChar_0 2 rfl rfl)
theorem dJ11_indexOfChar_4 : decode cJ11_indexOfChar 4 = .ok (.iload_n 2, 1) := dk_28 (dk_at dksJ11_indexOfChar_0 4 rfl rfl)
theorem dJ11_indexOfChar_5 : decode cJ11_indexOfChar 5 = .ok (.istore 5, 2) := dk_54 5 (dk_at dksJ11_indexOfChar_0 5 rfl rfl)
theorem dJ11_indexOfChar_7 : decode cJ11_indexOfChar 7 = .ok (.iload 5, 2) := dk_21 5 (dk_at dksJ11_indexOfChar_0 7 rfl rfl)
theorem dJ11_indexOfChar_9 : decode cJ11_indexOfChar 9 = .ok (.iload_n 3, 1) := dk_29 (dk_at dksJ11_indexOfChar_0 9 rfl rfl)
theorem dJ11_indexOfChar_10 : decode cJ11_indexOfChar 10 = .ok (.if_icmp .ge 21, 3) := dk_162 0 21 (dk_at dksJ11_indexOfChar_0 10 rfl rfl)
theorem dJ11_indexOfChar_13 : decode cJ11_indexOfChar 13 = .ok (.aload_n 0, 1) := dk_42 (dk_at dksJ11_indexOfChar_0 13 rfl rfl)
theorem dJ11_indexOfChar_14 : decode cJ11_indexOfChar 14 = .ok (.iload 5, 2) := dk_21 5 (dk_at dksJ11_indexOfChar_0 14 rfl rfl)
theorem dJ11_indexOfChar_16 : decode cJ11_indexOfChar 16 = .ok (.baload, 1) := dk_51 (dk_at dksJ11_indexOfChar_0 16 rfl rfl)
theorem dJ11_indexOfChar_17 : decode cJ11_indexOfChar 17 = .ok (.iload 4, 2) := dk_21 4 (dk_at dksJ11_indexOfChar_0 17 rfl rfl)
theorem dJ11_indexOfChar_19 : decode cJ11_indexOfChar 19 = .ok (.if_icmp .ne 6, 3) := dk_160 0 6 (dk_at dksJ11_indexOfChar_0 19 rfl rfl)
theorem dJ11_indexOfChar_22 : decode cJ11_indexOfChar 22 = .ok (.iload 5, 2) := dk_21 5 (dk_at dksJ11_indexOfChar_0 22 rfl rfl)
theorem dJ11_indexOfChar_24 : decode cJ11_indexOfChar 24 = .ok (.ireturn, 1) := dk_172 (dk_at dksJ11_indexOfChar_1 0 rfl rfl)
theorem dJ11_indexOfChar_25 : decode cJ11_indexOfChar 25 = .ok (.iinc 5 1, 3) := dk_132 5 1 (dk_at dksJ11_indexOfChar_1 1 rfl rfl)
theorem dJ11_indexOfChar_28 : decode cJ11_indexOfChar 28 = .ok (.goto (-21), 3) := dk_167 255 235 (dk_at dksJ11_indexOfChar_1 4 rfl rfl)
theorem dJ11_indexOfChar_31 : decode cJ11_indexOfChar 31 = .ok (.iconst (-1), 1) := dk_2 (dk_at dksJ11_indexOfChar_1 7 rfl rfl)
theorem dJ11_indexOfChar_32 : decode cJ11_indexOfChar 32 = .ok (.ireturn, 1) := dk_172 (dk_at dksJ11_indexOfChar_1 8 rfl rfl)
abbrev cJ11_equals : ByteArray := prog_42_method_13_code
def yJ11_equals : MethodName := ⟨RJ11, "equals", "([B[B)Z"⟩
def dkwJ11_equals_1 : List UInt8 := [3, 172, 132, 2, 1, 167, 255, 236, 4, 172, 3, 172]
abbrev dktJ11_equals_1 : List UInt8 := dkwJ11_equals_1 ++ []
def dkwJ11_equals_0 : List UInt8 := [42, 190, 43, 190, 160, 0, 30, 3, 61, 28, 42, 190, 162, 0, 20, 42, 28, 51, 43, 28, 51, 159, 0, 5]
abbrev dktJ11_equals_0 : List UInt8 := dkwJ11_equals_0 ++ dktJ11_equals_1
theorem dksJ11_equals_0 : cJ11_equals.data.toList.drop 0 = dktJ11_equals_0 := by decide +kernel
theorem dksJ11_equals_1 : cJ11_equals.data.toList.drop 24 = dktJ11_equals_1 := dk_seg dksJ11_equals_0 24 rfl rfl
theorem dJ11_equals_0 : decode cJ11_equals 0 = .ok (.aload_n 0, 1) := dk_42 (dk_at dksJ11_equals_0 0 rfl rfl)
theorem dJ11_equals_1 : decode cJ11_equals 1 = .ok (.arraylength, 1) := dk_190 (dk_at dksJ11_equals_0 1 rfl rfl)
theorem dJ11_equals_2 : decode cJ11_equals 2 = .ok (.aload_n 1, 1) := dk_43 (dk_at dksJ11_equals_0 2 rfl rfl)
theorem dJ11_equals_3 : decode cJ11_equals 3 = .ok (.arraylength, 1) := dk_190 (dk_at dksJ11_equals_0 3 rfl rfl)
theorem dJ11_equals_4 : decode cJ11_equals 4 = .ok (.if_icmp .ne 30, 3) := dk_160 0 30 (dk_at dksJ11_equals_0 4 rfl rfl)
theorem dJ11_equals_7 : decode cJ11_equals 7 = .ok (.iconst 0, 1) := dk_3 (dk_at dksJ11_equals_0 7 rfl rfl)
theorem dJ11_equals_8 : decode cJ11_equals 8 = .ok (.istore_n 2, 1) := dk_61 (dk_at dksJ11_equals_0 8 rfl rfl)
theorem dJ11_equals_9 : decode cJ11_equals 9 = .ok (.iload_n 2, 1) := dk_28 (dk_at dksJ11_equals_0 9 rfl rfl)
theorem dJ11_equals_10 : decode cJ11_equals 10 = .ok (.aload_n 0, 1) := dk_42 (dk_at dksJ11_equals_0 10 rfl rfl)
theorem dJ11_equals_11 : decode cJ11_equals 11 = .ok (.arraylength, 1) := dk_190 (dk_at dksJ11_equals_0 11 rfl rfl)
theorem dJ11_equals_12 : decode cJ11_equals 12 = .ok (.if_icmp .ge 20, 3) := dk_162 0 20 (dk_at dksJ11_equals_0 12 rfl rfl)
theorem dJ11_equals_15 : decode cJ11_equals 15 = .ok (.aload_n 0, 1) := dk_42 (dk_at dksJ11_equals_0 15 rfl rfl)
theorem dJ11_equals_16 : decode cJ11_equals 16 = .ok (.iload_n 2, 1) := dk_28 (dk_at dksJ11_equals_0 16 rfl rfl)
theorem dJ11_equals_17 : decode cJ11_equals 17 = .ok (.baload, 1) := dk_51 (dk_at dksJ11_equals_0 17 rfl rfl)
theorem dJ11_equals_18 : decode cJ11_equals 18 = .ok (.aload_n 1, 1) := dk_43 (dk_at dksJ11_equals_0 18 rfl rfl)
theorem dJ11_equals_19 : decode cJ11_equals 19 = .ok (.iload_n 2, 1) := dk_28 (dk_at dksJ11_equals_0 19 rfl rfl)
theorem dJ11_equals_20 : decode cJ11_equals 20 = .ok (.baload, 1) := dk_51 (dk_at dksJ11_equals_0 20 rfl rfl)
theorem dJ11_equals_21 : decode cJ11_equals 21 = .ok (.if_icmp .eq 5, 3) := dk_159 0 5 (dk_at dksJ11_equals_0 21 rfl rfl)
theorem dJ11_equals_24 : decode cJ11_equals 24 = .ok (.iconst 0, 1) := dk_3 (dk_at dksJ11_equals_1 0 rfl rfl)
theorem dJ11_equals_25 : decode cJ11_equals 25 = .ok (.ireturn, 1) := dk_172 (dk_at dksJ11_equals_1 1 rfl rfl)
theorem dJ11_equals_26 : decode cJ11_equals 26 = .ok (.iinc 2 1, 3) := dk_132 2 1 (dk_at dksJ11_equals_1 2 rfl rfl)
theorem dJ11_equals_29 : decode cJ11_equals 29 = .ok (.goto (-20), 3) := dk_167 255 236 (dk_at dksJ11_equals_1 5 rfl rfl)
theorem dJ11_equals_32 : decode cJ11_equals 32 = .ok (.iconst 1, 1) := dk_4 (dk_at dksJ11_equals_1 8 rfl rfl)
theorem dJ11_equals_33 : decode cJ11_equals 33 = .ok (.ireturn, 1) := dk_172 (dk_at dksJ11_equals_1 9 rfl rfl)
theorem dJ11_equals_34 : decode cJ11_equals 34 = .ok (.iconst 0, 1) := dk_3 (dk_at dksJ11_equals_1 10 rfl rfl)
theorem dJ11_equals_35 : decode cJ11_equals 35 = .ok (.ireturn, 1) := dk_172 (dk_at dksJ11_equals_1 11 rfl rfl)
abbrev cJ11_charAt : ByteArray := prog_42_method_2_code
def yJ11_charAt : MethodName := ⟨RJ11, "charAt", "([BI)C"⟩
def dkwJ11_charAt_0 : List UInt8 := [27, 42, 190, 184, 0, 9, 42, 27, 51, 17, 0, 255, 126, 146, 172]
abbrev dktJ11_charAt_0 : List UInt8 := dkwJ11_charAt_0 ++ []
theorem dksJ11_charAt_0 : cJ11_charAt.data.toList.drop 0 = dktJ11_charAt_0 := by decide +kernel
theorem dJ11_charAt_0 : decode cJ11_charAt 0 = .ok (.iload_n 1, 1) := dk_27 (dk_at dksJ11_charAt_0 0 rfl rfl)
theorem dJ11_charAt_1 : decode cJ11_charAt 1 = .ok (.aload_n 0, 1) := dk_42 (dk_at dksJ11_charAt_0 1 rfl rfl)
theorem dJ11_charAt_2 : decode cJ11_charAt 2 = .ok (.arraylength, 1) := dk_190 (dk_at dksJ11_charAt_0 2 rfl rfl)
theorem dJ11_charAt_3 : decode cJ11_charAt 3 = .ok (.invokestatic 9, 3) := dk_184 0 9 (dk_at dksJ11_charAt_0 3 rfl rfl)
theorem dJ11_charAt_6 : decode cJ11_charAt 6 = .ok (.aload_n 0, 1) := dk_42 (dk_at dksJ11_charAt_0 6 rfl rfl)
theorem dJ11_charAt_7 : decode cJ11_charAt 7 = .ok (.iload_n 1, 1) := dk_27 (dk_at dksJ11_charAt_0 7 rfl rfl)
theorem dJ11_charAt_8 : decode cJ11_charAt 8 = .ok (.baload, 1) := dk_51 (dk_at dksJ11_charAt_0 8 rfl rfl)
theorem dJ11_charAt_9 : decode cJ11_charAt 9 = .ok (.sipush 255, 3) := dk_17 0 255 (dk_at dksJ11_charAt_0 9 rfl rfl)
theorem dJ11_charAt_12 : decode cJ11_charAt 12 = .ok (.iand, 1) := dk_126 (dk_at dksJ11_charAt_0 12 rfl rfl)
theorem dJ11_charAt_13 : decode cJ11_charAt 13 = .ok (.i2c, 1) := dk_146 (dk_at dksJ11_charAt_0 13 rfl rfl)
theorem dJ11_charAt_14 : decode cJ11_charAt 14 = .ok (.ireturn, 1) := dk_172 (dk_at dksJ11_charAt_0 14 rfl rfl)
abbrev cJ11_hashCode : ByteArray := prog_42_method_21_code
def yJ11_hashCode : MethodName := ⟨RJ11, "hashCode", "([B)I"⟩
def dkwJ11_hashCode_2 : List UInt8 := [3, 167, 0, 22, 42, 3, 51, 17, 0, 255, 126, 167, 0, 12, 42, 3, 42, 190, 3, 7, 184, 0, 84, 172]
abbrev dktJ11_hashCode_2 : List UInt8 := dkwJ11_hashCode_2 ++ []
def dkwJ11_hashCode_1 : List UInt8 := [171, 0, 0, 0, 0, 40, 0, 0, 0, 2, 0, 0, 0, 0, 0, 0, 0, 26, 0, 0, 0, 1, 0, 0, 0, 30]
abbrev dktJ11_hashCode_1 : List UInt8 := dkwJ11_hashCode_1 ++ dktJ11_hashCode_2
def dkwJ11_hashCode_0 : List UInt8 := [42, 190]
abbrev dktJ11_hashCode_0 : List UInt8 := dkwJ11_hashCode_0 ++ dktJ11_hashCode_1
theorem dksJ11_hashCode_0 : cJ11_hashCode.data.toList.drop 0 = dktJ11_hashCode_0 := by decide +kernel
theorem dksJ11_hashCode_1 : cJ11_hashCode.data.toList.drop 2 = dktJ11_hashCode_1 := dk_seg dksJ11_hashCode_0 2 rfl rfl
theorem dksJ11_hashCode_2 : cJ11_hashCode.data.toList.drop 28 = dktJ11_hashCode_2 := dk_seg dksJ11_hashCode_1 26 rfl rfl
theorem dJ11_hashCode_0 : decode cJ11_hashCode 0 = .ok (.aload_n 0, 1) := dk_42 (dk_at dksJ11_hashCode_0 0 rfl rfl)
theorem dJ11_hashCode_1 : decode cJ11_hashCode 1 = .ok (.arraylength, 1) := dk_190 (dk_at dksJ11_hashCode_0 1 rfl rfl)
theorem dJ11_hashCode_2 : decode cJ11_hashCode 2 = .ok (.lookupswitch 40 #[(0, 26), (1, 30)], 26) := by decide +kernel
theorem dJ11_hashCode_28 : decode cJ11_hashCode 28 = .ok (.iconst 0, 1) := dk_3 (dk_at dksJ11_hashCode_2 0 rfl rfl)
theorem dJ11_hashCode_29 : decode cJ11_hashCode 29 = .ok (.goto 22, 3) := dk_167 0 22 (dk_at dksJ11_hashCode_2 1 rfl rfl)
theorem dJ11_hashCode_32 : decode cJ11_hashCode 32 = .ok (.aload_n 0, 1) := dk_42 (dk_at dksJ11_hashCode_2 4 rfl rfl)
theorem dJ11_hashCode_33 : decode cJ11_hashCode 33 = .ok (.iconst 0, 1) := dk_3 (dk_at dksJ11_hashCode_2 5 rfl rfl)
theorem dJ11_hashCode_34 : decode cJ11_hashCode 34 = .ok (.baload, 1) := dk_51 (dk_at dksJ11_hashCode_2 6 rfl rfl)
theorem dJ11_hashCode_35 : decode cJ11_hashCode 35 = .ok (.sipush 255, 3) := dk_17 0 255 (dk_at dksJ11_hashCode_2 7 rfl rfl)
theorem dJ11_hashCode_38 : decode cJ11_hashCode 38 = .ok (.iand, 1) := dk_126 (dk_at dksJ11_hashCode_2 10 rfl rfl)
theorem dJ11_hashCode_39 : decode cJ11_hashCode 39 = .ok (.goto 12, 3) := dk_167 0 12 (dk_at dksJ11_hashCode_2 11 rfl rfl)
theorem dJ11_hashCode_42 : decode cJ11_hashCode 42 = .ok (.aload_n 0, 1) := dk_42 (dk_at dksJ11_hashCode_2 14 rfl rfl)
theorem dJ11_hashCode_43 : decode cJ11_hashCode 43 = .ok (.iconst 0, 1) := dk_3 (dk_at dksJ11_hashCode_2 15 rfl rfl)
theorem dJ11_hashCode_44 : decode cJ11_hashCode 44 = .ok (.aload_n 0, 1) := dk_42 (dk_at dksJ11_hashCode_2 16 rfl rfl)
theorem dJ11_hashCode_45 : decode cJ11_hashCode 45 = .ok (.arraylength, 1) := dk_190 (dk_at dksJ11_hashCode_2 17 rfl rfl)
theorem dJ11_hashCode_46 : decode cJ11_hashCode 46 = .ok (.iconst 0, 1) := dk_3 (dk_at dksJ11_hashCode_2 18 rfl rfl)
theorem dJ11_hashCode_47 : decode cJ11_hashCode 47 = .ok (.iconst 4, 1) := dk_7 (dk_at dksJ11_hashCode_2 19 rfl rfl)
theorem dJ11_hashCode_48 : decode cJ11_hashCode 48 = .ok (.invokestatic 84, 3) := dk_184 0 84 (dk_at dksJ11_hashCode_2 20 rfl rfl)
theorem dJ11_hashCode_51 : decode cJ11_hashCode 51 = .ok (.ireturn, 1) := dk_172 (dk_at dksJ11_hashCode_2 23 rfl rfl)
theorem q116 : (Jvm.Cond.initialized "java/lang/StringLatin1") ∈ lw_all := lw_g (lw_at lw_m1 19 rfl) rfl
theorem q437 : (Jvm.Cond.static ({ cls := "java/lang/StringLatin1", name := "canEncode", desc := "(C)Z" } : Jvm.MethodName)) ∈ lw_all := lw_g (lw_at lw_m2 100 rfl) rfl
theorem q438 : (Jvm.Cond.code ({ cls := "java/lang/StringLatin1", name := "canEncode", desc := "(C)Z" } : Jvm.MethodName) prog_42_method_3_code (1 : Nat) (Option.some Jvm.ClassFile.FieldType.boolean)) ∈ lw_all := lw_g (lw_at lw_m2 101 rfl) rfl
theorem q444 : (Jvm.Cond.static ({ cls := "java/lang/StringLatin1", name := "inflate", desc := "([BI[BII)V" } : Jvm.MethodName)) ∈ lw_all := lw_g (lw_at lw_m2 107 rfl) rfl
theorem q445 : (Jvm.Cond.code ({ cls := "java/lang/StringLatin1", name := "inflate", desc := "([BI[BII)V" } : Jvm.MethodName) prog_42_method_50_code (5 : Nat) (Option.none : Option Jvm.ClassFile.FieldType)) ∈ lw_all := lw_g (lw_at lw_m2 108 rfl) rfl
theorem q446 : (Jvm.Cond.methodLink "java/lang/StringLatin1" (240 : Nat) ({ cls := "java/lang/StringUTF16", name := "inflate", desc := "([BI[BII)V" } : Jvm.MethodName)) ∈ lw_all := lw_g (lw_at lw_m2 109 rfl) rfl
theorem q580 : (Jvm.Cond.static ({ cls := "java/lang/StringLatin1", name := "indexOf", desc := "([BIII)I" } : Jvm.MethodName)) ∈ lw_all := lw_g (lw_at lw_m3 3 rfl) rfl
theorem q581 : (Jvm.Cond.code ({ cls := "java/lang/StringLatin1", name := "indexOf", desc := "([BIII)I" } : Jvm.MethodName) prog_42_method_22_code (4 : Nat) (Option.some Jvm.ClassFile.FieldType.int)) ∈ lw_all := lw_g (lw_at lw_m3 4 rfl) rfl
theorem q582 : (Jvm.Cond.methodLink "java/lang/StringLatin1" (88 : Nat) ({ cls := "java/lang/StringLatin1", name := "canEncode", desc := "(I)Z" } : Jvm.MethodName)) ∈ lw_all := lw_g (lw_at lw_m3 5 rfl) rfl
theorem q583 : (Jvm.Cond.static ({ cls := "java/lang/StringLatin1", name := "canEncode", desc := "(I)Z" } : Jvm.MethodName)) ∈ lw_all := lw_g (lw_at lw_m3 6 rfl) rfl
theorem q584 : (Jvm.Cond.code ({ cls := "java/lang/StringLatin1", name := "canEncode", desc := "(I)Z" } : Jvm.MethodName) prog_42_method_4_code (1 : Nat) (Option.some Jvm.ClassFile.FieldType.boolean)) ∈ lw_all := lw_g (lw_at lw_m3 7 rfl) rfl
theorem q585 : (Jvm.Cond.methodLink "java/lang/StringLatin1" (92 : Nat) ({ cls := "java/lang/Math", name := "max", desc := "(II)I" } : Jvm.MethodName)) ∈ lw_all := lw_g (lw_at lw_m3 8 rfl) rfl
theorem q586 : (Jvm.Cond.methodLink "java/lang/StringLatin1" (38 : Nat) ({ cls := "java/lang/Math", name := "min", desc := "(II)I" } : Jvm.MethodName)) ∈ lw_all := lw_g (lw_at lw_m3 9 rfl) rfl
theorem q587 : (Jvm.Cond.methodLink "java/lang/StringLatin1" (95 : Nat) ({ cls := "java/lang/StringLatin1", name := "indexOfChar", desc := "([BIII)I" } : Jvm.MethodName)) ∈ lw_all := lw_g (lw_at lw_m3 10 rfl) rfl
theorem q588 : (Jvm.Cond.static ({ cls := "java/lang/StringLatin1", name := "indexOfChar", desc := "([BIII)I" } : Jvm.MethodName)) ∈ lw_all := lw_g (lw_at lw_m3 11 rfl) rfl
theorem q589 : (Jvm.Cond.code ({ cls := "java/lang/StringLatin1", name := "indexOfChar", desc := "([BIII)I" } : Jvm.MethodName) prog_42_method_23_code (6 : Nat) (Option.some Jvm.ClassFile.FieldType.int)) ∈ lw_all := lw_g (lw_at lw_m3 12 rfl) rfl
theorem q677 : (Jvm.Cond.static ({ cls := "java/lang/StringLatin1", name := "equals", desc := "([B[B)Z" } : Jvm.MethodName)) ∈ lw_all := lw_g (lw_at lw_m3 100 rfl) rfl
theorem q678 : (Jvm.Cond.code ({ cls := "java/lang/StringLatin1", name := "equals", desc := "([B[B)Z" } : Jvm.MethodName) prog_42_method_13_code (3 : Nat) (Option.some Jvm.ClassFile.FieldType.boolean)) ∈ lw_all := lw_g (lw_at lw_m3 101 rfl) rfl
theorem q684 : (Jvm.Cond.static ({ cls := "java/lang/StringLatin1", name := "charAt", desc := "([BI)C" } : Jvm.MethodName)) ∈ lw_all := lw_g (lw_at lw_m3 107 rfl) rfl
theorem q685 : (Jvm.Cond.code ({ cls := "java/lang/StringLatin1", name := "charAt", desc := "([BI)C" } : Jvm.MethodName) prog_42_method_2_code (2 : Nat) (Option.some Jvm.ClassFile.FieldType.char)) ∈ lw_all := lw_g (lw_at lw_m3 108 rfl) rfl
theorem q686 : (Jvm.Cond.methodLink "java/lang/StringLatin1" (9 : Nat) ({ cls := "java/lang/String", name := "checkIndex", desc := "(II)V" } : Jvm.MethodName)) ∈ lw_all := lw_g (lw_at lw_m3 109 rfl) rfl
theorem q713 : (Jvm.Cond.static ({ cls := "java/lang/StringLatin1", name := "hashCode", desc := "([B)I" } : Jvm.MethodName)) ∈ lw_all := lw_g (lw_at lw_m3 136 rfl) rfl
theorem q714 : (Jvm.Cond.code ({ cls := "java/lang/StringLatin1", name := "hashCode", desc := "([B)I" } : Jvm.MethodName) prog_42_method_21_code (1 : Nat) (Option.some Jvm.ClassFile.FieldType.int)) ∈ lw_all := lw_g (lw_at lw_m3 137 rfl) rfl
theorem q715 : (Jvm.Cond.methodLink "java/lang/StringLatin1" (84 : Nat) ({ cls := "jdk/internal/util/ArraysSupport", name := "vectorizedHashCode", desc := "(Ljava/lang/Object;IIII)I" } : Jvm.MethodName)) ∈ lw_all := lw_g (lw_at lw_m3 138 rfl) rfl

/-! jdk/internal/util/Preconditions -/
set_option maxRecDepth 100000
def RJ12 : String := "jdk/internal/util/Preconditions"
abbrev cJ12_checkFromIndexSize : ByteArray := prog_61_method_13_code
def yJ12_checkFromIndexSize : MethodName := ⟨RJ12, "checkFromIndexSize", "(IIILjava/util/function/BiFunction;)I"⟩
def dkwJ12_checkFromIndexSize_1 : List UInt8 := [172]
abbrev dktJ12_checkFromIndexSize_1 : List UInt8 := dkwJ12_checkFromIndexSize_1 ++ []
def dkwJ12_checkFromIndexSize_0 : List UInt8 := [28, 26, 128, 27, 128, 155, 0, 10, 27, 28, 26, 100, 164, 0, 11, 45, 26, 27, 28, 184, 0, 103, 191, 26]
abbrev dktJ12_checkFromIndexSize_0 : List UInt8 := dkwJ12_checkFromIndexSize_0 ++ dktJ12_checkFromIndexSize_1
theorem dksJ12_checkFromIndexSize_0 : cJ12_checkFromIndexSize.data.toList.drop 0 = dktJ12_checkFromIndexSize_0 := by decide +kernel
theorem dksJ12_checkFromIndexSize_1 : cJ12_checkFromIndexSize.data.toList.drop 24 = dktJ12_checkFromIndexSize_1 := dk_seg dksJ12_checkFromIndexSize_0 24 rfl rfl
theorem dJ12_checkFromIndexSize_0 : decode cJ12_checkFromIndexSize 0 = .ok (.iload_n 2, 1) := dk_28 (dk_at dksJ12_checkFromIndexSize_0 0 rfl rfl)
theorem dJ12_checkFromIndexSize_1 : decode cJ12_checkFromIndexSize 1 = .ok (.iload_n 0, 1) := dk_26 (dk_at dksJ12_checkFromIndexSize_0 1 rfl rfl)
theorem dJ12_checkFromIndexSize_2 : decode cJ12_checkFromIndexSize 2 = .ok (.ior, 1) := dk_128 (dk_at dksJ12_checkFromIndexSize_0 2 rfl rfl)
theorem dJ12_checkFromIndexSize_3 : decode cJ12_checkFromIndexSize 3 = .ok (.iload_n 1, 1) := dk_27 (dk_at dksJ12_checkFromIndexSize_0 3 rfl rfl)
theorem dJ12_checkFromIndexSize_4 : decode cJ12_checkFromIndexSize 4 = .ok (.ior, 1) := dk_128 (dk_at dksJ12_checkFromIndexSize_0 4 rfl rfl)
theorem dJ12_checkFromIndexSize_5 : decode cJ12_checkFromIndexSize 5 = .ok (.ifCond .lt 10, 3) := dk_155 0 10 (dk_at dksJ12_checkFromIndexSize_0 5 rfl rfl)
theorem dJ12_checkFromIndexSize_8 : decode cJ12_checkFromIndexSize 8 = .ok (.iload_n 1, 1) := dk_27 (dk_at dksJ12_checkFromIndexSize_0 8 rfl rfl)
theorem dJ12_checkFromIndexSize_9 : decode cJ12_checkFromIndexSize 9 = .ok (.iload_n 2, 1) := dk_28 (dk_at dksJ12_checkFromIndexSize_0 9 rfl rfl)
theorem dJ12_checkFromIndexSize_10 : decode cJ12_checkFromIndexSize 10 = .ok (.iload_n 0, 1) := dk_26 (dk_at dksJ12_checkFromIndexSize_0 10 rfl rfl)
theorem dJ12_checkFromIndexSize_11 : decode cJ12_checkFromIndexSize 11 = .ok (.isub, 1) := dk_100 (dk_at dksJ12_checkFromIndexSize_0 11 rfl rfl)
theorem dJ12_checkFromIndexSize_12 : decode cJ12_checkFromIndexSize 12 = .ok (.if_icmp .le 11, 3) := dk_164 0 11 (dk_at dksJ12_checkFromIndexSize_0 12 rfl rfl)
theorem dJ12_checkFromIndexSize_15 : decode cJ12_checkFromIndexSize 15 = .ok (.aload_n 3, 1) := dk_45 (dk_at dksJ12_checkFromIndexSize_0 15 rfl rfl)
theorem dJ12_checkFromIndexSize_16 : decode cJ12_checkFromIndexSize 16 = .ok (.iload_n 0, 1) := dk_26 (dk_at dksJ12_checkFromIndexSize_0 16 rfl rfl)
theorem dJ12_checkFromIndexSize_17 : decode cJ12_checkFromIndexSize 17 = .ok (.iload_n 1, 1) := dk_27 (dk_at dksJ12_checkFromIndexSize_0 17 rfl rfl)
theorem dJ12_checkFromIndexSize_18 : decode cJ12_checkFromIndexSize 18 = .ok (.iload_n 2, 1) := dk_28 (dk_at dksJ12_checkFromIndexSize_0 18 rfl rfl)
theorem dJ12_checkFromIndexSize_19 : decode cJ12_checkFromIndexSize 19 = .ok (.invokestatic 103, 3) := dk_184 0 103 (dk_at dksJ12_checkFromIndexSize_0 19 rfl rfl)
theorem dJ12_checkFromIndexSize_22 : decode cJ12_checkFromIndexSize 22 = .ok (.athrow, 1) := dk_191 (dk_at dksJ12_checkFromIndexSize_0 22 rfl rfl)
theorem dJ12_checkFromIndexSize_23 : decode cJ12_checkFromIndexSize 23 = .ok (.iload_n 0, 1) := dk_26 (dk_at dksJ12_checkFromIndexSize_0 23 rfl rfl)
theorem dJ12_checkFromIndexSize_24 : decode cJ12_checkFromIndexSize 24 = .ok (.ireturn, 1) := dk_172 (dk_at dksJ12_checkFromIndexSize_1 0 rfl rfl)
abbrev cJ12_checkIndex : ByteArray := prog_61_method_11_code
def yJ12_checkIndex : MethodName := ⟨RJ12, "checkIndex", "(IILjava/util/function/BiFunction;)I"⟩
def dkwJ12_checkIndex_0 : List UInt8 := [26, 155, 0, 8, 26, 27, 161, 0, 10, 44, 26, 27, 184, 0, 95, 191, 26, 172]
abbrev dktJ12_checkIndex_0 : List UInt8 := dkwJ12_checkIndex_0 ++ []
theorem dksJ12_checkIndex_0 : cJ12_checkIndex.data.toList.drop 0 = dktJ12_checkIndex_0 := by decide +kernel
theorem dJ12_checkIndex_0 : decode cJ12_checkIndex 0 = .ok (.iload_n 0, 1) := dk_26 (dk_at dksJ12_checkIndex_0 0 rfl rfl)
theorem dJ12_checkIndex_1 : decode cJ12_checkIndex 1 = .ok (.ifCond .lt 8, 3) := dk_155 0 8 (dk_at dksJ12_checkIndex_0 1 rfl rfl)
theorem dJ12_checkIndex_4 : decode cJ12_checkIndex 4 = .ok (.iload_n 0, 1) := dk_26 (dk_at dksJ12_checkIndex_0 4 rfl rfl)
theorem dJ12_checkIndex_5 : decode cJ12_checkIndex 5 = .ok (.iload_n 1, 1) := dk_27 (dk_at dksJ12_checkIndex_0 5 rfl rfl)
theorem dJ12_checkIndex_6 : decode cJ12_checkIndex 6 = .ok (.if_icmp .lt 10, 3) := dk_161 0 10 (dk_at dksJ12_checkIndex_0 6 rfl rfl)
theorem dJ12_checkIndex_9 : decode cJ12_checkIndex 9 = .ok (.aload_n 2, 1) := dk_44 (dk_at dksJ12_checkIndex_0 9 rfl rfl)
theorem dJ12_checkIndex_10 : decode cJ12_checkIndex 10 = .ok (.iload_n 0, 1) := dk_26 (dk_at dksJ12_checkIndex_0 10 rfl rfl)
theorem dJ12_checkIndex_11 : decode cJ12_checkIndex 11 = .ok (.iload_n 1, 1) := dk_27 (dk_at dksJ12_checkIndex_0 11 rfl rfl)
theorem dJ12_checkIndex_12 : decode cJ12_checkIndex 12 = .ok (.invokestatic 95, 3) := dk_184 0 95 (dk_at dksJ12_checkIndex_0 12 rfl rfl)
theorem dJ12_checkIndex_15 : decode cJ12_checkIndex 15 = .ok (.athrow, 1) := dk_191 (dk_at dksJ12_checkIndex_0 15 rfl rfl)
theorem dJ12_checkIndex_16 : decode cJ12_checkIndex 16 = .ok (.iload_n 0, 1) := dk_26 (dk_at dksJ12_checkIndex_0 16 rfl rfl)
theorem dJ12_checkIndex_17 : decode cJ12_checkIndex 17 = .ok (.ireturn, 1) := dk_172 (dk_at dksJ12_checkIndex_0 17 rfl rfl)
abbrev cJ12_checkFromToIndex : ByteArray := prog_61_method_12_code
def yJ12_checkFromToIndex : MethodName := ⟨RJ12, "checkFromToIndex", "(IIILjava/util/function/BiFunction;)I"⟩
def dkwJ12_checkFromToIndex_0 : List UInt8 := [26, 155, 0, 13, 26, 27, 163, 0, 8, 27, 28, 164, 0, 11, 45, 26, 27, 28, 184, 0, 99, 191, 26, 172]
abbrev dktJ12_checkFromToIndex_0 : List UInt8 := dkwJ12_checkFromToIndex_0 ++ []
theorem dksJ12_checkFromToIndex_0 : cJ12_checkFromToIndex.data.toList.drop 0 = dktJ12_checkFromToIndex_0 := by decide +kernel
theorem dJ12_checkFromToIndex_0 : decode cJ12_checkFromToIndex 0 = .ok (.iload_n 0, 1) := dk_26 (dk_at dksJ12_checkFromToIndex_0 0 rfl rfl)
theorem dJ12_checkFromToIndex_1 : decode cJ12_checkFromToIndex 1 = .ok (.ifCond .lt 13, 3) := dk_155 0 13 (dk_at dksJ12_checkFromToIndex_0 1 rfl rfl)
theorem dJ12_checkFromToIndex_4 : decode cJ12_checkFromToIndex 4 = .ok (.iload_n 0, 1) := dk_26 (dk_at dksJ12_checkFromToIndex_0 4 rfl rfl)
theorem dJ12_checkFromToIndex_5 : decode cJ12_checkFromToIndex 5 = .ok (.iload_n 1, 1) := dk_27 (dk_at dksJ12_checkFromToIndex_0 5 rfl rfl)
theorem dJ12_checkFromToIndex_6 : decode cJ12_checkFromToIndex 6 = .ok (.if_icmp .gt 8, 3) := dk_163 0 8 (dk_at dksJ12_checkFromToIndex_0 6 rfl rfl)
theorem dJ12_checkFromToIndex_9 : decode cJ12_checkFromToIndex 9 = .ok (.iload_n 1, 1) := dk_27 (dk_at dksJ12_checkFromToIndex_0 9 rfl rfl)
theorem dJ12_checkFromToIndex_10 : decode cJ12_checkFromToIndex 10 = .ok (.iload_n 2, 1) := dk_28 (dk_at dksJ12_checkFromToIndex_0 10 rfl rfl)
theorem dJ12_checkFromToIndex_11 : decode cJ12_checkFromToIndex 11 = .ok (.if_icmp .le 11, 3) := dk_164 0 11 (dk_at dksJ12_checkFromToIndex_0 11 rfl rfl)
theorem dJ12_checkFromToIndex_14 : decode cJ12_checkFromToIndex 14 = .ok (.aload_n 3, 1) := dk_45 (dk_at dksJ12_checkFromToIndex_0 14 rfl rfl)
theorem dJ12_checkFromToIndex_15 : decode cJ12_checkFromToIndex 15 = .ok (.iload_n 0, 1) := dk_26 (dk_at dksJ12_checkFromToIndex_0 15 rfl rfl)
theorem dJ12_checkFromToIndex_16 : decode cJ12_checkFromToIndex 16 = .ok (.iload_n 1, 1) := dk_27 (dk_at dksJ12_checkFromToIndex_0 16 rfl rfl)
theorem dJ12_checkFromToIndex_17 : decode cJ12_checkFromToIndex 17 = .ok (.iload_n 2, 1) := dk_28 (dk_at dksJ12_checkFromToIndex_0 17 rfl rfl)
theorem dJ12_checkFromToIndex_18 : decode cJ12_checkFromToIndex 18 = .ok (.invokestatic 99, 3) := dk_184 0 99 (dk_at dksJ12_checkFromToIndex_0 18 rfl rfl)
theorem dJ12_checkFromToIndex_21 : decode cJ12_checkFromToIndex 21 = .ok (.athrow, 1) := dk_191 (dk_at dksJ12_checkFromToIndex_0 21 rfl rfl)
theorem dJ12_checkFromToIndex_22 : decode cJ12_checkFromToIndex 22 = .ok (.iload_n 0, 1) := dk_26 (dk_at dksJ12_checkFromToIndex_0 22 rfl rfl)
theorem dJ12_checkFromToIndex_23 : decode cJ12_checkFromToIndex 23 = .ok (.ireturn, 1) := dk_172 (dk_at dksJ12_checkFromToIndex_0 23 rfl rfl)
theorem q117 : (Jvm.Cond.initialized "jdk/internal/util/Preconditions") ∈ lw_all := lw_g (lw_at lw_m1 20 rfl) rfl
theorem q459 : (Jvm.Cond.laysStatic "jdk/internal/util/Preconditions" "SIOOBE_FORMATTER" "Ljava/util/function/BiFunction;") ∈ lw_tbl := lw_at lw_m2 122 rfl
theorem q461 : (Jvm.Cond.static ({ cls := "jdk/internal/util/Preconditions", name := "checkFromIndexSize", desc := "(IIILjava/util/function/BiFunction;)I" } : Jvm.MethodName)) ∈ lw_all := lw_g (lw_at lw_m2 124 rfl) rfl
theorem q462 : (Jvm.Cond.code ({ cls := "jdk/internal/util/Preconditions", name := "checkFromIndexSize", desc := "(IIILjava/util/function/BiFunction;)I" } : Jvm.MethodName) prog_61_method_13_code (4 : Nat) (Option.some Jvm.ClassFile.FieldType.int)) ∈ lw_all := lw_g (lw_at lw_m2 125 rfl) rfl
theorem q482 : (Jvm.Cond.static ({ cls := "jdk/internal/util/Preconditions", name := "checkIndex", desc := "(IILjava/util/function/BiFunction;)I" } : Jvm.MethodName)) ∈ lw_all := lw_g (lw_at lw_m2 145 rfl) rfl
theorem q483 : (Jvm.Cond.code ({ cls := "jdk/internal/util/Preconditions", name := "checkIndex", desc := "(IILjava/util/function/BiFunction;)I" } : Jvm.MethodName) prog_61_method_11_code (3 : Nat) (Option.some Jvm.ClassFile.FieldType.int)) ∈ lw_all := lw_g (lw_at lw_m2 146 rfl) rfl
theorem q606 : (Jvm.Cond.static ({ cls := "jdk/internal/util/Preconditions", name := "checkFromToIndex", desc := "(IIILjava/util/function/BiFunction;)I" } : Jvm.MethodName)) ∈ lw_all := lw_g (lw_at lw_m3 29 rfl) rfl
theorem q607 : (Jvm.Cond.code ({ cls := "jdk/internal/util/Preconditions", name := "checkFromToIndex", desc := "(IIILjava/util/function/BiFunction;)I" } : Jvm.MethodName) prog_61_method_12_code (4 : Nat) (Option.some Jvm.ClassFile.FieldType.int)) ∈ lw_all := lw_g (lw_at lw_m3 30 rfl) rfl

/-! java/lang/Character -/
set_option maxRecDepth 100000
def RJ13 : String := "java/lang/Character"
abbrev cJ13_isValidCodePoint : ByteArray := prog_28_method_11_code
def yJ13_isValidCodePoint : MethodName := ⟨RJ13, "isValidCodePoint", "(I)Z"⟩
def dkwJ13_isValidCodePoint_0 : List UInt8 := [26, 16, 16, 124, 60, 27, 16, 17, 162, 0, 7, 4, 167, 0, 4, 3, 172]
abbrev dktJ13_isValidCodePoint_0 : List UInt8 := dkwJ13_isValidCodePoint_0 ++ []
theorem dksJ13_isValidCodePoint_0 : cJ13_isValidCodePoint.data.toList.drop 0 = dktJ13_isValidCodePoint_0 := by decide +kernel
theorem dJ13_isValidCodePoint_0 : decode cJ13_isValidCodePoint 0 = .ok (.iload_n 0, 1) := dk_26 (dk_at dksJ13_isValidCodePoint_0 0 rfl rfl)
theorem dJ13_isValidCodePoint_1 : decode cJ13_isValidCodePoint 1 = .ok (.bipush 16, 2) := dk_16 16 (dk_at dksJ13_isValidCodePoint_0 1 rfl rfl)
theorem dJ13_isValidCodePoint_3 : decode cJ13_isValidCodePoint 3 = .ok (.iushr, 1) := dk_124 (dk_at dksJ13_isValidCodePoint_0 3 rfl rfl)
theorem dJ13_isValidCodePoint_4 : decode cJ13_isValidCodePoint 4 = .ok (.istore_n 1, 1) := dk_60 (dk_at dksJ13_isValidCodePoint_0 4 rfl rfl)
theorem dJ13_isValidCodePoint_5 : decode cJ13_isValidCodePoint 5 = .ok (.iload_n 1, 1) := dk_27 (dk_at dksJ13_isValidCodePoint_0 5 rfl rfl)
theorem dJ13_isValidCodePoint_6 : decode cJ13_isValidCodePoint 6 = .ok (.bipush 17, 2) := dk_16 17 (dk_at dksJ13_isValidCodePoint_0 6 rfl rfl)
theorem dJ13_isValidCodePoint_8 : decode cJ13_isValidCodePoint 8 = .ok (.if_icmp .ge 7, 3) := dk_162 0 7 (dk_at dksJ13_isValidCodePoint_0 8 rfl rfl)
theorem dJ13_isValidCodePoint_11 : decode cJ13_isValidCodePoint 11 = .ok (.iconst 1, 1) := dk_4 (dk_at dksJ13_isValidCodePoint_0 11 rfl rfl)
theorem dJ13_isValidCodePoint_12 : decode cJ13_isValidCodePoint 12 = .ok (.goto 4, 3) := dk_167 0 4 (dk_at dksJ13_isValidCodePoint_0 12 rfl rfl)
theorem dJ13_isValidCodePoint_15 : decode cJ13_isValidCodePoint 15 = .ok (.iconst 0, 1) := dk_3 (dk_at dksJ13_isValidCodePoint_0 15 rfl rfl)
theorem dJ13_isValidCodePoint_16 : decode cJ13_isValidCodePoint 16 = .ok (.ireturn, 1) := dk_172 (dk_at dksJ13_isValidCodePoint_0 16 rfl rfl)
abbrev cJ13_highSurrogate : ByteArray := prog_28_method_28_code
def yJ13_highSurrogate : MethodName := ⟨RJ13, "highSurrogate", "(I)C"⟩
def dkwJ13_highSurrogate_0 : List UInt8 := [26, 16, 10, 124, 18, 110, 96, 146, 172]
abbrev dktJ13_highSurrogate_0 : List UInt8 := dkwJ13_highSurrogate_0 ++ []
theorem dksJ13_highSurrogate_0 : cJ13_highSurrogate.data.toList.drop 0 = dktJ13_highSurrogate_0 := by decide +kernel
theorem dJ13_highSurrogate_0 : decode cJ13_highSurrogate 0 = .ok (.iload_n 0, 1) := dk_26 (dk_at dksJ13_highSurrogate_0 0 rfl rfl)
theorem dJ13_highSurrogate_1 : decode cJ13_highSurrogate 1 = .ok (.bipush 10, 2) := dk_16 10 (dk_at dksJ13_highSurrogate_0 1 rfl rfl)
theorem dJ13_highSurrogate_3 : decode cJ13_highSurrogate 3 = .ok (.iushr, 1) := dk_124 (dk_at dksJ13_highSurrogate_0 3 rfl rfl)
theorem dJ13_highSurrogate_4 : decode cJ13_highSurrogate 4 = .ok (.ldc 110, 2) := dk_18 110 (dk_at dksJ13_highSurrogate_0 4 rfl rfl)
theorem dJ13_highSurrogate_6 : decode cJ13_highSurrogate 6 = .ok (.iadd, 1) := dk_96 (dk_at dksJ13_highSurrogate_0 6 rfl rfl)
theorem dJ13_highSurrogate_7 : decode cJ13_highSurrogate 7 = .ok (.i2c, 1) := dk_146 (dk_at dksJ13_highSurrogate_0 7 rfl rfl)
theorem dJ13_highSurrogate_8 : decode cJ13_highSurrogate 8 = .ok (.ireturn, 1) := dk_172 (dk_at dksJ13_highSurrogate_0 8 rfl rfl)
abbrev cJ13_lowSurrogate : ByteArray := prog_28_method_29_code
def yJ13_lowSurrogate : MethodName := ⟨RJ13, "lowSurrogate", "(I)C"⟩
def dkwJ13_lowSurrogate_0 : List UInt8 := [26, 17, 3, 255, 126, 18, 76, 96, 146, 172]
abbrev dktJ13_lowSurrogate_0 : List UInt8 := dkwJ13_lowSurrogate_0 ++ []
theorem dksJ13_lowSurrogate_0 : cJ13_lowSurrogate.data.toList.drop 0 = dktJ13_lowSurrogate_0 := by decide +kernel
theorem dJ13_lowSurrogate_0 : decode cJ13_lowSurrogate 0 = .ok (.iload_n 0, 1) := dk_26 (dk_at dksJ13_lowSurrogate_0 0 rfl rfl)
theorem dJ13_lowSurrogate_1 : decode cJ13_lowSurrogate 1 = .ok (.sipush 1023, 3) := dk_17 3 255 (dk_at dksJ13_lowSurrogate_0 1 rfl rfl)
theorem dJ13_lowSurrogate_4 : decode cJ13_lowSurrogate 4 = .ok (.iand, 1) := dk_126 (dk_at dksJ13_lowSurrogate_0 4 rfl rfl)
theorem dJ13_lowSurrogate_5 : decode cJ13_lowSurrogate 5 = .ok (.ldc 76, 2) := dk_18 76 (dk_at dksJ13_lowSurrogate_0 5 rfl rfl)
theorem dJ13_lowSurrogate_7 : decode cJ13_lowSurrogate 7 = .ok (.iadd, 1) := dk_96 (dk_at dksJ13_lowSurrogate_0 7 rfl rfl)
theorem dJ13_lowSurrogate_8 : decode cJ13_lowSurrogate 8 = .ok (.i2c, 1) := dk_146 (dk_at dksJ13_lowSurrogate_0 8 rfl rfl)
theorem dJ13_lowSurrogate_9 : decode cJ13_lowSurrogate 9 = .ok (.ireturn, 1) := dk_172 (dk_at dksJ13_lowSurrogate_0 9 rfl rfl)
theorem q118 : (Jvm.Cond.initialized "java/lang/Character") ∈ lw_all := lw_g (lw_at lw_m1 21 rfl) rfl
theorem q615 : (Jvm.Cond.static ({ cls := "java/lang/Character", name := "isValidCodePoint", desc := "(I)Z" } : Jvm.MethodName)) ∈ lw_all := lw_g (lw_at lw_m3 38 rfl) rfl
theorem q616 : (Jvm.Cond.code ({ cls := "java/lang/Character", name := "isValidCodePoint", desc := "(I)Z" } : Jvm.MethodName) prog_28_method_11_code (2 : Nat) (Option.some Jvm.ClassFile.FieldType.boolean)) ∈ lw_all := lw_g (lw_at lw_m3 39 rfl) rfl
theorem q618 : (Jvm.Cond.static ({ cls := "java/lang/Character", name := "highSurrogate", desc := "(I)C" } : Jvm.MethodName)) ∈ lw_all := lw_g (lw_at lw_m3 41 rfl) rfl
theorem q619 : (Jvm.Cond.code ({ cls := "java/lang/Character", name := "highSurrogate", desc := "(I)C" } : Jvm.MethodName) prog_28_method_28_code (1 : Nat) (Option.some Jvm.ClassFile.FieldType.char)) ∈ lw_all := lw_g (lw_at lw_m3 42 rfl) rfl
theorem q620 : (Jvm.Cond.constant "java/lang/Character" (110 : Nat) (55232 : Int32)) ∈ lw_all := lw_g (lw_at lw_m3 43 rfl) rfl
theorem q622 : (Jvm.Cond.static ({ cls := "java/lang/Character", name := "lowSurrogate", desc := "(I)C" } : Jvm.MethodName)) ∈ lw_all := lw_g (lw_at lw_m3 45 rfl) rfl
theorem q623 : (Jvm.Cond.code ({ cls := "java/lang/Character", name := "lowSurrogate", desc := "(I)C" } : Jvm.MethodName) prog_28_method_29_code (1 : Nat) (Option.some Jvm.ClassFile.FieldType.char)) ∈ lw_all := lw_g (lw_at lw_m3 46 rfl) rfl
theorem q624 : (Jvm.Cond.constant "java/lang/Character" (76 : Nat) (56320 : Int32)) ∈ lw_all := lw_g (lw_at lw_m3 47 rfl) rfl
