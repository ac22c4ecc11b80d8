/-! java/util/AbstractCollection -/
set_option maxRecDepth 100000
def RJ0 : String := "java/util/AbstractCollection"
abbrev cJ0_init : ByteArray := prog_32_method_1_code
def yJ0_init : MethodName := ⟨RJ0, "<init>", "()V"⟩
theorem dJ0_init_0 : decode cJ0_init 0 = .ok (.aload_n 0, 1) := by decide +kernel
theorem dJ0_init_1 : decode cJ0_init 1 = .ok (.invokespecial 1, 3) := by decide +kernel
theorem dJ0_init_4 : decode cJ0_init 4 = .ok (.return_, 1) := by decide +kernel
theorem q55 : (Jvm.Cond.initialized "java/util/AbstractCollection") ∈ lw_all := lw_g (lw_at lw_m1 2 rfl) rfl
theorem q104 : (Jvm.Cond.instanceMethod ({ cls := "java/util/AbstractCollection", name := "<init>", desc := "()V" } : Jvm.MethodName)) ∈ lw_all := lw_g (lw_at lw_m1 51 rfl) rfl
theorem q105 : (Jvm.Cond.code ({ cls := "java/util/AbstractCollection", name := "<init>", desc := "()V" } : Jvm.MethodName) prog_32_method_1_code (1 : Nat) (Option.none : Option Jvm.ClassFile.FieldType)) ∈ lw_all := lw_g (lw_at lw_m1 52 rfl) rfl
theorem q106 : (Jvm.Cond.methodLink "java/util/AbstractCollection" (1 : Nat) ({ cls := "java/lang/Object", name := "<init>", desc := "()V" } : Jvm.MethodName)) ∈ lw_all := lw_g (lw_at lw_m1 53 rfl) rfl
/-! java/util/AbstractList -/
set_option maxRecDepth 100000
def RJ1 : String := "java/util/AbstractList"
abbrev cJ1_init : ByteArray := prog_33_method_1_code
def yJ1_init : MethodName := ⟨RJ1, "<init>", "()V"⟩
def dkwJ1_init_0 : List UInt8 := [42, 183, 0, 1, 42, 3, 181, 0, 7, 177]
abbrev dktJ1_init_0 : List UInt8 := dkwJ1_init_0 ++ []
theorem dksJ1_init_0 : cJ1_init.data.toList.drop 0 = dktJ1_init_0 := by decide +kernel
theorem dJ1_init_0 : decode cJ1_init 0 = .ok (.aload_n 0, 1) := dk_42 (dk_at dksJ1_init_0 0 rfl rfl)
theorem dJ1_init_1 : decode cJ1_init 1 = .ok (.invokespecial 1, 3) := dk_183 0 1 (dk_at dksJ1_init_0 1 rfl rfl)
theorem dJ1_init_4 : decode cJ1_init 4 = .ok (.aload_n 0, 1) := dk_42 (dk_at dksJ1_init_0 4 rfl rfl)
theorem dJ1_init_5 : decode cJ1_init 5 = .ok (.iconst 0, 1) := dk_3 (dk_at dksJ1_init_0 5 rfl rfl)
theorem dJ1_init_6 : decode cJ1_init 6 = .ok (.putfield 7, 3) := dk_181 0 7 (dk_at dksJ1_init_0 6 rfl rfl)
theorem dJ1_init_9 : decode cJ1_init 9 = .ok (.return_, 1) := dk_177 (dk_at dksJ1_init_0 9 rfl rfl)
theorem q56 : (Jvm.Cond.initialized "java/util/AbstractList") ∈ lw_all := lw_g (lw_at lw_m1 3 rfl) rfl
theorem q101 : (Jvm.Cond.instanceMethod ({ cls := "java/util/AbstractList", name := "<init>", desc := "()V" } : Jvm.MethodName)) ∈ lw_all := lw_g (lw_at lw_m1 48 rfl) rfl
theorem q102 : (Jvm.Cond.code ({ cls := "java/util/AbstractList", name := "<init>", desc := "()V" } : Jvm.MethodName) prog_33_method_1_code (1 : Nat) (Option.none : Option Jvm.ClassFile.FieldType)) ∈ lw_all := lw_g (lw_at lw_m1 49 rfl) rfl
theorem q103 : (Jvm.Cond.methodLink "java/util/AbstractList" (1 : Nat) ({ cls := "java/util/AbstractCollection", name := "<init>", desc := "()V" } : Jvm.MethodName)) ∈ lw_all := lw_g (lw_at lw_m1 50 rfl) rfl
theorem q111 : (Jvm.Cond.fieldLink "java/util/AbstractList" (7 : Nat) "java/util/AbstractList" "modCount" "I") ∈ lw_all := lw_g (lw_at lw_m1 58 rfl) rfl
theorem q119 : (Jvm.Cond.soleField "java/util/AbstractList" "modCount") ∈ lw_all := lw_g (lw_at lw_m1 66 rfl) rfl
/-! java/util/ArrayList -/
set_option maxRecDepth 100000
def RJ2 : String := "java/util/ArrayList"
def TJ2 : u_T := fun k => match k with
  | 0 => ("java/util/AbstractList", "modCount", "I", false)
  | 1 => ("java/util/ArrayList", "elementData", "[Ljava/lang/Object;", false)
  | _ => ("java/util/ArrayList", "size", "I", false)
def tyJ2 : Nat → FieldType := fun k => match k with
  | 0 => .int
  | 1 => .array (.object "java/lang/Object")
  | _ => .int
abbrev wsJ20 : List Cond := u_ws RJ2 TJ2 3
theorem nmJ2 : ∀ a, a < 3 → ∀ b, b < 3 → a ≠ b → (TJ2 a).2.1 ≠ (TJ2 b).2.1 := by decide +kernel
theorem tyJ2_ok : ∀ k, k < 3 → parseFieldDescriptor (TJ2 k).2.2.1 = some (tyJ2 k) := by decide +kernel
abbrev cJ2_init : ByteArray := prog_34_method_2_code
def yJ2_init : MethodName := ⟨RJ2, "<init>", "()V"⟩
def dkwJ2_init_0 : List UInt8 := [42, 183, 0, 1, 42, 178, 0, 39, 181, 0, 9, 177]
abbrev dktJ2_init_0 : List UInt8 := dkwJ2_init_0 ++ []
theorem dksJ2_init_0 : cJ2_init.data.toList.drop 0 = dktJ2_init_0 := by decide +kernel
theorem dJ2_init_0 : decode cJ2_init 0 = .ok (.aload_n 0, 1) := dk_42 (dk_at dksJ2_init_0 0 rfl rfl)
theorem dJ2_init_1 : decode cJ2_init 1 = .ok (.invokespecial 1, 3) := dk_183 0 1 (dk_at dksJ2_init_0 1 rfl rfl)
theorem dJ2_init_4 : decode cJ2_init 4 = .ok (.aload_n 0, 1) := dk_42 (dk_at dksJ2_init_0 4 rfl rfl)
theorem dJ2_init_5 : decode cJ2_init 5 = .ok (.getstatic 39, 3) := dk_178 0 39 (dk_at dksJ2_init_0 5 rfl rfl)
theorem dJ2_init_8 : decode cJ2_init 8 = .ok (.putfield 9, 3) := dk_181 0 9 (dk_at dksJ2_init_0 8 rfl rfl)
theorem dJ2_init_11 : decode cJ2_init 11 = .ok (.return_, 1) := dk_177 (dk_at dksJ2_init_0 11 rfl rfl)
abbrev cJ2_size : ByteArray := prog_34_method_8_code
def yJ2_size : MethodName := ⟨RJ2, "size", "()I"⟩
theorem dJ2_size_0 : decode cJ2_size 0 = .ok (.aload_n 0, 1) := by decide +kernel
theorem dJ2_size_1 : decode cJ2_size 1 = .ok (.getfield 48, 3) := by decide +kernel
theorem dJ2_size_4 : decode cJ2_size 4 = .ok (.ireturn, 1) := by decide +kernel
abbrev cJ2_get : ByteArray := prog_34_method_20_code
def yJ2_get : MethodName := ⟨RJ2, "get", "(I)Ljava/lang/Object;"⟩
def dkwJ2_get_0 : List UInt8 := [27, 42, 180, 0, 48, 184, 0, 118, 87, 42, 27, 182, 0, 123, 176]
abbrev dktJ2_get_0 : List UInt8 := dkwJ2_get_0 ++ []
theorem dksJ2_get_0 : cJ2_get.data.toList.drop 0 = dktJ2_get_0 := by decide +kernel
theorem dJ2_get_0 : decode cJ2_get 0 = .ok (.iload_n 1, 1) := dk_27 (dk_at dksJ2_get_0 0 rfl rfl)
theorem dJ2_get_1 : decode cJ2_get 1 = .ok (.aload_n 0, 1) := dk_42 (dk_at dksJ2_get_0 1 rfl rfl)
theorem dJ2_get_2 : decode cJ2_get 2 = .ok (.getfield 48, 3) := dk_180 0 48 (dk_at dksJ2_get_0 2 rfl rfl)
theorem dJ2_get_5 : decode cJ2_get 5 = .ok (.invokestatic 118, 3) := dk_184 0 118 (dk_at dksJ2_get_0 5 rfl rfl)
theorem dJ2_get_8 : decode cJ2_get 8 = .ok (.pop, 1) := dk_87 (dk_at dksJ2_get_0 8 rfl rfl)
theorem dJ2_get_9 : decode cJ2_get 9 = .ok (.aload_n 0, 1) := dk_42 (dk_at dksJ2_get_0 9 rfl rfl)
theorem dJ2_get_10 : decode cJ2_get 10 = .ok (.iload_n 1, 1) := dk_27 (dk_at dksJ2_get_0 10 rfl rfl)
theorem dJ2_get_11 : decode cJ2_get 11 = .ok (.invokevirtual 123, 3) := dk_182 0 123 (dk_at dksJ2_get_0 11 rfl rfl)
theorem dJ2_get_14 : decode cJ2_get 14 = .ok (.areturn, 1) := dk_176 (dk_at dksJ2_get_0 14 rfl rfl)
abbrev cJ2_elementData : ByteArray := prog_34_method_18_code
def yJ2_elementData : MethodName := ⟨RJ2, "elementData", "(I)Ljava/lang/Object;"⟩
def dkwJ2_elementData_0 : List UInt8 := [42, 180, 0, 9, 27, 50, 176]
abbrev dktJ2_elementData_0 : List UInt8 := dkwJ2_elementData_0 ++ []
theorem dksJ2_elementData_0 : cJ2_elementData.data.toList.drop 0 = dktJ2_elementData_0 := by decide +kernel
theorem dJ2_elementData_0 : decode cJ2_elementData 0 = .ok (.aload_n 0, 1) := dk_42 (dk_at dksJ2_elementData_0 0 rfl rfl)
theorem dJ2_elementData_1 : decode cJ2_elementData 1 = .ok (.getfield 9, 3) := dk_180 0 9 (dk_at dksJ2_elementData_0 1 rfl rfl)
theorem dJ2_elementData_4 : decode cJ2_elementData 4 = .ok (.iload_n 1, 1) := dk_27 (dk_at dksJ2_elementData_0 4 rfl rfl)
theorem dJ2_elementData_5 : decode cJ2_elementData 5 = .ok (.aaload, 1) := dk_50 (dk_at dksJ2_elementData_0 5 rfl rfl)
theorem dJ2_elementData_6 : decode cJ2_elementData 6 = .ok (.areturn, 1) := dk_176 (dk_at dksJ2_elementData_0 6 rfl rfl)
abbrev cJ2_isEmpty : ByteArray := prog_34_method_9_code
def yJ2_isEmpty : MethodName := ⟨RJ2, "isEmpty", "()Z"⟩
def dkwJ2_isEmpty_0 : List UInt8 := [42, 180, 0, 48, 154, 0, 7, 4, 167, 0, 4, 3, 172]
abbrev dktJ2_isEmpty_0 : List UInt8 := dkwJ2_isEmpty_0 ++ []
theorem dksJ2_isEmpty_0 : cJ2_isEmpty.data.toList.drop 0 = dktJ2_isEmpty_0 := by decide +kernel
theorem dJ2_isEmpty_0 : decode cJ2_isEmpty 0 = .ok (.aload_n 0, 1) := dk_42 (dk_at dksJ2_isEmpty_0 0 rfl rfl)
theorem dJ2_isEmpty_1 : decode cJ2_isEmpty 1 = .ok (.getfield 48, 3) := dk_180 0 48 (dk_at dksJ2_isEmpty_0 1 rfl rfl)
theorem dJ2_isEmpty_4 : decode cJ2_isEmpty 4 = .ok (.ifCond .ne 7, 3) := dk_154 0 7 (dk_at dksJ2_isEmpty_0 4 rfl rfl)
theorem dJ2_isEmpty_7 : decode cJ2_isEmpty 7 = .ok (.iconst 1, 1) := dk_4 (dk_at dksJ2_isEmpty_0 7 rfl rfl)
theorem dJ2_isEmpty_8 : decode cJ2_isEmpty 8 = .ok (.goto 4, 3) := dk_167 0 4 (dk_at dksJ2_isEmpty_0 8 rfl rfl)
theorem dJ2_isEmpty_11 : decode cJ2_isEmpty 11 = .ok (.iconst 0, 1) := dk_3 (dk_at dksJ2_isEmpty_0 11 rfl rfl)
theorem dJ2_isEmpty_12 : decode cJ2_isEmpty 12 = .ok (.ireturn, 1) := dk_172 (dk_at dksJ2_isEmpty_0 12 rfl rfl)
abbrev cJ2_add : ByteArray := prog_34_method_25_code
def yJ2_add : MethodName := ⟨RJ2, "add", "(Ljava/lang/Object;)Z"⟩
def dkwJ2_add_1 : List UInt8 := [172]
abbrev dktJ2_add_1 : List UInt8 := dkwJ2_add_1 ++ []
def dkwJ2_add_0 : List UInt8 := [42, 89, 180, 0, 63, 4, 96, 181, 0, 63, 42, 43, 42, 180, 0, 9, 42, 180, 0, 48, 182, 0, 131, 4]
abbrev dktJ2_add_0 : List UInt8 := dkwJ2_add_0 ++ dktJ2_add_1
theorem dksJ2_add_0 : cJ2_add.data.toList.drop 0 = dktJ2_add_0 := by decide +kernel
theorem dksJ2_add_1 : cJ2_add.data.toList.drop 24 = dktJ2_add_1 := dk_seg dksJ2_add_0 24 rfl rfl
theorem dJ2_add_0 : decode cJ2_add 0 = .ok (.aload_n 0, 1) := dk_42 (dk_at dksJ2_add_0 0 rfl rfl)
theorem dJ2_add_1 : decode cJ2_add 1 = .ok (.dup, 1) := dk_89 (dk_at dksJ2_add_0 1 rfl rfl)
theorem dJ2_add_2 : decode cJ2_add 2 = .ok (.getfield 63, 3) := dk_180 0 63 (dk_at dksJ2_add_0 2 rfl rfl)
theorem dJ2_add_5 : decode cJ2_add 5 = .ok (.iconst 1, 1) := dk_4 (dk_at dksJ2_add_0 5 rfl rfl)
theorem dJ2_add_6 : decode cJ2_add 6 = .ok (.iadd, 1) := dk_96 (dk_at dksJ2_add_0 6 rfl rfl)
theorem dJ2_add_7 : decode cJ2_add 7 = .ok (.putfield 63, 3) := dk_181 0 63 (dk_at dksJ2_add_0 7 rfl rfl)
theorem dJ2_add_10 : decode cJ2_add 10 = .ok (.aload_n 0, 1) := dk_42 (dk_at dksJ2_add_0 10 rfl rfl)
theorem dJ2_add_11 : decode cJ2_add 11 = .ok (.aload_n 1, 1) := dk_43 (dk_at dksJ2_add_0 11 rfl rfl)
theorem dJ2_add_12 : decode cJ2_add 12 = .ok (.aload_n 0, 1) := dk_42 (dk_at dksJ2_add_0 12 rfl rfl)
theorem dJ2_add_13 : decode cJ2_add 13 = .ok (.getfield 9, 3) := dk_180 0 9 (dk_at dksJ2_add_0 13 rfl rfl)
theorem dJ2_add_16 : decode cJ2_add 16 = .ok (.aload_n 0, 1) := dk_42 (dk_at dksJ2_add_0 16 rfl rfl)
theorem dJ2_add_17 : decode cJ2_add 17 = .ok (.getfield 48, 3) := dk_180 0 48 (dk_at dksJ2_add_0 17 rfl rfl)
theorem dJ2_add_20 : decode cJ2_add 20 = .ok (.invokevirtual 131, 3) := dk_182 0 131 (dk_at dksJ2_add_0 20 rfl rfl)
theorem dJ2_add_23 : decode cJ2_add 23 = .ok (.iconst 1, 1) := dk_4 (dk_at dksJ2_add_0 23 rfl rfl)
theorem dJ2_add_24 : decode cJ2_add 24 = .ok (.ireturn, 1) := dk_172 (dk_at dksJ2_add_1 0 rfl rfl)
abbrev cJ2_add_2 : ByteArray := prog_34_method_24_code
def yJ2_add_2 : MethodName := ⟨RJ2, "add", "(Ljava/lang/Object;[Ljava/lang/Object;I)V"⟩
def dkwJ2_add_2_0 : List UInt8 := [29, 44, 190, 160, 0, 8, 42, 182, 0, 129, 77, 44, 29, 43, 83, 42, 29, 4, 96, 181, 0, 48, 177]
abbrev dktJ2_add_2_0 : List UInt8 := dkwJ2_add_2_0 ++ []
theorem dksJ2_add_2_0 : cJ2_add_2.data.toList.drop 0 = dktJ2_add_2_0 := by decide +kernel
theorem dJ2_add_2_0 : decode cJ2_add_2 0 = .ok (.iload_n 3, 1) := dk_29 (dk_at dksJ2_add_2_0 0 rfl rfl)
theorem dJ2_add_2_1 : decode cJ2_add_2 1 = .ok (.aload_n 2, 1) := dk_44 (dk_at dksJ2_add_2_0 1 rfl rfl)
theorem dJ2_add_2_2 : decode cJ2_add_2 2 = .ok (.arraylength, 1) := dk_190 (dk_at dksJ2_add_2_0 2 rfl rfl)
theorem dJ2_add_2_3 : decode cJ2_add_2 3 = .ok (.if_icmp .ne 8, 3) := dk_160 0 8 (dk_at dksJ2_add_2_0 3 rfl rfl)
theorem dJ2_add_2_6 : decode cJ2_add_2 6 = .ok (.aload_n 0, 1) := dk_42 (dk_at dksJ2_add_2_0 6 rfl rfl)
theorem dJ2_add_2_7 : decode cJ2_add_2 7 = .ok (.invokevirtual 129, 3) := dk_182 0 129 (dk_at dksJ2_add_2_0 7 rfl rfl)
theorem dJ2_add_2_10 : decode cJ2_add_2 10 = .ok (.astore_n 2, 1) := dk_77 (dk_at dksJ2_add_2_0 10 rfl rfl)
theorem dJ2_add_2_11 : decode cJ2_add_2 11 = .ok (.aload_n 2, 1) := dk_44 (dk_at dksJ2_add_2_0 11 rfl rfl)
theorem dJ2_add_2_12 : decode cJ2_add_2 12 = .ok (.iload_n 3, 1) := dk_29 (dk_at dksJ2_add_2_0 12 rfl rfl)
theorem dJ2_add_2_13 : decode cJ2_add_2 13 = .ok (.aload_n 1, 1) := dk_43 (dk_at dksJ2_add_2_0 13 rfl rfl)
theorem dJ2_add_2_14 : decode cJ2_add_2 14 = .ok (.aastore, 1) := dk_83 (dk_at dksJ2_add_2_0 14 rfl rfl)
theorem dJ2_add_2_15 : decode cJ2_add_2 15 = .ok (.aload_n 0, 1) := dk_42 (dk_at dksJ2_add_2_0 15 rfl rfl)
theorem dJ2_add_2_16 : decode cJ2_add_2 16 = .ok (.iload_n 3, 1) := dk_29 (dk_at dksJ2_add_2_0 16 rfl rfl)
theorem dJ2_add_2_17 : decode cJ2_add_2 17 = .ok (.iconst 1, 1) := dk_4 (dk_at dksJ2_add_2_0 17 rfl rfl)
theorem dJ2_add_2_18 : decode cJ2_add_2 18 = .ok (.iadd, 1) := dk_96 (dk_at dksJ2_add_2_0 18 rfl rfl)
theorem dJ2_add_2_19 : decode cJ2_add_2 19 = .ok (.putfield 48, 3) := dk_181 0 48 (dk_at dksJ2_add_2_0 19 rfl rfl)
theorem dJ2_add_2_22 : decode cJ2_add_2 22 = .ok (.return_, 1) := dk_177 (dk_at dksJ2_add_2_0 22 rfl rfl)
abbrev cJ2_grow : ByteArray := prog_34_method_7_code
def yJ2_grow : MethodName := ⟨RJ2, "grow", "()[Ljava/lang/Object;"⟩
def dkwJ2_grow_0 : List UInt8 := [42, 42, 180, 0, 48, 4, 96, 182, 0, 69, 176]
abbrev dktJ2_grow_0 : List UInt8 := dkwJ2_grow_0 ++ []
theorem dksJ2_grow_0 : cJ2_grow.data.toList.drop 0 = dktJ2_grow_0 := by decide +kernel
theorem dJ2_grow_0 : decode cJ2_grow 0 = .ok (.aload_n 0, 1) := dk_42 (dk_at dksJ2_grow_0 0 rfl rfl)
theorem dJ2_grow_1 : decode cJ2_grow 1 = .ok (.aload_n 0, 1) := dk_42 (dk_at dksJ2_grow_0 1 rfl rfl)
theorem dJ2_grow_2 : decode cJ2_grow 2 = .ok (.getfield 48, 3) := dk_180 0 48 (dk_at dksJ2_grow_0 2 rfl rfl)
theorem dJ2_grow_5 : decode cJ2_grow 5 = .ok (.iconst 1, 1) := dk_4 (dk_at dksJ2_grow_0 5 rfl rfl)
theorem dJ2_grow_6 : decode cJ2_grow 6 = .ok (.iadd, 1) := dk_96 (dk_at dksJ2_grow_0 6 rfl rfl)
theorem dJ2_grow_7 : decode cJ2_grow 7 = .ok (.invokevirtual 69, 3) := dk_182 0 69 (dk_at dksJ2_grow_0 7 rfl rfl)
theorem dJ2_grow_10 : decode cJ2_grow 10 = .ok (.areturn, 1) := dk_176 (dk_at dksJ2_grow_0 10 rfl rfl)
abbrev cJ2_grow_2 : ByteArray := prog_34_method_6_code
def yJ2_grow_2 : MethodName := ⟨RJ2, "grow", "(I)[Ljava/lang/Object;"⟩
def dkwJ2_grow_2_2 : List UInt8 := [27, 184, 0, 79, 189, 0, 7, 90, 181, 0, 9, 176]
abbrev dktJ2_grow_2_2 : List UInt8 := dkwJ2_grow_2_2 ++ []
def dkwJ2_grow_2_1 : List UInt8 := [28, 4, 122, 184, 0, 73, 62, 42, 42, 180, 0, 9, 29, 184, 0, 66, 90, 181, 0, 9, 176, 42, 16, 10]
abbrev dktJ2_grow_2_1 : List UInt8 := dkwJ2_grow_2_1 ++ dktJ2_grow_2_2
def dkwJ2_grow_2_0 : List UInt8 := [42, 180, 0, 9, 190, 61, 28, 157, 0, 13, 42, 180, 0, 9, 178, 0, 39, 165, 0, 28, 28, 27, 28, 100]
abbrev dktJ2_grow_2_0 : List UInt8 := dkwJ2_grow_2_0 ++ dktJ2_grow_2_1
theorem dksJ2_grow_2_0 : cJ2_grow_2.data.toList.drop 0 = dktJ2_grow_2_0 := by decide +kernel
theorem dksJ2_grow_2_1 : cJ2_grow_2.data.toList.drop 24 = dktJ2_grow_2_1 := dk_seg dksJ2_grow_2_0 24 rfl rfl
theorem dksJ2_grow_2_2 : cJ2_grow_2.data.toList.drop 48 = dktJ2_grow_2_2 := dk_seg dksJ2_grow_2_1 24 rfl rfl
theorem dJ2_grow_2_0 : decode cJ2_grow_2 0 = .ok (.aload_n 0, 1) := dk_42 (dk_at dksJ2_grow_2_0 0 rfl rfl)
theorem dJ2_grow_2_1 : decode cJ2_grow_2 1 = .ok (.getfield 9, 3) := dk_180 0 9 (dk_at dksJ2_grow_2_0 1 rfl rfl)
theorem dJ2_grow_2_4 : decode cJ2_grow_2 4 = .ok (.arraylength, 1) := dk_190 (dk_at dksJ2_grow_2_0 4 rfl rfl)
theorem dJ2_grow_2_5 : decode cJ2_grow_2 5 = .ok (.istore_n 2, 1) := dk_61 (dk_at dksJ2_grow_2_0 5 rfl rfl)
theorem dJ2_grow_2_6 : decode cJ2_grow_2 6 = .ok (.iload_n 2, 1) := dk_28 (dk_at dksJ2_grow_2_0 6 rfl rfl)
theorem dJ2_grow_2_7 : decode cJ2_grow_2 7 = .ok (.ifCond .gt 13, 3) := dk_157 0 13 (dk_at dksJ2_grow_2_0 7 rfl rfl)
theorem dJ2_grow_2_10 : decode cJ2_grow_2 10 = .ok (.aload_n 0, 1) := dk_42 (dk_at dksJ2_grow_2_0 10 rfl rfl)
theorem dJ2_grow_2_11 : decode cJ2_grow_2 11 = .ok (.getfield 9, 3) := dk_180 0 9 (dk_at dksJ2_grow_2_0 11 rfl rfl)
theorem dJ2_grow_2_14 : decode cJ2_grow_2 14 = .ok (.getstatic 39, 3) := dk_178 0 39 (dk_at dksJ2_grow_2_0 14 rfl rfl)
theorem dJ2_grow_2_17 : decode cJ2_grow_2 17 = .ok (.if_acmp .eq 28, 3) := dk_165 0 28 (dk_at dksJ2_grow_2_0 17 rfl rfl)
theorem dJ2_grow_2_20 : decode cJ2_grow_2 20 = .ok (.iload_n 2, 1) := dk_28 (dk_at dksJ2_grow_2_0 20 rfl rfl)
theorem dJ2_grow_2_21 : decode cJ2_grow_2 21 = .ok (.iload_n 1, 1) := dk_27 (dk_at dksJ2_grow_2_0 21 rfl rfl)
theorem dJ2_grow_2_22 : decode cJ2_grow_2 22 = .ok (.iload_n 2, 1) := dk_28 (dk_at dksJ2_grow_2_0 22 rfl rfl)
theorem dJ2_grow_2_23 : decode cJ2_grow_2 23 = .ok (.isub, 1) := dk_100 (dk_at dksJ2_grow_2_0 23 rfl rfl)
theorem dJ2_grow_2_24 : decode cJ2_grow_2 24 = .ok (.iload_n 2, 1) := dk_28 (dk_at dksJ2_grow_2_1 0 rfl rfl)
theorem dJ2_grow_2_25 : decode cJ2_grow_2 25 = .ok (.iconst 1, 1) := dk_4 (dk_at dksJ2_grow_2_1 1 rfl rfl)
theorem dJ2_grow_2_26 : decode cJ2_grow_2 26 = .ok (.ishr, 1) := dk_122 (dk_at dksJ2_grow_2_1 2 rfl rfl)
theorem dJ2_grow_2_27 : decode cJ2_grow_2 27 = .ok (.invokestatic 73, 3) := dk_184 0 73 (dk_at dksJ2_grow_2_1 3 rfl rfl)
theorem dJ2_grow_2_30 : decode cJ2_grow_2 30 = .ok (.istore_n 3, 1) := dk_62 (dk_at dksJ2_grow_2_1 6 rfl rfl)
theorem dJ2_grow_2_31 : decode cJ2_grow_2 31 = .ok (.aload_n 0, 1) := dk_42 (dk_at dksJ2_grow_2_1 7 rfl rfl)
theorem dJ2_grow_2_32 : decode cJ2_grow_2 32 = .ok (.aload_n 0, 1) := dk_42 (dk_at dksJ2_grow_2_1 8 rfl rfl)
theorem dJ2_grow_2_33 : decode cJ2_grow_2 33 = .ok (.getfield 9, 3) := dk_180 0 9 (dk_at dksJ2_grow_2_1 9 rfl rfl)
theorem dJ2_grow_2_36 : decode cJ2_grow_2 36 = .ok (.iload_n 3, 1) := dk_29 (dk_at dksJ2_grow_2_1 12 rfl rfl)
theorem dJ2_grow_2_37 : decode cJ2_grow_2 37 = .ok (.invokestatic 66, 3) := dk_184 0 66 (dk_at dksJ2_grow_2_1 13 rfl rfl)
theorem dJ2_grow_2_40 : decode cJ2_grow_2 40 = .ok (.dup_x1, 1) := dk_90 (dk_at dksJ2_grow_2_1 16 rfl rfl)
theorem dJ2_grow_2_41 : decode cJ2_grow_2 41 = .ok (.putfield 9, 3) := dk_181 0 9 (dk_at dksJ2_grow_2_1 17 rfl rfl)
theorem dJ2_grow_2_44 : decode cJ2_grow_2 44 = .ok (.areturn, 1) := dk_176 (dk_at dksJ2_grow_2_1 20 rfl rfl)
theorem dJ2_grow_2_45 : decode cJ2_grow_2 45 = .ok (.aload_n 0, 1) := dk_42 (dk_at dksJ2_grow_2_1 21 rfl rfl)
theorem dJ2_grow_2_46 : decode cJ2_grow_2 46 = .ok (.bipush 10, 2) := dk_16 10 (dk_at dksJ2_grow_2_1 22 rfl rfl)
theorem dJ2_grow_2_48 : decode cJ2_grow_2 48 = .ok (.iload_n 1, 1) := dk_27 (dk_at dksJ2_grow_2_2 0 rfl rfl)
theorem dJ2_grow_2_49 : decode cJ2_grow_2 49 = .ok (.invokestatic 79, 3) := dk_184 0 79 (dk_at dksJ2_grow_2_2 1 rfl rfl)
theorem dJ2_grow_2_52 : decode cJ2_grow_2 52 = .ok (.anewarray 7, 3) := dk_189 0 7 (dk_at dksJ2_grow_2_2 4 rfl rfl)
theorem dJ2_grow_2_55 : decode cJ2_grow_2 55 = .ok (.dup_x1, 1) := dk_90 (dk_at dksJ2_grow_2_2 7 rfl rfl)
theorem dJ2_grow_2_56 : decode cJ2_grow_2 56 = .ok (.putfield 9, 3) := dk_181 0 9 (dk_at dksJ2_grow_2_2 8 rfl rfl)
theorem dJ2_grow_2_59 : decode cJ2_grow_2 59 = .ok (.areturn, 1) := dk_176 (dk_at dksJ2_grow_2_2 11 rfl rfl)
abbrev cJ2_remove : ByteArray := prog_34_method_29_code
def yJ2_remove : MethodName := ⟨RJ2, "remove", "(I)Ljava/lang/Object;"⟩
def dkwJ2_remove_1 : List UInt8 := [45, 176]
abbrev dktJ2_remove_1 : List UInt8 := dkwJ2_remove_1 ++ []
def dkwJ2_remove_0 : List UInt8 := [27, 42, 180, 0, 48, 184, 0, 118, 87, 42, 180, 0, 9, 77, 44, 27, 50, 78, 42, 44, 27, 182, 0, 144]
abbrev dktJ2_remove_0 : List UInt8 := dkwJ2_remove_0 ++ dktJ2_remove_1
theorem dksJ2_remove_0 : cJ2_remove.data.toList.drop 0 = dktJ2_remove_0 := by decide +kernel
theorem dksJ2_remove_1 : cJ2_remove.data.toList.drop 24 = dktJ2_remove_1 := dk_seg dksJ2_remove_0 24 rfl rfl
theorem dJ2_remove_0 : decode cJ2_remove 0 = .ok (.iload_n 1, 1) := dk_27 (dk_at dksJ2_remove_0 0 rfl rfl)
theorem dJ2_remove_1 : decode cJ2_remove 1 = .ok (.aload_n 0, 1) := dk_42 (dk_at dksJ2_remove_0 1 rfl rfl)
theorem dJ2_remove_2 : decode cJ2_remove 2 = .ok (.getfield 48, 3) := dk_180 0 48 (dk_at dksJ2_remove_0 2 rfl rfl)
theorem dJ2_remove_5 : decode cJ2_remove 5 = .ok (.invokestatic 118, 3) := dk_184 0 118 (dk_at dksJ2_remove_0 5 rfl rfl)
theorem dJ2_remove_8 : decode cJ2_remove 8 = .ok (.pop, 1) := dk_87 (dk_at dksJ2_remove_0 8 rfl rfl)
theorem dJ2_remove_9 : decode cJ2_remove 9 = .ok (.aload_n 0, 1) := dk_42 (dk_at dksJ2_remove_0 9 rfl rfl)
theorem dJ2_remove_10 : decode cJ2_remove 10 = .ok (.getfield 9, 3) := dk_180 0 9 (dk_at dksJ2_remove_0 10 rfl rfl)
theorem dJ2_remove_13 : decode cJ2_remove 13 = .ok (.astore_n 2, 1) := dk_77 (dk_at dksJ2_remove_0 13 rfl rfl)
theorem dJ2_remove_14 : decode cJ2_remove 14 = .ok (.aload_n 2, 1) := dk_44 (dk_at dksJ2_remove_0 14 rfl rfl)
theorem dJ2_remove_15 : decode cJ2_remove 15 = .ok (.iload_n 1, 1) := dk_27 (dk_at dksJ2_remove_0 15 rfl rfl)
theorem dJ2_remove_16 : decode cJ2_remove 16 = .ok (.aaload, 1) := dk_50 (dk_at dksJ2_remove_0 16 rfl rfl)
theorem dJ2_remove_17 : decode cJ2_remove 17 = .ok (.astore_n 3, 1) := dk_78 (dk_at dksJ2_remove_0 17 rfl rfl)
theorem dJ2_remove_18 : decode cJ2_remove 18 = .ok (.aload_n 0, 1) := dk_42 (dk_at dksJ2_remove_0 18 rfl rfl)
theorem dJ2_remove_19 : decode cJ2_remove 19 = .ok (.aload_n 2, 1) := dk_44 (dk_at dksJ2_remove_0 19 rfl rfl)
theorem dJ2_remove_20 : decode cJ2_remove 20 = .ok (.iload_n 1, 1) := dk_27 (dk_at dksJ2_remove_0 20 rfl rfl)
theorem dJ2_remove_21 : decode cJ2_remove 21 = .ok (.invokevirtual 144, 3) := dk_182 0 144 (dk_at dksJ2_remove_0 21 rfl rfl)
theorem dJ2_remove_24 : decode cJ2_remove 24 = .ok (.aload_n 3, 1) := dk_45 (dk_at dksJ2_remove_1 0 rfl rfl)
theorem dJ2_remove_25 : decode cJ2_remove 25 = .ok (.areturn, 1) := dk_176 (dk_at dksJ2_remove_1 1 rfl rfl)
abbrev cJ2_fastRemove : ByteArray := prog_34_method_39_code
def yJ2_fastRemove : MethodName := ⟨RJ2, "fastRemove", "([Ljava/lang/Object;I)V"⟩
def dkwJ2_fastRemove_1 : List UInt8 := [4, 96, 43, 28, 29, 28, 100, 184, 0, 112, 43, 42, 29, 90, 181, 0, 48, 1, 83, 177]
abbrev dktJ2_fastRemove_1 : List UInt8 := dkwJ2_fastRemove_1 ++ []
def dkwJ2_fastRemove_0 : List UInt8 := [42, 89, 180, 0, 63, 4, 96, 181, 0, 63, 42, 180, 0, 48, 4, 100, 89, 62, 28, 164, 0, 15, 43, 28]
abbrev dktJ2_fastRemove_0 : List UInt8 := dkwJ2_fastRemove_0 ++ dktJ2_fastRemove_1
theorem dksJ2_fastRemove_0 : cJ2_fastRemove.data.toList.drop 0 = dktJ2_fastRemove_0 := by decide +kernel
theorem dksJ2_fastRemove_1 : cJ2_fastRemove.data.toList.drop 24 = dktJ2_fastRemove_1 := dk_seg dksJ2_fastRemove_0 24 rfl rfl
theorem dJ2_fastRemove_0 : decode cJ2_fastRemove 0 = .ok (.aload_n 0, 1) := dk_42 (dk_at dksJ2_fastRemove_0 0 rfl rfl)
theorem dJ2_fastRemove_1 : decode cJ2_fastRemove 1 = .ok (.dup, 1) := dk_89 (dk_at dksJ2_fastRemove_0 1 rfl rfl)
theorem dJ2_fastRemove_2 : decode cJ2_fastRemove 2 = .ok (.getfield 63, 3) := dk_180 0 63 (dk_at dksJ2_fastRemove_0 2 rfl rfl)
theorem dJ2_fastRemove_5 : decode cJ2_fastRemove 5 = .ok (.iconst 1, 1) := dk_4 (dk_at dksJ2_fastRemove_0 5 rfl rfl)
theorem dJ2_fastRemove_6 : decode cJ2_fastRemove 6 = .ok (.iadd, 1) := dk_96 (dk_at dksJ2_fastRemove_0 6 rfl rfl)
theorem dJ2_fastRemove_7 : decode cJ2_fastRemove 7 = .ok (.putfield 63, 3) := dk_181 0 63 (dk_at dksJ2_fastRemove_0 7 rfl rfl)
theorem dJ2_fastRemove_10 : decode cJ2_fastRemove 10 = .ok (.aload_n 0, 1) := dk_42 (dk_at dksJ2_fastRemove_0 10 rfl rfl)
theorem dJ2_fastRemove_11 : decode cJ2_fastRemove 11 = .ok (.getfield 48, 3) := dk_180 0 48 (dk_at dksJ2_fastRemove_0 11 rfl rfl)
theorem dJ2_fastRemove_14 : decode cJ2_fastRemove 14 = .ok (.iconst 1, 1) := dk_4 (dk_at dksJ2_fastRemove_0 14 rfl rfl)
theorem dJ2_fastRemove_15 : decode cJ2_fastRemove 15 = .ok (.isub, 1) := dk_100 (dk_at dksJ2_fastRemove_0 15 rfl rfl)
theorem dJ2_fastRemove_16 : decode cJ2_fastRemove 16 = .ok (.dup, 1) := dk_89 (dk_at dksJ2_fastRemove_0 16 rfl rfl)
theorem dJ2_fastRemove_17 : decode cJ2_fastRemove 17 = .ok (.istore_n 3, 1) := dk_62 (dk_at dksJ2_fastRemove_0 17 rfl rfl)
theorem dJ2_fastRemove_18 : decode cJ2_fastRemove 18 = .ok (.iload_n 2, 1) := dk_28 (dk_at dksJ2_fastRemove_0 18 rfl rfl)
theorem dJ2_fastRemove_19 : decode cJ2_fastRemove 19 = .ok (.if_icmp .le 15, 3) := dk_164 0 15 (dk_at dksJ2_fastRemove_0 19 rfl rfl)
theorem dJ2_fastRemove_22 : decode cJ2_fastRemove 22 = .ok (.aload_n 1, 1) := dk_43 (dk_at dksJ2_fastRemove_0 22 rfl rfl)
theorem dJ2_fastRemove_23 : decode cJ2_fastRemove 23 = .ok (.iload_n 2, 1) := dk_28 (dk_at dksJ2_fastRemove_0 23 rfl rfl)
theorem dJ2_fastRemove_24 : decode cJ2_fastRemove 24 = .ok (.iconst 1, 1) := dk_4 (dk_at dksJ2_fastRemove_1 0 rfl rfl)
theorem dJ2_fastRemove_25 : decode cJ2_fastRemove 25 = .ok (.iadd, 1) := dk_96 (dk_at dksJ2_fastRemove_1 1 rfl rfl)
theorem dJ2_fastRemove_26 : decode cJ2_fastRemove 26 = .ok (.aload_n 1, 1) := dk_43 (dk_at dksJ2_fastRemove_1 2 rfl rfl)
theorem dJ2_fastRemove_27 : decode cJ2_fastRemove 27 = .ok (.iload_n 2, 1) := dk_28 (dk_at dksJ2_fastRemove_1 3 rfl rfl)
theorem dJ2_fastRemove_28 : decode cJ2_fastRemove 28 = .ok (.iload_n 3, 1) := dk_29 (dk_at dksJ2_fastRemove_1 4 rfl rfl)
theorem dJ2_fastRemove_29 : decode cJ2_fastRemove 29 = .ok (.iload_n 2, 1) := dk_28 (dk_at dksJ2_fastRemove_1 5 rfl rfl)
theorem dJ2_fastRemove_30 : decode cJ2_fastRemove 30 = .ok (.isub, 1) := dk_100 (dk_at dksJ2_fastRemove_1 6 rfl rfl)
theorem dJ2_fastRemove_31 : decode cJ2_fastRemove 31 = .ok (.invokestatic 112, 3) := dk_184 0 112 (dk_at dksJ2_fastRemove_1 7 rfl rfl)
theorem dJ2_fastRemove_34 : decode cJ2_fastRemove 34 = .ok (.aload_n 1, 1) := dk_43 (dk_at dksJ2_fastRemove_1 10 rfl rfl)
theorem dJ2_fastRemove_35 : decode cJ2_fastRemove 35 = .ok (.aload_n 0, 1) := dk_42 (dk_at dksJ2_fastRemove_1 11 rfl rfl)
theorem dJ2_fastRemove_36 : decode cJ2_fastRemove 36 = .ok (.iload_n 3, 1) := dk_29 (dk_at dksJ2_fastRemove_1 12 rfl rfl)
theorem dJ2_fastRemove_37 : decode cJ2_fastRemove 37 = .ok (.dup_x1, 1) := dk_90 (dk_at dksJ2_fastRemove_1 13 rfl rfl)
theorem dJ2_fastRemove_38 : decode cJ2_fastRemove 38 = .ok (.putfield 48, 3) := dk_181 0 48 (dk_at dksJ2_fastRemove_1 14 rfl rfl)
theorem dJ2_fastRemove_41 : decode cJ2_fastRemove 41 = .ok (.aconst_null, 1) := dk_1 (dk_at dksJ2_fastRemove_1 17 rfl rfl)
theorem dJ2_fastRemove_42 : decode cJ2_fastRemove 42 = .ok (.aastore, 1) := dk_83 (dk_at dksJ2_fastRemove_1 18 rfl rfl)
theorem dJ2_fastRemove_43 : decode cJ2_fastRemove 43 = .ok (.return_, 1) := dk_177 (dk_at dksJ2_fastRemove_1 19 rfl rfl)
abbrev cJ2_set : ByteArray := prog_34_method_23_code
def yJ2_set : MethodName := ⟨RJ2, "set", "(ILjava/lang/Object;)Ljava/lang/Object;"⟩
def dkwJ2_set_0 : List UInt8 := [27, 42, 180, 0, 48, 184, 0, 118, 87, 42, 27, 182, 0, 123, 78, 42, 180, 0, 9, 27, 44, 83, 45, 176]
abbrev dktJ2_set_0 : List UInt8 := dkwJ2_set_0 ++ []
theorem dksJ2_set_0 : cJ2_set.data.toList.drop 0 = dktJ2_set_0 := by decide +kernel
theorem dJ2_set_0 : decode cJ2_set 0 = .ok (.iload_n 1, 1) := dk_27 (dk_at dksJ2_set_0 0 rfl rfl)
theorem dJ2_set_1 : decode cJ2_set 1 = .ok (.aload_n 0, 1) := dk_42 (dk_at dksJ2_set_0 1 rfl rfl)
theorem dJ2_set_2 : decode cJ2_set 2 = .ok (.getfield 48, 3) := dk_180 0 48 (dk_at dksJ2_set_0 2 rfl rfl)
theorem dJ2_set_5 : decode cJ2_set 5 = .ok (.invokestatic 118, 3) := dk_184 0 118 (dk_at dksJ2_set_0 5 rfl rfl)
theorem dJ2_set_8 : decode cJ2_set 8 = .ok (.pop, 1) := dk_87 (dk_at dksJ2_set_0 8 rfl rfl)
theorem dJ2_set_9 : decode cJ2_set 9 = .ok (.aload_n 0, 1) := dk_42 (dk_at dksJ2_set_0 9 rfl rfl)
theorem dJ2_set_10 : decode cJ2_set 10 = .ok (.iload_n 1, 1) := dk_27 (dk_at dksJ2_set_0 10 rfl rfl)
theorem dJ2_set_11 : decode cJ2_set 11 = .ok (.invokevirtual 123, 3) := dk_182 0 123 (dk_at dksJ2_set_0 11 rfl rfl)
theorem dJ2_set_14 : decode cJ2_set 14 = .ok (.astore_n 3, 1) := dk_78 (dk_at dksJ2_set_0 14 rfl rfl)
theorem dJ2_set_15 : decode cJ2_set 15 = .ok (.aload_n 0, 1) := dk_42 (dk_at dksJ2_set_0 15 rfl rfl)
theorem dJ2_set_16 : decode cJ2_set 16 = .ok (.getfield 9, 3) := dk_180 0 9 (dk_at dksJ2_set_0 16 rfl rfl)
theorem dJ2_set_19 : decode cJ2_set 19 = .ok (.iload_n 1, 1) := dk_27 (dk_at dksJ2_set_0 19 rfl rfl)
theorem dJ2_set_20 : decode cJ2_set 20 = .ok (.aload_n 2, 1) := dk_44 (dk_at dksJ2_set_0 20 rfl rfl)
theorem dJ2_set_21 : decode cJ2_set 21 = .ok (.aastore, 1) := dk_83 (dk_at dksJ2_set_0 21 rfl rfl)
theorem dJ2_set_22 : decode cJ2_set 22 = .ok (.aload_n 3, 1) := dk_45 (dk_at dksJ2_set_0 22 rfl rfl)
theorem dJ2_set_23 : decode cJ2_set 23 = .ok (.areturn, 1) := dk_176 (dk_at dksJ2_set_0 23 rfl rfl)
abbrev cJ2_init_2 : ByteArray := prog_34_method_1_code
def yJ2_init_2 : MethodName := ⟨RJ2, "<init>", "(I)V"⟩
def dkwJ2_init_2_2 : List UInt8 := [182, 0, 25, 27, 182, 0, 29, 182, 0, 32, 183, 0, 36, 191, 177]
abbrev dktJ2_init_2_2 : List UInt8 := dkwJ2_init_2_2 ++ []
def dkwJ2_init_2_1 : List UInt8 := [178, 0, 15, 181, 0, 9, 167, 0, 30, 187, 0, 18, 89, 187, 0, 20, 89, 183, 0, 22, 18, 23]
abbrev dktJ2_init_2_1 : List UInt8 := dkwJ2_init_2_1 ++ dktJ2_init_2_2
def dkwJ2_init_2_0 : List UInt8 := [42, 183, 0, 1, 27, 158, 0, 14, 42, 27, 189, 0, 7, 181, 0, 9, 167, 0, 44, 27, 154, 0, 13, 42]
abbrev dktJ2_init_2_0 : List UInt8 := dkwJ2_init_2_0 ++ dktJ2_init_2_1
theorem dksJ2_init_2_0 : cJ2_init_2.data.toList.drop 0 = dktJ2_init_2_0 := by decide +kernel
theorem dksJ2_init_2_1 : cJ2_init_2.data.toList.drop 24 = dktJ2_init_2_1 := dk_seg dksJ2_init_2_0 24 rfl rfl
theorem dksJ2_init_2_2 : cJ2_init_2.data.toList.drop 46 = dktJ2_init_2_2 := dk_seg dksJ2_init_2_1 22 rfl rfl
theorem dJ2_init_2_0 : decode cJ2_init_2 0 = .ok (.aload_n 0, 1) := dk_42 (dk_at dksJ2_init_2_0 0 rfl rfl)
theorem dJ2_init_2_1 : decode cJ2_init_2 1 = .ok (.invokespecial 1, 3) := dk_183 0 1 (dk_at dksJ2_init_2_0 1 rfl rfl)
theorem dJ2_init_2_4 : decode cJ2_init_2 4 = .ok (.iload_n 1, 1) := dk_27 (dk_at dksJ2_init_2_0 4 rfl rfl)
theorem dJ2_init_2_5 : decode cJ2_init_2 5 = .ok (.ifCond .le 14, 3) := dk_158 0 14 (dk_at dksJ2_init_2_0 5 rfl rfl)
theorem dJ2_init_2_8 : decode cJ2_init_2 8 = .ok (.aload_n 0, 1) := dk_42 (dk_at dksJ2_init_2_0 8 rfl rfl)
theorem dJ2_init_2_9 : decode cJ2_init_2 9 = .ok (.iload_n 1, 1) := dk_27 (dk_at dksJ2_init_2_0 9 rfl rfl)
theorem dJ2_init_2_10 : decode cJ2_init_2 10 = .ok (.anewarray 7, 3) := dk_189 0 7 (dk_at dksJ2_init_2_0 10 rfl rfl)
theorem dJ2_init_2_13 : decode cJ2_init_2 13 = .ok (.putfield 9, 3) := dk_181 0 9 (dk_at dksJ2_init_2_0 13 rfl rfl)
theorem dJ2_init_2_16 : decode cJ2_init_2 16 = .ok (.goto 44, 3) := dk_167 0 44 (dk_at dksJ2_init_2_0 16 rfl rfl)
theorem dJ2_init_2_19 : decode cJ2_init_2 19 = .ok (.iload_n 1, 1) := dk_27 (dk_at dksJ2_init_2_0 19 rfl rfl)
theorem dJ2_init_2_20 : decode cJ2_init_2 20 = .ok (.ifCond .ne 13, 3) := dk_154 0 13 (dk_at dksJ2_init_2_0 20 rfl rfl)
theorem dJ2_init_2_23 : decode cJ2_init_2 23 = .ok (.aload_n 0, 1) := dk_42 (dk_at dksJ2_init_2_0 23 rfl rfl)
theorem dJ2_init_2_24 : decode cJ2_init_2 24 = .ok (.getstatic 15, 3) := dk_178 0 15 (dk_at dksJ2_init_2_1 0 rfl rfl)
theorem dJ2_init_2_27 : decode cJ2_init_2 27 = .ok (.putfield 9, 3) := dk_181 0 9 (dk_at dksJ2_init_2_1 3 rfl rfl)
theorem dJ2_init_2_30 : decode cJ2_init_2 30 = .ok (.goto 30, 3) := dk_167 0 30 (dk_at dksJ2_init_2_1 6 rfl rfl)
theorem dJ2_init_2_33 : decode cJ2_init_2 33 = .ok (.new 18, 3) := dk_187 0 18 (dk_at dksJ2_init_2_1 9 rfl rfl)
theorem dJ2_init_2_36 : decode cJ2_init_2 36 = .ok (.dup, 1) := dk_89 (dk_at dksJ2_init_2_1 12 rfl rfl)
theorem dJ2_init_2_37 : decode cJ2_init_2 37 = .ok (.new 20, 3) := dk_187 0 20 (dk_at dksJ2_init_2_1 13 rfl rfl)
theorem dJ2_init_2_40 : decode cJ2_init_2 40 = .ok (.dup, 1) := dk_89 (dk_at dksJ2_init_2_1 16 rfl rfl)
theorem dJ2_init_2_41 : decode cJ2_init_2 41 = .ok (.invokespecial 22, 3) := dk_183 0 22 (dk_at dksJ2_init_2_1 17 rfl rfl)
theorem dJ2_init_2_44 : decode cJ2_init_2 44 = .ok (.ldc 23, 2) := dk_18 23 (dk_at dksJ2_init_2_1 20 rfl rfl)
theorem dJ2_init_2_46 : decode cJ2_init_2 46 = .ok (.invokevirtual 25, 3) := dk_182 0 25 (dk_at dksJ2_init_2_2 0 rfl rfl)
theorem dJ2_init_2_49 : decode cJ2_init_2 49 = .ok (.iload_n 1, 1) := dk_27 (dk_at dksJ2_init_2_2 3 rfl rfl)
theorem dJ2_init_2_50 : decode cJ2_init_2 50 = .ok (.invokevirtual 29, 3) := dk_182 0 29 (dk_at dksJ2_init_2_2 4 rfl rfl)
theorem dJ2_init_2_53 : decode cJ2_init_2 53 = .ok (.invokevirtual 32, 3) := dk_182 0 32 (dk_at dksJ2_init_2_2 7 rfl rfl)
theorem dJ2_init_2_56 : decode cJ2_init_2 56 = .ok (.invokespecial 36, 3) := dk_183 0 36 (dk_at dksJ2_init_2_2 10 rfl rfl)
theorem dJ2_init_2_59 : decode cJ2_init_2 59 = .ok (.athrow, 1) := dk_191 (dk_at dksJ2_init_2_2 13 rfl rfl)
theorem dJ2_init_2_60 : decode cJ2_init_2 60 = .ok (.return_, 1) := dk_177 (dk_at dksJ2_init_2_2 14 rfl rfl)
abbrev cJ2_clear : ByteArray := prog_34_method_40_code
def yJ2_clear : MethodName := ⟨RJ2, "clear", "()V"⟩
def dkwJ2_clear_1 : List UInt8 := [181, 0, 48, 62, 29, 28, 162, 0, 13, 43, 29, 1, 83, 132, 3, 1, 167, 255, 244, 177]
abbrev dktJ2_clear_1 : List UInt8 := dkwJ2_clear_1 ++ []
def dkwJ2_clear_0 : List UInt8 := [42, 89, 180, 0, 63, 4, 96, 181, 0, 63, 42, 180, 0, 9, 76, 42, 180, 0, 48, 61, 42, 3, 90]
abbrev dktJ2_clear_0 : List UInt8 := dkwJ2_clear_0 ++ dktJ2_clear_1
theorem dksJ2_clear_0 : cJ2_clear.data.toList.drop 0 = dktJ2_clear_0 := by decide +kernel
theorem dksJ2_clear_1 : cJ2_clear.data.toList.drop 23 = dktJ2_clear_1 := dk_seg dksJ2_clear_0 23 rfl rfl
theorem dJ2_clear_0 : decode cJ2_clear 0 = .ok (.aload_n 0, 1) := dk_42 (dk_at dksJ2_clear_0 0 rfl rfl)
theorem dJ2_clear_1 : decode cJ2_clear 1 = .ok (.dup, 1) := dk_89 (dk_at dksJ2_clear_0 1 rfl rfl)
theorem dJ2_clear_2 : decode cJ2_clear 2 = .ok (.getfield 63, 3) := dk_180 0 63 (dk_at dksJ2_clear_0 2 rfl rfl)
theorem dJ2_clear_5 : decode cJ2_clear 5 = .ok (.iconst 1, 1) := dk_4 (dk_at dksJ2_clear_0 5 rfl rfl)
theorem dJ2_clear_6 : decode cJ2_clear 6 = .ok (.iadd, 1) := dk_96 (dk_at dksJ2_clear_0 6 rfl rfl)
theorem dJ2_clear_7 : decode cJ2_clear 7 = .ok (.putfield 63, 3) := dk_181 0 63 (dk_at dksJ2_clear_0 7 rfl rfl)
theorem dJ2_clear_10 : decode cJ2_clear 10 = .ok (.aload_n 0, 1) := dk_42 (dk_at dksJ2_clear_0 10 rfl rfl)
theorem dJ2_clear_11 : decode cJ2_clear 11 = .ok (.getfield 9, 3) := dk_180 0 9 (dk_at dksJ2_clear_0 11 rfl rfl)
theorem dJ2_clear_14 : decode cJ2_clear 14 = .ok (.astore_n 1, 1) := dk_76 (dk_at dksJ2_clear_0 14 rfl rfl)
theorem dJ2_clear_15 : decode cJ2_clear 15 = .ok (.aload_n 0, 1) := dk_42 (dk_at dksJ2_clear_0 15 rfl rfl)
theorem dJ2_clear_16 : decode cJ2_clear 16 = .ok (.getfield 48, 3) := dk_180 0 48 (dk_at dksJ2_clear_0 16 rfl rfl)
theorem dJ2_clear_19 : decode cJ2_clear 19 = .ok (.istore_n 2, 1) := dk_61 (dk_at dksJ2_clear_0 19 rfl rfl)
theorem dJ2_clear_20 : decode cJ2_clear 20 = .ok (.aload_n 0, 1) := dk_42 (dk_at dksJ2_clear_0 20 rfl rfl)
theorem dJ2_clear_21 : decode cJ2_clear 21 = .ok (.iconst 0, 1) := dk_3 (dk_at dksJ2_clear_0 21 rfl rfl)
theorem dJ2_clear_22 : decode cJ2_clear 22 = .ok (.dup_x1, 1) := dk_90 (dk_at dksJ2_clear_0 22 rfl rfl)
theorem dJ2_clear_23 : decode cJ2_clear 23 = .ok (.putfield 48, 3) := dk_181 0 48 (dk_at dksJ2_clear_1 0 rfl rfl)
theorem dJ2_clear_26 : decode cJ2_clear 26 = .ok (.istore_n 3, 1) := dk_62 (dk_at dksJ2_clear_1 3 rfl rfl)
theorem dJ2_clear_27 : decode cJ2_clear 27 = .ok (.iload_n 3, 1) := dk_29 (dk_at dksJ2_clear_1 4 rfl rfl)
theorem dJ2_clear_28 : decode cJ2_clear 28 = .ok (.iload_n 2, 1) := dk_28 (dk_at dksJ2_clear_1 5 rfl rfl)
theorem dJ2_clear_29 : decode cJ2_clear 29 = .ok (.if_icmp .ge 13, 3) := dk_162 0 13 (dk_at dksJ2_clear_1 6 rfl rfl)
theorem dJ2_clear_32 : decode cJ2_clear 32 = .ok (.aload_n 1, 1) := dk_43 (dk_at dksJ2_clear_1 9 rfl rfl)
theorem dJ2_clear_33 : decode cJ2_clear 33 = .ok (.iload_n 3, 1) := dk_29 (dk_at dksJ2_clear_1 10 rfl rfl)
theorem dJ2_clear_34 : decode cJ2_clear 34 = .ok (.aconst_null, 1) := dk_1 (dk_at dksJ2_clear_1 11 rfl rfl)
theorem dJ2_clear_35 : decode cJ2_clear 35 = .ok (.aastore, 1) := dk_83 (dk_at dksJ2_clear_1 12 rfl rfl)
theorem dJ2_clear_36 : decode cJ2_clear 36 = .ok (.iinc 3 1, 3) := dk_132 3 1 (dk_at dksJ2_clear_1 13 rfl rfl)
theorem dJ2_clear_39 : decode cJ2_clear 39 = .ok (.goto (-12), 3) := dk_167 255 244 (dk_at dksJ2_clear_1 16 rfl rfl)
theorem dJ2_clear_42 : decode cJ2_clear 42 = .ok (.return_, 1) := dk_177 (dk_at dksJ2_clear_1 19 rfl rfl)
abbrev cJ2_addAll : ByteArray := prog_34_method_41_code
def yJ2_addAll : MethodName := ⟨RJ2, "addAll", "(Ljava/util/Collection;)Z"⟩
def dkwJ2_addAll_3 : List UInt8 := [181, 0, 48, 4, 172]
abbrev dktJ2_addAll_3 : List UInt8 := dkwJ2_addAll_3 ++ []
def dkwJ2_addAll_2 : List UInt8 := [21, 5, 29, 96, 182, 0, 69, 58, 4, 44, 3, 25, 4, 21, 5, 29, 184, 0, 112, 42, 21, 5, 29, 96]
abbrev dktJ2_addAll_2 : List UInt8 := dkwJ2_addAll_2 ++ dktJ2_addAll_3
def dkwJ2_addAll_1 : List UInt8 := [3, 172, 29, 42, 180, 0, 9, 89, 58, 4, 190, 42, 180, 0, 48, 89, 54, 5, 100, 164, 0, 13, 42]
abbrev dktJ2_addAll_1 : List UInt8 := dkwJ2_addAll_1 ++ dktJ2_addAll_2
def dkwJ2_addAll_0 : List UInt8 := [43, 185, 0, 42, 1, 0, 77, 42, 89, 180, 0, 63, 4, 96, 181, 0, 63, 44, 190, 62, 29, 154, 0, 5]
abbrev dktJ2_addAll_0 : List UInt8 := dkwJ2_addAll_0 ++ dktJ2_addAll_1
theorem dksJ2_addAll_0 : cJ2_addAll.data.toList.drop 0 = dktJ2_addAll_0 := by decide +kernel
theorem dksJ2_addAll_1 : cJ2_addAll.data.toList.drop 24 = dktJ2_addAll_1 := dk_seg dksJ2_addAll_0 24 rfl rfl
theorem dksJ2_addAll_2 : cJ2_addAll.data.toList.drop 47 = dktJ2_addAll_2 := dk_seg dksJ2_addAll_1 23 rfl rfl
theorem dksJ2_addAll_3 : cJ2_addAll.data.toList.drop 71 = dktJ2_addAll_3 := dk_seg dksJ2_addAll_2 24 rfl rfl
theorem dJ2_addAll_0 : decode cJ2_addAll 0 = .ok (.aload_n 1, 1) := dk_43 (dk_at dksJ2_addAll_0 0 rfl rfl)
theorem dJ2_addAll_1 : decode cJ2_addAll 1 = .ok (.invokeinterface 42 1, 5) := by decide +kernel
theorem dJ2_addAll_6 : decode cJ2_addAll 6 = .ok (.astore_n 2, 1) := dk_77 (dk_at dksJ2_addAll_0 6 rfl rfl)
theorem dJ2_addAll_7 : decode cJ2_addAll 7 = .ok (.aload_n 0, 1) := dk_42 (dk_at dksJ2_addAll_0 7 rfl rfl)
theorem dJ2_addAll_8 : decode cJ2_addAll 8 = .ok (.dup, 1) := dk_89 (dk_at dksJ2_addAll_0 8 rfl rfl)
theorem dJ2_addAll_9 : decode cJ2_addAll 9 = .ok (.getfield 63, 3) := dk_180 0 63 (dk_at dksJ2_addAll_0 9 rfl rfl)
theorem dJ2_addAll_12 : decode cJ2_addAll 12 = .ok (.iconst 1, 1) := dk_4 (dk_at dksJ2_addAll_0 12 rfl rfl)
theorem dJ2_addAll_13 : decode cJ2_addAll 13 = .ok (.iadd, 1) := dk_96 (dk_at dksJ2_addAll_0 13 rfl rfl)
theorem dJ2_addAll_14 : decode cJ2_addAll 14 = .ok (.putfield 63, 3) := dk_181 0 63 (dk_at dksJ2_addAll_0 14 rfl rfl)
theorem dJ2_addAll_17 : decode cJ2_addAll 17 = .ok (.aload_n 2, 1) := dk_44 (dk_at dksJ2_addAll_0 17 rfl rfl)
theorem dJ2_addAll_18 : decode cJ2_addAll 18 = .ok (.arraylength, 1) := dk_190 (dk_at dksJ2_addAll_0 18 rfl rfl)
theorem dJ2_addAll_19 : decode cJ2_addAll 19 = .ok (.istore_n 3, 1) := dk_62 (dk_at dksJ2_addAll_0 19 rfl rfl)
theorem dJ2_addAll_20 : decode cJ2_addAll 20 = .ok (.iload_n 3, 1) := dk_29 (dk_at dksJ2_addAll_0 20 rfl rfl)
theorem dJ2_addAll_21 : decode cJ2_addAll 21 = .ok (.ifCond .ne 5, 3) := dk_154 0 5 (dk_at dksJ2_addAll_0 21 rfl rfl)
theorem dJ2_addAll_24 : decode cJ2_addAll 24 = .ok (.iconst 0, 1) := dk_3 (dk_at dksJ2_addAll_1 0 rfl rfl)
theorem dJ2_addAll_25 : decode cJ2_addAll 25 = .ok (.ireturn, 1) := dk_172 (dk_at dksJ2_addAll_1 1 rfl rfl)
theorem dJ2_addAll_26 : decode cJ2_addAll 26 = .ok (.iload_n 3, 1) := dk_29 (dk_at dksJ2_addAll_1 2 rfl rfl)
theorem dJ2_addAll_27 : decode cJ2_addAll 27 = .ok (.aload_n 0, 1) := dk_42 (dk_at dksJ2_addAll_1 3 rfl rfl)
theorem dJ2_addAll_28 : decode cJ2_addAll 28 = .ok (.getfield 9, 3) := dk_180 0 9 (dk_at dksJ2_addAll_1 4 rfl rfl)
theorem dJ2_addAll_31 : decode cJ2_addAll 31 = .ok (.dup, 1) := dk_89 (dk_at dksJ2_addAll_1 7 rfl rfl)
theorem dJ2_addAll_32 : decode cJ2_addAll 32 = .ok (.astore 4, 2) := dk_58 4 (dk_at dksJ2_addAll_1 8 rfl rfl)
theorem dJ2_addAll_34 : decode cJ2_addAll 34 = .ok (.arraylength, 1) := dk_190 (dk_at dksJ2_addAll_1 10 rfl rfl)
theorem dJ2_addAll_35 : decode cJ2_addAll 35 = .ok (.aload_n 0, 1) := dk_42 (dk_at dksJ2_addAll_1 11 rfl rfl)
theorem dJ2_addAll_36 : decode cJ2_addAll 36 = .ok (.getfield 48, 3) := dk_180 0 48 (dk_at dksJ2_addAll_1 12 rfl rfl)
theorem dJ2_addAll_39 : decode cJ2_addAll 39 = .ok (.dup, 1) := dk_89 (dk_at dksJ2_addAll_1 15 rfl rfl)
theorem dJ2_addAll_40 : decode cJ2_addAll 40 = .ok (.istore 5, 2) := dk_54 5 (dk_at dksJ2_addAll_1 16 rfl rfl)
theorem dJ2_addAll_42 : decode cJ2_addAll 42 = .ok (.isub, 1) := dk_100 (dk_at dksJ2_addAll_1 18 rfl rfl)
theorem dJ2_addAll_43 : decode cJ2_addAll 43 = .ok (.if_icmp .le 13, 3) := dk_164 0 13 (dk_at dksJ2_addAll_1 19 rfl rfl)
theorem dJ2_addAll_46 : decode cJ2_addAll 46 = .ok (.aload_n 0, 1) := dk_42 (dk_at dksJ2_addAll_1 22 rfl rfl)
theorem dJ2_addAll_47 : decode cJ2_addAll 47 = .ok (.iload 5, 2) := dk_21 5 (dk_at dksJ2_addAll_2 0 rfl rfl)
theorem dJ2_addAll_49 : decode cJ2_addAll 49 = .ok (.iload_n 3, 1) := dk_29 (dk_at dksJ2_addAll_2 2 rfl rfl)
theorem dJ2_addAll_50 : decode cJ2_addAll 50 = .ok (.iadd, 1) := dk_96 (dk_at dksJ2_addAll_2 3 rfl rfl)
theorem dJ2_addAll_51 : decode cJ2_addAll 51 = .ok (.invokevirtual 69, 3) := dk_182 0 69 (dk_at dksJ2_addAll_2 4 rfl rfl)
theorem dJ2_addAll_54 : decode cJ2_addAll 54 = .ok (.astore 4, 2) := dk_58 4 (dk_at dksJ2_addAll_2 7 rfl rfl)
theorem dJ2_addAll_56 : decode cJ2_addAll 56 = .ok (.aload_n 2, 1) := dk_44 (dk_at dksJ2_addAll_2 9 rfl rfl)
theorem dJ2_addAll_57 : decode cJ2_addAll 57 = .ok (.iconst 0, 1) := dk_3 (dk_at dksJ2_addAll_2 10 rfl rfl)
theorem dJ2_addAll_58 : decode cJ2_addAll 58 = .ok (.aload 4, 2) := dk_25 4 (dk_at dksJ2_addAll_2 11 rfl rfl)
theorem dJ2_addAll_60 : decode cJ2_addAll 60 = .ok (.iload 5, 2) := dk_21 5 (dk_at dksJ2_addAll_2 13 rfl rfl)
theorem dJ2_addAll_62 : decode cJ2_addAll 62 = .ok (.iload_n 3, 1) := dk_29 (dk_at dksJ2_addAll_2 15 rfl rfl)
theorem dJ2_addAll_63 : decode cJ2_addAll 63 = .ok (.invokestatic 112, 3) := dk_184 0 112 (dk_at dksJ2_addAll_2 16 rfl rfl)
theorem dJ2_addAll_66 : decode cJ2_addAll 66 = .ok (.aload_n 0, 1) := dk_42 (dk_at dksJ2_addAll_2 19 rfl rfl)
theorem dJ2_addAll_67 : decode cJ2_addAll 67 = .ok (.iload 5, 2) := dk_21 5 (dk_at dksJ2_addAll_2 20 rfl rfl)
theorem dJ2_addAll_69 : decode cJ2_addAll 69 = .ok (.iload_n 3, 1) := dk_29 (dk_at dksJ2_addAll_2 22 rfl rfl)
theorem dJ2_addAll_70 : decode cJ2_addAll 70 = .ok (.iadd, 1) := dk_96 (dk_at dksJ2_addAll_2 23 rfl rfl)
theorem dJ2_addAll_71 : decode cJ2_addAll 71 = .ok (.putfield 48, 3) := dk_181 0 48 (dk_at dksJ2_addAll_3 0 rfl rfl)
theorem dJ2_addAll_74 : decode cJ2_addAll 74 = .ok (.iconst 1, 1) := dk_4 (dk_at dksJ2_addAll_3 3 rfl rfl)
theorem dJ2_addAll_75 : decode cJ2_addAll 75 = .ok (.ireturn, 1) := dk_172 (dk_at dksJ2_addAll_3 4 rfl rfl)
abbrev cJ2_toArray : ByteArray := prog_34_method_16_code
def yJ2_toArray : MethodName := ⟨RJ2, "toArray", "()[Ljava/lang/Object;"⟩
def dkwJ2_toArray_0 : List UInt8 := [42, 180, 0, 9, 42, 180, 0, 48, 184, 0, 66, 176]
abbrev dktJ2_toArray_0 : List UInt8 := dkwJ2_toArray_0 ++ []
theorem dksJ2_toArray_0 : cJ2_toArray.data.toList.drop 0 = dktJ2_toArray_0 := by decide +kernel
theorem dJ2_toArray_0 : decode cJ2_toArray 0 = .ok (.aload_n 0, 1) := dk_42 (dk_at dksJ2_toArray_0 0 rfl rfl)
theorem dJ2_toArray_1 : decode cJ2_toArray 1 = .ok (.getfield 9, 3) := dk_180 0 9 (dk_at dksJ2_toArray_0 1 rfl rfl)
theorem dJ2_toArray_4 : decode cJ2_toArray 4 = .ok (.aload_n 0, 1) := dk_42 (dk_at dksJ2_toArray_0 4 rfl rfl)
theorem dJ2_toArray_5 : decode cJ2_toArray 5 = .ok (.getfield 48, 3) := dk_180 0 48 (dk_at dksJ2_toArray_0 5 rfl rfl)
theorem dJ2_toArray_8 : decode cJ2_toArray 8 = .ok (.invokestatic 66, 3) := dk_184 0 66 (dk_at dksJ2_toArray_0 8 rfl rfl)
theorem dJ2_toArray_11 : decode cJ2_toArray 11 = .ok (.areturn, 1) := dk_176 (dk_at dksJ2_toArray_0 11 rfl rfl)
theorem q57 : (Jvm.Cond.initialized "java/util/ArrayList") ∈ lw_all := lw_g (lw_at lw_m1 4 rfl) rfl
theorem q96 : (Jvm.Cond.instantiable "java/util/ArrayList" (3 : Nat)) ∈ lw_all := lw_g (lw_at lw_m1 43 rfl) rfl
theorem q98 : (Jvm.Cond.instanceMethod ({ cls := "java/util/ArrayList", name := "<init>", desc := "()V" } : Jvm.MethodName)) ∈ lw_all := lw_g (lw_at lw_m1 45 rfl) rfl
theorem q99 : (Jvm.Cond.code ({ cls := "java/util/ArrayList", name := "<init>", desc := "()V" } : Jvm.MethodName) prog_34_method_2_code (1 : Nat) (Option.none : Option Jvm.ClassFile.FieldType)) ∈ lw_all := lw_g (lw_at lw_m1 46 rfl) rfl
theorem q100 : (Jvm.Cond.methodLink "java/util/ArrayList" (1 : Nat) ({ cls := "java/util/AbstractList", name := "<init>", desc := "()V" } : Jvm.MethodName)) ∈ lw_all := lw_g (lw_at lw_m1 47 rfl) rfl
theorem q107 : (Jvm.Cond.fieldLink "java/util/ArrayList" (39 : Nat) "java/util/ArrayList" "DEFAULTCAPACITY_EMPTY_ELEMENTDATA" "[Ljava/lang/Object;") ∈ lw_all := lw_g (lw_at lw_m1 54 rfl) rfl
theorem q108 : (Jvm.Cond.laysStatic "java/util/ArrayList" "DEFAULTCAPACITY_EMPTY_ELEMENTDATA" "[Ljava/lang/Object;") ∈ lw_tbl := lw_at lw_m1 55 rfl
theorem q109 : (Jvm.Cond.fieldLink "java/util/ArrayList" (9 : Nat) "java/util/ArrayList" "elementData" "[Ljava/lang/Object;") ∈ lw_all := lw_g (lw_at lw_m1 56 rfl) rfl
theorem q110 : (Jvm.Cond.fieldLink "java/util/ArrayList" (48 : Nat) "java/util/ArrayList" "size" "I") ∈ lw_all := lw_g (lw_at lw_m1 57 rfl) rfl
theorem q112 : (Jvm.Cond.fieldLink "java/util/ArrayList" (63 : Nat) "java/util/ArrayList" "modCount" "I") ∈ lw_all := lw_g (lw_at lw_m1 59 rfl) rfl
theorem q113 : (Jvm.Cond.sameField "java/util/ArrayList" "java/util/AbstractList" "modCount" "I") ∈ lw_all := lw_g (lw_at lw_m1 60 rfl) rfl
theorem q114 : (Jvm.Cond.lays "java/util/ArrayList" "java/util/ArrayList" "elementData" "[Ljava/lang/Object;") ∈ lw_all := lw_g (lw_at lw_m1 61 rfl) rfl
theorem q115 : (Jvm.Cond.soleField "java/util/ArrayList" "elementData") ∈ lw_all := lw_g (lw_at lw_m1 62 rfl) rfl
theorem q116 : (Jvm.Cond.lays "java/util/ArrayList" "java/util/ArrayList" "size" "I") ∈ lw_all := lw_g (lw_at lw_m1 63 rfl) rfl
theorem q117 : (Jvm.Cond.soleField "java/util/ArrayList" "size") ∈ lw_all := lw_g (lw_at lw_m1 64 rfl) rfl
theorem q118 : (Jvm.Cond.lays "java/util/ArrayList" "java/util/AbstractList" "modCount" "I") ∈ lw_all := lw_g (lw_at lw_m1 65 rfl) rfl
theorem q120 : (Jvm.Cond.superclass "java/util/ArrayList" "java/util/AbstractList") ∈ lw_all := lw_g (lw_at lw_m1 67 rfl) rfl
theorem q171 : (Jvm.Cond.castable "java/util/ArrayList" "java/util/List") ∈ lw_tbl := lw_at lw_m1 118 rfl
theorem q172 : (Jvm.Cond.selects "java/util/ArrayList" ({ cls := "java/util/List", name := "size", desc := "()I" } : Jvm.MethodName) ({ cls := "java/util/ArrayList", name := "size", desc := "()I" } : Jvm.MethodName)) ∈ lw_all := lw_g (lw_at lw_m1 119 rfl) rfl
theorem q173 : (Jvm.Cond.unhidden "java/util/ArrayList" "size" "()I") ∈ lw_tbl := lw_at lw_m1 120 rfl
theorem q174 : (Jvm.Cond.instanceMethod ({ cls := "java/util/ArrayList", name := "size", desc := "()I" } : Jvm.MethodName)) ∈ lw_all := lw_g (lw_at lw_m1 121 rfl) rfl
theorem q175 : (Jvm.Cond.publicMethod ({ cls := "java/util/ArrayList", name := "size", desc := "()I" } : Jvm.MethodName)) ∈ lw_tbl := lw_at lw_m1 122 rfl
theorem q176 : (Jvm.Cond.code ({ cls := "java/util/ArrayList", name := "size", desc := "()I" } : Jvm.MethodName) prog_34_method_8_code (1 : Nat) (Option.some Jvm.ClassFile.FieldType.int)) ∈ lw_all := lw_g (lw_at lw_m1 123 rfl) rfl
theorem q184 : (Jvm.Cond.selects "java/util/ArrayList" ({ cls := "java/util/List", name := "get", desc := "(I)Ljava/lang/Object;" } : Jvm.MethodName) ({ cls := "java/util/ArrayList", name := "get", desc := "(I)Ljava/lang/Object;" } : Jvm.MethodName)) ∈ lw_all := lw_g (lw_at lw_m1 131 rfl) rfl
theorem q185 : (Jvm.Cond.unhidden "java/util/ArrayList" "get" "(I)Ljava/lang/Object;") ∈ lw_tbl := lw_at lw_m1 132 rfl
theorem q186 : (Jvm.Cond.instanceMethod ({ cls := "java/util/ArrayList", name := "get", desc := "(I)Ljava/lang/Object;" } : Jvm.MethodName)) ∈ lw_all := lw_g (lw_at lw_m1 133 rfl) rfl
theorem q187 : (Jvm.Cond.publicMethod ({ cls := "java/util/ArrayList", name := "get", desc := "(I)Ljava/lang/Object;" } : Jvm.MethodName)) ∈ lw_tbl := lw_at lw_m1 134 rfl
theorem q188 : (Jvm.Cond.code ({ cls := "java/util/ArrayList", name := "get", desc := "(I)Ljava/lang/Object;" } : Jvm.MethodName) prog_34_method_20_code (2 : Nat) (Option.some (Jvm.ClassFile.FieldType.object "java/lang/Object"))) ∈ lw_all := lw_g (lw_at lw_m1 135 rfl) rfl
theorem q189 : (Jvm.Cond.methodLink "java/util/ArrayList" (118 : Nat) ({ cls := "java/util/Objects", name := "checkIndex", desc := "(II)I" } : Jvm.MethodName)) ∈ lw_all := lw_g (lw_at lw_m1 136 rfl) rfl
theorem q195 : (Jvm.Cond.methodLink "java/util/ArrayList" (123 : Nat) ({ cls := "java/util/ArrayList", name := "elementData", desc := "(I)Ljava/lang/Object;" } : Jvm.MethodName)) ∈ lw_all := lw_g (lw_at lw_m1 142 rfl) rfl
theorem q196 : (Jvm.Cond.instanceMethod ({ cls := "java/util/ArrayList", name := "elementData", desc := "(I)Ljava/lang/Object;" } : Jvm.MethodName)) ∈ lw_all := lw_g (lw_at lw_m1 143 rfl) rfl
theorem q197 : (Jvm.Cond.selects "java/util/ArrayList" ({ cls := "java/util/ArrayList", name := "elementData", desc := "(I)Ljava/lang/Object;" } : Jvm.MethodName) ({ cls := "java/util/ArrayList", name := "elementData", desc := "(I)Ljava/lang/Object;" } : Jvm.MethodName)) ∈ lw_all := lw_g (lw_at lw_m1 144 rfl) rfl
theorem q198 : (Jvm.Cond.code ({ cls := "java/util/ArrayList", name := "elementData", desc := "(I)Ljava/lang/Object;" } : Jvm.MethodName) prog_34_method_18_code (2 : Nat) (Option.some (Jvm.ClassFile.FieldType.object "java/lang/Object"))) ∈ lw_all := lw_g (lw_at lw_m1 145 rfl) rfl
theorem q245 : (Jvm.Cond.selects "java/util/ArrayList" ({ cls := "java/util/List", name := "isEmpty", desc := "()Z" } : Jvm.MethodName) ({ cls := "java/util/ArrayList", name := "isEmpty", desc := "()Z" } : Jvm.MethodName)) ∈ lw_all := lw_g (lw_at lw_m1 192 rfl) rfl
theorem q246 : (Jvm.Cond.unhidden "java/util/ArrayList" "isEmpty" "()Z") ∈ lw_tbl := lw_at lw_m1 193 rfl
theorem q247 : (Jvm.Cond.instanceMethod ({ cls := "java/util/ArrayList", name := "isEmpty", desc := "()Z" } : Jvm.MethodName)) ∈ lw_all := lw_g (lw_at lw_m1 194 rfl) rfl
theorem q248 : (Jvm.Cond.publicMethod ({ cls := "java/util/ArrayList", name := "isEmpty", desc := "()Z" } : Jvm.MethodName)) ∈ lw_tbl := lw_at lw_m1 195 rfl
theorem q249 : (Jvm.Cond.code ({ cls := "java/util/ArrayList", name := "isEmpty", desc := "()Z" } : Jvm.MethodName) prog_34_method_9_code (1 : Nat) (Option.some Jvm.ClassFile.FieldType.boolean)) ∈ lw_all := lw_g (lw_at lw_m1 196 rfl) rfl
theorem q387 : (Jvm.Cond.selects "java/util/ArrayList" ({ cls := "java/util/List", name := "add", desc := "(Ljava/lang/Object;)Z" } : Jvm.MethodName) ({ cls := "java/util/ArrayList", name := "add", desc := "(Ljava/lang/Object;)Z" } : Jvm.MethodName)) ∈ lw_all := lw_g (lw_at lw_m2 94 rfl) rfl
theorem q388 : (Jvm.Cond.unhidden "java/util/ArrayList" "add" "(Ljava/lang/Object;)Z") ∈ lw_tbl := lw_at lw_m2 95 rfl
theorem q389 : (Jvm.Cond.instanceMethod ({ cls := "java/util/ArrayList", name := "add", desc := "(Ljava/lang/Object;)Z" } : Jvm.MethodName)) ∈ lw_all := lw_g (lw_at lw_m2 96 rfl) rfl
theorem q390 : (Jvm.Cond.publicMethod ({ cls := "java/util/ArrayList", name := "add", desc := "(Ljava/lang/Object;)Z" } : Jvm.MethodName)) ∈ lw_tbl := lw_at lw_m2 97 rfl
theorem q391 : (Jvm.Cond.code ({ cls := "java/util/ArrayList", name := "add", desc := "(Ljava/lang/Object;)Z" } : Jvm.MethodName) prog_34_method_25_code (2 : Nat) (Option.some Jvm.ClassFile.FieldType.boolean)) ∈ lw_all := lw_g (lw_at lw_m2 98 rfl) rfl
theorem q392 : (Jvm.Cond.methodLink "java/util/ArrayList" (131 : Nat) ({ cls := "java/util/ArrayList", name := "add", desc := "(Ljava/lang/Object;[Ljava/lang/Object;I)V" } : Jvm.MethodName)) ∈ lw_all := lw_g (lw_at lw_m2 99 rfl) rfl
theorem q393 : (Jvm.Cond.privateMethod ({ cls := "java/util/ArrayList", name := "add", desc := "(Ljava/lang/Object;[Ljava/lang/Object;I)V" } : Jvm.MethodName)) ∈ lw_tbl := lw_at lw_m2 100 rfl
theorem q394 : (Jvm.Cond.instanceMethod ({ cls := "java/util/ArrayList", name := "add", desc := "(Ljava/lang/Object;[Ljava/lang/Object;I)V" } : Jvm.MethodName)) ∈ lw_all := lw_g (lw_at lw_m2 101 rfl) rfl
theorem q395 : (Jvm.Cond.code ({ cls := "java/util/ArrayList", name := "add", desc := "(Ljava/lang/Object;[Ljava/lang/Object;I)V" } : Jvm.MethodName) prog_34_method_24_code (4 : Nat) (Option.none : Option Jvm.ClassFile.FieldType)) ∈ lw_all := lw_g (lw_at lw_m2 102 rfl) rfl
theorem q396 : (Jvm.Cond.methodLink "java/util/ArrayList" (129 : Nat) ({ cls := "java/util/ArrayList", name := "grow", desc := "()[Ljava/lang/Object;" } : Jvm.MethodName)) ∈ lw_all := lw_g (lw_at lw_m2 103 rfl) rfl
theorem q397 : (Jvm.Cond.privateMethod ({ cls := "java/util/ArrayList", name := "grow", desc := "()[Ljava/lang/Object;" } : Jvm.MethodName)) ∈ lw_tbl := lw_at lw_m2 104 rfl
theorem q398 : (Jvm.Cond.instanceMethod ({ cls := "java/util/ArrayList", name := "grow", desc := "()[Ljava/lang/Object;" } : Jvm.MethodName)) ∈ lw_all := lw_g (lw_at lw_m2 105 rfl) rfl
theorem q399 : (Jvm.Cond.code ({ cls := "java/util/ArrayList", name := "grow", desc := "()[Ljava/lang/Object;" } : Jvm.MethodName) prog_34_method_7_code (1 : Nat) (Option.some (Jvm.ClassFile.FieldType.array (Jvm.ClassFile.FieldType.object "java/lang/Object")))) ∈ lw_all := lw_g (lw_at lw_m2 106 rfl) rfl
theorem q400 : (Jvm.Cond.methodLink "java/util/ArrayList" (69 : Nat) ({ cls := "java/util/ArrayList", name := "grow", desc := "(I)[Ljava/lang/Object;" } : Jvm.MethodName)) ∈ lw_all := lw_g (lw_at lw_m2 107 rfl) rfl
theorem q401 : (Jvm.Cond.privateMethod ({ cls := "java/util/ArrayList", name := "grow", desc := "(I)[Ljava/lang/Object;" } : Jvm.MethodName)) ∈ lw_tbl := lw_at lw_m2 108 rfl
theorem q402 : (Jvm.Cond.instanceMethod ({ cls := "java/util/ArrayList", name := "grow", desc := "(I)[Ljava/lang/Object;" } : Jvm.MethodName)) ∈ lw_all := lw_g (lw_at lw_m2 109 rfl) rfl
theorem q403 : (Jvm.Cond.code ({ cls := "java/util/ArrayList", name := "grow", desc := "(I)[Ljava/lang/Object;" } : Jvm.MethodName) prog_34_method_6_code (4 : Nat) (Option.some (Jvm.ClassFile.FieldType.array (Jvm.ClassFile.FieldType.object "java/lang/Object")))) ∈ lw_all := lw_g (lw_at lw_m2 110 rfl) rfl
theorem q404 : (Jvm.Cond.methodLink "java/util/ArrayList" (73 : Nat) ({ cls := "jdk/internal/util/ArraysSupport", name := "newLength", desc := "(III)I" } : Jvm.MethodName)) ∈ lw_all := lw_g (lw_at lw_m2 111 rfl) rfl
theorem q412 : (Jvm.Cond.methodLink "java/util/ArrayList" (66 : Nat) ({ cls := "java/util/Arrays", name := "copyOf", desc := "([Ljava/lang/Object;I)[Ljava/lang/Object;" } : Jvm.MethodName)) ∈ lw_all := lw_g (lw_at lw_m2 119 rfl) rfl
theorem q435 : (Jvm.Cond.selects "java/util/ArrayList" ({ cls := "java/lang/Object", name := "getClass", desc := "()Ljava/lang/Class;" } : Jvm.MethodName) ({ cls := "java/lang/Object", name := "getClass", desc := "()Ljava/lang/Class;" } : Jvm.MethodName)) ∈ lw_all := lw_g (lw_at lw_m2 142 rfl) rfl
theorem q447 : (Jvm.Cond.methodLink "java/util/ArrayList" (79 : Nat) ({ cls := "java/lang/Math", name := "max", desc := "(II)I" } : Jvm.MethodName)) ∈ lw_all := lw_g (lw_at lw_m2 154 rfl) rfl
theorem q448 : (Jvm.Cond.classLink "java/util/ArrayList" (7 : Nat) "java/lang/Object") ∈ lw_all := lw_g (lw_at lw_m2 155 rfl) rfl
theorem q457 : (Jvm.Cond.selects "java/util/ArrayList" ({ cls := "java/util/List", name := "remove", desc := "(I)Ljava/lang/Object;" } : Jvm.MethodName) ({ cls := "java/util/ArrayList", name := "remove", desc := "(I)Ljava/lang/Object;" } : Jvm.MethodName)) ∈ lw_all := lw_g (lw_at lw_m2 164 rfl) rfl
theorem q458 : (Jvm.Cond.unhidden "java/util/ArrayList" "remove" "(I)Ljava/lang/Object;") ∈ lw_tbl := lw_at lw_m2 165 rfl
theorem q459 : (Jvm.Cond.instanceMethod ({ cls := "java/util/ArrayList", name := "remove", desc := "(I)Ljava/lang/Object;" } : Jvm.MethodName)) ∈ lw_all := lw_g (lw_at lw_m2 166 rfl) rfl
theorem q460 : (Jvm.Cond.publicMethod ({ cls := "java/util/ArrayList", name := "remove", desc := "(I)Ljava/lang/Object;" } : Jvm.MethodName)) ∈ lw_tbl := lw_at lw_m2 167 rfl
theorem q461 : (Jvm.Cond.code ({ cls := "java/util/ArrayList", name := "remove", desc := "(I)Ljava/lang/Object;" } : Jvm.MethodName) prog_34_method_29_code (4 : Nat) (Option.some (Jvm.ClassFile.FieldType.object "java/lang/Object"))) ∈ lw_all := lw_g (lw_at lw_m2 168 rfl) rfl
theorem q462 : (Jvm.Cond.methodLink "java/util/ArrayList" (144 : Nat) ({ cls := "java/util/ArrayList", name := "fastRemove", desc := "([Ljava/lang/Object;I)V" } : Jvm.MethodName)) ∈ lw_all := lw_g (lw_at lw_m2 169 rfl) rfl
theorem q463 : (Jvm.Cond.privateMethod ({ cls := "java/util/ArrayList", name := "fastRemove", desc := "([Ljava/lang/Object;I)V" } : Jvm.MethodName)) ∈ lw_tbl := lw_at lw_m2 170 rfl
theorem q464 : (Jvm.Cond.instanceMethod ({ cls := "java/util/ArrayList", name := "fastRemove", desc := "([Ljava/lang/Object;I)V" } : Jvm.MethodName)) ∈ lw_all := lw_g (lw_at lw_m2 171 rfl) rfl
theorem q465 : (Jvm.Cond.code ({ cls := "java/util/ArrayList", name := "fastRemove", desc := "([Ljava/lang/Object;I)V" } : Jvm.MethodName) prog_34_method_39_code (4 : Nat) (Option.none : Option Jvm.ClassFile.FieldType)) ∈ lw_all := lw_g (lw_at lw_m2 172 rfl) rfl
theorem q466 : (Jvm.Cond.methodLink "java/util/ArrayList" (112 : Nat) ({ cls := "java/lang/System", name := "arraycopy", desc := "(Ljava/lang/Object;ILjava/lang/Object;II)V" } : Jvm.MethodName)) ∈ lw_all := lw_g (lw_at lw_m2 173 rfl) rfl
theorem q534 : (Jvm.Cond.selects "java/util/ArrayList" ({ cls := "java/util/List", name := "set", desc := "(ILjava/lang/Object;)Ljava/lang/Object;" } : Jvm.MethodName) ({ cls := "java/util/ArrayList", name := "set", desc := "(ILjava/lang/Object;)Ljava/lang/Object;" } : Jvm.MethodName)) ∈ lw_all := lw_g (lw_at lw_m3 1 rfl) rfl
theorem q535 : (Jvm.Cond.unhidden "java/util/ArrayList" "set" "(ILjava/lang/Object;)Ljava/lang/Object;") ∈ lw_tbl := lw_at lw_m3 2 rfl
theorem q536 : (Jvm.Cond.instanceMethod ({ cls := "java/util/ArrayList", name := "set", desc := "(ILjava/lang/Object;)Ljava/lang/Object;" } : Jvm.MethodName)) ∈ lw_all := lw_g (lw_at lw_m3 3 rfl) rfl
theorem q537 : (Jvm.Cond.publicMethod ({ cls := "java/util/ArrayList", name := "set", desc := "(ILjava/lang/Object;)Ljava/lang/Object;" } : Jvm.MethodName)) ∈ lw_tbl := lw_at lw_m3 4 rfl
theorem q538 : (Jvm.Cond.code ({ cls := "java/util/ArrayList", name := "set", desc := "(ILjava/lang/Object;)Ljava/lang/Object;" } : Jvm.MethodName) prog_34_method_23_code (4 : Nat) (Option.some (Jvm.ClassFile.FieldType.object "java/lang/Object"))) ∈ lw_all := lw_g (lw_at lw_m3 5 rfl) rfl
theorem q889 : (Jvm.Cond.instanceMethod ({ cls := "java/util/ArrayList", name := "<init>", desc := "(I)V" } : Jvm.MethodName)) ∈ lw_all := lw_g (lw_at lw_m4 116 rfl) rfl
theorem q890 : (Jvm.Cond.code ({ cls := "java/util/ArrayList", name := "<init>", desc := "(I)V" } : Jvm.MethodName) prog_34_method_1_code (2 : Nat) (Option.none : Option Jvm.ClassFile.FieldType)) ∈ lw_all := lw_g (lw_at lw_m4 117 rfl) rfl
theorem q891 : (Jvm.Cond.fieldLink "java/util/ArrayList" (15 : Nat) "java/util/ArrayList" "EMPTY_ELEMENTDATA" "[Ljava/lang/Object;") ∈ lw_all := lw_g (lw_at lw_m4 118 rfl) rfl
theorem q892 : (Jvm.Cond.laysStatic "java/util/ArrayList" "EMPTY_ELEMENTDATA" "[Ljava/lang/Object;") ∈ lw_tbl := lw_at lw_m4 119 rfl
theorem q897 : (Jvm.Cond.selects "java/util/ArrayList" ({ cls := "java/util/List", name := "clear", desc := "()V" } : Jvm.MethodName) ({ cls := "java/util/ArrayList", name := "clear", desc := "()V" } : Jvm.MethodName)) ∈ lw_all := lw_g (lw_at lw_m4 124 rfl) rfl
theorem q898 : (Jvm.Cond.unhidden "java/util/ArrayList" "clear" "()V") ∈ lw_tbl := lw_at lw_m4 125 rfl
theorem q899 : (Jvm.Cond.instanceMethod ({ cls := "java/util/ArrayList", name := "clear", desc := "()V" } : Jvm.MethodName)) ∈ lw_all := lw_g (lw_at lw_m4 126 rfl) rfl
theorem q900 : (Jvm.Cond.publicMethod ({ cls := "java/util/ArrayList", name := "clear", desc := "()V" } : Jvm.MethodName)) ∈ lw_tbl := lw_at lw_m4 127 rfl
theorem q901 : (Jvm.Cond.code ({ cls := "java/util/ArrayList", name := "clear", desc := "()V" } : Jvm.MethodName) prog_34_method_40_code (4 : Nat) (Option.none : Option Jvm.ClassFile.FieldType)) ∈ lw_all := lw_g (lw_at lw_m4 128 rfl) rfl
theorem q906 : (Jvm.Cond.selects "java/util/ArrayList" ({ cls := "java/util/List", name := "addAll", desc := "(Ljava/util/Collection;)Z" } : Jvm.MethodName) ({ cls := "java/util/ArrayList", name := "addAll", desc := "(Ljava/util/Collection;)Z" } : Jvm.MethodName)) ∈ lw_all := lw_g (lw_at lw_m4 133 rfl) rfl
theorem q907 : (Jvm.Cond.unhidden "java/util/ArrayList" "addAll" "(Ljava/util/Collection;)Z") ∈ lw_tbl := lw_at lw_m4 134 rfl
theorem q908 : (Jvm.Cond.instanceMethod ({ cls := "java/util/ArrayList", name := "addAll", desc := "(Ljava/util/Collection;)Z" } : Jvm.MethodName)) ∈ lw_all := lw_g (lw_at lw_m4 135 rfl) rfl
theorem q909 : (Jvm.Cond.publicMethod ({ cls := "java/util/ArrayList", name := "addAll", desc := "(Ljava/util/Collection;)Z" } : Jvm.MethodName)) ∈ lw_tbl := lw_at lw_m4 136 rfl
theorem q910 : (Jvm.Cond.code ({ cls := "java/util/ArrayList", name := "addAll", desc := "(Ljava/util/Collection;)Z" } : Jvm.MethodName) prog_34_method_41_code (6 : Nat) (Option.some Jvm.ClassFile.FieldType.boolean)) ∈ lw_all := lw_g (lw_at lw_m4 137 rfl) rfl
theorem q911 : (Jvm.Cond.interfaceEntry "java/util/ArrayList" (42 : Nat)) ∈ lw_tbl := lw_at lw_m4 138 rfl
theorem q912 : (Jvm.Cond.methodLink "java/util/ArrayList" (42 : Nat) ({ cls := "java/util/Collection", name := "toArray", desc := "()[Ljava/lang/Object;" } : Jvm.MethodName)) ∈ lw_all := lw_g (lw_at lw_m4 139 rfl) rfl
theorem q915 : (Jvm.Cond.castable "java/util/ArrayList" "java/util/Collection") ∈ lw_tbl := lw_at lw_m4 142 rfl
theorem q916 : (Jvm.Cond.selects "java/util/ArrayList" ({ cls := "java/util/Collection", name := "toArray", desc := "()[Ljava/lang/Object;" } : Jvm.MethodName) ({ cls := "java/util/ArrayList", name := "toArray", desc := "()[Ljava/lang/Object;" } : Jvm.MethodName)) ∈ lw_all := lw_g (lw_at lw_m4 143 rfl) rfl
theorem q917 : (Jvm.Cond.unhidden "java/util/ArrayList" "toArray" "()[Ljava/lang/Object;") ∈ lw_tbl := lw_at lw_m4 144 rfl
theorem q918 : (Jvm.Cond.instanceMethod ({ cls := "java/util/ArrayList", name := "toArray", desc := "()[Ljava/lang/Object;" } : Jvm.MethodName)) ∈ lw_all := lw_g (lw_at lw_m4 145 rfl) rfl
theorem q919 : (Jvm.Cond.publicMethod ({ cls := "java/util/ArrayList", name := "toArray", desc := "()[Ljava/lang/Object;" } : Jvm.MethodName)) ∈ lw_tbl := lw_at lw_m4 146 rfl
theorem q920 : (Jvm.Cond.code ({ cls := "java/util/ArrayList", name := "toArray", desc := "()[Ljava/lang/Object;" } : Jvm.MethodName) prog_34_method_16_code (1 : Nat) (Option.some (Jvm.ClassFile.FieldType.array (Jvm.ClassFile.FieldType.object "java/lang/Object")))) ∈ lw_all := lw_g (lw_at lw_m4 147 rfl) rfl
theorem q1440 : (Jvm.Cond.castable "java/util/ArrayList" "java/lang/Object") ∈ lw_tbl := lw_at lw_m6 187 rfl
theorem in_J2 : ∀ w ∈ wsJ20, w ∈ lw_all := lw_in wsJ20 [118, 114, 116] (by decide +kernel) (by decide +kernel)
/-! java/lang/Math -/
set_option maxRecDepth 100000
def RJ13 : String := "java/lang/Math"
abbrev cJ13_max : ByteArray := prog_25_method_65_code
def yJ13_max : MethodName := ⟨RJ13, "max", "(II)I"⟩
def dkwJ13_max_0 : List UInt8 := [26, 27, 161, 0, 7, 26, 167, 0, 4, 27, 172]
abbrev dktJ13_max_0 : List UInt8 := dkwJ13_max_0 ++ []
theorem dksJ13_max_0 : cJ13_max.data.toList.drop 0 = dktJ13_max_0 := by decide +kernel
theorem dJ13_max_0 : decode cJ13_max 0 = .ok (.iload_n 0, 1) := dk_26 (dk_at dksJ13_max_0 0 rfl rfl)
theorem dJ13_max_1 : decode cJ13_max 1 = .ok (.iload_n 1, 1) := dk_27 (dk_at dksJ13_max_0 1 rfl rfl)
theorem dJ13_max_2 : decode cJ13_max 2 = .ok (.if_icmp .lt 7, 3) := dk_161 0 7 (dk_at dksJ13_max_0 2 rfl rfl)
theorem dJ13_max_5 : decode cJ13_max 5 = .ok (.iload_n 0, 1) := dk_26 (dk_at dksJ13_max_0 5 rfl rfl)
theorem dJ13_max_6 : decode cJ13_max 6 = .ok (.goto 4, 3) := dk_167 0 4 (dk_at dksJ13_max_0 6 rfl rfl)
theorem dJ13_max_9 : decode cJ13_max 9 = .ok (.iload_n 1, 1) := dk_27 (dk_at dksJ13_max_0 9 rfl rfl)
theorem dJ13_max_10 : decode cJ13_max 10 = .ok (.ireturn, 1) := dk_172 (dk_at dksJ13_max_0 10 rfl rfl)
abbrev cJ13_min : ByteArray := prog_25_method_69_code
def yJ13_min : MethodName := ⟨RJ13, "min", "(II)I"⟩
def dkwJ13_min_0 : List UInt8 := [26, 27, 163, 0, 7, 26, 167, 0, 4, 27, 172]
abbrev dktJ13_min_0 : List UInt8 := dkwJ13_min_0 ++ []
theorem dksJ13_min_0 : cJ13_min.data.toList.drop 0 = dktJ13_min_0 := by decide +kernel
theorem dJ13_min_0 : decode cJ13_min 0 = .ok (.iload_n 0, 1) := dk_26 (dk_at dksJ13_min_0 0 rfl rfl)
theorem dJ13_min_1 : decode cJ13_min 1 = .ok (.iload_n 1, 1) := dk_27 (dk_at dksJ13_min_0 1 rfl rfl)
theorem dJ13_min_2 : decode cJ13_min 2 = .ok (.if_icmp .gt 7, 3) := dk_163 0 7 (dk_at dksJ13_min_0 2 rfl rfl)
theorem dJ13_min_5 : decode cJ13_min 5 = .ok (.iload_n 0, 1) := dk_26 (dk_at dksJ13_min_0 5 rfl rfl)
theorem dJ13_min_6 : decode cJ13_min 6 = .ok (.goto 4, 3) := dk_167 0 4 (dk_at dksJ13_min_0 6 rfl rfl)
theorem dJ13_min_9 : decode cJ13_min 9 = .ok (.iload_n 1, 1) := dk_27 (dk_at dksJ13_min_0 9 rfl rfl)
theorem dJ13_min_10 : decode cJ13_min 10 = .ok (.ireturn, 1) := dk_172 (dk_at dksJ13_min_0 10 rfl rfl)
theorem q73 : (Jvm.Cond.initialized "java/lang/Math") ∈ lw_all := lw_g (lw_at lw_m1 20 rfl) rfl
theorem q289 : (Jvm.Cond.static ({ cls := "java/lang/Math", name := "max", desc := "(II)I" } : Jvm.MethodName)) ∈ lw_all := lw_g (lw_at lw_m1 236 rfl) rfl
theorem q290 : (Jvm.Cond.code ({ cls := "java/lang/Math", name := "max", desc := "(II)I" } : Jvm.MethodName) prog_25_method_65_code (2 : Nat) (Option.some Jvm.ClassFile.FieldType.int)) ∈ lw_all := lw_g (lw_at lw_m1 237 rfl) rfl
theorem q444 : (Jvm.Cond.static ({ cls := "java/lang/Math", name := "min", desc := "(II)I" } : Jvm.MethodName)) ∈ lw_all := lw_g (lw_at lw_m2 151 rfl) rfl
theorem q445 : (Jvm.Cond.code ({ cls := "java/lang/Math", name := "min", desc := "(II)I" } : Jvm.MethodName) prog_25_method_69_code (2 : Nat) (Option.some Jvm.ClassFile.FieldType.int)) ∈ lw_all := lw_g (lw_at lw_m2 152 rfl) rfl
/-! java/util/Objects -/
set_option maxRecDepth 100000
def RJ14 : String := "java/util/Objects"
abbrev cJ14_checkIndex : ByteArray := prog_38_method_17_code
def yJ14_checkIndex : MethodName := ⟨RJ14, "checkIndex", "(II)I"⟩
def dkwJ14_checkIndex_0 : List UInt8 := [26, 27, 1, 184, 0, 105, 172]
abbrev dktJ14_checkIndex_0 : List UInt8 := dkwJ14_checkIndex_0 ++ []
theorem dksJ14_checkIndex_0 : cJ14_checkIndex.data.toList.drop 0 = dktJ14_checkIndex_0 := by decide +kernel
theorem dJ14_checkIndex_0 : decode cJ14_checkIndex 0 = .ok (.iload_n 0, 1) := dk_26 (dk_at dksJ14_checkIndex_0 0 rfl rfl)
theorem dJ14_checkIndex_1 : decode cJ14_checkIndex 1 = .ok (.iload_n 1, 1) := dk_27 (dk_at dksJ14_checkIndex_0 1 rfl rfl)
theorem dJ14_checkIndex_2 : decode cJ14_checkIndex 2 = .ok (.aconst_null, 1) := dk_1 (dk_at dksJ14_checkIndex_0 2 rfl rfl)
theorem dJ14_checkIndex_3 : decode cJ14_checkIndex 3 = .ok (.invokestatic 105, 3) := dk_184 0 105 (dk_at dksJ14_checkIndex_0 3 rfl rfl)
theorem dJ14_checkIndex_6 : decode cJ14_checkIndex 6 = .ok (.ireturn, 1) := dk_172 (dk_at dksJ14_checkIndex_0 6 rfl rfl)
theorem q74 : (Jvm.Cond.initialized "java/util/Objects") ∈ lw_all := lw_g (lw_at lw_m1 21 rfl) rfl
theorem q190 : (Jvm.Cond.static ({ cls := "java/util/Objects", name := "checkIndex", desc := "(II)I" } : Jvm.MethodName)) ∈ lw_all := lw_g (lw_at lw_m1 137 rfl) rfl
theorem q191 : (Jvm.Cond.code ({ cls := "java/util/Objects", name := "checkIndex", desc := "(II)I" } : Jvm.MethodName) prog_38_method_17_code (2 : Nat) (Option.some Jvm.ClassFile.FieldType.int)) ∈ lw_all := lw_g (lw_at lw_m1 138 rfl) rfl
theorem q192 : (Jvm.Cond.methodLink "java/util/Objects" (105 : Nat) ({ cls := "jdk/internal/util/Preconditions", name := "checkIndex", desc := "(IILjava/util/function/BiFunction;)I" } : Jvm.MethodName)) ∈ lw_all := lw_g (lw_at lw_m1 139 rfl) rfl
/-! jdk/internal/util/Preconditions -/
set_option maxRecDepth 100000
def RJ15 : String := "jdk/internal/util/Preconditions"
abbrev cJ15_checkIndex : ByteArray := prog_42_method_11_code
def yJ15_checkIndex : MethodName := ⟨RJ15, "checkIndex", "(IILjava/util/function/BiFunction;)I"⟩
def dkwJ15_checkIndex_0 : List UInt8 := [26, 155, 0, 8, 26, 27, 161, 0, 10, 44, 26, 27, 184, 0, 95, 191, 26, 172]
abbrev dktJ15_checkIndex_0 : List UInt8 := dkwJ15_checkIndex_0 ++ []
theorem dksJ15_checkIndex_0 : cJ15_checkIndex.data.toList.drop 0 = dktJ15_checkIndex_0 := by decide +kernel
theorem dJ15_checkIndex_0 : decode cJ15_checkIndex 0 = .ok (.iload_n 0, 1) := dk_26 (dk_at dksJ15_checkIndex_0 0 rfl rfl)
theorem dJ15_checkIndex_1 : decode cJ15_checkIndex 1 = .ok (.ifCond .lt 8, 3) := dk_155 0 8 (dk_at dksJ15_checkIndex_0 1 rfl rfl)
theorem dJ15_checkIndex_4 : decode cJ15_checkIndex 4 = .ok (.iload_n 0, 1) := dk_26 (dk_at dksJ15_checkIndex_0 4 rfl rfl)
theorem dJ15_checkIndex_5 : decode cJ15_checkIndex 5 = .ok (.iload_n 1, 1) := dk_27 (dk_at dksJ15_checkIndex_0 5 rfl rfl)
theorem dJ15_checkIndex_6 : decode cJ15_checkIndex 6 = .ok (.if_icmp .lt 10, 3) := dk_161 0 10 (dk_at dksJ15_checkIndex_0 6 rfl rfl)
theorem dJ15_checkIndex_9 : decode cJ15_checkIndex 9 = .ok (.aload_n 2, 1) := dk_44 (dk_at dksJ15_checkIndex_0 9 rfl rfl)
theorem dJ15_checkIndex_10 : decode cJ15_checkIndex 10 = .ok (.iload_n 0, 1) := dk_26 (dk_at dksJ15_checkIndex_0 10 rfl rfl)
theorem dJ15_checkIndex_11 : decode cJ15_checkIndex 11 = .ok (.iload_n 1, 1) := dk_27 (dk_at dksJ15_checkIndex_0 11 rfl rfl)
theorem dJ15_checkIndex_12 : decode cJ15_checkIndex 12 = .ok (.invokestatic 95, 3) := dk_184 0 95 (dk_at dksJ15_checkIndex_0 12 rfl rfl)
theorem dJ15_checkIndex_15 : decode cJ15_checkIndex 15 = .ok (.athrow, 1) := dk_191 (dk_at dksJ15_checkIndex_0 15 rfl rfl)
theorem dJ15_checkIndex_16 : decode cJ15_checkIndex 16 = .ok (.iload_n 0, 1) := dk_26 (dk_at dksJ15_checkIndex_0 16 rfl rfl)
theorem dJ15_checkIndex_17 : decode cJ15_checkIndex 17 = .ok (.ireturn, 1) := dk_172 (dk_at dksJ15_checkIndex_0 17 rfl rfl)
theorem q75 : (Jvm.Cond.initialized "jdk/internal/util/Preconditions") ∈ lw_all := lw_g (lw_at lw_m1 22 rfl) rfl
theorem q193 : (Jvm.Cond.static ({ cls := "jdk/internal/util/Preconditions", name := "checkIndex", desc := "(IILjava/util/function/BiFunction;)I" } : Jvm.MethodName)) ∈ lw_all := lw_g (lw_at lw_m1 140 rfl) rfl
theorem q194 : (Jvm.Cond.code ({ cls := "jdk/internal/util/Preconditions", name := "checkIndex", desc := "(IILjava/util/function/BiFunction;)I" } : Jvm.MethodName) prog_42_method_11_code (3 : Nat) (Option.some Jvm.ClassFile.FieldType.int)) ∈ lw_all := lw_g (lw_at lw_m1 141 rfl) rfl
/-! java/lang/Integer -/
set_option maxRecDepth 100000
def RJ16 : String := "java/lang/Integer"
abbrev cJ16_bitCount : ByteArray := prog_23_method_49_code
def yJ16_bitCount : MethodName := ⟨RJ16, "bitCount", "(I)I"⟩
def dkwJ16_bitCount_2 : List UInt8 := [26, 16, 63, 126, 172]
abbrev dktJ16_bitCount_2 : List UInt8 := dkwJ16_bitCount_2 ++ []
def dkwJ16_bitCount_1 : List UInt8 := [26, 26, 7, 124, 96, 19, 1, 11, 126, 59, 26, 26, 16, 8, 124, 96, 59, 26, 26, 16, 16, 124, 96, 59]
abbrev dktJ16_bitCount_1 : List UInt8 := dkwJ16_bitCount_1 ++ dktJ16_bitCount_2
def dkwJ16_bitCount_0 : List UInt8 := [26, 26, 4, 124, 19, 1, 9, 126, 100, 59, 26, 19, 1, 10, 126, 26, 5, 124, 19, 1, 10, 126, 96, 59]
abbrev dktJ16_bitCount_0 : List UInt8 := dkwJ16_bitCount_0 ++ dktJ16_bitCount_1
theorem dksJ16_bitCount_0 : cJ16_bitCount.data.toList.drop 0 = dktJ16_bitCount_0 := by decide +kernel
theorem dksJ16_bitCount_1 : cJ16_bitCount.data.toList.drop 24 = dktJ16_bitCount_1 := dk_seg dksJ16_bitCount_0 24 rfl rfl
theorem dksJ16_bitCount_2 : cJ16_bitCount.data.toList.drop 48 = dktJ16_bitCount_2 := dk_seg dksJ16_bitCount_1 24 rfl rfl
theorem dJ16_bitCount_0 : decode cJ16_bitCount 0 = .ok (.iload_n 0, 1) := dk_26 (dk_at dksJ16_bitCount_0 0 rfl rfl)
theorem dJ16_bitCount_1 : decode cJ16_bitCount 1 = .ok (.iload_n 0, 1) := dk_26 (dk_at dksJ16_bitCount_0 1 rfl rfl)
theorem dJ16_bitCount_2 : decode cJ16_bitCount 2 = .ok (.iconst 1, 1) := dk_4 (dk_at dksJ16_bitCount_0 2 rfl rfl)
theorem dJ16_bitCount_3 : decode cJ16_bitCount 3 = .ok (.iushr, 1) := dk_124 (dk_at dksJ16_bitCount_0 3 rfl rfl)
theorem dJ16_bitCount_4 : decode cJ16_bitCount 4 = .ok (.ldc_w 265, 3) := dk_19 1 9 (dk_at dksJ16_bitCount_0 4 rfl rfl)
theorem dJ16_bitCount_7 : decode cJ16_bitCount 7 = .ok (.iand, 1) := dk_126 (dk_at dksJ16_bitCount_0 7 rfl rfl)
theorem dJ16_bitCount_8 : decode cJ16_bitCount 8 = .ok (.isub, 1) := dk_100 (dk_at dksJ16_bitCount_0 8 rfl rfl)
theorem dJ16_bitCount_9 : decode cJ16_bitCount 9 = .ok (.istore_n 0, 1) := dk_59 (dk_at dksJ16_bitCount_0 9 rfl rfl)
theorem dJ16_bitCount_10 : decode cJ16_bitCount 10 = .ok (.iload_n 0, 1) := dk_26 (dk_at dksJ16_bitCount_0 10 rfl rfl)
theorem dJ16_bitCount_11 : decode cJ16_bitCount 11 = .ok (.ldc_w 266, 3) := dk_19 1 10 (dk_at dksJ16_bitCount_0 11 rfl rfl)
theorem dJ16_bitCount_14 : decode cJ16_bitCount 14 = .ok (.iand, 1) := dk_126 (dk_at dksJ16_bitCount_0 14 rfl rfl)
theorem dJ16_bitCount_15 : decode cJ16_bitCount 15 = .ok (.iload_n 0, 1) := dk_26 (dk_at dksJ16_bitCount_0 15 rfl rfl)
theorem dJ16_bitCount_16 : decode cJ16_bitCount 16 = .ok (.iconst 2, 1) := dk_5 (dk_at dksJ16_bitCount_0 16 rfl rfl)
theorem dJ16_bitCount_17 : decode cJ16_bitCount 17 = .ok (.iushr, 1) := dk_124 (dk_at dksJ16_bitCount_0 17 rfl rfl)
theorem dJ16_bitCount_18 : decode cJ16_bitCount 18 = .ok (.ldc_w 266, 3) := dk_19 1 10 (dk_at dksJ16_bitCount_0 18 rfl rfl)
theorem dJ16_bitCount_21 : decode cJ16_bitCount 21 = .ok (.iand, 1) := dk_126 (dk_at dksJ16_bitCount_0 21 rfl rfl)
theorem dJ16_bitCount_22 : decode cJ16_bitCount 22 = .ok (.iadd, 1) := dk_96 (dk_at dksJ16_bitCount_0 22 rfl rfl)
theorem dJ16_bitCount_23 : decode cJ16_bitCount 23 = .ok (.istore_n 0, 1) := dk_59 (dk_at dksJ16_bitCount_0 23 rfl rfl)
theorem dJ16_bitCount_24 : decode cJ16_bitCount 24 = .ok (.iload_n 0, 1) := dk_26 (dk_at dksJ16_bitCount_1 0 rfl rfl)
theorem dJ16_bitCount_25 : decode cJ16_bitCount 25 = .ok (.iload_n 0, 1) := dk_26 (dk_at dksJ16_bitCount_1 1 rfl rfl)
theorem dJ16_bitCount_26 : decode cJ16_bitCount 26 = .ok (.iconst 4, 1) := dk_7 (dk_at dksJ16_bitCount_1 2 rfl rfl)
theorem dJ16_bitCount_27 : decode cJ16_bitCount 27 = .ok (.iushr, 1) := dk_124 (dk_at dksJ16_bitCount_1 3 rfl rfl)
theorem dJ16_bitCount_28 : decode cJ16_bitCount 28 = .ok (.iadd, 1) := dk_96 (dk_at dksJ16_bitCount_1 4 rfl rfl)
theorem dJ16_bitCount_29 : decode cJ16_bitCount 29 = .ok (.ldc_w 267, 3) := dk_19 1 11 (dk_at dksJ16_bitCount_1 5 rfl rfl)
theorem dJ16_bitCount_32 : decode cJ16_bitCount 32 = .ok (.iand, 1) := dk_126 (dk_at dksJ16_bitCount_1 8 rfl rfl)
theorem dJ16_bitCount_33 : decode cJ16_bitCount 33 = .ok (.istore_n 0, 1) := dk_59 (dk_at dksJ16_bitCount_1 9 rfl rfl)
theorem dJ16_bitCount_34 : decode cJ16_bitCount 34 = .ok (.iload_n 0, 1) := dk_26 (dk_at dksJ16_bitCount_1 10 rfl rfl)
theorem dJ16_bitCount_35 : decode cJ16_bitCount 35 = .ok (.iload_n 0, 1) := dk_26 (dk_at dksJ16_bitCount_1 11 rfl rfl)
theorem dJ16_bitCount_36 : decode cJ16_bitCount 36 = .ok (.bipush 8, 2) := dk_16 8 (dk_at dksJ16_bitCount_1 12 rfl rfl)
theorem dJ16_bitCount_38 : decode cJ16_bitCount 38 = .ok (.iushr, 1) := dk_124 (dk_at dksJ16_bitCount_1 14 rfl rfl)
theorem dJ16_bitCount_39 : decode cJ16_bitCount 39 = .ok (.iadd, 1) := dk_96 (dk_at dksJ16_bitCount_1 15 rfl rfl)
theorem dJ16_bitCount_40 : decode cJ16_bitCount 40 = .ok (.istore_n 0, 1) := dk_59 (dk_at dksJ16_bitCount_1 16 rfl rfl)
theorem dJ16_bitCount_41 : decode cJ16_bitCount 41 = .ok (.iload_n 0, 1) := dk_26 (dk_at dksJ16_bitCount_1 17 rfl rfl)
theorem dJ16_bitCount_42 : decode cJ16_bitCount 42 = .ok (.iload_n 0, 1) := dk_26 (dk_at dksJ16_bitCount_1 18 rfl rfl)
theorem dJ16_bitCount_43 : decode cJ16_bitCount 43 = .ok (.bipush 16, 2) := dk_16 16 (dk_at dksJ16_bitCount_1 19 rfl rfl)
theorem dJ16_bitCount_45 : decode cJ16_bitCount 45 = .ok (.iushr, 1) := dk_124 (dk_at dksJ16_bitCount_1 21 rfl rfl)
theorem dJ16_bitCount_46 : decode cJ16_bitCount 46 = .ok (.iadd, 1) := dk_96 (dk_at dksJ16_bitCount_1 22 rfl rfl)
theorem dJ16_bitCount_47 : decode cJ16_bitCount 47 = .ok (.istore_n 0, 1) := dk_59 (dk_at dksJ16_bitCount_1 23 rfl rfl)
theorem dJ16_bitCount_48 : decode cJ16_bitCount 48 = .ok (.iload_n 0, 1) := dk_26 (dk_at dksJ16_bitCount_2 0 rfl rfl)
theorem dJ16_bitCount_49 : decode cJ16_bitCount 49 = .ok (.bipush 63, 2) := dk_16 63 (dk_at dksJ16_bitCount_2 1 rfl rfl)
theorem dJ16_bitCount_51 : decode cJ16_bitCount 51 = .ok (.iand, 1) := dk_126 (dk_at dksJ16_bitCount_2 3 rfl rfl)
theorem dJ16_bitCount_52 : decode cJ16_bitCount 52 = .ok (.ireturn, 1) := dk_172 (dk_at dksJ16_bitCount_2 4 rfl rfl)
abbrev cJ16_numberOfTrailingZeros : ByteArray := prog_23_method_48_code
def yJ16_numberOfTrailingZeros : MethodName := ⟨RJ16, "numberOfTrailingZeros", "(I)I"⟩
def dkwJ16_numberOfTrailingZeros_3 : List UInt8 := [5, 124, 59, 27, 26, 4, 124, 96, 172]
abbrev dktJ16_numberOfTrailingZeros_3 : List UInt8 := dkwJ16_numberOfTrailingZeros_3 ++ []
def dkwJ16_numberOfTrailingZeros_2 : List UInt8 := [124, 59, 26, 16, 16, 164, 0, 10, 132, 1, 4, 26, 7, 124, 59, 26, 7, 164, 0, 10, 132, 1, 2, 26]
abbrev dktJ16_numberOfTrailingZeros_2 : List UInt8 := dkwJ16_numberOfTrailingZeros_2 ++ dktJ16_numberOfTrailingZeros_3
def dkwJ16_numberOfTrailingZeros_1 : List UInt8 := [164, 0, 11, 132, 1, 16, 26, 16, 16, 124, 59, 26, 17, 1, 0, 164, 0, 11, 132, 1, 8, 26, 16, 8]
abbrev dktJ16_numberOfTrailingZeros_1 : List UInt8 := dkwJ16_numberOfTrailingZeros_1 ++ dktJ16_numberOfTrailingZeros_2
def dkwJ16_numberOfTrailingZeros_0 : List UInt8 := [26, 2, 130, 26, 4, 100, 126, 59, 26, 157, 0, 8, 26, 16, 32, 126, 172, 4, 60, 26, 19, 1, 8]
abbrev dktJ16_numberOfTrailingZeros_0 : List UInt8 := dkwJ16_numberOfTrailingZeros_0 ++ dktJ16_numberOfTrailingZeros_1
theorem dksJ16_numberOfTrailingZeros_0 : cJ16_numberOfTrailingZeros.data.toList.drop 0 = dktJ16_numberOfTrailingZeros_0 := by decide +kernel
theorem dksJ16_numberOfTrailingZeros_1 : cJ16_numberOfTrailingZeros.data.toList.drop 23 = dktJ16_numberOfTrailingZeros_1 := dk_seg dksJ16_numberOfTrailingZeros_0 23 rfl rfl
theorem dksJ16_numberOfTrailingZeros_2 : cJ16_numberOfTrailingZeros.data.toList.drop 47 = dktJ16_numberOfTrailingZeros_2 := dk_seg dksJ16_numberOfTrailingZeros_1 24 rfl rfl
theorem dksJ16_numberOfTrailingZeros_3 : cJ16_numberOfTrailingZeros.data.toList.drop 71 = dktJ16_numberOfTrailingZeros_3 := dk_seg dksJ16_numberOfTrailingZeros_2 24 rfl rfl
theorem dJ16_numberOfTrailingZeros_0 : decode cJ16_numberOfTrailingZeros 0 = .ok (.iload_n 0, 1) := dk_26 (dk_at dksJ16_numberOfTrailingZeros_0 0 rfl rfl)
theorem dJ16_numberOfTrailingZeros_1 : decode cJ16_numberOfTrailingZeros 1 = .ok (.iconst (-1), 1) := dk_2 (dk_at dksJ16_numberOfTrailingZeros_0 1 rfl rfl)
theorem dJ16_numberOfTrailingZeros_2 : decode cJ16_numberOfTrailingZeros 2 = .ok (.ixor, 1) := dk_130 (dk_at dksJ16_numberOfTrailingZeros_0 2 rfl rfl)
theorem dJ16_numberOfTrailingZeros_3 : decode cJ16_numberOfTrailingZeros 3 = .ok (.iload_n 0, 1) := dk_26 (dk_at dksJ16_numberOfTrailingZeros_0 3 rfl rfl)
theorem dJ16_numberOfTrailingZeros_4 : decode cJ16_numberOfTrailingZeros 4 = .ok (.iconst 1, 1) := dk_4 (dk_at dksJ16_numberOfTrailingZeros_0 4 rfl rfl)
theorem dJ16_numberOfTrailingZeros_5 : decode cJ16_numberOfTrailingZeros 5 = .ok (.isub, 1) := dk_100 (dk_at dksJ16_numberOfTrailingZeros_0 5 rfl rfl)
theorem dJ16_numberOfTrailingZeros_6 : decode cJ16_numberOfTrailingZeros 6 = .ok (.iand, 1) := dk_126 (dk_at dksJ16_numberOfTrailingZeros_0 6 rfl rfl)
theorem dJ16_numberOfTrailingZeros_7 : decode cJ16_numberOfTrailingZeros 7 = .ok (.istore_n 0, 1) := dk_59 (dk_at dksJ16_numberOfTrailingZeros_0 7 rfl rfl)
theorem dJ16_numberOfTrailingZeros_8 : decode cJ16_numberOfTrailingZeros 8 = .ok (.iload_n 0, 1) := dk_26 (dk_at dksJ16_numberOfTrailingZeros_0 8 rfl rfl)
theorem dJ16_numberOfTrailingZeros_9 : decode cJ16_numberOfTrailingZeros 9 = .ok (.ifCond .gt 8, 3) := dk_157 0 8 (dk_at dksJ16_numberOfTrailingZeros_0 9 rfl rfl)
theorem dJ16_numberOfTrailingZeros_12 : decode cJ16_numberOfTrailingZeros 12 = .ok (.iload_n 0, 1) := dk_26 (dk_at dksJ16_numberOfTrailingZeros_0 12 rfl rfl)
theorem dJ16_numberOfTrailingZeros_13 : decode cJ16_numberOfTrailingZeros 13 = .ok (.bipush 32, 2) := dk_16 32 (dk_at dksJ16_numberOfTrailingZeros_0 13 rfl rfl)
theorem dJ16_numberOfTrailingZeros_15 : decode cJ16_numberOfTrailingZeros 15 = .ok (.iand, 1) := dk_126 (dk_at dksJ16_numberOfTrailingZeros_0 15 rfl rfl)
theorem dJ16_numberOfTrailingZeros_16 : decode cJ16_numberOfTrailingZeros 16 = .ok (.ireturn, 1) := dk_172 (dk_at dksJ16_numberOfTrailingZeros_0 16 rfl rfl)
theorem dJ16_numberOfTrailingZeros_17 : decode cJ16_numberOfTrailingZeros 17 = .ok (.iconst 1, 1) := dk_4 (dk_at dksJ16_numberOfTrailingZeros_0 17 rfl rfl)
theorem dJ16_numberOfTrailingZeros_18 : decode cJ16_numberOfTrailingZeros 18 = .ok (.istore_n 1, 1) := dk_60 (dk_at dksJ16_numberOfTrailingZeros_0 18 rfl rfl)
theorem dJ16_numberOfTrailingZeros_19 : decode cJ16_numberOfTrailingZeros 19 = .ok (.iload_n 0, 1) := dk_26 (dk_at dksJ16_numberOfTrailingZeros_0 19 rfl rfl)
theorem dJ16_numberOfTrailingZeros_20 : decode cJ16_numberOfTrailingZeros 20 = .ok (.ldc_w 264, 3) := dk_19 1 8 (dk_at dksJ16_numberOfTrailingZeros_0 20 rfl rfl)
theorem dJ16_numberOfTrailingZeros_23 : decode cJ16_numberOfTrailingZeros 23 = .ok (.if_icmp .le 11, 3) := dk_164 0 11 (dk_at dksJ16_numberOfTrailingZeros_1 0 rfl rfl)
theorem dJ16_numberOfTrailingZeros_26 : decode cJ16_numberOfTrailingZeros 26 = .ok (.iinc 1 16, 3) := dk_132 1 16 (dk_at dksJ16_numberOfTrailingZeros_1 3 rfl rfl)
theorem dJ16_numberOfTrailingZeros_29 : decode cJ16_numberOfTrailingZeros 29 = .ok (.iload_n 0, 1) := dk_26 (dk_at dksJ16_numberOfTrailingZeros_1 6 rfl rfl)
theorem dJ16_numberOfTrailingZeros_30 : decode cJ16_numberOfTrailingZeros 30 = .ok (.bipush 16, 2) := dk_16 16 (dk_at dksJ16_numberOfTrailingZeros_1 7 rfl rfl)
theorem dJ16_numberOfTrailingZeros_32 : decode cJ16_numberOfTrailingZeros 32 = .ok (.iushr, 1) := dk_124 (dk_at dksJ16_numberOfTrailingZeros_1 9 rfl rfl)
theorem dJ16_numberOfTrailingZeros_33 : decode cJ16_numberOfTrailingZeros 33 = .ok (.istore_n 0, 1) := dk_59 (dk_at dksJ16_numberOfTrailingZeros_1 10 rfl rfl)
theorem dJ16_numberOfTrailingZeros_34 : decode cJ16_numberOfTrailingZeros 34 = .ok (.iload_n 0, 1) := dk_26 (dk_at dksJ16_numberOfTrailingZeros_1 11 rfl rfl)
theorem dJ16_numberOfTrailingZeros_35 : decode cJ16_numberOfTrailingZeros 35 = .ok (.sipush 256, 3) := dk_17 1 0 (dk_at dksJ16_numberOfTrailingZeros_1 12 rfl rfl)
theorem dJ16_numberOfTrailingZeros_38 : decode cJ16_numberOfTrailingZeros 38 = .ok (.if_icmp .le 11, 3) := dk_164 0 11 (dk_at dksJ16_numberOfTrailingZeros_1 15 rfl rfl)
theorem dJ16_numberOfTrailingZeros_41 : decode cJ16_numberOfTrailingZeros 41 = .ok (.iinc 1 8, 3) := dk_132 1 8 (dk_at dksJ16_numberOfTrailingZeros_1 18 rfl rfl)
theorem dJ16_numberOfTrailingZeros_44 : decode cJ16_numberOfTrailingZeros 44 = .ok (.iload_n 0, 1) := dk_26 (dk_at dksJ16_numberOfTrailingZeros_1 21 rfl rfl)
theorem dJ16_numberOfTrailingZeros_45 : decode cJ16_numberOfTrailingZeros 45 = .ok (.bipush 8, 2) := dk_16 8 (dk_at dksJ16_numberOfTrailingZeros_1 22 rfl rfl)
theorem dJ16_numberOfTrailingZeros_47 : decode cJ16_numberOfTrailingZeros 47 = .ok (.iushr, 1) := dk_124 (dk_at dksJ16_numberOfTrailingZeros_2 0 rfl rfl)
theorem dJ16_numberOfTrailingZeros_48 : decode cJ16_numberOfTrailingZeros 48 = .ok (.istore_n 0, 1) := dk_59 (dk_at dksJ16_numberOfTrailingZeros_2 1 rfl rfl)
theorem dJ16_numberOfTrailingZeros_49 : decode cJ16_numberOfTrailingZeros 49 = .ok (.iload_n 0, 1) := dk_26 (dk_at dksJ16_numberOfTrailingZeros_2 2 rfl rfl)
theorem dJ16_numberOfTrailingZeros_50 : decode cJ16_numberOfTrailingZeros 50 = .ok (.bipush 16, 2) := dk_16 16 (dk_at dksJ16_numberOfTrailingZeros_2 3 rfl rfl)
theorem dJ16_numberOfTrailingZeros_52 : decode cJ16_numberOfTrailingZeros 52 = .ok (.if_icmp .le 10, 3) := dk_164 0 10 (dk_at dksJ16_numberOfTrailingZeros_2 5 rfl rfl)
theorem dJ16_numberOfTrailingZeros_55 : decode cJ16_numberOfTrailingZeros 55 = .ok (.iinc 1 4, 3) := dk_132 1 4 (dk_at dksJ16_numberOfTrailingZeros_2 8 rfl rfl)
theorem dJ16_numberOfTrailingZeros_58 : decode cJ16_numberOfTrailingZeros 58 = .ok (.iload_n 0, 1) := dk_26 (dk_at dksJ16_numberOfTrailingZeros_2 11 rfl rfl)
theorem dJ16_numberOfTrailingZeros_59 : decode cJ16_numberOfTrailingZeros 59 = .ok (.iconst 4, 1) := dk_7 (dk_at dksJ16_numberOfTrailingZeros_2 12 rfl rfl)
theorem dJ16_numberOfTrailingZeros_60 : decode cJ16_numberOfTrailingZeros 60 = .ok (.iushr, 1) := dk_124 (dk_at dksJ16_numberOfTrailingZeros_2 13 rfl rfl)
theorem dJ16_numberOfTrailingZeros_61 : decode cJ16_numberOfTrailingZeros 61 = .ok (.istore_n 0, 1) := dk_59 (dk_at dksJ16_numberOfTrailingZeros_2 14 rfl rfl)
theorem dJ16_numberOfTrailingZeros_62 : decode cJ16_numberOfTrailingZeros 62 = .ok (.iload_n 0, 1) := dk_26 (dk_at dksJ16_numberOfTrailingZeros_2 15 rfl rfl)
theorem dJ16_numberOfTrailingZeros_63 : decode cJ16_numberOfTrailingZeros 63 = .ok (.iconst 4, 1) := dk_7 (dk_at dksJ16_numberOfTrailingZeros_2 16 rfl rfl)
theorem dJ16_numberOfTrailingZeros_64 : decode cJ16_numberOfTrailingZeros 64 = .ok (.if_icmp .le 10, 3) := dk_164 0 10 (dk_at dksJ16_numberOfTrailingZeros_2 17 rfl rfl)
theorem dJ16_numberOfTrailingZeros_67 : decode cJ16_numberOfTrailingZeros 67 = .ok (.iinc 1 2, 3) := dk_132 1 2 (dk_at dksJ16_numberOfTrailingZeros_2 20 rfl rfl)
theorem dJ16_numberOfTrailingZeros_70 : decode cJ16_numberOfTrailingZeros 70 = .ok (.iload_n 0, 1) := dk_26 (dk_at dksJ16_numberOfTrailingZeros_2 23 rfl rfl)
theorem dJ16_numberOfTrailingZeros_71 : decode cJ16_numberOfTrailingZeros 71 = .ok (.iconst 2, 1) := dk_5 (dk_at dksJ16_numberOfTrailingZeros_3 0 rfl rfl)
theorem dJ16_numberOfTrailingZeros_72 : decode cJ16_numberOfTrailingZeros 72 = .ok (.iushr, 1) := dk_124 (dk_at dksJ16_numberOfTrailingZeros_3 1 rfl rfl)
theorem dJ16_numberOfTrailingZeros_73 : decode cJ16_numberOfTrailingZeros 73 = .ok (.istore_n 0, 1) := dk_59 (dk_at dksJ16_numberOfTrailingZeros_3 2 rfl rfl)
theorem dJ16_numberOfTrailingZeros_74 : decode cJ16_numberOfTrailingZeros 74 = .ok (.iload_n 1, 1) := dk_27 (dk_at dksJ16_numberOfTrailingZeros_3 3 rfl rfl)
theorem dJ16_numberOfTrailingZeros_75 : decode cJ16_numberOfTrailingZeros 75 = .ok (.iload_n 0, 1) := dk_26 (dk_at dksJ16_numberOfTrailingZeros_3 4 rfl rfl)
theorem dJ16_numberOfTrailingZeros_76 : decode cJ16_numberOfTrailingZeros 76 = .ok (.iconst 1, 1) := dk_4 (dk_at dksJ16_numberOfTrailingZeros_3 5 rfl rfl)
theorem dJ16_numberOfTrailingZeros_77 : decode cJ16_numberOfTrailingZeros 77 = .ok (.iushr, 1) := dk_124 (dk_at dksJ16_numberOfTrailingZeros_3 6 rfl rfl)
theorem dJ16_numberOfTrailingZeros_78 : decode cJ16_numberOfTrailingZeros 78 = .ok (.iadd, 1) := dk_96 (dk_at dksJ16_numberOfTrailingZeros_3 7 rfl rfl)
theorem dJ16_numberOfTrailingZeros_79 : decode cJ16_numberOfTrailingZeros 79 = .ok (.ireturn, 1) := dk_172 (dk_at dksJ16_numberOfTrailingZeros_3 8 rfl rfl)
theorem q76 : (Jvm.Cond.initialized "java/lang/Integer") ∈ lw_all := lw_g (lw_at lw_m1 23 rfl) rfl
theorem q314 : (Jvm.Cond.static ({ cls := "java/lang/Integer", name := "bitCount", desc := "(I)I" } : Jvm.MethodName)) ∈ lw_all := lw_g (lw_at lw_m2 21 rfl) rfl
theorem q315 : (Jvm.Cond.code ({ cls := "java/lang/Integer", name := "bitCount", desc := "(I)I" } : Jvm.MethodName) prog_23_method_49_code (1 : Nat) (Option.some Jvm.ClassFile.FieldType.int)) ∈ lw_all := lw_g (lw_at lw_m2 22 rfl) rfl
theorem q316 : (Jvm.Cond.constant "java/lang/Integer" (265 : Nat) (1431655765 : Int32)) ∈ lw_all := lw_g (lw_at lw_m2 23 rfl) rfl
theorem q317 : (Jvm.Cond.constant "java/lang/Integer" (266 : Nat) (858993459 : Int32)) ∈ lw_all := lw_g (lw_at lw_m2 24 rfl) rfl
theorem q318 : (Jvm.Cond.constant "java/lang/Integer" (267 : Nat) (252645135 : Int32)) ∈ lw_all := lw_g (lw_at lw_m2 25 rfl) rfl
theorem q320 : (Jvm.Cond.static ({ cls := "java/lang/Integer", name := "numberOfTrailingZeros", desc := "(I)I" } : Jvm.MethodName)) ∈ lw_all := lw_g (lw_at lw_m2 27 rfl) rfl
theorem q321 : (Jvm.Cond.code ({ cls := "java/lang/Integer", name := "numberOfTrailingZeros", desc := "(I)I" } : Jvm.MethodName) prog_23_method_48_code (2 : Nat) (Option.some Jvm.ClassFile.FieldType.int)) ∈ lw_all := lw_g (lw_at lw_m2 28 rfl) rfl
theorem q322 : (Jvm.Cond.constant "java/lang/Integer" (264 : Nat) (65536 : Int32)) ∈ lw_all := lw_g (lw_at lw_m2 29 rfl) rfl
/-! jdk/internal/util/ArraysSupport -/
set_option maxRecDepth 100000
def RJ17 : String := "jdk/internal/util/ArraysSupport"
abbrev cJ17_newLength : ByteArray := prog_41_method_27_code
def yJ17_newLength : MethodName := ⟨RJ17, "newLength", "(III)I"⟩
def dkwJ17_newLength_1 : List UInt8 := [184, 0, 201, 172]
abbrev dktJ17_newLength_1 : List UInt8 := dkwJ17_newLength_1 ++ []
def dkwJ17_newLength_0 : List UInt8 := [26, 27, 28, 184, 0, 194, 96, 62, 3, 29, 162, 0, 11, 29, 18, 200, 163, 0, 5, 29, 172, 26, 27]
abbrev dktJ17_newLength_0 : List UInt8 := dkwJ17_newLength_0 ++ dktJ17_newLength_1
theorem dksJ17_newLength_0 : cJ17_newLength.data.toList.drop 0 = dktJ17_newLength_0 := by decide +kernel
theorem dksJ17_newLength_1 : cJ17_newLength.data.toList.drop 23 = dktJ17_newLength_1 := dk_seg dksJ17_newLength_0 23 rfl rfl
theorem dJ17_newLength_0 : decode cJ17_newLength 0 = .ok (.iload_n 0, 1) := dk_26 (dk_at dksJ17_newLength_0 0 rfl rfl)
theorem dJ17_newLength_1 : decode cJ17_newLength 1 = .ok (.iload_n 1, 1) := dk_27 (dk_at dksJ17_newLength_0 1 rfl rfl)
theorem dJ17_newLength_2 : decode cJ17_newLength 2 = .ok (.iload_n 2, 1) := dk_28 (dk_at dksJ17_newLength_0 2 rfl rfl)
theorem dJ17_newLength_3 : decode cJ17_newLength 3 = .ok (.invokestatic 194, 3) := dk_184 0 194 (dk_at dksJ17_newLength_0 3 rfl rfl)
theorem dJ17_newLength_6 : decode cJ17_newLength 6 = .ok (.iadd, 1) := dk_96 (dk_at dksJ17_newLength_0 6 rfl rfl)
theorem dJ17_newLength_7 : decode cJ17_newLength 7 = .ok (.istore_n 3, 1) := dk_62 (dk_at dksJ17_newLength_0 7 rfl rfl)
theorem dJ17_newLength_8 : decode cJ17_newLength 8 = .ok (.iconst 0, 1) := dk_3 (dk_at dksJ17_newLength_0 8 rfl rfl)
theorem dJ17_newLength_9 : decode cJ17_newLength 9 = .ok (.iload_n 3, 1) := dk_29 (dk_at dksJ17_newLength_0 9 rfl rfl)
theorem dJ17_newLength_10 : decode cJ17_newLength 10 = .ok (.if_icmp .ge 11, 3) := dk_162 0 11 (dk_at dksJ17_newLength_0 10 rfl rfl)
theorem dJ17_newLength_13 : decode cJ17_newLength 13 = .ok (.iload_n 3, 1) := dk_29 (dk_at dksJ17_newLength_0 13 rfl rfl)
theorem dJ17_newLength_14 : decode cJ17_newLength 14 = .ok (.ldc 200, 2) := dk_18 200 (dk_at dksJ17_newLength_0 14 rfl rfl)
theorem dJ17_newLength_16 : decode cJ17_newLength 16 = .ok (.if_icmp .gt 5, 3) := dk_163 0 5 (dk_at dksJ17_newLength_0 16 rfl rfl)
theorem dJ17_newLength_19 : decode cJ17_newLength 19 = .ok (.iload_n 3, 1) := dk_29 (dk_at dksJ17_newLength_0 19 rfl rfl)
theorem dJ17_newLength_20 : decode cJ17_newLength 20 = .ok (.ireturn, 1) := dk_172 (dk_at dksJ17_newLength_0 20 rfl rfl)
theorem dJ17_newLength_21 : decode cJ17_newLength 21 = .ok (.iload_n 0, 1) := dk_26 (dk_at dksJ17_newLength_0 21 rfl rfl)
theorem dJ17_newLength_22 : decode cJ17_newLength 22 = .ok (.iload_n 1, 1) := dk_27 (dk_at dksJ17_newLength_0 22 rfl rfl)
theorem dJ17_newLength_23 : decode cJ17_newLength 23 = .ok (.invokestatic 201, 3) := dk_184 0 201 (dk_at dksJ17_newLength_1 0 rfl rfl)
theorem dJ17_newLength_26 : decode cJ17_newLength 26 = .ok (.ireturn, 1) := dk_172 (dk_at dksJ17_newLength_1 3 rfl rfl)
abbrev cJ17_hugeLength : ByteArray := prog_41_method_28_code
def yJ17_hugeLength : MethodName := ⟨RJ17, "hugeLength", "(II)I"⟩
def dkwJ17_hugeLength_2 : List UInt8 := [191, 28, 18, 200, 163, 0, 6, 18, 200, 172, 28, 172]
abbrev dktJ17_hugeLength_2 : List UInt8 := dkwJ17_hugeLength_2 ++ []
def dkwJ17_hugeLength_1 : List UInt8 := [26, 182, 0, 98, 18, 208, 182, 0, 94, 27, 182, 0, 98, 18, 210, 182, 0, 94, 182, 0, 101, 183, 0, 212]
abbrev dktJ17_hugeLength_1 : List UInt8 := dkwJ17_hugeLength_1 ++ dktJ17_hugeLength_2
def dkwJ17_hugeLength_0 : List UInt8 := [26, 27, 96, 61, 28, 156, 0, 44, 187, 0, 204, 89, 187, 0, 89, 89, 183, 0, 91, 18, 206, 182, 0, 94]
abbrev dktJ17_hugeLength_0 : List UInt8 := dkwJ17_hugeLength_0 ++ dktJ17_hugeLength_1
theorem dksJ17_hugeLength_0 : cJ17_hugeLength.data.toList.drop 0 = dktJ17_hugeLength_0 := by decide +kernel
theorem dksJ17_hugeLength_1 : cJ17_hugeLength.data.toList.drop 24 = dktJ17_hugeLength_1 := dk_seg dksJ17_hugeLength_0 24 rfl rfl
theorem dksJ17_hugeLength_2 : cJ17_hugeLength.data.toList.drop 48 = dktJ17_hugeLength_2 := dk_seg dksJ17_hugeLength_1 24 rfl rfl
theorem dJ17_hugeLength_0 : decode cJ17_hugeLength 0 = .ok (.iload_n 0, 1) := dk_26 (dk_at dksJ17_hugeLength_0 0 rfl rfl)
theorem dJ17_hugeLength_1 : decode cJ17_hugeLength 1 = .ok (.iload_n 1, 1) := dk_27 (dk_at dksJ17_hugeLength_0 1 rfl rfl)
theorem dJ17_hugeLength_2 : decode cJ17_hugeLength 2 = .ok (.iadd, 1) := dk_96 (dk_at dksJ17_hugeLength_0 2 rfl rfl)
theorem dJ17_hugeLength_3 : decode cJ17_hugeLength 3 = .ok (.istore_n 2, 1) := dk_61 (dk_at dksJ17_hugeLength_0 3 rfl rfl)
theorem dJ17_hugeLength_4 : decode cJ17_hugeLength 4 = .ok (.iload_n 2, 1) := dk_28 (dk_at dksJ17_hugeLength_0 4 rfl rfl)
theorem dJ17_hugeLength_5 : decode cJ17_hugeLength 5 = .ok (.ifCond .ge 44, 3) := dk_156 0 44 (dk_at dksJ17_hugeLength_0 5 rfl rfl)
theorem dJ17_hugeLength_8 : decode cJ17_hugeLength 8 = .ok (.new 204, 3) := dk_187 0 204 (dk_at dksJ17_hugeLength_0 8 rfl rfl)
theorem dJ17_hugeLength_11 : decode cJ17_hugeLength 11 = .ok (.dup, 1) := dk_89 (dk_at dksJ17_hugeLength_0 11 rfl rfl)
theorem dJ17_hugeLength_12 : decode cJ17_hugeLength 12 = .ok (.new 89, 3) := dk_187 0 89 (dk_at dksJ17_hugeLength_0 12 rfl rfl)
theorem dJ17_hugeLength_15 : decode cJ17_hugeLength 15 = .ok (.dup, 1) := dk_89 (dk_at dksJ17_hugeLength_0 15 rfl rfl)
theorem dJ17_hugeLength_16 : decode cJ17_hugeLength 16 = .ok (.invokespecial 91, 3) := dk_183 0 91 (dk_at dksJ17_hugeLength_0 16 rfl rfl)
theorem dJ17_hugeLength_19 : decode cJ17_hugeLength 19 = .ok (.ldc 206, 2) := dk_18 206 (dk_at dksJ17_hugeLength_0 19 rfl rfl)
theorem dJ17_hugeLength_21 : decode cJ17_hugeLength 21 = .ok (.invokevirtual 94, 3) := dk_182 0 94 (dk_at dksJ17_hugeLength_0 21 rfl rfl)
theorem dJ17_hugeLength_24 : decode cJ17_hugeLength 24 = .ok (.iload_n 0, 1) := dk_26 (dk_at dksJ17_hugeLength_1 0 rfl rfl)
theorem dJ17_hugeLength_25 : decode cJ17_hugeLength 25 = .ok (.invokevirtual 98, 3) := dk_182 0 98 (dk_at dksJ17_hugeLength_1 1 rfl rfl)
theorem dJ17_hugeLength_28 : decode cJ17_hugeLength 28 = .ok (.ldc 208, 2) := dk_18 208 (dk_at dksJ17_hugeLength_1 4 rfl rfl)
theorem dJ17_hugeLength_30 : decode cJ17_hugeLength 30 = .ok (.invokevirtual 94, 3) := dk_182 0 94 (dk_at dksJ17_hugeLength_1 6 rfl rfl)
theorem dJ17_hugeLength_33 : decode cJ17_hugeLength 33 = .ok (.iload_n 1, 1) := dk_27 (dk_at dksJ17_hugeLength_1 9 rfl rfl)
theorem dJ17_hugeLength_34 : decode cJ17_hugeLength 34 = .ok (.invokevirtual 98, 3) := dk_182 0 98 (dk_at dksJ17_hugeLength_1 10 rfl rfl)
theorem dJ17_hugeLength_37 : decode cJ17_hugeLength 37 = .ok (.ldc 210, 2) := dk_18 210 (dk_at dksJ17_hugeLength_1 13 rfl rfl)
theorem dJ17_hugeLength_39 : decode cJ17_hugeLength 39 = .ok (.invokevirtual 94, 3) := dk_182 0 94 (dk_at dksJ17_hugeLength_1 15 rfl rfl)
theorem dJ17_hugeLength_42 : decode cJ17_hugeLength 42 = .ok (.invokevirtual 101, 3) := dk_182 0 101 (dk_at dksJ17_hugeLength_1 18 rfl rfl)
theorem dJ17_hugeLength_45 : decode cJ17_hugeLength 45 = .ok (.invokespecial 212, 3) := dk_183 0 212 (dk_at dksJ17_hugeLength_1 21 rfl rfl)
theorem dJ17_hugeLength_48 : decode cJ17_hugeLength 48 = .ok (.athrow, 1) := dk_191 (dk_at dksJ17_hugeLength_2 0 rfl rfl)
theorem dJ17_hugeLength_49 : decode cJ17_hugeLength 49 = .ok (.iload_n 2, 1) := dk_28 (dk_at dksJ17_hugeLength_2 1 rfl rfl)
theorem dJ17_hugeLength_50 : decode cJ17_hugeLength 50 = .ok (.ldc 200, 2) := dk_18 200 (dk_at dksJ17_hugeLength_2 2 rfl rfl)
theorem dJ17_hugeLength_52 : decode cJ17_hugeLength 52 = .ok (.if_icmp .gt 6, 3) := dk_163 0 6 (dk_at dksJ17_hugeLength_2 4 rfl rfl)
theorem dJ17_hugeLength_55 : decode cJ17_hugeLength 55 = .ok (.ldc 200, 2) := dk_18 200 (dk_at dksJ17_hugeLength_2 7 rfl rfl)
theorem dJ17_hugeLength_57 : decode cJ17_hugeLength 57 = .ok (.ireturn, 1) := dk_172 (dk_at dksJ17_hugeLength_2 9 rfl rfl)
theorem dJ17_hugeLength_58 : decode cJ17_hugeLength 58 = .ok (.iload_n 2, 1) := dk_28 (dk_at dksJ17_hugeLength_2 10 rfl rfl)
theorem dJ17_hugeLength_59 : decode cJ17_hugeLength 59 = .ok (.ireturn, 1) := dk_172 (dk_at dksJ17_hugeLength_2 11 rfl rfl)
theorem q80 : (Jvm.Cond.initialized "jdk/internal/util/ArraysSupport") ∈ lw_all := lw_g (lw_at lw_m1 27 rfl) rfl
theorem q405 : (Jvm.Cond.static ({ cls := "jdk/internal/util/ArraysSupport", name := "newLength", desc := "(III)I" } : Jvm.MethodName)) ∈ lw_all := lw_g (lw_at lw_m2 112 rfl) rfl
theorem q406 : (Jvm.Cond.code ({ cls := "jdk/internal/util/ArraysSupport", name := "newLength", desc := "(III)I" } : Jvm.MethodName) prog_41_method_27_code (4 : Nat) (Option.some Jvm.ClassFile.FieldType.int)) ∈ lw_all := lw_g (lw_at lw_m2 113 rfl) rfl
theorem q407 : (Jvm.Cond.methodLink "jdk/internal/util/ArraysSupport" (194 : Nat) ({ cls := "java/lang/Math", name := "max", desc := "(II)I" } : Jvm.MethodName)) ∈ lw_all := lw_g (lw_at lw_m2 114 rfl) rfl
theorem q408 : (Jvm.Cond.constant "jdk/internal/util/ArraysSupport" (200 : Nat) (2147483639 : Int32)) ∈ lw_all := lw_g (lw_at lw_m2 115 rfl) rfl
theorem q409 : (Jvm.Cond.methodLink "jdk/internal/util/ArraysSupport" (201 : Nat) ({ cls := "jdk/internal/util/ArraysSupport", name := "hugeLength", desc := "(II)I" } : Jvm.MethodName)) ∈ lw_all := lw_g (lw_at lw_m2 116 rfl) rfl
theorem q410 : (Jvm.Cond.static ({ cls := "jdk/internal/util/ArraysSupport", name := "hugeLength", desc := "(II)I" } : Jvm.MethodName)) ∈ lw_all := lw_g (lw_at lw_m2 117 rfl) rfl
theorem q411 : (Jvm.Cond.code ({ cls := "jdk/internal/util/ArraysSupport", name := "hugeLength", desc := "(II)I" } : Jvm.MethodName) prog_41_method_28_code (3 : Nat) (Option.some Jvm.ClassFile.FieldType.int)) ∈ lw_all := lw_g (lw_at lw_m2 118 rfl) rfl
/-! java/util/Arrays -/
set_option maxRecDepth 100000
def RJ18 : String := "java/util/Arrays"
abbrev cJ18_copyOf : ByteArray := prog_35_method_119_code
def yJ18_copyOf : MethodName := ⟨RJ18, "copyOf", "([Ljava/lang/Object;I)[Ljava/lang/Object;"⟩
def dkwJ18_copyOf_0 : List UInt8 := [42, 27, 42, 182, 0, 86, 184, 1, 44, 176]
abbrev dktJ18_copyOf_0 : List UInt8 := dkwJ18_copyOf_0 ++ []
theorem dksJ18_copyOf_0 : cJ18_copyOf.data.toList.drop 0 = dktJ18_copyOf_0 := by decide +kernel
theorem dJ18_copyOf_0 : decode cJ18_copyOf 0 = .ok (.aload_n 0, 1) := dk_42 (dk_at dksJ18_copyOf_0 0 rfl rfl)
theorem dJ18_copyOf_1 : decode cJ18_copyOf 1 = .ok (.iload_n 1, 1) := dk_27 (dk_at dksJ18_copyOf_0 1 rfl rfl)
theorem dJ18_copyOf_2 : decode cJ18_copyOf 2 = .ok (.aload_n 0, 1) := dk_42 (dk_at dksJ18_copyOf_0 2 rfl rfl)
theorem dJ18_copyOf_3 : decode cJ18_copyOf 3 = .ok (.invokevirtual 86, 3) := dk_182 0 86 (dk_at dksJ18_copyOf_0 3 rfl rfl)
theorem dJ18_copyOf_6 : decode cJ18_copyOf 6 = .ok (.invokestatic 300, 3) := dk_184 1 44 (dk_at dksJ18_copyOf_0 6 rfl rfl)
theorem dJ18_copyOf_9 : decode cJ18_copyOf 9 = .ok (.areturn, 1) := dk_176 (dk_at dksJ18_copyOf_0 9 rfl rfl)
abbrev cJ18_copyOf_2 : ByteArray := prog_35_method_120_code
def yJ18_copyOf_2 : MethodName := ⟨RJ18, "copyOf", "([Ljava/lang/Object;ILjava/lang/Class;)[Ljava/lang/Object;"⟩
def dkwJ18_copyOf_2_1 : List UInt8 := [78, 42, 3, 45, 3, 42, 190, 27, 184, 1, 48, 184, 0, 150, 45, 176]
abbrev dktJ18_copyOf_2_1 : List UInt8 := dkwJ18_copyOf_2_1 ++ []
def dkwJ18_copyOf_2_0 : List UInt8 := [44, 18, 110, 166, 0, 10, 27, 189, 0, 2, 167, 0, 14, 44, 182, 0, 90, 27, 184, 0, 95, 192, 0, 110]
abbrev dktJ18_copyOf_2_0 : List UInt8 := dkwJ18_copyOf_2_0 ++ dktJ18_copyOf_2_1
theorem dksJ18_copyOf_2_0 : cJ18_copyOf_2.data.toList.drop 0 = dktJ18_copyOf_2_0 := by decide +kernel
theorem dksJ18_copyOf_2_1 : cJ18_copyOf_2.data.toList.drop 24 = dktJ18_copyOf_2_1 := dk_seg dksJ18_copyOf_2_0 24 rfl rfl
theorem dJ18_copyOf_2_0 : decode cJ18_copyOf_2 0 = .ok (.aload_n 2, 1) := dk_44 (dk_at dksJ18_copyOf_2_0 0 rfl rfl)
theorem dJ18_copyOf_2_1 : decode cJ18_copyOf_2 1 = .ok (.ldc 110, 2) := dk_18 110 (dk_at dksJ18_copyOf_2_0 1 rfl rfl)
theorem dJ18_copyOf_2_3 : decode cJ18_copyOf_2 3 = .ok (.if_acmp .ne 10, 3) := dk_166 0 10 (dk_at dksJ18_copyOf_2_0 3 rfl rfl)
theorem dJ18_copyOf_2_6 : decode cJ18_copyOf_2 6 = .ok (.iload_n 1, 1) := dk_27 (dk_at dksJ18_copyOf_2_0 6 rfl rfl)
theorem dJ18_copyOf_2_7 : decode cJ18_copyOf_2 7 = .ok (.anewarray 2, 3) := dk_189 0 2 (dk_at dksJ18_copyOf_2_0 7 rfl rfl)
theorem dJ18_copyOf_2_10 : decode cJ18_copyOf_2 10 = .ok (.goto 14, 3) := dk_167 0 14 (dk_at dksJ18_copyOf_2_0 10 rfl rfl)
theorem dJ18_copyOf_2_13 : decode cJ18_copyOf_2 13 = .ok (.aload_n 2, 1) := dk_44 (dk_at dksJ18_copyOf_2_0 13 rfl rfl)
theorem dJ18_copyOf_2_14 : decode cJ18_copyOf_2 14 = .ok (.invokevirtual 90, 3) := dk_182 0 90 (dk_at dksJ18_copyOf_2_0 14 rfl rfl)
theorem dJ18_copyOf_2_17 : decode cJ18_copyOf_2 17 = .ok (.iload_n 1, 1) := dk_27 (dk_at dksJ18_copyOf_2_0 17 rfl rfl)
theorem dJ18_copyOf_2_18 : decode cJ18_copyOf_2 18 = .ok (.invokestatic 95, 3) := dk_184 0 95 (dk_at dksJ18_copyOf_2_0 18 rfl rfl)
theorem dJ18_copyOf_2_21 : decode cJ18_copyOf_2 21 = .ok (.checkcast 110, 3) := dk_192 0 110 (dk_at dksJ18_copyOf_2_0 21 rfl rfl)
theorem dJ18_copyOf_2_24 : decode cJ18_copyOf_2 24 = .ok (.astore_n 3, 1) := dk_78 (dk_at dksJ18_copyOf_2_1 0 rfl rfl)
theorem dJ18_copyOf_2_25 : decode cJ18_copyOf_2 25 = .ok (.aload_n 0, 1) := dk_42 (dk_at dksJ18_copyOf_2_1 1 rfl rfl)
theorem dJ18_copyOf_2_26 : decode cJ18_copyOf_2 26 = .ok (.iconst 0, 1) := dk_3 (dk_at dksJ18_copyOf_2_1 2 rfl rfl)
theorem dJ18_copyOf_2_27 : decode cJ18_copyOf_2 27 = .ok (.aload_n 3, 1) := dk_45 (dk_at dksJ18_copyOf_2_1 3 rfl rfl)
theorem dJ18_copyOf_2_28 : decode cJ18_copyOf_2 28 = .ok (.iconst 0, 1) := dk_3 (dk_at dksJ18_copyOf_2_1 4 rfl rfl)
theorem dJ18_copyOf_2_29 : decode cJ18_copyOf_2 29 = .ok (.aload_n 0, 1) := dk_42 (dk_at dksJ18_copyOf_2_1 5 rfl rfl)
theorem dJ18_copyOf_2_30 : decode cJ18_copyOf_2 30 = .ok (.arraylength, 1) := dk_190 (dk_at dksJ18_copyOf_2_1 6 rfl rfl)
theorem dJ18_copyOf_2_31 : decode cJ18_copyOf_2 31 = .ok (.iload_n 1, 1) := dk_27 (dk_at dksJ18_copyOf_2_1 7 rfl rfl)
theorem dJ18_copyOf_2_32 : decode cJ18_copyOf_2 32 = .ok (.invokestatic 304, 3) := dk_184 1 48 (dk_at dksJ18_copyOf_2_1 8 rfl rfl)
theorem dJ18_copyOf_2_35 : decode cJ18_copyOf_2 35 = .ok (.invokestatic 150, 3) := dk_184 0 150 (dk_at dksJ18_copyOf_2_1 11 rfl rfl)
theorem dJ18_copyOf_2_38 : decode cJ18_copyOf_2 38 = .ok (.aload_n 3, 1) := dk_45 (dk_at dksJ18_copyOf_2_1 14 rfl rfl)
theorem dJ18_copyOf_2_39 : decode cJ18_copyOf_2 39 = .ok (.areturn, 1) := dk_176 (dk_at dksJ18_copyOf_2_1 15 rfl rfl)
theorem q81 : (Jvm.Cond.initialized "java/util/Arrays") ∈ lw_all := lw_g (lw_at lw_m1 28 rfl) rfl
theorem q413 : (Jvm.Cond.static ({ cls := "java/util/Arrays", name := "copyOf", desc := "([Ljava/lang/Object;I)[Ljava/lang/Object;" } : Jvm.MethodName)) ∈ lw_all := lw_g (lw_at lw_m2 120 rfl) rfl
theorem q414 : (Jvm.Cond.code ({ cls := "java/util/Arrays", name := "copyOf", desc := "([Ljava/lang/Object;I)[Ljava/lang/Object;" } : Jvm.MethodName) prog_35_method_119_code (2 : Nat) (Option.some (Jvm.ClassFile.FieldType.array (Jvm.ClassFile.FieldType.object "java/lang/Object")))) ∈ lw_all := lw_g (lw_at lw_m2 121 rfl) rfl
theorem q415 : (Jvm.Cond.methodLink "java/util/Arrays" (86 : Nat) ({ cls := "java/lang/Object", name := "getClass", desc := "()Ljava/lang/Class;" } : Jvm.MethodName)) ∈ lw_all := lw_g (lw_at lw_m2 122 rfl) rfl
theorem q437 : (Jvm.Cond.methodLink "java/util/Arrays" (300 : Nat) ({ cls := "java/util/Arrays", name := "copyOf", desc := "([Ljava/lang/Object;ILjava/lang/Class;)[Ljava/lang/Object;" } : Jvm.MethodName)) ∈ lw_all := lw_g (lw_at lw_m2 144 rfl) rfl
theorem q438 : (Jvm.Cond.static ({ cls := "java/util/Arrays", name := "copyOf", desc := "([Ljava/lang/Object;ILjava/lang/Class;)[Ljava/lang/Object;" } : Jvm.MethodName)) ∈ lw_all := lw_g (lw_at lw_m2 145 rfl) rfl
theorem q439 : (Jvm.Cond.code ({ cls := "java/util/Arrays", name := "copyOf", desc := "([Ljava/lang/Object;ILjava/lang/Class;)[Ljava/lang/Object;" } : Jvm.MethodName) prog_35_method_120_code (4 : Nat) (Option.some (Jvm.ClassFile.FieldType.array (Jvm.ClassFile.FieldType.object "java/lang/Object")))) ∈ lw_all := lw_g (lw_at lw_m2 146 rfl) rfl
theorem q440 : (Jvm.Cond.classLink "java/util/Arrays" (110 : Nat) "[Ljava/lang/Object;") ∈ lw_all := lw_g (lw_at lw_m2 147 rfl) rfl
theorem q442 : (Jvm.Cond.classLink "java/util/Arrays" (2 : Nat) "java/lang/Object") ∈ lw_all := lw_g (lw_at lw_m2 149 rfl) rfl
theorem q443 : (Jvm.Cond.methodLink "java/util/Arrays" (304 : Nat) ({ cls := "java/lang/Math", name := "min", desc := "(II)I" } : Jvm.MethodName)) ∈ lw_all := lw_g (lw_at lw_m2 150 rfl) rfl
theorem q446 : (Jvm.Cond.methodLink "java/util/Arrays" (150 : Nat) ({ cls := "java/lang/System", name := "arraycopy", desc := "(Ljava/lang/Object;ILjava/lang/Object;II)V" } : Jvm.MethodName)) ∈ lw_all := lw_g (lw_at lw_m2 153 rfl) rfl
/-! java/lang/Object -/
set_option maxRecDepth 100000
def RJ19 : String := "java/lang/Object"
abbrev cJ19_init : ByteArray := object_method_1_code
def yJ19_init : MethodName := ⟨RJ19, "<init>", "()V"⟩
theorem dJ19_init_0 : decode cJ19_init 0 = .ok (.return_, 1) := by decide +kernel
theorem q93 : (Jvm.Cond.instanceMethod ({ cls := "java/lang/Object", name := "<init>", desc := "()V" } : Jvm.MethodName)) ∈ lw_all := lw_g (lw_at lw_m1 40 rfl) rfl
theorem q94 : (Jvm.Cond.code ({ cls := "java/lang/Object", name := "<init>", desc := "()V" } : Jvm.MethodName) object_method_1_code (1 : Nat) (Option.none : Option Jvm.ClassFile.FieldType)) ∈ lw_all := lw_g (lw_at lw_m1 41 rfl) rfl
theorem q416 : (Jvm.Cond.instanceMethod ({ cls := "java/lang/Object", name := "getClass", desc := "()Ljava/lang/Class;" } : Jvm.MethodName)) ∈ lw_all := lw_g (lw_at lw_m2 123 rfl) rfl
theorem q417 : (Jvm.Cond.sameMethod "java/lang/Object" "java/lang/Object" "getClass" "()Ljava/lang/Class;") ∈ lw_all := lw_g (lw_at lw_m2 124 rfl) rfl
theorem q436 : (Jvm.Cond.native ({ cls := "java/lang/Object", name := "getClass", desc := "()Ljava/lang/Class;" } : Jvm.MethodName)) ∈ lw_all := lw_g (lw_at lw_m2 143 rfl) rfl
theorem q1460 : (Jvm.Cond.declares ({ cls := "java/lang/Object", name := "getClass", desc := "()Ljava/lang/Class;" } : Jvm.MethodName)) ∈ lw_tbl := lw_at lw_m6 207 rfl
