/-! DebtFerry -/
set_option maxRecDepth 100000
def RX0 : String := "DebtFerry"
def TX0 : u_T := fun k => match k with
  | 0 => ("DebtFerry", "trace", "I", false)
  | 1 => ("DebtFerry", "room", "I", false)
  | 2 => ("DebtFerry", "timesNow", "I", false)
  | 3 => ("DebtFerry", "noteAt", "[I", true)
  | 4 => ("DebtFerry", "people", "Ljava/util/List;", true)
  | 5 => ("DebtFerry", "fewestOf", "[I", true)
  | 6 => ("DebtFerry", "kept", "[I", true)
  | 7 => ("DebtFerry", "readings", "Ljava/util/List;", true)
  | 8 => ("DebtFerry", "fault", "I", false)
  | _ => ("DebtFerry", "sheets", "[LDebtFerry$Sheet;", true)
def tyX0 : Nat → FieldType := fun k => match k with
  | 0 => .int
  | 1 => .int
  | 2 => .int
  | 3 => .array .int
  | 4 => .object "java/util/List"
  | 5 => .array .int
  | 6 => .array .int
  | 7 => .object "java/util/List"
  | 8 => .int
  | _ => .array (.object "DebtFerry$Sheet")
abbrev wsX00 : List Cond := u_ws RX0 TX0 10
theorem nmX0 : ∀ a, a < 10 → ∀ b, b < 10 → a ≠ b → (TX0 a).2.1 ≠ (TX0 b).2.1 := by decide +kernel
theorem tyX0_ok : ∀ k, k < 10 → parseFieldDescriptor (TX0 k).2.2.1 = some (tyX0 k) := by decide +kernel
abbrev cX0_init : ByteArray := prog_1_method_3_code
def yX0_init : MethodName := ⟨RX0, "<init>", "()V"⟩
def dkwX0_init_2 : List UInt8 := [181, 0, 28, 42, 7, 189, 0, 31, 181, 0, 33, 177]
abbrev dktX0_init_2 : List UInt8 := dkwX0_init_2 ++ []
def dkwX0_init_1 : List UInt8 := [16, 32, 188, 10, 181, 0, 22, 42, 16, 25, 188, 10, 181, 0, 25, 42, 187, 0, 15, 89, 183, 0, 17]
abbrev dktX0_init_1 : List UInt8 := dkwX0_init_1 ++ dktX0_init_2
def dkwX0_init_0 : List UInt8 := [42, 183, 0, 3, 42, 16, 25, 188, 10, 181, 0, 11, 42, 187, 0, 15, 89, 183, 0, 17, 181, 0, 18, 42]
abbrev dktX0_init_0 : List UInt8 := dkwX0_init_0 ++ dktX0_init_1
theorem dksX0_init_0 : cX0_init.data.toList.drop 0 = dktX0_init_0 := by decide +kernel
theorem dksX0_init_1 : cX0_init.data.toList.drop 24 = dktX0_init_1 := dk_seg dksX0_init_0 24 rfl rfl
theorem dksX0_init_2 : cX0_init.data.toList.drop 47 = dktX0_init_2 := dk_seg dksX0_init_1 23 rfl rfl
theorem dX0_init_0 : decode cX0_init 0 = .ok (.aload_n 0, 1) := dk_42 (dk_at dksX0_init_0 0 rfl rfl)
theorem dX0_init_1 : decode cX0_init 1 = .ok (.invokespecial 3, 3) := dk_183 0 3 (dk_at dksX0_init_0 1 rfl rfl)
theorem dX0_init_4 : decode cX0_init 4 = .ok (.aload_n 0, 1) := dk_42 (dk_at dksX0_init_0 4 rfl rfl)
theorem dX0_init_5 : decode cX0_init 5 = .ok (.bipush 25, 2) := dk_16 25 (dk_at dksX0_init_0 5 rfl rfl)
theorem dX0_init_7 : decode cX0_init 7 = .ok (.newarray .int, 2) := dk_188_10 (dk_at dksX0_init_0 7 rfl rfl)
theorem dX0_init_9 : decode cX0_init 9 = .ok (.putfield 11, 3) := dk_181 0 11 (dk_at dksX0_init_0 9 rfl rfl)
theorem dX0_init_12 : decode cX0_init 12 = .ok (.aload_n 0, 1) := dk_42 (dk_at dksX0_init_0 12 rfl rfl)
theorem dX0_init_13 : decode cX0_init 13 = .ok (.new 15, 3) := dk_187 0 15 (dk_at dksX0_init_0 13 rfl rfl)
theorem dX0_init_16 : decode cX0_init 16 = .ok (.dup, 1) := dk_89 (dk_at dksX0_init_0 16 rfl rfl)
theorem dX0_init_17 : decode cX0_init 17 = .ok (.invokespecial 17, 3) := dk_183 0 17 (dk_at dksX0_init_0 17 rfl rfl)
theorem dX0_init_20 : decode cX0_init 20 = .ok (.putfield 18, 3) := dk_181 0 18 (dk_at dksX0_init_0 20 rfl rfl)
theorem dX0_init_23 : decode cX0_init 23 = .ok (.aload_n 0, 1) := dk_42 (dk_at dksX0_init_0 23 rfl rfl)
theorem dX0_init_24 : decode cX0_init 24 = .ok (.bipush 32, 2) := dk_16 32 (dk_at dksX0_init_1 0 rfl rfl)
theorem dX0_init_26 : decode cX0_init 26 = .ok (.newarray .int, 2) := dk_188_10 (dk_at dksX0_init_1 2 rfl rfl)
theorem dX0_init_28 : decode cX0_init 28 = .ok (.putfield 22, 3) := dk_181 0 22 (dk_at dksX0_init_1 4 rfl rfl)
theorem dX0_init_31 : decode cX0_init 31 = .ok (.aload_n 0, 1) := dk_42 (dk_at dksX0_init_1 7 rfl rfl)
theorem dX0_init_32 : decode cX0_init 32 = .ok (.bipush 25, 2) := dk_16 25 (dk_at dksX0_init_1 8 rfl rfl)
theorem dX0_init_34 : decode cX0_init 34 = .ok (.newarray .int, 2) := dk_188_10 (dk_at dksX0_init_1 10 rfl rfl)
theorem dX0_init_36 : decode cX0_init 36 = .ok (.putfield 25, 3) := dk_181 0 25 (dk_at dksX0_init_1 12 rfl rfl)
theorem dX0_init_39 : decode cX0_init 39 = .ok (.aload_n 0, 1) := dk_42 (dk_at dksX0_init_1 15 rfl rfl)
theorem dX0_init_40 : decode cX0_init 40 = .ok (.new 15, 3) := dk_187 0 15 (dk_at dksX0_init_1 16 rfl rfl)
theorem dX0_init_43 : decode cX0_init 43 = .ok (.dup, 1) := dk_89 (dk_at dksX0_init_1 19 rfl rfl)
theorem dX0_init_44 : decode cX0_init 44 = .ok (.invokespecial 17, 3) := dk_183 0 17 (dk_at dksX0_init_1 20 rfl rfl)
theorem dX0_init_47 : decode cX0_init 47 = .ok (.putfield 28, 3) := dk_181 0 28 (dk_at dksX0_init_2 0 rfl rfl)
theorem dX0_init_50 : decode cX0_init 50 = .ok (.aload_n 0, 1) := dk_42 (dk_at dksX0_init_2 3 rfl rfl)
theorem dX0_init_51 : decode cX0_init 51 = .ok (.iconst 4, 1) := dk_7 (dk_at dksX0_init_2 4 rfl rfl)
theorem dX0_init_52 : decode cX0_init 52 = .ok (.anewarray 31, 3) := dk_189 0 31 (dk_at dksX0_init_2 5 rfl rfl)
theorem dX0_init_55 : decode cX0_init 55 = .ok (.putfield 33, 3) := dk_181 0 33 (dk_at dksX0_init_2 8 rfl rfl)
theorem dX0_init_58 : decode cX0_init 58 = .ok (.return_, 1) := dk_177 (dk_at dksX0_init_2 11 rfl rfl)
abbrev cX0_ofPerson : ByteArray := prog_1_method_16_code
def yX0_ofPerson : MethodName := ⟨RX0, "ofPerson", "(II)I"⟩
def dkwX0_ofPerson_2 : List UInt8 := [167, 0, 22, 3, 167, 0, 18, 28, 5, 160, 0, 11, 42, 27, 182, 0, 120, 167, 0, 5, 16, 254, 172]
abbrev dktX0_ofPerson_2 : List UInt8 := dkwX0_ofPerson_2 ++ []
def dkwX0_ofPerson_1 : List UInt8 := [28, 154, 0, 10, 45, 182, 0, 113, 167, 0, 38, 28, 4, 160, 0, 18, 45, 180, 0, 116, 153, 0, 7, 4]
abbrev dktX0_ofPerson_1 : List UInt8 := dkwX0_ofPerson_1 ++ dktX0_ofPerson_2
def dkwX0_ofPerson_0 : List UInt8 := [42, 27, 182, 0, 62, 153, 0, 5, 2, 172, 42, 180, 0, 18, 27, 185, 0, 109, 2, 0, 192, 0, 37, 78]
abbrev dktX0_ofPerson_0 : List UInt8 := dkwX0_ofPerson_0 ++ dktX0_ofPerson_1
theorem dksX0_ofPerson_0 : cX0_ofPerson.data.toList.drop 0 = dktX0_ofPerson_0 := by decide +kernel
theorem dksX0_ofPerson_1 : cX0_ofPerson.data.toList.drop 24 = dktX0_ofPerson_1 := dk_seg dksX0_ofPerson_0 24 rfl rfl
theorem dksX0_ofPerson_2 : cX0_ofPerson.data.toList.drop 48 = dktX0_ofPerson_2 := dk_seg dksX0_ofPerson_1 24 rfl rfl
theorem dX0_ofPerson_0 : decode cX0_ofPerson 0 = .ok (.aload_n 0, 1) := dk_42 (dk_at dksX0_ofPerson_0 0 rfl rfl)
theorem dX0_ofPerson_1 : decode cX0_ofPerson 1 = .ok (.iload_n 1, 1) := dk_27 (dk_at dksX0_ofPerson_0 1 rfl rfl)
theorem dX0_ofPerson_2 : decode cX0_ofPerson 2 = .ok (.invokevirtual 62, 3) := dk_182 0 62 (dk_at dksX0_ofPerson_0 2 rfl rfl)
theorem dX0_ofPerson_5 : decode cX0_ofPerson 5 = .ok (.ifCond .eq 5, 3) := dk_153 0 5 (dk_at dksX0_ofPerson_0 5 rfl rfl)
theorem dX0_ofPerson_8 : decode cX0_ofPerson 8 = .ok (.iconst (-1), 1) := dk_2 (dk_at dksX0_ofPerson_0 8 rfl rfl)
theorem dX0_ofPerson_9 : decode cX0_ofPerson 9 = .ok (.ireturn, 1) := dk_172 (dk_at dksX0_ofPerson_0 9 rfl rfl)
theorem dX0_ofPerson_10 : decode cX0_ofPerson 10 = .ok (.aload_n 0, 1) := dk_42 (dk_at dksX0_ofPerson_0 10 rfl rfl)
theorem dX0_ofPerson_11 : decode cX0_ofPerson 11 = .ok (.getfield 18, 3) := dk_180 0 18 (dk_at dksX0_ofPerson_0 11 rfl rfl)
theorem dX0_ofPerson_14 : decode cX0_ofPerson 14 = .ok (.iload_n 1, 1) := dk_27 (dk_at dksX0_ofPerson_0 14 rfl rfl)
theorem dX0_ofPerson_15 : decode cX0_ofPerson 15 = .ok (.invokeinterface 109 2, 5) := by decide +kernel
theorem dX0_ofPerson_20 : decode cX0_ofPerson 20 = .ok (.checkcast 37, 3) := dk_192 0 37 (dk_at dksX0_ofPerson_0 20 rfl rfl)
theorem dX0_ofPerson_23 : decode cX0_ofPerson 23 = .ok (.astore_n 3, 1) := dk_78 (dk_at dksX0_ofPerson_0 23 rfl rfl)
theorem dX0_ofPerson_24 : decode cX0_ofPerson 24 = .ok (.iload_n 2, 1) := dk_28 (dk_at dksX0_ofPerson_1 0 rfl rfl)
theorem dX0_ofPerson_25 : decode cX0_ofPerson 25 = .ok (.ifCond .ne 10, 3) := dk_154 0 10 (dk_at dksX0_ofPerson_1 1 rfl rfl)
theorem dX0_ofPerson_28 : decode cX0_ofPerson 28 = .ok (.aload_n 3, 1) := dk_45 (dk_at dksX0_ofPerson_1 4 rfl rfl)
theorem dX0_ofPerson_29 : decode cX0_ofPerson 29 = .ok (.invokevirtual 113, 3) := dk_182 0 113 (dk_at dksX0_ofPerson_1 5 rfl rfl)
theorem dX0_ofPerson_32 : decode cX0_ofPerson 32 = .ok (.goto 38, 3) := dk_167 0 38 (dk_at dksX0_ofPerson_1 8 rfl rfl)
theorem dX0_ofPerson_35 : decode cX0_ofPerson 35 = .ok (.iload_n 2, 1) := dk_28 (dk_at dksX0_ofPerson_1 11 rfl rfl)
theorem dX0_ofPerson_36 : decode cX0_ofPerson 36 = .ok (.iconst 1, 1) := dk_4 (dk_at dksX0_ofPerson_1 12 rfl rfl)
theorem dX0_ofPerson_37 : decode cX0_ofPerson 37 = .ok (.if_icmp .ne 18, 3) := dk_160 0 18 (dk_at dksX0_ofPerson_1 13 rfl rfl)
theorem dX0_ofPerson_40 : decode cX0_ofPerson 40 = .ok (.aload_n 3, 1) := dk_45 (dk_at dksX0_ofPerson_1 16 rfl rfl)
theorem dX0_ofPerson_41 : decode cX0_ofPerson 41 = .ok (.getfield 116, 3) := dk_180 0 116 (dk_at dksX0_ofPerson_1 17 rfl rfl)
theorem dX0_ofPerson_44 : decode cX0_ofPerson 44 = .ok (.ifCond .eq 7, 3) := dk_153 0 7 (dk_at dksX0_ofPerson_1 20 rfl rfl)
theorem dX0_ofPerson_47 : decode cX0_ofPerson 47 = .ok (.iconst 1, 1) := dk_4 (dk_at dksX0_ofPerson_1 23 rfl rfl)
theorem dX0_ofPerson_48 : decode cX0_ofPerson 48 = .ok (.goto 22, 3) := dk_167 0 22 (dk_at dksX0_ofPerson_2 0 rfl rfl)
theorem dX0_ofPerson_51 : decode cX0_ofPerson 51 = .ok (.iconst 0, 1) := dk_3 (dk_at dksX0_ofPerson_2 3 rfl rfl)
theorem dX0_ofPerson_52 : decode cX0_ofPerson 52 = .ok (.goto 18, 3) := dk_167 0 18 (dk_at dksX0_ofPerson_2 4 rfl rfl)
theorem dX0_ofPerson_55 : decode cX0_ofPerson 55 = .ok (.iload_n 2, 1) := dk_28 (dk_at dksX0_ofPerson_2 7 rfl rfl)
theorem dX0_ofPerson_56 : decode cX0_ofPerson 56 = .ok (.iconst 2, 1) := dk_5 (dk_at dksX0_ofPerson_2 8 rfl rfl)
theorem dX0_ofPerson_57 : decode cX0_ofPerson 57 = .ok (.if_icmp .ne 11, 3) := dk_160 0 11 (dk_at dksX0_ofPerson_2 9 rfl rfl)
theorem dX0_ofPerson_60 : decode cX0_ofPerson 60 = .ok (.aload_n 0, 1) := dk_42 (dk_at dksX0_ofPerson_2 12 rfl rfl)
theorem dX0_ofPerson_61 : decode cX0_ofPerson 61 = .ok (.iload_n 1, 1) := dk_27 (dk_at dksX0_ofPerson_2 13 rfl rfl)
theorem dX0_ofPerson_62 : decode cX0_ofPerson 62 = .ok (.invokevirtual 120, 3) := dk_182 0 120 (dk_at dksX0_ofPerson_2 14 rfl rfl)
theorem dX0_ofPerson_65 : decode cX0_ofPerson 65 = .ok (.goto 5, 3) := dk_167 0 5 (dk_at dksX0_ofPerson_2 17 rfl rfl)
theorem dX0_ofPerson_68 : decode cX0_ofPerson 68 = .ok (.bipush (-2), 2) := dk_16 254 (dk_at dksX0_ofPerson_2 20 rfl rfl)
theorem dX0_ofPerson_70 : decode cX0_ofPerson 70 = .ok (.ireturn, 1) := dk_172 (dk_at dksX0_ofPerson_2 22 rfl rfl)
abbrev cX0_noPerson : ByteArray := prog_1_method_6_code
def yX0_noPerson : MethodName := ⟨RX0, "noPerson", "(I)Z"⟩
def dkwX0_noPerson_1 : List UInt8 := [167, 0, 4, 3, 172]
abbrev dktX0_noPerson_1 : List UInt8 := dkwX0_noPerson_1 ++ []
def dkwX0_noPerson_0 : List UInt8 := [27, 133, 9, 42, 180, 0, 18, 185, 0, 54, 1, 0, 4, 100, 133, 184, 0, 58, 154, 0, 7, 4]
abbrev dktX0_noPerson_0 : List UInt8 := dkwX0_noPerson_0 ++ dktX0_noPerson_1
theorem dksX0_noPerson_0 : cX0_noPerson.data.toList.drop 0 = dktX0_noPerson_0 := by decide +kernel
theorem dksX0_noPerson_1 : cX0_noPerson.data.toList.drop 22 = dktX0_noPerson_1 := dk_seg dksX0_noPerson_0 22 rfl rfl
theorem dX0_noPerson_0 : decode cX0_noPerson 0 = .ok (.iload_n 1, 1) := dk_27 (dk_at dksX0_noPerson_0 0 rfl rfl)
theorem dX0_noPerson_1 : decode cX0_noPerson 1 = .ok (.i2l, 1) := dk_133 (dk_at dksX0_noPerson_0 1 rfl rfl)
theorem dX0_noPerson_2 : decode cX0_noPerson 2 = .ok (.lconst 0, 1) := dk_9 (dk_at dksX0_noPerson_0 2 rfl rfl)
theorem dX0_noPerson_3 : decode cX0_noPerson 3 = .ok (.aload_n 0, 1) := dk_42 (dk_at dksX0_noPerson_0 3 rfl rfl)
theorem dX0_noPerson_4 : decode cX0_noPerson 4 = .ok (.getfield 18, 3) := dk_180 0 18 (dk_at dksX0_noPerson_0 4 rfl rfl)
theorem dX0_noPerson_7 : decode cX0_noPerson 7 = .ok (.invokeinterface 54 1, 5) := by decide +kernel
theorem dX0_noPerson_12 : decode cX0_noPerson 12 = .ok (.iconst 1, 1) := dk_4 (dk_at dksX0_noPerson_0 12 rfl rfl)
theorem dX0_noPerson_13 : decode cX0_noPerson 13 = .ok (.isub, 1) := dk_100 (dk_at dksX0_noPerson_0 13 rfl rfl)
theorem dX0_noPerson_14 : decode cX0_noPerson 14 = .ok (.i2l, 1) := dk_133 (dk_at dksX0_noPerson_0 14 rfl rfl)
theorem dX0_noPerson_15 : decode cX0_noPerson 15 = .ok (.invokestatic 58, 3) := dk_184 0 58 (dk_at dksX0_noPerson_0 15 rfl rfl)
theorem dX0_noPerson_18 : decode cX0_noPerson 18 = .ok (.ifCond .ne 7, 3) := dk_154 0 7 (dk_at dksX0_noPerson_0 18 rfl rfl)
theorem dX0_noPerson_21 : decode cX0_noPerson 21 = .ok (.iconst 1, 1) := dk_4 (dk_at dksX0_noPerson_0 21 rfl rfl)
theorem dX0_noPerson_22 : decode cX0_noPerson 22 = .ok (.goto 4, 3) := dk_167 0 4 (dk_at dksX0_noPerson_1 0 rfl rfl)
theorem dX0_noPerson_25 : decode cX0_noPerson 25 = .ok (.iconst 0, 1) := dk_3 (dk_at dksX0_noPerson_1 3 rfl rfl)
theorem dX0_noPerson_26 : decode cX0_noPerson 26 = .ok (.ireturn, 1) := dk_172 (dk_at dksX0_noPerson_1 4 rfl rfl)
abbrev cX0_in : ByteArray := prog_1_method_1_code
def yX0_in : MethodName := ⟨RX0, "in", "(JJJ)Z"⟩
def dkwX0_in_0 : List UInt8 := [30, 32, 148, 155, 0, 14, 30, 22, 4, 148, 157, 0, 7, 4, 167, 0, 4, 3, 172]
abbrev dktX0_in_0 : List UInt8 := dkwX0_in_0 ++ []
theorem dksX0_in_0 : cX0_in.data.toList.drop 0 = dktX0_in_0 := by decide +kernel
theorem dX0_in_0 : decode cX0_in 0 = .ok (.lload_n 0, 1) := dk_30 (dk_at dksX0_in_0 0 rfl rfl)
theorem dX0_in_1 : decode cX0_in 1 = .ok (.lload_n 2, 1) := dk_32 (dk_at dksX0_in_0 1 rfl rfl)
theorem dX0_in_2 : decode cX0_in 2 = .ok (.lcmp, 1) := dk_148 (dk_at dksX0_in_0 2 rfl rfl)
theorem dX0_in_3 : decode cX0_in 3 = .ok (.ifCond .lt 14, 3) := dk_155 0 14 (dk_at dksX0_in_0 3 rfl rfl)
theorem dX0_in_6 : decode cX0_in 6 = .ok (.lload_n 0, 1) := dk_30 (dk_at dksX0_in_0 6 rfl rfl)
theorem dX0_in_7 : decode cX0_in 7 = .ok (.lload 4, 2) := dk_22 4 (dk_at dksX0_in_0 7 rfl rfl)
theorem dX0_in_9 : decode cX0_in 9 = .ok (.lcmp, 1) := dk_148 (dk_at dksX0_in_0 9 rfl rfl)
theorem dX0_in_10 : decode cX0_in 10 = .ok (.ifCond .gt 7, 3) := dk_157 0 7 (dk_at dksX0_in_0 10 rfl rfl)
theorem dX0_in_13 : decode cX0_in 13 = .ok (.iconst 1, 1) := dk_4 (dk_at dksX0_in_0 13 rfl rfl)
theorem dX0_in_14 : decode cX0_in 14 = .ok (.goto 4, 3) := dk_167 0 4 (dk_at dksX0_in_0 14 rfl rfl)
theorem dX0_in_17 : decode cX0_in 17 = .ok (.iconst 0, 1) := dk_3 (dk_at dksX0_in_0 17 rfl rfl)
theorem dX0_in_18 : decode cX0_in 18 = .ok (.ireturn, 1) := dk_172 (dk_at dksX0_in_0 18 rfl rfl)
abbrev cX0_allOwedBy : ByteArray := prog_1_method_11_code
def yX0_allOwedBy : MethodName := ⟨RX0, "allOwedBy", "(I)I"⟩
def dkwX0_allOwedBy_1 : List UInt8 := [96, 61, 132, 3, 1, 167, 255, 231, 28, 172]
abbrev dktX0_allOwedBy_1 : List UInt8 := dkwX0_allOwedBy_1 ++ []
def dkwX0_allOwedBy_0 : List UInt8 := [3, 61, 3, 62, 29, 42, 180, 0, 18, 185, 0, 54, 1, 0, 162, 0, 18, 28, 42, 27, 29, 182, 0, 69]
abbrev dktX0_allOwedBy_0 : List UInt8 := dkwX0_allOwedBy_0 ++ dktX0_allOwedBy_1
theorem dksX0_allOwedBy_0 : cX0_allOwedBy.data.toList.drop 0 = dktX0_allOwedBy_0 := by decide +kernel
theorem dksX0_allOwedBy_1 : cX0_allOwedBy.data.toList.drop 24 = dktX0_allOwedBy_1 := dk_seg dksX0_allOwedBy_0 24 rfl rfl
theorem dX0_allOwedBy_0 : decode cX0_allOwedBy 0 = .ok (.iconst 0, 1) := dk_3 (dk_at dksX0_allOwedBy_0 0 rfl rfl)
theorem dX0_allOwedBy_1 : decode cX0_allOwedBy 1 = .ok (.istore_n 2, 1) := dk_61 (dk_at dksX0_allOwedBy_0 1 rfl rfl)
theorem dX0_allOwedBy_2 : decode cX0_allOwedBy 2 = .ok (.iconst 0, 1) := dk_3 (dk_at dksX0_allOwedBy_0 2 rfl rfl)
theorem dX0_allOwedBy_3 : decode cX0_allOwedBy 3 = .ok (.istore_n 3, 1) := dk_62 (dk_at dksX0_allOwedBy_0 3 rfl rfl)
theorem dX0_allOwedBy_4 : decode cX0_allOwedBy 4 = .ok (.iload_n 3, 1) := dk_29 (dk_at dksX0_allOwedBy_0 4 rfl rfl)
theorem dX0_allOwedBy_5 : decode cX0_allOwedBy 5 = .ok (.aload_n 0, 1) := dk_42 (dk_at dksX0_allOwedBy_0 5 rfl rfl)
theorem dX0_allOwedBy_6 : decode cX0_allOwedBy 6 = .ok (.getfield 18, 3) := dk_180 0 18 (dk_at dksX0_allOwedBy_0 6 rfl rfl)
theorem dX0_allOwedBy_9 : decode cX0_allOwedBy 9 = .ok (.invokeinterface 54 1, 5) := by decide +kernel
theorem dX0_allOwedBy_14 : decode cX0_allOwedBy 14 = .ok (.if_icmp .ge 18, 3) := dk_162 0 18 (dk_at dksX0_allOwedBy_0 14 rfl rfl)
theorem dX0_allOwedBy_17 : decode cX0_allOwedBy 17 = .ok (.iload_n 2, 1) := dk_28 (dk_at dksX0_allOwedBy_0 17 rfl rfl)
theorem dX0_allOwedBy_18 : decode cX0_allOwedBy 18 = .ok (.aload_n 0, 1) := dk_42 (dk_at dksX0_allOwedBy_0 18 rfl rfl)
theorem dX0_allOwedBy_19 : decode cX0_allOwedBy 19 = .ok (.iload_n 1, 1) := dk_27 (dk_at dksX0_allOwedBy_0 19 rfl rfl)
theorem dX0_allOwedBy_20 : decode cX0_allOwedBy 20 = .ok (.iload_n 3, 1) := dk_29 (dk_at dksX0_allOwedBy_0 20 rfl rfl)
theorem dX0_allOwedBy_21 : decode cX0_allOwedBy 21 = .ok (.invokevirtual 69, 3) := dk_182 0 69 (dk_at dksX0_allOwedBy_0 21 rfl rfl)
theorem dX0_allOwedBy_24 : decode cX0_allOwedBy 24 = .ok (.iadd, 1) := dk_96 (dk_at dksX0_allOwedBy_1 0 rfl rfl)
theorem dX0_allOwedBy_25 : decode cX0_allOwedBy 25 = .ok (.istore_n 2, 1) := dk_61 (dk_at dksX0_allOwedBy_1 1 rfl rfl)
theorem dX0_allOwedBy_26 : decode cX0_allOwedBy 26 = .ok (.iinc 3 1, 3) := dk_132 3 1 (dk_at dksX0_allOwedBy_1 2 rfl rfl)
theorem dX0_allOwedBy_29 : decode cX0_allOwedBy 29 = .ok (.goto (-25), 3) := dk_167 255 231 (dk_at dksX0_allOwedBy_1 5 rfl rfl)
theorem dX0_allOwedBy_32 : decode cX0_allOwedBy 32 = .ok (.iload_n 2, 1) := dk_28 (dk_at dksX0_allOwedBy_1 8 rfl rfl)
theorem dX0_allOwedBy_33 : decode cX0_allOwedBy 33 = .ok (.ireturn, 1) := dk_172 (dk_at dksX0_allOwedBy_1 9 rfl rfl)
abbrev cX0_noteOf : ByteArray := prog_1_method_10_code
def yX0_noteOf : MethodName := ⟨RX0, "noteOf", "(II)I"⟩
def dkwX0_noteOf_0 : List UInt8 := [42, 180, 0, 11, 27, 8, 104, 28, 96, 46, 172]
abbrev dktX0_noteOf_0 : List UInt8 := dkwX0_noteOf_0 ++ []
theorem dksX0_noteOf_0 : cX0_noteOf.data.toList.drop 0 = dktX0_noteOf_0 := by decide +kernel
theorem dX0_noteOf_0 : decode cX0_noteOf 0 = .ok (.aload_n 0, 1) := dk_42 (dk_at dksX0_noteOf_0 0 rfl rfl)
theorem dX0_noteOf_1 : decode cX0_noteOf 1 = .ok (.getfield 11, 3) := dk_180 0 11 (dk_at dksX0_noteOf_0 1 rfl rfl)
theorem dX0_noteOf_4 : decode cX0_noteOf 4 = .ok (.iload_n 1, 1) := dk_27 (dk_at dksX0_noteOf_0 4 rfl rfl)
theorem dX0_noteOf_5 : decode cX0_noteOf 5 = .ok (.iconst 5, 1) := dk_8 (dk_at dksX0_noteOf_0 5 rfl rfl)
theorem dX0_noteOf_6 : decode cX0_noteOf 6 = .ok (.imul, 1) := dk_104 (dk_at dksX0_noteOf_0 6 rfl rfl)
theorem dX0_noteOf_7 : decode cX0_noteOf 7 = .ok (.iload_n 2, 1) := dk_28 (dk_at dksX0_noteOf_0 7 rfl rfl)
theorem dX0_noteOf_8 : decode cX0_noteOf 8 = .ok (.iadd, 1) := dk_96 (dk_at dksX0_noteOf_0 8 rfl rfl)
theorem dX0_noteOf_9 : decode cX0_noteOf 9 = .ok (.iaload, 1) := dk_46 (dk_at dksX0_noteOf_0 9 rfl rfl)
theorem dX0_noteOf_10 : decode cX0_noteOf 10 = .ok (.ireturn, 1) := dk_172 (dk_at dksX0_noteOf_0 10 rfl rfl)
abbrev cX0_owes : ByteArray := prog_1_method_17_code
def yX0_owes : MethodName := ⟨RX0, "owes", "(II)I"⟩
def dkwX0_owes_1 : List UInt8 := [182, 0, 69, 172]
abbrev dktX0_owes_1 : List UInt8 := dkwX0_owes_1 ++ []
def dkwX0_owes_0 : List UInt8 := [42, 27, 182, 0, 62, 154, 0, 11, 42, 28, 182, 0, 62, 153, 0, 7, 2, 167, 0, 9, 42, 27, 28]
abbrev dktX0_owes_0 : List UInt8 := dkwX0_owes_0 ++ dktX0_owes_1
theorem dksX0_owes_0 : cX0_owes.data.toList.drop 0 = dktX0_owes_0 := by decide +kernel
theorem dksX0_owes_1 : cX0_owes.data.toList.drop 23 = dktX0_owes_1 := dk_seg dksX0_owes_0 23 rfl rfl
theorem dX0_owes_0 : decode cX0_owes 0 = .ok (.aload_n 0, 1) := dk_42 (dk_at dksX0_owes_0 0 rfl rfl)
theorem dX0_owes_1 : decode cX0_owes 1 = .ok (.iload_n 1, 1) := dk_27 (dk_at dksX0_owes_0 1 rfl rfl)
theorem dX0_owes_2 : decode cX0_owes 2 = .ok (.invokevirtual 62, 3) := dk_182 0 62 (dk_at dksX0_owes_0 2 rfl rfl)
theorem dX0_owes_5 : decode cX0_owes 5 = .ok (.ifCond .ne 11, 3) := dk_154 0 11 (dk_at dksX0_owes_0 5 rfl rfl)
theorem dX0_owes_8 : decode cX0_owes 8 = .ok (.aload_n 0, 1) := dk_42 (dk_at dksX0_owes_0 8 rfl rfl)
theorem dX0_owes_9 : decode cX0_owes 9 = .ok (.iload_n 2, 1) := dk_28 (dk_at dksX0_owes_0 9 rfl rfl)
theorem dX0_owes_10 : decode cX0_owes 10 = .ok (.invokevirtual 62, 3) := dk_182 0 62 (dk_at dksX0_owes_0 10 rfl rfl)
theorem dX0_owes_13 : decode cX0_owes 13 = .ok (.ifCond .eq 7, 3) := dk_153 0 7 (dk_at dksX0_owes_0 13 rfl rfl)
theorem dX0_owes_16 : decode cX0_owes 16 = .ok (.iconst (-1), 1) := dk_2 (dk_at dksX0_owes_0 16 rfl rfl)
theorem dX0_owes_17 : decode cX0_owes 17 = .ok (.goto 9, 3) := dk_167 0 9 (dk_at dksX0_owes_0 17 rfl rfl)
theorem dX0_owes_20 : decode cX0_owes 20 = .ok (.aload_n 0, 1) := dk_42 (dk_at dksX0_owes_0 20 rfl rfl)
theorem dX0_owes_21 : decode cX0_owes 21 = .ok (.iload_n 1, 1) := dk_27 (dk_at dksX0_owes_0 21 rfl rfl)
theorem dX0_owes_22 : decode cX0_owes 22 = .ok (.iload_n 2, 1) := dk_28 (dk_at dksX0_owes_0 22 rfl rfl)
theorem dX0_owes_23 : decode cX0_owes 23 = .ok (.invokevirtual 69, 3) := dk_182 0 69 (dk_at dksX0_owes_1 0 rfl rfl)
theorem dX0_owes_26 : decode cX0_owes 26 = .ok (.ireturn, 1) := dk_172 (dk_at dksX0_owes_1 3 rfl rfl)
abbrev cX0_lend : ByteArray := prog_1_method_18_code
def yX0_lend : MethodName := ⟨RX0, "lend", "(III)I"⟩
def dkwX0_lend_2 : List UInt8 := [172]
abbrev dktX0_lend_2 : List UInt8 := dkwX0_lend_2 ++ []
def dkwX0_lend_1 : List UInt8 := [16, 254, 172, 42, 27, 28, 182, 0, 69, 54, 4, 42, 180, 0, 11, 27, 8, 104, 28, 96, 29, 79, 21, 4]
abbrev dktX0_lend_1 : List UInt8 := dkwX0_lend_1 ++ dktX0_lend_2
def dkwX0_lend_0 : List UInt8 := [42, 27, 28, 182, 0, 124, 153, 0, 5, 2, 172, 29, 133, 9, 20, 0, 128, 184, 0, 58, 154, 0, 6]
abbrev dktX0_lend_0 : List UInt8 := dkwX0_lend_0 ++ dktX0_lend_1
theorem dksX0_lend_0 : cX0_lend.data.toList.drop 0 = dktX0_lend_0 := by decide +kernel
theorem dksX0_lend_1 : cX0_lend.data.toList.drop 23 = dktX0_lend_1 := dk_seg dksX0_lend_0 23 rfl rfl
theorem dksX0_lend_2 : cX0_lend.data.toList.drop 47 = dktX0_lend_2 := dk_seg dksX0_lend_1 24 rfl rfl
theorem dX0_lend_0 : decode cX0_lend 0 = .ok (.aload_n 0, 1) := dk_42 (dk_at dksX0_lend_0 0 rfl rfl)
theorem dX0_lend_1 : decode cX0_lend 1 = .ok (.iload_n 1, 1) := dk_27 (dk_at dksX0_lend_0 1 rfl rfl)
theorem dX0_lend_2 : decode cX0_lend 2 = .ok (.iload_n 2, 1) := dk_28 (dk_at dksX0_lend_0 2 rfl rfl)
theorem dX0_lend_3 : decode cX0_lend 3 = .ok (.invokevirtual 124, 3) := dk_182 0 124 (dk_at dksX0_lend_0 3 rfl rfl)
theorem dX0_lend_6 : decode cX0_lend 6 = .ok (.ifCond .eq 5, 3) := dk_153 0 5 (dk_at dksX0_lend_0 6 rfl rfl)
theorem dX0_lend_9 : decode cX0_lend 9 = .ok (.iconst (-1), 1) := dk_2 (dk_at dksX0_lend_0 9 rfl rfl)
theorem dX0_lend_10 : decode cX0_lend 10 = .ok (.ireturn, 1) := dk_172 (dk_at dksX0_lend_0 10 rfl rfl)
theorem dX0_lend_11 : decode cX0_lend 11 = .ok (.iload_n 3, 1) := dk_29 (dk_at dksX0_lend_0 11 rfl rfl)
theorem dX0_lend_12 : decode cX0_lend 12 = .ok (.i2l, 1) := dk_133 (dk_at dksX0_lend_0 12 rfl rfl)
theorem dX0_lend_13 : decode cX0_lend 13 = .ok (.lconst 0, 1) := dk_9 (dk_at dksX0_lend_0 13 rfl rfl)
theorem dX0_lend_14 : decode cX0_lend 14 = .ok (.ldc2_w 128, 3) := dk_20 0 128 (dk_at dksX0_lend_0 14 rfl rfl)
theorem dX0_lend_17 : decode cX0_lend 17 = .ok (.invokestatic 58, 3) := dk_184 0 58 (dk_at dksX0_lend_0 17 rfl rfl)
theorem dX0_lend_20 : decode cX0_lend 20 = .ok (.ifCond .ne 6, 3) := dk_154 0 6 (dk_at dksX0_lend_0 20 rfl rfl)
theorem dX0_lend_23 : decode cX0_lend 23 = .ok (.bipush (-2), 2) := dk_16 254 (dk_at dksX0_lend_1 0 rfl rfl)
theorem dX0_lend_25 : decode cX0_lend 25 = .ok (.ireturn, 1) := dk_172 (dk_at dksX0_lend_1 2 rfl rfl)
theorem dX0_lend_26 : decode cX0_lend 26 = .ok (.aload_n 0, 1) := dk_42 (dk_at dksX0_lend_1 3 rfl rfl)
theorem dX0_lend_27 : decode cX0_lend 27 = .ok (.iload_n 1, 1) := dk_27 (dk_at dksX0_lend_1 4 rfl rfl)
theorem dX0_lend_28 : decode cX0_lend 28 = .ok (.iload_n 2, 1) := dk_28 (dk_at dksX0_lend_1 5 rfl rfl)
theorem dX0_lend_29 : decode cX0_lend 29 = .ok (.invokevirtual 69, 3) := dk_182 0 69 (dk_at dksX0_lend_1 6 rfl rfl)
theorem dX0_lend_32 : decode cX0_lend 32 = .ok (.istore 4, 2) := dk_54 4 (dk_at dksX0_lend_1 9 rfl rfl)
theorem dX0_lend_34 : decode cX0_lend 34 = .ok (.aload_n 0, 1) := dk_42 (dk_at dksX0_lend_1 11 rfl rfl)
theorem dX0_lend_35 : decode cX0_lend 35 = .ok (.getfield 11, 3) := dk_180 0 11 (dk_at dksX0_lend_1 12 rfl rfl)
theorem dX0_lend_38 : decode cX0_lend 38 = .ok (.iload_n 1, 1) := dk_27 (dk_at dksX0_lend_1 15 rfl rfl)
theorem dX0_lend_39 : decode cX0_lend 39 = .ok (.iconst 5, 1) := dk_8 (dk_at dksX0_lend_1 16 rfl rfl)
theorem dX0_lend_40 : decode cX0_lend 40 = .ok (.imul, 1) := dk_104 (dk_at dksX0_lend_1 17 rfl rfl)
theorem dX0_lend_41 : decode cX0_lend 41 = .ok (.iload_n 2, 1) := dk_28 (dk_at dksX0_lend_1 18 rfl rfl)
theorem dX0_lend_42 : decode cX0_lend 42 = .ok (.iadd, 1) := dk_96 (dk_at dksX0_lend_1 19 rfl rfl)
theorem dX0_lend_43 : decode cX0_lend 43 = .ok (.iload_n 3, 1) := dk_29 (dk_at dksX0_lend_1 20 rfl rfl)
theorem dX0_lend_44 : decode cX0_lend 44 = .ok (.iastore, 1) := dk_79 (dk_at dksX0_lend_1 21 rfl rfl)
theorem dX0_lend_45 : decode cX0_lend 45 = .ok (.iload 4, 2) := dk_21 4 (dk_at dksX0_lend_1 22 rfl rfl)
theorem dX0_lend_47 : decode cX0_lend 47 = .ok (.ireturn, 1) := dk_172 (dk_at dksX0_lend_2 0 rfl rfl)
abbrev cX0_isNoNote : ByteArray := prog_1_method_7_code
def yX0_isNoNote : MethodName := ⟨RX0, "isNoNote", "(II)Z"⟩
def dkwX0_isNoNote_1 : List UInt8 := [167, 0, 4, 3, 172]
abbrev dktX0_isNoNote_1 : List UInt8 := dkwX0_isNoNote_1 ++ []
def dkwX0_isNoNote_0 : List UInt8 := [42, 27, 182, 0, 62, 154, 0, 16, 42, 28, 182, 0, 62, 154, 0, 8, 27, 28, 160, 0, 7, 4]
abbrev dktX0_isNoNote_0 : List UInt8 := dkwX0_isNoNote_0 ++ dktX0_isNoNote_1
theorem dksX0_isNoNote_0 : cX0_isNoNote.data.toList.drop 0 = dktX0_isNoNote_0 := by decide +kernel
theorem dksX0_isNoNote_1 : cX0_isNoNote.data.toList.drop 22 = dktX0_isNoNote_1 := dk_seg dksX0_isNoNote_0 22 rfl rfl
theorem dX0_isNoNote_0 : decode cX0_isNoNote 0 = .ok (.aload_n 0, 1) := dk_42 (dk_at dksX0_isNoNote_0 0 rfl rfl)
theorem dX0_isNoNote_1 : decode cX0_isNoNote 1 = .ok (.iload_n 1, 1) := dk_27 (dk_at dksX0_isNoNote_0 1 rfl rfl)
theorem dX0_isNoNote_2 : decode cX0_isNoNote 2 = .ok (.invokevirtual 62, 3) := dk_182 0 62 (dk_at dksX0_isNoNote_0 2 rfl rfl)
theorem dX0_isNoNote_5 : decode cX0_isNoNote 5 = .ok (.ifCond .ne 16, 3) := dk_154 0 16 (dk_at dksX0_isNoNote_0 5 rfl rfl)
theorem dX0_isNoNote_8 : decode cX0_isNoNote 8 = .ok (.aload_n 0, 1) := dk_42 (dk_at dksX0_isNoNote_0 8 rfl rfl)
theorem dX0_isNoNote_9 : decode cX0_isNoNote 9 = .ok (.iload_n 2, 1) := dk_28 (dk_at dksX0_isNoNote_0 9 rfl rfl)
theorem dX0_isNoNote_10 : decode cX0_isNoNote 10 = .ok (.invokevirtual 62, 3) := dk_182 0 62 (dk_at dksX0_isNoNote_0 10 rfl rfl)
theorem dX0_isNoNote_13 : decode cX0_isNoNote 13 = .ok (.ifCond .ne 8, 3) := dk_154 0 8 (dk_at dksX0_isNoNote_0 13 rfl rfl)
theorem dX0_isNoNote_16 : decode cX0_isNoNote 16 = .ok (.iload_n 1, 1) := dk_27 (dk_at dksX0_isNoNote_0 16 rfl rfl)
theorem dX0_isNoNote_17 : decode cX0_isNoNote 17 = .ok (.iload_n 2, 1) := dk_28 (dk_at dksX0_isNoNote_0 17 rfl rfl)
theorem dX0_isNoNote_18 : decode cX0_isNoNote 18 = .ok (.if_icmp .ne 7, 3) := dk_160 0 7 (dk_at dksX0_isNoNote_0 18 rfl rfl)
theorem dX0_isNoNote_21 : decode cX0_isNoNote 21 = .ok (.iconst 1, 1) := dk_4 (dk_at dksX0_isNoNote_0 21 rfl rfl)
theorem dX0_isNoNote_22 : decode cX0_isNoNote 22 = .ok (.goto 4, 3) := dk_167 0 4 (dk_at dksX0_isNoNote_1 0 rfl rfl)
theorem dX0_isNoNote_25 : decode cX0_isNoNote 25 = .ok (.iconst 0, 1) := dk_3 (dk_at dksX0_isNoNote_1 3 rfl rfl)
theorem dX0_isNoNote_26 : decode cX0_isNoNote 26 = .ok (.ireturn, 1) := dk_172 (dk_at dksX0_isNoNote_1 4 rfl rfl)
abbrev cX0_count : ByteArray := prog_1_method_19_code
def yX0_count : MethodName := ⟨RX0, "count", "(I)I"⟩
def dkwX0_count_1 : List UInt8 := [172, 42, 180, 0, 99, 61, 42, 27, 181, 0, 99, 28, 172]
abbrev dktX0_count_1 : List UInt8 := dkwX0_count_1 ++ []
def dkwX0_count_0 : List UInt8 := [27, 133, 10, 20, 0, 130, 184, 0, 58, 154, 0, 6, 16, 254, 172, 42, 182, 0, 132, 153, 0, 6, 16, 253]
abbrev dktX0_count_0 : List UInt8 := dkwX0_count_0 ++ dktX0_count_1
theorem dksX0_count_0 : cX0_count.data.toList.drop 0 = dktX0_count_0 := by decide +kernel
theorem dksX0_count_1 : cX0_count.data.toList.drop 24 = dktX0_count_1 := dk_seg dksX0_count_0 24 rfl rfl
theorem dX0_count_0 : decode cX0_count 0 = .ok (.iload_n 1, 1) := dk_27 (dk_at dksX0_count_0 0 rfl rfl)
theorem dX0_count_1 : decode cX0_count 1 = .ok (.i2l, 1) := dk_133 (dk_at dksX0_count_0 1 rfl rfl)
theorem dX0_count_2 : decode cX0_count 2 = .ok (.lconst 1, 1) := dk_10 (dk_at dksX0_count_0 2 rfl rfl)
theorem dX0_count_3 : decode cX0_count 3 = .ok (.ldc2_w 130, 3) := dk_20 0 130 (dk_at dksX0_count_0 3 rfl rfl)
theorem dX0_count_6 : decode cX0_count 6 = .ok (.invokestatic 58, 3) := dk_184 0 58 (dk_at dksX0_count_0 6 rfl rfl)
theorem dX0_count_9 : decode cX0_count 9 = .ok (.ifCond .ne 6, 3) := dk_154 0 6 (dk_at dksX0_count_0 9 rfl rfl)
theorem dX0_count_12 : decode cX0_count 12 = .ok (.bipush (-2), 2) := dk_16 254 (dk_at dksX0_count_0 12 rfl rfl)
theorem dX0_count_14 : decode cX0_count 14 = .ok (.ireturn, 1) := dk_172 (dk_at dksX0_count_0 14 rfl rfl)
theorem dX0_count_15 : decode cX0_count 15 = .ok (.aload_n 0, 1) := dk_42 (dk_at dksX0_count_0 15 rfl rfl)
theorem dX0_count_16 : decode cX0_count 16 = .ok (.invokevirtual 132, 3) := dk_182 0 132 (dk_at dksX0_count_0 16 rfl rfl)
theorem dX0_count_19 : decode cX0_count 19 = .ok (.ifCond .eq 6, 3) := dk_153 0 6 (dk_at dksX0_count_0 19 rfl rfl)
theorem dX0_count_22 : decode cX0_count 22 = .ok (.bipush (-3), 2) := dk_16 253 (dk_at dksX0_count_0 22 rfl rfl)
theorem dX0_count_24 : decode cX0_count 24 = .ok (.ireturn, 1) := dk_172 (dk_at dksX0_count_1 0 rfl rfl)
theorem dX0_count_25 : decode cX0_count 25 = .ok (.aload_n 0, 1) := dk_42 (dk_at dksX0_count_1 1 rfl rfl)
theorem dX0_count_26 : decode cX0_count 26 = .ok (.getfield 99, 3) := dk_180 0 99 (dk_at dksX0_count_1 2 rfl rfl)
theorem dX0_count_29 : decode cX0_count 29 = .ok (.istore_n 2, 1) := dk_61 (dk_at dksX0_count_1 5 rfl rfl)
theorem dX0_count_30 : decode cX0_count 30 = .ok (.aload_n 0, 1) := dk_42 (dk_at dksX0_count_1 6 rfl rfl)
theorem dX0_count_31 : decode cX0_count 31 = .ok (.iload_n 1, 1) := dk_27 (dk_at dksX0_count_1 7 rfl rfl)
theorem dX0_count_32 : decode cX0_count 32 = .ok (.putfield 99, 3) := dk_181 0 99 (dk_at dksX0_count_1 8 rfl rfl)
theorem dX0_count_35 : decode cX0_count 35 = .ok (.iload_n 2, 1) := dk_28 (dk_at dksX0_count_1 11 rfl rfl)
theorem dX0_count_36 : decode cX0_count 36 = .ok (.ireturn, 1) := dk_172 (dk_at dksX0_count_1 12 rfl rfl)
abbrev cX0_noRiver : ByteArray := prog_1_method_5_code
def yX0_noRiver : MethodName := ⟨RX0, "noRiver", "()Z"⟩
def dkwX0_noRiver_0 : List UInt8 := [42, 180, 0, 18, 185, 0, 48, 1, 0, 172]
abbrev dktX0_noRiver_0 : List UInt8 := dkwX0_noRiver_0 ++ []
theorem dksX0_noRiver_0 : cX0_noRiver.data.toList.drop 0 = dktX0_noRiver_0 := by decide +kernel
theorem dX0_noRiver_0 : decode cX0_noRiver 0 = .ok (.aload_n 0, 1) := dk_42 (dk_at dksX0_noRiver_0 0 rfl rfl)
theorem dX0_noRiver_1 : decode cX0_noRiver 1 = .ok (.getfield 18, 3) := dk_180 0 18 (dk_at dksX0_noRiver_0 1 rfl rfl)
theorem dX0_noRiver_4 : decode cX0_noRiver 4 = .ok (.invokeinterface 48 1, 5) := by decide +kernel
theorem dX0_noRiver_9 : decode cX0_noRiver 9 = .ok (.ireturn, 1) := dk_172 (dk_at dksX0_noRiver_0 9 rfl rfl)
abbrev cX0_build : ByteArray := prog_1_method_20_code
def yX0_build : MethodName := ⟨RX0, "build", "(I)I"⟩
def dkwX0_build_1 : List UInt8 := [172, 42, 180, 0, 95, 61, 42, 27, 181, 0, 95, 28, 172]
abbrev dktX0_build_1 : List UInt8 := dkwX0_build_1 ++ []
def dkwX0_build_0 : List UInt8 := [27, 133, 10, 20, 0, 130, 184, 0, 58, 154, 0, 6, 16, 254, 172, 42, 182, 0, 132, 153, 0, 6, 16, 253]
abbrev dktX0_build_0 : List UInt8 := dkwX0_build_0 ++ dktX0_build_1
theorem dksX0_build_0 : cX0_build.data.toList.drop 0 = dktX0_build_0 := by decide +kernel
theorem dksX0_build_1 : cX0_build.data.toList.drop 24 = dktX0_build_1 := dk_seg dksX0_build_0 24 rfl rfl
theorem dX0_build_0 : decode cX0_build 0 = .ok (.iload_n 1, 1) := dk_27 (dk_at dksX0_build_0 0 rfl rfl)
theorem dX0_build_1 : decode cX0_build 1 = .ok (.i2l, 1) := dk_133 (dk_at dksX0_build_0 1 rfl rfl)
theorem dX0_build_2 : decode cX0_build 2 = .ok (.lconst 1, 1) := dk_10 (dk_at dksX0_build_0 2 rfl rfl)
theorem dX0_build_3 : decode cX0_build 3 = .ok (.ldc2_w 130, 3) := dk_20 0 130 (dk_at dksX0_build_0 3 rfl rfl)
theorem dX0_build_6 : decode cX0_build 6 = .ok (.invokestatic 58, 3) := dk_184 0 58 (dk_at dksX0_build_0 6 rfl rfl)
theorem dX0_build_9 : decode cX0_build 9 = .ok (.ifCond .ne 6, 3) := dk_154 0 6 (dk_at dksX0_build_0 9 rfl rfl)
theorem dX0_build_12 : decode cX0_build 12 = .ok (.bipush (-2), 2) := dk_16 254 (dk_at dksX0_build_0 12 rfl rfl)
theorem dX0_build_14 : decode cX0_build 14 = .ok (.ireturn, 1) := dk_172 (dk_at dksX0_build_0 14 rfl rfl)
theorem dX0_build_15 : decode cX0_build 15 = .ok (.aload_n 0, 1) := dk_42 (dk_at dksX0_build_0 15 rfl rfl)
theorem dX0_build_16 : decode cX0_build 16 = .ok (.invokevirtual 132, 3) := dk_182 0 132 (dk_at dksX0_build_0 16 rfl rfl)
theorem dX0_build_19 : decode cX0_build 19 = .ok (.ifCond .eq 6, 3) := dk_153 0 6 (dk_at dksX0_build_0 19 rfl rfl)
theorem dX0_build_22 : decode cX0_build 22 = .ok (.bipush (-3), 2) := dk_16 253 (dk_at dksX0_build_0 22 rfl rfl)
theorem dX0_build_24 : decode cX0_build 24 = .ok (.ireturn, 1) := dk_172 (dk_at dksX0_build_1 0 rfl rfl)
theorem dX0_build_25 : decode cX0_build 25 = .ok (.aload_n 0, 1) := dk_42 (dk_at dksX0_build_1 1 rfl rfl)
theorem dX0_build_26 : decode cX0_build 26 = .ok (.getfield 95, 3) := dk_180 0 95 (dk_at dksX0_build_1 2 rfl rfl)
theorem dX0_build_29 : decode cX0_build 29 = .ok (.istore_n 2, 1) := dk_61 (dk_at dksX0_build_1 5 rfl rfl)
theorem dX0_build_30 : decode cX0_build 30 = .ok (.aload_n 0, 1) := dk_42 (dk_at dksX0_build_1 6 rfl rfl)
theorem dX0_build_31 : decode cX0_build 31 = .ok (.iload_n 1, 1) := dk_27 (dk_at dksX0_build_1 7 rfl rfl)
theorem dX0_build_32 : decode cX0_build 32 = .ok (.putfield 95, 3) := dk_181 0 95 (dk_at dksX0_build_1 8 rfl rfl)
theorem dX0_build_35 : decode cX0_build 35 = .ok (.iload_n 2, 1) := dk_28 (dk_at dksX0_build_1 11 rfl rfl)
theorem dX0_build_36 : decode cX0_build 36 = .ok (.ireturn, 1) := dk_172 (dk_at dksX0_build_1 12 rfl rfl)
abbrev cX0_debt : ByteArray := prog_1_method_23_code
def yX0_debt : MethodName := ⟨RX0, "debt", "(II)I"⟩
def dkwX0_debt_2 : List UInt8 := [167, 0, 5, 16, 253, 172]
abbrev dktX0_debt_2 : List UInt8 := dkwX0_debt_2 ++ []
def dkwX0_debt_1 : List UInt8 := [184, 0, 135, 153, 0, 23, 42, 180, 0, 18, 27, 185, 0, 109, 2, 0, 192, 0, 37, 28, 182, 0, 138]
abbrev dktX0_debt_1 : List UInt8 := dkwX0_debt_1 ++ dktX0_debt_2
def dkwX0_debt_0 : List UInt8 := [42, 27, 182, 0, 62, 153, 0, 5, 2, 172, 42, 28, 182, 0, 157, 154, 0, 6, 16, 254, 172, 28, 27]
abbrev dktX0_debt_0 : List UInt8 := dkwX0_debt_0 ++ dktX0_debt_1
theorem dksX0_debt_0 : cX0_debt.data.toList.drop 0 = dktX0_debt_0 := by decide +kernel
theorem dksX0_debt_1 : cX0_debt.data.toList.drop 23 = dktX0_debt_1 := dk_seg dksX0_debt_0 23 rfl rfl
theorem dksX0_debt_2 : cX0_debt.data.toList.drop 46 = dktX0_debt_2 := dk_seg dksX0_debt_1 23 rfl rfl
theorem dX0_debt_0 : decode cX0_debt 0 = .ok (.aload_n 0, 1) := dk_42 (dk_at dksX0_debt_0 0 rfl rfl)
theorem dX0_debt_1 : decode cX0_debt 1 = .ok (.iload_n 1, 1) := dk_27 (dk_at dksX0_debt_0 1 rfl rfl)
theorem dX0_debt_2 : decode cX0_debt 2 = .ok (.invokevirtual 62, 3) := dk_182 0 62 (dk_at dksX0_debt_0 2 rfl rfl)
theorem dX0_debt_5 : decode cX0_debt 5 = .ok (.ifCond .eq 5, 3) := dk_153 0 5 (dk_at dksX0_debt_0 5 rfl rfl)
theorem dX0_debt_8 : decode cX0_debt 8 = .ok (.iconst (-1), 1) := dk_2 (dk_at dksX0_debt_0 8 rfl rfl)
theorem dX0_debt_9 : decode cX0_debt 9 = .ok (.ireturn, 1) := dk_172 (dk_at dksX0_debt_0 9 rfl rfl)
theorem dX0_debt_10 : decode cX0_debt 10 = .ok (.aload_n 0, 1) := dk_42 (dk_at dksX0_debt_0 10 rfl rfl)
theorem dX0_debt_11 : decode cX0_debt 11 = .ok (.iload_n 2, 1) := dk_28 (dk_at dksX0_debt_0 11 rfl rfl)
theorem dX0_debt_12 : decode cX0_debt 12 = .ok (.invokevirtual 157, 3) := dk_182 0 157 (dk_at dksX0_debt_0 12 rfl rfl)
theorem dX0_debt_15 : decode cX0_debt 15 = .ok (.ifCond .ne 6, 3) := dk_154 0 6 (dk_at dksX0_debt_0 15 rfl rfl)
theorem dX0_debt_18 : decode cX0_debt 18 = .ok (.bipush (-2), 2) := dk_16 254 (dk_at dksX0_debt_0 18 rfl rfl)
theorem dX0_debt_20 : decode cX0_debt 20 = .ok (.ireturn, 1) := dk_172 (dk_at dksX0_debt_0 20 rfl rfl)
theorem dX0_debt_21 : decode cX0_debt 21 = .ok (.iload_n 2, 1) := dk_28 (dk_at dksX0_debt_0 21 rfl rfl)
theorem dX0_debt_22 : decode cX0_debt 22 = .ok (.iload_n 1, 1) := dk_27 (dk_at dksX0_debt_0 22 rfl rfl)
theorem dX0_debt_23 : decode cX0_debt 23 = .ok (.invokestatic 135, 3) := dk_184 0 135 (dk_at dksX0_debt_1 0 rfl rfl)
theorem dX0_debt_26 : decode cX0_debt 26 = .ok (.ifCond .eq 23, 3) := dk_153 0 23 (dk_at dksX0_debt_1 3 rfl rfl)
theorem dX0_debt_29 : decode cX0_debt 29 = .ok (.aload_n 0, 1) := dk_42 (dk_at dksX0_debt_1 6 rfl rfl)
theorem dX0_debt_30 : decode cX0_debt 30 = .ok (.getfield 18, 3) := dk_180 0 18 (dk_at dksX0_debt_1 7 rfl rfl)
theorem dX0_debt_33 : decode cX0_debt 33 = .ok (.iload_n 1, 1) := dk_27 (dk_at dksX0_debt_1 10 rfl rfl)
theorem dX0_debt_34 : decode cX0_debt 34 = .ok (.invokeinterface 109 2, 5) := by decide +kernel
theorem dX0_debt_39 : decode cX0_debt 39 = .ok (.checkcast 37, 3) := dk_192 0 37 (dk_at dksX0_debt_1 16 rfl rfl)
theorem dX0_debt_42 : decode cX0_debt 42 = .ok (.iload_n 2, 1) := dk_28 (dk_at dksX0_debt_1 19 rfl rfl)
theorem dX0_debt_43 : decode cX0_debt 43 = .ok (.invokevirtual 138, 3) := dk_182 0 138 (dk_at dksX0_debt_1 20 rfl rfl)
theorem dX0_debt_46 : decode cX0_debt 46 = .ok (.goto 5, 3) := dk_167 0 5 (dk_at dksX0_debt_2 0 rfl rfl)
theorem dX0_debt_49 : decode cX0_debt 49 = .ok (.bipush (-3), 2) := dk_16 253 (dk_at dksX0_debt_2 3 rfl rfl)
theorem dX0_debt_51 : decode cX0_debt 51 = .ok (.ireturn, 1) := dk_172 (dk_at dksX0_debt_2 5 rfl rfl)
abbrev cX0_isLoad : ByteArray := prog_1_method_9_code
def yX0_isLoad : MethodName := ⟨RX0, "isLoad", "(I)Z"⟩
def dkwX0_isLoad_0 : List UInt8 := [27, 133, 9, 42, 182, 0, 66, 133, 184, 0, 58, 172]
abbrev dktX0_isLoad_0 : List UInt8 := dkwX0_isLoad_0 ++ []
theorem dksX0_isLoad_0 : cX0_isLoad.data.toList.drop 0 = dktX0_isLoad_0 := by decide +kernel
theorem dX0_isLoad_0 : decode cX0_isLoad 0 = .ok (.iload_n 1, 1) := dk_27 (dk_at dksX0_isLoad_0 0 rfl rfl)
theorem dX0_isLoad_1 : decode cX0_isLoad 1 = .ok (.i2l, 1) := dk_133 (dk_at dksX0_isLoad_0 1 rfl rfl)
theorem dX0_isLoad_2 : decode cX0_isLoad 2 = .ok (.lconst 0, 1) := dk_9 (dk_at dksX0_isLoad_0 2 rfl rfl)
theorem dX0_isLoad_3 : decode cX0_isLoad 3 = .ok (.aload_n 0, 1) := dk_42 (dk_at dksX0_isLoad_0 3 rfl rfl)
theorem dX0_isLoad_4 : decode cX0_isLoad 4 = .ok (.invokevirtual 66, 3) := dk_182 0 66 (dk_at dksX0_isLoad_0 4 rfl rfl)
theorem dX0_isLoad_7 : decode cX0_isLoad 7 = .ok (.i2l, 1) := dk_133 (dk_at dksX0_isLoad_0 7 rfl rfl)
theorem dX0_isLoad_8 : decode cX0_isLoad 8 = .ok (.invokestatic 58, 3) := dk_184 0 58 (dk_at dksX0_isLoad_0 8 rfl rfl)
theorem dX0_isLoad_11 : decode cX0_isLoad 11 = .ok (.ireturn, 1) := dk_172 (dk_at dksX0_isLoad_0 11 rfl rfl)
abbrev cX0_everyone : ByteArray := prog_1_method_8_code
def yX0_everyone : MethodName := ⟨RX0, "everyone", "()I"⟩
def dkwX0_everyone_0 : List UInt8 := [4, 42, 180, 0, 18, 185, 0, 54, 1, 0, 120, 4, 100, 172]
abbrev dktX0_everyone_0 : List UInt8 := dkwX0_everyone_0 ++ []
theorem dksX0_everyone_0 : cX0_everyone.data.toList.drop 0 = dktX0_everyone_0 := by decide +kernel
theorem dX0_everyone_0 : decode cX0_everyone 0 = .ok (.iconst 1, 1) := dk_4 (dk_at dksX0_everyone_0 0 rfl rfl)
theorem dX0_everyone_1 : decode cX0_everyone 1 = .ok (.aload_n 0, 1) := dk_42 (dk_at dksX0_everyone_0 1 rfl rfl)
theorem dX0_everyone_2 : decode cX0_everyone 2 = .ok (.getfield 18, 3) := dk_180 0 18 (dk_at dksX0_everyone_0 2 rfl rfl)
theorem dX0_everyone_5 : decode cX0_everyone 5 = .ok (.invokeinterface 54 1, 5) := by decide +kernel
theorem dX0_everyone_10 : decode cX0_everyone 10 = .ok (.ishl, 1) := dk_120 (dk_at dksX0_everyone_0 10 rfl rfl)
theorem dX0_everyone_11 : decode cX0_everyone 11 = .ok (.iconst 1, 1) := dk_4 (dk_at dksX0_everyone_0 11 rfl rfl)
theorem dX0_everyone_12 : decode cX0_everyone 12 = .ok (.isub, 1) := dk_100 (dk_at dksX0_everyone_0 12 rfl rfl)
theorem dX0_everyone_13 : decode cX0_everyone 13 = .ok (.ireturn, 1) := dk_172 (dk_at dksX0_everyone_0 13 rfl rfl)
abbrev cX0_isIn : ByteArray := prog_1_method_2_code
def yX0_isIn : MethodName := ⟨RX0, "isIn", "(II)Z"⟩
def dkwX0_isIn_0 : List UInt8 := [26, 27, 122, 4, 126, 4, 160, 0, 7, 4, 167, 0, 4, 3, 172]
abbrev dktX0_isIn_0 : List UInt8 := dkwX0_isIn_0 ++ []
theorem dksX0_isIn_0 : cX0_isIn.data.toList.drop 0 = dktX0_isIn_0 := by decide +kernel
theorem dX0_isIn_0 : decode cX0_isIn 0 = .ok (.iload_n 0, 1) := dk_26 (dk_at dksX0_isIn_0 0 rfl rfl)
theorem dX0_isIn_1 : decode cX0_isIn 1 = .ok (.iload_n 1, 1) := dk_27 (dk_at dksX0_isIn_0 1 rfl rfl)
theorem dX0_isIn_2 : decode cX0_isIn 2 = .ok (.ishr, 1) := dk_122 (dk_at dksX0_isIn_0 2 rfl rfl)
theorem dX0_isIn_3 : decode cX0_isIn 3 = .ok (.iconst 1, 1) := dk_4 (dk_at dksX0_isIn_0 3 rfl rfl)
theorem dX0_isIn_4 : decode cX0_isIn 4 = .ok (.iand, 1) := dk_126 (dk_at dksX0_isIn_0 4 rfl rfl)
theorem dX0_isIn_5 : decode cX0_isIn 5 = .ok (.iconst 1, 1) := dk_4 (dk_at dksX0_isIn_0 5 rfl rfl)
theorem dX0_isIn_6 : decode cX0_isIn 6 = .ok (.if_icmp .ne 7, 3) := dk_160 0 7 (dk_at dksX0_isIn_0 6 rfl rfl)
theorem dX0_isIn_9 : decode cX0_isIn 9 = .ok (.iconst 1, 1) := dk_4 (dk_at dksX0_isIn_0 9 rfl rfl)
theorem dX0_isIn_10 : decode cX0_isIn 10 = .ok (.goto 4, 3) := dk_167 0 4 (dk_at dksX0_isIn_0 10 rfl rfl)
theorem dX0_isIn_13 : decode cX0_isIn 13 = .ok (.iconst 0, 1) := dk_3 (dk_at dksX0_isIn_0 13 rfl rfl)
theorem dX0_isIn_14 : decode cX0_isIn 14 = .ok (.ireturn, 1) := dk_172 (dk_at dksX0_isIn_0 14 rfl rfl)
abbrev cX0_pullers : ByteArray := prog_1_method_24_code
def yX0_pullers : MethodName := ⟨RX0, "pullers", "(I)I"⟩
def dkwX0_pullers_1 : List UInt8 := [167, 0, 5, 16, 254, 172]
abbrev dktX0_pullers_1 : List UInt8 := dkwX0_pullers_1 ++ []
def dkwX0_pullers_0 : List UInt8 := [42, 182, 0, 132, 153, 0, 6, 16, 253, 172, 42, 27, 182, 0, 157, 153, 0, 11, 42, 27, 182, 0, 146]
abbrev dktX0_pullers_0 : List UInt8 := dkwX0_pullers_0 ++ dktX0_pullers_1
theorem dksX0_pullers_0 : cX0_pullers.data.toList.drop 0 = dktX0_pullers_0 := by decide +kernel
theorem dksX0_pullers_1 : cX0_pullers.data.toList.drop 23 = dktX0_pullers_1 := dk_seg dksX0_pullers_0 23 rfl rfl
theorem dX0_pullers_0 : decode cX0_pullers 0 = .ok (.aload_n 0, 1) := dk_42 (dk_at dksX0_pullers_0 0 rfl rfl)
theorem dX0_pullers_1 : decode cX0_pullers 1 = .ok (.invokevirtual 132, 3) := dk_182 0 132 (dk_at dksX0_pullers_0 1 rfl rfl)
theorem dX0_pullers_4 : decode cX0_pullers 4 = .ok (.ifCond .eq 6, 3) := dk_153 0 6 (dk_at dksX0_pullers_0 4 rfl rfl)
theorem dX0_pullers_7 : decode cX0_pullers 7 = .ok (.bipush (-3), 2) := dk_16 253 (dk_at dksX0_pullers_0 7 rfl rfl)
theorem dX0_pullers_9 : decode cX0_pullers 9 = .ok (.ireturn, 1) := dk_172 (dk_at dksX0_pullers_0 9 rfl rfl)
theorem dX0_pullers_10 : decode cX0_pullers 10 = .ok (.aload_n 0, 1) := dk_42 (dk_at dksX0_pullers_0 10 rfl rfl)
theorem dX0_pullers_11 : decode cX0_pullers 11 = .ok (.iload_n 1, 1) := dk_27 (dk_at dksX0_pullers_0 11 rfl rfl)
theorem dX0_pullers_12 : decode cX0_pullers 12 = .ok (.invokevirtual 157, 3) := dk_182 0 157 (dk_at dksX0_pullers_0 12 rfl rfl)
theorem dX0_pullers_15 : decode cX0_pullers 15 = .ok (.ifCond .eq 11, 3) := dk_153 0 11 (dk_at dksX0_pullers_0 15 rfl rfl)
theorem dX0_pullers_18 : decode cX0_pullers 18 = .ok (.aload_n 0, 1) := dk_42 (dk_at dksX0_pullers_0 18 rfl rfl)
theorem dX0_pullers_19 : decode cX0_pullers 19 = .ok (.iload_n 1, 1) := dk_27 (dk_at dksX0_pullers_0 19 rfl rfl)
theorem dX0_pullers_20 : decode cX0_pullers 20 = .ok (.invokevirtual 146, 3) := dk_182 0 146 (dk_at dksX0_pullers_0 20 rfl rfl)
theorem dX0_pullers_23 : decode cX0_pullers 23 = .ok (.goto 5, 3) := dk_167 0 5 (dk_at dksX0_pullers_1 0 rfl rfl)
theorem dX0_pullers_26 : decode cX0_pullers 26 = .ok (.bipush (-2), 2) := dk_16 254 (dk_at dksX0_pullers_1 3 rfl rfl)
theorem dX0_pullers_28 : decode cX0_pullers 28 = .ok (.ireturn, 1) := dk_172 (dk_at dksX0_pullers_1 5 rfl rfl)
abbrev cX0_pulling : ByteArray := prog_1_method_21_code
def yX0_pulling : MethodName := ⟨RX0, "pulling", "(I)I"⟩
def dkwX0_pulling_4 : List UInt8 := [167, 255, 169, 29, 172]
abbrev dktX0_pulling_4 : List UInt8 := dkwX0_pulling_4 ++ []
def dkwX0_pulling_3 : List UInt8 := [160, 0, 12, 29, 4, 21, 4, 120, 128, 167, 0, 4, 29, 62, 28, 21, 5, 184, 0, 141, 61, 132, 4, 1]
abbrev dktX0_pulling_3 : List UInt8 := dkwX0_pulling_3 ++ dktX0_pulling_4
def dkwX0_pulling_2 : List UInt8 := [167, 0, 4, 3, 54, 5, 21, 5, 28, 164, 0, 10, 4, 21, 4, 120, 167, 0, 19, 21, 5, 28]
abbrev dktX0_pulling_2 : List UInt8 := dkwX0_pulling_2 ++ dktX0_pulling_3
def dkwX0_pulling_1 : List UInt8 := [184, 0, 135, 153, 0, 24, 42, 180, 0, 18, 21, 4, 185, 0, 109, 2, 0, 192, 0, 37, 27, 182, 0, 138]
abbrev dktX0_pulling_1 : List UInt8 := dkwX0_pulling_1 ++ dktX0_pulling_2
def dkwX0_pulling_0 : List UInt8 := [4, 61, 3, 62, 3, 54, 4, 21, 4, 42, 180, 0, 18, 185, 0, 54, 1, 0, 162, 0, 79, 27, 21, 4]
abbrev dktX0_pulling_0 : List UInt8 := dkwX0_pulling_0 ++ dktX0_pulling_1
theorem dksX0_pulling_0 : cX0_pulling.data.toList.drop 0 = dktX0_pulling_0 := by decide +kernel
theorem dksX0_pulling_1 : cX0_pulling.data.toList.drop 24 = dktX0_pulling_1 := dk_seg dksX0_pulling_0 24 rfl rfl
theorem dksX0_pulling_2 : cX0_pulling.data.toList.drop 48 = dktX0_pulling_2 := dk_seg dksX0_pulling_1 24 rfl rfl
theorem dksX0_pulling_3 : cX0_pulling.data.toList.drop 70 = dktX0_pulling_3 := dk_seg dksX0_pulling_2 22 rfl rfl
theorem dksX0_pulling_4 : cX0_pulling.data.toList.drop 94 = dktX0_pulling_4 := dk_seg dksX0_pulling_3 24 rfl rfl
theorem dX0_pulling_0 : decode cX0_pulling 0 = .ok (.iconst 1, 1) := dk_4 (dk_at dksX0_pulling_0 0 rfl rfl)
theorem dX0_pulling_1 : decode cX0_pulling 1 = .ok (.istore_n 2, 1) := dk_61 (dk_at dksX0_pulling_0 1 rfl rfl)
theorem dX0_pulling_2 : decode cX0_pulling 2 = .ok (.iconst 0, 1) := dk_3 (dk_at dksX0_pulling_0 2 rfl rfl)
theorem dX0_pulling_3 : decode cX0_pulling 3 = .ok (.istore_n 3, 1) := dk_62 (dk_at dksX0_pulling_0 3 rfl rfl)
theorem dX0_pulling_4 : decode cX0_pulling 4 = .ok (.iconst 0, 1) := dk_3 (dk_at dksX0_pulling_0 4 rfl rfl)
theorem dX0_pulling_5 : decode cX0_pulling 5 = .ok (.istore 4, 2) := dk_54 4 (dk_at dksX0_pulling_0 5 rfl rfl)
theorem dX0_pulling_7 : decode cX0_pulling 7 = .ok (.iload 4, 2) := dk_21 4 (dk_at dksX0_pulling_0 7 rfl rfl)
theorem dX0_pulling_9 : decode cX0_pulling 9 = .ok (.aload_n 0, 1) := dk_42 (dk_at dksX0_pulling_0 9 rfl rfl)
theorem dX0_pulling_10 : decode cX0_pulling 10 = .ok (.getfield 18, 3) := dk_180 0 18 (dk_at dksX0_pulling_0 10 rfl rfl)
theorem dX0_pulling_13 : decode cX0_pulling 13 = .ok (.invokeinterface 54 1, 5) := by decide +kernel
theorem dX0_pulling_18 : decode cX0_pulling 18 = .ok (.if_icmp .ge 79, 3) := dk_162 0 79 (dk_at dksX0_pulling_0 18 rfl rfl)
theorem dX0_pulling_21 : decode cX0_pulling 21 = .ok (.iload_n 1, 1) := dk_27 (dk_at dksX0_pulling_0 21 rfl rfl)
theorem dX0_pulling_22 : decode cX0_pulling 22 = .ok (.iload 4, 2) := dk_21 4 (dk_at dksX0_pulling_0 22 rfl rfl)
theorem dX0_pulling_24 : decode cX0_pulling 24 = .ok (.invokestatic 135, 3) := dk_184 0 135 (dk_at dksX0_pulling_1 0 rfl rfl)
theorem dX0_pulling_27 : decode cX0_pulling 27 = .ok (.ifCond .eq 24, 3) := dk_153 0 24 (dk_at dksX0_pulling_1 3 rfl rfl)
theorem dX0_pulling_30 : decode cX0_pulling 30 = .ok (.aload_n 0, 1) := dk_42 (dk_at dksX0_pulling_1 6 rfl rfl)
theorem dX0_pulling_31 : decode cX0_pulling 31 = .ok (.getfield 18, 3) := dk_180 0 18 (dk_at dksX0_pulling_1 7 rfl rfl)
theorem dX0_pulling_34 : decode cX0_pulling 34 = .ok (.iload 4, 2) := dk_21 4 (dk_at dksX0_pulling_1 10 rfl rfl)
theorem dX0_pulling_36 : decode cX0_pulling 36 = .ok (.invokeinterface 109 2, 5) := by decide +kernel
theorem dX0_pulling_41 : decode cX0_pulling 41 = .ok (.checkcast 37, 3) := dk_192 0 37 (dk_at dksX0_pulling_1 17 rfl rfl)
theorem dX0_pulling_44 : decode cX0_pulling 44 = .ok (.iload_n 1, 1) := dk_27 (dk_at dksX0_pulling_1 20 rfl rfl)
theorem dX0_pulling_45 : decode cX0_pulling 45 = .ok (.invokevirtual 138, 3) := dk_182 0 138 (dk_at dksX0_pulling_1 21 rfl rfl)
theorem dX0_pulling_48 : decode cX0_pulling 48 = .ok (.goto 4, 3) := dk_167 0 4 (dk_at dksX0_pulling_2 0 rfl rfl)
theorem dX0_pulling_51 : decode cX0_pulling 51 = .ok (.iconst 0, 1) := dk_3 (dk_at dksX0_pulling_2 3 rfl rfl)
theorem dX0_pulling_52 : decode cX0_pulling 52 = .ok (.istore 5, 2) := dk_54 5 (dk_at dksX0_pulling_2 4 rfl rfl)
theorem dX0_pulling_54 : decode cX0_pulling 54 = .ok (.iload 5, 2) := dk_21 5 (dk_at dksX0_pulling_2 6 rfl rfl)
theorem dX0_pulling_56 : decode cX0_pulling 56 = .ok (.iload_n 2, 1) := dk_28 (dk_at dksX0_pulling_2 8 rfl rfl)
theorem dX0_pulling_57 : decode cX0_pulling 57 = .ok (.if_icmp .le 10, 3) := dk_164 0 10 (dk_at dksX0_pulling_2 9 rfl rfl)
theorem dX0_pulling_60 : decode cX0_pulling 60 = .ok (.iconst 1, 1) := dk_4 (dk_at dksX0_pulling_2 12 rfl rfl)
theorem dX0_pulling_61 : decode cX0_pulling 61 = .ok (.iload 4, 2) := dk_21 4 (dk_at dksX0_pulling_2 13 rfl rfl)
theorem dX0_pulling_63 : decode cX0_pulling 63 = .ok (.ishl, 1) := dk_120 (dk_at dksX0_pulling_2 15 rfl rfl)
theorem dX0_pulling_64 : decode cX0_pulling 64 = .ok (.goto 19, 3) := dk_167 0 19 (dk_at dksX0_pulling_2 16 rfl rfl)
theorem dX0_pulling_67 : decode cX0_pulling 67 = .ok (.iload 5, 2) := dk_21 5 (dk_at dksX0_pulling_2 19 rfl rfl)
theorem dX0_pulling_69 : decode cX0_pulling 69 = .ok (.iload_n 2, 1) := dk_28 (dk_at dksX0_pulling_2 21 rfl rfl)
theorem dX0_pulling_70 : decode cX0_pulling 70 = .ok (.if_icmp .ne 12, 3) := dk_160 0 12 (dk_at dksX0_pulling_3 0 rfl rfl)
theorem dX0_pulling_73 : decode cX0_pulling 73 = .ok (.iload_n 3, 1) := dk_29 (dk_at dksX0_pulling_3 3 rfl rfl)
theorem dX0_pulling_74 : decode cX0_pulling 74 = .ok (.iconst 1, 1) := dk_4 (dk_at dksX0_pulling_3 4 rfl rfl)
theorem dX0_pulling_75 : decode cX0_pulling 75 = .ok (.iload 4, 2) := dk_21 4 (dk_at dksX0_pulling_3 5 rfl rfl)
theorem dX0_pulling_77 : decode cX0_pulling 77 = .ok (.ishl, 1) := dk_120 (dk_at dksX0_pulling_3 7 rfl rfl)
theorem dX0_pulling_78 : decode cX0_pulling 78 = .ok (.ior, 1) := dk_128 (dk_at dksX0_pulling_3 8 rfl rfl)
theorem dX0_pulling_79 : decode cX0_pulling 79 = .ok (.goto 4, 3) := dk_167 0 4 (dk_at dksX0_pulling_3 9 rfl rfl)
theorem dX0_pulling_82 : decode cX0_pulling 82 = .ok (.iload_n 3, 1) := dk_29 (dk_at dksX0_pulling_3 12 rfl rfl)
theorem dX0_pulling_83 : decode cX0_pulling 83 = .ok (.istore_n 3, 1) := dk_62 (dk_at dksX0_pulling_3 13 rfl rfl)
theorem dX0_pulling_84 : decode cX0_pulling 84 = .ok (.iload_n 2, 1) := dk_28 (dk_at dksX0_pulling_3 14 rfl rfl)
theorem dX0_pulling_85 : decode cX0_pulling 85 = .ok (.iload 5, 2) := dk_21 5 (dk_at dksX0_pulling_3 15 rfl rfl)
theorem dX0_pulling_87 : decode cX0_pulling 87 = .ok (.invokestatic 141, 3) := dk_184 0 141 (dk_at dksX0_pulling_3 17 rfl rfl)
theorem dX0_pulling_90 : decode cX0_pulling 90 = .ok (.istore_n 2, 1) := dk_61 (dk_at dksX0_pulling_3 20 rfl rfl)
theorem dX0_pulling_91 : decode cX0_pulling 91 = .ok (.iinc 4 1, 3) := dk_132 4 1 (dk_at dksX0_pulling_3 21 rfl rfl)
theorem dX0_pulling_94 : decode cX0_pulling 94 = .ok (.goto (-87), 3) := dk_167 255 169 (dk_at dksX0_pulling_4 0 rfl rfl)
theorem dX0_pulling_97 : decode cX0_pulling 97 = .ok (.iload_n 3, 1) := dk_29 (dk_at dksX0_pulling_4 3 rfl rfl)
theorem dX0_pulling_98 : decode cX0_pulling 98 = .ok (.ireturn, 1) := dk_172 (dk_at dksX0_pulling_4 4 rfl rfl)
abbrev cX0_fair : ByteArray := prog_1_method_25_code
def yX0_fair : MethodName := ⟨RX0, "fair", "(I)I"⟩
def dkwX0_fair_1 : List UInt8 := [27, 182, 0, 160, 153, 0, 7, 4, 167, 0, 4, 3, 172]
abbrev dktX0_fair_1 : List UInt8 := dkwX0_fair_1 ++ []
def dkwX0_fair_0 : List UInt8 := [42, 182, 0, 132, 153, 0, 6, 16, 253, 172, 42, 27, 182, 0, 157, 154, 0, 8, 16, 254, 167, 0, 16, 42]
abbrev dktX0_fair_0 : List UInt8 := dkwX0_fair_0 ++ dktX0_fair_1
theorem dksX0_fair_0 : cX0_fair.data.toList.drop 0 = dktX0_fair_0 := by decide +kernel
theorem dksX0_fair_1 : cX0_fair.data.toList.drop 24 = dktX0_fair_1 := dk_seg dksX0_fair_0 24 rfl rfl
theorem dX0_fair_0 : decode cX0_fair 0 = .ok (.aload_n 0, 1) := dk_42 (dk_at dksX0_fair_0 0 rfl rfl)
theorem dX0_fair_1 : decode cX0_fair 1 = .ok (.invokevirtual 132, 3) := dk_182 0 132 (dk_at dksX0_fair_0 1 rfl rfl)
theorem dX0_fair_4 : decode cX0_fair 4 = .ok (.ifCond .eq 6, 3) := dk_153 0 6 (dk_at dksX0_fair_0 4 rfl rfl)
theorem dX0_fair_7 : decode cX0_fair 7 = .ok (.bipush (-3), 2) := dk_16 253 (dk_at dksX0_fair_0 7 rfl rfl)
theorem dX0_fair_9 : decode cX0_fair 9 = .ok (.ireturn, 1) := dk_172 (dk_at dksX0_fair_0 9 rfl rfl)
theorem dX0_fair_10 : decode cX0_fair 10 = .ok (.aload_n 0, 1) := dk_42 (dk_at dksX0_fair_0 10 rfl rfl)
theorem dX0_fair_11 : decode cX0_fair 11 = .ok (.iload_n 1, 1) := dk_27 (dk_at dksX0_fair_0 11 rfl rfl)
theorem dX0_fair_12 : decode cX0_fair 12 = .ok (.invokevirtual 157, 3) := dk_182 0 157 (dk_at dksX0_fair_0 12 rfl rfl)
theorem dX0_fair_15 : decode cX0_fair 15 = .ok (.ifCond .ne 8, 3) := dk_154 0 8 (dk_at dksX0_fair_0 15 rfl rfl)
theorem dX0_fair_18 : decode cX0_fair 18 = .ok (.bipush (-2), 2) := dk_16 254 (dk_at dksX0_fair_0 18 rfl rfl)
theorem dX0_fair_20 : decode cX0_fair 20 = .ok (.goto 16, 3) := dk_167 0 16 (dk_at dksX0_fair_0 20 rfl rfl)
theorem dX0_fair_23 : decode cX0_fair 23 = .ok (.aload_n 0, 1) := dk_42 (dk_at dksX0_fair_0 23 rfl rfl)
theorem dX0_fair_24 : decode cX0_fair 24 = .ok (.iload_n 1, 1) := dk_27 (dk_at dksX0_fair_1 0 rfl rfl)
theorem dX0_fair_25 : decode cX0_fair 25 = .ok (.invokevirtual 160, 3) := dk_182 0 160 (dk_at dksX0_fair_1 1 rfl rfl)
theorem dX0_fair_28 : decode cX0_fair 28 = .ok (.ifCond .eq 7, 3) := dk_153 0 7 (dk_at dksX0_fair_1 4 rfl rfl)
theorem dX0_fair_31 : decode cX0_fair 31 = .ok (.iconst 1, 1) := dk_4 (dk_at dksX0_fair_1 7 rfl rfl)
theorem dX0_fair_32 : decode cX0_fair 32 = .ok (.goto 4, 3) := dk_167 0 4 (dk_at dksX0_fair_1 8 rfl rfl)
theorem dX0_fair_35 : decode cX0_fair 35 = .ok (.iconst 0, 1) := dk_3 (dk_at dksX0_fair_1 11 rfl rfl)
theorem dX0_fair_36 : decode cX0_fair 36 = .ok (.ireturn, 1) := dk_172 (dk_at dksX0_fair_1 12 rfl rfl)
abbrev cX0_isFair : ByteArray := prog_1_method_22_code
def yX0_isFair : MethodName := ⟨RX0, "isFair", "(I)Z"⟩
def dkwX0_isFair_2 : List UInt8 := [154, 0, 7, 4, 167, 0, 4, 3, 172]
abbrev dktX0_isFair_2 : List UInt8 := dkwX0_isFair_2 ++ []
def dkwX0_isFair_1 : List UInt8 := [160, 0, 29, 42, 180, 0, 18, 28, 184, 0, 154, 185, 0, 109, 2, 0, 192, 0, 37, 180, 0, 116]
abbrev dktX0_isFair_1 : List UInt8 := dkwX0_isFair_1 ++ dktX0_isFair_2
def dkwX0_isFair_0 : List UInt8 := [42, 27, 182, 0, 146, 61, 27, 184, 0, 149, 42, 180, 0, 95, 163, 0, 37, 28, 184, 0, 149, 4]
abbrev dktX0_isFair_0 : List UInt8 := dkwX0_isFair_0 ++ dktX0_isFair_1
theorem dksX0_isFair_0 : cX0_isFair.data.toList.drop 0 = dktX0_isFair_0 := by decide +kernel
theorem dksX0_isFair_1 : cX0_isFair.data.toList.drop 22 = dktX0_isFair_1 := dk_seg dksX0_isFair_0 22 rfl rfl
theorem dksX0_isFair_2 : cX0_isFair.data.toList.drop 44 = dktX0_isFair_2 := dk_seg dksX0_isFair_1 22 rfl rfl
theorem dX0_isFair_0 : decode cX0_isFair 0 = .ok (.aload_n 0, 1) := dk_42 (dk_at dksX0_isFair_0 0 rfl rfl)
theorem dX0_isFair_1 : decode cX0_isFair 1 = .ok (.iload_n 1, 1) := dk_27 (dk_at dksX0_isFair_0 1 rfl rfl)
theorem dX0_isFair_2 : decode cX0_isFair 2 = .ok (.invokevirtual 146, 3) := dk_182 0 146 (dk_at dksX0_isFair_0 2 rfl rfl)
theorem dX0_isFair_5 : decode cX0_isFair 5 = .ok (.istore_n 2, 1) := dk_61 (dk_at dksX0_isFair_0 5 rfl rfl)
theorem dX0_isFair_6 : decode cX0_isFair 6 = .ok (.iload_n 1, 1) := dk_27 (dk_at dksX0_isFair_0 6 rfl rfl)
theorem dX0_isFair_7 : decode cX0_isFair 7 = .ok (.invokestatic 149, 3) := dk_184 0 149 (dk_at dksX0_isFair_0 7 rfl rfl)
theorem dX0_isFair_10 : decode cX0_isFair 10 = .ok (.aload_n 0, 1) := dk_42 (dk_at dksX0_isFair_0 10 rfl rfl)
theorem dX0_isFair_11 : decode cX0_isFair 11 = .ok (.getfield 95, 3) := dk_180 0 95 (dk_at dksX0_isFair_0 11 rfl rfl)
theorem dX0_isFair_14 : decode cX0_isFair 14 = .ok (.if_icmp .gt 37, 3) := dk_163 0 37 (dk_at dksX0_isFair_0 14 rfl rfl)
theorem dX0_isFair_17 : decode cX0_isFair 17 = .ok (.iload_n 2, 1) := dk_28 (dk_at dksX0_isFair_0 17 rfl rfl)
theorem dX0_isFair_18 : decode cX0_isFair 18 = .ok (.invokestatic 149, 3) := dk_184 0 149 (dk_at dksX0_isFair_0 18 rfl rfl)
theorem dX0_isFair_21 : decode cX0_isFair 21 = .ok (.iconst 1, 1) := dk_4 (dk_at dksX0_isFair_0 21 rfl rfl)
theorem dX0_isFair_22 : decode cX0_isFair 22 = .ok (.if_icmp .ne 29, 3) := dk_160 0 29 (dk_at dksX0_isFair_1 0 rfl rfl)
theorem dX0_isFair_25 : decode cX0_isFair 25 = .ok (.aload_n 0, 1) := dk_42 (dk_at dksX0_isFair_1 3 rfl rfl)
theorem dX0_isFair_26 : decode cX0_isFair 26 = .ok (.getfield 18, 3) := dk_180 0 18 (dk_at dksX0_isFair_1 4 rfl rfl)
theorem dX0_isFair_29 : decode cX0_isFair 29 = .ok (.iload_n 2, 1) := dk_28 (dk_at dksX0_isFair_1 7 rfl rfl)
theorem dX0_isFair_30 : decode cX0_isFair 30 = .ok (.invokestatic 154, 3) := dk_184 0 154 (dk_at dksX0_isFair_1 8 rfl rfl)
theorem dX0_isFair_33 : decode cX0_isFair 33 = .ok (.invokeinterface 109 2, 5) := by decide +kernel
theorem dX0_isFair_38 : decode cX0_isFair 38 = .ok (.checkcast 37, 3) := dk_192 0 37 (dk_at dksX0_isFair_1 16 rfl rfl)
theorem dX0_isFair_41 : decode cX0_isFair 41 = .ok (.getfield 116, 3) := dk_180 0 116 (dk_at dksX0_isFair_1 19 rfl rfl)
theorem dX0_isFair_44 : decode cX0_isFair 44 = .ok (.ifCond .ne 7, 3) := dk_154 0 7 (dk_at dksX0_isFair_2 0 rfl rfl)
theorem dX0_isFair_47 : decode cX0_isFair 47 = .ok (.iconst 1, 1) := dk_4 (dk_at dksX0_isFair_2 3 rfl rfl)
theorem dX0_isFair_48 : decode cX0_isFair 48 = .ok (.goto 4, 3) := dk_167 0 4 (dk_at dksX0_isFair_2 4 rfl rfl)
theorem dX0_isFair_51 : decode cX0_isFair 51 = .ok (.iconst 0, 1) := dk_3 (dk_at dksX0_isFair_2 7 rfl rfl)
theorem dX0_isFair_52 : decode cX0_isFair 52 = .ok (.ireturn, 1) := dk_172 (dk_at dksX0_isFair_2 8 rfl rfl)
abbrev cX0_cross : ByteArray := prog_1_method_31_code
def yX0_cross : MethodName := ⟨RX0, "cross", "(I)I"⟩
def dkwX0_cross_3 : List UInt8 := [27, 162, 0, 17, 29, 42, 29, 182, 0, 173, 130, 62, 132, 4, 1, 167, 255, 239, 42, 29, 182, 0, 173, 172]
abbrev dktX0_cross_3 : List UInt8 := dkwX0_cross_3 ++ []
def dkwX0_cross_2 : List UInt8 := [161, 0, 14, 27, 156, 0, 7, 28, 167, 0, 5, 16, 247, 172, 42, 182, 0, 66, 62, 3, 54, 4, 21, 4]
abbrev dktX0_cross_2 : List UInt8 := dkwX0_cross_2 ++ dktX0_cross_3
def dkwX0_cross_1 : List UInt8 := [16, 254, 172, 42, 182, 0, 170, 42, 180, 0, 22, 42, 182, 0, 66, 46, 61, 27, 155, 0, 8, 27, 28]
abbrev dktX0_cross_1 : List UInt8 := dkwX0_cross_1 ++ dktX0_cross_2
def dkwX0_cross_0 : List UInt8 := [42, 182, 0, 132, 153, 0, 6, 16, 253, 172, 27, 133, 20, 0, 166, 20, 0, 168, 184, 0, 58, 154, 0, 6]
abbrev dktX0_cross_0 : List UInt8 := dkwX0_cross_0 ++ dktX0_cross_1
theorem dksX0_cross_0 : cX0_cross.data.toList.drop 0 = dktX0_cross_0 := by decide +kernel
theorem dksX0_cross_1 : cX0_cross.data.toList.drop 24 = dktX0_cross_1 := dk_seg dksX0_cross_0 24 rfl rfl
theorem dksX0_cross_2 : cX0_cross.data.toList.drop 47 = dktX0_cross_2 := dk_seg dksX0_cross_1 23 rfl rfl
theorem dksX0_cross_3 : cX0_cross.data.toList.drop 71 = dktX0_cross_3 := dk_seg dksX0_cross_2 24 rfl rfl
theorem dX0_cross_0 : decode cX0_cross 0 = .ok (.aload_n 0, 1) := dk_42 (dk_at dksX0_cross_0 0 rfl rfl)
theorem dX0_cross_1 : decode cX0_cross 1 = .ok (.invokevirtual 132, 3) := dk_182 0 132 (dk_at dksX0_cross_0 1 rfl rfl)
theorem dX0_cross_4 : decode cX0_cross 4 = .ok (.ifCond .eq 6, 3) := dk_153 0 6 (dk_at dksX0_cross_0 4 rfl rfl)
theorem dX0_cross_7 : decode cX0_cross 7 = .ok (.bipush (-3), 2) := dk_16 253 (dk_at dksX0_cross_0 7 rfl rfl)
theorem dX0_cross_9 : decode cX0_cross 9 = .ok (.ireturn, 1) := dk_172 (dk_at dksX0_cross_0 9 rfl rfl)
theorem dX0_cross_10 : decode cX0_cross 10 = .ok (.iload_n 1, 1) := dk_27 (dk_at dksX0_cross_0 10 rfl rfl)
theorem dX0_cross_11 : decode cX0_cross 11 = .ok (.i2l, 1) := dk_133 (dk_at dksX0_cross_0 11 rfl rfl)
theorem dX0_cross_12 : decode cX0_cross 12 = .ok (.ldc2_w 166, 3) := dk_20 0 166 (dk_at dksX0_cross_0 12 rfl rfl)
theorem dX0_cross_15 : decode cX0_cross 15 = .ok (.ldc2_w 168, 3) := dk_20 0 168 (dk_at dksX0_cross_0 15 rfl rfl)
theorem dX0_cross_18 : decode cX0_cross 18 = .ok (.invokestatic 58, 3) := dk_184 0 58 (dk_at dksX0_cross_0 18 rfl rfl)
theorem dX0_cross_21 : decode cX0_cross 21 = .ok (.ifCond .ne 6, 3) := dk_154 0 6 (dk_at dksX0_cross_0 21 rfl rfl)
theorem dX0_cross_24 : decode cX0_cross 24 = .ok (.bipush (-2), 2) := dk_16 254 (dk_at dksX0_cross_1 0 rfl rfl)
theorem dX0_cross_26 : decode cX0_cross 26 = .ok (.ireturn, 1) := dk_172 (dk_at dksX0_cross_1 2 rfl rfl)
theorem dX0_cross_27 : decode cX0_cross 27 = .ok (.aload_n 0, 1) := dk_42 (dk_at dksX0_cross_1 3 rfl rfl)
theorem dX0_cross_28 : decode cX0_cross 28 = .ok (.invokevirtual 170, 3) := dk_182 0 170 (dk_at dksX0_cross_1 4 rfl rfl)
theorem dX0_cross_31 : decode cX0_cross 31 = .ok (.aload_n 0, 1) := dk_42 (dk_at dksX0_cross_1 7 rfl rfl)
theorem dX0_cross_32 : decode cX0_cross 32 = .ok (.getfield 22, 3) := dk_180 0 22 (dk_at dksX0_cross_1 8 rfl rfl)
theorem dX0_cross_35 : decode cX0_cross 35 = .ok (.aload_n 0, 1) := dk_42 (dk_at dksX0_cross_1 11 rfl rfl)
theorem dX0_cross_36 : decode cX0_cross 36 = .ok (.invokevirtual 66, 3) := dk_182 0 66 (dk_at dksX0_cross_1 12 rfl rfl)
theorem dX0_cross_39 : decode cX0_cross 39 = .ok (.iaload, 1) := dk_46 (dk_at dksX0_cross_1 15 rfl rfl)
theorem dX0_cross_40 : decode cX0_cross 40 = .ok (.istore_n 2, 1) := dk_61 (dk_at dksX0_cross_1 16 rfl rfl)
theorem dX0_cross_41 : decode cX0_cross 41 = .ok (.iload_n 1, 1) := dk_27 (dk_at dksX0_cross_1 17 rfl rfl)
theorem dX0_cross_42 : decode cX0_cross 42 = .ok (.ifCond .lt 8, 3) := dk_155 0 8 (dk_at dksX0_cross_1 18 rfl rfl)
theorem dX0_cross_45 : decode cX0_cross 45 = .ok (.iload_n 1, 1) := dk_27 (dk_at dksX0_cross_1 21 rfl rfl)
theorem dX0_cross_46 : decode cX0_cross 46 = .ok (.iload_n 2, 1) := dk_28 (dk_at dksX0_cross_1 22 rfl rfl)
theorem dX0_cross_47 : decode cX0_cross 47 = .ok (.if_icmp .lt 14, 3) := dk_161 0 14 (dk_at dksX0_cross_2 0 rfl rfl)
theorem dX0_cross_50 : decode cX0_cross 50 = .ok (.iload_n 1, 1) := dk_27 (dk_at dksX0_cross_2 3 rfl rfl)
theorem dX0_cross_51 : decode cX0_cross 51 = .ok (.ifCond .ge 7, 3) := dk_156 0 7 (dk_at dksX0_cross_2 4 rfl rfl)
theorem dX0_cross_54 : decode cX0_cross 54 = .ok (.iload_n 2, 1) := dk_28 (dk_at dksX0_cross_2 7 rfl rfl)
theorem dX0_cross_55 : decode cX0_cross 55 = .ok (.goto 5, 3) := dk_167 0 5 (dk_at dksX0_cross_2 8 rfl rfl)
theorem dX0_cross_58 : decode cX0_cross 58 = .ok (.bipush (-9), 2) := dk_16 247 (dk_at dksX0_cross_2 11 rfl rfl)
theorem dX0_cross_60 : decode cX0_cross 60 = .ok (.ireturn, 1) := dk_172 (dk_at dksX0_cross_2 13 rfl rfl)
theorem dX0_cross_61 : decode cX0_cross 61 = .ok (.aload_n 0, 1) := dk_42 (dk_at dksX0_cross_2 14 rfl rfl)
theorem dX0_cross_62 : decode cX0_cross 62 = .ok (.invokevirtual 66, 3) := dk_182 0 66 (dk_at dksX0_cross_2 15 rfl rfl)
theorem dX0_cross_65 : decode cX0_cross 65 = .ok (.istore_n 3, 1) := dk_62 (dk_at dksX0_cross_2 18 rfl rfl)
theorem dX0_cross_66 : decode cX0_cross 66 = .ok (.iconst 0, 1) := dk_3 (dk_at dksX0_cross_2 19 rfl rfl)
theorem dX0_cross_67 : decode cX0_cross 67 = .ok (.istore 4, 2) := dk_54 4 (dk_at dksX0_cross_2 20 rfl rfl)
theorem dX0_cross_69 : decode cX0_cross 69 = .ok (.iload 4, 2) := dk_21 4 (dk_at dksX0_cross_2 22 rfl rfl)
theorem dX0_cross_71 : decode cX0_cross 71 = .ok (.iload_n 1, 1) := dk_27 (dk_at dksX0_cross_3 0 rfl rfl)
theorem dX0_cross_72 : decode cX0_cross 72 = .ok (.if_icmp .ge 17, 3) := dk_162 0 17 (dk_at dksX0_cross_3 1 rfl rfl)
theorem dX0_cross_75 : decode cX0_cross 75 = .ok (.iload_n 3, 1) := dk_29 (dk_at dksX0_cross_3 4 rfl rfl)
theorem dX0_cross_76 : decode cX0_cross 76 = .ok (.aload_n 0, 1) := dk_42 (dk_at dksX0_cross_3 5 rfl rfl)
theorem dX0_cross_77 : decode cX0_cross 77 = .ok (.iload_n 3, 1) := dk_29 (dk_at dksX0_cross_3 6 rfl rfl)
theorem dX0_cross_78 : decode cX0_cross 78 = .ok (.invokevirtual 173, 3) := dk_182 0 173 (dk_at dksX0_cross_3 7 rfl rfl)
theorem dX0_cross_81 : decode cX0_cross 81 = .ok (.ixor, 1) := dk_130 (dk_at dksX0_cross_3 10 rfl rfl)
theorem dX0_cross_82 : decode cX0_cross 82 = .ok (.istore_n 3, 1) := dk_62 (dk_at dksX0_cross_3 11 rfl rfl)
theorem dX0_cross_83 : decode cX0_cross 83 = .ok (.iinc 4 1, 3) := dk_132 4 1 (dk_at dksX0_cross_3 12 rfl rfl)
theorem dX0_cross_86 : decode cX0_cross 86 = .ok (.goto (-17), 3) := dk_167 255 239 (dk_at dksX0_cross_3 15 rfl rfl)
theorem dX0_cross_89 : decode cX0_cross 89 = .ok (.aload_n 0, 1) := dk_42 (dk_at dksX0_cross_3 18 rfl rfl)
theorem dX0_cross_90 : decode cX0_cross 90 = .ok (.iload_n 3, 1) := dk_29 (dk_at dksX0_cross_3 19 rfl rfl)
theorem dX0_cross_91 : decode cX0_cross 91 = .ok (.invokevirtual 173, 3) := dk_182 0 173 (dk_at dksX0_cross_3 20 rfl rfl)
theorem dX0_cross_94 : decode cX0_cross 94 = .ok (.ireturn, 1) := dk_172 (dk_at dksX0_cross_3 23 rfl rfl)
abbrev cX0_reckon : ByteArray := prog_1_method_29_code
def yX0_reckon : MethodName := ⟨RX0, "reckon", "()V"⟩
def dkwX0_reckon_1 : List UInt8 := [182, 0, 163, 79, 132, 1, 1, 167, 255, 234, 177]
abbrev dktX0_reckon_1 : List UInt8 := dkwX0_reckon_1 ++ []
def dkwX0_reckon_0 : List UInt8 := [42, 180, 0, 22, 3, 3, 79, 4, 60, 27, 42, 182, 0, 66, 163, 0, 20, 42, 180, 0, 22, 27, 42, 27]
abbrev dktX0_reckon_0 : List UInt8 := dkwX0_reckon_0 ++ dktX0_reckon_1
theorem dksX0_reckon_0 : cX0_reckon.data.toList.drop 0 = dktX0_reckon_0 := by decide +kernel
theorem dksX0_reckon_1 : cX0_reckon.data.toList.drop 24 = dktX0_reckon_1 := dk_seg dksX0_reckon_0 24 rfl rfl
theorem dX0_reckon_0 : decode cX0_reckon 0 = .ok (.aload_n 0, 1) := dk_42 (dk_at dksX0_reckon_0 0 rfl rfl)
theorem dX0_reckon_1 : decode cX0_reckon 1 = .ok (.getfield 22, 3) := dk_180 0 22 (dk_at dksX0_reckon_0 1 rfl rfl)
theorem dX0_reckon_4 : decode cX0_reckon 4 = .ok (.iconst 0, 1) := dk_3 (dk_at dksX0_reckon_0 4 rfl rfl)
theorem dX0_reckon_5 : decode cX0_reckon 5 = .ok (.iconst 0, 1) := dk_3 (dk_at dksX0_reckon_0 5 rfl rfl)
theorem dX0_reckon_6 : decode cX0_reckon 6 = .ok (.iastore, 1) := dk_79 (dk_at dksX0_reckon_0 6 rfl rfl)
theorem dX0_reckon_7 : decode cX0_reckon 7 = .ok (.iconst 1, 1) := dk_4 (dk_at dksX0_reckon_0 7 rfl rfl)
theorem dX0_reckon_8 : decode cX0_reckon 8 = .ok (.istore_n 1, 1) := dk_60 (dk_at dksX0_reckon_0 8 rfl rfl)
theorem dX0_reckon_9 : decode cX0_reckon 9 = .ok (.iload_n 1, 1) := dk_27 (dk_at dksX0_reckon_0 9 rfl rfl)
theorem dX0_reckon_10 : decode cX0_reckon 10 = .ok (.aload_n 0, 1) := dk_42 (dk_at dksX0_reckon_0 10 rfl rfl)
theorem dX0_reckon_11 : decode cX0_reckon 11 = .ok (.invokevirtual 66, 3) := dk_182 0 66 (dk_at dksX0_reckon_0 11 rfl rfl)
theorem dX0_reckon_14 : decode cX0_reckon 14 = .ok (.if_icmp .gt 20, 3) := dk_163 0 20 (dk_at dksX0_reckon_0 14 rfl rfl)
theorem dX0_reckon_17 : decode cX0_reckon 17 = .ok (.aload_n 0, 1) := dk_42 (dk_at dksX0_reckon_0 17 rfl rfl)
theorem dX0_reckon_18 : decode cX0_reckon 18 = .ok (.getfield 22, 3) := dk_180 0 22 (dk_at dksX0_reckon_0 18 rfl rfl)
theorem dX0_reckon_21 : decode cX0_reckon 21 = .ok (.iload_n 1, 1) := dk_27 (dk_at dksX0_reckon_0 21 rfl rfl)
theorem dX0_reckon_22 : decode cX0_reckon 22 = .ok (.aload_n 0, 1) := dk_42 (dk_at dksX0_reckon_0 22 rfl rfl)
theorem dX0_reckon_23 : decode cX0_reckon 23 = .ok (.iload_n 1, 1) := dk_27 (dk_at dksX0_reckon_0 23 rfl rfl)
theorem dX0_reckon_24 : decode cX0_reckon 24 = .ok (.invokevirtual 163, 3) := dk_182 0 163 (dk_at dksX0_reckon_1 0 rfl rfl)
theorem dX0_reckon_27 : decode cX0_reckon 27 = .ok (.iastore, 1) := dk_79 (dk_at dksX0_reckon_1 3 rfl rfl)
theorem dX0_reckon_28 : decode cX0_reckon 28 = .ok (.iinc 1 1, 3) := dk_132 1 1 (dk_at dksX0_reckon_1 4 rfl rfl)
theorem dX0_reckon_31 : decode cX0_reckon 31 = .ok (.goto (-22), 3) := dk_167 255 234 (dk_at dksX0_reckon_1 7 rfl rfl)
theorem dX0_reckon_34 : decode cX0_reckon 34 = .ok (.return_, 1) := dk_177 (dk_at dksX0_reckon_1 10 rfl rfl)
abbrev cX0_fewestFor : ByteArray := prog_1_method_28_code
def yX0_fewestFor : MethodName := ⟨RX0, "fewestFor", "(I)I"⟩
def dkwX0_fewestFor_2 : List UInt8 := [61, 29, 4, 100, 27, 126, 62, 167, 255, 206, 28, 172]
abbrev dktX0_fewestFor_2 : List UInt8 := dkwX0_fewestFor_2 ++ []
def dkwX0_fewestFor_1 : List UInt8 := [42, 29, 182, 0, 160, 153, 0, 20, 28, 155, 0, 11, 21, 4, 4, 96, 28, 162, 0, 8, 21, 4, 4, 96]
abbrev dktX0_fewestFor_1 : List UInt8 := dkwX0_fewestFor_1 ++ dktX0_fewestFor_2
def dkwX0_fewestFor_0 : List UInt8 := [16, 247, 61, 27, 62, 29, 158, 0, 52, 42, 180, 0, 22, 27, 29, 130, 46, 54, 4, 21, 4, 155, 0, 28]
abbrev dktX0_fewestFor_0 : List UInt8 := dkwX0_fewestFor_0 ++ dktX0_fewestFor_1
theorem dksX0_fewestFor_0 : cX0_fewestFor.data.toList.drop 0 = dktX0_fewestFor_0 := by decide +kernel
theorem dksX0_fewestFor_1 : cX0_fewestFor.data.toList.drop 24 = dktX0_fewestFor_1 := dk_seg dksX0_fewestFor_0 24 rfl rfl
theorem dksX0_fewestFor_2 : cX0_fewestFor.data.toList.drop 48 = dktX0_fewestFor_2 := dk_seg dksX0_fewestFor_1 24 rfl rfl
theorem dX0_fewestFor_0 : decode cX0_fewestFor 0 = .ok (.bipush (-9), 2) := dk_16 247 (dk_at dksX0_fewestFor_0 0 rfl rfl)
theorem dX0_fewestFor_2 : decode cX0_fewestFor 2 = .ok (.istore_n 2, 1) := dk_61 (dk_at dksX0_fewestFor_0 2 rfl rfl)
theorem dX0_fewestFor_3 : decode cX0_fewestFor 3 = .ok (.iload_n 1, 1) := dk_27 (dk_at dksX0_fewestFor_0 3 rfl rfl)
theorem dX0_fewestFor_4 : decode cX0_fewestFor 4 = .ok (.istore_n 3, 1) := dk_62 (dk_at dksX0_fewestFor_0 4 rfl rfl)
theorem dX0_fewestFor_5 : decode cX0_fewestFor 5 = .ok (.iload_n 3, 1) := dk_29 (dk_at dksX0_fewestFor_0 5 rfl rfl)
theorem dX0_fewestFor_6 : decode cX0_fewestFor 6 = .ok (.ifCond .le 52, 3) := dk_158 0 52 (dk_at dksX0_fewestFor_0 6 rfl rfl)
theorem dX0_fewestFor_9 : decode cX0_fewestFor 9 = .ok (.aload_n 0, 1) := dk_42 (dk_at dksX0_fewestFor_0 9 rfl rfl)
theorem dX0_fewestFor_10 : decode cX0_fewestFor 10 = .ok (.getfield 22, 3) := dk_180 0 22 (dk_at dksX0_fewestFor_0 10 rfl rfl)
theorem dX0_fewestFor_13 : decode cX0_fewestFor 13 = .ok (.iload_n 1, 1) := dk_27 (dk_at dksX0_fewestFor_0 13 rfl rfl)
theorem dX0_fewestFor_14 : decode cX0_fewestFor 14 = .ok (.iload_n 3, 1) := dk_29 (dk_at dksX0_fewestFor_0 14 rfl rfl)
theorem dX0_fewestFor_15 : decode cX0_fewestFor 15 = .ok (.ixor, 1) := dk_130 (dk_at dksX0_fewestFor_0 15 rfl rfl)
theorem dX0_fewestFor_16 : decode cX0_fewestFor 16 = .ok (.iaload, 1) := dk_46 (dk_at dksX0_fewestFor_0 16 rfl rfl)
theorem dX0_fewestFor_17 : decode cX0_fewestFor 17 = .ok (.istore 4, 2) := dk_54 4 (dk_at dksX0_fewestFor_0 17 rfl rfl)
theorem dX0_fewestFor_19 : decode cX0_fewestFor 19 = .ok (.iload 4, 2) := dk_21 4 (dk_at dksX0_fewestFor_0 19 rfl rfl)
theorem dX0_fewestFor_21 : decode cX0_fewestFor 21 = .ok (.ifCond .lt 28, 3) := dk_155 0 28 (dk_at dksX0_fewestFor_0 21 rfl rfl)
theorem dX0_fewestFor_24 : decode cX0_fewestFor 24 = .ok (.aload_n 0, 1) := dk_42 (dk_at dksX0_fewestFor_1 0 rfl rfl)
theorem dX0_fewestFor_25 : decode cX0_fewestFor 25 = .ok (.iload_n 3, 1) := dk_29 (dk_at dksX0_fewestFor_1 1 rfl rfl)
theorem dX0_fewestFor_26 : decode cX0_fewestFor 26 = .ok (.invokevirtual 160, 3) := dk_182 0 160 (dk_at dksX0_fewestFor_1 2 rfl rfl)
theorem dX0_fewestFor_29 : decode cX0_fewestFor 29 = .ok (.ifCond .eq 20, 3) := dk_153 0 20 (dk_at dksX0_fewestFor_1 5 rfl rfl)
theorem dX0_fewestFor_32 : decode cX0_fewestFor 32 = .ok (.iload_n 2, 1) := dk_28 (dk_at dksX0_fewestFor_1 8 rfl rfl)
theorem dX0_fewestFor_33 : decode cX0_fewestFor 33 = .ok (.ifCond .lt 11, 3) := dk_155 0 11 (dk_at dksX0_fewestFor_1 9 rfl rfl)
theorem dX0_fewestFor_36 : decode cX0_fewestFor 36 = .ok (.iload 4, 2) := dk_21 4 (dk_at dksX0_fewestFor_1 12 rfl rfl)
theorem dX0_fewestFor_38 : decode cX0_fewestFor 38 = .ok (.iconst 1, 1) := dk_4 (dk_at dksX0_fewestFor_1 14 rfl rfl)
theorem dX0_fewestFor_39 : decode cX0_fewestFor 39 = .ok (.iadd, 1) := dk_96 (dk_at dksX0_fewestFor_1 15 rfl rfl)
theorem dX0_fewestFor_40 : decode cX0_fewestFor 40 = .ok (.iload_n 2, 1) := dk_28 (dk_at dksX0_fewestFor_1 16 rfl rfl)
theorem dX0_fewestFor_41 : decode cX0_fewestFor 41 = .ok (.if_icmp .ge 8, 3) := dk_162 0 8 (dk_at dksX0_fewestFor_1 17 rfl rfl)
theorem dX0_fewestFor_44 : decode cX0_fewestFor 44 = .ok (.iload 4, 2) := dk_21 4 (dk_at dksX0_fewestFor_1 20 rfl rfl)
theorem dX0_fewestFor_46 : decode cX0_fewestFor 46 = .ok (.iconst 1, 1) := dk_4 (dk_at dksX0_fewestFor_1 22 rfl rfl)
theorem dX0_fewestFor_47 : decode cX0_fewestFor 47 = .ok (.iadd, 1) := dk_96 (dk_at dksX0_fewestFor_1 23 rfl rfl)
theorem dX0_fewestFor_48 : decode cX0_fewestFor 48 = .ok (.istore_n 2, 1) := dk_61 (dk_at dksX0_fewestFor_2 0 rfl rfl)
theorem dX0_fewestFor_49 : decode cX0_fewestFor 49 = .ok (.iload_n 3, 1) := dk_29 (dk_at dksX0_fewestFor_2 1 rfl rfl)
theorem dX0_fewestFor_50 : decode cX0_fewestFor 50 = .ok (.iconst 1, 1) := dk_4 (dk_at dksX0_fewestFor_2 2 rfl rfl)
theorem dX0_fewestFor_51 : decode cX0_fewestFor 51 = .ok (.isub, 1) := dk_100 (dk_at dksX0_fewestFor_2 3 rfl rfl)
theorem dX0_fewestFor_52 : decode cX0_fewestFor 52 = .ok (.iload_n 1, 1) := dk_27 (dk_at dksX0_fewestFor_2 4 rfl rfl)
theorem dX0_fewestFor_53 : decode cX0_fewestFor 53 = .ok (.iand, 1) := dk_126 (dk_at dksX0_fewestFor_2 5 rfl rfl)
theorem dX0_fewestFor_54 : decode cX0_fewestFor 54 = .ok (.istore_n 3, 1) := dk_62 (dk_at dksX0_fewestFor_2 6 rfl rfl)
theorem dX0_fewestFor_55 : decode cX0_fewestFor 55 = .ok (.goto (-50), 3) := dk_167 255 206 (dk_at dksX0_fewestFor_2 7 rfl rfl)
theorem dX0_fewestFor_58 : decode cX0_fewestFor 58 = .ok (.iload_n 2, 1) := dk_28 (dk_at dksX0_fewestFor_2 10 rfl rfl)
theorem dX0_fewestFor_59 : decode cX0_fewestFor 59 = .ok (.ireturn, 1) := dk_172 (dk_at dksX0_fewestFor_2 11 rfl rfl)
abbrev cX0_firstLoad : ByteArray := prog_1_method_30_code
def yX0_firstLoad : MethodName := ⟨RX0, "firstLoad", "(I)I"⟩
def dkwX0_firstLoad_1 : List UInt8 := [130, 46, 42, 180, 0, 22, 27, 46, 4, 100, 159, 0, 9, 132, 2, 1, 167, 255, 218, 28, 172]
abbrev dktX0_firstLoad_1 : List UInt8 := dkwX0_firstLoad_1 ++ []
def dkwX0_firstLoad_0 : List UInt8 := [4, 61, 28, 27, 2, 130, 126, 154, 0, 30, 42, 28, 182, 0, 160, 153, 0, 22, 42, 180, 0, 22, 27, 28]
abbrev dktX0_firstLoad_0 : List UInt8 := dkwX0_firstLoad_0 ++ dktX0_firstLoad_1
theorem dksX0_firstLoad_0 : cX0_firstLoad.data.toList.drop 0 = dktX0_firstLoad_0 := by decide +kernel
theorem dksX0_firstLoad_1 : cX0_firstLoad.data.toList.drop 24 = dktX0_firstLoad_1 := dk_seg dksX0_firstLoad_0 24 rfl rfl
theorem dX0_firstLoad_0 : decode cX0_firstLoad 0 = .ok (.iconst 1, 1) := dk_4 (dk_at dksX0_firstLoad_0 0 rfl rfl)
theorem dX0_firstLoad_1 : decode cX0_firstLoad 1 = .ok (.istore_n 2, 1) := dk_61 (dk_at dksX0_firstLoad_0 1 rfl rfl)
theorem dX0_firstLoad_2 : decode cX0_firstLoad 2 = .ok (.iload_n 2, 1) := dk_28 (dk_at dksX0_firstLoad_0 2 rfl rfl)
theorem dX0_firstLoad_3 : decode cX0_firstLoad 3 = .ok (.iload_n 1, 1) := dk_27 (dk_at dksX0_firstLoad_0 3 rfl rfl)
theorem dX0_firstLoad_4 : decode cX0_firstLoad 4 = .ok (.iconst (-1), 1) := dk_2 (dk_at dksX0_firstLoad_0 4 rfl rfl)
theorem dX0_firstLoad_5 : decode cX0_firstLoad 5 = .ok (.ixor, 1) := dk_130 (dk_at dksX0_firstLoad_0 5 rfl rfl)
theorem dX0_firstLoad_6 : decode cX0_firstLoad 6 = .ok (.iand, 1) := dk_126 (dk_at dksX0_firstLoad_0 6 rfl rfl)
theorem dX0_firstLoad_7 : decode cX0_firstLoad 7 = .ok (.ifCond .ne 30, 3) := dk_154 0 30 (dk_at dksX0_firstLoad_0 7 rfl rfl)
theorem dX0_firstLoad_10 : decode cX0_firstLoad 10 = .ok (.aload_n 0, 1) := dk_42 (dk_at dksX0_firstLoad_0 10 rfl rfl)
theorem dX0_firstLoad_11 : decode cX0_firstLoad 11 = .ok (.iload_n 2, 1) := dk_28 (dk_at dksX0_firstLoad_0 11 rfl rfl)
theorem dX0_firstLoad_12 : decode cX0_firstLoad 12 = .ok (.invokevirtual 160, 3) := dk_182 0 160 (dk_at dksX0_firstLoad_0 12 rfl rfl)
theorem dX0_firstLoad_15 : decode cX0_firstLoad 15 = .ok (.ifCond .eq 22, 3) := dk_153 0 22 (dk_at dksX0_firstLoad_0 15 rfl rfl)
theorem dX0_firstLoad_18 : decode cX0_firstLoad 18 = .ok (.aload_n 0, 1) := dk_42 (dk_at dksX0_firstLoad_0 18 rfl rfl)
theorem dX0_firstLoad_19 : decode cX0_firstLoad 19 = .ok (.getfield 22, 3) := dk_180 0 22 (dk_at dksX0_firstLoad_0 19 rfl rfl)
theorem dX0_firstLoad_22 : decode cX0_firstLoad 22 = .ok (.iload_n 1, 1) := dk_27 (dk_at dksX0_firstLoad_0 22 rfl rfl)
theorem dX0_firstLoad_23 : decode cX0_firstLoad 23 = .ok (.iload_n 2, 1) := dk_28 (dk_at dksX0_firstLoad_0 23 rfl rfl)
theorem dX0_firstLoad_24 : decode cX0_firstLoad 24 = .ok (.ixor, 1) := dk_130 (dk_at dksX0_firstLoad_1 0 rfl rfl)
theorem dX0_firstLoad_25 : decode cX0_firstLoad 25 = .ok (.iaload, 1) := dk_46 (dk_at dksX0_firstLoad_1 1 rfl rfl)
theorem dX0_firstLoad_26 : decode cX0_firstLoad 26 = .ok (.aload_n 0, 1) := dk_42 (dk_at dksX0_firstLoad_1 2 rfl rfl)
theorem dX0_firstLoad_27 : decode cX0_firstLoad 27 = .ok (.getfield 22, 3) := dk_180 0 22 (dk_at dksX0_firstLoad_1 3 rfl rfl)
theorem dX0_firstLoad_30 : decode cX0_firstLoad 30 = .ok (.iload_n 1, 1) := dk_27 (dk_at dksX0_firstLoad_1 6 rfl rfl)
theorem dX0_firstLoad_31 : decode cX0_firstLoad 31 = .ok (.iaload, 1) := dk_46 (dk_at dksX0_firstLoad_1 7 rfl rfl)
theorem dX0_firstLoad_32 : decode cX0_firstLoad 32 = .ok (.iconst 1, 1) := dk_4 (dk_at dksX0_firstLoad_1 8 rfl rfl)
theorem dX0_firstLoad_33 : decode cX0_firstLoad 33 = .ok (.isub, 1) := dk_100 (dk_at dksX0_firstLoad_1 9 rfl rfl)
theorem dX0_firstLoad_34 : decode cX0_firstLoad 34 = .ok (.if_icmp .eq 9, 3) := dk_159 0 9 (dk_at dksX0_firstLoad_1 10 rfl rfl)
theorem dX0_firstLoad_37 : decode cX0_firstLoad 37 = .ok (.iinc 2 1, 3) := dk_132 2 1 (dk_at dksX0_firstLoad_1 13 rfl rfl)
theorem dX0_firstLoad_40 : decode cX0_firstLoad 40 = .ok (.goto (-38), 3) := dk_167 255 218 (dk_at dksX0_firstLoad_1 16 rfl rfl)
theorem dX0_firstLoad_43 : decode cX0_firstLoad 43 = .ok (.iload_n 2, 1) := dk_28 (dk_at dksX0_firstLoad_1 19 rfl rfl)
theorem dX0_firstLoad_44 : decode cX0_firstLoad 44 = .ok (.ireturn, 1) := dk_172 (dk_at dksX0_firstLoad_1 20 rfl rfl)
abbrev cX0_loan : ByteArray := prog_1_method_33_code
def yX0_loan : MethodName := ⟨RX0, "loan", "(III)I"⟩
def dkwX0_loan_6 : List UInt8 := [167, 255, 193, 29, 154, 0, 8, 21, 4, 167, 0, 5, 21, 5, 172]
abbrev dktX0_loan_6 : List UInt8 := dkwX0_loan_6 ++ []
def dkwX0_loan_5 : List UInt8 := [21, 4, 155, 0, 10, 21, 7, 21, 4, 162, 0, 11, 21, 7, 54, 4, 21, 6, 54, 5, 132, 6, 1]
abbrev dktX0_loan_5 : List UInt8 := dkwX0_loan_5 ++ dktX0_loan_6
def dkwX0_loan_4 : List UInt8 := [160, 0, 8, 16, 247, 167, 0, 11, 42, 27, 21, 6, 28, 182, 0, 176, 54, 7, 21, 7, 158, 0, 23]
abbrev dktX0_loan_4 : List UInt8 := dkwX0_loan_4 ++ dktX0_loan_5
def dkwX0_loan_3 : List UInt8 := [16, 247, 54, 5, 3, 54, 6, 21, 6, 42, 180, 0, 18, 185, 0, 54, 1, 0, 162, 0, 55, 21, 6, 27]
abbrev dktX0_loan_3 : List UInt8 := dkwX0_loan_3 ++ dktX0_loan_4
def dkwX0_loan_2 : List UInt8 := [182, 0, 146, 4, 27, 120, 160, 0, 14, 29, 154, 0, 7, 3, 167, 0, 5, 16, 247, 172, 16, 247, 54, 4]
abbrev dktX0_loan_2 : List UInt8 := dkwX0_loan_2 ++ dktX0_loan_3
def dkwX0_loan_1 : List UInt8 := [184, 0, 58, 154, 0, 6, 16, 254, 172, 28, 27, 184, 0, 135, 154, 0, 6, 16, 253, 172, 42, 28]
abbrev dktX0_loan_1 : List UInt8 := dkwX0_loan_1 ++ dktX0_loan_2
def dkwX0_loan_0 : List UInt8 := [42, 27, 182, 0, 62, 153, 0, 5, 2, 172, 42, 28, 182, 0, 157, 153, 0, 13, 29, 133, 9, 10]
abbrev dktX0_loan_0 : List UInt8 := dkwX0_loan_0 ++ dktX0_loan_1
theorem dksX0_loan_0 : cX0_loan.data.toList.drop 0 = dktX0_loan_0 := by decide +kernel
theorem dksX0_loan_1 : cX0_loan.data.toList.drop 22 = dktX0_loan_1 := dk_seg dksX0_loan_0 22 rfl rfl
theorem dksX0_loan_2 : cX0_loan.data.toList.drop 44 = dktX0_loan_2 := dk_seg dksX0_loan_1 22 rfl rfl
theorem dksX0_loan_3 : cX0_loan.data.toList.drop 68 = dktX0_loan_3 := dk_seg dksX0_loan_2 24 rfl rfl
theorem dksX0_loan_4 : cX0_loan.data.toList.drop 92 = dktX0_loan_4 := dk_seg dksX0_loan_3 24 rfl rfl
theorem dksX0_loan_5 : cX0_loan.data.toList.drop 115 = dktX0_loan_5 := dk_seg dksX0_loan_4 23 rfl rfl
theorem dksX0_loan_6 : cX0_loan.data.toList.drop 138 = dktX0_loan_6 := dk_seg dksX0_loan_5 23 rfl rfl
theorem dX0_loan_0 : decode cX0_loan 0 = .ok (.aload_n 0, 1) := dk_42 (dk_at dksX0_loan_0 0 rfl rfl)
theorem dX0_loan_1 : decode cX0_loan 1 = .ok (.iload_n 1, 1) := dk_27 (dk_at dksX0_loan_0 1 rfl rfl)
theorem dX0_loan_2 : decode cX0_loan 2 = .ok (.invokevirtual 62, 3) := dk_182 0 62 (dk_at dksX0_loan_0 2 rfl rfl)
theorem dX0_loan_5 : decode cX0_loan 5 = .ok (.ifCond .eq 5, 3) := dk_153 0 5 (dk_at dksX0_loan_0 5 rfl rfl)
theorem dX0_loan_8 : decode cX0_loan 8 = .ok (.iconst (-1), 1) := dk_2 (dk_at dksX0_loan_0 8 rfl rfl)
theorem dX0_loan_9 : decode cX0_loan 9 = .ok (.ireturn, 1) := dk_172 (dk_at dksX0_loan_0 9 rfl rfl)
theorem dX0_loan_10 : decode cX0_loan 10 = .ok (.aload_n 0, 1) := dk_42 (dk_at dksX0_loan_0 10 rfl rfl)
theorem dX0_loan_11 : decode cX0_loan 11 = .ok (.iload_n 2, 1) := dk_28 (dk_at dksX0_loan_0 11 rfl rfl)
theorem dX0_loan_12 : decode cX0_loan 12 = .ok (.invokevirtual 157, 3) := dk_182 0 157 (dk_at dksX0_loan_0 12 rfl rfl)
theorem dX0_loan_15 : decode cX0_loan 15 = .ok (.ifCond .eq 13, 3) := dk_153 0 13 (dk_at dksX0_loan_0 15 rfl rfl)
theorem dX0_loan_18 : decode cX0_loan 18 = .ok (.iload_n 3, 1) := dk_29 (dk_at dksX0_loan_0 18 rfl rfl)
theorem dX0_loan_19 : decode cX0_loan 19 = .ok (.i2l, 1) := dk_133 (dk_at dksX0_loan_0 19 rfl rfl)
theorem dX0_loan_20 : decode cX0_loan 20 = .ok (.lconst 0, 1) := dk_9 (dk_at dksX0_loan_0 20 rfl rfl)
theorem dX0_loan_21 : decode cX0_loan 21 = .ok (.lconst 1, 1) := dk_10 (dk_at dksX0_loan_0 21 rfl rfl)
theorem dX0_loan_22 : decode cX0_loan 22 = .ok (.invokestatic 58, 3) := dk_184 0 58 (dk_at dksX0_loan_1 0 rfl rfl)
theorem dX0_loan_25 : decode cX0_loan 25 = .ok (.ifCond .ne 6, 3) := dk_154 0 6 (dk_at dksX0_loan_1 3 rfl rfl)
theorem dX0_loan_28 : decode cX0_loan 28 = .ok (.bipush (-2), 2) := dk_16 254 (dk_at dksX0_loan_1 6 rfl rfl)
theorem dX0_loan_30 : decode cX0_loan 30 = .ok (.ireturn, 1) := dk_172 (dk_at dksX0_loan_1 8 rfl rfl)
theorem dX0_loan_31 : decode cX0_loan 31 = .ok (.iload_n 2, 1) := dk_28 (dk_at dksX0_loan_1 9 rfl rfl)
theorem dX0_loan_32 : decode cX0_loan 32 = .ok (.iload_n 1, 1) := dk_27 (dk_at dksX0_loan_1 10 rfl rfl)
theorem dX0_loan_33 : decode cX0_loan 33 = .ok (.invokestatic 135, 3) := dk_184 0 135 (dk_at dksX0_loan_1 11 rfl rfl)
theorem dX0_loan_36 : decode cX0_loan 36 = .ok (.ifCond .ne 6, 3) := dk_154 0 6 (dk_at dksX0_loan_1 14 rfl rfl)
theorem dX0_loan_39 : decode cX0_loan 39 = .ok (.bipush (-3), 2) := dk_16 253 (dk_at dksX0_loan_1 17 rfl rfl)
theorem dX0_loan_41 : decode cX0_loan 41 = .ok (.ireturn, 1) := dk_172 (dk_at dksX0_loan_1 19 rfl rfl)
theorem dX0_loan_42 : decode cX0_loan 42 = .ok (.aload_n 0, 1) := dk_42 (dk_at dksX0_loan_1 20 rfl rfl)
theorem dX0_loan_43 : decode cX0_loan 43 = .ok (.iload_n 2, 1) := dk_28 (dk_at dksX0_loan_1 21 rfl rfl)
theorem dX0_loan_44 : decode cX0_loan 44 = .ok (.invokevirtual 146, 3) := dk_182 0 146 (dk_at dksX0_loan_2 0 rfl rfl)
theorem dX0_loan_47 : decode cX0_loan 47 = .ok (.iconst 1, 1) := dk_4 (dk_at dksX0_loan_2 3 rfl rfl)
theorem dX0_loan_48 : decode cX0_loan 48 = .ok (.iload_n 1, 1) := dk_27 (dk_at dksX0_loan_2 4 rfl rfl)
theorem dX0_loan_49 : decode cX0_loan 49 = .ok (.ishl, 1) := dk_120 (dk_at dksX0_loan_2 5 rfl rfl)
theorem dX0_loan_50 : decode cX0_loan 50 = .ok (.if_icmp .ne 14, 3) := dk_160 0 14 (dk_at dksX0_loan_2 6 rfl rfl)
theorem dX0_loan_53 : decode cX0_loan 53 = .ok (.iload_n 3, 1) := dk_29 (dk_at dksX0_loan_2 9 rfl rfl)
theorem dX0_loan_54 : decode cX0_loan 54 = .ok (.ifCond .ne 7, 3) := dk_154 0 7 (dk_at dksX0_loan_2 10 rfl rfl)
theorem dX0_loan_57 : decode cX0_loan 57 = .ok (.iconst 0, 1) := dk_3 (dk_at dksX0_loan_2 13 rfl rfl)
theorem dX0_loan_58 : decode cX0_loan 58 = .ok (.goto 5, 3) := dk_167 0 5 (dk_at dksX0_loan_2 14 rfl rfl)
theorem dX0_loan_61 : decode cX0_loan 61 = .ok (.bipush (-9), 2) := dk_16 247 (dk_at dksX0_loan_2 17 rfl rfl)
theorem dX0_loan_63 : decode cX0_loan 63 = .ok (.ireturn, 1) := dk_172 (dk_at dksX0_loan_2 19 rfl rfl)
theorem dX0_loan_64 : decode cX0_loan 64 = .ok (.bipush (-9), 2) := dk_16 247 (dk_at dksX0_loan_2 20 rfl rfl)
theorem dX0_loan_66 : decode cX0_loan 66 = .ok (.istore 4, 2) := dk_54 4 (dk_at dksX0_loan_2 22 rfl rfl)
theorem dX0_loan_68 : decode cX0_loan 68 = .ok (.bipush (-9), 2) := dk_16 247 (dk_at dksX0_loan_3 0 rfl rfl)
theorem dX0_loan_70 : decode cX0_loan 70 = .ok (.istore 5, 2) := dk_54 5 (dk_at dksX0_loan_3 2 rfl rfl)
theorem dX0_loan_72 : decode cX0_loan 72 = .ok (.iconst 0, 1) := dk_3 (dk_at dksX0_loan_3 4 rfl rfl)
theorem dX0_loan_73 : decode cX0_loan 73 = .ok (.istore 6, 2) := dk_54 6 (dk_at dksX0_loan_3 5 rfl rfl)
theorem dX0_loan_75 : decode cX0_loan 75 = .ok (.iload 6, 2) := dk_21 6 (dk_at dksX0_loan_3 7 rfl rfl)
theorem dX0_loan_77 : decode cX0_loan 77 = .ok (.aload_n 0, 1) := dk_42 (dk_at dksX0_loan_3 9 rfl rfl)
theorem dX0_loan_78 : decode cX0_loan 78 = .ok (.getfield 18, 3) := dk_180 0 18 (dk_at dksX0_loan_3 10 rfl rfl)
theorem dX0_loan_81 : decode cX0_loan 81 = .ok (.invokeinterface 54 1, 5) := by decide +kernel
theorem dX0_loan_86 : decode cX0_loan 86 = .ok (.if_icmp .ge 55, 3) := dk_162 0 55 (dk_at dksX0_loan_3 18 rfl rfl)
theorem dX0_loan_89 : decode cX0_loan 89 = .ok (.iload 6, 2) := dk_21 6 (dk_at dksX0_loan_3 21 rfl rfl)
theorem dX0_loan_91 : decode cX0_loan 91 = .ok (.iload_n 1, 1) := dk_27 (dk_at dksX0_loan_3 23 rfl rfl)
theorem dX0_loan_92 : decode cX0_loan 92 = .ok (.if_icmp .ne 8, 3) := dk_160 0 8 (dk_at dksX0_loan_4 0 rfl rfl)
theorem dX0_loan_95 : decode cX0_loan 95 = .ok (.bipush (-9), 2) := dk_16 247 (dk_at dksX0_loan_4 3 rfl rfl)
theorem dX0_loan_97 : decode cX0_loan 97 = .ok (.goto 11, 3) := dk_167 0 11 (dk_at dksX0_loan_4 5 rfl rfl)
theorem dX0_loan_100 : decode cX0_loan 100 = .ok (.aload_n 0, 1) := dk_42 (dk_at dksX0_loan_4 8 rfl rfl)
theorem dX0_loan_101 : decode cX0_loan 101 = .ok (.iload_n 1, 1) := dk_27 (dk_at dksX0_loan_4 9 rfl rfl)
theorem dX0_loan_102 : decode cX0_loan 102 = .ok (.iload 6, 2) := dk_21 6 (dk_at dksX0_loan_4 10 rfl rfl)
theorem dX0_loan_104 : decode cX0_loan 104 = .ok (.iload_n 2, 1) := dk_28 (dk_at dksX0_loan_4 12 rfl rfl)
theorem dX0_loan_105 : decode cX0_loan 105 = .ok (.invokevirtual 176, 3) := dk_182 0 176 (dk_at dksX0_loan_4 13 rfl rfl)
theorem dX0_loan_108 : decode cX0_loan 108 = .ok (.istore 7, 2) := dk_54 7 (dk_at dksX0_loan_4 16 rfl rfl)
theorem dX0_loan_110 : decode cX0_loan 110 = .ok (.iload 7, 2) := dk_21 7 (dk_at dksX0_loan_4 18 rfl rfl)
theorem dX0_loan_112 : decode cX0_loan 112 = .ok (.ifCond .le 23, 3) := dk_158 0 23 (dk_at dksX0_loan_4 20 rfl rfl)
theorem dX0_loan_115 : decode cX0_loan 115 = .ok (.iload 4, 2) := dk_21 4 (dk_at dksX0_loan_5 0 rfl rfl)
theorem dX0_loan_117 : decode cX0_loan 117 = .ok (.ifCond .lt 10, 3) := dk_155 0 10 (dk_at dksX0_loan_5 2 rfl rfl)
theorem dX0_loan_120 : decode cX0_loan 120 = .ok (.iload 7, 2) := dk_21 7 (dk_at dksX0_loan_5 5 rfl rfl)
theorem dX0_loan_122 : decode cX0_loan 122 = .ok (.iload 4, 2) := dk_21 4 (dk_at dksX0_loan_5 7 rfl rfl)
theorem dX0_loan_124 : decode cX0_loan 124 = .ok (.if_icmp .ge 11, 3) := dk_162 0 11 (dk_at dksX0_loan_5 9 rfl rfl)
theorem dX0_loan_127 : decode cX0_loan 127 = .ok (.iload 7, 2) := dk_21 7 (dk_at dksX0_loan_5 12 rfl rfl)
theorem dX0_loan_129 : decode cX0_loan 129 = .ok (.istore 4, 2) := dk_54 4 (dk_at dksX0_loan_5 14 rfl rfl)
theorem dX0_loan_131 : decode cX0_loan 131 = .ok (.iload 6, 2) := dk_21 6 (dk_at dksX0_loan_5 16 rfl rfl)
theorem dX0_loan_133 : decode cX0_loan 133 = .ok (.istore 5, 2) := dk_54 5 (dk_at dksX0_loan_5 18 rfl rfl)
theorem dX0_loan_135 : decode cX0_loan 135 = .ok (.iinc 6 1, 3) := dk_132 6 1 (dk_at dksX0_loan_5 20 rfl rfl)
theorem dX0_loan_138 : decode cX0_loan 138 = .ok (.goto (-63), 3) := dk_167 255 193 (dk_at dksX0_loan_6 0 rfl rfl)
theorem dX0_loan_141 : decode cX0_loan 141 = .ok (.iload_n 3, 1) := dk_29 (dk_at dksX0_loan_6 3 rfl rfl)
theorem dX0_loan_142 : decode cX0_loan 142 = .ok (.ifCond .ne 8, 3) := dk_154 0 8 (dk_at dksX0_loan_6 4 rfl rfl)
theorem dX0_loan_145 : decode cX0_loan 145 = .ok (.iload 4, 2) := dk_21 4 (dk_at dksX0_loan_6 7 rfl rfl)
theorem dX0_loan_147 : decode cX0_loan 147 = .ok (.goto 5, 3) := dk_167 0 5 (dk_at dksX0_loan_6 9 rfl rfl)
theorem dX0_loan_150 : decode cX0_loan 150 = .ok (.iload 5, 2) := dk_21 5 (dk_at dksX0_loan_6 12 rfl rfl)
theorem dX0_loan_152 : decode cX0_loan 152 = .ok (.ireturn, 1) := dk_172 (dk_at dksX0_loan_6 14 rfl rfl)
abbrev cX0_penceTo : ByteArray := prog_1_method_32_code
def yX0_penceTo : MethodName := ⟨RX0, "penceTo", "(III)I"⟩
def dkwX0_penceTo_3 : List UInt8 := [132, 7, 1, 167, 255, 209, 42, 180, 0, 11, 21, 4, 21, 5, 79, 21, 6, 172]
abbrev dktX0_penceTo_3 : List UInt8 := dkwX0_penceTo_3 ++ []
def dkwX0_penceTo_2 : List UInt8 := [29, 182, 0, 146, 4, 27, 120, 160, 0, 11, 21, 7, 21, 5, 100, 167, 0, 5, 16, 247, 54, 6]
abbrev dktX0_penceTo_2 : List UInt8 := dkwX0_penceTo_2 ++ dktX0_penceTo_3
def dkwX0_penceTo_1 : List UInt8 := [54, 7, 21, 7, 16, 9, 163, 0, 46, 21, 6, 156, 0, 41, 42, 180, 0, 11, 21, 4, 21, 7, 79, 42]
abbrev dktX0_penceTo_1 : List UInt8 := dkwX0_penceTo_1 ++ dktX0_penceTo_2
def dkwX0_penceTo_0 : List UInt8 := [27, 8, 104, 28, 96, 54, 4, 42, 180, 0, 11, 21, 4, 46, 54, 5, 16, 247, 54, 6, 21, 5, 4, 96]
abbrev dktX0_penceTo_0 : List UInt8 := dkwX0_penceTo_0 ++ dktX0_penceTo_1
theorem dksX0_penceTo_0 : cX0_penceTo.data.toList.drop 0 = dktX0_penceTo_0 := by decide +kernel
theorem dksX0_penceTo_1 : cX0_penceTo.data.toList.drop 24 = dktX0_penceTo_1 := dk_seg dksX0_penceTo_0 24 rfl rfl
theorem dksX0_penceTo_2 : cX0_penceTo.data.toList.drop 48 = dktX0_penceTo_2 := dk_seg dksX0_penceTo_1 24 rfl rfl
theorem dksX0_penceTo_3 : cX0_penceTo.data.toList.drop 70 = dktX0_penceTo_3 := dk_seg dksX0_penceTo_2 22 rfl rfl
theorem dX0_penceTo_0 : decode cX0_penceTo 0 = .ok (.iload_n 1, 1) := dk_27 (dk_at dksX0_penceTo_0 0 rfl rfl)
theorem dX0_penceTo_1 : decode cX0_penceTo 1 = .ok (.iconst 5, 1) := dk_8 (dk_at dksX0_penceTo_0 1 rfl rfl)
theorem dX0_penceTo_2 : decode cX0_penceTo 2 = .ok (.imul, 1) := dk_104 (dk_at dksX0_penceTo_0 2 rfl rfl)
theorem dX0_penceTo_3 : decode cX0_penceTo 3 = .ok (.iload_n 2, 1) := dk_28 (dk_at dksX0_penceTo_0 3 rfl rfl)
theorem dX0_penceTo_4 : decode cX0_penceTo 4 = .ok (.iadd, 1) := dk_96 (dk_at dksX0_penceTo_0 4 rfl rfl)
theorem dX0_penceTo_5 : decode cX0_penceTo 5 = .ok (.istore 4, 2) := dk_54 4 (dk_at dksX0_penceTo_0 5 rfl rfl)
theorem dX0_penceTo_7 : decode cX0_penceTo 7 = .ok (.aload_n 0, 1) := dk_42 (dk_at dksX0_penceTo_0 7 rfl rfl)
theorem dX0_penceTo_8 : decode cX0_penceTo 8 = .ok (.getfield 11, 3) := dk_180 0 11 (dk_at dksX0_penceTo_0 8 rfl rfl)
theorem dX0_penceTo_11 : decode cX0_penceTo 11 = .ok (.iload 4, 2) := dk_21 4 (dk_at dksX0_penceTo_0 11 rfl rfl)
theorem dX0_penceTo_13 : decode cX0_penceTo 13 = .ok (.iaload, 1) := dk_46 (dk_at dksX0_penceTo_0 13 rfl rfl)
theorem dX0_penceTo_14 : decode cX0_penceTo 14 = .ok (.istore 5, 2) := dk_54 5 (dk_at dksX0_penceTo_0 14 rfl rfl)
theorem dX0_penceTo_16 : decode cX0_penceTo 16 = .ok (.bipush (-9), 2) := dk_16 247 (dk_at dksX0_penceTo_0 16 rfl rfl)
theorem dX0_penceTo_18 : decode cX0_penceTo 18 = .ok (.istore 6, 2) := dk_54 6 (dk_at dksX0_penceTo_0 18 rfl rfl)
theorem dX0_penceTo_20 : decode cX0_penceTo 20 = .ok (.iload 5, 2) := dk_21 5 (dk_at dksX0_penceTo_0 20 rfl rfl)
theorem dX0_penceTo_22 : decode cX0_penceTo 22 = .ok (.iconst 1, 1) := dk_4 (dk_at dksX0_penceTo_0 22 rfl rfl)
theorem dX0_penceTo_23 : decode cX0_penceTo 23 = .ok (.iadd, 1) := dk_96 (dk_at dksX0_penceTo_0 23 rfl rfl)
theorem dX0_penceTo_24 : decode cX0_penceTo 24 = .ok (.istore 7, 2) := dk_54 7 (dk_at dksX0_penceTo_1 0 rfl rfl)
theorem dX0_penceTo_26 : decode cX0_penceTo 26 = .ok (.iload 7, 2) := dk_21 7 (dk_at dksX0_penceTo_1 2 rfl rfl)
theorem dX0_penceTo_28 : decode cX0_penceTo 28 = .ok (.bipush 9, 2) := dk_16 9 (dk_at dksX0_penceTo_1 4 rfl rfl)
theorem dX0_penceTo_30 : decode cX0_penceTo 30 = .ok (.if_icmp .gt 46, 3) := dk_163 0 46 (dk_at dksX0_penceTo_1 6 rfl rfl)
theorem dX0_penceTo_33 : decode cX0_penceTo 33 = .ok (.iload 6, 2) := dk_21 6 (dk_at dksX0_penceTo_1 9 rfl rfl)
theorem dX0_penceTo_35 : decode cX0_penceTo 35 = .ok (.ifCond .ge 41, 3) := dk_156 0 41 (dk_at dksX0_penceTo_1 11 rfl rfl)
theorem dX0_penceTo_38 : decode cX0_penceTo 38 = .ok (.aload_n 0, 1) := dk_42 (dk_at dksX0_penceTo_1 14 rfl rfl)
theorem dX0_penceTo_39 : decode cX0_penceTo 39 = .ok (.getfield 11, 3) := dk_180 0 11 (dk_at dksX0_penceTo_1 15 rfl rfl)
theorem dX0_penceTo_42 : decode cX0_penceTo 42 = .ok (.iload 4, 2) := dk_21 4 (dk_at dksX0_penceTo_1 18 rfl rfl)
theorem dX0_penceTo_44 : decode cX0_penceTo 44 = .ok (.iload 7, 2) := dk_21 7 (dk_at dksX0_penceTo_1 20 rfl rfl)
theorem dX0_penceTo_46 : decode cX0_penceTo 46 = .ok (.iastore, 1) := dk_79 (dk_at dksX0_penceTo_1 22 rfl rfl)
theorem dX0_penceTo_47 : decode cX0_penceTo 47 = .ok (.aload_n 0, 1) := dk_42 (dk_at dksX0_penceTo_1 23 rfl rfl)
theorem dX0_penceTo_48 : decode cX0_penceTo 48 = .ok (.iload_n 3, 1) := dk_29 (dk_at dksX0_penceTo_2 0 rfl rfl)
theorem dX0_penceTo_49 : decode cX0_penceTo 49 = .ok (.invokevirtual 146, 3) := dk_182 0 146 (dk_at dksX0_penceTo_2 1 rfl rfl)
theorem dX0_penceTo_52 : decode cX0_penceTo 52 = .ok (.iconst 1, 1) := dk_4 (dk_at dksX0_penceTo_2 4 rfl rfl)
theorem dX0_penceTo_53 : decode cX0_penceTo 53 = .ok (.iload_n 1, 1) := dk_27 (dk_at dksX0_penceTo_2 5 rfl rfl)
theorem dX0_penceTo_54 : decode cX0_penceTo 54 = .ok (.ishl, 1) := dk_120 (dk_at dksX0_penceTo_2 6 rfl rfl)
theorem dX0_penceTo_55 : decode cX0_penceTo 55 = .ok (.if_icmp .ne 11, 3) := dk_160 0 11 (dk_at dksX0_penceTo_2 7 rfl rfl)
theorem dX0_penceTo_58 : decode cX0_penceTo 58 = .ok (.iload 7, 2) := dk_21 7 (dk_at dksX0_penceTo_2 10 rfl rfl)
theorem dX0_penceTo_60 : decode cX0_penceTo 60 = .ok (.iload 5, 2) := dk_21 5 (dk_at dksX0_penceTo_2 12 rfl rfl)
theorem dX0_penceTo_62 : decode cX0_penceTo 62 = .ok (.isub, 1) := dk_100 (dk_at dksX0_penceTo_2 14 rfl rfl)
theorem dX0_penceTo_63 : decode cX0_penceTo 63 = .ok (.goto 5, 3) := dk_167 0 5 (dk_at dksX0_penceTo_2 15 rfl rfl)
theorem dX0_penceTo_66 : decode cX0_penceTo 66 = .ok (.bipush (-9), 2) := dk_16 247 (dk_at dksX0_penceTo_2 18 rfl rfl)
theorem dX0_penceTo_68 : decode cX0_penceTo 68 = .ok (.istore 6, 2) := dk_54 6 (dk_at dksX0_penceTo_2 20 rfl rfl)
theorem dX0_penceTo_70 : decode cX0_penceTo 70 = .ok (.iinc 7 1, 3) := dk_132 7 1 (dk_at dksX0_penceTo_3 0 rfl rfl)
theorem dX0_penceTo_73 : decode cX0_penceTo 73 = .ok (.goto (-47), 3) := dk_167 255 209 (dk_at dksX0_penceTo_3 3 rfl rfl)
theorem dX0_penceTo_76 : decode cX0_penceTo 76 = .ok (.aload_n 0, 1) := dk_42 (dk_at dksX0_penceTo_3 6 rfl rfl)
theorem dX0_penceTo_77 : decode cX0_penceTo 77 = .ok (.getfield 11, 3) := dk_180 0 11 (dk_at dksX0_penceTo_3 7 rfl rfl)
theorem dX0_penceTo_80 : decode cX0_penceTo 80 = .ok (.iload 4, 2) := dk_21 4 (dk_at dksX0_penceTo_3 10 rfl rfl)
theorem dX0_penceTo_82 : decode cX0_penceTo 82 = .ok (.iload 5, 2) := dk_21 5 (dk_at dksX0_penceTo_3 12 rfl rfl)
theorem dX0_penceTo_84 : decode cX0_penceTo 84 = .ok (.iastore, 1) := dk_79 (dk_at dksX0_penceTo_3 14 rfl rfl)
theorem dX0_penceTo_85 : decode cX0_penceTo 85 = .ok (.iload 6, 2) := dk_21 6 (dk_at dksX0_penceTo_3 15 rfl rfl)
theorem dX0_penceTo_87 : decode cX0_penceTo 87 = .ok (.ireturn, 1) := dk_172 (dk_at dksX0_penceTo_3 17 rfl rfl)
abbrev cX0_forgave : ByteArray := prog_1_method_36_code
def yX0_forgave : MethodName := ⟨RX0, "forgave", "(I)I"⟩
def dkwX0_forgave_5 : List UInt8 := [154, 0, 7, 29, 167, 0, 4, 28, 61, 132, 3, 1, 167, 255, 160, 42, 182, 0, 189, 28, 172]
abbrev dktX0_forgave_5 : List UInt8 := dkwX0_forgave_5 ++ []
def dkwX0_forgave_4 : List UInt8 := [167, 0, 10, 42, 180, 0, 25, 21, 4, 46, 79, 132, 4, 1, 167, 255, 214, 42, 27, 182, 0, 146]
abbrev dktX0_forgave_4 : List UInt8 := dkwX0_forgave_4 ++ dktX0_forgave_5
def dkwX0_forgave_3 : List UInt8 := [190, 162, 0, 38, 42, 180, 0, 11, 21, 4, 29, 21, 4, 8, 112, 184, 0, 135, 153, 0, 7, 3]
abbrev dktX0_forgave_3 : List UInt8 := dkwX0_forgave_3 ++ dktX0_forgave_4
def dkwX0_forgave_2 : List UInt8 := [28, 155, 0, 14, 29, 184, 0, 149, 28, 184, 0, 149, 162, 0, 65, 3, 54, 4, 21, 4, 42, 180, 0, 11]
abbrev dktX0_forgave_2 : List UInt8 := dkwX0_forgave_2 ++ dktX0_forgave_3
def dkwX0_forgave_1 : List UInt8 := [182, 0, 186, 16, 247, 61, 3, 62, 29, 42, 182, 0, 66, 163, 0, 94, 29, 27, 2, 130, 126, 154, 0, 80]
abbrev dktX0_forgave_1 : List UInt8 := dkwX0_forgave_1 ++ dktX0_forgave_2
def dkwX0_forgave_0 : List UInt8 := [42, 182, 0, 132, 153, 0, 6, 16, 253, 172, 42, 27, 182, 0, 157, 154, 0, 6, 16, 254, 172, 42]
abbrev dktX0_forgave_0 : List UInt8 := dkwX0_forgave_0 ++ dktX0_forgave_1
theorem dksX0_forgave_0 : cX0_forgave.data.toList.drop 0 = dktX0_forgave_0 := by decide +kernel
theorem dksX0_forgave_1 : cX0_forgave.data.toList.drop 22 = dktX0_forgave_1 := dk_seg dksX0_forgave_0 22 rfl rfl
theorem dksX0_forgave_2 : cX0_forgave.data.toList.drop 46 = dktX0_forgave_2 := dk_seg dksX0_forgave_1 24 rfl rfl
theorem dksX0_forgave_3 : cX0_forgave.data.toList.drop 70 = dktX0_forgave_3 := dk_seg dksX0_forgave_2 24 rfl rfl
theorem dksX0_forgave_4 : cX0_forgave.data.toList.drop 92 = dktX0_forgave_4 := dk_seg dksX0_forgave_3 22 rfl rfl
theorem dksX0_forgave_5 : cX0_forgave.data.toList.drop 114 = dktX0_forgave_5 := dk_seg dksX0_forgave_4 22 rfl rfl
theorem dX0_forgave_0 : decode cX0_forgave 0 = .ok (.aload_n 0, 1) := dk_42 (dk_at dksX0_forgave_0 0 rfl rfl)
theorem dX0_forgave_1 : decode cX0_forgave 1 = .ok (.invokevirtual 132, 3) := dk_182 0 132 (dk_at dksX0_forgave_0 1 rfl rfl)
theorem dX0_forgave_4 : decode cX0_forgave 4 = .ok (.ifCond .eq 6, 3) := dk_153 0 6 (dk_at dksX0_forgave_0 4 rfl rfl)
theorem dX0_forgave_7 : decode cX0_forgave 7 = .ok (.bipush (-3), 2) := dk_16 253 (dk_at dksX0_forgave_0 7 rfl rfl)
theorem dX0_forgave_9 : decode cX0_forgave 9 = .ok (.ireturn, 1) := dk_172 (dk_at dksX0_forgave_0 9 rfl rfl)
theorem dX0_forgave_10 : decode cX0_forgave 10 = .ok (.aload_n 0, 1) := dk_42 (dk_at dksX0_forgave_0 10 rfl rfl)
theorem dX0_forgave_11 : decode cX0_forgave 11 = .ok (.iload_n 1, 1) := dk_27 (dk_at dksX0_forgave_0 11 rfl rfl)
theorem dX0_forgave_12 : decode cX0_forgave 12 = .ok (.invokevirtual 157, 3) := dk_182 0 157 (dk_at dksX0_forgave_0 12 rfl rfl)
theorem dX0_forgave_15 : decode cX0_forgave 15 = .ok (.ifCond .ne 6, 3) := dk_154 0 6 (dk_at dksX0_forgave_0 15 rfl rfl)
theorem dX0_forgave_18 : decode cX0_forgave 18 = .ok (.bipush (-2), 2) := dk_16 254 (dk_at dksX0_forgave_0 18 rfl rfl)
theorem dX0_forgave_20 : decode cX0_forgave 20 = .ok (.ireturn, 1) := dk_172 (dk_at dksX0_forgave_0 20 rfl rfl)
theorem dX0_forgave_21 : decode cX0_forgave 21 = .ok (.aload_n 0, 1) := dk_42 (dk_at dksX0_forgave_0 21 rfl rfl)
theorem dX0_forgave_22 : decode cX0_forgave 22 = .ok (.invokevirtual 186, 3) := dk_182 0 186 (dk_at dksX0_forgave_1 0 rfl rfl)
theorem dX0_forgave_25 : decode cX0_forgave 25 = .ok (.bipush (-9), 2) := dk_16 247 (dk_at dksX0_forgave_1 3 rfl rfl)
theorem dX0_forgave_27 : decode cX0_forgave 27 = .ok (.istore_n 2, 1) := dk_61 (dk_at dksX0_forgave_1 5 rfl rfl)
theorem dX0_forgave_28 : decode cX0_forgave 28 = .ok (.iconst 0, 1) := dk_3 (dk_at dksX0_forgave_1 6 rfl rfl)
theorem dX0_forgave_29 : decode cX0_forgave 29 = .ok (.istore_n 3, 1) := dk_62 (dk_at dksX0_forgave_1 7 rfl rfl)
theorem dX0_forgave_30 : decode cX0_forgave 30 = .ok (.iload_n 3, 1) := dk_29 (dk_at dksX0_forgave_1 8 rfl rfl)
theorem dX0_forgave_31 : decode cX0_forgave 31 = .ok (.aload_n 0, 1) := dk_42 (dk_at dksX0_forgave_1 9 rfl rfl)
theorem dX0_forgave_32 : decode cX0_forgave 32 = .ok (.invokevirtual 66, 3) := dk_182 0 66 (dk_at dksX0_forgave_1 10 rfl rfl)
theorem dX0_forgave_35 : decode cX0_forgave 35 = .ok (.if_icmp .gt 94, 3) := dk_163 0 94 (dk_at dksX0_forgave_1 13 rfl rfl)
theorem dX0_forgave_38 : decode cX0_forgave 38 = .ok (.iload_n 3, 1) := dk_29 (dk_at dksX0_forgave_1 16 rfl rfl)
theorem dX0_forgave_39 : decode cX0_forgave 39 = .ok (.iload_n 1, 1) := dk_27 (dk_at dksX0_forgave_1 17 rfl rfl)
theorem dX0_forgave_40 : decode cX0_forgave 40 = .ok (.iconst (-1), 1) := dk_2 (dk_at dksX0_forgave_1 18 rfl rfl)
theorem dX0_forgave_41 : decode cX0_forgave 41 = .ok (.ixor, 1) := dk_130 (dk_at dksX0_forgave_1 19 rfl rfl)
theorem dX0_forgave_42 : decode cX0_forgave 42 = .ok (.iand, 1) := dk_126 (dk_at dksX0_forgave_1 20 rfl rfl)
theorem dX0_forgave_43 : decode cX0_forgave 43 = .ok (.ifCond .ne 80, 3) := dk_154 0 80 (dk_at dksX0_forgave_1 21 rfl rfl)
theorem dX0_forgave_46 : decode cX0_forgave 46 = .ok (.iload_n 2, 1) := dk_28 (dk_at dksX0_forgave_2 0 rfl rfl)
theorem dX0_forgave_47 : decode cX0_forgave 47 = .ok (.ifCond .lt 14, 3) := dk_155 0 14 (dk_at dksX0_forgave_2 1 rfl rfl)
theorem dX0_forgave_50 : decode cX0_forgave 50 = .ok (.iload_n 3, 1) := dk_29 (dk_at dksX0_forgave_2 4 rfl rfl)
theorem dX0_forgave_51 : decode cX0_forgave 51 = .ok (.invokestatic 149, 3) := dk_184 0 149 (dk_at dksX0_forgave_2 5 rfl rfl)
theorem dX0_forgave_54 : decode cX0_forgave 54 = .ok (.iload_n 2, 1) := dk_28 (dk_at dksX0_forgave_2 8 rfl rfl)
theorem dX0_forgave_55 : decode cX0_forgave 55 = .ok (.invokestatic 149, 3) := dk_184 0 149 (dk_at dksX0_forgave_2 9 rfl rfl)
theorem dX0_forgave_58 : decode cX0_forgave 58 = .ok (.if_icmp .ge 65, 3) := dk_162 0 65 (dk_at dksX0_forgave_2 12 rfl rfl)
theorem dX0_forgave_61 : decode cX0_forgave 61 = .ok (.iconst 0, 1) := dk_3 (dk_at dksX0_forgave_2 15 rfl rfl)
theorem dX0_forgave_62 : decode cX0_forgave 62 = .ok (.istore 4, 2) := dk_54 4 (dk_at dksX0_forgave_2 16 rfl rfl)
theorem dX0_forgave_64 : decode cX0_forgave 64 = .ok (.iload 4, 2) := dk_21 4 (dk_at dksX0_forgave_2 18 rfl rfl)
theorem dX0_forgave_66 : decode cX0_forgave 66 = .ok (.aload_n 0, 1) := dk_42 (dk_at dksX0_forgave_2 20 rfl rfl)
theorem dX0_forgave_67 : decode cX0_forgave 67 = .ok (.getfield 11, 3) := dk_180 0 11 (dk_at dksX0_forgave_2 21 rfl rfl)
theorem dX0_forgave_70 : decode cX0_forgave 70 = .ok (.arraylength, 1) := dk_190 (dk_at dksX0_forgave_3 0 rfl rfl)
theorem dX0_forgave_71 : decode cX0_forgave 71 = .ok (.if_icmp .ge 38, 3) := dk_162 0 38 (dk_at dksX0_forgave_3 1 rfl rfl)
theorem dX0_forgave_74 : decode cX0_forgave 74 = .ok (.aload_n 0, 1) := dk_42 (dk_at dksX0_forgave_3 4 rfl rfl)
theorem dX0_forgave_75 : decode cX0_forgave 75 = .ok (.getfield 11, 3) := dk_180 0 11 (dk_at dksX0_forgave_3 5 rfl rfl)
theorem dX0_forgave_78 : decode cX0_forgave 78 = .ok (.iload 4, 2) := dk_21 4 (dk_at dksX0_forgave_3 8 rfl rfl)
theorem dX0_forgave_80 : decode cX0_forgave 80 = .ok (.iload_n 3, 1) := dk_29 (dk_at dksX0_forgave_3 10 rfl rfl)
theorem dX0_forgave_81 : decode cX0_forgave 81 = .ok (.iload 4, 2) := dk_21 4 (dk_at dksX0_forgave_3 11 rfl rfl)
theorem dX0_forgave_83 : decode cX0_forgave 83 = .ok (.iconst 5, 1) := dk_8 (dk_at dksX0_forgave_3 13 rfl rfl)
theorem dX0_forgave_84 : decode cX0_forgave 84 = .ok (.irem, 1) := dk_112 (dk_at dksX0_forgave_3 14 rfl rfl)
theorem dX0_forgave_85 : decode cX0_forgave 85 = .ok (.invokestatic 135, 3) := dk_184 0 135 (dk_at dksX0_forgave_3 15 rfl rfl)
theorem dX0_forgave_88 : decode cX0_forgave 88 = .ok (.ifCond .eq 7, 3) := dk_153 0 7 (dk_at dksX0_forgave_3 18 rfl rfl)
theorem dX0_forgave_91 : decode cX0_forgave 91 = .ok (.iconst 0, 1) := dk_3 (dk_at dksX0_forgave_3 21 rfl rfl)
theorem dX0_forgave_92 : decode cX0_forgave 92 = .ok (.goto 10, 3) := dk_167 0 10 (dk_at dksX0_forgave_4 0 rfl rfl)
theorem dX0_forgave_95 : decode cX0_forgave 95 = .ok (.aload_n 0, 1) := dk_42 (dk_at dksX0_forgave_4 3 rfl rfl)
theorem dX0_forgave_96 : decode cX0_forgave 96 = .ok (.getfield 25, 3) := dk_180 0 25 (dk_at dksX0_forgave_4 4 rfl rfl)
theorem dX0_forgave_99 : decode cX0_forgave 99 = .ok (.iload 4, 2) := dk_21 4 (dk_at dksX0_forgave_4 7 rfl rfl)
theorem dX0_forgave_101 : decode cX0_forgave 101 = .ok (.iaload, 1) := dk_46 (dk_at dksX0_forgave_4 9 rfl rfl)
theorem dX0_forgave_102 : decode cX0_forgave 102 = .ok (.iastore, 1) := dk_79 (dk_at dksX0_forgave_4 10 rfl rfl)
theorem dX0_forgave_103 : decode cX0_forgave 103 = .ok (.iinc 4 1, 3) := dk_132 4 1 (dk_at dksX0_forgave_4 11 rfl rfl)
theorem dX0_forgave_106 : decode cX0_forgave 106 = .ok (.goto (-42), 3) := dk_167 255 214 (dk_at dksX0_forgave_4 14 rfl rfl)
theorem dX0_forgave_109 : decode cX0_forgave 109 = .ok (.aload_n 0, 1) := dk_42 (dk_at dksX0_forgave_4 17 rfl rfl)
theorem dX0_forgave_110 : decode cX0_forgave 110 = .ok (.iload_n 1, 1) := dk_27 (dk_at dksX0_forgave_4 18 rfl rfl)
theorem dX0_forgave_111 : decode cX0_forgave 111 = .ok (.invokevirtual 146, 3) := dk_182 0 146 (dk_at dksX0_forgave_4 19 rfl rfl)
theorem dX0_forgave_114 : decode cX0_forgave 114 = .ok (.ifCond .ne 7, 3) := dk_154 0 7 (dk_at dksX0_forgave_5 0 rfl rfl)
theorem dX0_forgave_117 : decode cX0_forgave 117 = .ok (.iload_n 3, 1) := dk_29 (dk_at dksX0_forgave_5 3 rfl rfl)
theorem dX0_forgave_118 : decode cX0_forgave 118 = .ok (.goto 4, 3) := dk_167 0 4 (dk_at dksX0_forgave_5 4 rfl rfl)
theorem dX0_forgave_121 : decode cX0_forgave 121 = .ok (.iload_n 2, 1) := dk_28 (dk_at dksX0_forgave_5 7 rfl rfl)
theorem dX0_forgave_122 : decode cX0_forgave 122 = .ok (.istore_n 2, 1) := dk_61 (dk_at dksX0_forgave_5 8 rfl rfl)
theorem dX0_forgave_123 : decode cX0_forgave 123 = .ok (.iinc 3 1, 3) := dk_132 3 1 (dk_at dksX0_forgave_5 9 rfl rfl)
theorem dX0_forgave_126 : decode cX0_forgave 126 = .ok (.goto (-96), 3) := dk_167 255 160 (dk_at dksX0_forgave_5 12 rfl rfl)
theorem dX0_forgave_129 : decode cX0_forgave 129 = .ok (.aload_n 0, 1) := dk_42 (dk_at dksX0_forgave_5 15 rfl rfl)
theorem dX0_forgave_130 : decode cX0_forgave 130 = .ok (.invokevirtual 189, 3) := dk_182 0 189 (dk_at dksX0_forgave_5 16 rfl rfl)
theorem dX0_forgave_133 : decode cX0_forgave 133 = .ok (.iload_n 2, 1) := dk_28 (dk_at dksX0_forgave_5 19 rfl rfl)
theorem dX0_forgave_134 : decode cX0_forgave 134 = .ok (.ireturn, 1) := dk_172 (dk_at dksX0_forgave_5 20 rfl rfl)
abbrev cX0_keep : ByteArray := prog_1_method_34_code
def yX0_keep : MethodName := ⟨RX0, "keep", "()V"⟩
def dkwX0_keep_0 : List UInt8 := [42, 180, 0, 11, 3, 42, 180, 0, 25, 3, 42, 180, 0, 25, 190, 184, 0, 180, 177]
abbrev dktX0_keep_0 : List UInt8 := dkwX0_keep_0 ++ []
theorem dksX0_keep_0 : cX0_keep.data.toList.drop 0 = dktX0_keep_0 := by decide +kernel
theorem dX0_keep_0 : decode cX0_keep 0 = .ok (.aload_n 0, 1) := dk_42 (dk_at dksX0_keep_0 0 rfl rfl)
theorem dX0_keep_1 : decode cX0_keep 1 = .ok (.getfield 11, 3) := dk_180 0 11 (dk_at dksX0_keep_0 1 rfl rfl)
theorem dX0_keep_4 : decode cX0_keep 4 = .ok (.iconst 0, 1) := dk_3 (dk_at dksX0_keep_0 4 rfl rfl)
theorem dX0_keep_5 : decode cX0_keep 5 = .ok (.aload_n 0, 1) := dk_42 (dk_at dksX0_keep_0 5 rfl rfl)
theorem dX0_keep_6 : decode cX0_keep 6 = .ok (.getfield 25, 3) := dk_180 0 25 (dk_at dksX0_keep_0 6 rfl rfl)
theorem dX0_keep_9 : decode cX0_keep 9 = .ok (.iconst 0, 1) := dk_3 (dk_at dksX0_keep_0 9 rfl rfl)
theorem dX0_keep_10 : decode cX0_keep 10 = .ok (.aload_n 0, 1) := dk_42 (dk_at dksX0_keep_0 10 rfl rfl)
theorem dX0_keep_11 : decode cX0_keep 11 = .ok (.getfield 25, 3) := dk_180 0 25 (dk_at dksX0_keep_0 11 rfl rfl)
theorem dX0_keep_14 : decode cX0_keep 14 = .ok (.arraylength, 1) := dk_190 (dk_at dksX0_keep_0 14 rfl rfl)
theorem dX0_keep_15 : decode cX0_keep 15 = .ok (.invokestatic 180, 3) := dk_184 0 180 (dk_at dksX0_keep_0 15 rfl rfl)
theorem dX0_keep_18 : decode cX0_keep 18 = .ok (.return_, 1) := dk_177 (dk_at dksX0_keep_0 18 rfl rfl)
abbrev cX0_putBack : ByteArray := prog_1_method_35_code
def yX0_putBack : MethodName := ⟨RX0, "putBack", "()V"⟩
def dkwX0_putBack_0 : List UInt8 := [42, 180, 0, 25, 3, 42, 180, 0, 11, 3, 42, 180, 0, 25, 190, 184, 0, 180, 177]
abbrev dktX0_putBack_0 : List UInt8 := dkwX0_putBack_0 ++ []
theorem dksX0_putBack_0 : cX0_putBack.data.toList.drop 0 = dktX0_putBack_0 := by decide +kernel
theorem dX0_putBack_0 : decode cX0_putBack 0 = .ok (.aload_n 0, 1) := dk_42 (dk_at dksX0_putBack_0 0 rfl rfl)
theorem dX0_putBack_1 : decode cX0_putBack 1 = .ok (.getfield 25, 3) := dk_180 0 25 (dk_at dksX0_putBack_0 1 rfl rfl)
theorem dX0_putBack_4 : decode cX0_putBack 4 = .ok (.iconst 0, 1) := dk_3 (dk_at dksX0_putBack_0 4 rfl rfl)
theorem dX0_putBack_5 : decode cX0_putBack 5 = .ok (.aload_n 0, 1) := dk_42 (dk_at dksX0_putBack_0 5 rfl rfl)
theorem dX0_putBack_6 : decode cX0_putBack 6 = .ok (.getfield 11, 3) := dk_180 0 11 (dk_at dksX0_putBack_0 6 rfl rfl)
theorem dX0_putBack_9 : decode cX0_putBack 9 = .ok (.iconst 0, 1) := dk_3 (dk_at dksX0_putBack_0 9 rfl rfl)
theorem dX0_putBack_10 : decode cX0_putBack 10 = .ok (.aload_n 0, 1) := dk_42 (dk_at dksX0_putBack_0 10 rfl rfl)
theorem dX0_putBack_11 : decode cX0_putBack 11 = .ok (.getfield 25, 3) := dk_180 0 25 (dk_at dksX0_putBack_0 11 rfl rfl)
theorem dX0_putBack_14 : decode cX0_putBack 14 = .ok (.arraylength, 1) := dk_190 (dk_at dksX0_putBack_0 14 rfl rfl)
theorem dX0_putBack_15 : decode cX0_putBack 15 = .ok (.invokestatic 180, 3) := dk_184 0 180 (dk_at dksX0_putBack_0 15 rfl rfl)
theorem dX0_putBack_18 : decode cX0_putBack 18 = .ok (.return_, 1) := dk_177 (dk_at dksX0_putBack_0 18 rfl rfl)
abbrev cX0_reading : ByteArray := prog_1_method_37_code
def yX0_reading : MethodName := ⟨RX0, "reading", "(II)I"⟩
def dkwX0_reading_3 : List UInt8 := [185, 0, 91, 2, 0, 87, 42, 180, 0, 28, 185, 0, 54, 1, 0, 4, 100, 172]
abbrev dktX0_reading_3 : List UInt8 := dkwX0_reading_3 ++ []
def dkwX0_reading_2 : List UInt8 := [16, 8, 160, 0, 6, 16, 252, 172, 42, 180, 0, 28, 187, 0, 192, 89, 27, 28, 183, 0, 194]
abbrev dktX0_reading_2 : List UInt8 := dkwX0_reading_2 ++ dktX0_reading_3
def dkwX0_reading_1 : List UInt8 := [153, 0, 11, 28, 27, 2, 130, 126, 153, 0, 6, 16, 254, 172, 42, 180, 0, 28, 185, 0, 54, 1, 0]
abbrev dktX0_reading_1 : List UInt8 := dkwX0_reading_1 ++ dktX0_reading_2
def dkwX0_reading_0 : List UInt8 := [42, 182, 0, 132, 153, 0, 6, 16, 253, 172, 42, 27, 182, 0, 157, 153, 0, 19, 42, 28, 182, 0, 157]
abbrev dktX0_reading_0 : List UInt8 := dkwX0_reading_0 ++ dktX0_reading_1
theorem dksX0_reading_0 : cX0_reading.data.toList.drop 0 = dktX0_reading_0 := by decide +kernel
theorem dksX0_reading_1 : cX0_reading.data.toList.drop 23 = dktX0_reading_1 := dk_seg dksX0_reading_0 23 rfl rfl
theorem dksX0_reading_2 : cX0_reading.data.toList.drop 46 = dktX0_reading_2 := dk_seg dksX0_reading_1 23 rfl rfl
theorem dksX0_reading_3 : cX0_reading.data.toList.drop 67 = dktX0_reading_3 := dk_seg dksX0_reading_2 21 rfl rfl
theorem dX0_reading_0 : decode cX0_reading 0 = .ok (.aload_n 0, 1) := dk_42 (dk_at dksX0_reading_0 0 rfl rfl)
theorem dX0_reading_1 : decode cX0_reading 1 = .ok (.invokevirtual 132, 3) := dk_182 0 132 (dk_at dksX0_reading_0 1 rfl rfl)
theorem dX0_reading_4 : decode cX0_reading 4 = .ok (.ifCond .eq 6, 3) := dk_153 0 6 (dk_at dksX0_reading_0 4 rfl rfl)
theorem dX0_reading_7 : decode cX0_reading 7 = .ok (.bipush (-3), 2) := dk_16 253 (dk_at dksX0_reading_0 7 rfl rfl)
theorem dX0_reading_9 : decode cX0_reading 9 = .ok (.ireturn, 1) := dk_172 (dk_at dksX0_reading_0 9 rfl rfl)
theorem dX0_reading_10 : decode cX0_reading 10 = .ok (.aload_n 0, 1) := dk_42 (dk_at dksX0_reading_0 10 rfl rfl)
theorem dX0_reading_11 : decode cX0_reading 11 = .ok (.iload_n 1, 1) := dk_27 (dk_at dksX0_reading_0 11 rfl rfl)
theorem dX0_reading_12 : decode cX0_reading 12 = .ok (.invokevirtual 157, 3) := dk_182 0 157 (dk_at dksX0_reading_0 12 rfl rfl)
theorem dX0_reading_15 : decode cX0_reading 15 = .ok (.ifCond .eq 19, 3) := dk_153 0 19 (dk_at dksX0_reading_0 15 rfl rfl)
theorem dX0_reading_18 : decode cX0_reading 18 = .ok (.aload_n 0, 1) := dk_42 (dk_at dksX0_reading_0 18 rfl rfl)
theorem dX0_reading_19 : decode cX0_reading 19 = .ok (.iload_n 2, 1) := dk_28 (dk_at dksX0_reading_0 19 rfl rfl)
theorem dX0_reading_20 : decode cX0_reading 20 = .ok (.invokevirtual 157, 3) := dk_182 0 157 (dk_at dksX0_reading_0 20 rfl rfl)
theorem dX0_reading_23 : decode cX0_reading 23 = .ok (.ifCond .eq 11, 3) := dk_153 0 11 (dk_at dksX0_reading_1 0 rfl rfl)
theorem dX0_reading_26 : decode cX0_reading 26 = .ok (.iload_n 2, 1) := dk_28 (dk_at dksX0_reading_1 3 rfl rfl)
theorem dX0_reading_27 : decode cX0_reading 27 = .ok (.iload_n 1, 1) := dk_27 (dk_at dksX0_reading_1 4 rfl rfl)
theorem dX0_reading_28 : decode cX0_reading 28 = .ok (.iconst (-1), 1) := dk_2 (dk_at dksX0_reading_1 5 rfl rfl)
theorem dX0_reading_29 : decode cX0_reading 29 = .ok (.ixor, 1) := dk_130 (dk_at dksX0_reading_1 6 rfl rfl)
theorem dX0_reading_30 : decode cX0_reading 30 = .ok (.iand, 1) := dk_126 (dk_at dksX0_reading_1 7 rfl rfl)
theorem dX0_reading_31 : decode cX0_reading 31 = .ok (.ifCond .eq 6, 3) := dk_153 0 6 (dk_at dksX0_reading_1 8 rfl rfl)
theorem dX0_reading_34 : decode cX0_reading 34 = .ok (.bipush (-2), 2) := dk_16 254 (dk_at dksX0_reading_1 11 rfl rfl)
theorem dX0_reading_36 : decode cX0_reading 36 = .ok (.ireturn, 1) := dk_172 (dk_at dksX0_reading_1 13 rfl rfl)
theorem dX0_reading_37 : decode cX0_reading 37 = .ok (.aload_n 0, 1) := dk_42 (dk_at dksX0_reading_1 14 rfl rfl)
theorem dX0_reading_38 : decode cX0_reading 38 = .ok (.getfield 28, 3) := dk_180 0 28 (dk_at dksX0_reading_1 15 rfl rfl)
theorem dX0_reading_41 : decode cX0_reading 41 = .ok (.invokeinterface 54 1, 5) := by decide +kernel
theorem dX0_reading_46 : decode cX0_reading 46 = .ok (.bipush 8, 2) := dk_16 8 (dk_at dksX0_reading_2 0 rfl rfl)
theorem dX0_reading_48 : decode cX0_reading 48 = .ok (.if_icmp .ne 6, 3) := dk_160 0 6 (dk_at dksX0_reading_2 2 rfl rfl)
theorem dX0_reading_51 : decode cX0_reading 51 = .ok (.bipush (-4), 2) := dk_16 252 (dk_at dksX0_reading_2 5 rfl rfl)
theorem dX0_reading_53 : decode cX0_reading 53 = .ok (.ireturn, 1) := dk_172 (dk_at dksX0_reading_2 7 rfl rfl)
theorem dX0_reading_54 : decode cX0_reading 54 = .ok (.aload_n 0, 1) := dk_42 (dk_at dksX0_reading_2 8 rfl rfl)
theorem dX0_reading_55 : decode cX0_reading 55 = .ok (.getfield 28, 3) := dk_180 0 28 (dk_at dksX0_reading_2 9 rfl rfl)
theorem dX0_reading_58 : decode cX0_reading 58 = .ok (.new 192, 3) := dk_187 0 192 (dk_at dksX0_reading_2 12 rfl rfl)
theorem dX0_reading_61 : decode cX0_reading 61 = .ok (.dup, 1) := dk_89 (dk_at dksX0_reading_2 15 rfl rfl)
theorem dX0_reading_62 : decode cX0_reading 62 = .ok (.iload_n 1, 1) := dk_27 (dk_at dksX0_reading_2 16 rfl rfl)
theorem dX0_reading_63 : decode cX0_reading 63 = .ok (.iload_n 2, 1) := dk_28 (dk_at dksX0_reading_2 17 rfl rfl)
theorem dX0_reading_64 : decode cX0_reading 64 = .ok (.invokespecial 194, 3) := dk_183 0 194 (dk_at dksX0_reading_2 18 rfl rfl)
theorem dX0_reading_67 : decode cX0_reading 67 = .ok (.invokeinterface 91 2, 5) := by decide +kernel
theorem dX0_reading_72 : decode cX0_reading 72 = .ok (.pop, 1) := dk_87 (dk_at dksX0_reading_3 5 rfl rfl)
theorem dX0_reading_73 : decode cX0_reading 73 = .ok (.aload_n 0, 1) := dk_42 (dk_at dksX0_reading_3 6 rfl rfl)
theorem dX0_reading_74 : decode cX0_reading 74 = .ok (.getfield 28, 3) := dk_180 0 28 (dk_at dksX0_reading_3 7 rfl rfl)
theorem dX0_reading_77 : decode cX0_reading 77 = .ok (.invokeinterface 54 1, 5) := by decide +kernel
theorem dX0_reading_82 : decode cX0_reading 82 = .ok (.iconst 1, 1) := dk_4 (dk_at dksX0_reading_3 15 rfl rfl)
theorem dX0_reading_83 : decode cX0_reading 83 = .ok (.isub, 1) := dk_100 (dk_at dksX0_reading_3 16 rfl rfl)
theorem dX0_reading_84 : decode cX0_reading 84 = .ok (.ireturn, 1) := dk_172 (dk_at dksX0_reading_3 17 rfl rfl)
abbrev cX0_back : ByteArray := prog_1_method_38_code
def yX0_back : MethodName := ⟨RX0, "back", "(I)I"⟩
def dkwX0_back_2 : List UInt8 := [185, 0, 197, 2, 0, 87, 132, 2, 1, 167, 255, 227, 42, 180, 0, 28, 185, 0, 54, 1, 0, 172]
abbrev dktX0_back_2 : List UInt8 := dkwX0_back_2 ++ []
def dkwX0_back_1 : List UInt8 := [28, 27, 162, 0, 30, 42, 180, 0, 28, 42, 180, 0, 28, 185, 0, 54, 1, 0, 4, 100]
abbrev dktX0_back_1 : List UInt8 := dkwX0_back_1 ++ dktX0_back_2
def dkwX0_back_0 : List UInt8 := [27, 133, 9, 42, 180, 0, 28, 185, 0, 54, 1, 0, 133, 184, 0, 58, 154, 0, 6, 16, 254, 172, 3, 61]
abbrev dktX0_back_0 : List UInt8 := dkwX0_back_0 ++ dktX0_back_1
theorem dksX0_back_0 : cX0_back.data.toList.drop 0 = dktX0_back_0 := by decide +kernel
theorem dksX0_back_1 : cX0_back.data.toList.drop 24 = dktX0_back_1 := dk_seg dksX0_back_0 24 rfl rfl
theorem dksX0_back_2 : cX0_back.data.toList.drop 44 = dktX0_back_2 := dk_seg dksX0_back_1 20 rfl rfl
theorem dX0_back_0 : decode cX0_back 0 = .ok (.iload_n 1, 1) := dk_27 (dk_at dksX0_back_0 0 rfl rfl)
theorem dX0_back_1 : decode cX0_back 1 = .ok (.i2l, 1) := dk_133 (dk_at dksX0_back_0 1 rfl rfl)
theorem dX0_back_2 : decode cX0_back 2 = .ok (.lconst 0, 1) := dk_9 (dk_at dksX0_back_0 2 rfl rfl)
theorem dX0_back_3 : decode cX0_back 3 = .ok (.aload_n 0, 1) := dk_42 (dk_at dksX0_back_0 3 rfl rfl)
theorem dX0_back_4 : decode cX0_back 4 = .ok (.getfield 28, 3) := dk_180 0 28 (dk_at dksX0_back_0 4 rfl rfl)
theorem dX0_back_7 : decode cX0_back 7 = .ok (.invokeinterface 54 1, 5) := by decide +kernel
theorem dX0_back_12 : decode cX0_back 12 = .ok (.i2l, 1) := dk_133 (dk_at dksX0_back_0 12 rfl rfl)
theorem dX0_back_13 : decode cX0_back 13 = .ok (.invokestatic 58, 3) := dk_184 0 58 (dk_at dksX0_back_0 13 rfl rfl)
theorem dX0_back_16 : decode cX0_back 16 = .ok (.ifCond .ne 6, 3) := dk_154 0 6 (dk_at dksX0_back_0 16 rfl rfl)
theorem dX0_back_19 : decode cX0_back 19 = .ok (.bipush (-2), 2) := dk_16 254 (dk_at dksX0_back_0 19 rfl rfl)
theorem dX0_back_21 : decode cX0_back 21 = .ok (.ireturn, 1) := dk_172 (dk_at dksX0_back_0 21 rfl rfl)
theorem dX0_back_22 : decode cX0_back 22 = .ok (.iconst 0, 1) := dk_3 (dk_at dksX0_back_0 22 rfl rfl)
theorem dX0_back_23 : decode cX0_back 23 = .ok (.istore_n 2, 1) := dk_61 (dk_at dksX0_back_0 23 rfl rfl)
theorem dX0_back_24 : decode cX0_back 24 = .ok (.iload_n 2, 1) := dk_28 (dk_at dksX0_back_1 0 rfl rfl)
theorem dX0_back_25 : decode cX0_back 25 = .ok (.iload_n 1, 1) := dk_27 (dk_at dksX0_back_1 1 rfl rfl)
theorem dX0_back_26 : decode cX0_back 26 = .ok (.if_icmp .ge 30, 3) := dk_162 0 30 (dk_at dksX0_back_1 2 rfl rfl)
theorem dX0_back_29 : decode cX0_back 29 = .ok (.aload_n 0, 1) := dk_42 (dk_at dksX0_back_1 5 rfl rfl)
theorem dX0_back_30 : decode cX0_back 30 = .ok (.getfield 28, 3) := dk_180 0 28 (dk_at dksX0_back_1 6 rfl rfl)
theorem dX0_back_33 : decode cX0_back 33 = .ok (.aload_n 0, 1) := dk_42 (dk_at dksX0_back_1 9 rfl rfl)
theorem dX0_back_34 : decode cX0_back 34 = .ok (.getfield 28, 3) := dk_180 0 28 (dk_at dksX0_back_1 10 rfl rfl)
theorem dX0_back_37 : decode cX0_back 37 = .ok (.invokeinterface 54 1, 5) := by decide +kernel
theorem dX0_back_42 : decode cX0_back 42 = .ok (.iconst 1, 1) := dk_4 (dk_at dksX0_back_1 18 rfl rfl)
theorem dX0_back_43 : decode cX0_back 43 = .ok (.isub, 1) := dk_100 (dk_at dksX0_back_1 19 rfl rfl)
theorem dX0_back_44 : decode cX0_back 44 = .ok (.invokeinterface 197 2, 5) := by decide +kernel
theorem dX0_back_49 : decode cX0_back 49 = .ok (.pop, 1) := dk_87 (dk_at dksX0_back_2 5 rfl rfl)
theorem dX0_back_50 : decode cX0_back 50 = .ok (.iinc 2 1, 3) := dk_132 2 1 (dk_at dksX0_back_2 6 rfl rfl)
theorem dX0_back_53 : decode cX0_back 53 = .ok (.goto (-29), 3) := dk_167 255 227 (dk_at dksX0_back_2 9 rfl rfl)
theorem dX0_back_56 : decode cX0_back 56 = .ok (.aload_n 0, 1) := dk_42 (dk_at dksX0_back_2 12 rfl rfl)
theorem dX0_back_57 : decode cX0_back 57 = .ok (.getfield 28, 3) := dk_180 0 28 (dk_at dksX0_back_2 13 rfl rfl)
theorem dX0_back_60 : decode cX0_back 60 = .ok (.invokeinterface 54 1, 5) := by decide +kernel
theorem dX0_back_65 : decode cX0_back 65 = .ok (.ireturn, 1) := dk_172 (dk_at dksX0_back_2 21 rfl rfl)
abbrev cX0_notes : ByteArray := prog_1_method_40_code
def yX0_notes : MethodName := ⟨RX0, "notes", "(II)I"⟩
def dkwX0_notes_3 : List UInt8 := [180, 0, 11, 27, 8, 104, 28, 96, 29, 79, 21, 4, 172]
abbrev dktX0_notes_3 : List UInt8 := dkwX0_notes_3 ++ []
def dkwX0_notes_2 : List UInt8 := [182, 0, 206, 153, 0, 10, 4, 21, 5, 120, 167, 0, 4, 3, 128, 54, 4, 132, 5, 1, 167, 255, 214, 42]
abbrev dktX0_notes_2 : List UInt8 := dkwX0_notes_2 ++ dktX0_notes_3
def dkwX0_notes_1 : List UInt8 := [21, 5, 16, 9, 163, 0, 41, 42, 180, 0, 11, 27, 8, 104, 28, 96, 21, 5, 79, 21, 4, 42]
abbrev dktX0_notes_1 : List UInt8 := dkwX0_notes_1 ++ dktX0_notes_2
def dkwX0_notes_0 : List UInt8 := [42, 27, 28, 182, 0, 124, 153, 0, 5, 2, 172, 42, 27, 28, 182, 0, 69, 62, 3, 54, 4, 3, 54, 5]
abbrev dktX0_notes_0 : List UInt8 := dkwX0_notes_0 ++ dktX0_notes_1
theorem dksX0_notes_0 : cX0_notes.data.toList.drop 0 = dktX0_notes_0 := by decide +kernel
theorem dksX0_notes_1 : cX0_notes.data.toList.drop 24 = dktX0_notes_1 := dk_seg dksX0_notes_0 24 rfl rfl
theorem dksX0_notes_2 : cX0_notes.data.toList.drop 46 = dktX0_notes_2 := dk_seg dksX0_notes_1 22 rfl rfl
theorem dksX0_notes_3 : cX0_notes.data.toList.drop 70 = dktX0_notes_3 := dk_seg dksX0_notes_2 24 rfl rfl
theorem dX0_notes_0 : decode cX0_notes 0 = .ok (.aload_n 0, 1) := dk_42 (dk_at dksX0_notes_0 0 rfl rfl)
theorem dX0_notes_1 : decode cX0_notes 1 = .ok (.iload_n 1, 1) := dk_27 (dk_at dksX0_notes_0 1 rfl rfl)
theorem dX0_notes_2 : decode cX0_notes 2 = .ok (.iload_n 2, 1) := dk_28 (dk_at dksX0_notes_0 2 rfl rfl)
theorem dX0_notes_3 : decode cX0_notes 3 = .ok (.invokevirtual 124, 3) := dk_182 0 124 (dk_at dksX0_notes_0 3 rfl rfl)
theorem dX0_notes_6 : decode cX0_notes 6 = .ok (.ifCond .eq 5, 3) := dk_153 0 5 (dk_at dksX0_notes_0 6 rfl rfl)
theorem dX0_notes_9 : decode cX0_notes 9 = .ok (.iconst (-1), 1) := dk_2 (dk_at dksX0_notes_0 9 rfl rfl)
theorem dX0_notes_10 : decode cX0_notes 10 = .ok (.ireturn, 1) := dk_172 (dk_at dksX0_notes_0 10 rfl rfl)
theorem dX0_notes_11 : decode cX0_notes 11 = .ok (.aload_n 0, 1) := dk_42 (dk_at dksX0_notes_0 11 rfl rfl)
theorem dX0_notes_12 : decode cX0_notes 12 = .ok (.iload_n 1, 1) := dk_27 (dk_at dksX0_notes_0 12 rfl rfl)
theorem dX0_notes_13 : decode cX0_notes 13 = .ok (.iload_n 2, 1) := dk_28 (dk_at dksX0_notes_0 13 rfl rfl)
theorem dX0_notes_14 : decode cX0_notes 14 = .ok (.invokevirtual 69, 3) := dk_182 0 69 (dk_at dksX0_notes_0 14 rfl rfl)
theorem dX0_notes_17 : decode cX0_notes 17 = .ok (.istore_n 3, 1) := dk_62 (dk_at dksX0_notes_0 17 rfl rfl)
theorem dX0_notes_18 : decode cX0_notes 18 = .ok (.iconst 0, 1) := dk_3 (dk_at dksX0_notes_0 18 rfl rfl)
theorem dX0_notes_19 : decode cX0_notes 19 = .ok (.istore 4, 2) := dk_54 4 (dk_at dksX0_notes_0 19 rfl rfl)
theorem dX0_notes_21 : decode cX0_notes 21 = .ok (.iconst 0, 1) := dk_3 (dk_at dksX0_notes_0 21 rfl rfl)
theorem dX0_notes_22 : decode cX0_notes 22 = .ok (.istore 5, 2) := dk_54 5 (dk_at dksX0_notes_0 22 rfl rfl)
theorem dX0_notes_24 : decode cX0_notes 24 = .ok (.iload 5, 2) := dk_21 5 (dk_at dksX0_notes_1 0 rfl rfl)
theorem dX0_notes_26 : decode cX0_notes 26 = .ok (.bipush 9, 2) := dk_16 9 (dk_at dksX0_notes_1 2 rfl rfl)
theorem dX0_notes_28 : decode cX0_notes 28 = .ok (.if_icmp .gt 41, 3) := dk_163 0 41 (dk_at dksX0_notes_1 4 rfl rfl)
theorem dX0_notes_31 : decode cX0_notes 31 = .ok (.aload_n 0, 1) := dk_42 (dk_at dksX0_notes_1 7 rfl rfl)
theorem dX0_notes_32 : decode cX0_notes 32 = .ok (.getfield 11, 3) := dk_180 0 11 (dk_at dksX0_notes_1 8 rfl rfl)
theorem dX0_notes_35 : decode cX0_notes 35 = .ok (.iload_n 1, 1) := dk_27 (dk_at dksX0_notes_1 11 rfl rfl)
theorem dX0_notes_36 : decode cX0_notes 36 = .ok (.iconst 5, 1) := dk_8 (dk_at dksX0_notes_1 12 rfl rfl)
theorem dX0_notes_37 : decode cX0_notes 37 = .ok (.imul, 1) := dk_104 (dk_at dksX0_notes_1 13 rfl rfl)
theorem dX0_notes_38 : decode cX0_notes 38 = .ok (.iload_n 2, 1) := dk_28 (dk_at dksX0_notes_1 14 rfl rfl)
theorem dX0_notes_39 : decode cX0_notes 39 = .ok (.iadd, 1) := dk_96 (dk_at dksX0_notes_1 15 rfl rfl)
theorem dX0_notes_40 : decode cX0_notes 40 = .ok (.iload 5, 2) := dk_21 5 (dk_at dksX0_notes_1 16 rfl rfl)
theorem dX0_notes_42 : decode cX0_notes 42 = .ok (.iastore, 1) := dk_79 (dk_at dksX0_notes_1 18 rfl rfl)
theorem dX0_notes_43 : decode cX0_notes 43 = .ok (.iload 4, 2) := dk_21 4 (dk_at dksX0_notes_1 19 rfl rfl)
theorem dX0_notes_45 : decode cX0_notes 45 = .ok (.aload_n 0, 1) := dk_42 (dk_at dksX0_notes_1 21 rfl rfl)
theorem dX0_notes_46 : decode cX0_notes 46 = .ok (.invokevirtual 206, 3) := dk_182 0 206 (dk_at dksX0_notes_2 0 rfl rfl)
theorem dX0_notes_49 : decode cX0_notes 49 = .ok (.ifCond .eq 10, 3) := dk_153 0 10 (dk_at dksX0_notes_2 3 rfl rfl)
theorem dX0_notes_52 : decode cX0_notes 52 = .ok (.iconst 1, 1) := dk_4 (dk_at dksX0_notes_2 6 rfl rfl)
theorem dX0_notes_53 : decode cX0_notes 53 = .ok (.iload 5, 2) := dk_21 5 (dk_at dksX0_notes_2 7 rfl rfl)
theorem dX0_notes_55 : decode cX0_notes 55 = .ok (.ishl, 1) := dk_120 (dk_at dksX0_notes_2 9 rfl rfl)
theorem dX0_notes_56 : decode cX0_notes 56 = .ok (.goto 4, 3) := dk_167 0 4 (dk_at dksX0_notes_2 10 rfl rfl)
theorem dX0_notes_59 : decode cX0_notes 59 = .ok (.iconst 0, 1) := dk_3 (dk_at dksX0_notes_2 13 rfl rfl)
theorem dX0_notes_60 : decode cX0_notes 60 = .ok (.ior, 1) := dk_128 (dk_at dksX0_notes_2 14 rfl rfl)
theorem dX0_notes_61 : decode cX0_notes 61 = .ok (.istore 4, 2) := dk_54 4 (dk_at dksX0_notes_2 15 rfl rfl)
theorem dX0_notes_63 : decode cX0_notes 63 = .ok (.iinc 5 1, 3) := dk_132 5 1 (dk_at dksX0_notes_2 17 rfl rfl)
theorem dX0_notes_66 : decode cX0_notes 66 = .ok (.goto (-42), 3) := dk_167 255 214 (dk_at dksX0_notes_2 20 rfl rfl)
theorem dX0_notes_69 : decode cX0_notes 69 = .ok (.aload_n 0, 1) := dk_42 (dk_at dksX0_notes_2 23 rfl rfl)
theorem dX0_notes_70 : decode cX0_notes 70 = .ok (.getfield 11, 3) := dk_180 0 11 (dk_at dksX0_notes_3 0 rfl rfl)
theorem dX0_notes_73 : decode cX0_notes 73 = .ok (.iload_n 1, 1) := dk_27 (dk_at dksX0_notes_3 3 rfl rfl)
theorem dX0_notes_74 : decode cX0_notes 74 = .ok (.iconst 5, 1) := dk_8 (dk_at dksX0_notes_3 4 rfl rfl)
theorem dX0_notes_75 : decode cX0_notes 75 = .ok (.imul, 1) := dk_104 (dk_at dksX0_notes_3 5 rfl rfl)
theorem dX0_notes_76 : decode cX0_notes 76 = .ok (.iload_n 2, 1) := dk_28 (dk_at dksX0_notes_3 6 rfl rfl)
theorem dX0_notes_77 : decode cX0_notes 77 = .ok (.iadd, 1) := dk_96 (dk_at dksX0_notes_3 7 rfl rfl)
theorem dX0_notes_78 : decode cX0_notes 78 = .ok (.iload_n 3, 1) := dk_29 (dk_at dksX0_notes_3 8 rfl rfl)
theorem dX0_notes_79 : decode cX0_notes 79 = .ok (.iastore, 1) := dk_79 (dk_at dksX0_notes_3 9 rfl rfl)
theorem dX0_notes_80 : decode cX0_notes 80 = .ok (.iload 4, 2) := dk_21 4 (dk_at dksX0_notes_3 10 rfl rfl)
theorem dX0_notes_82 : decode cX0_notes 82 = .ok (.ireturn, 1) := dk_172 (dk_at dksX0_notes_3 12 rfl rfl)
abbrev cX0_areSo : ByteArray := prog_1_method_39_code
def yX0_areSo : MethodName := ⟨RX0, "areSo", "()Z"⟩
def dkwX0_areSo_2 : List UInt8 := [192, 0, 192, 180, 0, 203, 160, 0, 7, 4, 167, 0, 4, 3, 126, 60, 132, 2, 1, 167, 255, 193, 27, 172]
abbrev dktX0_areSo_2 : List UInt8 := dkwX0_areSo_2 ++ []
def dkwX0_areSo_1 : List UInt8 := [185, 0, 109, 2, 0, 192, 0, 192, 180, 0, 200, 182, 0, 146, 42, 180, 0, 28, 28, 185, 0, 109, 2, 0]
abbrev dktX0_areSo_1 : List UInt8 := dkwX0_areSo_1 ++ dktX0_areSo_2
def dkwX0_areSo_0 : List UInt8 := [4, 60, 3, 61, 28, 42, 180, 0, 28, 185, 0, 54, 1, 0, 162, 0, 56, 27, 42, 42, 180, 0, 28, 28]
abbrev dktX0_areSo_0 : List UInt8 := dkwX0_areSo_0 ++ dktX0_areSo_1
theorem dksX0_areSo_0 : cX0_areSo.data.toList.drop 0 = dktX0_areSo_0 := by decide +kernel
theorem dksX0_areSo_1 : cX0_areSo.data.toList.drop 24 = dktX0_areSo_1 := dk_seg dksX0_areSo_0 24 rfl rfl
theorem dksX0_areSo_2 : cX0_areSo.data.toList.drop 48 = dktX0_areSo_2 := dk_seg dksX0_areSo_1 24 rfl rfl
theorem dX0_areSo_0 : decode cX0_areSo 0 = .ok (.iconst 1, 1) := dk_4 (dk_at dksX0_areSo_0 0 rfl rfl)
theorem dX0_areSo_1 : decode cX0_areSo 1 = .ok (.istore_n 1, 1) := dk_60 (dk_at dksX0_areSo_0 1 rfl rfl)
theorem dX0_areSo_2 : decode cX0_areSo 2 = .ok (.iconst 0, 1) := dk_3 (dk_at dksX0_areSo_0 2 rfl rfl)
theorem dX0_areSo_3 : decode cX0_areSo 3 = .ok (.istore_n 2, 1) := dk_61 (dk_at dksX0_areSo_0 3 rfl rfl)
theorem dX0_areSo_4 : decode cX0_areSo 4 = .ok (.iload_n 2, 1) := dk_28 (dk_at dksX0_areSo_0 4 rfl rfl)
theorem dX0_areSo_5 : decode cX0_areSo 5 = .ok (.aload_n 0, 1) := dk_42 (dk_at dksX0_areSo_0 5 rfl rfl)
theorem dX0_areSo_6 : decode cX0_areSo 6 = .ok (.getfield 28, 3) := dk_180 0 28 (dk_at dksX0_areSo_0 6 rfl rfl)
theorem dX0_areSo_9 : decode cX0_areSo 9 = .ok (.invokeinterface 54 1, 5) := by decide +kernel
theorem dX0_areSo_14 : decode cX0_areSo 14 = .ok (.if_icmp .ge 56, 3) := dk_162 0 56 (dk_at dksX0_areSo_0 14 rfl rfl)
theorem dX0_areSo_17 : decode cX0_areSo 17 = .ok (.iload_n 1, 1) := dk_27 (dk_at dksX0_areSo_0 17 rfl rfl)
theorem dX0_areSo_18 : decode cX0_areSo 18 = .ok (.aload_n 0, 1) := dk_42 (dk_at dksX0_areSo_0 18 rfl rfl)
theorem dX0_areSo_19 : decode cX0_areSo 19 = .ok (.aload_n 0, 1) := dk_42 (dk_at dksX0_areSo_0 19 rfl rfl)
theorem dX0_areSo_20 : decode cX0_areSo 20 = .ok (.getfield 28, 3) := dk_180 0 28 (dk_at dksX0_areSo_0 20 rfl rfl)
theorem dX0_areSo_23 : decode cX0_areSo 23 = .ok (.iload_n 2, 1) := dk_28 (dk_at dksX0_areSo_0 23 rfl rfl)
theorem dX0_areSo_24 : decode cX0_areSo 24 = .ok (.invokeinterface 109 2, 5) := by decide +kernel
theorem dX0_areSo_29 : decode cX0_areSo 29 = .ok (.checkcast 192, 3) := dk_192 0 192 (dk_at dksX0_areSo_1 5 rfl rfl)
theorem dX0_areSo_32 : decode cX0_areSo 32 = .ok (.getfield 200, 3) := dk_180 0 200 (dk_at dksX0_areSo_1 8 rfl rfl)
theorem dX0_areSo_35 : decode cX0_areSo 35 = .ok (.invokevirtual 146, 3) := dk_182 0 146 (dk_at dksX0_areSo_1 11 rfl rfl)
theorem dX0_areSo_38 : decode cX0_areSo 38 = .ok (.aload_n 0, 1) := dk_42 (dk_at dksX0_areSo_1 14 rfl rfl)
theorem dX0_areSo_39 : decode cX0_areSo 39 = .ok (.getfield 28, 3) := dk_180 0 28 (dk_at dksX0_areSo_1 15 rfl rfl)
theorem dX0_areSo_42 : decode cX0_areSo 42 = .ok (.iload_n 2, 1) := dk_28 (dk_at dksX0_areSo_1 18 rfl rfl)
theorem dX0_areSo_43 : decode cX0_areSo 43 = .ok (.invokeinterface 109 2, 5) := by decide +kernel
theorem dX0_areSo_48 : decode cX0_areSo 48 = .ok (.checkcast 192, 3) := dk_192 0 192 (dk_at dksX0_areSo_2 0 rfl rfl)
theorem dX0_areSo_51 : decode cX0_areSo 51 = .ok (.getfield 203, 3) := dk_180 0 203 (dk_at dksX0_areSo_2 3 rfl rfl)
theorem dX0_areSo_54 : decode cX0_areSo 54 = .ok (.if_icmp .ne 7, 3) := dk_160 0 7 (dk_at dksX0_areSo_2 6 rfl rfl)
theorem dX0_areSo_57 : decode cX0_areSo 57 = .ok (.iconst 1, 1) := dk_4 (dk_at dksX0_areSo_2 9 rfl rfl)
theorem dX0_areSo_58 : decode cX0_areSo 58 = .ok (.goto 4, 3) := dk_167 0 4 (dk_at dksX0_areSo_2 10 rfl rfl)
theorem dX0_areSo_61 : decode cX0_areSo 61 = .ok (.iconst 0, 1) := dk_3 (dk_at dksX0_areSo_2 13 rfl rfl)
theorem dX0_areSo_62 : decode cX0_areSo 62 = .ok (.iand, 1) := dk_126 (dk_at dksX0_areSo_2 14 rfl rfl)
theorem dX0_areSo_63 : decode cX0_areSo 63 = .ok (.istore_n 1, 1) := dk_60 (dk_at dksX0_areSo_2 15 rfl rfl)
theorem dX0_areSo_64 : decode cX0_areSo 64 = .ok (.iinc 2 1, 3) := dk_132 2 1 (dk_at dksX0_areSo_2 16 rfl rfl)
theorem dX0_areSo_67 : decode cX0_areSo 67 = .ok (.goto (-63), 3) := dk_167 255 193 (dk_at dksX0_areSo_2 19 rfl rfl)
theorem dX0_areSo_70 : decode cX0_areSo 70 = .ok (.iload_n 1, 1) := dk_27 (dk_at dksX0_areSo_2 22 rfl rfl)
theorem dX0_areSo_71 : decode cX0_areSo 71 = .ok (.ireturn, 1) := dk_172 (dk_at dksX0_areSo_2 23 rfl rfl)
abbrev cX0_kinds : ByteArray := prog_1_method_41_code
def yX0_kinds : MethodName := ⟨RX0, "kinds", "(I)I"⟩
def dkwX0_kinds_3 : List UInt8 := [3, 128, 62, 132, 4, 1, 167, 255, 207, 42, 180, 0, 18, 27, 44, 185, 0, 209, 3, 0, 87, 29, 172]
abbrev dktX0_kinds_3 : List UInt8 := dkwX0_kinds_3 ++ []
def dkwX0_kinds_2 : List UInt8 := [182, 0, 87, 185, 0, 209, 3, 0, 87, 29, 42, 182, 0, 206, 153, 0, 10, 4, 21, 4, 120, 167, 0, 4]
abbrev dktX0_kinds_2 : List UInt8 := dkwX0_kinds_2 ++ dktX0_kinds_3
def dkwX0_kinds_1 : List UInt8 := [3, 62, 3, 54, 4, 21, 4, 6, 162, 0, 49, 42, 180, 0, 18, 27, 42, 21, 4, 27, 44, 180, 0, 116]
abbrev dktX0_kinds_1 : List UInt8 := dkwX0_kinds_1 ++ dktX0_kinds_2
def dkwX0_kinds_0 : List UInt8 := [42, 27, 182, 0, 62, 153, 0, 5, 2, 172, 42, 180, 0, 18, 27, 185, 0, 109, 2, 0, 192, 0, 37, 77]
abbrev dktX0_kinds_0 : List UInt8 := dkwX0_kinds_0 ++ dktX0_kinds_1
theorem dksX0_kinds_0 : cX0_kinds.data.toList.drop 0 = dktX0_kinds_0 := by decide +kernel
theorem dksX0_kinds_1 : cX0_kinds.data.toList.drop 24 = dktX0_kinds_1 := dk_seg dksX0_kinds_0 24 rfl rfl
theorem dksX0_kinds_2 : cX0_kinds.data.toList.drop 48 = dktX0_kinds_2 := dk_seg dksX0_kinds_1 24 rfl rfl
theorem dksX0_kinds_3 : cX0_kinds.data.toList.drop 72 = dktX0_kinds_3 := dk_seg dksX0_kinds_2 24 rfl rfl
theorem dX0_kinds_0 : decode cX0_kinds 0 = .ok (.aload_n 0, 1) := dk_42 (dk_at dksX0_kinds_0 0 rfl rfl)
theorem dX0_kinds_1 : decode cX0_kinds 1 = .ok (.iload_n 1, 1) := dk_27 (dk_at dksX0_kinds_0 1 rfl rfl)
theorem dX0_kinds_2 : decode cX0_kinds 2 = .ok (.invokevirtual 62, 3) := dk_182 0 62 (dk_at dksX0_kinds_0 2 rfl rfl)
theorem dX0_kinds_5 : decode cX0_kinds 5 = .ok (.ifCond .eq 5, 3) := dk_153 0 5 (dk_at dksX0_kinds_0 5 rfl rfl)
theorem dX0_kinds_8 : decode cX0_kinds 8 = .ok (.iconst (-1), 1) := dk_2 (dk_at dksX0_kinds_0 8 rfl rfl)
theorem dX0_kinds_9 : decode cX0_kinds 9 = .ok (.ireturn, 1) := dk_172 (dk_at dksX0_kinds_0 9 rfl rfl)
theorem dX0_kinds_10 : decode cX0_kinds 10 = .ok (.aload_n 0, 1) := dk_42 (dk_at dksX0_kinds_0 10 rfl rfl)
theorem dX0_kinds_11 : decode cX0_kinds 11 = .ok (.getfield 18, 3) := dk_180 0 18 (dk_at dksX0_kinds_0 11 rfl rfl)
theorem dX0_kinds_14 : decode cX0_kinds 14 = .ok (.iload_n 1, 1) := dk_27 (dk_at dksX0_kinds_0 14 rfl rfl)
theorem dX0_kinds_15 : decode cX0_kinds 15 = .ok (.invokeinterface 109 2, 5) := by decide +kernel
theorem dX0_kinds_20 : decode cX0_kinds 20 = .ok (.checkcast 37, 3) := dk_192 0 37 (dk_at dksX0_kinds_0 20 rfl rfl)
theorem dX0_kinds_23 : decode cX0_kinds 23 = .ok (.astore_n 2, 1) := dk_77 (dk_at dksX0_kinds_0 23 rfl rfl)
theorem dX0_kinds_24 : decode cX0_kinds 24 = .ok (.iconst 0, 1) := dk_3 (dk_at dksX0_kinds_1 0 rfl rfl)
theorem dX0_kinds_25 : decode cX0_kinds 25 = .ok (.istore_n 3, 1) := dk_62 (dk_at dksX0_kinds_1 1 rfl rfl)
theorem dX0_kinds_26 : decode cX0_kinds 26 = .ok (.iconst 0, 1) := dk_3 (dk_at dksX0_kinds_1 2 rfl rfl)
theorem dX0_kinds_27 : decode cX0_kinds 27 = .ok (.istore 4, 2) := dk_54 4 (dk_at dksX0_kinds_1 3 rfl rfl)
theorem dX0_kinds_29 : decode cX0_kinds 29 = .ok (.iload 4, 2) := dk_21 4 (dk_at dksX0_kinds_1 5 rfl rfl)
theorem dX0_kinds_31 : decode cX0_kinds 31 = .ok (.iconst 3, 1) := dk_6 (dk_at dksX0_kinds_1 7 rfl rfl)
theorem dX0_kinds_32 : decode cX0_kinds 32 = .ok (.if_icmp .ge 49, 3) := dk_162 0 49 (dk_at dksX0_kinds_1 8 rfl rfl)
theorem dX0_kinds_35 : decode cX0_kinds 35 = .ok (.aload_n 0, 1) := dk_42 (dk_at dksX0_kinds_1 11 rfl rfl)
theorem dX0_kinds_36 : decode cX0_kinds 36 = .ok (.getfield 18, 3) := dk_180 0 18 (dk_at dksX0_kinds_1 12 rfl rfl)
theorem dX0_kinds_39 : decode cX0_kinds 39 = .ok (.iload_n 1, 1) := dk_27 (dk_at dksX0_kinds_1 15 rfl rfl)
theorem dX0_kinds_40 : decode cX0_kinds 40 = .ok (.aload_n 0, 1) := dk_42 (dk_at dksX0_kinds_1 16 rfl rfl)
theorem dX0_kinds_41 : decode cX0_kinds 41 = .ok (.iload 4, 2) := dk_21 4 (dk_at dksX0_kinds_1 17 rfl rfl)
theorem dX0_kinds_43 : decode cX0_kinds 43 = .ok (.iload_n 1, 1) := dk_27 (dk_at dksX0_kinds_1 19 rfl rfl)
theorem dX0_kinds_44 : decode cX0_kinds 44 = .ok (.aload_n 2, 1) := dk_44 (dk_at dksX0_kinds_1 20 rfl rfl)
theorem dX0_kinds_45 : decode cX0_kinds 45 = .ok (.getfield 116, 3) := dk_180 0 116 (dk_at dksX0_kinds_1 21 rfl rfl)
theorem dX0_kinds_48 : decode cX0_kinds 48 = .ok (.invokevirtual 87, 3) := dk_182 0 87 (dk_at dksX0_kinds_2 0 rfl rfl)
theorem dX0_kinds_51 : decode cX0_kinds 51 = .ok (.invokeinterface 209 3, 5) := by decide +kernel
theorem dX0_kinds_56 : decode cX0_kinds 56 = .ok (.pop, 1) := dk_87 (dk_at dksX0_kinds_2 8 rfl rfl)
theorem dX0_kinds_57 : decode cX0_kinds 57 = .ok (.iload_n 3, 1) := dk_29 (dk_at dksX0_kinds_2 9 rfl rfl)
theorem dX0_kinds_58 : decode cX0_kinds 58 = .ok (.aload_n 0, 1) := dk_42 (dk_at dksX0_kinds_2 10 rfl rfl)
theorem dX0_kinds_59 : decode cX0_kinds 59 = .ok (.invokevirtual 206, 3) := dk_182 0 206 (dk_at dksX0_kinds_2 11 rfl rfl)
theorem dX0_kinds_62 : decode cX0_kinds 62 = .ok (.ifCond .eq 10, 3) := dk_153 0 10 (dk_at dksX0_kinds_2 14 rfl rfl)
theorem dX0_kinds_65 : decode cX0_kinds 65 = .ok (.iconst 1, 1) := dk_4 (dk_at dksX0_kinds_2 17 rfl rfl)
theorem dX0_kinds_66 : decode cX0_kinds 66 = .ok (.iload 4, 2) := dk_21 4 (dk_at dksX0_kinds_2 18 rfl rfl)
theorem dX0_kinds_68 : decode cX0_kinds 68 = .ok (.ishl, 1) := dk_120 (dk_at dksX0_kinds_2 20 rfl rfl)
theorem dX0_kinds_69 : decode cX0_kinds 69 = .ok (.goto 4, 3) := dk_167 0 4 (dk_at dksX0_kinds_2 21 rfl rfl)
theorem dX0_kinds_72 : decode cX0_kinds 72 = .ok (.iconst 0, 1) := dk_3 (dk_at dksX0_kinds_3 0 rfl rfl)
theorem dX0_kinds_73 : decode cX0_kinds 73 = .ok (.ior, 1) := dk_128 (dk_at dksX0_kinds_3 1 rfl rfl)
theorem dX0_kinds_74 : decode cX0_kinds 74 = .ok (.istore_n 3, 1) := dk_62 (dk_at dksX0_kinds_3 2 rfl rfl)
theorem dX0_kinds_75 : decode cX0_kinds 75 = .ok (.iinc 4 1, 3) := dk_132 4 1 (dk_at dksX0_kinds_3 3 rfl rfl)
theorem dX0_kinds_78 : decode cX0_kinds 78 = .ok (.goto (-49), 3) := dk_167 255 207 (dk_at dksX0_kinds_3 6 rfl rfl)
theorem dX0_kinds_81 : decode cX0_kinds 81 = .ok (.aload_n 0, 1) := dk_42 (dk_at dksX0_kinds_3 9 rfl rfl)
theorem dX0_kinds_82 : decode cX0_kinds 82 = .ok (.getfield 18, 3) := dk_180 0 18 (dk_at dksX0_kinds_3 10 rfl rfl)
theorem dX0_kinds_85 : decode cX0_kinds 85 = .ok (.iload_n 1, 1) := dk_27 (dk_at dksX0_kinds_3 13 rfl rfl)
theorem dX0_kinds_86 : decode cX0_kinds 86 = .ok (.aload_n 2, 1) := dk_44 (dk_at dksX0_kinds_3 14 rfl rfl)
theorem dX0_kinds_87 : decode cX0_kinds 87 = .ok (.invokeinterface 209 3, 5) := by decide +kernel
theorem dX0_kinds_92 : decode cX0_kinds 92 = .ok (.pop, 1) := dk_87 (dk_at dksX0_kinds_3 20 rfl rfl)
theorem dX0_kinds_93 : decode cX0_kinds 93 = .ok (.iload_n 3, 1) := dk_29 (dk_at dksX0_kinds_3 21 rfl rfl)
theorem dX0_kinds_94 : decode cX0_kinds 94 = .ok (.ireturn, 1) := dk_172 (dk_at dksX0_kinds_3 22 rfl rfl)
abbrev cX0_madeOf : ByteArray := prog_1_method_4_code
def yX0_madeOf : MethodName := ⟨RX0, "madeOf", "(IIZ)LDebtFerry$Rider;"⟩
def dkwX0_madeOf_1 : List UInt8 := [187, 0, 42, 89, 42, 28, 29, 183, 0, 44, 167, 0, 13, 187, 0, 45, 89, 42, 28, 29, 183, 0, 47, 176]
abbrev dktX0_madeOf_1 : List UInt8 := dkwX0_madeOf_1 ++ []
def dkwX0_madeOf_0 : List UInt8 := [27, 154, 0, 16, 187, 0, 37, 89, 42, 28, 29, 183, 0, 39, 167, 0, 31, 27, 4, 160, 0, 16]
abbrev dktX0_madeOf_0 : List UInt8 := dkwX0_madeOf_0 ++ dktX0_madeOf_1
theorem dksX0_madeOf_0 : cX0_madeOf.data.toList.drop 0 = dktX0_madeOf_0 := by decide +kernel
theorem dksX0_madeOf_1 : cX0_madeOf.data.toList.drop 22 = dktX0_madeOf_1 := dk_seg dksX0_madeOf_0 22 rfl rfl
theorem dX0_madeOf_0 : decode cX0_madeOf 0 = .ok (.iload_n 1, 1) := dk_27 (dk_at dksX0_madeOf_0 0 rfl rfl)
theorem dX0_madeOf_1 : decode cX0_madeOf 1 = .ok (.ifCond .ne 16, 3) := dk_154 0 16 (dk_at dksX0_madeOf_0 1 rfl rfl)
theorem dX0_madeOf_4 : decode cX0_madeOf 4 = .ok (.new 37, 3) := dk_187 0 37 (dk_at dksX0_madeOf_0 4 rfl rfl)
theorem dX0_madeOf_7 : decode cX0_madeOf 7 = .ok (.dup, 1) := dk_89 (dk_at dksX0_madeOf_0 7 rfl rfl)
theorem dX0_madeOf_8 : decode cX0_madeOf 8 = .ok (.aload_n 0, 1) := dk_42 (dk_at dksX0_madeOf_0 8 rfl rfl)
theorem dX0_madeOf_9 : decode cX0_madeOf 9 = .ok (.iload_n 2, 1) := dk_28 (dk_at dksX0_madeOf_0 9 rfl rfl)
theorem dX0_madeOf_10 : decode cX0_madeOf 10 = .ok (.iload_n 3, 1) := dk_29 (dk_at dksX0_madeOf_0 10 rfl rfl)
theorem dX0_madeOf_11 : decode cX0_madeOf 11 = .ok (.invokespecial 39, 3) := dk_183 0 39 (dk_at dksX0_madeOf_0 11 rfl rfl)
theorem dX0_madeOf_14 : decode cX0_madeOf 14 = .ok (.goto 31, 3) := dk_167 0 31 (dk_at dksX0_madeOf_0 14 rfl rfl)
theorem dX0_madeOf_17 : decode cX0_madeOf 17 = .ok (.iload_n 1, 1) := dk_27 (dk_at dksX0_madeOf_0 17 rfl rfl)
theorem dX0_madeOf_18 : decode cX0_madeOf 18 = .ok (.iconst 1, 1) := dk_4 (dk_at dksX0_madeOf_0 18 rfl rfl)
theorem dX0_madeOf_19 : decode cX0_madeOf 19 = .ok (.if_icmp .ne 16, 3) := dk_160 0 16 (dk_at dksX0_madeOf_0 19 rfl rfl)
theorem dX0_madeOf_22 : decode cX0_madeOf 22 = .ok (.new 42, 3) := dk_187 0 42 (dk_at dksX0_madeOf_1 0 rfl rfl)
theorem dX0_madeOf_25 : decode cX0_madeOf 25 = .ok (.dup, 1) := dk_89 (dk_at dksX0_madeOf_1 3 rfl rfl)
theorem dX0_madeOf_26 : decode cX0_madeOf 26 = .ok (.aload_n 0, 1) := dk_42 (dk_at dksX0_madeOf_1 4 rfl rfl)
theorem dX0_madeOf_27 : decode cX0_madeOf 27 = .ok (.iload_n 2, 1) := dk_28 (dk_at dksX0_madeOf_1 5 rfl rfl)
theorem dX0_madeOf_28 : decode cX0_madeOf 28 = .ok (.iload_n 3, 1) := dk_29 (dk_at dksX0_madeOf_1 6 rfl rfl)
theorem dX0_madeOf_29 : decode cX0_madeOf 29 = .ok (.invokespecial 44, 3) := dk_183 0 44 (dk_at dksX0_madeOf_1 7 rfl rfl)
theorem dX0_madeOf_32 : decode cX0_madeOf 32 = .ok (.goto 13, 3) := dk_167 0 13 (dk_at dksX0_madeOf_1 10 rfl rfl)
theorem dX0_madeOf_35 : decode cX0_madeOf 35 = .ok (.new 45, 3) := dk_187 0 45 (dk_at dksX0_madeOf_1 13 rfl rfl)
theorem dX0_madeOf_38 : decode cX0_madeOf 38 = .ok (.dup, 1) := dk_89 (dk_at dksX0_madeOf_1 16 rfl rfl)
theorem dX0_madeOf_39 : decode cX0_madeOf 39 = .ok (.aload_n 0, 1) := dk_42 (dk_at dksX0_madeOf_1 17 rfl rfl)
theorem dX0_madeOf_40 : decode cX0_madeOf 40 = .ok (.iload_n 2, 1) := dk_28 (dk_at dksX0_madeOf_1 18 rfl rfl)
theorem dX0_madeOf_41 : decode cX0_madeOf 41 = .ok (.iload_n 3, 1) := dk_29 (dk_at dksX0_madeOf_1 19 rfl rfl)
theorem dX0_madeOf_42 : decode cX0_madeOf 42 = .ok (.invokespecial 47, 3) := dk_183 0 47 (dk_at dksX0_madeOf_1 20 rfl rfl)
theorem dX0_madeOf_45 : decode cX0_madeOf 45 = .ok (.areturn, 1) := dk_176 (dk_at dksX0_madeOf_1 23 rfl rfl)
abbrev cX0_often : ByteArray := prog_1_method_42_code
def yX0_often : MethodName := ⟨RX0, "often", "()I"⟩
def dkwX0_often_2 : List UInt8 := [132, 3, 1, 167, 255, 226, 42, 27, 181, 0, 99, 28, 172]
abbrev dktX0_often_2 : List UInt8 := dkwX0_often_2 ++ []
def dkwX0_often_1 : List UInt8 := [42, 29, 181, 0, 99, 28, 42, 182, 0, 206, 153, 0, 9, 4, 29, 120, 167, 0, 4, 3, 128, 61]
abbrev dktX0_often_1 : List UInt8 := dkwX0_often_1 ++ dktX0_often_2
def dkwX0_often_0 : List UInt8 := [42, 182, 0, 132, 153, 0, 6, 16, 253, 172, 42, 180, 0, 99, 60, 3, 61, 4, 62, 29, 6, 163, 0, 31]
abbrev dktX0_often_0 : List UInt8 := dkwX0_often_0 ++ dktX0_often_1
theorem dksX0_often_0 : cX0_often.data.toList.drop 0 = dktX0_often_0 := by decide +kernel
theorem dksX0_often_1 : cX0_often.data.toList.drop 24 = dktX0_often_1 := dk_seg dksX0_often_0 24 rfl rfl
theorem dksX0_often_2 : cX0_often.data.toList.drop 46 = dktX0_often_2 := dk_seg dksX0_often_1 22 rfl rfl
theorem dX0_often_0 : decode cX0_often 0 = .ok (.aload_n 0, 1) := dk_42 (dk_at dksX0_often_0 0 rfl rfl)
theorem dX0_often_1 : decode cX0_often 1 = .ok (.invokevirtual 132, 3) := dk_182 0 132 (dk_at dksX0_often_0 1 rfl rfl)
theorem dX0_often_4 : decode cX0_often 4 = .ok (.ifCond .eq 6, 3) := dk_153 0 6 (dk_at dksX0_often_0 4 rfl rfl)
theorem dX0_often_7 : decode cX0_often 7 = .ok (.bipush (-3), 2) := dk_16 253 (dk_at dksX0_often_0 7 rfl rfl)
theorem dX0_often_9 : decode cX0_often 9 = .ok (.ireturn, 1) := dk_172 (dk_at dksX0_often_0 9 rfl rfl)
theorem dX0_often_10 : decode cX0_often 10 = .ok (.aload_n 0, 1) := dk_42 (dk_at dksX0_often_0 10 rfl rfl)
theorem dX0_often_11 : decode cX0_often 11 = .ok (.getfield 99, 3) := dk_180 0 99 (dk_at dksX0_often_0 11 rfl rfl)
theorem dX0_often_14 : decode cX0_often 14 = .ok (.istore_n 1, 1) := dk_60 (dk_at dksX0_often_0 14 rfl rfl)
theorem dX0_often_15 : decode cX0_often 15 = .ok (.iconst 0, 1) := dk_3 (dk_at dksX0_often_0 15 rfl rfl)
theorem dX0_often_16 : decode cX0_often 16 = .ok (.istore_n 2, 1) := dk_61 (dk_at dksX0_often_0 16 rfl rfl)
theorem dX0_often_17 : decode cX0_often 17 = .ok (.iconst 1, 1) := dk_4 (dk_at dksX0_often_0 17 rfl rfl)
theorem dX0_often_18 : decode cX0_often 18 = .ok (.istore_n 3, 1) := dk_62 (dk_at dksX0_often_0 18 rfl rfl)
theorem dX0_often_19 : decode cX0_often 19 = .ok (.iload_n 3, 1) := dk_29 (dk_at dksX0_often_0 19 rfl rfl)
theorem dX0_often_20 : decode cX0_often 20 = .ok (.iconst 3, 1) := dk_6 (dk_at dksX0_often_0 20 rfl rfl)
theorem dX0_often_21 : decode cX0_often 21 = .ok (.if_icmp .gt 31, 3) := dk_163 0 31 (dk_at dksX0_often_0 21 rfl rfl)
theorem dX0_often_24 : decode cX0_often 24 = .ok (.aload_n 0, 1) := dk_42 (dk_at dksX0_often_1 0 rfl rfl)
theorem dX0_often_25 : decode cX0_often 25 = .ok (.iload_n 3, 1) := dk_29 (dk_at dksX0_often_1 1 rfl rfl)
theorem dX0_often_26 : decode cX0_often 26 = .ok (.putfield 99, 3) := dk_181 0 99 (dk_at dksX0_often_1 2 rfl rfl)
theorem dX0_often_29 : decode cX0_often 29 = .ok (.iload_n 2, 1) := dk_28 (dk_at dksX0_often_1 5 rfl rfl)
theorem dX0_often_30 : decode cX0_often 30 = .ok (.aload_n 0, 1) := dk_42 (dk_at dksX0_often_1 6 rfl rfl)
theorem dX0_often_31 : decode cX0_often 31 = .ok (.invokevirtual 206, 3) := dk_182 0 206 (dk_at dksX0_often_1 7 rfl rfl)
theorem dX0_often_34 : decode cX0_often 34 = .ok (.ifCond .eq 9, 3) := dk_153 0 9 (dk_at dksX0_often_1 10 rfl rfl)
theorem dX0_often_37 : decode cX0_often 37 = .ok (.iconst 1, 1) := dk_4 (dk_at dksX0_often_1 13 rfl rfl)
theorem dX0_often_38 : decode cX0_often 38 = .ok (.iload_n 3, 1) := dk_29 (dk_at dksX0_often_1 14 rfl rfl)
theorem dX0_often_39 : decode cX0_often 39 = .ok (.ishl, 1) := dk_120 (dk_at dksX0_often_1 15 rfl rfl)
theorem dX0_often_40 : decode cX0_often 40 = .ok (.goto 4, 3) := dk_167 0 4 (dk_at dksX0_often_1 16 rfl rfl)
theorem dX0_often_43 : decode cX0_often 43 = .ok (.iconst 0, 1) := dk_3 (dk_at dksX0_often_1 19 rfl rfl)
theorem dX0_often_44 : decode cX0_often 44 = .ok (.ior, 1) := dk_128 (dk_at dksX0_often_1 20 rfl rfl)
theorem dX0_often_45 : decode cX0_often 45 = .ok (.istore_n 2, 1) := dk_61 (dk_at dksX0_often_1 21 rfl rfl)
theorem dX0_often_46 : decode cX0_often 46 = .ok (.iinc 3 1, 3) := dk_132 3 1 (dk_at dksX0_often_2 0 rfl rfl)
theorem dX0_often_49 : decode cX0_often 49 = .ok (.goto (-30), 3) := dk_167 255 226 (dk_at dksX0_often_2 3 rfl rfl)
theorem dX0_often_52 : decode cX0_often 52 = .ok (.aload_n 0, 1) := dk_42 (dk_at dksX0_often_2 6 rfl rfl)
theorem dX0_often_53 : decode cX0_often 53 = .ok (.iload_n 1, 1) := dk_27 (dk_at dksX0_often_2 7 rfl rfl)
theorem dX0_often_54 : decode cX0_often 54 = .ok (.putfield 99, 3) := dk_181 0 99 (dk_at dksX0_often_2 8 rfl rfl)
theorem dX0_often_57 : decode cX0_often 57 = .ok (.iload_n 2, 1) := dk_28 (dk_at dksX0_often_2 11 rfl rfl)
theorem dX0_often_58 : decode cX0_often 58 = .ok (.ireturn, 1) := dk_172 (dk_at dksX0_often_2 12 rfl rfl)
abbrev cX0_odds : ByteArray := prog_1_method_44_code
def yX0_odds : MethodName := ⟨RX0, "odds", "(III)J"⟩
def dkwX0_odds_7 : List UInt8 := [133, 21, 5, 133, 184, 0, 213, 109, 173]
abbrev dktX0_odds_7 : List UInt8 := dkwX0_odds_7 ++ []
def dkwX0_odds_6 : List UInt8 := [132, 6, 1, 167, 255, 175, 42, 182, 0, 189, 29, 154, 0, 8, 21, 5, 167, 0, 5, 21, 4, 133, 21, 4]
abbrev dktX0_odds_6 : List UInt8 := dkwX0_odds_6 ++ dktX0_odds_7
def dkwX0_odds_5 : List UInt8 := [21, 5, 42, 28, 182, 0, 146, 27, 184, 0, 135, 153, 0, 7, 4, 167, 0, 4, 3, 96, 54, 5]
abbrev dktX0_odds_5 : List UInt8 := dkwX0_odds_5 ++ dktX0_odds_6
def dkwX0_odds_4 : List UInt8 := [184, 0, 135, 153, 0, 7, 3, 167, 0, 10, 42, 180, 0, 25, 21, 7, 46, 79, 132, 7, 1, 167, 255, 213]
abbrev dktX0_odds_4 : List UInt8 := dkwX0_odds_4 ++ dktX0_odds_5
def dkwX0_odds_3 : List UInt8 := [21, 7, 42, 180, 0, 11, 190, 162, 0, 39, 42, 180, 0, 11, 21, 7, 21, 6, 21, 7, 8, 108]
abbrev dktX0_odds_3 : List UInt8 := dkwX0_odds_3 ++ dktX0_odds_4
def dkwX0_odds_2 : List UInt8 := [185, 0, 54, 1, 0, 120, 54, 4, 3, 54, 5, 3, 54, 6, 21, 6, 21, 4, 162, 0, 80, 3, 54, 7]
abbrev dktX0_odds_2 : List UInt8 := dkwX0_odds_2 ++ dktX0_odds_3
def dkwX0_odds_1 : List UInt8 := [153, 0, 11, 28, 27, 184, 0, 135, 154, 0, 7, 20, 0, 217, 173, 42, 182, 0, 186, 4, 42, 180, 0, 18]
abbrev dktX0_odds_1 : List UInt8 := dkwX0_odds_1 ++ dktX0_odds_2
def dkwX0_odds_0 : List UInt8 := [42, 27, 182, 0, 62, 154, 0, 29, 42, 28, 182, 0, 157, 153, 0, 21, 29, 133, 9, 10, 184, 0, 58]
abbrev dktX0_odds_0 : List UInt8 := dkwX0_odds_0 ++ dktX0_odds_1
theorem dksX0_odds_0 : cX0_odds.data.toList.drop 0 = dktX0_odds_0 := by decide +kernel
theorem dksX0_odds_1 : cX0_odds.data.toList.drop 23 = dktX0_odds_1 := dk_seg dksX0_odds_0 23 rfl rfl
theorem dksX0_odds_2 : cX0_odds.data.toList.drop 47 = dktX0_odds_2 := dk_seg dksX0_odds_1 24 rfl rfl
theorem dksX0_odds_3 : cX0_odds.data.toList.drop 71 = dktX0_odds_3 := dk_seg dksX0_odds_2 24 rfl rfl
theorem dksX0_odds_4 : cX0_odds.data.toList.drop 93 = dktX0_odds_4 := dk_seg dksX0_odds_3 22 rfl rfl
theorem dksX0_odds_5 : cX0_odds.data.toList.drop 117 = dktX0_odds_5 := dk_seg dksX0_odds_4 24 rfl rfl
theorem dksX0_odds_6 : cX0_odds.data.toList.drop 139 = dktX0_odds_6 := dk_seg dksX0_odds_5 22 rfl rfl
theorem dksX0_odds_7 : cX0_odds.data.toList.drop 163 = dktX0_odds_7 := dk_seg dksX0_odds_6 24 rfl rfl
theorem dX0_odds_0 : decode cX0_odds 0 = .ok (.aload_n 0, 1) := dk_42 (dk_at dksX0_odds_0 0 rfl rfl)
theorem dX0_odds_1 : decode cX0_odds 1 = .ok (.iload_n 1, 1) := dk_27 (dk_at dksX0_odds_0 1 rfl rfl)
theorem dX0_odds_2 : decode cX0_odds 2 = .ok (.invokevirtual 62, 3) := dk_182 0 62 (dk_at dksX0_odds_0 2 rfl rfl)
theorem dX0_odds_5 : decode cX0_odds 5 = .ok (.ifCond .ne 29, 3) := dk_154 0 29 (dk_at dksX0_odds_0 5 rfl rfl)
theorem dX0_odds_8 : decode cX0_odds 8 = .ok (.aload_n 0, 1) := dk_42 (dk_at dksX0_odds_0 8 rfl rfl)
theorem dX0_odds_9 : decode cX0_odds 9 = .ok (.iload_n 2, 1) := dk_28 (dk_at dksX0_odds_0 9 rfl rfl)
theorem dX0_odds_10 : decode cX0_odds 10 = .ok (.invokevirtual 157, 3) := dk_182 0 157 (dk_at dksX0_odds_0 10 rfl rfl)
theorem dX0_odds_13 : decode cX0_odds 13 = .ok (.ifCond .eq 21, 3) := dk_153 0 21 (dk_at dksX0_odds_0 13 rfl rfl)
theorem dX0_odds_16 : decode cX0_odds 16 = .ok (.iload_n 3, 1) := dk_29 (dk_at dksX0_odds_0 16 rfl rfl)
theorem dX0_odds_17 : decode cX0_odds 17 = .ok (.i2l, 1) := dk_133 (dk_at dksX0_odds_0 17 rfl rfl)
theorem dX0_odds_18 : decode cX0_odds 18 = .ok (.lconst 0, 1) := dk_9 (dk_at dksX0_odds_0 18 rfl rfl)
theorem dX0_odds_19 : decode cX0_odds 19 = .ok (.lconst 1, 1) := dk_10 (dk_at dksX0_odds_0 19 rfl rfl)
theorem dX0_odds_20 : decode cX0_odds 20 = .ok (.invokestatic 58, 3) := dk_184 0 58 (dk_at dksX0_odds_0 20 rfl rfl)
theorem dX0_odds_23 : decode cX0_odds 23 = .ok (.ifCond .eq 11, 3) := dk_153 0 11 (dk_at dksX0_odds_1 0 rfl rfl)
theorem dX0_odds_26 : decode cX0_odds 26 = .ok (.iload_n 2, 1) := dk_28 (dk_at dksX0_odds_1 3 rfl rfl)
theorem dX0_odds_27 : decode cX0_odds 27 = .ok (.iload_n 1, 1) := dk_27 (dk_at dksX0_odds_1 4 rfl rfl)
theorem dX0_odds_28 : decode cX0_odds 28 = .ok (.invokestatic 135, 3) := dk_184 0 135 (dk_at dksX0_odds_1 5 rfl rfl)
theorem dX0_odds_31 : decode cX0_odds 31 = .ok (.ifCond .ne 7, 3) := dk_154 0 7 (dk_at dksX0_odds_1 8 rfl rfl)
theorem dX0_odds_34 : decode cX0_odds 34 = .ok (.ldc2_w 217, 3) := dk_20 0 217 (dk_at dksX0_odds_1 11 rfl rfl)
theorem dX0_odds_37 : decode cX0_odds 37 = .ok (.lreturn, 1) := dk_173 (dk_at dksX0_odds_1 14 rfl rfl)
theorem dX0_odds_38 : decode cX0_odds 38 = .ok (.aload_n 0, 1) := dk_42 (dk_at dksX0_odds_1 15 rfl rfl)
theorem dX0_odds_39 : decode cX0_odds 39 = .ok (.invokevirtual 186, 3) := dk_182 0 186 (dk_at dksX0_odds_1 16 rfl rfl)
theorem dX0_odds_42 : decode cX0_odds 42 = .ok (.iconst 1, 1) := dk_4 (dk_at dksX0_odds_1 19 rfl rfl)
theorem dX0_odds_43 : decode cX0_odds 43 = .ok (.aload_n 0, 1) := dk_42 (dk_at dksX0_odds_1 20 rfl rfl)
theorem dX0_odds_44 : decode cX0_odds 44 = .ok (.getfield 18, 3) := dk_180 0 18 (dk_at dksX0_odds_1 21 rfl rfl)
theorem dX0_odds_47 : decode cX0_odds 47 = .ok (.invokeinterface 54 1, 5) := by decide +kernel
theorem dX0_odds_52 : decode cX0_odds 52 = .ok (.ishl, 1) := dk_120 (dk_at dksX0_odds_2 5 rfl rfl)
theorem dX0_odds_53 : decode cX0_odds 53 = .ok (.istore 4, 2) := dk_54 4 (dk_at dksX0_odds_2 6 rfl rfl)
theorem dX0_odds_55 : decode cX0_odds 55 = .ok (.iconst 0, 1) := dk_3 (dk_at dksX0_odds_2 8 rfl rfl)
theorem dX0_odds_56 : decode cX0_odds 56 = .ok (.istore 5, 2) := dk_54 5 (dk_at dksX0_odds_2 9 rfl rfl)
theorem dX0_odds_58 : decode cX0_odds 58 = .ok (.iconst 0, 1) := dk_3 (dk_at dksX0_odds_2 11 rfl rfl)
theorem dX0_odds_59 : decode cX0_odds 59 = .ok (.istore 6, 2) := dk_54 6 (dk_at dksX0_odds_2 12 rfl rfl)
theorem dX0_odds_61 : decode cX0_odds 61 = .ok (.iload 6, 2) := dk_21 6 (dk_at dksX0_odds_2 14 rfl rfl)
theorem dX0_odds_63 : decode cX0_odds 63 = .ok (.iload 4, 2) := dk_21 4 (dk_at dksX0_odds_2 16 rfl rfl)
theorem dX0_odds_65 : decode cX0_odds 65 = .ok (.if_icmp .ge 80, 3) := dk_162 0 80 (dk_at dksX0_odds_2 18 rfl rfl)
theorem dX0_odds_68 : decode cX0_odds 68 = .ok (.iconst 0, 1) := dk_3 (dk_at dksX0_odds_2 21 rfl rfl)
theorem dX0_odds_69 : decode cX0_odds 69 = .ok (.istore 7, 2) := dk_54 7 (dk_at dksX0_odds_2 22 rfl rfl)
theorem dX0_odds_71 : decode cX0_odds 71 = .ok (.iload 7, 2) := dk_21 7 (dk_at dksX0_odds_3 0 rfl rfl)
theorem dX0_odds_73 : decode cX0_odds 73 = .ok (.aload_n 0, 1) := dk_42 (dk_at dksX0_odds_3 2 rfl rfl)
theorem dX0_odds_74 : decode cX0_odds 74 = .ok (.getfield 11, 3) := dk_180 0 11 (dk_at dksX0_odds_3 3 rfl rfl)
theorem dX0_odds_77 : decode cX0_odds 77 = .ok (.arraylength, 1) := dk_190 (dk_at dksX0_odds_3 6 rfl rfl)
theorem dX0_odds_78 : decode cX0_odds 78 = .ok (.if_icmp .ge 39, 3) := dk_162 0 39 (dk_at dksX0_odds_3 7 rfl rfl)
theorem dX0_odds_81 : decode cX0_odds 81 = .ok (.aload_n 0, 1) := dk_42 (dk_at dksX0_odds_3 10 rfl rfl)
theorem dX0_odds_82 : decode cX0_odds 82 = .ok (.getfield 11, 3) := dk_180 0 11 (dk_at dksX0_odds_3 11 rfl rfl)
theorem dX0_odds_85 : decode cX0_odds 85 = .ok (.iload 7, 2) := dk_21 7 (dk_at dksX0_odds_3 14 rfl rfl)
theorem dX0_odds_87 : decode cX0_odds 87 = .ok (.iload 6, 2) := dk_21 6 (dk_at dksX0_odds_3 16 rfl rfl)
theorem dX0_odds_89 : decode cX0_odds 89 = .ok (.iload 7, 2) := dk_21 7 (dk_at dksX0_odds_3 18 rfl rfl)
theorem dX0_odds_91 : decode cX0_odds 91 = .ok (.iconst 5, 1) := dk_8 (dk_at dksX0_odds_3 20 rfl rfl)
theorem dX0_odds_92 : decode cX0_odds 92 = .ok (.idiv, 1) := dk_108 (dk_at dksX0_odds_3 21 rfl rfl)
theorem dX0_odds_93 : decode cX0_odds 93 = .ok (.invokestatic 135, 3) := dk_184 0 135 (dk_at dksX0_odds_4 0 rfl rfl)
theorem dX0_odds_96 : decode cX0_odds 96 = .ok (.ifCond .eq 7, 3) := dk_153 0 7 (dk_at dksX0_odds_4 3 rfl rfl)
theorem dX0_odds_99 : decode cX0_odds 99 = .ok (.iconst 0, 1) := dk_3 (dk_at dksX0_odds_4 6 rfl rfl)
theorem dX0_odds_100 : decode cX0_odds 100 = .ok (.goto 10, 3) := dk_167 0 10 (dk_at dksX0_odds_4 7 rfl rfl)
theorem dX0_odds_103 : decode cX0_odds 103 = .ok (.aload_n 0, 1) := dk_42 (dk_at dksX0_odds_4 10 rfl rfl)
theorem dX0_odds_104 : decode cX0_odds 104 = .ok (.getfield 25, 3) := dk_180 0 25 (dk_at dksX0_odds_4 11 rfl rfl)
theorem dX0_odds_107 : decode cX0_odds 107 = .ok (.iload 7, 2) := dk_21 7 (dk_at dksX0_odds_4 14 rfl rfl)
theorem dX0_odds_109 : decode cX0_odds 109 = .ok (.iaload, 1) := dk_46 (dk_at dksX0_odds_4 16 rfl rfl)
theorem dX0_odds_110 : decode cX0_odds 110 = .ok (.iastore, 1) := dk_79 (dk_at dksX0_odds_4 17 rfl rfl)
theorem dX0_odds_111 : decode cX0_odds 111 = .ok (.iinc 7 1, 3) := dk_132 7 1 (dk_at dksX0_odds_4 18 rfl rfl)
theorem dX0_odds_114 : decode cX0_odds 114 = .ok (.goto (-43), 3) := dk_167 255 213 (dk_at dksX0_odds_4 21 rfl rfl)
theorem dX0_odds_117 : decode cX0_odds 117 = .ok (.iload 5, 2) := dk_21 5 (dk_at dksX0_odds_5 0 rfl rfl)
theorem dX0_odds_119 : decode cX0_odds 119 = .ok (.aload_n 0, 1) := dk_42 (dk_at dksX0_odds_5 2 rfl rfl)
theorem dX0_odds_120 : decode cX0_odds 120 = .ok (.iload_n 2, 1) := dk_28 (dk_at dksX0_odds_5 3 rfl rfl)
theorem dX0_odds_121 : decode cX0_odds 121 = .ok (.invokevirtual 146, 3) := dk_182 0 146 (dk_at dksX0_odds_5 4 rfl rfl)
theorem dX0_odds_124 : decode cX0_odds 124 = .ok (.iload_n 1, 1) := dk_27 (dk_at dksX0_odds_5 7 rfl rfl)
theorem dX0_odds_125 : decode cX0_odds 125 = .ok (.invokestatic 135, 3) := dk_184 0 135 (dk_at dksX0_odds_5 8 rfl rfl)
theorem dX0_odds_128 : decode cX0_odds 128 = .ok (.ifCond .eq 7, 3) := dk_153 0 7 (dk_at dksX0_odds_5 11 rfl rfl)
theorem dX0_odds_131 : decode cX0_odds 131 = .ok (.iconst 1, 1) := dk_4 (dk_at dksX0_odds_5 14 rfl rfl)
theorem dX0_odds_132 : decode cX0_odds 132 = .ok (.goto 4, 3) := dk_167 0 4 (dk_at dksX0_odds_5 15 rfl rfl)
theorem dX0_odds_135 : decode cX0_odds 135 = .ok (.iconst 0, 1) := dk_3 (dk_at dksX0_odds_5 18 rfl rfl)
theorem dX0_odds_136 : decode cX0_odds 136 = .ok (.iadd, 1) := dk_96 (dk_at dksX0_odds_5 19 rfl rfl)
theorem dX0_odds_137 : decode cX0_odds 137 = .ok (.istore 5, 2) := dk_54 5 (dk_at dksX0_odds_5 20 rfl rfl)
theorem dX0_odds_139 : decode cX0_odds 139 = .ok (.iinc 6 1, 3) := dk_132 6 1 (dk_at dksX0_odds_6 0 rfl rfl)
theorem dX0_odds_142 : decode cX0_odds 142 = .ok (.goto (-81), 3) := dk_167 255 175 (dk_at dksX0_odds_6 3 rfl rfl)
theorem dX0_odds_145 : decode cX0_odds 145 = .ok (.aload_n 0, 1) := dk_42 (dk_at dksX0_odds_6 6 rfl rfl)
theorem dX0_odds_146 : decode cX0_odds 146 = .ok (.invokevirtual 189, 3) := dk_182 0 189 (dk_at dksX0_odds_6 7 rfl rfl)
theorem dX0_odds_149 : decode cX0_odds 149 = .ok (.iload_n 3, 1) := dk_29 (dk_at dksX0_odds_6 10 rfl rfl)
theorem dX0_odds_150 : decode cX0_odds 150 = .ok (.ifCond .ne 8, 3) := dk_154 0 8 (dk_at dksX0_odds_6 11 rfl rfl)
theorem dX0_odds_153 : decode cX0_odds 153 = .ok (.iload 5, 2) := dk_21 5 (dk_at dksX0_odds_6 14 rfl rfl)
theorem dX0_odds_155 : decode cX0_odds 155 = .ok (.goto 5, 3) := dk_167 0 5 (dk_at dksX0_odds_6 16 rfl rfl)
theorem dX0_odds_158 : decode cX0_odds 158 = .ok (.iload 4, 2) := dk_21 4 (dk_at dksX0_odds_6 19 rfl rfl)
theorem dX0_odds_160 : decode cX0_odds 160 = .ok (.i2l, 1) := dk_133 (dk_at dksX0_odds_6 21 rfl rfl)
theorem dX0_odds_161 : decode cX0_odds 161 = .ok (.iload 4, 2) := dk_21 4 (dk_at dksX0_odds_6 22 rfl rfl)
theorem dX0_odds_163 : decode cX0_odds 163 = .ok (.i2l, 1) := dk_133 (dk_at dksX0_odds_7 0 rfl rfl)
theorem dX0_odds_164 : decode cX0_odds 164 = .ok (.iload 5, 2) := dk_21 5 (dk_at dksX0_odds_7 1 rfl rfl)
theorem dX0_odds_166 : decode cX0_odds 166 = .ok (.i2l, 1) := dk_133 (dk_at dksX0_odds_7 3 rfl rfl)
theorem dX0_odds_167 : decode cX0_odds 167 = .ok (.invokestatic 213, 3) := dk_184 0 213 (dk_at dksX0_odds_7 4 rfl rfl)
theorem dX0_odds_170 : decode cX0_odds 170 = .ok (.ldiv, 1) := dk_109 (dk_at dksX0_odds_7 7 rfl rfl)
theorem dX0_odds_171 : decode cX0_odds 171 = .ok (.lreturn, 1) := dk_173 (dk_at dksX0_odds_7 8 rfl rfl)
abbrev cX0_greatest : ByteArray := prog_1_method_43_code
def yX0_greatest : MethodName := ⟨RX0, "greatest", "(JJ)J"⟩
def dkwX0_greatest_0 : List UInt8 := [32, 9, 148, 154, 0, 7, 30, 167, 0, 10, 32, 30, 32, 113, 184, 0, 213, 173]
abbrev dktX0_greatest_0 : List UInt8 := dkwX0_greatest_0 ++ []
theorem dksX0_greatest_0 : cX0_greatest.data.toList.drop 0 = dktX0_greatest_0 := by decide +kernel
theorem dX0_greatest_0 : decode cX0_greatest 0 = .ok (.lload_n 2, 1) := dk_32 (dk_at dksX0_greatest_0 0 rfl rfl)
theorem dX0_greatest_1 : decode cX0_greatest 1 = .ok (.lconst 0, 1) := dk_9 (dk_at dksX0_greatest_0 1 rfl rfl)
theorem dX0_greatest_2 : decode cX0_greatest 2 = .ok (.lcmp, 1) := dk_148 (dk_at dksX0_greatest_0 2 rfl rfl)
theorem dX0_greatest_3 : decode cX0_greatest 3 = .ok (.ifCond .ne 7, 3) := dk_154 0 7 (dk_at dksX0_greatest_0 3 rfl rfl)
theorem dX0_greatest_6 : decode cX0_greatest 6 = .ok (.lload_n 0, 1) := dk_30 (dk_at dksX0_greatest_0 6 rfl rfl)
theorem dX0_greatest_7 : decode cX0_greatest 7 = .ok (.goto 10, 3) := dk_167 0 10 (dk_at dksX0_greatest_0 7 rfl rfl)
theorem dX0_greatest_10 : decode cX0_greatest 10 = .ok (.lload_n 2, 1) := dk_32 (dk_at dksX0_greatest_0 10 rfl rfl)
theorem dX0_greatest_11 : decode cX0_greatest 11 = .ok (.lload_n 0, 1) := dk_30 (dk_at dksX0_greatest_0 11 rfl rfl)
theorem dX0_greatest_12 : decode cX0_greatest 12 = .ok (.lload_n 2, 1) := dk_32 (dk_at dksX0_greatest_0 12 rfl rfl)
theorem dX0_greatest_13 : decode cX0_greatest 13 = .ok (.lrem, 1) := dk_113 (dk_at dksX0_greatest_0 13 rfl rfl)
theorem dX0_greatest_14 : decode cX0_greatest 14 = .ok (.invokestatic 213, 3) := dk_184 0 213 (dk_at dksX0_greatest_0 14 rfl rfl)
theorem dX0_greatest_17 : decode cX0_greatest 17 = .ok (.lreturn, 1) := dk_173 (dk_at dksX0_greatest_0 17 rfl rfl)
abbrev cX0_sheet : ByteArray := prog_1_method_54_code
def yX0_sheet : MethodName := ⟨RX0, "sheet", "(III)I"⟩
def dkwX0_sheet_3 : List UInt8 := [182, 0, 248, 172]
abbrev dktX0_sheet_3 : List UInt8 := dkwX0_sheet_3 ++ []
def dkwX0_sheet_2 : List UInt8 := [180, 0, 33, 27, 187, 0, 31, 89, 28, 29, 184, 0, 239, 183, 0, 243, 83, 4, 172, 58, 4, 42, 7]
abbrev dktX0_sheet_2 : List UInt8 := dkwX0_sheet_2 ++ dktX0_sheet_3
def dkwX0_sheet_1 : List UInt8 := [153, 0, 9, 29, 16, 60, 164, 0, 10, 42, 16, 254, 182, 0, 234, 172, 42, 3, 181, 0, 219, 42]
abbrev dktX0_sheet_1 : List UInt8 := dkwX0_sheet_1 ++ dktX0_sheet_2
def dkwX0_sheet_0 : List UInt8 := [27, 184, 0, 231, 153, 0, 9, 42, 2, 182, 0, 234, 172, 28, 133, 9, 20, 0, 237, 184, 0, 58]
abbrev dktX0_sheet_0 : List UInt8 := dkwX0_sheet_0 ++ dktX0_sheet_1
theorem dksX0_sheet_0 : cX0_sheet.data.toList.drop 0 = dktX0_sheet_0 := by decide +kernel
theorem dksX0_sheet_1 : cX0_sheet.data.toList.drop 22 = dktX0_sheet_1 := dk_seg dksX0_sheet_0 22 rfl rfl
theorem dksX0_sheet_2 : cX0_sheet.data.toList.drop 44 = dktX0_sheet_2 := dk_seg dksX0_sheet_1 22 rfl rfl
theorem dksX0_sheet_3 : cX0_sheet.data.toList.drop 67 = dktX0_sheet_3 := dk_seg dksX0_sheet_2 23 rfl rfl
theorem dX0_sheet_0 : decode cX0_sheet 0 = .ok (.iload_n 1, 1) := dk_27 (dk_at dksX0_sheet_0 0 rfl rfl)
theorem dX0_sheet_1 : decode cX0_sheet 1 = .ok (.invokestatic 231, 3) := dk_184 0 231 (dk_at dksX0_sheet_0 1 rfl rfl)
theorem dX0_sheet_4 : decode cX0_sheet 4 = .ok (.ifCond .eq 9, 3) := dk_153 0 9 (dk_at dksX0_sheet_0 4 rfl rfl)
theorem dX0_sheet_7 : decode cX0_sheet 7 = .ok (.aload_n 0, 1) := dk_42 (dk_at dksX0_sheet_0 7 rfl rfl)
theorem dX0_sheet_8 : decode cX0_sheet 8 = .ok (.iconst (-1), 1) := dk_2 (dk_at dksX0_sheet_0 8 rfl rfl)
theorem dX0_sheet_9 : decode cX0_sheet 9 = .ok (.invokevirtual 234, 3) := dk_182 0 234 (dk_at dksX0_sheet_0 9 rfl rfl)
theorem dX0_sheet_12 : decode cX0_sheet 12 = .ok (.ireturn, 1) := dk_172 (dk_at dksX0_sheet_0 12 rfl rfl)
theorem dX0_sheet_13 : decode cX0_sheet 13 = .ok (.iload_n 2, 1) := dk_28 (dk_at dksX0_sheet_0 13 rfl rfl)
theorem dX0_sheet_14 : decode cX0_sheet 14 = .ok (.i2l, 1) := dk_133 (dk_at dksX0_sheet_0 14 rfl rfl)
theorem dX0_sheet_15 : decode cX0_sheet 15 = .ok (.lconst 0, 1) := dk_9 (dk_at dksX0_sheet_0 15 rfl rfl)
theorem dX0_sheet_16 : decode cX0_sheet 16 = .ok (.ldc2_w 237, 3) := dk_20 0 237 (dk_at dksX0_sheet_0 16 rfl rfl)
theorem dX0_sheet_19 : decode cX0_sheet 19 = .ok (.invokestatic 58, 3) := dk_184 0 58 (dk_at dksX0_sheet_0 19 rfl rfl)
theorem dX0_sheet_22 : decode cX0_sheet 22 = .ok (.ifCond .eq 9, 3) := dk_153 0 9 (dk_at dksX0_sheet_1 0 rfl rfl)
theorem dX0_sheet_25 : decode cX0_sheet 25 = .ok (.iload_n 3, 1) := dk_29 (dk_at dksX0_sheet_1 3 rfl rfl)
theorem dX0_sheet_26 : decode cX0_sheet 26 = .ok (.bipush 60, 2) := dk_16 60 (dk_at dksX0_sheet_1 4 rfl rfl)
theorem dX0_sheet_28 : decode cX0_sheet 28 = .ok (.if_icmp .le 10, 3) := dk_164 0 10 (dk_at dksX0_sheet_1 6 rfl rfl)
theorem dX0_sheet_31 : decode cX0_sheet 31 = .ok (.aload_n 0, 1) := dk_42 (dk_at dksX0_sheet_1 9 rfl rfl)
theorem dX0_sheet_32 : decode cX0_sheet 32 = .ok (.bipush (-2), 2) := dk_16 254 (dk_at dksX0_sheet_1 10 rfl rfl)
theorem dX0_sheet_34 : decode cX0_sheet 34 = .ok (.invokevirtual 234, 3) := dk_182 0 234 (dk_at dksX0_sheet_1 12 rfl rfl)
theorem dX0_sheet_37 : decode cX0_sheet 37 = .ok (.ireturn, 1) := dk_172 (dk_at dksX0_sheet_1 15 rfl rfl)
theorem dX0_sheet_38 : decode cX0_sheet 38 = .ok (.aload_n 0, 1) := dk_42 (dk_at dksX0_sheet_1 16 rfl rfl)
theorem dX0_sheet_39 : decode cX0_sheet 39 = .ok (.iconst 0, 1) := dk_3 (dk_at dksX0_sheet_1 17 rfl rfl)
theorem dX0_sheet_40 : decode cX0_sheet 40 = .ok (.putfield 219, 3) := dk_181 0 219 (dk_at dksX0_sheet_1 18 rfl rfl)
theorem dX0_sheet_43 : decode cX0_sheet 43 = .ok (.aload_n 0, 1) := dk_42 (dk_at dksX0_sheet_1 21 rfl rfl)
theorem dX0_sheet_44 : decode cX0_sheet 44 = .ok (.getfield 33, 3) := dk_180 0 33 (dk_at dksX0_sheet_2 0 rfl rfl)
theorem dX0_sheet_47 : decode cX0_sheet 47 = .ok (.iload_n 1, 1) := dk_27 (dk_at dksX0_sheet_2 3 rfl rfl)
theorem dX0_sheet_48 : decode cX0_sheet 48 = .ok (.new 31, 3) := dk_187 0 31 (dk_at dksX0_sheet_2 4 rfl rfl)
theorem dX0_sheet_51 : decode cX0_sheet 51 = .ok (.dup, 1) := dk_89 (dk_at dksX0_sheet_2 7 rfl rfl)
theorem dX0_sheet_52 : decode cX0_sheet 52 = .ok (.iload_n 2, 1) := dk_28 (dk_at dksX0_sheet_2 8 rfl rfl)
theorem dX0_sheet_53 : decode cX0_sheet 53 = .ok (.iload_n 3, 1) := dk_29 (dk_at dksX0_sheet_2 9 rfl rfl)
theorem dX0_sheet_54 : decode cX0_sheet 54 = .ok (.invokestatic 239, 3) := dk_184 0 239 (dk_at dksX0_sheet_2 10 rfl rfl)
theorem dX0_sheet_57 : decode cX0_sheet 57 = .ok (.invokespecial 243, 3) := dk_183 0 243 (dk_at dksX0_sheet_2 13 rfl rfl)
theorem dX0_sheet_60 : decode cX0_sheet 60 = .ok (.aastore, 1) := dk_83 (dk_at dksX0_sheet_2 16 rfl rfl)
theorem dX0_sheet_61 : decode cX0_sheet 61 = .ok (.iconst 1, 1) := dk_4 (dk_at dksX0_sheet_2 17 rfl rfl)
theorem dX0_sheet_62 : decode cX0_sheet 62 = .ok (.ireturn, 1) := dk_172 (dk_at dksX0_sheet_2 18 rfl rfl)
theorem dX0_sheet_63 : decode cX0_sheet 63 = .ok (.astore 4, 2) := dk_58 4 (dk_at dksX0_sheet_2 19 rfl rfl)
theorem dX0_sheet_65 : decode cX0_sheet 65 = .ok (.aload_n 0, 1) := dk_42 (dk_at dksX0_sheet_2 21 rfl rfl)
theorem dX0_sheet_66 : decode cX0_sheet 66 = .ok (.iconst 4, 1) := dk_7 (dk_at dksX0_sheet_2 22 rfl rfl)
theorem dX0_sheet_67 : decode cX0_sheet 67 = .ok (.invokevirtual 248, 3) := dk_182 0 248 (dk_at dksX0_sheet_3 0 rfl rfl)
theorem dX0_sheet_70 : decode cX0_sheet 70 = .ok (.ireturn, 1) := dk_172 (dk_at dksX0_sheet_3 3 rfl rfl)
abbrev cX0_noSheet : ByteArray := prog_1_method_52_code
def yX0_noSheet : MethodName := ⟨RX0, "noSheet", "(I)Z"⟩
def dkwX0_noSheet_0 : List UInt8 := [26, 133, 9, 20, 0, 130, 184, 0, 58, 154, 0, 7, 4, 167, 0, 4, 3, 172]
abbrev dktX0_noSheet_0 : List UInt8 := dkwX0_noSheet_0 ++ []
theorem dksX0_noSheet_0 : cX0_noSheet.data.toList.drop 0 = dktX0_noSheet_0 := by decide +kernel
theorem dX0_noSheet_0 : decode cX0_noSheet 0 = .ok (.iload_n 0, 1) := dk_26 (dk_at dksX0_noSheet_0 0 rfl rfl)
theorem dX0_noSheet_1 : decode cX0_noSheet 1 = .ok (.i2l, 1) := dk_133 (dk_at dksX0_noSheet_0 1 rfl rfl)
theorem dX0_noSheet_2 : decode cX0_noSheet 2 = .ok (.lconst 0, 1) := dk_9 (dk_at dksX0_noSheet_0 2 rfl rfl)
theorem dX0_noSheet_3 : decode cX0_noSheet 3 = .ok (.ldc2_w 130, 3) := dk_20 0 130 (dk_at dksX0_noSheet_0 3 rfl rfl)
theorem dX0_noSheet_6 : decode cX0_noSheet 6 = .ok (.invokestatic 58, 3) := dk_184 0 58 (dk_at dksX0_noSheet_0 6 rfl rfl)
theorem dX0_noSheet_9 : decode cX0_noSheet 9 = .ok (.ifCond .ne 7, 3) := dk_154 0 7 (dk_at dksX0_noSheet_0 9 rfl rfl)
theorem dX0_noSheet_12 : decode cX0_noSheet 12 = .ok (.iconst 1, 1) := dk_4 (dk_at dksX0_noSheet_0 12 rfl rfl)
theorem dX0_noSheet_13 : decode cX0_noSheet 13 = .ok (.goto 4, 3) := dk_167 0 4 (dk_at dksX0_noSheet_0 13 rfl rfl)
theorem dX0_noSheet_16 : decode cX0_noSheet 16 = .ok (.iconst 0, 1) := dk_3 (dk_at dksX0_noSheet_0 16 rfl rfl)
theorem dX0_noSheet_17 : decode cX0_noSheet 17 = .ok (.ireturn, 1) := dk_172 (dk_at dksX0_noSheet_0 17 rfl rfl)
abbrev cX0_refused : ByteArray := prog_1_method_45_code
def yX0_refused : MethodName := ⟨RX0, "refused", "(I)I"⟩
def dkwX0_refused_0 : List UInt8 := [42, 3, 181, 0, 219, 27, 172]
abbrev dktX0_refused_0 : List UInt8 := dkwX0_refused_0 ++ []
theorem dksX0_refused_0 : cX0_refused.data.toList.drop 0 = dktX0_refused_0 := by decide +kernel
theorem dX0_refused_0 : decode cX0_refused 0 = .ok (.aload_n 0, 1) := dk_42 (dk_at dksX0_refused_0 0 rfl rfl)
theorem dX0_refused_1 : decode cX0_refused 1 = .ok (.iconst 0, 1) := dk_3 (dk_at dksX0_refused_0 1 rfl rfl)
theorem dX0_refused_2 : decode cX0_refused 2 = .ok (.putfield 219, 3) := dk_181 0 219 (dk_at dksX0_refused_0 2 rfl rfl)
theorem dX0_refused_5 : decode cX0_refused 5 = .ok (.iload_n 1, 1) := dk_27 (dk_at dksX0_refused_0 5 rfl rfl)
theorem dX0_refused_6 : decode cX0_refused 6 = .ok (.ireturn, 1) := dk_172 (dk_at dksX0_refused_0 6 rfl rfl)
abbrev cX0_rowOf : ByteArray := prog_1_method_48_code
def yX0_rowOf : MethodName := ⟨RX0, "rowOf", "(II)Ljava/lang/Object;"⟩
def dkwX0_rowOf_1 : List UInt8 := [176]
abbrev dktX0_rowOf_1 : List UInt8 := dkwX0_rowOf_1 ++ []
def dkwX0_rowOf_0 : List UInt8 := [26, 154, 0, 9, 27, 188, 8, 167, 0, 17, 26, 4, 160, 0, 9, 27, 188, 9, 167, 0, 6, 27, 188, 10]
abbrev dktX0_rowOf_0 : List UInt8 := dkwX0_rowOf_0 ++ dktX0_rowOf_1
theorem dksX0_rowOf_0 : cX0_rowOf.data.toList.drop 0 = dktX0_rowOf_0 := by decide +kernel
theorem dksX0_rowOf_1 : cX0_rowOf.data.toList.drop 24 = dktX0_rowOf_1 := dk_seg dksX0_rowOf_0 24 rfl rfl
theorem dX0_rowOf_0 : decode cX0_rowOf 0 = .ok (.iload_n 0, 1) := dk_26 (dk_at dksX0_rowOf_0 0 rfl rfl)
theorem dX0_rowOf_1 : decode cX0_rowOf 1 = .ok (.ifCond .ne 9, 3) := dk_154 0 9 (dk_at dksX0_rowOf_0 1 rfl rfl)
theorem dX0_rowOf_4 : decode cX0_rowOf 4 = .ok (.iload_n 1, 1) := dk_27 (dk_at dksX0_rowOf_0 4 rfl rfl)
theorem dX0_rowOf_5 : decode cX0_rowOf 5 = .ok (.newarray .byte, 2) := dk_188_8 (dk_at dksX0_rowOf_0 5 rfl rfl)
theorem dX0_rowOf_7 : decode cX0_rowOf 7 = .ok (.goto 17, 3) := dk_167 0 17 (dk_at dksX0_rowOf_0 7 rfl rfl)
theorem dX0_rowOf_10 : decode cX0_rowOf 10 = .ok (.iload_n 0, 1) := dk_26 (dk_at dksX0_rowOf_0 10 rfl rfl)
theorem dX0_rowOf_11 : decode cX0_rowOf 11 = .ok (.iconst 1, 1) := dk_4 (dk_at dksX0_rowOf_0 11 rfl rfl)
theorem dX0_rowOf_12 : decode cX0_rowOf 12 = .ok (.if_icmp .ne 9, 3) := dk_160 0 9 (dk_at dksX0_rowOf_0 12 rfl rfl)
theorem dX0_rowOf_15 : decode cX0_rowOf 15 = .ok (.iload_n 1, 1) := dk_27 (dk_at dksX0_rowOf_0 15 rfl rfl)
theorem dX0_rowOf_16 : decode cX0_rowOf 16 = .ok (.newarray .short, 2) := dk_188_9 (dk_at dksX0_rowOf_0 16 rfl rfl)
theorem dX0_rowOf_18 : decode cX0_rowOf 18 = .ok (.goto 6, 3) := dk_167 0 6 (dk_at dksX0_rowOf_0 18 rfl rfl)
theorem dX0_rowOf_21 : decode cX0_rowOf 21 = .ok (.iload_n 1, 1) := dk_27 (dk_at dksX0_rowOf_0 21 rfl rfl)
theorem dX0_rowOf_22 : decode cX0_rowOf 22 = .ok (.newarray .int, 2) := dk_188_10 (dk_at dksX0_rowOf_0 22 rfl rfl)
theorem dX0_rowOf_24 : decode cX0_rowOf 24 = .ok (.areturn, 1) := dk_176 (dk_at dksX0_rowOf_1 0 rfl rfl)
abbrev cX0_fails : ByteArray := prog_1_method_46_code
def yX0_fails : MethodName := ⟨RX0, "fails", "(I)I"⟩
def dkwX0_fails_0 : List UInt8 := [42, 27, 181, 0, 219, 16, 246, 27, 100, 172]
abbrev dktX0_fails_0 : List UInt8 := dkwX0_fails_0 ++ []
theorem dksX0_fails_0 : cX0_fails.data.toList.drop 0 = dktX0_fails_0 := by decide +kernel
theorem dX0_fails_0 : decode cX0_fails 0 = .ok (.aload_n 0, 1) := dk_42 (dk_at dksX0_fails_0 0 rfl rfl)
theorem dX0_fails_1 : decode cX0_fails 1 = .ok (.iload_n 1, 1) := dk_27 (dk_at dksX0_fails_0 1 rfl rfl)
theorem dX0_fails_2 : decode cX0_fails 2 = .ok (.putfield 219, 3) := dk_181 0 219 (dk_at dksX0_fails_0 2 rfl rfl)
theorem dX0_fails_5 : decode cX0_fails 5 = .ok (.bipush (-10), 2) := dk_16 246 (dk_at dksX0_fails_0 5 rfl rfl)
theorem dX0_fails_7 : decode cX0_fails 7 = .ok (.iload_n 1, 1) := dk_27 (dk_at dksX0_fails_0 7 rfl rfl)
theorem dX0_fails_8 : decode cX0_fails 8 = .ok (.isub, 1) := dk_100 (dk_at dksX0_fails_0 8 rfl rfl)
theorem dX0_fails_9 : decode cX0_fails 9 = .ok (.ireturn, 1) := dk_172 (dk_at dksX0_fails_0 9 rfl rfl)
abbrev cX0_lose : ByteArray := prog_1_method_55_code
def yX0_lose : MethodName := ⟨RX0, "lose", "(I)I"⟩
def dkwX0_lose_1 : List UInt8 := [42, 180, 0, 33, 27, 1, 83, 28, 172]
abbrev dktX0_lose_1 : List UInt8 := dkwX0_lose_1 ++ []
def dkwX0_lose_0 : List UInt8 := [27, 184, 0, 231, 153, 0, 5, 2, 172, 42, 180, 0, 33, 27, 50, 199, 0, 7, 3, 167, 0, 4, 4, 61]
abbrev dktX0_lose_0 : List UInt8 := dkwX0_lose_0 ++ dktX0_lose_1
theorem dksX0_lose_0 : cX0_lose.data.toList.drop 0 = dktX0_lose_0 := by decide +kernel
theorem dksX0_lose_1 : cX0_lose.data.toList.drop 24 = dktX0_lose_1 := dk_seg dksX0_lose_0 24 rfl rfl
theorem dX0_lose_0 : decode cX0_lose 0 = .ok (.iload_n 1, 1) := dk_27 (dk_at dksX0_lose_0 0 rfl rfl)
theorem dX0_lose_1 : decode cX0_lose 1 = .ok (.invokestatic 231, 3) := dk_184 0 231 (dk_at dksX0_lose_0 1 rfl rfl)
theorem dX0_lose_4 : decode cX0_lose 4 = .ok (.ifCond .eq 5, 3) := dk_153 0 5 (dk_at dksX0_lose_0 4 rfl rfl)
theorem dX0_lose_7 : decode cX0_lose 7 = .ok (.iconst (-1), 1) := dk_2 (dk_at dksX0_lose_0 7 rfl rfl)
theorem dX0_lose_8 : decode cX0_lose 8 = .ok (.ireturn, 1) := dk_172 (dk_at dksX0_lose_0 8 rfl rfl)
theorem dX0_lose_9 : decode cX0_lose 9 = .ok (.aload_n 0, 1) := dk_42 (dk_at dksX0_lose_0 9 rfl rfl)
theorem dX0_lose_10 : decode cX0_lose 10 = .ok (.getfield 33, 3) := dk_180 0 33 (dk_at dksX0_lose_0 10 rfl rfl)
theorem dX0_lose_13 : decode cX0_lose 13 = .ok (.iload_n 1, 1) := dk_27 (dk_at dksX0_lose_0 13 rfl rfl)
theorem dX0_lose_14 : decode cX0_lose 14 = .ok (.aaload, 1) := dk_50 (dk_at dksX0_lose_0 14 rfl rfl)
theorem dX0_lose_15 : decode cX0_lose 15 = .ok (.ifnonnull 7, 3) := dk_199 0 7 (dk_at dksX0_lose_0 15 rfl rfl)
theorem dX0_lose_18 : decode cX0_lose 18 = .ok (.iconst 0, 1) := dk_3 (dk_at dksX0_lose_0 18 rfl rfl)
theorem dX0_lose_19 : decode cX0_lose 19 = .ok (.goto 4, 3) := dk_167 0 4 (dk_at dksX0_lose_0 19 rfl rfl)
theorem dX0_lose_22 : decode cX0_lose 22 = .ok (.iconst 1, 1) := dk_4 (dk_at dksX0_lose_0 22 rfl rfl)
theorem dX0_lose_23 : decode cX0_lose 23 = .ok (.istore_n 2, 1) := dk_61 (dk_at dksX0_lose_0 23 rfl rfl)
theorem dX0_lose_24 : decode cX0_lose 24 = .ok (.aload_n 0, 1) := dk_42 (dk_at dksX0_lose_1 0 rfl rfl)
theorem dX0_lose_25 : decode cX0_lose 25 = .ok (.getfield 33, 3) := dk_180 0 33 (dk_at dksX0_lose_1 1 rfl rfl)
theorem dX0_lose_28 : decode cX0_lose 28 = .ok (.iload_n 1, 1) := dk_27 (dk_at dksX0_lose_1 4 rfl rfl)
theorem dX0_lose_29 : decode cX0_lose 29 = .ok (.aconst_null, 1) := dk_1 (dk_at dksX0_lose_1 5 rfl rfl)
theorem dX0_lose_30 : decode cX0_lose 30 = .ok (.aastore, 1) := dk_83 (dk_at dksX0_lose_1 6 rfl rfl)
theorem dX0_lose_31 : decode cX0_lose 31 = .ok (.iload_n 2, 1) := dk_28 (dk_at dksX0_lose_1 7 rfl rfl)
theorem dX0_lose_32 : decode cX0_lose 32 = .ok (.ireturn, 1) := dk_172 (dk_at dksX0_lose_1 8 rfl rfl)
abbrev cX0_put : ByteArray := prog_1_method_56_code
def yX0_put : MethodName := ⟨RX0, "put", "(III)I"⟩
def dkwX0_put_2 : List UInt8 := [182, 0, 248, 172]
abbrev dktX0_put_2 : List UInt8 := dkwX0_put_2 ++ []
def dkwX0_put_1 : List UInt8 := [180, 0, 227, 28, 29, 184, 0, 251, 4, 172, 58, 4, 42, 4, 182, 0, 248, 172, 58, 4, 42, 6]
abbrev dktX0_put_1 : List UInt8 := dkwX0_put_1 ++ dktX0_put_2
def dkwX0_put_0 : List UInt8 := [27, 184, 0, 231, 153, 0, 9, 42, 2, 182, 0, 234, 172, 42, 3, 181, 0, 219, 42, 180, 0, 33, 27, 50]
abbrev dktX0_put_0 : List UInt8 := dkwX0_put_0 ++ dktX0_put_1
theorem dksX0_put_0 : cX0_put.data.toList.drop 0 = dktX0_put_0 := by decide +kernel
theorem dksX0_put_1 : cX0_put.data.toList.drop 24 = dktX0_put_1 := dk_seg dksX0_put_0 24 rfl rfl
theorem dksX0_put_2 : cX0_put.data.toList.drop 46 = dktX0_put_2 := dk_seg dksX0_put_1 22 rfl rfl
theorem dX0_put_0 : decode cX0_put 0 = .ok (.iload_n 1, 1) := dk_27 (dk_at dksX0_put_0 0 rfl rfl)
theorem dX0_put_1 : decode cX0_put 1 = .ok (.invokestatic 231, 3) := dk_184 0 231 (dk_at dksX0_put_0 1 rfl rfl)
theorem dX0_put_4 : decode cX0_put 4 = .ok (.ifCond .eq 9, 3) := dk_153 0 9 (dk_at dksX0_put_0 4 rfl rfl)
theorem dX0_put_7 : decode cX0_put 7 = .ok (.aload_n 0, 1) := dk_42 (dk_at dksX0_put_0 7 rfl rfl)
theorem dX0_put_8 : decode cX0_put 8 = .ok (.iconst (-1), 1) := dk_2 (dk_at dksX0_put_0 8 rfl rfl)
theorem dX0_put_9 : decode cX0_put 9 = .ok (.invokevirtual 234, 3) := dk_182 0 234 (dk_at dksX0_put_0 9 rfl rfl)
theorem dX0_put_12 : decode cX0_put 12 = .ok (.ireturn, 1) := dk_172 (dk_at dksX0_put_0 12 rfl rfl)
theorem dX0_put_13 : decode cX0_put 13 = .ok (.aload_n 0, 1) := dk_42 (dk_at dksX0_put_0 13 rfl rfl)
theorem dX0_put_14 : decode cX0_put 14 = .ok (.iconst 0, 1) := dk_3 (dk_at dksX0_put_0 14 rfl rfl)
theorem dX0_put_15 : decode cX0_put 15 = .ok (.putfield 219, 3) := dk_181 0 219 (dk_at dksX0_put_0 15 rfl rfl)
theorem dX0_put_18 : decode cX0_put 18 = .ok (.aload_n 0, 1) := dk_42 (dk_at dksX0_put_0 18 rfl rfl)
theorem dX0_put_19 : decode cX0_put 19 = .ok (.getfield 33, 3) := dk_180 0 33 (dk_at dksX0_put_0 19 rfl rfl)
theorem dX0_put_22 : decode cX0_put 22 = .ok (.iload_n 1, 1) := dk_27 (dk_at dksX0_put_0 22 rfl rfl)
theorem dX0_put_23 : decode cX0_put 23 = .ok (.aaload, 1) := dk_50 (dk_at dksX0_put_0 23 rfl rfl)
theorem dX0_put_24 : decode cX0_put 24 = .ok (.getfield 227, 3) := dk_180 0 227 (dk_at dksX0_put_1 0 rfl rfl)
theorem dX0_put_27 : decode cX0_put 27 = .ok (.iload_n 2, 1) := dk_28 (dk_at dksX0_put_1 3 rfl rfl)
theorem dX0_put_28 : decode cX0_put 28 = .ok (.iload_n 3, 1) := dk_29 (dk_at dksX0_put_1 4 rfl rfl)
theorem dX0_put_29 : decode cX0_put 29 = .ok (.invokestatic 251, 3) := dk_184 0 251 (dk_at dksX0_put_1 5 rfl rfl)
theorem dX0_put_32 : decode cX0_put 32 = .ok (.iconst 1, 1) := dk_4 (dk_at dksX0_put_1 8 rfl rfl)
theorem dX0_put_33 : decode cX0_put 33 = .ok (.ireturn, 1) := dk_172 (dk_at dksX0_put_1 9 rfl rfl)
theorem dX0_put_34 : decode cX0_put 34 = .ok (.astore 4, 2) := dk_58 4 (dk_at dksX0_put_1 10 rfl rfl)
theorem dX0_put_36 : decode cX0_put 36 = .ok (.aload_n 0, 1) := dk_42 (dk_at dksX0_put_1 12 rfl rfl)
theorem dX0_put_37 : decode cX0_put 37 = .ok (.iconst 1, 1) := dk_4 (dk_at dksX0_put_1 13 rfl rfl)
theorem dX0_put_38 : decode cX0_put 38 = .ok (.invokevirtual 248, 3) := dk_182 0 248 (dk_at dksX0_put_1 14 rfl rfl)
theorem dX0_put_41 : decode cX0_put 41 = .ok (.ireturn, 1) := dk_172 (dk_at dksX0_put_1 17 rfl rfl)
theorem dX0_put_42 : decode cX0_put 42 = .ok (.astore 4, 2) := dk_58 4 (dk_at dksX0_put_1 18 rfl rfl)
theorem dX0_put_44 : decode cX0_put 44 = .ok (.aload_n 0, 1) := dk_42 (dk_at dksX0_put_1 20 rfl rfl)
theorem dX0_put_45 : decode cX0_put 45 = .ok (.iconst 3, 1) := dk_6 (dk_at dksX0_put_1 21 rfl rfl)
theorem dX0_put_46 : decode cX0_put 46 = .ok (.invokevirtual 248, 3) := dk_182 0 248 (dk_at dksX0_put_2 0 rfl rfl)
theorem dX0_put_49 : decode cX0_put 49 = .ok (.ireturn, 1) := dk_172 (dk_at dksX0_put_2 3 rfl rfl)
abbrev cX0_setIn : ByteArray := prog_1_method_51_code
def yX0_setIn : MethodName := ⟨RX0, "setIn", "(Ljava/lang/Object;II)V"⟩
def dkwX0_setIn_1 : List UInt8 := [153, 0, 14, 42, 192, 0, 224, 27, 28, 147, 86, 167, 0, 10, 42, 192, 0, 226, 27, 28, 79, 177]
abbrev dktX0_setIn_1 : List UInt8 := dkwX0_setIn_1 ++ []
def dkwX0_setIn_0 : List UInt8 := [42, 193, 0, 222, 153, 0, 14, 42, 192, 0, 222, 27, 28, 145, 84, 167, 0, 28, 42, 193, 0, 224]
abbrev dktX0_setIn_0 : List UInt8 := dkwX0_setIn_0 ++ dktX0_setIn_1
theorem dksX0_setIn_0 : cX0_setIn.data.toList.drop 0 = dktX0_setIn_0 := by decide +kernel
theorem dksX0_setIn_1 : cX0_setIn.data.toList.drop 22 = dktX0_setIn_1 := dk_seg dksX0_setIn_0 22 rfl rfl
theorem dX0_setIn_0 : decode cX0_setIn 0 = .ok (.aload_n 0, 1) := dk_42 (dk_at dksX0_setIn_0 0 rfl rfl)
theorem dX0_setIn_1 : decode cX0_setIn 1 = .ok (.instanceof 222, 3) := dk_193 0 222 (dk_at dksX0_setIn_0 1 rfl rfl)
theorem dX0_setIn_4 : decode cX0_setIn 4 = .ok (.ifCond .eq 14, 3) := dk_153 0 14 (dk_at dksX0_setIn_0 4 rfl rfl)
theorem dX0_setIn_7 : decode cX0_setIn 7 = .ok (.aload_n 0, 1) := dk_42 (dk_at dksX0_setIn_0 7 rfl rfl)
theorem dX0_setIn_8 : decode cX0_setIn 8 = .ok (.checkcast 222, 3) := dk_192 0 222 (dk_at dksX0_setIn_0 8 rfl rfl)
theorem dX0_setIn_11 : decode cX0_setIn 11 = .ok (.iload_n 1, 1) := dk_27 (dk_at dksX0_setIn_0 11 rfl rfl)
theorem dX0_setIn_12 : decode cX0_setIn 12 = .ok (.iload_n 2, 1) := dk_28 (dk_at dksX0_setIn_0 12 rfl rfl)
theorem dX0_setIn_13 : decode cX0_setIn 13 = .ok (.i2b, 1) := dk_145 (dk_at dksX0_setIn_0 13 rfl rfl)
theorem dX0_setIn_14 : decode cX0_setIn 14 = .ok (.bastore, 1) := dk_84 (dk_at dksX0_setIn_0 14 rfl rfl)
theorem dX0_setIn_15 : decode cX0_setIn 15 = .ok (.goto 28, 3) := dk_167 0 28 (dk_at dksX0_setIn_0 15 rfl rfl)
theorem dX0_setIn_18 : decode cX0_setIn 18 = .ok (.aload_n 0, 1) := dk_42 (dk_at dksX0_setIn_0 18 rfl rfl)
theorem dX0_setIn_19 : decode cX0_setIn 19 = .ok (.instanceof 224, 3) := dk_193 0 224 (dk_at dksX0_setIn_0 19 rfl rfl)
theorem dX0_setIn_22 : decode cX0_setIn 22 = .ok (.ifCond .eq 14, 3) := dk_153 0 14 (dk_at dksX0_setIn_1 0 rfl rfl)
theorem dX0_setIn_25 : decode cX0_setIn 25 = .ok (.aload_n 0, 1) := dk_42 (dk_at dksX0_setIn_1 3 rfl rfl)
theorem dX0_setIn_26 : decode cX0_setIn 26 = .ok (.checkcast 224, 3) := dk_192 0 224 (dk_at dksX0_setIn_1 4 rfl rfl)
theorem dX0_setIn_29 : decode cX0_setIn 29 = .ok (.iload_n 1, 1) := dk_27 (dk_at dksX0_setIn_1 7 rfl rfl)
theorem dX0_setIn_30 : decode cX0_setIn 30 = .ok (.iload_n 2, 1) := dk_28 (dk_at dksX0_setIn_1 8 rfl rfl)
theorem dX0_setIn_31 : decode cX0_setIn 31 = .ok (.i2s, 1) := dk_147 (dk_at dksX0_setIn_1 9 rfl rfl)
theorem dX0_setIn_32 : decode cX0_setIn 32 = .ok (.sastore, 1) := dk_86 (dk_at dksX0_setIn_1 10 rfl rfl)
theorem dX0_setIn_33 : decode cX0_setIn 33 = .ok (.goto 10, 3) := dk_167 0 10 (dk_at dksX0_setIn_1 11 rfl rfl)
theorem dX0_setIn_36 : decode cX0_setIn 36 = .ok (.aload_n 0, 1) := dk_42 (dk_at dksX0_setIn_1 14 rfl rfl)
theorem dX0_setIn_37 : decode cX0_setIn 37 = .ok (.checkcast 226, 3) := dk_192 0 226 (dk_at dksX0_setIn_1 15 rfl rfl)
theorem dX0_setIn_40 : decode cX0_setIn 40 = .ok (.iload_n 1, 1) := dk_27 (dk_at dksX0_setIn_1 18 rfl rfl)
theorem dX0_setIn_41 : decode cX0_setIn 41 = .ok (.iload_n 2, 1) := dk_28 (dk_at dksX0_setIn_1 19 rfl rfl)
theorem dX0_setIn_42 : decode cX0_setIn 42 = .ok (.iastore, 1) := dk_79 (dk_at dksX0_setIn_1 20 rfl rfl)
theorem dX0_setIn_43 : decode cX0_setIn 43 = .ok (.return_, 1) := dk_177 (dk_at dksX0_setIn_1 21 rfl rfl)
abbrev cX0_cell : ByteArray := prog_1_method_57_code
def yX0_cell : MethodName := ⟨RX0, "cell", "(III)J"⟩
def dkwX0_cell_2 : List UInt8 := [58, 4, 42, 5, 182, 1, 10, 173, 58, 4, 42, 6, 182, 1, 10, 173]
abbrev dktX0_cell_2 : List UInt8 := dkwX0_cell_2 ++ []
def dkwX0_cell_1 : List UInt8 := [20, 0, 217, 173, 42, 27, 182, 1, 3, 29, 28, 184, 1, 6, 133, 173, 58, 4, 42, 4, 182, 1, 10, 173]
abbrev dktX0_cell_1 : List UInt8 := dkwX0_cell_1 ++ dktX0_cell_2
def dkwX0_cell_0 : List UInt8 := [42, 3, 181, 0, 219, 27, 184, 0, 231, 154, 0, 15, 29, 133, 9, 20, 0, 237, 184, 0, 58, 154, 0, 7]
abbrev dktX0_cell_0 : List UInt8 := dkwX0_cell_0 ++ dktX0_cell_1
theorem dksX0_cell_0 : cX0_cell.data.toList.drop 0 = dktX0_cell_0 := by decide +kernel
theorem dksX0_cell_1 : cX0_cell.data.toList.drop 24 = dktX0_cell_1 := dk_seg dksX0_cell_0 24 rfl rfl
theorem dksX0_cell_2 : cX0_cell.data.toList.drop 48 = dktX0_cell_2 := dk_seg dksX0_cell_1 24 rfl rfl
theorem dX0_cell_0 : decode cX0_cell 0 = .ok (.aload_n 0, 1) := dk_42 (dk_at dksX0_cell_0 0 rfl rfl)
theorem dX0_cell_1 : decode cX0_cell 1 = .ok (.iconst 0, 1) := dk_3 (dk_at dksX0_cell_0 1 rfl rfl)
theorem dX0_cell_2 : decode cX0_cell 2 = .ok (.putfield 219, 3) := dk_181 0 219 (dk_at dksX0_cell_0 2 rfl rfl)
theorem dX0_cell_5 : decode cX0_cell 5 = .ok (.iload_n 1, 1) := dk_27 (dk_at dksX0_cell_0 5 rfl rfl)
theorem dX0_cell_6 : decode cX0_cell 6 = .ok (.invokestatic 231, 3) := dk_184 0 231 (dk_at dksX0_cell_0 6 rfl rfl)
theorem dX0_cell_9 : decode cX0_cell 9 = .ok (.ifCond .ne 15, 3) := dk_154 0 15 (dk_at dksX0_cell_0 9 rfl rfl)
theorem dX0_cell_12 : decode cX0_cell 12 = .ok (.iload_n 3, 1) := dk_29 (dk_at dksX0_cell_0 12 rfl rfl)
theorem dX0_cell_13 : decode cX0_cell 13 = .ok (.i2l, 1) := dk_133 (dk_at dksX0_cell_0 13 rfl rfl)
theorem dX0_cell_14 : decode cX0_cell 14 = .ok (.lconst 0, 1) := dk_9 (dk_at dksX0_cell_0 14 rfl rfl)
theorem dX0_cell_15 : decode cX0_cell 15 = .ok (.ldc2_w 237, 3) := dk_20 0 237 (dk_at dksX0_cell_0 15 rfl rfl)
theorem dX0_cell_18 : decode cX0_cell 18 = .ok (.invokestatic 58, 3) := dk_184 0 58 (dk_at dksX0_cell_0 18 rfl rfl)
theorem dX0_cell_21 : decode cX0_cell 21 = .ok (.ifCond .ne 7, 3) := dk_154 0 7 (dk_at dksX0_cell_0 21 rfl rfl)
theorem dX0_cell_24 : decode cX0_cell 24 = .ok (.ldc2_w 217, 3) := dk_20 0 217 (dk_at dksX0_cell_1 0 rfl rfl)
theorem dX0_cell_27 : decode cX0_cell 27 = .ok (.lreturn, 1) := dk_173 (dk_at dksX0_cell_1 3 rfl rfl)
theorem dX0_cell_28 : decode cX0_cell 28 = .ok (.aload_n 0, 1) := dk_42 (dk_at dksX0_cell_1 4 rfl rfl)
theorem dX0_cell_29 : decode cX0_cell 29 = .ok (.iload_n 1, 1) := dk_27 (dk_at dksX0_cell_1 5 rfl rfl)
theorem dX0_cell_30 : decode cX0_cell 30 = .ok (.invokevirtual 259, 3) := dk_182 1 3 (dk_at dksX0_cell_1 6 rfl rfl)
theorem dX0_cell_33 : decode cX0_cell 33 = .ok (.iload_n 3, 1) := dk_29 (dk_at dksX0_cell_1 9 rfl rfl)
theorem dX0_cell_34 : decode cX0_cell 34 = .ok (.iload_n 2, 1) := dk_28 (dk_at dksX0_cell_1 10 rfl rfl)
theorem dX0_cell_35 : decode cX0_cell 35 = .ok (.invokestatic 262, 3) := dk_184 1 6 (dk_at dksX0_cell_1 11 rfl rfl)
theorem dX0_cell_38 : decode cX0_cell 38 = .ok (.i2l, 1) := dk_133 (dk_at dksX0_cell_1 14 rfl rfl)
theorem dX0_cell_39 : decode cX0_cell 39 = .ok (.lreturn, 1) := dk_173 (dk_at dksX0_cell_1 15 rfl rfl)
theorem dX0_cell_40 : decode cX0_cell 40 = .ok (.astore 4, 2) := dk_58 4 (dk_at dksX0_cell_1 16 rfl rfl)
theorem dX0_cell_42 : decode cX0_cell 42 = .ok (.aload_n 0, 1) := dk_42 (dk_at dksX0_cell_1 18 rfl rfl)
theorem dX0_cell_43 : decode cX0_cell 43 = .ok (.iconst 1, 1) := dk_4 (dk_at dksX0_cell_1 19 rfl rfl)
theorem dX0_cell_44 : decode cX0_cell 44 = .ok (.invokevirtual 266, 3) := dk_182 1 10 (dk_at dksX0_cell_1 20 rfl rfl)
theorem dX0_cell_47 : decode cX0_cell 47 = .ok (.lreturn, 1) := dk_173 (dk_at dksX0_cell_1 23 rfl rfl)
theorem dX0_cell_48 : decode cX0_cell 48 = .ok (.astore 4, 2) := dk_58 4 (dk_at dksX0_cell_2 0 rfl rfl)
theorem dX0_cell_50 : decode cX0_cell 50 = .ok (.aload_n 0, 1) := dk_42 (dk_at dksX0_cell_2 2 rfl rfl)
theorem dX0_cell_51 : decode cX0_cell 51 = .ok (.iconst 2, 1) := dk_5 (dk_at dksX0_cell_2 3 rfl rfl)
theorem dX0_cell_52 : decode cX0_cell 52 = .ok (.invokevirtual 266, 3) := dk_182 1 10 (dk_at dksX0_cell_2 4 rfl rfl)
theorem dX0_cell_55 : decode cX0_cell 55 = .ok (.lreturn, 1) := dk_173 (dk_at dksX0_cell_2 7 rfl rfl)
theorem dX0_cell_56 : decode cX0_cell 56 = .ok (.astore 4, 2) := dk_58 4 (dk_at dksX0_cell_2 8 rfl rfl)
theorem dX0_cell_58 : decode cX0_cell 58 = .ok (.aload_n 0, 1) := dk_42 (dk_at dksX0_cell_2 10 rfl rfl)
theorem dX0_cell_59 : decode cX0_cell 59 = .ok (.iconst 3, 1) := dk_6 (dk_at dksX0_cell_2 11 rfl rfl)
theorem dX0_cell_60 : decode cX0_cell 60 = .ok (.invokevirtual 266, 3) := dk_182 1 10 (dk_at dksX0_cell_2 12 rfl rfl)
theorem dX0_cell_63 : decode cX0_cell 63 = .ok (.lreturn, 1) := dk_173 (dk_at dksX0_cell_2 15 rfl rfl)
abbrev cX0_rowIn : ByteArray := prog_1_method_53_code
def yX0_rowIn : MethodName := ⟨RX0, "rowIn", "(I)Ljava/lang/Object;"⟩
def dkwX0_rowIn_0 : List UInt8 := [42, 180, 0, 33, 27, 50, 199, 0, 7, 1, 167, 0, 12, 42, 180, 0, 33, 27, 50, 180, 0, 227, 176]
abbrev dktX0_rowIn_0 : List UInt8 := dkwX0_rowIn_0 ++ []
theorem dksX0_rowIn_0 : cX0_rowIn.data.toList.drop 0 = dktX0_rowIn_0 := by decide +kernel
theorem dX0_rowIn_0 : decode cX0_rowIn 0 = .ok (.aload_n 0, 1) := dk_42 (dk_at dksX0_rowIn_0 0 rfl rfl)
theorem dX0_rowIn_1 : decode cX0_rowIn 1 = .ok (.getfield 33, 3) := dk_180 0 33 (dk_at dksX0_rowIn_0 1 rfl rfl)
theorem dX0_rowIn_4 : decode cX0_rowIn 4 = .ok (.iload_n 1, 1) := dk_27 (dk_at dksX0_rowIn_0 4 rfl rfl)
theorem dX0_rowIn_5 : decode cX0_rowIn 5 = .ok (.aaload, 1) := dk_50 (dk_at dksX0_rowIn_0 5 rfl rfl)
theorem dX0_rowIn_6 : decode cX0_rowIn 6 = .ok (.ifnonnull 7, 3) := dk_199 0 7 (dk_at dksX0_rowIn_0 6 rfl rfl)
theorem dX0_rowIn_9 : decode cX0_rowIn 9 = .ok (.aconst_null, 1) := dk_1 (dk_at dksX0_rowIn_0 9 rfl rfl)
theorem dX0_rowIn_10 : decode cX0_rowIn 10 = .ok (.goto 12, 3) := dk_167 0 12 (dk_at dksX0_rowIn_0 10 rfl rfl)
theorem dX0_rowIn_13 : decode cX0_rowIn 13 = .ok (.aload_n 0, 1) := dk_42 (dk_at dksX0_rowIn_0 13 rfl rfl)
theorem dX0_rowIn_14 : decode cX0_rowIn 14 = .ok (.getfield 33, 3) := dk_180 0 33 (dk_at dksX0_rowIn_0 14 rfl rfl)
theorem dX0_rowIn_17 : decode cX0_rowIn 17 = .ok (.iload_n 1, 1) := dk_27 (dk_at dksX0_rowIn_0 17 rfl rfl)
theorem dX0_rowIn_18 : decode cX0_rowIn 18 = .ok (.aaload, 1) := dk_50 (dk_at dksX0_rowIn_0 18 rfl rfl)
theorem dX0_rowIn_19 : decode cX0_rowIn 19 = .ok (.getfield 227, 3) := dk_180 0 227 (dk_at dksX0_rowIn_0 19 rfl rfl)
theorem dX0_rowIn_22 : decode cX0_rowIn 22 = .ok (.areturn, 1) := dk_176 (dk_at dksX0_rowIn_0 22 rfl rfl)
abbrev cX0_cellOf : ByteArray := prog_1_method_49_code
def yX0_cellOf : MethodName := ⟨RX0, "cellOf", "(Ljava/lang/Object;II)I"⟩
def dkwX0_cellOf_1 : List UInt8 := [167, 0, 9, 42, 192, 0, 226, 28, 46, 172]
abbrev dktX0_cellOf_1 : List UInt8 := dkwX0_cellOf_1 ++ []
def dkwX0_cellOf_0 : List UInt8 := [27, 154, 0, 12, 42, 192, 0, 222, 28, 51, 167, 0, 23, 27, 4, 160, 0, 12, 42, 192, 0, 224, 28, 53]
abbrev dktX0_cellOf_0 : List UInt8 := dkwX0_cellOf_0 ++ dktX0_cellOf_1
theorem dksX0_cellOf_0 : cX0_cellOf.data.toList.drop 0 = dktX0_cellOf_0 := by decide +kernel
theorem dksX0_cellOf_1 : cX0_cellOf.data.toList.drop 24 = dktX0_cellOf_1 := dk_seg dksX0_cellOf_0 24 rfl rfl
theorem dX0_cellOf_0 : decode cX0_cellOf 0 = .ok (.iload_n 1, 1) := dk_27 (dk_at dksX0_cellOf_0 0 rfl rfl)
theorem dX0_cellOf_1 : decode cX0_cellOf 1 = .ok (.ifCond .ne 12, 3) := dk_154 0 12 (dk_at dksX0_cellOf_0 1 rfl rfl)
theorem dX0_cellOf_4 : decode cX0_cellOf 4 = .ok (.aload_n 0, 1) := dk_42 (dk_at dksX0_cellOf_0 4 rfl rfl)
theorem dX0_cellOf_5 : decode cX0_cellOf 5 = .ok (.checkcast 222, 3) := dk_192 0 222 (dk_at dksX0_cellOf_0 5 rfl rfl)
theorem dX0_cellOf_8 : decode cX0_cellOf 8 = .ok (.iload_n 2, 1) := dk_28 (dk_at dksX0_cellOf_0 8 rfl rfl)
theorem dX0_cellOf_9 : decode cX0_cellOf 9 = .ok (.baload, 1) := dk_51 (dk_at dksX0_cellOf_0 9 rfl rfl)
theorem dX0_cellOf_10 : decode cX0_cellOf 10 = .ok (.goto 23, 3) := dk_167 0 23 (dk_at dksX0_cellOf_0 10 rfl rfl)
theorem dX0_cellOf_13 : decode cX0_cellOf 13 = .ok (.iload_n 1, 1) := dk_27 (dk_at dksX0_cellOf_0 13 rfl rfl)
theorem dX0_cellOf_14 : decode cX0_cellOf 14 = .ok (.iconst 1, 1) := dk_4 (dk_at dksX0_cellOf_0 14 rfl rfl)
theorem dX0_cellOf_15 : decode cX0_cellOf 15 = .ok (.if_icmp .ne 12, 3) := dk_160 0 12 (dk_at dksX0_cellOf_0 15 rfl rfl)
theorem dX0_cellOf_18 : decode cX0_cellOf 18 = .ok (.aload_n 0, 1) := dk_42 (dk_at dksX0_cellOf_0 18 rfl rfl)
theorem dX0_cellOf_19 : decode cX0_cellOf 19 = .ok (.checkcast 224, 3) := dk_192 0 224 (dk_at dksX0_cellOf_0 19 rfl rfl)
theorem dX0_cellOf_22 : decode cX0_cellOf 22 = .ok (.iload_n 2, 1) := dk_28 (dk_at dksX0_cellOf_0 22 rfl rfl)
theorem dX0_cellOf_23 : decode cX0_cellOf 23 = .ok (.saload, 1) := dk_53 (dk_at dksX0_cellOf_0 23 rfl rfl)
theorem dX0_cellOf_24 : decode cX0_cellOf 24 = .ok (.goto 9, 3) := dk_167 0 9 (dk_at dksX0_cellOf_1 0 rfl rfl)
theorem dX0_cellOf_27 : decode cX0_cellOf 27 = .ok (.aload_n 0, 1) := dk_42 (dk_at dksX0_cellOf_1 3 rfl rfl)
theorem dX0_cellOf_28 : decode cX0_cellOf 28 = .ok (.checkcast 226, 3) := dk_192 0 226 (dk_at dksX0_cellOf_1 4 rfl rfl)
theorem dX0_cellOf_31 : decode cX0_cellOf 31 = .ok (.iload_n 2, 1) := dk_28 (dk_at dksX0_cellOf_1 7 rfl rfl)
theorem dX0_cellOf_32 : decode cX0_cellOf 32 = .ok (.iaload, 1) := dk_46 (dk_at dksX0_cellOf_1 8 rfl rfl)
theorem dX0_cellOf_33 : decode cX0_cellOf 33 = .ok (.ireturn, 1) := dk_172 (dk_at dksX0_cellOf_1 9 rfl rfl)
abbrev cX0_failsLong : ByteArray := prog_1_method_47_code
def yX0_failsLong : MethodName := ⟨RX0, "failsLong", "(I)J"⟩
def dkwX0_failsLong_0 : List UInt8 := [42, 27, 181, 0, 219, 20, 0, 217, 173]
abbrev dktX0_failsLong_0 : List UInt8 := dkwX0_failsLong_0 ++ []
theorem dksX0_failsLong_0 : cX0_failsLong.data.toList.drop 0 = dktX0_failsLong_0 := by decide +kernel
theorem dX0_failsLong_0 : decode cX0_failsLong 0 = .ok (.aload_n 0, 1) := dk_42 (dk_at dksX0_failsLong_0 0 rfl rfl)
theorem dX0_failsLong_1 : decode cX0_failsLong 1 = .ok (.iload_n 1, 1) := dk_27 (dk_at dksX0_failsLong_0 1 rfl rfl)
theorem dX0_failsLong_2 : decode cX0_failsLong 2 = .ok (.putfield 219, 3) := dk_181 0 219 (dk_at dksX0_failsLong_0 2 rfl rfl)
theorem dX0_failsLong_5 : decode cX0_failsLong 5 = .ok (.ldc2_w 217, 3) := dk_20 0 217 (dk_at dksX0_failsLong_0 5 rfl rfl)
theorem dX0_failsLong_8 : decode cX0_failsLong 8 = .ok (.lreturn, 1) := dk_173 (dk_at dksX0_failsLong_0 8 rfl rfl)
abbrev cX0_river : ByteArray := prog_1_method_61_code
def yX0_river : MethodName := ⟨RX0, "river", "(IIII)I"⟩
def dkwX0_river_0 : List UInt8 := [42, 187, 1, 43, 89, 42, 27, 28, 29, 21, 4, 183, 1, 45, 4, 182, 1, 48, 172]
abbrev dktX0_river_0 : List UInt8 := dkwX0_river_0 ++ []
theorem dksX0_river_0 : cX0_river.data.toList.drop 0 = dktX0_river_0 := by decide +kernel
theorem dX0_river_0 : decode cX0_river 0 = .ok (.aload_n 0, 1) := dk_42 (dk_at dksX0_river_0 0 rfl rfl)
theorem dX0_river_1 : decode cX0_river 1 = .ok (.new 299, 3) := dk_187 1 43 (dk_at dksX0_river_0 1 rfl rfl)
theorem dX0_river_4 : decode cX0_river 4 = .ok (.dup, 1) := dk_89 (dk_at dksX0_river_0 4 rfl rfl)
theorem dX0_river_5 : decode cX0_river 5 = .ok (.aload_n 0, 1) := dk_42 (dk_at dksX0_river_0 5 rfl rfl)
theorem dX0_river_6 : decode cX0_river 6 = .ok (.iload_n 1, 1) := dk_27 (dk_at dksX0_river_0 6 rfl rfl)
theorem dX0_river_7 : decode cX0_river 7 = .ok (.iload_n 2, 1) := dk_28 (dk_at dksX0_river_0 7 rfl rfl)
theorem dX0_river_8 : decode cX0_river 8 = .ok (.iload_n 3, 1) := dk_29 (dk_at dksX0_river_0 8 rfl rfl)
theorem dX0_river_9 : decode cX0_river 9 = .ok (.iload 4, 2) := dk_21 4 (dk_at dksX0_river_0 9 rfl rfl)
theorem dX0_river_11 : decode cX0_river 11 = .ok (.invokespecial 301, 3) := dk_183 1 45 (dk_at dksX0_river_0 11 rfl rfl)
theorem dX0_river_14 : decode cX0_river 14 = .ok (.iconst 1, 1) := dk_4 (dk_at dksX0_river_0 14 rfl rfl)
theorem dX0_river_15 : decode cX0_river 15 = .ok (.invokevirtual 304, 3) := dk_182 1 48 (dk_at dksX0_river_0 15 rfl rfl)
theorem dX0_river_18 : decode cX0_river 18 = .ok (.ireturn, 1) := dk_172 (dk_at dksX0_river_0 18 rfl rfl)
abbrev cX0_looked : ByteArray := prog_1_method_60_code
def yX0_looked : MethodName := ⟨RX0, "looked", "(LDebtFerry$Looking;Z)I"⟩
def dkwX0_looked_2 : List UInt8 := [182, 0, 234, 172]
abbrev dktX0_looked_2 : List UInt8 := dkwX0_looked_2 ++ []
def dkwX0_looked_1 : List UInt8 := [20, 0, 237, 184, 0, 58, 153, 0, 14, 28, 153, 0, 10, 43, 182, 1, 40, 167, 0, 9, 42, 16, 254]
abbrev dktX0_looked_1 : List UInt8 := dkwX0_looked_1 ++ dktX0_looked_2
def dkwX0_looked_0 : List UInt8 := [43, 180, 1, 32, 184, 0, 231, 153, 0, 9, 42, 2, 182, 0, 234, 172, 43, 180, 1, 37, 133, 9]
abbrev dktX0_looked_0 : List UInt8 := dkwX0_looked_0 ++ dktX0_looked_1
theorem dksX0_looked_0 : cX0_looked.data.toList.drop 0 = dktX0_looked_0 := by decide +kernel
theorem dksX0_looked_1 : cX0_looked.data.toList.drop 22 = dktX0_looked_1 := dk_seg dksX0_looked_0 22 rfl rfl
theorem dksX0_looked_2 : cX0_looked.data.toList.drop 45 = dktX0_looked_2 := dk_seg dksX0_looked_1 23 rfl rfl
theorem dX0_looked_0 : decode cX0_looked 0 = .ok (.aload_n 1, 1) := dk_43 (dk_at dksX0_looked_0 0 rfl rfl)
theorem dX0_looked_1 : decode cX0_looked 1 = .ok (.getfield 288, 3) := dk_180 1 32 (dk_at dksX0_looked_0 1 rfl rfl)
theorem dX0_looked_4 : decode cX0_looked 4 = .ok (.invokestatic 231, 3) := dk_184 0 231 (dk_at dksX0_looked_0 4 rfl rfl)
theorem dX0_looked_7 : decode cX0_looked 7 = .ok (.ifCond .eq 9, 3) := dk_153 0 9 (dk_at dksX0_looked_0 7 rfl rfl)
theorem dX0_looked_10 : decode cX0_looked 10 = .ok (.aload_n 0, 1) := dk_42 (dk_at dksX0_looked_0 10 rfl rfl)
theorem dX0_looked_11 : decode cX0_looked 11 = .ok (.iconst (-1), 1) := dk_2 (dk_at dksX0_looked_0 11 rfl rfl)
theorem dX0_looked_12 : decode cX0_looked 12 = .ok (.invokevirtual 234, 3) := dk_182 0 234 (dk_at dksX0_looked_0 12 rfl rfl)
theorem dX0_looked_15 : decode cX0_looked 15 = .ok (.ireturn, 1) := dk_172 (dk_at dksX0_looked_0 15 rfl rfl)
theorem dX0_looked_16 : decode cX0_looked 16 = .ok (.aload_n 1, 1) := dk_43 (dk_at dksX0_looked_0 16 rfl rfl)
theorem dX0_looked_17 : decode cX0_looked 17 = .ok (.getfield 293, 3) := dk_180 1 37 (dk_at dksX0_looked_0 17 rfl rfl)
theorem dX0_looked_20 : decode cX0_looked 20 = .ok (.i2l, 1) := dk_133 (dk_at dksX0_looked_0 20 rfl rfl)
theorem dX0_looked_21 : decode cX0_looked 21 = .ok (.lconst 0, 1) := dk_9 (dk_at dksX0_looked_0 21 rfl rfl)
theorem dX0_looked_22 : decode cX0_looked 22 = .ok (.ldc2_w 237, 3) := dk_20 0 237 (dk_at dksX0_looked_1 0 rfl rfl)
theorem dX0_looked_25 : decode cX0_looked 25 = .ok (.invokestatic 58, 3) := dk_184 0 58 (dk_at dksX0_looked_1 3 rfl rfl)
theorem dX0_looked_28 : decode cX0_looked 28 = .ok (.ifCond .eq 14, 3) := dk_153 0 14 (dk_at dksX0_looked_1 6 rfl rfl)
theorem dX0_looked_31 : decode cX0_looked 31 = .ok (.iload_n 2, 1) := dk_28 (dk_at dksX0_looked_1 9 rfl rfl)
theorem dX0_looked_32 : decode cX0_looked 32 = .ok (.ifCond .eq 10, 3) := dk_153 0 10 (dk_at dksX0_looked_1 10 rfl rfl)
theorem dX0_looked_35 : decode cX0_looked 35 = .ok (.aload_n 1, 1) := dk_43 (dk_at dksX0_looked_1 13 rfl rfl)
theorem dX0_looked_36 : decode cX0_looked 36 = .ok (.invokevirtual 296, 3) := dk_182 1 40 (dk_at dksX0_looked_1 14 rfl rfl)
theorem dX0_looked_39 : decode cX0_looked 39 = .ok (.goto 9, 3) := dk_167 0 9 (dk_at dksX0_looked_1 17 rfl rfl)
theorem dX0_looked_42 : decode cX0_looked 42 = .ok (.aload_n 0, 1) := dk_42 (dk_at dksX0_looked_1 20 rfl rfl)
theorem dX0_looked_43 : decode cX0_looked 43 = .ok (.bipush (-2), 2) := dk_16 254 (dk_at dksX0_looked_1 21 rfl rfl)
theorem dX0_looked_45 : decode cX0_looked 45 = .ok (.invokevirtual 234, 3) := dk_182 0 234 (dk_at dksX0_looked_2 0 rfl rfl)
theorem dX0_looked_48 : decode cX0_looked 48 = .ok (.ireturn, 1) := dk_172 (dk_at dksX0_looked_2 3 rfl rfl)
abbrev cX0_cellsOf : ByteArray := prog_1_method_59_code
def yX0_cellsOf : MethodName := ⟨RX0, "cellsOf", "(Ljava/lang/Object;III)[I"⟩
def dkwX0_cellsOf_3 : List UInt8 := [184, 1, 6, 79, 132, 7, 1, 167, 255, 231, 25, 6, 176]
abbrev dktX0_cellsOf_3 : List UInt8 := dkwX0_cellsOf_3 ++ []
def dkwX0_cellsOf_2 : List UInt8 := [58, 6, 3, 54, 7, 21, 7, 25, 6, 190, 162, 0, 23, 25, 6, 21, 7, 42, 27, 28, 21, 7, 96]
abbrev dktX0_cellsOf_2 : List UInt8 := dkwX0_cellsOf_2 ++ dktX0_cellsOf_3
def dkwX0_cellsOf_1 : List UInt8 := [155, 0, 15, 28, 21, 4, 29, 100, 163, 0, 7, 4, 167, 0, 4, 3, 184, 1, 28, 25, 5, 190, 188, 10]
abbrev dktX0_cellsOf_1 : List UInt8 := dkwX0_cellsOf_1 ++ dktX0_cellsOf_2
def dkwX0_cellsOf_0 : List UInt8 := [42, 27, 184, 1, 21, 54, 4, 29, 16, 61, 184, 1, 25, 188, 8, 58, 5, 29, 16, 61, 162, 0, 19, 28]
abbrev dktX0_cellsOf_0 : List UInt8 := dkwX0_cellsOf_0 ++ dktX0_cellsOf_1
theorem dksX0_cellsOf_0 : cX0_cellsOf.data.toList.drop 0 = dktX0_cellsOf_0 := by decide +kernel
theorem dksX0_cellsOf_1 : cX0_cellsOf.data.toList.drop 24 = dktX0_cellsOf_1 := dk_seg dksX0_cellsOf_0 24 rfl rfl
theorem dksX0_cellsOf_2 : cX0_cellsOf.data.toList.drop 48 = dktX0_cellsOf_2 := dk_seg dksX0_cellsOf_1 24 rfl rfl
theorem dksX0_cellsOf_3 : cX0_cellsOf.data.toList.drop 71 = dktX0_cellsOf_3 := dk_seg dksX0_cellsOf_2 23 rfl rfl
theorem dX0_cellsOf_0 : decode cX0_cellsOf 0 = .ok (.aload_n 0, 1) := dk_42 (dk_at dksX0_cellsOf_0 0 rfl rfl)
theorem dX0_cellsOf_1 : decode cX0_cellsOf 1 = .ok (.iload_n 1, 1) := dk_27 (dk_at dksX0_cellsOf_0 1 rfl rfl)
theorem dX0_cellsOf_2 : decode cX0_cellsOf 2 = .ok (.invokestatic 277, 3) := dk_184 1 21 (dk_at dksX0_cellsOf_0 2 rfl rfl)
theorem dX0_cellsOf_5 : decode cX0_cellsOf 5 = .ok (.istore 4, 2) := dk_54 4 (dk_at dksX0_cellsOf_0 5 rfl rfl)
theorem dX0_cellsOf_7 : decode cX0_cellsOf 7 = .ok (.iload_n 3, 1) := dk_29 (dk_at dksX0_cellsOf_0 7 rfl rfl)
theorem dX0_cellsOf_8 : decode cX0_cellsOf 8 = .ok (.bipush 61, 2) := dk_16 61 (dk_at dksX0_cellsOf_0 8 rfl rfl)
theorem dX0_cellsOf_10 : decode cX0_cellsOf 10 = .ok (.invokestatic 281, 3) := dk_184 1 25 (dk_at dksX0_cellsOf_0 10 rfl rfl)
theorem dX0_cellsOf_13 : decode cX0_cellsOf 13 = .ok (.newarray .byte, 2) := dk_188_8 (dk_at dksX0_cellsOf_0 13 rfl rfl)
theorem dX0_cellsOf_15 : decode cX0_cellsOf 15 = .ok (.astore 5, 2) := dk_58 5 (dk_at dksX0_cellsOf_0 15 rfl rfl)
theorem dX0_cellsOf_17 : decode cX0_cellsOf 17 = .ok (.iload_n 3, 1) := dk_29 (dk_at dksX0_cellsOf_0 17 rfl rfl)
theorem dX0_cellsOf_18 : decode cX0_cellsOf 18 = .ok (.bipush 61, 2) := dk_16 61 (dk_at dksX0_cellsOf_0 18 rfl rfl)
theorem dX0_cellsOf_20 : decode cX0_cellsOf 20 = .ok (.if_icmp .ge 19, 3) := dk_162 0 19 (dk_at dksX0_cellsOf_0 20 rfl rfl)
theorem dX0_cellsOf_23 : decode cX0_cellsOf 23 = .ok (.iload_n 2, 1) := dk_28 (dk_at dksX0_cellsOf_0 23 rfl rfl)
theorem dX0_cellsOf_24 : decode cX0_cellsOf 24 = .ok (.ifCond .lt 15, 3) := dk_155 0 15 (dk_at dksX0_cellsOf_1 0 rfl rfl)
theorem dX0_cellsOf_27 : decode cX0_cellsOf 27 = .ok (.iload_n 2, 1) := dk_28 (dk_at dksX0_cellsOf_1 3 rfl rfl)
theorem dX0_cellsOf_28 : decode cX0_cellsOf 28 = .ok (.iload 4, 2) := dk_21 4 (dk_at dksX0_cellsOf_1 4 rfl rfl)
theorem dX0_cellsOf_30 : decode cX0_cellsOf 30 = .ok (.iload_n 3, 1) := dk_29 (dk_at dksX0_cellsOf_1 6 rfl rfl)
theorem dX0_cellsOf_31 : decode cX0_cellsOf 31 = .ok (.isub, 1) := dk_100 (dk_at dksX0_cellsOf_1 7 rfl rfl)
theorem dX0_cellsOf_32 : decode cX0_cellsOf 32 = .ok (.if_icmp .gt 7, 3) := dk_163 0 7 (dk_at dksX0_cellsOf_1 8 rfl rfl)
theorem dX0_cellsOf_35 : decode cX0_cellsOf 35 = .ok (.iconst 1, 1) := dk_4 (dk_at dksX0_cellsOf_1 11 rfl rfl)
theorem dX0_cellsOf_36 : decode cX0_cellsOf 36 = .ok (.goto 4, 3) := dk_167 0 4 (dk_at dksX0_cellsOf_1 12 rfl rfl)
theorem dX0_cellsOf_39 : decode cX0_cellsOf 39 = .ok (.iconst 0, 1) := dk_3 (dk_at dksX0_cellsOf_1 15 rfl rfl)
theorem dX0_cellsOf_40 : decode cX0_cellsOf 40 = .ok (.invokestatic 284, 3) := dk_184 1 28 (dk_at dksX0_cellsOf_1 16 rfl rfl)
theorem dX0_cellsOf_43 : decode cX0_cellsOf 43 = .ok (.aload 5, 2) := dk_25 5 (dk_at dksX0_cellsOf_1 19 rfl rfl)
theorem dX0_cellsOf_45 : decode cX0_cellsOf 45 = .ok (.arraylength, 1) := dk_190 (dk_at dksX0_cellsOf_1 21 rfl rfl)
theorem dX0_cellsOf_46 : decode cX0_cellsOf 46 = .ok (.newarray .int, 2) := dk_188_10 (dk_at dksX0_cellsOf_1 22 rfl rfl)
theorem dX0_cellsOf_48 : decode cX0_cellsOf 48 = .ok (.astore 6, 2) := dk_58 6 (dk_at dksX0_cellsOf_2 0 rfl rfl)
theorem dX0_cellsOf_50 : decode cX0_cellsOf 50 = .ok (.iconst 0, 1) := dk_3 (dk_at dksX0_cellsOf_2 2 rfl rfl)
theorem dX0_cellsOf_51 : decode cX0_cellsOf 51 = .ok (.istore 7, 2) := dk_54 7 (dk_at dksX0_cellsOf_2 3 rfl rfl)
theorem dX0_cellsOf_53 : decode cX0_cellsOf 53 = .ok (.iload 7, 2) := dk_21 7 (dk_at dksX0_cellsOf_2 5 rfl rfl)
theorem dX0_cellsOf_55 : decode cX0_cellsOf 55 = .ok (.aload 6, 2) := dk_25 6 (dk_at dksX0_cellsOf_2 7 rfl rfl)
theorem dX0_cellsOf_57 : decode cX0_cellsOf 57 = .ok (.arraylength, 1) := dk_190 (dk_at dksX0_cellsOf_2 9 rfl rfl)
theorem dX0_cellsOf_58 : decode cX0_cellsOf 58 = .ok (.if_icmp .ge 23, 3) := dk_162 0 23 (dk_at dksX0_cellsOf_2 10 rfl rfl)
theorem dX0_cellsOf_61 : decode cX0_cellsOf 61 = .ok (.aload 6, 2) := dk_25 6 (dk_at dksX0_cellsOf_2 13 rfl rfl)
theorem dX0_cellsOf_63 : decode cX0_cellsOf 63 = .ok (.iload 7, 2) := dk_21 7 (dk_at dksX0_cellsOf_2 15 rfl rfl)
theorem dX0_cellsOf_65 : decode cX0_cellsOf 65 = .ok (.aload_n 0, 1) := dk_42 (dk_at dksX0_cellsOf_2 17 rfl rfl)
theorem dX0_cellsOf_66 : decode cX0_cellsOf 66 = .ok (.iload_n 1, 1) := dk_27 (dk_at dksX0_cellsOf_2 18 rfl rfl)
theorem dX0_cellsOf_67 : decode cX0_cellsOf 67 = .ok (.iload_n 2, 1) := dk_28 (dk_at dksX0_cellsOf_2 19 rfl rfl)
theorem dX0_cellsOf_68 : decode cX0_cellsOf 68 = .ok (.iload 7, 2) := dk_21 7 (dk_at dksX0_cellsOf_2 20 rfl rfl)
theorem dX0_cellsOf_70 : decode cX0_cellsOf 70 = .ok (.iadd, 1) := dk_96 (dk_at dksX0_cellsOf_2 22 rfl rfl)
theorem dX0_cellsOf_71 : decode cX0_cellsOf 71 = .ok (.invokestatic 262, 3) := dk_184 1 6 (dk_at dksX0_cellsOf_3 0 rfl rfl)
theorem dX0_cellsOf_74 : decode cX0_cellsOf 74 = .ok (.iastore, 1) := dk_79 (dk_at dksX0_cellsOf_3 3 rfl rfl)
theorem dX0_cellsOf_75 : decode cX0_cellsOf 75 = .ok (.iinc 7 1, 3) := dk_132 7 1 (dk_at dksX0_cellsOf_3 4 rfl rfl)
theorem dX0_cellsOf_78 : decode cX0_cellsOf 78 = .ok (.goto (-25), 3) := dk_167 255 231 (dk_at dksX0_cellsOf_3 7 rfl rfl)
theorem dX0_cellsOf_81 : decode cX0_cellsOf 81 = .ok (.aload 6, 2) := dk_25 6 (dk_at dksX0_cellsOf_3 10 rfl rfl)
theorem dX0_cellsOf_83 : decode cX0_cellsOf 83 = .ok (.areturn, 1) := dk_176 (dk_at dksX0_cellsOf_3 12 rfl rfl)
abbrev cX0_sizeOf : ByteArray := prog_1_method_50_code
def yX0_sizeOf : MethodName := ⟨RX0, "sizeOf", "(Ljava/lang/Object;I)I"⟩
def dkwX0_sizeOf_1 : List UInt8 := [167, 0, 8, 42, 192, 0, 226, 190, 172]
abbrev dktX0_sizeOf_1 : List UInt8 := dkwX0_sizeOf_1 ++ []
def dkwX0_sizeOf_0 : List UInt8 := [27, 154, 0, 11, 42, 192, 0, 222, 190, 167, 0, 21, 27, 4, 160, 0, 11, 42, 192, 0, 224, 190]
abbrev dktX0_sizeOf_0 : List UInt8 := dkwX0_sizeOf_0 ++ dktX0_sizeOf_1
theorem dksX0_sizeOf_0 : cX0_sizeOf.data.toList.drop 0 = dktX0_sizeOf_0 := by decide +kernel
theorem dksX0_sizeOf_1 : cX0_sizeOf.data.toList.drop 22 = dktX0_sizeOf_1 := dk_seg dksX0_sizeOf_0 22 rfl rfl
theorem dX0_sizeOf_0 : decode cX0_sizeOf 0 = .ok (.iload_n 1, 1) := dk_27 (dk_at dksX0_sizeOf_0 0 rfl rfl)
theorem dX0_sizeOf_1 : decode cX0_sizeOf 1 = .ok (.ifCond .ne 11, 3) := dk_154 0 11 (dk_at dksX0_sizeOf_0 1 rfl rfl)
theorem dX0_sizeOf_4 : decode cX0_sizeOf 4 = .ok (.aload_n 0, 1) := dk_42 (dk_at dksX0_sizeOf_0 4 rfl rfl)
theorem dX0_sizeOf_5 : decode cX0_sizeOf 5 = .ok (.checkcast 222, 3) := dk_192 0 222 (dk_at dksX0_sizeOf_0 5 rfl rfl)
theorem dX0_sizeOf_8 : decode cX0_sizeOf 8 = .ok (.arraylength, 1) := dk_190 (dk_at dksX0_sizeOf_0 8 rfl rfl)
theorem dX0_sizeOf_9 : decode cX0_sizeOf 9 = .ok (.goto 21, 3) := dk_167 0 21 (dk_at dksX0_sizeOf_0 9 rfl rfl)
theorem dX0_sizeOf_12 : decode cX0_sizeOf 12 = .ok (.iload_n 1, 1) := dk_27 (dk_at dksX0_sizeOf_0 12 rfl rfl)
theorem dX0_sizeOf_13 : decode cX0_sizeOf 13 = .ok (.iconst 1, 1) := dk_4 (dk_at dksX0_sizeOf_0 13 rfl rfl)
theorem dX0_sizeOf_14 : decode cX0_sizeOf 14 = .ok (.if_icmp .ne 11, 3) := dk_160 0 11 (dk_at dksX0_sizeOf_0 14 rfl rfl)
theorem dX0_sizeOf_17 : decode cX0_sizeOf 17 = .ok (.aload_n 0, 1) := dk_42 (dk_at dksX0_sizeOf_0 17 rfl rfl)
theorem dX0_sizeOf_18 : decode cX0_sizeOf 18 = .ok (.checkcast 224, 3) := dk_192 0 224 (dk_at dksX0_sizeOf_0 18 rfl rfl)
theorem dX0_sizeOf_21 : decode cX0_sizeOf 21 = .ok (.arraylength, 1) := dk_190 (dk_at dksX0_sizeOf_0 21 rfl rfl)
theorem dX0_sizeOf_22 : decode cX0_sizeOf 22 = .ok (.goto 8, 3) := dk_167 0 8 (dk_at dksX0_sizeOf_1 0 rfl rfl)
theorem dX0_sizeOf_25 : decode cX0_sizeOf 25 = .ok (.aload_n 0, 1) := dk_42 (dk_at dksX0_sizeOf_1 3 rfl rfl)
theorem dX0_sizeOf_26 : decode cX0_sizeOf 26 = .ok (.checkcast 226, 3) := dk_192 0 226 (dk_at dksX0_sizeOf_1 4 rfl rfl)
theorem dX0_sizeOf_29 : decode cX0_sizeOf 29 = .ok (.arraylength, 1) := dk_190 (dk_at dksX0_sizeOf_1 7 rfl rfl)
theorem dX0_sizeOf_30 : decode cX0_sizeOf 30 = .ok (.ireturn, 1) := dk_172 (dk_at dksX0_sizeOf_1 8 rfl rfl)
abbrev cX0_need : ByteArray := prog_1_method_58_code
def yX0_need : MethodName := ⟨RX0, "need", "(Z)V"⟩
def dkwX0_need_0 : List UInt8 := [26, 154, 0, 14, 187, 1, 1, 89, 19, 1, 16, 183, 1, 18, 191, 177]
abbrev dktX0_need_0 : List UInt8 := dkwX0_need_0 ++ []
theorem dksX0_need_0 : cX0_need.data.toList.drop 0 = dktX0_need_0 := by decide +kernel
theorem dX0_need_0 : decode cX0_need 0 = .ok (.iload_n 0, 1) := dk_26 (dk_at dksX0_need_0 0 rfl rfl)
theorem dX0_need_1 : decode cX0_need 1 = .ok (.ifCond .ne 14, 3) := dk_154 0 14 (dk_at dksX0_need_0 1 rfl rfl)
theorem dX0_need_4 : decode cX0_need 4 = .ok (.new 257, 3) := dk_187 1 1 (dk_at dksX0_need_0 4 rfl rfl)
theorem dX0_need_7 : decode cX0_need 7 = .ok (.dup, 1) := dk_89 (dk_at dksX0_need_0 7 rfl rfl)
theorem dX0_need_8 : decode cX0_need 8 = .ok (.ldc_w 272, 3) := dk_19 1 16 (dk_at dksX0_need_0 8 rfl rfl)
theorem dX0_need_11 : decode cX0_need 11 = .ok (.invokespecial 274, 3) := dk_183 1 18 (dk_at dksX0_need_0 11 rfl rfl)
theorem dX0_need_14 : decode cX0_need 14 = .ok (.athrow, 1) := dk_191 (dk_at dksX0_need_0 14 rfl rfl)
theorem dX0_need_15 : decode cX0_need 15 = .ok (.return_, 1) := dk_177 (dk_at dksX0_need_0 15 rfl rfl)
abbrev cX0_loadsBarred : ByteArray := prog_1_method_26_code
def yX0_loadsBarred : MethodName := ⟨RX0, "loadsBarred", "([I)I"⟩
def dkwX0_loadsBarred_1 : List UInt8 := [182, 0, 157, 154, 0, 6, 16, 254, 172, 132, 2, 1, 167, 255, 234, 3, 172]
abbrev dktX0_loadsBarred_1 : List UInt8 := dkwX0_loadsBarred_1 ++ []
def dkwX0_loadsBarred_0 : List UInt8 := [42, 182, 0, 132, 153, 0, 6, 16, 253, 172, 3, 61, 28, 43, 190, 162, 0, 22, 42, 43, 28, 46]
abbrev dktX0_loadsBarred_0 : List UInt8 := dkwX0_loadsBarred_0 ++ dktX0_loadsBarred_1
theorem dksX0_loadsBarred_0 : cX0_loadsBarred.data.toList.drop 0 = dktX0_loadsBarred_0 := by decide +kernel
theorem dksX0_loadsBarred_1 : cX0_loadsBarred.data.toList.drop 22 = dktX0_loadsBarred_1 := dk_seg dksX0_loadsBarred_0 22 rfl rfl
theorem dX0_loadsBarred_0 : decode cX0_loadsBarred 0 = .ok (.aload_n 0, 1) := dk_42 (dk_at dksX0_loadsBarred_0 0 rfl rfl)
theorem dX0_loadsBarred_1 : decode cX0_loadsBarred 1 = .ok (.invokevirtual 132, 3) := dk_182 0 132 (dk_at dksX0_loadsBarred_0 1 rfl rfl)
theorem dX0_loadsBarred_4 : decode cX0_loadsBarred 4 = .ok (.ifCond .eq 6, 3) := dk_153 0 6 (dk_at dksX0_loadsBarred_0 4 rfl rfl)
theorem dX0_loadsBarred_7 : decode cX0_loadsBarred 7 = .ok (.bipush (-3), 2) := dk_16 253 (dk_at dksX0_loadsBarred_0 7 rfl rfl)
theorem dX0_loadsBarred_9 : decode cX0_loadsBarred 9 = .ok (.ireturn, 1) := dk_172 (dk_at dksX0_loadsBarred_0 9 rfl rfl)
theorem dX0_loadsBarred_10 : decode cX0_loadsBarred 10 = .ok (.iconst 0, 1) := dk_3 (dk_at dksX0_loadsBarred_0 10 rfl rfl)
theorem dX0_loadsBarred_11 : decode cX0_loadsBarred 11 = .ok (.istore_n 2, 1) := dk_61 (dk_at dksX0_loadsBarred_0 11 rfl rfl)
theorem dX0_loadsBarred_12 : decode cX0_loadsBarred 12 = .ok (.iload_n 2, 1) := dk_28 (dk_at dksX0_loadsBarred_0 12 rfl rfl)
theorem dX0_loadsBarred_13 : decode cX0_loadsBarred 13 = .ok (.aload_n 1, 1) := dk_43 (dk_at dksX0_loadsBarred_0 13 rfl rfl)
theorem dX0_loadsBarred_14 : decode cX0_loadsBarred 14 = .ok (.arraylength, 1) := dk_190 (dk_at dksX0_loadsBarred_0 14 rfl rfl)
theorem dX0_loadsBarred_15 : decode cX0_loadsBarred 15 = .ok (.if_icmp .ge 22, 3) := dk_162 0 22 (dk_at dksX0_loadsBarred_0 15 rfl rfl)
theorem dX0_loadsBarred_18 : decode cX0_loadsBarred 18 = .ok (.aload_n 0, 1) := dk_42 (dk_at dksX0_loadsBarred_0 18 rfl rfl)
theorem dX0_loadsBarred_19 : decode cX0_loadsBarred 19 = .ok (.aload_n 1, 1) := dk_43 (dk_at dksX0_loadsBarred_0 19 rfl rfl)
theorem dX0_loadsBarred_20 : decode cX0_loadsBarred 20 = .ok (.iload_n 2, 1) := dk_28 (dk_at dksX0_loadsBarred_0 20 rfl rfl)
theorem dX0_loadsBarred_21 : decode cX0_loadsBarred 21 = .ok (.iaload, 1) := dk_46 (dk_at dksX0_loadsBarred_0 21 rfl rfl)
theorem dX0_loadsBarred_22 : decode cX0_loadsBarred 22 = .ok (.invokevirtual 157, 3) := dk_182 0 157 (dk_at dksX0_loadsBarred_1 0 rfl rfl)
theorem dX0_loadsBarred_25 : decode cX0_loadsBarred 25 = .ok (.ifCond .ne 6, 3) := dk_154 0 6 (dk_at dksX0_loadsBarred_1 3 rfl rfl)
theorem dX0_loadsBarred_28 : decode cX0_loadsBarred 28 = .ok (.bipush (-2), 2) := dk_16 254 (dk_at dksX0_loadsBarred_1 6 rfl rfl)
theorem dX0_loadsBarred_30 : decode cX0_loadsBarred 30 = .ok (.ireturn, 1) := dk_172 (dk_at dksX0_loadsBarred_1 8 rfl rfl)
theorem dX0_loadsBarred_31 : decode cX0_loadsBarred 31 = .ok (.iinc 2 1, 3) := dk_132 2 1 (dk_at dksX0_loadsBarred_1 9 rfl rfl)
theorem dX0_loadsBarred_34 : decode cX0_loadsBarred 34 = .ok (.goto (-22), 3) := dk_167 255 234 (dk_at dksX0_loadsBarred_1 12 rfl rfl)
theorem dX0_loadsBarred_37 : decode cX0_loadsBarred 37 = .ok (.iconst 0, 1) := dk_3 (dk_at dksX0_loadsBarred_1 15 rfl rfl)
theorem dX0_loadsBarred_38 : decode cX0_loadsBarred 38 = .ok (.ireturn, 1) := dk_172 (dk_at dksX0_loadsBarred_1 16 rfl rfl)
abbrev cX0_loadsBy : ByteArray := prog_1_method_27_code
def yX0_loadsBy : MethodName := ⟨RX0, "loadsBy", "([II)I"⟩
def dkwX0_loadsBy_11 : List UInt8 := [167, 0, 5, 21, 7, 172]
abbrev dktX0_loadsBy_11 : List UInt8 := dkwX0_loadsBy_11 ++ []
def dkwX0_loadsBy_10 : List UInt8 := [21, 4, 172, 29, 172, 21, 5, 172, 21, 6, 172, 42, 28, 16, 10, 100, 182, 0, 62, 153, 0, 8, 16, 247]
abbrev dktX0_loadsBy_10 : List UInt8 := dkwX0_loadsBy_10 ++ dktX0_loadsBy_11
def dkwX0_loadsBy_9 : List UInt8 := [170, 0, 0, 0, 0, 45, 0, 0, 0, 0, 0, 0, 0, 4, 0, 0, 0, 34, 0, 0, 0, 45, 0, 0, 0, 37, 0, 0, 0, 39, 0, 0, 0, 42]
abbrev dktX0_loadsBy_9 : List UInt8 := dkwX0_loadsBy_9 ++ dktX0_loadsBy_10
def dkwX0_loadsBy_8 : List UInt8 := [155, 0, 9, 16, 156, 21, 8, 100, 172, 28]
abbrev dktX0_loadsBy_8 : List UInt8 := dkwX0_loadsBy_8 ++ dktX0_loadsBy_9
def dkwX0_loadsBy_7 : List UInt8 := [167, 0, 4, 3, 96, 54, 7, 132, 9, 1, 167, 255, 102, 28, 4, 160, 0, 6, 21, 8, 172, 21, 8]
abbrev dktX0_loadsBy_7 : List UInt8 := dkwX0_loadsBy_7 ++ dktX0_loadsBy_8
def dkwX0_loadsBy_6 : List UInt8 := [96, 54, 6, 21, 7, 28, 16, 10, 161, 0, 19, 21, 10, 28, 16, 10, 100, 184, 0, 135, 153, 0, 7, 4]
abbrev dktX0_loadsBy_6 : List UInt8 := dkwX0_loadsBy_6 ++ dktX0_loadsBy_7
def dkwX0_loadsBy_5 : List UInt8 := [4, 164, 0, 7, 4, 167, 0, 4, 3, 96, 54, 5, 21, 6, 21, 10, 154, 0, 7, 4, 167, 0, 4, 3]
abbrev dktX0_loadsBy_5 : List UInt8 := dkwX0_loadsBy_5 ++ dktX0_loadsBy_6
def dkwX0_loadsBy_4 : List UInt8 := [21, 9, 46, 182, 0, 160, 153, 0, 7, 4, 167, 0, 4, 3, 96, 54, 4, 21, 5, 21, 10, 184, 0, 149]
abbrev dktX0_loadsBy_4 : List UInt8 := dkwX0_loadsBy_4 ++ dktX0_loadsBy_5
def dkwX0_loadsBy_3 : List UInt8 := [153, 0, 8, 21, 9, 167, 0, 5, 16, 247, 54, 8, 29, 43, 21, 9, 46, 128, 62, 21, 4, 42, 43]
abbrev dktX0_loadsBy_3 : List UInt8 := dkwX0_loadsBy_3 ++ dktX0_loadsBy_4
def dkwX0_loadsBy_2 : List UInt8 := [153, 0, 26, 43, 21, 9, 46, 184, 0, 149, 42, 180, 0, 95, 163, 0, 12, 43, 21, 9, 46, 29, 126]
abbrev dktX0_loadsBy_2 : List UInt8 := dkwX0_loadsBy_2 ++ dktX0_loadsBy_3
def dkwX0_loadsBy_1 : List UInt8 := [190, 162, 0, 153, 21, 8, 156, 0, 148, 42, 43, 21, 9, 46, 182, 0, 146, 54, 10, 43, 21, 9, 46]
abbrev dktX0_loadsBy_1 : List UInt8 := dkwX0_loadsBy_1 ++ dktX0_loadsBy_2
def dkwX0_loadsBy_0 : List UInt8 := [3, 62, 3, 54, 4, 3, 54, 5, 3, 54, 6, 3, 54, 7, 16, 247, 54, 8, 3, 54, 9, 21, 9, 43]
abbrev dktX0_loadsBy_0 : List UInt8 := dkwX0_loadsBy_0 ++ dktX0_loadsBy_1
theorem dksX0_loadsBy_0 : cX0_loadsBy.data.toList.drop 0 = dktX0_loadsBy_0 := by decide +kernel
theorem dksX0_loadsBy_1 : cX0_loadsBy.data.toList.drop 24 = dktX0_loadsBy_1 := dk_seg dksX0_loadsBy_0 24 rfl rfl
theorem dksX0_loadsBy_2 : cX0_loadsBy.data.toList.drop 47 = dktX0_loadsBy_2 := dk_seg dksX0_loadsBy_1 23 rfl rfl
theorem dksX0_loadsBy_3 : cX0_loadsBy.data.toList.drop 70 = dktX0_loadsBy_3 := dk_seg dksX0_loadsBy_2 23 rfl rfl
theorem dksX0_loadsBy_4 : cX0_loadsBy.data.toList.drop 93 = dktX0_loadsBy_4 := dk_seg dksX0_loadsBy_3 23 rfl rfl
theorem dksX0_loadsBy_5 : cX0_loadsBy.data.toList.drop 117 = dktX0_loadsBy_5 := dk_seg dksX0_loadsBy_4 24 rfl rfl
theorem dksX0_loadsBy_6 : cX0_loadsBy.data.toList.drop 141 = dktX0_loadsBy_6 := dk_seg dksX0_loadsBy_5 24 rfl rfl
theorem dksX0_loadsBy_7 : cX0_loadsBy.data.toList.drop 165 = dktX0_loadsBy_7 := dk_seg dksX0_loadsBy_6 24 rfl rfl
theorem dksX0_loadsBy_8 : cX0_loadsBy.data.toList.drop 188 = dktX0_loadsBy_8 := dk_seg dksX0_loadsBy_7 23 rfl rfl
theorem dksX0_loadsBy_9 : cX0_loadsBy.data.toList.drop 198 = dktX0_loadsBy_9 := dk_seg dksX0_loadsBy_8 10 rfl rfl
theorem dksX0_loadsBy_10 : cX0_loadsBy.data.toList.drop 232 = dktX0_loadsBy_10 := dk_seg dksX0_loadsBy_9 34 rfl rfl
theorem dksX0_loadsBy_11 : cX0_loadsBy.data.toList.drop 256 = dktX0_loadsBy_11 := dk_seg dksX0_loadsBy_10 24 rfl rfl
theorem dX0_loadsBy_0 : decode cX0_loadsBy 0 = .ok (.iconst 0, 1) := dk_3 (dk_at dksX0_loadsBy_0 0 rfl rfl)
theorem dX0_loadsBy_1 : decode cX0_loadsBy 1 = .ok (.istore_n 3, 1) := dk_62 (dk_at dksX0_loadsBy_0 1 rfl rfl)
theorem dX0_loadsBy_2 : decode cX0_loadsBy 2 = .ok (.iconst 0, 1) := dk_3 (dk_at dksX0_loadsBy_0 2 rfl rfl)
theorem dX0_loadsBy_3 : decode cX0_loadsBy 3 = .ok (.istore 4, 2) := dk_54 4 (dk_at dksX0_loadsBy_0 3 rfl rfl)
theorem dX0_loadsBy_5 : decode cX0_loadsBy 5 = .ok (.iconst 0, 1) := dk_3 (dk_at dksX0_loadsBy_0 5 rfl rfl)
theorem dX0_loadsBy_6 : decode cX0_loadsBy 6 = .ok (.istore 5, 2) := dk_54 5 (dk_at dksX0_loadsBy_0 6 rfl rfl)
theorem dX0_loadsBy_8 : decode cX0_loadsBy 8 = .ok (.iconst 0, 1) := dk_3 (dk_at dksX0_loadsBy_0 8 rfl rfl)
theorem dX0_loadsBy_9 : decode cX0_loadsBy 9 = .ok (.istore 6, 2) := dk_54 6 (dk_at dksX0_loadsBy_0 9 rfl rfl)
theorem dX0_loadsBy_11 : decode cX0_loadsBy 11 = .ok (.iconst 0, 1) := dk_3 (dk_at dksX0_loadsBy_0 11 rfl rfl)
theorem dX0_loadsBy_12 : decode cX0_loadsBy 12 = .ok (.istore 7, 2) := dk_54 7 (dk_at dksX0_loadsBy_0 12 rfl rfl)
theorem dX0_loadsBy_14 : decode cX0_loadsBy 14 = .ok (.bipush (-9), 2) := dk_16 247 (dk_at dksX0_loadsBy_0 14 rfl rfl)
theorem dX0_loadsBy_16 : decode cX0_loadsBy 16 = .ok (.istore 8, 2) := dk_54 8 (dk_at dksX0_loadsBy_0 16 rfl rfl)
theorem dX0_loadsBy_18 : decode cX0_loadsBy 18 = .ok (.iconst 0, 1) := dk_3 (dk_at dksX0_loadsBy_0 18 rfl rfl)
theorem dX0_loadsBy_19 : decode cX0_loadsBy 19 = .ok (.istore 9, 2) := dk_54 9 (dk_at dksX0_loadsBy_0 19 rfl rfl)
theorem dX0_loadsBy_21 : decode cX0_loadsBy 21 = .ok (.iload 9, 2) := dk_21 9 (dk_at dksX0_loadsBy_0 21 rfl rfl)
theorem dX0_loadsBy_23 : decode cX0_loadsBy 23 = .ok (.aload_n 1, 1) := dk_43 (dk_at dksX0_loadsBy_0 23 rfl rfl)
theorem dX0_loadsBy_24 : decode cX0_loadsBy 24 = .ok (.arraylength, 1) := dk_190 (dk_at dksX0_loadsBy_1 0 rfl rfl)
theorem dX0_loadsBy_25 : decode cX0_loadsBy 25 = .ok (.if_icmp .ge 153, 3) := dk_162 0 153 (dk_at dksX0_loadsBy_1 1 rfl rfl)
theorem dX0_loadsBy_28 : decode cX0_loadsBy 28 = .ok (.iload 8, 2) := dk_21 8 (dk_at dksX0_loadsBy_1 4 rfl rfl)
theorem dX0_loadsBy_30 : decode cX0_loadsBy 30 = .ok (.ifCond .ge 148, 3) := dk_156 0 148 (dk_at dksX0_loadsBy_1 6 rfl rfl)
theorem dX0_loadsBy_33 : decode cX0_loadsBy 33 = .ok (.aload_n 0, 1) := dk_42 (dk_at dksX0_loadsBy_1 9 rfl rfl)
theorem dX0_loadsBy_34 : decode cX0_loadsBy 34 = .ok (.aload_n 1, 1) := dk_43 (dk_at dksX0_loadsBy_1 10 rfl rfl)
theorem dX0_loadsBy_35 : decode cX0_loadsBy 35 = .ok (.iload 9, 2) := dk_21 9 (dk_at dksX0_loadsBy_1 11 rfl rfl)
theorem dX0_loadsBy_37 : decode cX0_loadsBy 37 = .ok (.iaload, 1) := dk_46 (dk_at dksX0_loadsBy_1 13 rfl rfl)
theorem dX0_loadsBy_38 : decode cX0_loadsBy 38 = .ok (.invokevirtual 146, 3) := dk_182 0 146 (dk_at dksX0_loadsBy_1 14 rfl rfl)
theorem dX0_loadsBy_41 : decode cX0_loadsBy 41 = .ok (.istore 10, 2) := dk_54 10 (dk_at dksX0_loadsBy_1 17 rfl rfl)
theorem dX0_loadsBy_43 : decode cX0_loadsBy 43 = .ok (.aload_n 1, 1) := dk_43 (dk_at dksX0_loadsBy_1 19 rfl rfl)
theorem dX0_loadsBy_44 : decode cX0_loadsBy 44 = .ok (.iload 9, 2) := dk_21 9 (dk_at dksX0_loadsBy_1 20 rfl rfl)
theorem dX0_loadsBy_46 : decode cX0_loadsBy 46 = .ok (.iaload, 1) := dk_46 (dk_at dksX0_loadsBy_1 22 rfl rfl)
theorem dX0_loadsBy_47 : decode cX0_loadsBy 47 = .ok (.ifCond .eq 26, 3) := dk_153 0 26 (dk_at dksX0_loadsBy_2 0 rfl rfl)
theorem dX0_loadsBy_50 : decode cX0_loadsBy 50 = .ok (.aload_n 1, 1) := dk_43 (dk_at dksX0_loadsBy_2 3 rfl rfl)
theorem dX0_loadsBy_51 : decode cX0_loadsBy 51 = .ok (.iload 9, 2) := dk_21 9 (dk_at dksX0_loadsBy_2 4 rfl rfl)
theorem dX0_loadsBy_53 : decode cX0_loadsBy 53 = .ok (.iaload, 1) := dk_46 (dk_at dksX0_loadsBy_2 6 rfl rfl)
theorem dX0_loadsBy_54 : decode cX0_loadsBy 54 = .ok (.invokestatic 149, 3) := dk_184 0 149 (dk_at dksX0_loadsBy_2 7 rfl rfl)
theorem dX0_loadsBy_57 : decode cX0_loadsBy 57 = .ok (.aload_n 0, 1) := dk_42 (dk_at dksX0_loadsBy_2 10 rfl rfl)
theorem dX0_loadsBy_58 : decode cX0_loadsBy 58 = .ok (.getfield 95, 3) := dk_180 0 95 (dk_at dksX0_loadsBy_2 11 rfl rfl)
theorem dX0_loadsBy_61 : decode cX0_loadsBy 61 = .ok (.if_icmp .gt 12, 3) := dk_163 0 12 (dk_at dksX0_loadsBy_2 14 rfl rfl)
theorem dX0_loadsBy_64 : decode cX0_loadsBy 64 = .ok (.aload_n 1, 1) := dk_43 (dk_at dksX0_loadsBy_2 17 rfl rfl)
theorem dX0_loadsBy_65 : decode cX0_loadsBy 65 = .ok (.iload 9, 2) := dk_21 9 (dk_at dksX0_loadsBy_2 18 rfl rfl)
theorem dX0_loadsBy_67 : decode cX0_loadsBy 67 = .ok (.iaload, 1) := dk_46 (dk_at dksX0_loadsBy_2 20 rfl rfl)
theorem dX0_loadsBy_68 : decode cX0_loadsBy 68 = .ok (.iload_n 3, 1) := dk_29 (dk_at dksX0_loadsBy_2 21 rfl rfl)
theorem dX0_loadsBy_69 : decode cX0_loadsBy 69 = .ok (.iand, 1) := dk_126 (dk_at dksX0_loadsBy_2 22 rfl rfl)
theorem dX0_loadsBy_70 : decode cX0_loadsBy 70 = .ok (.ifCond .eq 8, 3) := dk_153 0 8 (dk_at dksX0_loadsBy_3 0 rfl rfl)
theorem dX0_loadsBy_73 : decode cX0_loadsBy 73 = .ok (.iload 9, 2) := dk_21 9 (dk_at dksX0_loadsBy_3 3 rfl rfl)
theorem dX0_loadsBy_75 : decode cX0_loadsBy 75 = .ok (.goto 5, 3) := dk_167 0 5 (dk_at dksX0_loadsBy_3 5 rfl rfl)
theorem dX0_loadsBy_78 : decode cX0_loadsBy 78 = .ok (.bipush (-9), 2) := dk_16 247 (dk_at dksX0_loadsBy_3 8 rfl rfl)
theorem dX0_loadsBy_80 : decode cX0_loadsBy 80 = .ok (.istore 8, 2) := dk_54 8 (dk_at dksX0_loadsBy_3 10 rfl rfl)
theorem dX0_loadsBy_82 : decode cX0_loadsBy 82 = .ok (.iload_n 3, 1) := dk_29 (dk_at dksX0_loadsBy_3 12 rfl rfl)
theorem dX0_loadsBy_83 : decode cX0_loadsBy 83 = .ok (.aload_n 1, 1) := dk_43 (dk_at dksX0_loadsBy_3 13 rfl rfl)
theorem dX0_loadsBy_84 : decode cX0_loadsBy 84 = .ok (.iload 9, 2) := dk_21 9 (dk_at dksX0_loadsBy_3 14 rfl rfl)
theorem dX0_loadsBy_86 : decode cX0_loadsBy 86 = .ok (.iaload, 1) := dk_46 (dk_at dksX0_loadsBy_3 16 rfl rfl)
theorem dX0_loadsBy_87 : decode cX0_loadsBy 87 = .ok (.ior, 1) := dk_128 (dk_at dksX0_loadsBy_3 17 rfl rfl)
theorem dX0_loadsBy_88 : decode cX0_loadsBy 88 = .ok (.istore_n 3, 1) := dk_62 (dk_at dksX0_loadsBy_3 18 rfl rfl)
theorem dX0_loadsBy_89 : decode cX0_loadsBy 89 = .ok (.iload 4, 2) := dk_21 4 (dk_at dksX0_loadsBy_3 19 rfl rfl)
theorem dX0_loadsBy_91 : decode cX0_loadsBy 91 = .ok (.aload_n 0, 1) := dk_42 (dk_at dksX0_loadsBy_3 21 rfl rfl)
theorem dX0_loadsBy_92 : decode cX0_loadsBy 92 = .ok (.aload_n 1, 1) := dk_43 (dk_at dksX0_loadsBy_3 22 rfl rfl)
theorem dX0_loadsBy_93 : decode cX0_loadsBy 93 = .ok (.iload 9, 2) := dk_21 9 (dk_at dksX0_loadsBy_4 0 rfl rfl)
theorem dX0_loadsBy_95 : decode cX0_loadsBy 95 = .ok (.iaload, 1) := dk_46 (dk_at dksX0_loadsBy_4 2 rfl rfl)
theorem dX0_loadsBy_96 : decode cX0_loadsBy 96 = .ok (.invokevirtual 160, 3) := dk_182 0 160 (dk_at dksX0_loadsBy_4 3 rfl rfl)
theorem dX0_loadsBy_99 : decode cX0_loadsBy 99 = .ok (.ifCond .eq 7, 3) := dk_153 0 7 (dk_at dksX0_loadsBy_4 6 rfl rfl)
theorem dX0_loadsBy_102 : decode cX0_loadsBy 102 = .ok (.iconst 1, 1) := dk_4 (dk_at dksX0_loadsBy_4 9 rfl rfl)
theorem dX0_loadsBy_103 : decode cX0_loadsBy 103 = .ok (.goto 4, 3) := dk_167 0 4 (dk_at dksX0_loadsBy_4 10 rfl rfl)
theorem dX0_loadsBy_106 : decode cX0_loadsBy 106 = .ok (.iconst 0, 1) := dk_3 (dk_at dksX0_loadsBy_4 13 rfl rfl)
theorem dX0_loadsBy_107 : decode cX0_loadsBy 107 = .ok (.iadd, 1) := dk_96 (dk_at dksX0_loadsBy_4 14 rfl rfl)
theorem dX0_loadsBy_108 : decode cX0_loadsBy 108 = .ok (.istore 4, 2) := dk_54 4 (dk_at dksX0_loadsBy_4 15 rfl rfl)
theorem dX0_loadsBy_110 : decode cX0_loadsBy 110 = .ok (.iload 5, 2) := dk_21 5 (dk_at dksX0_loadsBy_4 17 rfl rfl)
theorem dX0_loadsBy_112 : decode cX0_loadsBy 112 = .ok (.iload 10, 2) := dk_21 10 (dk_at dksX0_loadsBy_4 19 rfl rfl)
theorem dX0_loadsBy_114 : decode cX0_loadsBy 114 = .ok (.invokestatic 149, 3) := dk_184 0 149 (dk_at dksX0_loadsBy_4 21 rfl rfl)
theorem dX0_loadsBy_117 : decode cX0_loadsBy 117 = .ok (.iconst 1, 1) := dk_4 (dk_at dksX0_loadsBy_5 0 rfl rfl)
theorem dX0_loadsBy_118 : decode cX0_loadsBy 118 = .ok (.if_icmp .le 7, 3) := dk_164 0 7 (dk_at dksX0_loadsBy_5 1 rfl rfl)
theorem dX0_loadsBy_121 : decode cX0_loadsBy 121 = .ok (.iconst 1, 1) := dk_4 (dk_at dksX0_loadsBy_5 4 rfl rfl)
theorem dX0_loadsBy_122 : decode cX0_loadsBy 122 = .ok (.goto 4, 3) := dk_167 0 4 (dk_at dksX0_loadsBy_5 5 rfl rfl)
theorem dX0_loadsBy_125 : decode cX0_loadsBy 125 = .ok (.iconst 0, 1) := dk_3 (dk_at dksX0_loadsBy_5 8 rfl rfl)
theorem dX0_loadsBy_126 : decode cX0_loadsBy 126 = .ok (.iadd, 1) := dk_96 (dk_at dksX0_loadsBy_5 9 rfl rfl)
theorem dX0_loadsBy_127 : decode cX0_loadsBy 127 = .ok (.istore 5, 2) := dk_54 5 (dk_at dksX0_loadsBy_5 10 rfl rfl)
theorem dX0_loadsBy_129 : decode cX0_loadsBy 129 = .ok (.iload 6, 2) := dk_21 6 (dk_at dksX0_loadsBy_5 12 rfl rfl)
theorem dX0_loadsBy_131 : decode cX0_loadsBy 131 = .ok (.iload 10, 2) := dk_21 10 (dk_at dksX0_loadsBy_5 14 rfl rfl)
theorem dX0_loadsBy_133 : decode cX0_loadsBy 133 = .ok (.ifCond .ne 7, 3) := dk_154 0 7 (dk_at dksX0_loadsBy_5 16 rfl rfl)
theorem dX0_loadsBy_136 : decode cX0_loadsBy 136 = .ok (.iconst 1, 1) := dk_4 (dk_at dksX0_loadsBy_5 19 rfl rfl)
theorem dX0_loadsBy_137 : decode cX0_loadsBy 137 = .ok (.goto 4, 3) := dk_167 0 4 (dk_at dksX0_loadsBy_5 20 rfl rfl)
theorem dX0_loadsBy_140 : decode cX0_loadsBy 140 = .ok (.iconst 0, 1) := dk_3 (dk_at dksX0_loadsBy_5 23 rfl rfl)
theorem dX0_loadsBy_141 : decode cX0_loadsBy 141 = .ok (.iadd, 1) := dk_96 (dk_at dksX0_loadsBy_6 0 rfl rfl)
theorem dX0_loadsBy_142 : decode cX0_loadsBy 142 = .ok (.istore 6, 2) := dk_54 6 (dk_at dksX0_loadsBy_6 1 rfl rfl)
theorem dX0_loadsBy_144 : decode cX0_loadsBy 144 = .ok (.iload 7, 2) := dk_21 7 (dk_at dksX0_loadsBy_6 3 rfl rfl)
theorem dX0_loadsBy_146 : decode cX0_loadsBy 146 = .ok (.iload_n 2, 1) := dk_28 (dk_at dksX0_loadsBy_6 5 rfl rfl)
theorem dX0_loadsBy_147 : decode cX0_loadsBy 147 = .ok (.bipush 10, 2) := dk_16 10 (dk_at dksX0_loadsBy_6 6 rfl rfl)
theorem dX0_loadsBy_149 : decode cX0_loadsBy 149 = .ok (.if_icmp .lt 19, 3) := dk_161 0 19 (dk_at dksX0_loadsBy_6 8 rfl rfl)
theorem dX0_loadsBy_152 : decode cX0_loadsBy 152 = .ok (.iload 10, 2) := dk_21 10 (dk_at dksX0_loadsBy_6 11 rfl rfl)
theorem dX0_loadsBy_154 : decode cX0_loadsBy 154 = .ok (.iload_n 2, 1) := dk_28 (dk_at dksX0_loadsBy_6 13 rfl rfl)
theorem dX0_loadsBy_155 : decode cX0_loadsBy 155 = .ok (.bipush 10, 2) := dk_16 10 (dk_at dksX0_loadsBy_6 14 rfl rfl)
theorem dX0_loadsBy_157 : decode cX0_loadsBy 157 = .ok (.isub, 1) := dk_100 (dk_at dksX0_loadsBy_6 16 rfl rfl)
theorem dX0_loadsBy_158 : decode cX0_loadsBy 158 = .ok (.invokestatic 135, 3) := dk_184 0 135 (dk_at dksX0_loadsBy_6 17 rfl rfl)
theorem dX0_loadsBy_161 : decode cX0_loadsBy 161 = .ok (.ifCond .eq 7, 3) := dk_153 0 7 (dk_at dksX0_loadsBy_6 20 rfl rfl)
theorem dX0_loadsBy_164 : decode cX0_loadsBy 164 = .ok (.iconst 1, 1) := dk_4 (dk_at dksX0_loadsBy_6 23 rfl rfl)
theorem dX0_loadsBy_165 : decode cX0_loadsBy 165 = .ok (.goto 4, 3) := dk_167 0 4 (dk_at dksX0_loadsBy_7 0 rfl rfl)
theorem dX0_loadsBy_168 : decode cX0_loadsBy 168 = .ok (.iconst 0, 1) := dk_3 (dk_at dksX0_loadsBy_7 3 rfl rfl)
theorem dX0_loadsBy_169 : decode cX0_loadsBy 169 = .ok (.iadd, 1) := dk_96 (dk_at dksX0_loadsBy_7 4 rfl rfl)
theorem dX0_loadsBy_170 : decode cX0_loadsBy 170 = .ok (.istore 7, 2) := dk_54 7 (dk_at dksX0_loadsBy_7 5 rfl rfl)
theorem dX0_loadsBy_172 : decode cX0_loadsBy 172 = .ok (.iinc 9 1, 3) := dk_132 9 1 (dk_at dksX0_loadsBy_7 7 rfl rfl)
theorem dX0_loadsBy_175 : decode cX0_loadsBy 175 = .ok (.goto (-154), 3) := dk_167 255 102 (dk_at dksX0_loadsBy_7 10 rfl rfl)
theorem dX0_loadsBy_178 : decode cX0_loadsBy 178 = .ok (.iload_n 2, 1) := dk_28 (dk_at dksX0_loadsBy_7 13 rfl rfl)
theorem dX0_loadsBy_179 : decode cX0_loadsBy 179 = .ok (.iconst 1, 1) := dk_4 (dk_at dksX0_loadsBy_7 14 rfl rfl)
theorem dX0_loadsBy_180 : decode cX0_loadsBy 180 = .ok (.if_icmp .ne 6, 3) := dk_160 0 6 (dk_at dksX0_loadsBy_7 15 rfl rfl)
theorem dX0_loadsBy_183 : decode cX0_loadsBy 183 = .ok (.iload 8, 2) := dk_21 8 (dk_at dksX0_loadsBy_7 18 rfl rfl)
theorem dX0_loadsBy_185 : decode cX0_loadsBy 185 = .ok (.ireturn, 1) := dk_172 (dk_at dksX0_loadsBy_7 20 rfl rfl)
theorem dX0_loadsBy_186 : decode cX0_loadsBy 186 = .ok (.iload 8, 2) := dk_21 8 (dk_at dksX0_loadsBy_7 21 rfl rfl)
theorem dX0_loadsBy_188 : decode cX0_loadsBy 188 = .ok (.ifCond .lt 9, 3) := dk_155 0 9 (dk_at dksX0_loadsBy_8 0 rfl rfl)
theorem dX0_loadsBy_191 : decode cX0_loadsBy 191 = .ok (.bipush (-100), 2) := dk_16 156 (dk_at dksX0_loadsBy_8 3 rfl rfl)
theorem dX0_loadsBy_193 : decode cX0_loadsBy 193 = .ok (.iload 8, 2) := dk_21 8 (dk_at dksX0_loadsBy_8 5 rfl rfl)
theorem dX0_loadsBy_195 : decode cX0_loadsBy 195 = .ok (.isub, 1) := dk_100 (dk_at dksX0_loadsBy_8 7 rfl rfl)
theorem dX0_loadsBy_196 : decode cX0_loadsBy 196 = .ok (.ireturn, 1) := dk_172 (dk_at dksX0_loadsBy_8 8 rfl rfl)
theorem dX0_loadsBy_197 : decode cX0_loadsBy 197 = .ok (.iload_n 2, 1) := dk_28 (dk_at dksX0_loadsBy_8 9 rfl rfl)
theorem dX0_loadsBy_198 : decode cX0_loadsBy 198 = .ok (.tableswitch 45 0 4 #[34, 45, 37, 39, 42], 34) := by decide +kernel
theorem dX0_loadsBy_232 : decode cX0_loadsBy 232 = .ok (.iload 4, 2) := dk_21 4 (dk_at dksX0_loadsBy_10 0 rfl rfl)
theorem dX0_loadsBy_234 : decode cX0_loadsBy 234 = .ok (.ireturn, 1) := dk_172 (dk_at dksX0_loadsBy_10 2 rfl rfl)
theorem dX0_loadsBy_235 : decode cX0_loadsBy 235 = .ok (.iload_n 3, 1) := dk_29 (dk_at dksX0_loadsBy_10 3 rfl rfl)
theorem dX0_loadsBy_236 : decode cX0_loadsBy 236 = .ok (.ireturn, 1) := dk_172 (dk_at dksX0_loadsBy_10 4 rfl rfl)
theorem dX0_loadsBy_237 : decode cX0_loadsBy 237 = .ok (.iload 5, 2) := dk_21 5 (dk_at dksX0_loadsBy_10 5 rfl rfl)
theorem dX0_loadsBy_239 : decode cX0_loadsBy 239 = .ok (.ireturn, 1) := dk_172 (dk_at dksX0_loadsBy_10 7 rfl rfl)
theorem dX0_loadsBy_240 : decode cX0_loadsBy 240 = .ok (.iload 6, 2) := dk_21 6 (dk_at dksX0_loadsBy_10 8 rfl rfl)
theorem dX0_loadsBy_242 : decode cX0_loadsBy 242 = .ok (.ireturn, 1) := dk_172 (dk_at dksX0_loadsBy_10 10 rfl rfl)
theorem dX0_loadsBy_243 : decode cX0_loadsBy 243 = .ok (.aload_n 0, 1) := dk_42 (dk_at dksX0_loadsBy_10 11 rfl rfl)
theorem dX0_loadsBy_244 : decode cX0_loadsBy 244 = .ok (.iload_n 2, 1) := dk_28 (dk_at dksX0_loadsBy_10 12 rfl rfl)
theorem dX0_loadsBy_245 : decode cX0_loadsBy 245 = .ok (.bipush 10, 2) := dk_16 10 (dk_at dksX0_loadsBy_10 13 rfl rfl)
theorem dX0_loadsBy_247 : decode cX0_loadsBy 247 = .ok (.isub, 1) := dk_100 (dk_at dksX0_loadsBy_10 15 rfl rfl)
theorem dX0_loadsBy_248 : decode cX0_loadsBy 248 = .ok (.invokevirtual 62, 3) := dk_182 0 62 (dk_at dksX0_loadsBy_10 16 rfl rfl)
theorem dX0_loadsBy_251 : decode cX0_loadsBy 251 = .ok (.ifCond .eq 8, 3) := dk_153 0 8 (dk_at dksX0_loadsBy_10 19 rfl rfl)
theorem dX0_loadsBy_254 : decode cX0_loadsBy 254 = .ok (.bipush (-9), 2) := dk_16 247 (dk_at dksX0_loadsBy_10 22 rfl rfl)
theorem dX0_loadsBy_256 : decode cX0_loadsBy 256 = .ok (.goto 5, 3) := dk_167 0 5 (dk_at dksX0_loadsBy_11 0 rfl rfl)
theorem dX0_loadsBy_259 : decode cX0_loadsBy 259 = .ok (.iload 7, 2) := dk_21 7 (dk_at dksX0_loadsBy_11 3 rfl rfl)
theorem dX0_loadsBy_261 : decode cX0_loadsBy 261 = .ok (.ireturn, 1) := dk_172 (dk_at dksX0_loadsBy_11 5 rfl rfl)
abbrev cX0_newRiver : ByteArray := prog_1_method_15_code
def yX0_newRiver : MethodName := ⟨RX0, "newRiver", "([I)I"⟩
def dkwX0_newRiver_17 : List UInt8 := [185, 0, 102, 1, 0, 42, 180, 0, 18, 185, 0, 54, 1, 0, 172]
abbrev dktX0_newRiver_17 : List UInt8 := dkwX0_newRiver_17 ++ []
def dkwX0_newRiver_16 : List UInt8 := [185, 0, 102, 1, 0, 42, 180, 0, 18, 45, 185, 0, 105, 2, 0, 87, 42, 180, 0, 28]
abbrev dktX0_newRiver_16 : List UInt8 := dkwX0_newRiver_16 ++ dktX0_newRiver_17
def dkwX0_newRiver_15 : List UInt8 := [21, 6, 96, 184, 0, 81, 79, 132, 6, 1, 167, 255, 219, 132, 5, 1, 167, 255, 204, 42, 180, 0, 18]
abbrev dktX0_newRiver_15 : List UInt8 := dkwX0_newRiver_15 ++ dktX0_newRiver_16
def dkwX0_newRiver_14 : List UInt8 := [162, 0, 37, 42, 180, 0, 11, 21, 5, 8, 104, 21, 6, 96, 43, 16, 7, 21, 5, 6, 28, 96, 104, 96]
abbrev dktX0_newRiver_14 : List UInt8 := dkwX0_newRiver_14 ++ dktX0_newRiver_15
def dkwX0_newRiver_13 : List UInt8 := [5, 184, 0, 81, 181, 0, 99, 3, 54, 5, 21, 5, 28, 162, 0, 52, 3, 54, 6, 21, 6, 28]
abbrev dktX0_newRiver_13 : List UInt8 := dkwX0_newRiver_13 ++ dktX0_newRiver_14
def dkwX0_newRiver_12 : List UInt8 := [21, 4, 43, 190, 162, 0, 9, 16, 156, 21, 4, 100, 172, 42, 43, 4, 184, 0, 81, 181, 0, 95, 42, 43]
abbrev dktX0_newRiver_12 : List UInt8 := dkwX0_newRiver_12 ++ dktX0_newRiver_13
def dkwX0_newRiver_11 : List UInt8 := [182, 0, 87, 185, 0, 91, 2, 0, 87, 21, 4, 6, 28, 96, 96, 54, 4, 132, 5, 1, 167, 255, 61]
abbrev dktX0_newRiver_11 : List UInt8 := dkwX0_newRiver_11 ++ dktX0_newRiver_12
def dkwX0_newRiver_10 : List UInt8 := [42, 21, 7, 21, 5, 43, 21, 4, 5, 96, 184, 0, 81, 4, 160, 0, 7, 4, 167, 0, 4, 3]
abbrev dktX0_newRiver_10 : List UInt8 := dkwX0_newRiver_10 ++ dktX0_newRiver_11
def dkwX0_newRiver_9 : List UInt8 := [16, 9, 184, 0, 77, 154, 0, 12, 16, 153, 21, 4, 100, 21, 8, 100, 172, 132, 8, 1, 167, 255, 210, 45]
abbrev dktX0_newRiver_9 : List UInt8 := dkwX0_newRiver_9 ++ dktX0_newRiver_10
def dkwX0_newRiver_8 : List UInt8 := [162, 0, 46, 43, 21, 4, 6, 96, 21, 8, 96, 3, 21, 8, 21, 5, 160, 0, 7, 3, 167, 0, 5]
abbrev dktX0_newRiver_8 : List UInt8 := dkwX0_newRiver_8 ++ dktX0_newRiver_9
def dkwX0_newRiver_7 : List UInt8 := [21, 4, 5, 96, 3, 4, 184, 0, 77, 154, 0, 9, 16, 154, 21, 4, 100, 172, 3, 54, 8, 21, 8, 28]
abbrev dktX0_newRiver_7 : List UInt8 := dkwX0_newRiver_7 ++ dktX0_newRiver_8
def dkwX0_newRiver_6 : List UInt8 := [160, 0, 7, 5, 167, 0, 5, 16, 247, 54, 7, 21, 7, 156, 0, 9, 16, 155, 21, 4, 100, 172, 43]
abbrev dktX0_newRiver_6 : List UInt8 := dkwX0_newRiver_6 ++ dktX0_newRiver_7
def dkwX0_newRiver_5 : List UInt8 := [160, 0, 7, 3, 167, 0, 27, 21, 6, 16, 102, 160, 0, 7, 4, 167, 0, 16, 21, 6, 16, 98]
abbrev dktX0_newRiver_5 : List UInt8 := dkwX0_newRiver_5 ++ dktX0_newRiver_6
def dkwX0_newRiver_4 : List UInt8 := [159, 0, 9, 16, 156, 21, 4, 100, 172, 43, 21, 4, 4, 96, 184, 0, 73, 54, 6, 21, 6, 16, 114]
abbrev dktX0_newRiver_4 : List UInt8 := dkwX0_newRiver_4 ++ dktX0_newRiver_5
def dkwX0_newRiver_3 : List UInt8 := [183, 0, 84, 78, 7, 54, 4, 3, 54, 5, 21, 5, 28, 162, 0, 195, 43, 21, 4, 184, 0, 73, 16, 44]
abbrev dktX0_newRiver_3 : List UInt8 := dkwX0_newRiver_3 ++ dktX0_newRiver_4
def dkwX0_newRiver_2 : List UInt8 := [16, 156, 28, 100, 172, 132, 2, 1, 167, 255, 215, 43, 6, 184, 0, 81, 61, 187, 0, 15, 89, 8]
abbrev dktX0_newRiver_2 : List UInt8 := dkwX0_newRiver_2 ++ dktX0_newRiver_3
def dkwX0_newRiver_1 : List UInt8 := [160, 0, 7, 5, 167, 0, 4, 4, 28, 6, 160, 0, 7, 8, 167, 0, 4, 6, 184, 0, 77, 154, 0, 8]
abbrev dktX0_newRiver_1 : List UInt8 := dkwX0_newRiver_1 ++ dktX0_newRiver_2
def dkwX0_newRiver_0 : List UInt8 := [43, 3, 184, 0, 73, 16, 111, 159, 0, 6, 16, 156, 172, 4, 61, 28, 7, 162, 0, 42, 43, 28, 28, 6]
abbrev dktX0_newRiver_0 : List UInt8 := dkwX0_newRiver_0 ++ dktX0_newRiver_1
theorem dksX0_newRiver_0 : cX0_newRiver.data.toList.drop 0 = dktX0_newRiver_0 := by decide +kernel
theorem dksX0_newRiver_1 : cX0_newRiver.data.toList.drop 24 = dktX0_newRiver_1 := dk_seg dksX0_newRiver_0 24 rfl rfl
theorem dksX0_newRiver_2 : cX0_newRiver.data.toList.drop 48 = dktX0_newRiver_2 := dk_seg dksX0_newRiver_1 24 rfl rfl
theorem dksX0_newRiver_3 : cX0_newRiver.data.toList.drop 70 = dktX0_newRiver_3 := dk_seg dksX0_newRiver_2 22 rfl rfl
theorem dksX0_newRiver_4 : cX0_newRiver.data.toList.drop 94 = dktX0_newRiver_4 := dk_seg dksX0_newRiver_3 24 rfl rfl
theorem dksX0_newRiver_5 : cX0_newRiver.data.toList.drop 117 = dktX0_newRiver_5 := dk_seg dksX0_newRiver_4 23 rfl rfl
theorem dksX0_newRiver_6 : cX0_newRiver.data.toList.drop 139 = dktX0_newRiver_6 := dk_seg dksX0_newRiver_5 22 rfl rfl
theorem dksX0_newRiver_7 : cX0_newRiver.data.toList.drop 162 = dktX0_newRiver_7 := dk_seg dksX0_newRiver_6 23 rfl rfl
theorem dksX0_newRiver_8 : cX0_newRiver.data.toList.drop 186 = dktX0_newRiver_8 := dk_seg dksX0_newRiver_7 24 rfl rfl
theorem dksX0_newRiver_9 : cX0_newRiver.data.toList.drop 209 = dktX0_newRiver_9 := dk_seg dksX0_newRiver_8 23 rfl rfl
theorem dksX0_newRiver_10 : cX0_newRiver.data.toList.drop 233 = dktX0_newRiver_10 := dk_seg dksX0_newRiver_9 24 rfl rfl
theorem dksX0_newRiver_11 : cX0_newRiver.data.toList.drop 255 = dktX0_newRiver_11 := dk_seg dksX0_newRiver_10 22 rfl rfl
theorem dksX0_newRiver_12 : cX0_newRiver.data.toList.drop 278 = dktX0_newRiver_12 := dk_seg dksX0_newRiver_11 23 rfl rfl
theorem dksX0_newRiver_13 : cX0_newRiver.data.toList.drop 302 = dktX0_newRiver_13 := dk_seg dksX0_newRiver_12 24 rfl rfl
theorem dksX0_newRiver_14 : cX0_newRiver.data.toList.drop 324 = dktX0_newRiver_14 := dk_seg dksX0_newRiver_13 22 rfl rfl
theorem dksX0_newRiver_15 : cX0_newRiver.data.toList.drop 348 = dktX0_newRiver_15 := dk_seg dksX0_newRiver_14 24 rfl rfl
theorem dksX0_newRiver_16 : cX0_newRiver.data.toList.drop 371 = dktX0_newRiver_16 := dk_seg dksX0_newRiver_15 23 rfl rfl
theorem dksX0_newRiver_17 : cX0_newRiver.data.toList.drop 391 = dktX0_newRiver_17 := dk_seg dksX0_newRiver_16 20 rfl rfl
theorem dX0_newRiver_0 : decode cX0_newRiver 0 = .ok (.aload_n 1, 1) := dk_43 (dk_at dksX0_newRiver_0 0 rfl rfl)
theorem dX0_newRiver_1 : decode cX0_newRiver 1 = .ok (.iconst 0, 1) := dk_3 (dk_at dksX0_newRiver_0 1 rfl rfl)
theorem dX0_newRiver_2 : decode cX0_newRiver 2 = .ok (.invokestatic 73, 3) := dk_184 0 73 (dk_at dksX0_newRiver_0 2 rfl rfl)
theorem dX0_newRiver_5 : decode cX0_newRiver 5 = .ok (.bipush 111, 2) := dk_16 111 (dk_at dksX0_newRiver_0 5 rfl rfl)
theorem dX0_newRiver_7 : decode cX0_newRiver 7 = .ok (.if_icmp .eq 6, 3) := dk_159 0 6 (dk_at dksX0_newRiver_0 7 rfl rfl)
theorem dX0_newRiver_10 : decode cX0_newRiver 10 = .ok (.bipush (-100), 2) := dk_16 156 (dk_at dksX0_newRiver_0 10 rfl rfl)
theorem dX0_newRiver_12 : decode cX0_newRiver 12 = .ok (.ireturn, 1) := dk_172 (dk_at dksX0_newRiver_0 12 rfl rfl)
theorem dX0_newRiver_13 : decode cX0_newRiver 13 = .ok (.iconst 1, 1) := dk_4 (dk_at dksX0_newRiver_0 13 rfl rfl)
theorem dX0_newRiver_14 : decode cX0_newRiver 14 = .ok (.istore_n 2, 1) := dk_61 (dk_at dksX0_newRiver_0 14 rfl rfl)
theorem dX0_newRiver_15 : decode cX0_newRiver 15 = .ok (.iload_n 2, 1) := dk_28 (dk_at dksX0_newRiver_0 15 rfl rfl)
theorem dX0_newRiver_16 : decode cX0_newRiver 16 = .ok (.iconst 4, 1) := dk_7 (dk_at dksX0_newRiver_0 16 rfl rfl)
theorem dX0_newRiver_17 : decode cX0_newRiver 17 = .ok (.if_icmp .ge 42, 3) := dk_162 0 42 (dk_at dksX0_newRiver_0 17 rfl rfl)
theorem dX0_newRiver_20 : decode cX0_newRiver 20 = .ok (.aload_n 1, 1) := dk_43 (dk_at dksX0_newRiver_0 20 rfl rfl)
theorem dX0_newRiver_21 : decode cX0_newRiver 21 = .ok (.iload_n 2, 1) := dk_28 (dk_at dksX0_newRiver_0 21 rfl rfl)
theorem dX0_newRiver_22 : decode cX0_newRiver 22 = .ok (.iload_n 2, 1) := dk_28 (dk_at dksX0_newRiver_0 22 rfl rfl)
theorem dX0_newRiver_23 : decode cX0_newRiver 23 = .ok (.iconst 3, 1) := dk_6 (dk_at dksX0_newRiver_0 23 rfl rfl)
theorem dX0_newRiver_24 : decode cX0_newRiver 24 = .ok (.if_icmp .ne 7, 3) := dk_160 0 7 (dk_at dksX0_newRiver_1 0 rfl rfl)
theorem dX0_newRiver_27 : decode cX0_newRiver 27 = .ok (.iconst 2, 1) := dk_5 (dk_at dksX0_newRiver_1 3 rfl rfl)
theorem dX0_newRiver_28 : decode cX0_newRiver 28 = .ok (.goto 4, 3) := dk_167 0 4 (dk_at dksX0_newRiver_1 4 rfl rfl)
theorem dX0_newRiver_31 : decode cX0_newRiver 31 = .ok (.iconst 1, 1) := dk_4 (dk_at dksX0_newRiver_1 7 rfl rfl)
theorem dX0_newRiver_32 : decode cX0_newRiver 32 = .ok (.iload_n 2, 1) := dk_28 (dk_at dksX0_newRiver_1 8 rfl rfl)
theorem dX0_newRiver_33 : decode cX0_newRiver 33 = .ok (.iconst 3, 1) := dk_6 (dk_at dksX0_newRiver_1 9 rfl rfl)
theorem dX0_newRiver_34 : decode cX0_newRiver 34 = .ok (.if_icmp .ne 7, 3) := dk_160 0 7 (dk_at dksX0_newRiver_1 10 rfl rfl)
theorem dX0_newRiver_37 : decode cX0_newRiver 37 = .ok (.iconst 5, 1) := dk_8 (dk_at dksX0_newRiver_1 13 rfl rfl)
theorem dX0_newRiver_38 : decode cX0_newRiver 38 = .ok (.goto 4, 3) := dk_167 0 4 (dk_at dksX0_newRiver_1 14 rfl rfl)
theorem dX0_newRiver_41 : decode cX0_newRiver 41 = .ok (.iconst 3, 1) := dk_6 (dk_at dksX0_newRiver_1 17 rfl rfl)
theorem dX0_newRiver_42 : decode cX0_newRiver 42 = .ok (.invokestatic 77, 3) := dk_184 0 77 (dk_at dksX0_newRiver_1 18 rfl rfl)
theorem dX0_newRiver_45 : decode cX0_newRiver 45 = .ok (.ifCond .ne 8, 3) := dk_154 0 8 (dk_at dksX0_newRiver_1 21 rfl rfl)
theorem dX0_newRiver_48 : decode cX0_newRiver 48 = .ok (.bipush (-100), 2) := dk_16 156 (dk_at dksX0_newRiver_2 0 rfl rfl)
theorem dX0_newRiver_50 : decode cX0_newRiver 50 = .ok (.iload_n 2, 1) := dk_28 (dk_at dksX0_newRiver_2 2 rfl rfl)
theorem dX0_newRiver_51 : decode cX0_newRiver 51 = .ok (.isub, 1) := dk_100 (dk_at dksX0_newRiver_2 3 rfl rfl)
theorem dX0_newRiver_52 : decode cX0_newRiver 52 = .ok (.ireturn, 1) := dk_172 (dk_at dksX0_newRiver_2 4 rfl rfl)
theorem dX0_newRiver_53 : decode cX0_newRiver 53 = .ok (.iinc 2 1, 3) := dk_132 2 1 (dk_at dksX0_newRiver_2 5 rfl rfl)
theorem dX0_newRiver_56 : decode cX0_newRiver 56 = .ok (.goto (-41), 3) := dk_167 255 215 (dk_at dksX0_newRiver_2 8 rfl rfl)
theorem dX0_newRiver_59 : decode cX0_newRiver 59 = .ok (.aload_n 1, 1) := dk_43 (dk_at dksX0_newRiver_2 11 rfl rfl)
theorem dX0_newRiver_60 : decode cX0_newRiver 60 = .ok (.iconst 3, 1) := dk_6 (dk_at dksX0_newRiver_2 12 rfl rfl)
theorem dX0_newRiver_61 : decode cX0_newRiver 61 = .ok (.invokestatic 81, 3) := dk_184 0 81 (dk_at dksX0_newRiver_2 13 rfl rfl)
theorem dX0_newRiver_64 : decode cX0_newRiver 64 = .ok (.istore_n 2, 1) := dk_61 (dk_at dksX0_newRiver_2 16 rfl rfl)
theorem dX0_newRiver_65 : decode cX0_newRiver 65 = .ok (.new 15, 3) := dk_187 0 15 (dk_at dksX0_newRiver_2 17 rfl rfl)
theorem dX0_newRiver_68 : decode cX0_newRiver 68 = .ok (.dup, 1) := dk_89 (dk_at dksX0_newRiver_2 20 rfl rfl)
theorem dX0_newRiver_69 : decode cX0_newRiver 69 = .ok (.iconst 5, 1) := dk_8 (dk_at dksX0_newRiver_2 21 rfl rfl)
theorem dX0_newRiver_70 : decode cX0_newRiver 70 = .ok (.invokespecial 84, 3) := dk_183 0 84 (dk_at dksX0_newRiver_3 0 rfl rfl)
theorem dX0_newRiver_73 : decode cX0_newRiver 73 = .ok (.astore_n 3, 1) := dk_78 (dk_at dksX0_newRiver_3 3 rfl rfl)
theorem dX0_newRiver_74 : decode cX0_newRiver 74 = .ok (.iconst 4, 1) := dk_7 (dk_at dksX0_newRiver_3 4 rfl rfl)
theorem dX0_newRiver_75 : decode cX0_newRiver 75 = .ok (.istore 4, 2) := dk_54 4 (dk_at dksX0_newRiver_3 5 rfl rfl)
theorem dX0_newRiver_77 : decode cX0_newRiver 77 = .ok (.iconst 0, 1) := dk_3 (dk_at dksX0_newRiver_3 7 rfl rfl)
theorem dX0_newRiver_78 : decode cX0_newRiver 78 = .ok (.istore 5, 2) := dk_54 5 (dk_at dksX0_newRiver_3 8 rfl rfl)
theorem dX0_newRiver_80 : decode cX0_newRiver 80 = .ok (.iload 5, 2) := dk_21 5 (dk_at dksX0_newRiver_3 10 rfl rfl)
theorem dX0_newRiver_82 : decode cX0_newRiver 82 = .ok (.iload_n 2, 1) := dk_28 (dk_at dksX0_newRiver_3 12 rfl rfl)
theorem dX0_newRiver_83 : decode cX0_newRiver 83 = .ok (.if_icmp .ge 195, 3) := dk_162 0 195 (dk_at dksX0_newRiver_3 13 rfl rfl)
theorem dX0_newRiver_86 : decode cX0_newRiver 86 = .ok (.aload_n 1, 1) := dk_43 (dk_at dksX0_newRiver_3 16 rfl rfl)
theorem dX0_newRiver_87 : decode cX0_newRiver 87 = .ok (.iload 4, 2) := dk_21 4 (dk_at dksX0_newRiver_3 17 rfl rfl)
theorem dX0_newRiver_89 : decode cX0_newRiver 89 = .ok (.invokestatic 73, 3) := dk_184 0 73 (dk_at dksX0_newRiver_3 19 rfl rfl)
theorem dX0_newRiver_92 : decode cX0_newRiver 92 = .ok (.bipush 44, 2) := dk_16 44 (dk_at dksX0_newRiver_3 22 rfl rfl)
theorem dX0_newRiver_94 : decode cX0_newRiver 94 = .ok (.if_icmp .eq 9, 3) := dk_159 0 9 (dk_at dksX0_newRiver_4 0 rfl rfl)
theorem dX0_newRiver_97 : decode cX0_newRiver 97 = .ok (.bipush (-100), 2) := dk_16 156 (dk_at dksX0_newRiver_4 3 rfl rfl)
theorem dX0_newRiver_99 : decode cX0_newRiver 99 = .ok (.iload 4, 2) := dk_21 4 (dk_at dksX0_newRiver_4 5 rfl rfl)
theorem dX0_newRiver_101 : decode cX0_newRiver 101 = .ok (.isub, 1) := dk_100 (dk_at dksX0_newRiver_4 7 rfl rfl)
theorem dX0_newRiver_102 : decode cX0_newRiver 102 = .ok (.ireturn, 1) := dk_172 (dk_at dksX0_newRiver_4 8 rfl rfl)
theorem dX0_newRiver_103 : decode cX0_newRiver 103 = .ok (.aload_n 1, 1) := dk_43 (dk_at dksX0_newRiver_4 9 rfl rfl)
theorem dX0_newRiver_104 : decode cX0_newRiver 104 = .ok (.iload 4, 2) := dk_21 4 (dk_at dksX0_newRiver_4 10 rfl rfl)
theorem dX0_newRiver_106 : decode cX0_newRiver 106 = .ok (.iconst 1, 1) := dk_4 (dk_at dksX0_newRiver_4 12 rfl rfl)
theorem dX0_newRiver_107 : decode cX0_newRiver 107 = .ok (.iadd, 1) := dk_96 (dk_at dksX0_newRiver_4 13 rfl rfl)
theorem dX0_newRiver_108 : decode cX0_newRiver 108 = .ok (.invokestatic 73, 3) := dk_184 0 73 (dk_at dksX0_newRiver_4 14 rfl rfl)
theorem dX0_newRiver_111 : decode cX0_newRiver 111 = .ok (.istore 6, 2) := dk_54 6 (dk_at dksX0_newRiver_4 17 rfl rfl)
theorem dX0_newRiver_113 : decode cX0_newRiver 113 = .ok (.iload 6, 2) := dk_21 6 (dk_at dksX0_newRiver_4 19 rfl rfl)
theorem dX0_newRiver_115 : decode cX0_newRiver 115 = .ok (.bipush 114, 2) := dk_16 114 (dk_at dksX0_newRiver_4 21 rfl rfl)
theorem dX0_newRiver_117 : decode cX0_newRiver 117 = .ok (.if_icmp .ne 7, 3) := dk_160 0 7 (dk_at dksX0_newRiver_5 0 rfl rfl)
theorem dX0_newRiver_120 : decode cX0_newRiver 120 = .ok (.iconst 0, 1) := dk_3 (dk_at dksX0_newRiver_5 3 rfl rfl)
theorem dX0_newRiver_121 : decode cX0_newRiver 121 = .ok (.goto 27, 3) := dk_167 0 27 (dk_at dksX0_newRiver_5 4 rfl rfl)
theorem dX0_newRiver_124 : decode cX0_newRiver 124 = .ok (.iload 6, 2) := dk_21 6 (dk_at dksX0_newRiver_5 7 rfl rfl)
theorem dX0_newRiver_126 : decode cX0_newRiver 126 = .ok (.bipush 102, 2) := dk_16 102 (dk_at dksX0_newRiver_5 9 rfl rfl)
theorem dX0_newRiver_128 : decode cX0_newRiver 128 = .ok (.if_icmp .ne 7, 3) := dk_160 0 7 (dk_at dksX0_newRiver_5 11 rfl rfl)
theorem dX0_newRiver_131 : decode cX0_newRiver 131 = .ok (.iconst 1, 1) := dk_4 (dk_at dksX0_newRiver_5 14 rfl rfl)
theorem dX0_newRiver_132 : decode cX0_newRiver 132 = .ok (.goto 16, 3) := dk_167 0 16 (dk_at dksX0_newRiver_5 15 rfl rfl)
theorem dX0_newRiver_135 : decode cX0_newRiver 135 = .ok (.iload 6, 2) := dk_21 6 (dk_at dksX0_newRiver_5 18 rfl rfl)
theorem dX0_newRiver_137 : decode cX0_newRiver 137 = .ok (.bipush 98, 2) := dk_16 98 (dk_at dksX0_newRiver_5 20 rfl rfl)
theorem dX0_newRiver_139 : decode cX0_newRiver 139 = .ok (.if_icmp .ne 7, 3) := dk_160 0 7 (dk_at dksX0_newRiver_6 0 rfl rfl)
theorem dX0_newRiver_142 : decode cX0_newRiver 142 = .ok (.iconst 2, 1) := dk_5 (dk_at dksX0_newRiver_6 3 rfl rfl)
theorem dX0_newRiver_143 : decode cX0_newRiver 143 = .ok (.goto 5, 3) := dk_167 0 5 (dk_at dksX0_newRiver_6 4 rfl rfl)
theorem dX0_newRiver_146 : decode cX0_newRiver 146 = .ok (.bipush (-9), 2) := dk_16 247 (dk_at dksX0_newRiver_6 7 rfl rfl)
theorem dX0_newRiver_148 : decode cX0_newRiver 148 = .ok (.istore 7, 2) := dk_54 7 (dk_at dksX0_newRiver_6 9 rfl rfl)
theorem dX0_newRiver_150 : decode cX0_newRiver 150 = .ok (.iload 7, 2) := dk_21 7 (dk_at dksX0_newRiver_6 11 rfl rfl)
theorem dX0_newRiver_152 : decode cX0_newRiver 152 = .ok (.ifCond .ge 9, 3) := dk_156 0 9 (dk_at dksX0_newRiver_6 13 rfl rfl)
theorem dX0_newRiver_155 : decode cX0_newRiver 155 = .ok (.bipush (-101), 2) := dk_16 155 (dk_at dksX0_newRiver_6 16 rfl rfl)
theorem dX0_newRiver_157 : decode cX0_newRiver 157 = .ok (.iload 4, 2) := dk_21 4 (dk_at dksX0_newRiver_6 18 rfl rfl)
theorem dX0_newRiver_159 : decode cX0_newRiver 159 = .ok (.isub, 1) := dk_100 (dk_at dksX0_newRiver_6 20 rfl rfl)
theorem dX0_newRiver_160 : decode cX0_newRiver 160 = .ok (.ireturn, 1) := dk_172 (dk_at dksX0_newRiver_6 21 rfl rfl)
theorem dX0_newRiver_161 : decode cX0_newRiver 161 = .ok (.aload_n 1, 1) := dk_43 (dk_at dksX0_newRiver_6 22 rfl rfl)
theorem dX0_newRiver_162 : decode cX0_newRiver 162 = .ok (.iload 4, 2) := dk_21 4 (dk_at dksX0_newRiver_7 0 rfl rfl)
theorem dX0_newRiver_164 : decode cX0_newRiver 164 = .ok (.iconst 2, 1) := dk_5 (dk_at dksX0_newRiver_7 2 rfl rfl)
theorem dX0_newRiver_165 : decode cX0_newRiver 165 = .ok (.iadd, 1) := dk_96 (dk_at dksX0_newRiver_7 3 rfl rfl)
theorem dX0_newRiver_166 : decode cX0_newRiver 166 = .ok (.iconst 0, 1) := dk_3 (dk_at dksX0_newRiver_7 4 rfl rfl)
theorem dX0_newRiver_167 : decode cX0_newRiver 167 = .ok (.iconst 1, 1) := dk_4 (dk_at dksX0_newRiver_7 5 rfl rfl)
theorem dX0_newRiver_168 : decode cX0_newRiver 168 = .ok (.invokestatic 77, 3) := dk_184 0 77 (dk_at dksX0_newRiver_7 6 rfl rfl)
theorem dX0_newRiver_171 : decode cX0_newRiver 171 = .ok (.ifCond .ne 9, 3) := dk_154 0 9 (dk_at dksX0_newRiver_7 9 rfl rfl)
theorem dX0_newRiver_174 : decode cX0_newRiver 174 = .ok (.bipush (-102), 2) := dk_16 154 (dk_at dksX0_newRiver_7 12 rfl rfl)
theorem dX0_newRiver_176 : decode cX0_newRiver 176 = .ok (.iload 4, 2) := dk_21 4 (dk_at dksX0_newRiver_7 14 rfl rfl)
theorem dX0_newRiver_178 : decode cX0_newRiver 178 = .ok (.isub, 1) := dk_100 (dk_at dksX0_newRiver_7 16 rfl rfl)
theorem dX0_newRiver_179 : decode cX0_newRiver 179 = .ok (.ireturn, 1) := dk_172 (dk_at dksX0_newRiver_7 17 rfl rfl)
theorem dX0_newRiver_180 : decode cX0_newRiver 180 = .ok (.iconst 0, 1) := dk_3 (dk_at dksX0_newRiver_7 18 rfl rfl)
theorem dX0_newRiver_181 : decode cX0_newRiver 181 = .ok (.istore 8, 2) := dk_54 8 (dk_at dksX0_newRiver_7 19 rfl rfl)
theorem dX0_newRiver_183 : decode cX0_newRiver 183 = .ok (.iload 8, 2) := dk_21 8 (dk_at dksX0_newRiver_7 21 rfl rfl)
theorem dX0_newRiver_185 : decode cX0_newRiver 185 = .ok (.iload_n 2, 1) := dk_28 (dk_at dksX0_newRiver_7 23 rfl rfl)
theorem dX0_newRiver_186 : decode cX0_newRiver 186 = .ok (.if_icmp .ge 46, 3) := dk_162 0 46 (dk_at dksX0_newRiver_8 0 rfl rfl)
theorem dX0_newRiver_189 : decode cX0_newRiver 189 = .ok (.aload_n 1, 1) := dk_43 (dk_at dksX0_newRiver_8 3 rfl rfl)
theorem dX0_newRiver_190 : decode cX0_newRiver 190 = .ok (.iload 4, 2) := dk_21 4 (dk_at dksX0_newRiver_8 4 rfl rfl)
theorem dX0_newRiver_192 : decode cX0_newRiver 192 = .ok (.iconst 3, 1) := dk_6 (dk_at dksX0_newRiver_8 6 rfl rfl)
theorem dX0_newRiver_193 : decode cX0_newRiver 193 = .ok (.iadd, 1) := dk_96 (dk_at dksX0_newRiver_8 7 rfl rfl)
theorem dX0_newRiver_194 : decode cX0_newRiver 194 = .ok (.iload 8, 2) := dk_21 8 (dk_at dksX0_newRiver_8 8 rfl rfl)
theorem dX0_newRiver_196 : decode cX0_newRiver 196 = .ok (.iadd, 1) := dk_96 (dk_at dksX0_newRiver_8 10 rfl rfl)
theorem dX0_newRiver_197 : decode cX0_newRiver 197 = .ok (.iconst 0, 1) := dk_3 (dk_at dksX0_newRiver_8 11 rfl rfl)
theorem dX0_newRiver_198 : decode cX0_newRiver 198 = .ok (.iload 8, 2) := dk_21 8 (dk_at dksX0_newRiver_8 12 rfl rfl)
theorem dX0_newRiver_200 : decode cX0_newRiver 200 = .ok (.iload 5, 2) := dk_21 5 (dk_at dksX0_newRiver_8 14 rfl rfl)
theorem dX0_newRiver_202 : decode cX0_newRiver 202 = .ok (.if_icmp .ne 7, 3) := dk_160 0 7 (dk_at dksX0_newRiver_8 16 rfl rfl)
theorem dX0_newRiver_205 : decode cX0_newRiver 205 = .ok (.iconst 0, 1) := dk_3 (dk_at dksX0_newRiver_8 19 rfl rfl)
theorem dX0_newRiver_206 : decode cX0_newRiver 206 = .ok (.goto 5, 3) := dk_167 0 5 (dk_at dksX0_newRiver_8 20 rfl rfl)
theorem dX0_newRiver_209 : decode cX0_newRiver 209 = .ok (.bipush 9, 2) := dk_16 9 (dk_at dksX0_newRiver_9 0 rfl rfl)
theorem dX0_newRiver_211 : decode cX0_newRiver 211 = .ok (.invokestatic 77, 3) := dk_184 0 77 (dk_at dksX0_newRiver_9 2 rfl rfl)
theorem dX0_newRiver_214 : decode cX0_newRiver 214 = .ok (.ifCond .ne 12, 3) := dk_154 0 12 (dk_at dksX0_newRiver_9 5 rfl rfl)
theorem dX0_newRiver_217 : decode cX0_newRiver 217 = .ok (.bipush (-103), 2) := dk_16 153 (dk_at dksX0_newRiver_9 8 rfl rfl)
theorem dX0_newRiver_219 : decode cX0_newRiver 219 = .ok (.iload 4, 2) := dk_21 4 (dk_at dksX0_newRiver_9 10 rfl rfl)
theorem dX0_newRiver_221 : decode cX0_newRiver 221 = .ok (.isub, 1) := dk_100 (dk_at dksX0_newRiver_9 12 rfl rfl)
theorem dX0_newRiver_222 : decode cX0_newRiver 222 = .ok (.iload 8, 2) := dk_21 8 (dk_at dksX0_newRiver_9 13 rfl rfl)
theorem dX0_newRiver_224 : decode cX0_newRiver 224 = .ok (.isub, 1) := dk_100 (dk_at dksX0_newRiver_9 15 rfl rfl)
theorem dX0_newRiver_225 : decode cX0_newRiver 225 = .ok (.ireturn, 1) := dk_172 (dk_at dksX0_newRiver_9 16 rfl rfl)
theorem dX0_newRiver_226 : decode cX0_newRiver 226 = .ok (.iinc 8 1, 3) := dk_132 8 1 (dk_at dksX0_newRiver_9 17 rfl rfl)
theorem dX0_newRiver_229 : decode cX0_newRiver 229 = .ok (.goto (-46), 3) := dk_167 255 210 (dk_at dksX0_newRiver_9 20 rfl rfl)
theorem dX0_newRiver_232 : decode cX0_newRiver 232 = .ok (.aload_n 3, 1) := dk_45 (dk_at dksX0_newRiver_9 23 rfl rfl)
theorem dX0_newRiver_233 : decode cX0_newRiver 233 = .ok (.aload_n 0, 1) := dk_42 (dk_at dksX0_newRiver_10 0 rfl rfl)
theorem dX0_newRiver_234 : decode cX0_newRiver 234 = .ok (.iload 7, 2) := dk_21 7 (dk_at dksX0_newRiver_10 1 rfl rfl)
theorem dX0_newRiver_236 : decode cX0_newRiver 236 = .ok (.iload 5, 2) := dk_21 5 (dk_at dksX0_newRiver_10 3 rfl rfl)
theorem dX0_newRiver_238 : decode cX0_newRiver 238 = .ok (.aload_n 1, 1) := dk_43 (dk_at dksX0_newRiver_10 5 rfl rfl)
theorem dX0_newRiver_239 : decode cX0_newRiver 239 = .ok (.iload 4, 2) := dk_21 4 (dk_at dksX0_newRiver_10 6 rfl rfl)
theorem dX0_newRiver_241 : decode cX0_newRiver 241 = .ok (.iconst 2, 1) := dk_5 (dk_at dksX0_newRiver_10 8 rfl rfl)
theorem dX0_newRiver_242 : decode cX0_newRiver 242 = .ok (.iadd, 1) := dk_96 (dk_at dksX0_newRiver_10 9 rfl rfl)
theorem dX0_newRiver_243 : decode cX0_newRiver 243 = .ok (.invokestatic 81, 3) := dk_184 0 81 (dk_at dksX0_newRiver_10 10 rfl rfl)
theorem dX0_newRiver_246 : decode cX0_newRiver 246 = .ok (.iconst 1, 1) := dk_4 (dk_at dksX0_newRiver_10 13 rfl rfl)
theorem dX0_newRiver_247 : decode cX0_newRiver 247 = .ok (.if_icmp .ne 7, 3) := dk_160 0 7 (dk_at dksX0_newRiver_10 14 rfl rfl)
theorem dX0_newRiver_250 : decode cX0_newRiver 250 = .ok (.iconst 1, 1) := dk_4 (dk_at dksX0_newRiver_10 17 rfl rfl)
theorem dX0_newRiver_251 : decode cX0_newRiver 251 = .ok (.goto 4, 3) := dk_167 0 4 (dk_at dksX0_newRiver_10 18 rfl rfl)
theorem dX0_newRiver_254 : decode cX0_newRiver 254 = .ok (.iconst 0, 1) := dk_3 (dk_at dksX0_newRiver_10 21 rfl rfl)
theorem dX0_newRiver_255 : decode cX0_newRiver 255 = .ok (.invokevirtual 87, 3) := dk_182 0 87 (dk_at dksX0_newRiver_11 0 rfl rfl)
theorem dX0_newRiver_258 : decode cX0_newRiver 258 = .ok (.invokeinterface 91 2, 5) := by decide +kernel
theorem dX0_newRiver_263 : decode cX0_newRiver 263 = .ok (.pop, 1) := dk_87 (dk_at dksX0_newRiver_11 8 rfl rfl)
theorem dX0_newRiver_264 : decode cX0_newRiver 264 = .ok (.iload 4, 2) := dk_21 4 (dk_at dksX0_newRiver_11 9 rfl rfl)
theorem dX0_newRiver_266 : decode cX0_newRiver 266 = .ok (.iconst 3, 1) := dk_6 (dk_at dksX0_newRiver_11 11 rfl rfl)
theorem dX0_newRiver_267 : decode cX0_newRiver 267 = .ok (.iload_n 2, 1) := dk_28 (dk_at dksX0_newRiver_11 12 rfl rfl)
theorem dX0_newRiver_268 : decode cX0_newRiver 268 = .ok (.iadd, 1) := dk_96 (dk_at dksX0_newRiver_11 13 rfl rfl)
theorem dX0_newRiver_269 : decode cX0_newRiver 269 = .ok (.iadd, 1) := dk_96 (dk_at dksX0_newRiver_11 14 rfl rfl)
theorem dX0_newRiver_270 : decode cX0_newRiver 270 = .ok (.istore 4, 2) := dk_54 4 (dk_at dksX0_newRiver_11 15 rfl rfl)
theorem dX0_newRiver_272 : decode cX0_newRiver 272 = .ok (.iinc 5 1, 3) := dk_132 5 1 (dk_at dksX0_newRiver_11 17 rfl rfl)
theorem dX0_newRiver_275 : decode cX0_newRiver 275 = .ok (.goto (-195), 3) := dk_167 255 61 (dk_at dksX0_newRiver_11 20 rfl rfl)
theorem dX0_newRiver_278 : decode cX0_newRiver 278 = .ok (.iload 4, 2) := dk_21 4 (dk_at dksX0_newRiver_12 0 rfl rfl)
theorem dX0_newRiver_280 : decode cX0_newRiver 280 = .ok (.aload_n 1, 1) := dk_43 (dk_at dksX0_newRiver_12 2 rfl rfl)
theorem dX0_newRiver_281 : decode cX0_newRiver 281 = .ok (.arraylength, 1) := dk_190 (dk_at dksX0_newRiver_12 3 rfl rfl)
theorem dX0_newRiver_282 : decode cX0_newRiver 282 = .ok (.if_icmp .ge 9, 3) := dk_162 0 9 (dk_at dksX0_newRiver_12 4 rfl rfl)
theorem dX0_newRiver_285 : decode cX0_newRiver 285 = .ok (.bipush (-100), 2) := dk_16 156 (dk_at dksX0_newRiver_12 7 rfl rfl)
theorem dX0_newRiver_287 : decode cX0_newRiver 287 = .ok (.iload 4, 2) := dk_21 4 (dk_at dksX0_newRiver_12 9 rfl rfl)
theorem dX0_newRiver_289 : decode cX0_newRiver 289 = .ok (.isub, 1) := dk_100 (dk_at dksX0_newRiver_12 11 rfl rfl)
theorem dX0_newRiver_290 : decode cX0_newRiver 290 = .ok (.ireturn, 1) := dk_172 (dk_at dksX0_newRiver_12 12 rfl rfl)
theorem dX0_newRiver_291 : decode cX0_newRiver 291 = .ok (.aload_n 0, 1) := dk_42 (dk_at dksX0_newRiver_12 13 rfl rfl)
theorem dX0_newRiver_292 : decode cX0_newRiver 292 = .ok (.aload_n 1, 1) := dk_43 (dk_at dksX0_newRiver_12 14 rfl rfl)
theorem dX0_newRiver_293 : decode cX0_newRiver 293 = .ok (.iconst 1, 1) := dk_4 (dk_at dksX0_newRiver_12 15 rfl rfl)
theorem dX0_newRiver_294 : decode cX0_newRiver 294 = .ok (.invokestatic 81, 3) := dk_184 0 81 (dk_at dksX0_newRiver_12 16 rfl rfl)
theorem dX0_newRiver_297 : decode cX0_newRiver 297 = .ok (.putfield 95, 3) := dk_181 0 95 (dk_at dksX0_newRiver_12 19 rfl rfl)
theorem dX0_newRiver_300 : decode cX0_newRiver 300 = .ok (.aload_n 0, 1) := dk_42 (dk_at dksX0_newRiver_12 22 rfl rfl)
theorem dX0_newRiver_301 : decode cX0_newRiver 301 = .ok (.aload_n 1, 1) := dk_43 (dk_at dksX0_newRiver_12 23 rfl rfl)
theorem dX0_newRiver_302 : decode cX0_newRiver 302 = .ok (.iconst 2, 1) := dk_5 (dk_at dksX0_newRiver_13 0 rfl rfl)
theorem dX0_newRiver_303 : decode cX0_newRiver 303 = .ok (.invokestatic 81, 3) := dk_184 0 81 (dk_at dksX0_newRiver_13 1 rfl rfl)
theorem dX0_newRiver_306 : decode cX0_newRiver 306 = .ok (.putfield 99, 3) := dk_181 0 99 (dk_at dksX0_newRiver_13 4 rfl rfl)
theorem dX0_newRiver_309 : decode cX0_newRiver 309 = .ok (.iconst 0, 1) := dk_3 (dk_at dksX0_newRiver_13 7 rfl rfl)
theorem dX0_newRiver_310 : decode cX0_newRiver 310 = .ok (.istore 5, 2) := dk_54 5 (dk_at dksX0_newRiver_13 8 rfl rfl)
theorem dX0_newRiver_312 : decode cX0_newRiver 312 = .ok (.iload 5, 2) := dk_21 5 (dk_at dksX0_newRiver_13 10 rfl rfl)
theorem dX0_newRiver_314 : decode cX0_newRiver 314 = .ok (.iload_n 2, 1) := dk_28 (dk_at dksX0_newRiver_13 12 rfl rfl)
theorem dX0_newRiver_315 : decode cX0_newRiver 315 = .ok (.if_icmp .ge 52, 3) := dk_162 0 52 (dk_at dksX0_newRiver_13 13 rfl rfl)
theorem dX0_newRiver_318 : decode cX0_newRiver 318 = .ok (.iconst 0, 1) := dk_3 (dk_at dksX0_newRiver_13 16 rfl rfl)
theorem dX0_newRiver_319 : decode cX0_newRiver 319 = .ok (.istore 6, 2) := dk_54 6 (dk_at dksX0_newRiver_13 17 rfl rfl)
theorem dX0_newRiver_321 : decode cX0_newRiver 321 = .ok (.iload 6, 2) := dk_21 6 (dk_at dksX0_newRiver_13 19 rfl rfl)
theorem dX0_newRiver_323 : decode cX0_newRiver 323 = .ok (.iload_n 2, 1) := dk_28 (dk_at dksX0_newRiver_13 21 rfl rfl)
theorem dX0_newRiver_324 : decode cX0_newRiver 324 = .ok (.if_icmp .ge 37, 3) := dk_162 0 37 (dk_at dksX0_newRiver_14 0 rfl rfl)
theorem dX0_newRiver_327 : decode cX0_newRiver 327 = .ok (.aload_n 0, 1) := dk_42 (dk_at dksX0_newRiver_14 3 rfl rfl)
theorem dX0_newRiver_328 : decode cX0_newRiver 328 = .ok (.getfield 11, 3) := dk_180 0 11 (dk_at dksX0_newRiver_14 4 rfl rfl)
theorem dX0_newRiver_331 : decode cX0_newRiver 331 = .ok (.iload 5, 2) := dk_21 5 (dk_at dksX0_newRiver_14 7 rfl rfl)
theorem dX0_newRiver_333 : decode cX0_newRiver 333 = .ok (.iconst 5, 1) := dk_8 (dk_at dksX0_newRiver_14 9 rfl rfl)
theorem dX0_newRiver_334 : decode cX0_newRiver 334 = .ok (.imul, 1) := dk_104 (dk_at dksX0_newRiver_14 10 rfl rfl)
theorem dX0_newRiver_335 : decode cX0_newRiver 335 = .ok (.iload 6, 2) := dk_21 6 (dk_at dksX0_newRiver_14 11 rfl rfl)
theorem dX0_newRiver_337 : decode cX0_newRiver 337 = .ok (.iadd, 1) := dk_96 (dk_at dksX0_newRiver_14 13 rfl rfl)
theorem dX0_newRiver_338 : decode cX0_newRiver 338 = .ok (.aload_n 1, 1) := dk_43 (dk_at dksX0_newRiver_14 14 rfl rfl)
theorem dX0_newRiver_339 : decode cX0_newRiver 339 = .ok (.bipush 7, 2) := dk_16 7 (dk_at dksX0_newRiver_14 15 rfl rfl)
theorem dX0_newRiver_341 : decode cX0_newRiver 341 = .ok (.iload 5, 2) := dk_21 5 (dk_at dksX0_newRiver_14 17 rfl rfl)
theorem dX0_newRiver_343 : decode cX0_newRiver 343 = .ok (.iconst 3, 1) := dk_6 (dk_at dksX0_newRiver_14 19 rfl rfl)
theorem dX0_newRiver_344 : decode cX0_newRiver 344 = .ok (.iload_n 2, 1) := dk_28 (dk_at dksX0_newRiver_14 20 rfl rfl)
theorem dX0_newRiver_345 : decode cX0_newRiver 345 = .ok (.iadd, 1) := dk_96 (dk_at dksX0_newRiver_14 21 rfl rfl)
theorem dX0_newRiver_346 : decode cX0_newRiver 346 = .ok (.imul, 1) := dk_104 (dk_at dksX0_newRiver_14 22 rfl rfl)
theorem dX0_newRiver_347 : decode cX0_newRiver 347 = .ok (.iadd, 1) := dk_96 (dk_at dksX0_newRiver_14 23 rfl rfl)
theorem dX0_newRiver_348 : decode cX0_newRiver 348 = .ok (.iload 6, 2) := dk_21 6 (dk_at dksX0_newRiver_15 0 rfl rfl)
theorem dX0_newRiver_350 : decode cX0_newRiver 350 = .ok (.iadd, 1) := dk_96 (dk_at dksX0_newRiver_15 2 rfl rfl)
theorem dX0_newRiver_351 : decode cX0_newRiver 351 = .ok (.invokestatic 81, 3) := dk_184 0 81 (dk_at dksX0_newRiver_15 3 rfl rfl)
theorem dX0_newRiver_354 : decode cX0_newRiver 354 = .ok (.iastore, 1) := dk_79 (dk_at dksX0_newRiver_15 6 rfl rfl)
theorem dX0_newRiver_355 : decode cX0_newRiver 355 = .ok (.iinc 6 1, 3) := dk_132 6 1 (dk_at dksX0_newRiver_15 7 rfl rfl)
theorem dX0_newRiver_358 : decode cX0_newRiver 358 = .ok (.goto (-37), 3) := dk_167 255 219 (dk_at dksX0_newRiver_15 10 rfl rfl)
theorem dX0_newRiver_361 : decode cX0_newRiver 361 = .ok (.iinc 5 1, 3) := dk_132 5 1 (dk_at dksX0_newRiver_15 13 rfl rfl)
theorem dX0_newRiver_364 : decode cX0_newRiver 364 = .ok (.goto (-52), 3) := dk_167 255 204 (dk_at dksX0_newRiver_15 16 rfl rfl)
theorem dX0_newRiver_367 : decode cX0_newRiver 367 = .ok (.aload_n 0, 1) := dk_42 (dk_at dksX0_newRiver_15 19 rfl rfl)
theorem dX0_newRiver_368 : decode cX0_newRiver 368 = .ok (.getfield 18, 3) := dk_180 0 18 (dk_at dksX0_newRiver_15 20 rfl rfl)
theorem dX0_newRiver_371 : decode cX0_newRiver 371 = .ok (.invokeinterface 102 1, 5) := by decide +kernel
theorem dX0_newRiver_376 : decode cX0_newRiver 376 = .ok (.aload_n 0, 1) := dk_42 (dk_at dksX0_newRiver_16 5 rfl rfl)
theorem dX0_newRiver_377 : decode cX0_newRiver 377 = .ok (.getfield 18, 3) := dk_180 0 18 (dk_at dksX0_newRiver_16 6 rfl rfl)
theorem dX0_newRiver_380 : decode cX0_newRiver 380 = .ok (.aload_n 3, 1) := dk_45 (dk_at dksX0_newRiver_16 9 rfl rfl)
theorem dX0_newRiver_381 : decode cX0_newRiver 381 = .ok (.invokeinterface 105 2, 5) := by decide +kernel
theorem dX0_newRiver_386 : decode cX0_newRiver 386 = .ok (.pop, 1) := dk_87 (dk_at dksX0_newRiver_16 15 rfl rfl)
theorem dX0_newRiver_387 : decode cX0_newRiver 387 = .ok (.aload_n 0, 1) := dk_42 (dk_at dksX0_newRiver_16 16 rfl rfl)
theorem dX0_newRiver_388 : decode cX0_newRiver 388 = .ok (.getfield 28, 3) := dk_180 0 28 (dk_at dksX0_newRiver_16 17 rfl rfl)
theorem dX0_newRiver_391 : decode cX0_newRiver 391 = .ok (.invokeinterface 102 1, 5) := by decide +kernel
theorem dX0_newRiver_396 : decode cX0_newRiver 396 = .ok (.aload_n 0, 1) := dk_42 (dk_at dksX0_newRiver_17 5 rfl rfl)
theorem dX0_newRiver_397 : decode cX0_newRiver 397 = .ok (.getfield 18, 3) := dk_180 0 18 (dk_at dksX0_newRiver_17 6 rfl rfl)
theorem dX0_newRiver_400 : decode cX0_newRiver 400 = .ok (.invokeinterface 54 1, 5) := by decide +kernel
theorem dX0_newRiver_405 : decode cX0_newRiver 405 = .ok (.ireturn, 1) := dk_172 (dk_at dksX0_newRiver_17 14 rfl rfl)
abbrev cX0_codeAt : ByteArray := prog_1_method_12_code
def yX0_codeAt : MethodName := ⟨RX0, "codeAt", "([II)I"⟩
def dkwX0_codeAt_0 : List UInt8 := [27, 42, 190, 162, 0, 9, 42, 27, 46, 167, 0, 5, 16, 247, 172]
abbrev dktX0_codeAt_0 : List UInt8 := dkwX0_codeAt_0 ++ []
theorem dksX0_codeAt_0 : cX0_codeAt.data.toList.drop 0 = dktX0_codeAt_0 := by decide +kernel
theorem dX0_codeAt_0 : decode cX0_codeAt 0 = .ok (.iload_n 1, 1) := dk_27 (dk_at dksX0_codeAt_0 0 rfl rfl)
theorem dX0_codeAt_1 : decode cX0_codeAt 1 = .ok (.aload_n 0, 1) := dk_42 (dk_at dksX0_codeAt_0 1 rfl rfl)
theorem dX0_codeAt_2 : decode cX0_codeAt 2 = .ok (.arraylength, 1) := dk_190 (dk_at dksX0_codeAt_0 2 rfl rfl)
theorem dX0_codeAt_3 : decode cX0_codeAt 3 = .ok (.if_icmp .ge 9, 3) := dk_162 0 9 (dk_at dksX0_codeAt_0 3 rfl rfl)
theorem dX0_codeAt_6 : decode cX0_codeAt 6 = .ok (.aload_n 0, 1) := dk_42 (dk_at dksX0_codeAt_0 6 rfl rfl)
theorem dX0_codeAt_7 : decode cX0_codeAt 7 = .ok (.iload_n 1, 1) := dk_27 (dk_at dksX0_codeAt_0 7 rfl rfl)
theorem dX0_codeAt_8 : decode cX0_codeAt 8 = .ok (.iaload, 1) := dk_46 (dk_at dksX0_codeAt_0 8 rfl rfl)
theorem dX0_codeAt_9 : decode cX0_codeAt 9 = .ok (.goto 5, 3) := dk_167 0 5 (dk_at dksX0_codeAt_0 9 rfl rfl)
theorem dX0_codeAt_12 : decode cX0_codeAt 12 = .ok (.bipush (-9), 2) := dk_16 247 (dk_at dksX0_codeAt_0 12 rfl rfl)
theorem dX0_codeAt_14 : decode cX0_codeAt 14 = .ok (.ireturn, 1) := dk_172 (dk_at dksX0_codeAt_0 14 rfl rfl)
abbrev cX0_isFigure : ByteArray := prog_1_method_13_code
def yX0_isFigure : MethodName := ⟨RX0, "isFigure", "([IIII)Z"⟩
def dkwX0_isFigure_0 : List UInt8 := [42, 27, 184, 0, 73, 16, 48, 100, 133, 28, 133, 29, 133, 184, 0, 58, 172]
abbrev dktX0_isFigure_0 : List UInt8 := dkwX0_isFigure_0 ++ []
theorem dksX0_isFigure_0 : cX0_isFigure.data.toList.drop 0 = dktX0_isFigure_0 := by decide +kernel
theorem dX0_isFigure_0 : decode cX0_isFigure 0 = .ok (.aload_n 0, 1) := dk_42 (dk_at dksX0_isFigure_0 0 rfl rfl)
theorem dX0_isFigure_1 : decode cX0_isFigure 1 = .ok (.iload_n 1, 1) := dk_27 (dk_at dksX0_isFigure_0 1 rfl rfl)
theorem dX0_isFigure_2 : decode cX0_isFigure 2 = .ok (.invokestatic 73, 3) := dk_184 0 73 (dk_at dksX0_isFigure_0 2 rfl rfl)
theorem dX0_isFigure_5 : decode cX0_isFigure 5 = .ok (.bipush 48, 2) := dk_16 48 (dk_at dksX0_isFigure_0 5 rfl rfl)
theorem dX0_isFigure_7 : decode cX0_isFigure 7 = .ok (.isub, 1) := dk_100 (dk_at dksX0_isFigure_0 7 rfl rfl)
theorem dX0_isFigure_8 : decode cX0_isFigure 8 = .ok (.i2l, 1) := dk_133 (dk_at dksX0_isFigure_0 8 rfl rfl)
theorem dX0_isFigure_9 : decode cX0_isFigure 9 = .ok (.iload_n 2, 1) := dk_28 (dk_at dksX0_isFigure_0 9 rfl rfl)
theorem dX0_isFigure_10 : decode cX0_isFigure 10 = .ok (.i2l, 1) := dk_133 (dk_at dksX0_isFigure_0 10 rfl rfl)
theorem dX0_isFigure_11 : decode cX0_isFigure 11 = .ok (.iload_n 3, 1) := dk_29 (dk_at dksX0_isFigure_0 11 rfl rfl)
theorem dX0_isFigure_12 : decode cX0_isFigure 12 = .ok (.i2l, 1) := dk_133 (dk_at dksX0_isFigure_0 12 rfl rfl)
theorem dX0_isFigure_13 : decode cX0_isFigure 13 = .ok (.invokestatic 58, 3) := dk_184 0 58 (dk_at dksX0_isFigure_0 13 rfl rfl)
theorem dX0_isFigure_16 : decode cX0_isFigure 16 = .ok (.ireturn, 1) := dk_172 (dk_at dksX0_isFigure_0 16 rfl rfl)
abbrev cX0_figureAt : ByteArray := prog_1_method_14_code
def yX0_figureAt : MethodName := ⟨RX0, "figureAt", "([II)I"⟩
def dkwX0_figureAt_0 : List UInt8 := [42, 27, 46, 16, 48, 100, 172]
abbrev dktX0_figureAt_0 : List UInt8 := dkwX0_figureAt_0 ++ []
theorem dksX0_figureAt_0 : cX0_figureAt.data.toList.drop 0 = dktX0_figureAt_0 := by decide +kernel
theorem dX0_figureAt_0 : decode cX0_figureAt 0 = .ok (.aload_n 0, 1) := dk_42 (dk_at dksX0_figureAt_0 0 rfl rfl)
theorem dX0_figureAt_1 : decode cX0_figureAt 1 = .ok (.iload_n 1, 1) := dk_27 (dk_at dksX0_figureAt_0 1 rfl rfl)
theorem dX0_figureAt_2 : decode cX0_figureAt 2 = .ok (.iaload, 1) := dk_46 (dk_at dksX0_figureAt_0 2 rfl rfl)
theorem dX0_figureAt_3 : decode cX0_figureAt 3 = .ok (.bipush 48, 2) := dk_16 48 (dk_at dksX0_figureAt_0 3 rfl rfl)
theorem dX0_figureAt_5 : decode cX0_figureAt 5 = .ok (.isub, 1) := dk_100 (dk_at dksX0_figureAt_0 5 rfl rfl)
theorem dX0_figureAt_6 : decode cX0_figureAt 6 = .ok (.ireturn, 1) := dk_172 (dk_at dksX0_figureAt_0 6 rfl rfl)
abbrev cX0_loads : ByteArray := prog_1_method_62_code
def yX0_loads : MethodName := ⟨RX0, "loads", "(IIIII)I"⟩
def dkwX0_loads_2 : List UInt8 := [20, 1, 59, 20, 1, 61, 184, 0, 58, 153, 0, 7, 4, 167, 0, 4, 3, 182, 1, 48, 172]
abbrev dktX0_loads_2 : List UInt8 := dkwX0_loads_2 ++ []
def dkwX0_loads_1 : List UInt8 := [184, 0, 58, 153, 0, 35, 21, 5, 133, 9, 20, 0, 168, 184, 0, 58, 154, 0, 18, 21, 5, 133]
abbrev dktX0_loads_1 : List UInt8 := dkwX0_loads_1 ++ dktX0_loads_2
def dkwX0_loads_0 : List UInt8 := [42, 187, 1, 52, 89, 42, 27, 28, 29, 21, 4, 21, 5, 183, 1, 54, 21, 4, 133, 9, 20, 1, 57]
abbrev dktX0_loads_0 : List UInt8 := dkwX0_loads_0 ++ dktX0_loads_1
theorem dksX0_loads_0 : cX0_loads.data.toList.drop 0 = dktX0_loads_0 := by decide +kernel
theorem dksX0_loads_1 : cX0_loads.data.toList.drop 23 = dktX0_loads_1 := dk_seg dksX0_loads_0 23 rfl rfl
theorem dksX0_loads_2 : cX0_loads.data.toList.drop 45 = dktX0_loads_2 := dk_seg dksX0_loads_1 22 rfl rfl
theorem dX0_loads_0 : decode cX0_loads 0 = .ok (.aload_n 0, 1) := dk_42 (dk_at dksX0_loads_0 0 rfl rfl)
theorem dX0_loads_1 : decode cX0_loads 1 = .ok (.new 308, 3) := dk_187 1 52 (dk_at dksX0_loads_0 1 rfl rfl)
theorem dX0_loads_4 : decode cX0_loads 4 = .ok (.dup, 1) := dk_89 (dk_at dksX0_loads_0 4 rfl rfl)
theorem dX0_loads_5 : decode cX0_loads 5 = .ok (.aload_n 0, 1) := dk_42 (dk_at dksX0_loads_0 5 rfl rfl)
theorem dX0_loads_6 : decode cX0_loads 6 = .ok (.iload_n 1, 1) := dk_27 (dk_at dksX0_loads_0 6 rfl rfl)
theorem dX0_loads_7 : decode cX0_loads 7 = .ok (.iload_n 2, 1) := dk_28 (dk_at dksX0_loads_0 7 rfl rfl)
theorem dX0_loads_8 : decode cX0_loads 8 = .ok (.iload_n 3, 1) := dk_29 (dk_at dksX0_loads_0 8 rfl rfl)
theorem dX0_loads_9 : decode cX0_loads 9 = .ok (.iload 4, 2) := dk_21 4 (dk_at dksX0_loads_0 9 rfl rfl)
theorem dX0_loads_11 : decode cX0_loads 11 = .ok (.iload 5, 2) := dk_21 5 (dk_at dksX0_loads_0 11 rfl rfl)
theorem dX0_loads_13 : decode cX0_loads 13 = .ok (.invokespecial 310, 3) := dk_183 1 54 (dk_at dksX0_loads_0 13 rfl rfl)
theorem dX0_loads_16 : decode cX0_loads 16 = .ok (.iload 4, 2) := dk_21 4 (dk_at dksX0_loads_0 16 rfl rfl)
theorem dX0_loads_18 : decode cX0_loads 18 = .ok (.i2l, 1) := dk_133 (dk_at dksX0_loads_0 18 rfl rfl)
theorem dX0_loads_19 : decode cX0_loads 19 = .ok (.lconst 0, 1) := dk_9 (dk_at dksX0_loads_0 19 rfl rfl)
theorem dX0_loads_20 : decode cX0_loads 20 = .ok (.ldc2_w 313, 3) := dk_20 1 57 (dk_at dksX0_loads_0 20 rfl rfl)
theorem dX0_loads_23 : decode cX0_loads 23 = .ok (.invokestatic 58, 3) := dk_184 0 58 (dk_at dksX0_loads_1 0 rfl rfl)
theorem dX0_loads_26 : decode cX0_loads 26 = .ok (.ifCond .eq 35, 3) := dk_153 0 35 (dk_at dksX0_loads_1 3 rfl rfl)
theorem dX0_loads_29 : decode cX0_loads 29 = .ok (.iload 5, 2) := dk_21 5 (dk_at dksX0_loads_1 6 rfl rfl)
theorem dX0_loads_31 : decode cX0_loads 31 = .ok (.i2l, 1) := dk_133 (dk_at dksX0_loads_1 8 rfl rfl)
theorem dX0_loads_32 : decode cX0_loads 32 = .ok (.lconst 0, 1) := dk_9 (dk_at dksX0_loads_1 9 rfl rfl)
theorem dX0_loads_33 : decode cX0_loads 33 = .ok (.ldc2_w 168, 3) := dk_20 0 168 (dk_at dksX0_loads_1 10 rfl rfl)
theorem dX0_loads_36 : decode cX0_loads 36 = .ok (.invokestatic 58, 3) := dk_184 0 58 (dk_at dksX0_loads_1 13 rfl rfl)
theorem dX0_loads_39 : decode cX0_loads 39 = .ok (.ifCond .ne 18, 3) := dk_154 0 18 (dk_at dksX0_loads_1 16 rfl rfl)
theorem dX0_loads_42 : decode cX0_loads 42 = .ok (.iload 5, 2) := dk_21 5 (dk_at dksX0_loads_1 19 rfl rfl)
theorem dX0_loads_44 : decode cX0_loads 44 = .ok (.i2l, 1) := dk_133 (dk_at dksX0_loads_1 21 rfl rfl)
theorem dX0_loads_45 : decode cX0_loads 45 = .ok (.ldc2_w 315, 3) := dk_20 1 59 (dk_at dksX0_loads_2 0 rfl rfl)
theorem dX0_loads_48 : decode cX0_loads 48 = .ok (.ldc2_w 317, 3) := dk_20 1 61 (dk_at dksX0_loads_2 3 rfl rfl)
theorem dX0_loads_51 : decode cX0_loads 51 = .ok (.invokestatic 58, 3) := dk_184 0 58 (dk_at dksX0_loads_2 6 rfl rfl)
theorem dX0_loads_54 : decode cX0_loads 54 = .ok (.ifCond .eq 7, 3) := dk_153 0 7 (dk_at dksX0_loads_2 9 rfl rfl)
theorem dX0_loads_57 : decode cX0_loads 57 = .ok (.iconst 1, 1) := dk_4 (dk_at dksX0_loads_2 12 rfl rfl)
theorem dX0_loads_58 : decode cX0_loads 58 = .ok (.goto 4, 3) := dk_167 0 4 (dk_at dksX0_loads_2 13 rfl rfl)
theorem dX0_loads_61 : decode cX0_loads 61 = .ok (.iconst 0, 1) := dk_3 (dk_at dksX0_loads_2 16 rfl rfl)
theorem dX0_loads_62 : decode cX0_loads 62 = .ok (.invokevirtual 304, 3) := dk_182 1 48 (dk_at dksX0_loads_2 17 rfl rfl)
theorem dX0_loads_65 : decode cX0_loads 65 = .ok (.ireturn, 1) := dk_172 (dk_at dksX0_loads_2 20 rfl rfl)
abbrev cX0_copy : ByteArray := prog_1_method_63_code
def yX0_copy : MethodName := ⟨RX0, "copy", "(IIIII)I"⟩
def dkwX0_copy_1 : List UInt8 := [187, 1, 63, 89, 42, 27, 28, 29, 21, 4, 21, 5, 183, 1, 65, 182, 1, 66, 172]
abbrev dktX0_copy_1 : List UInt8 := dkwX0_copy_1 ++ []
def dkwX0_copy_0 : List UInt8 := [27, 184, 0, 231, 154, 0, 10, 29, 184, 0, 231, 153, 0, 11, 42, 2, 182, 0, 234, 167, 0, 21]
abbrev dktX0_copy_0 : List UInt8 := dkwX0_copy_0 ++ dktX0_copy_1
theorem dksX0_copy_0 : cX0_copy.data.toList.drop 0 = dktX0_copy_0 := by decide +kernel
theorem dksX0_copy_1 : cX0_copy.data.toList.drop 22 = dktX0_copy_1 := dk_seg dksX0_copy_0 22 rfl rfl
theorem dX0_copy_0 : decode cX0_copy 0 = .ok (.iload_n 1, 1) := dk_27 (dk_at dksX0_copy_0 0 rfl rfl)
theorem dX0_copy_1 : decode cX0_copy 1 = .ok (.invokestatic 231, 3) := dk_184 0 231 (dk_at dksX0_copy_0 1 rfl rfl)
theorem dX0_copy_4 : decode cX0_copy 4 = .ok (.ifCond .ne 10, 3) := dk_154 0 10 (dk_at dksX0_copy_0 4 rfl rfl)
theorem dX0_copy_7 : decode cX0_copy 7 = .ok (.iload_n 3, 1) := dk_29 (dk_at dksX0_copy_0 7 rfl rfl)
theorem dX0_copy_8 : decode cX0_copy 8 = .ok (.invokestatic 231, 3) := dk_184 0 231 (dk_at dksX0_copy_0 8 rfl rfl)
theorem dX0_copy_11 : decode cX0_copy 11 = .ok (.ifCond .eq 11, 3) := dk_153 0 11 (dk_at dksX0_copy_0 11 rfl rfl)
theorem dX0_copy_14 : decode cX0_copy 14 = .ok (.aload_n 0, 1) := dk_42 (dk_at dksX0_copy_0 14 rfl rfl)
theorem dX0_copy_15 : decode cX0_copy 15 = .ok (.iconst (-1), 1) := dk_2 (dk_at dksX0_copy_0 15 rfl rfl)
theorem dX0_copy_16 : decode cX0_copy 16 = .ok (.invokevirtual 234, 3) := dk_182 0 234 (dk_at dksX0_copy_0 16 rfl rfl)
theorem dX0_copy_19 : decode cX0_copy 19 = .ok (.goto 21, 3) := dk_167 0 21 (dk_at dksX0_copy_0 19 rfl rfl)
theorem dX0_copy_22 : decode cX0_copy 22 = .ok (.new 319, 3) := dk_187 1 63 (dk_at dksX0_copy_1 0 rfl rfl)
theorem dX0_copy_25 : decode cX0_copy 25 = .ok (.dup, 1) := dk_89 (dk_at dksX0_copy_1 3 rfl rfl)
theorem dX0_copy_26 : decode cX0_copy 26 = .ok (.aload_n 0, 1) := dk_42 (dk_at dksX0_copy_1 4 rfl rfl)
theorem dX0_copy_27 : decode cX0_copy 27 = .ok (.iload_n 1, 1) := dk_27 (dk_at dksX0_copy_1 5 rfl rfl)
theorem dX0_copy_28 : decode cX0_copy 28 = .ok (.iload_n 2, 1) := dk_28 (dk_at dksX0_copy_1 6 rfl rfl)
theorem dX0_copy_29 : decode cX0_copy 29 = .ok (.iload_n 3, 1) := dk_29 (dk_at dksX0_copy_1 7 rfl rfl)
theorem dX0_copy_30 : decode cX0_copy 30 = .ok (.iload 4, 2) := dk_21 4 (dk_at dksX0_copy_1 8 rfl rfl)
theorem dX0_copy_32 : decode cX0_copy 32 = .ok (.iload 5, 2) := dk_21 5 (dk_at dksX0_copy_1 10 rfl rfl)
theorem dX0_copy_34 : decode cX0_copy 34 = .ok (.invokespecial 321, 3) := dk_183 1 65 (dk_at dksX0_copy_1 12 rfl rfl)
theorem dX0_copy_37 : decode cX0_copy 37 = .ok (.invokevirtual 322, 3) := dk_182 1 66 (dk_at dksX0_copy_1 15 rfl rfl)
theorem dX0_copy_40 : decode cX0_copy 40 = .ok (.ireturn, 1) := dk_172 (dk_at dksX0_copy_1 18 rfl rfl)
abbrev cX0_tell : ByteArray := prog_1_method_64_code
def yX0_tell : MethodName := ⟨RX0, "tell", "(I)I"⟩
def dkwX0_tell_1 : List UInt8 := [192, 0, 37, 182, 1, 67, 172]
abbrev dktX0_tell_1 : List UInt8 := dkwX0_tell_1 ++ []
def dkwX0_tell_0 : List UInt8 := [42, 27, 182, 0, 62, 153, 0, 7, 2, 167, 0, 19, 42, 180, 0, 18, 27, 185, 0, 109, 2, 0]
abbrev dktX0_tell_0 : List UInt8 := dkwX0_tell_0 ++ dktX0_tell_1
theorem dksX0_tell_0 : cX0_tell.data.toList.drop 0 = dktX0_tell_0 := by decide +kernel
theorem dksX0_tell_1 : cX0_tell.data.toList.drop 22 = dktX0_tell_1 := dk_seg dksX0_tell_0 22 rfl rfl
theorem dX0_tell_0 : decode cX0_tell 0 = .ok (.aload_n 0, 1) := dk_42 (dk_at dksX0_tell_0 0 rfl rfl)
theorem dX0_tell_1 : decode cX0_tell 1 = .ok (.iload_n 1, 1) := dk_27 (dk_at dksX0_tell_0 1 rfl rfl)
theorem dX0_tell_2 : decode cX0_tell 2 = .ok (.invokevirtual 62, 3) := dk_182 0 62 (dk_at dksX0_tell_0 2 rfl rfl)
theorem dX0_tell_5 : decode cX0_tell 5 = .ok (.ifCond .eq 7, 3) := dk_153 0 7 (dk_at dksX0_tell_0 5 rfl rfl)
theorem dX0_tell_8 : decode cX0_tell 8 = .ok (.iconst (-1), 1) := dk_2 (dk_at dksX0_tell_0 8 rfl rfl)
theorem dX0_tell_9 : decode cX0_tell 9 = .ok (.goto 19, 3) := dk_167 0 19 (dk_at dksX0_tell_0 9 rfl rfl)
theorem dX0_tell_12 : decode cX0_tell 12 = .ok (.aload_n 0, 1) := dk_42 (dk_at dksX0_tell_0 12 rfl rfl)
theorem dX0_tell_13 : decode cX0_tell 13 = .ok (.getfield 18, 3) := dk_180 0 18 (dk_at dksX0_tell_0 13 rfl rfl)
theorem dX0_tell_16 : decode cX0_tell 16 = .ok (.iload_n 1, 1) := dk_27 (dk_at dksX0_tell_0 16 rfl rfl)
theorem dX0_tell_17 : decode cX0_tell 17 = .ok (.invokeinterface 109 2, 5) := by decide +kernel
theorem dX0_tell_22 : decode cX0_tell 22 = .ok (.checkcast 37, 3) := dk_192 0 37 (dk_at dksX0_tell_1 0 rfl rfl)
theorem dX0_tell_25 : decode cX0_tell 25 = .ok (.invokevirtual 323, 3) := dk_182 1 67 (dk_at dksX0_tell_1 3 rfl rfl)
theorem dX0_tell_28 : decode cX0_tell 28 = .ok (.ireturn, 1) := dk_172 (dk_at dksX0_tell_1 6 rfl rfl)
abbrev cX0_hail : ByteArray := prog_1_method_65_code
def yX0_hail : MethodName := ⟨RX0, "hail", "(I)I"⟩
def dkwX0_hail_1 : List UInt8 := [44, 185, 1, 72, 1, 0, 172]
abbrev dktX0_hail_1 : List UInt8 := dkwX0_hail_1 ++ []
def dkwX0_hail_0 : List UInt8 := [42, 27, 182, 0, 62, 153, 0, 5, 2, 172, 42, 180, 0, 18, 27, 185, 0, 109, 2, 0, 192, 1, 70, 77]
abbrev dktX0_hail_0 : List UInt8 := dkwX0_hail_0 ++ dktX0_hail_1
theorem dksX0_hail_0 : cX0_hail.data.toList.drop 0 = dktX0_hail_0 := by decide +kernel
theorem dksX0_hail_1 : cX0_hail.data.toList.drop 24 = dktX0_hail_1 := dk_seg dksX0_hail_0 24 rfl rfl
theorem dX0_hail_0 : decode cX0_hail 0 = .ok (.aload_n 0, 1) := dk_42 (dk_at dksX0_hail_0 0 rfl rfl)
theorem dX0_hail_1 : decode cX0_hail 1 = .ok (.iload_n 1, 1) := dk_27 (dk_at dksX0_hail_0 1 rfl rfl)
theorem dX0_hail_2 : decode cX0_hail 2 = .ok (.invokevirtual 62, 3) := dk_182 0 62 (dk_at dksX0_hail_0 2 rfl rfl)
theorem dX0_hail_5 : decode cX0_hail 5 = .ok (.ifCond .eq 5, 3) := dk_153 0 5 (dk_at dksX0_hail_0 5 rfl rfl)
theorem dX0_hail_8 : decode cX0_hail 8 = .ok (.iconst (-1), 1) := dk_2 (dk_at dksX0_hail_0 8 rfl rfl)
theorem dX0_hail_9 : decode cX0_hail 9 = .ok (.ireturn, 1) := dk_172 (dk_at dksX0_hail_0 9 rfl rfl)
theorem dX0_hail_10 : decode cX0_hail 10 = .ok (.aload_n 0, 1) := dk_42 (dk_at dksX0_hail_0 10 rfl rfl)
theorem dX0_hail_11 : decode cX0_hail 11 = .ok (.getfield 18, 3) := dk_180 0 18 (dk_at dksX0_hail_0 11 rfl rfl)
theorem dX0_hail_14 : decode cX0_hail 14 = .ok (.iload_n 1, 1) := dk_27 (dk_at dksX0_hail_0 14 rfl rfl)
theorem dX0_hail_15 : decode cX0_hail 15 = .ok (.invokeinterface 109 2, 5) := by decide +kernel
theorem dX0_hail_20 : decode cX0_hail 20 = .ok (.checkcast 326, 3) := dk_192 1 70 (dk_at dksX0_hail_0 20 rfl rfl)
theorem dX0_hail_23 : decode cX0_hail 23 = .ok (.astore_n 2, 1) := dk_77 (dk_at dksX0_hail_0 23 rfl rfl)
theorem dX0_hail_24 : decode cX0_hail 24 = .ok (.aload_n 2, 1) := dk_44 (dk_at dksX0_hail_1 0 rfl rfl)
theorem dX0_hail_25 : decode cX0_hail 25 = .ok (.invokeinterface 328 1, 5) := by decide +kernel
theorem dX0_hail_30 : decode cX0_hail 30 = .ok (.ireturn, 1) := dk_172 (dk_at dksX0_hail_1 6 rfl rfl)
abbrev cX0_as : ByteArray := prog_1_method_66_code
def yX0_as : MethodName := ⟨RX0, "as", "(II)I"⟩
def dkwX0_as_2 : List UInt8 := [183, 1, 77, 182, 1, 80, 167, 0, 9, 42, 16, 254, 182, 0, 234, 172]
abbrev dktX0_as_2 : List UInt8 := dkwX0_as_2 ++ []
def dkwX0_as_1 : List UInt8 := [153, 0, 31, 187, 1, 75, 89, 42, 42, 180, 0, 18, 27, 185, 0, 109, 2, 0, 192, 0, 37, 28]
abbrev dktX0_as_1 : List UInt8 := dkwX0_as_1 ++ dktX0_as_2
def dkwX0_as_0 : List UInt8 := [42, 27, 182, 0, 62, 153, 0, 9, 42, 2, 182, 0, 234, 172, 28, 133, 9, 20, 0, 237, 184, 0, 58]
abbrev dktX0_as_0 : List UInt8 := dkwX0_as_0 ++ dktX0_as_1
theorem dksX0_as_0 : cX0_as.data.toList.drop 0 = dktX0_as_0 := by decide +kernel
theorem dksX0_as_1 : cX0_as.data.toList.drop 23 = dktX0_as_1 := dk_seg dksX0_as_0 23 rfl rfl
theorem dksX0_as_2 : cX0_as.data.toList.drop 45 = dktX0_as_2 := dk_seg dksX0_as_1 22 rfl rfl
theorem dX0_as_0 : decode cX0_as 0 = .ok (.aload_n 0, 1) := dk_42 (dk_at dksX0_as_0 0 rfl rfl)
theorem dX0_as_1 : decode cX0_as 1 = .ok (.iload_n 1, 1) := dk_27 (dk_at dksX0_as_0 1 rfl rfl)
theorem dX0_as_2 : decode cX0_as 2 = .ok (.invokevirtual 62, 3) := dk_182 0 62 (dk_at dksX0_as_0 2 rfl rfl)
theorem dX0_as_5 : decode cX0_as 5 = .ok (.ifCond .eq 9, 3) := dk_153 0 9 (dk_at dksX0_as_0 5 rfl rfl)
theorem dX0_as_8 : decode cX0_as 8 = .ok (.aload_n 0, 1) := dk_42 (dk_at dksX0_as_0 8 rfl rfl)
theorem dX0_as_9 : decode cX0_as 9 = .ok (.iconst (-1), 1) := dk_2 (dk_at dksX0_as_0 9 rfl rfl)
theorem dX0_as_10 : decode cX0_as 10 = .ok (.invokevirtual 234, 3) := dk_182 0 234 (dk_at dksX0_as_0 10 rfl rfl)
theorem dX0_as_13 : decode cX0_as 13 = .ok (.ireturn, 1) := dk_172 (dk_at dksX0_as_0 13 rfl rfl)
theorem dX0_as_14 : decode cX0_as 14 = .ok (.iload_n 2, 1) := dk_28 (dk_at dksX0_as_0 14 rfl rfl)
theorem dX0_as_15 : decode cX0_as 15 = .ok (.i2l, 1) := dk_133 (dk_at dksX0_as_0 15 rfl rfl)
theorem dX0_as_16 : decode cX0_as 16 = .ok (.lconst 0, 1) := dk_9 (dk_at dksX0_as_0 16 rfl rfl)
theorem dX0_as_17 : decode cX0_as 17 = .ok (.ldc2_w 237, 3) := dk_20 0 237 (dk_at dksX0_as_0 17 rfl rfl)
theorem dX0_as_20 : decode cX0_as 20 = .ok (.invokestatic 58, 3) := dk_184 0 58 (dk_at dksX0_as_0 20 rfl rfl)
theorem dX0_as_23 : decode cX0_as 23 = .ok (.ifCond .eq 31, 3) := dk_153 0 31 (dk_at dksX0_as_1 0 rfl rfl)
theorem dX0_as_26 : decode cX0_as 26 = .ok (.new 331, 3) := dk_187 1 75 (dk_at dksX0_as_1 3 rfl rfl)
theorem dX0_as_29 : decode cX0_as 29 = .ok (.dup, 1) := dk_89 (dk_at dksX0_as_1 6 rfl rfl)
theorem dX0_as_30 : decode cX0_as 30 = .ok (.aload_n 0, 1) := dk_42 (dk_at dksX0_as_1 7 rfl rfl)
theorem dX0_as_31 : decode cX0_as 31 = .ok (.aload_n 0, 1) := dk_42 (dk_at dksX0_as_1 8 rfl rfl)
theorem dX0_as_32 : decode cX0_as 32 = .ok (.getfield 18, 3) := dk_180 0 18 (dk_at dksX0_as_1 9 rfl rfl)
theorem dX0_as_35 : decode cX0_as 35 = .ok (.iload_n 1, 1) := dk_27 (dk_at dksX0_as_1 12 rfl rfl)
theorem dX0_as_36 : decode cX0_as 36 = .ok (.invokeinterface 109 2, 5) := by decide +kernel
theorem dX0_as_41 : decode cX0_as 41 = .ok (.checkcast 37, 3) := dk_192 0 37 (dk_at dksX0_as_1 18 rfl rfl)
theorem dX0_as_44 : decode cX0_as 44 = .ok (.iload_n 2, 1) := dk_28 (dk_at dksX0_as_1 21 rfl rfl)
theorem dX0_as_45 : decode cX0_as 45 = .ok (.invokespecial 333, 3) := dk_183 1 77 (dk_at dksX0_as_2 0 rfl rfl)
theorem dX0_as_48 : decode cX0_as 48 = .ok (.invokevirtual 336, 3) := dk_182 1 80 (dk_at dksX0_as_2 3 rfl rfl)
theorem dX0_as_51 : decode cX0_as 51 = .ok (.goto 9, 3) := dk_167 0 9 (dk_at dksX0_as_2 6 rfl rfl)
theorem dX0_as_54 : decode cX0_as 54 = .ok (.aload_n 0, 1) := dk_42 (dk_at dksX0_as_2 9 rfl rfl)
theorem dX0_as_55 : decode cX0_as 55 = .ok (.bipush (-2), 2) := dk_16 254 (dk_at dksX0_as_2 10 rfl rfl)
theorem dX0_as_57 : decode cX0_as 57 = .ok (.invokevirtual 234, 3) := dk_182 0 234 (dk_at dksX0_as_2 12 rfl rfl)
theorem dX0_as_60 : decode cX0_as 60 = .ok (.ireturn, 1) := dk_172 (dk_at dksX0_as_2 15 rfl rfl)
abbrev cX0_trace : ByteArray := prog_1_method_67_code
def yX0_trace : MethodName := ⟨RX0, "trace", "()I"⟩
theorem dX0_trace_0 : decode cX0_trace 0 = .ok (.aload_n 0, 1) := by decide +kernel
theorem dX0_trace_1 : decode cX0_trace 1 = .ok (.getfield 337, 3) := by decide +kernel
theorem dX0_trace_4 : decode cX0_trace 4 = .ok (.ireturn, 1) := by decide +kernel
abbrev cX0_fault : ByteArray := prog_1_method_68_code
def yX0_fault : MethodName := ⟨RX0, "fault", "()I"⟩
theorem dX0_fault_0 : decode cX0_fault 0 = .ok (.aload_n 0, 1) := by decide +kernel
theorem dX0_fault_1 : decode cX0_fault 1 = .ok (.getfield 219, 3) := by decide +kernel
theorem dX0_fault_4 : decode cX0_fault 4 = .ok (.ireturn, 1) := by decide +kernel
abbrev cX0_many : ByteArray := prog_1_method_69_code
def yX0_many : MethodName := ⟨RX0, "many", "(I)I"⟩
def dkwX0_many_3 : List UInt8 := [185, 0, 54, 1, 0, 172, 16, 254, 172]
abbrev dktX0_many_3 : List UInt8 := dkwX0_many_3 ++ []
def dkwX0_many_2 : List UInt8 := [42, 180, 0, 18, 185, 0, 54, 1, 0, 172, 42, 180, 0, 95, 172, 42, 180, 0, 99, 172, 42, 180, 0, 28]
abbrev dktX0_many_2 : List UInt8 := dkwX0_many_2 ++ dktX0_many_3
def dkwX0_many_1 : List UInt8 := [170, 0, 0, 0, 0, 0, 61, 0, 0, 0, 0, 0, 0, 0, 3, 0, 0, 0, 31, 0, 0, 0, 41, 0, 0, 0, 46, 0, 0, 0, 51]
abbrev dktX0_many_1 : List UInt8 := dkwX0_many_1 ++ dktX0_many_2
def dkwX0_many_0 : List UInt8 := [27]
abbrev dktX0_many_0 : List UInt8 := dkwX0_many_0 ++ dktX0_many_1
theorem dksX0_many_0 : cX0_many.data.toList.drop 0 = dktX0_many_0 := by decide +kernel
theorem dksX0_many_1 : cX0_many.data.toList.drop 1 = dktX0_many_1 := dk_seg dksX0_many_0 1 rfl rfl
theorem dksX0_many_2 : cX0_many.data.toList.drop 32 = dktX0_many_2 := dk_seg dksX0_many_1 31 rfl rfl
theorem dksX0_many_3 : cX0_many.data.toList.drop 56 = dktX0_many_3 := dk_seg dksX0_many_2 24 rfl rfl
theorem dX0_many_0 : decode cX0_many 0 = .ok (.iload_n 1, 1) := dk_27 (dk_at dksX0_many_0 0 rfl rfl)
theorem dX0_many_1 : decode cX0_many 1 = .ok (.tableswitch 61 0 3 #[31, 41, 46, 51], 31) := by decide +kernel
theorem dX0_many_32 : decode cX0_many 32 = .ok (.aload_n 0, 1) := dk_42 (dk_at dksX0_many_2 0 rfl rfl)
theorem dX0_many_33 : decode cX0_many 33 = .ok (.getfield 18, 3) := dk_180 0 18 (dk_at dksX0_many_2 1 rfl rfl)
theorem dX0_many_36 : decode cX0_many 36 = .ok (.invokeinterface 54 1, 5) := by decide +kernel
theorem dX0_many_41 : decode cX0_many 41 = .ok (.ireturn, 1) := dk_172 (dk_at dksX0_many_2 9 rfl rfl)
theorem dX0_many_42 : decode cX0_many 42 = .ok (.aload_n 0, 1) := dk_42 (dk_at dksX0_many_2 10 rfl rfl)
theorem dX0_many_43 : decode cX0_many 43 = .ok (.getfield 95, 3) := dk_180 0 95 (dk_at dksX0_many_2 11 rfl rfl)
theorem dX0_many_46 : decode cX0_many 46 = .ok (.ireturn, 1) := dk_172 (dk_at dksX0_many_2 14 rfl rfl)
theorem dX0_many_47 : decode cX0_many 47 = .ok (.aload_n 0, 1) := dk_42 (dk_at dksX0_many_2 15 rfl rfl)
theorem dX0_many_48 : decode cX0_many 48 = .ok (.getfield 99, 3) := dk_180 0 99 (dk_at dksX0_many_2 16 rfl rfl)
theorem dX0_many_51 : decode cX0_many 51 = .ok (.ireturn, 1) := dk_172 (dk_at dksX0_many_2 19 rfl rfl)
theorem dX0_many_52 : decode cX0_many 52 = .ok (.aload_n 0, 1) := dk_42 (dk_at dksX0_many_2 20 rfl rfl)
theorem dX0_many_53 : decode cX0_many 53 = .ok (.getfield 28, 3) := dk_180 0 28 (dk_at dksX0_many_2 21 rfl rfl)
theorem dX0_many_56 : decode cX0_many 56 = .ok (.invokeinterface 54 1, 5) := by decide +kernel
theorem dX0_many_61 : decode cX0_many 61 = .ok (.ireturn, 1) := dk_172 (dk_at dksX0_many_3 5 rfl rfl)
theorem dX0_many_62 : decode cX0_many 62 = .ok (.bipush (-2), 2) := dk_16 254 (dk_at dksX0_many_3 6 rfl rfl)
theorem dX0_many_64 : decode cX0_many 64 = .ok (.ireturn, 1) := dk_172 (dk_at dksX0_many_3 8 rfl rfl)
theorem q54 : (Jvm.Cond.initialized "DebtFerry") ∈ lw_all := lw_g (lw_at lw_m1 1 rfl) rfl
theorem q88 : (Jvm.Cond.instantiable "DebtFerry" (10 : Nat)) ∈ lw_all := lw_g (lw_at lw_m1 35 rfl) rfl
theorem q90 : (Jvm.Cond.instanceMethod ({ cls := "DebtFerry", name := "<init>", desc := "()V" } : Jvm.MethodName)) ∈ lw_all := lw_g (lw_at lw_m1 37 rfl) rfl
theorem q91 : (Jvm.Cond.code ({ cls := "DebtFerry", name := "<init>", desc := "()V" } : Jvm.MethodName) prog_1_method_3_code (1 : Nat) (Option.none : Option Jvm.ClassFile.FieldType)) ∈ lw_all := lw_g (lw_at lw_m1 38 rfl) rfl
theorem q92 : (Jvm.Cond.methodLink "DebtFerry" (3 : Nat) ({ cls := "java/lang/Object", name := "<init>", desc := "()V" } : Jvm.MethodName)) ∈ lw_all := lw_g (lw_at lw_m1 39 rfl) rfl
theorem q95 : (Jvm.Cond.classLink "DebtFerry" (15 : Nat) "java/util/ArrayList") ∈ lw_all := lw_g (lw_at lw_m1 42 rfl) rfl
theorem q97 : (Jvm.Cond.methodLink "DebtFerry" (17 : Nat) ({ cls := "java/util/ArrayList", name := "<init>", desc := "()V" } : Jvm.MethodName)) ∈ lw_all := lw_g (lw_at lw_m1 44 rfl) rfl
theorem q122 : (Jvm.Cond.classLink "DebtFerry" (31 : Nat) "DebtFerry$Sheet") ∈ lw_all := lw_g (lw_at lw_m1 69 rfl) rfl
theorem q125 : (Jvm.Cond.fieldLink "DebtFerry" (337 : Nat) "DebtFerry" "trace" "I") ∈ lw_all := lw_g (lw_at lw_m1 72 rfl) rfl
theorem q126 : (Jvm.Cond.fieldLink "DebtFerry" (95 : Nat) "DebtFerry" "room" "I") ∈ lw_all := lw_g (lw_at lw_m1 73 rfl) rfl
theorem q128 : (Jvm.Cond.fieldLink "DebtFerry" (99 : Nat) "DebtFerry" "timesNow" "I") ∈ lw_all := lw_g (lw_at lw_m1 75 rfl) rfl
theorem q129 : (Jvm.Cond.fieldLink "DebtFerry" (11 : Nat) "DebtFerry" "noteAt" "[I") ∈ lw_all := lw_g (lw_at lw_m1 76 rfl) rfl
theorem q130 : (Jvm.Cond.fieldLink "DebtFerry" (18 : Nat) "DebtFerry" "people" "Ljava/util/List;") ∈ lw_all := lw_g (lw_at lw_m1 77 rfl) rfl
theorem q132 : (Jvm.Cond.fieldLink "DebtFerry" (22 : Nat) "DebtFerry" "fewestOf" "[I") ∈ lw_all := lw_g (lw_at lw_m1 79 rfl) rfl
theorem q133 : (Jvm.Cond.fieldLink "DebtFerry" (25 : Nat) "DebtFerry" "kept" "[I") ∈ lw_all := lw_g (lw_at lw_m1 80 rfl) rfl
theorem q134 : (Jvm.Cond.fieldLink "DebtFerry" (28 : Nat) "DebtFerry" "readings" "Ljava/util/List;") ∈ lw_all := lw_g (lw_at lw_m1 81 rfl) rfl
theorem q136 : (Jvm.Cond.fieldLink "DebtFerry" (219 : Nat) "DebtFerry" "fault" "I") ∈ lw_all := lw_g (lw_at lw_m1 83 rfl) rfl
theorem q137 : (Jvm.Cond.fieldLink "DebtFerry" (33 : Nat) "DebtFerry" "sheets" "[LDebtFerry$Sheet;") ∈ lw_all := lw_g (lw_at lw_m1 84 rfl) rfl
theorem q138 : (Jvm.Cond.lays "DebtFerry" "DebtFerry" "trace" "I") ∈ lw_all := lw_g (lw_at lw_m1 85 rfl) rfl
theorem q139 : (Jvm.Cond.soleField "DebtFerry" "trace") ∈ lw_all := lw_g (lw_at lw_m1 86 rfl) rfl
theorem q140 : (Jvm.Cond.lays "DebtFerry" "DebtFerry" "room" "I") ∈ lw_all := lw_g (lw_at lw_m1 87 rfl) rfl
theorem q141 : (Jvm.Cond.soleField "DebtFerry" "room") ∈ lw_all := lw_g (lw_at lw_m1 88 rfl) rfl
theorem q142 : (Jvm.Cond.lays "DebtFerry" "DebtFerry" "timesNow" "I") ∈ lw_all := lw_g (lw_at lw_m1 89 rfl) rfl
theorem q143 : (Jvm.Cond.soleField "DebtFerry" "timesNow") ∈ lw_all := lw_g (lw_at lw_m1 90 rfl) rfl
theorem q144 : (Jvm.Cond.laysFinal "DebtFerry" "DebtFerry" "noteAt" "[I") ∈ lw_all := lw_g (lw_at lw_m1 91 rfl) rfl
theorem q145 : (Jvm.Cond.soleField "DebtFerry" "noteAt") ∈ lw_all := lw_g (lw_at lw_m1 92 rfl) rfl
theorem q146 : (Jvm.Cond.laysFinal "DebtFerry" "DebtFerry" "people" "Ljava/util/List;") ∈ lw_all := lw_g (lw_at lw_m1 93 rfl) rfl
theorem q147 : (Jvm.Cond.soleField "DebtFerry" "people") ∈ lw_all := lw_g (lw_at lw_m1 94 rfl) rfl
theorem q148 : (Jvm.Cond.laysFinal "DebtFerry" "DebtFerry" "fewestOf" "[I") ∈ lw_all := lw_g (lw_at lw_m1 95 rfl) rfl
theorem q149 : (Jvm.Cond.soleField "DebtFerry" "fewestOf") ∈ lw_all := lw_g (lw_at lw_m1 96 rfl) rfl
theorem q150 : (Jvm.Cond.laysFinal "DebtFerry" "DebtFerry" "kept" "[I") ∈ lw_all := lw_g (lw_at lw_m1 97 rfl) rfl
theorem q151 : (Jvm.Cond.soleField "DebtFerry" "kept") ∈ lw_all := lw_g (lw_at lw_m1 98 rfl) rfl
theorem q152 : (Jvm.Cond.laysFinal "DebtFerry" "DebtFerry" "readings" "Ljava/util/List;") ∈ lw_all := lw_g (lw_at lw_m1 99 rfl) rfl
theorem q153 : (Jvm.Cond.soleField "DebtFerry" "readings") ∈ lw_all := lw_g (lw_at lw_m1 100 rfl) rfl
theorem q154 : (Jvm.Cond.lays "DebtFerry" "DebtFerry" "fault" "I") ∈ lw_all := lw_g (lw_at lw_m1 101 rfl) rfl
theorem q155 : (Jvm.Cond.soleField "DebtFerry" "fault") ∈ lw_all := lw_g (lw_at lw_m1 102 rfl) rfl
theorem q156 : (Jvm.Cond.laysFinal "DebtFerry" "DebtFerry" "sheets" "[LDebtFerry$Sheet;") ∈ lw_all := lw_g (lw_at lw_m1 103 rfl) rfl
theorem q157 : (Jvm.Cond.soleField "DebtFerry" "sheets") ∈ lw_all := lw_g (lw_at lw_m1 104 rfl) rfl
theorem q158 : (Jvm.Cond.superclass "DebtFerry" "java/lang/Object") ∈ lw_all := lw_g (lw_at lw_m1 105 rfl) rfl
theorem q160 : (Jvm.Cond.instanceMethod ({ cls := "DebtFerry", name := "ofPerson", desc := "(II)I" } : Jvm.MethodName)) ∈ lw_all := lw_g (lw_at lw_m1 107 rfl) rfl
theorem q161 : (Jvm.Cond.selects "DebtFerry" ({ cls := "DebtFerry", name := "ofPerson", desc := "(II)I" } : Jvm.MethodName) ({ cls := "DebtFerry", name := "ofPerson", desc := "(II)I" } : Jvm.MethodName)) ∈ lw_all := lw_g (lw_at lw_m1 108 rfl) rfl
theorem q162 : (Jvm.Cond.code ({ cls := "DebtFerry", name := "ofPerson", desc := "(II)I" } : Jvm.MethodName) prog_1_method_16_code (4 : Nat) (Option.some Jvm.ClassFile.FieldType.int)) ∈ lw_all := lw_g (lw_at lw_m1 109 rfl) rfl
theorem q163 : (Jvm.Cond.methodLink "DebtFerry" (62 : Nat) ({ cls := "DebtFerry", name := "noPerson", desc := "(I)Z" } : Jvm.MethodName)) ∈ lw_all := lw_g (lw_at lw_m1 110 rfl) rfl
theorem q164 : (Jvm.Cond.privateMethod ({ cls := "DebtFerry", name := "noPerson", desc := "(I)Z" } : Jvm.MethodName)) ∈ lw_tbl := lw_at lw_m1 111 rfl
theorem q165 : (Jvm.Cond.instanceMethod ({ cls := "DebtFerry", name := "noPerson", desc := "(I)Z" } : Jvm.MethodName)) ∈ lw_all := lw_g (lw_at lw_m1 112 rfl) rfl
theorem q166 : (Jvm.Cond.code ({ cls := "DebtFerry", name := "noPerson", desc := "(I)Z" } : Jvm.MethodName) prog_1_method_6_code (2 : Nat) (Option.some Jvm.ClassFile.FieldType.boolean)) ∈ lw_all := lw_g (lw_at lw_m1 113 rfl) rfl
theorem q167 : (Jvm.Cond.interfaceEntry "DebtFerry" (54 : Nat)) ∈ lw_tbl := lw_at lw_m1 114 rfl
theorem q168 : (Jvm.Cond.methodLink "DebtFerry" (54 : Nat) ({ cls := "java/util/List", name := "size", desc := "()I" } : Jvm.MethodName)) ∈ lw_all := lw_g (lw_at lw_m1 115 rfl) rfl
theorem q177 : (Jvm.Cond.methodLink "DebtFerry" (58 : Nat) ({ cls := "DebtFerry", name := "in", desc := "(JJJ)Z" } : Jvm.MethodName)) ∈ lw_all := lw_g (lw_at lw_m1 124 rfl) rfl
theorem q178 : (Jvm.Cond.static ({ cls := "DebtFerry", name := "in", desc := "(JJJ)Z" } : Jvm.MethodName)) ∈ lw_all := lw_g (lw_at lw_m1 125 rfl) rfl
theorem q179 : (Jvm.Cond.code ({ cls := "DebtFerry", name := "in", desc := "(JJJ)Z" } : Jvm.MethodName) prog_1_method_1_code (6 : Nat) (Option.some Jvm.ClassFile.FieldType.boolean)) ∈ lw_all := lw_g (lw_at lw_m1 126 rfl) rfl
theorem q180 : (Jvm.Cond.interfaceEntry "DebtFerry" (109 : Nat)) ∈ lw_tbl := lw_at lw_m1 127 rfl
theorem q181 : (Jvm.Cond.methodLink "DebtFerry" (109 : Nat) ({ cls := "java/util/List", name := "get", desc := "(I)Ljava/lang/Object;" } : Jvm.MethodName)) ∈ lw_all := lw_g (lw_at lw_m1 128 rfl) rfl
theorem q199 : (Jvm.Cond.classLink "DebtFerry" (37 : Nat) "DebtFerry$Rider") ∈ lw_all := lw_g (lw_at lw_m1 146 rfl) rfl
theorem q200 : (Jvm.Cond.methodLink "DebtFerry" (113 : Nat) ({ cls := "DebtFerry$Rider", name := "kind", desc := "()I" } : Jvm.MethodName)) ∈ lw_all := lw_g (lw_at lw_m1 147 rfl) rfl
theorem q211 : (Jvm.Cond.methodLink "DebtFerry" (120 : Nat) ({ cls := "DebtFerry", name := "allOwedBy", desc := "(I)I" } : Jvm.MethodName)) ∈ lw_all := lw_g (lw_at lw_m1 158 rfl) rfl
theorem q212 : (Jvm.Cond.privateMethod ({ cls := "DebtFerry", name := "allOwedBy", desc := "(I)I" } : Jvm.MethodName)) ∈ lw_tbl := lw_at lw_m1 159 rfl
theorem q213 : (Jvm.Cond.instanceMethod ({ cls := "DebtFerry", name := "allOwedBy", desc := "(I)I" } : Jvm.MethodName)) ∈ lw_all := lw_g (lw_at lw_m1 160 rfl) rfl
theorem q214 : (Jvm.Cond.code ({ cls := "DebtFerry", name := "allOwedBy", desc := "(I)I" } : Jvm.MethodName) prog_1_method_11_code (4 : Nat) (Option.some Jvm.ClassFile.FieldType.int)) ∈ lw_all := lw_g (lw_at lw_m1 161 rfl) rfl
theorem q215 : (Jvm.Cond.methodLink "DebtFerry" (69 : Nat) ({ cls := "DebtFerry", name := "noteOf", desc := "(II)I" } : Jvm.MethodName)) ∈ lw_all := lw_g (lw_at lw_m1 162 rfl) rfl
theorem q216 : (Jvm.Cond.privateMethod ({ cls := "DebtFerry", name := "noteOf", desc := "(II)I" } : Jvm.MethodName)) ∈ lw_tbl := lw_at lw_m1 163 rfl
theorem q217 : (Jvm.Cond.instanceMethod ({ cls := "DebtFerry", name := "noteOf", desc := "(II)I" } : Jvm.MethodName)) ∈ lw_all := lw_g (lw_at lw_m1 164 rfl) rfl
theorem q218 : (Jvm.Cond.code ({ cls := "DebtFerry", name := "noteOf", desc := "(II)I" } : Jvm.MethodName) prog_1_method_10_code (3 : Nat) (Option.some Jvm.ClassFile.FieldType.int)) ∈ lw_all := lw_g (lw_at lw_m1 165 rfl) rfl
theorem q220 : (Jvm.Cond.instanceMethod ({ cls := "DebtFerry", name := "owes", desc := "(II)I" } : Jvm.MethodName)) ∈ lw_all := lw_g (lw_at lw_m1 167 rfl) rfl
theorem q221 : (Jvm.Cond.selects "DebtFerry" ({ cls := "DebtFerry", name := "owes", desc := "(II)I" } : Jvm.MethodName) ({ cls := "DebtFerry", name := "owes", desc := "(II)I" } : Jvm.MethodName)) ∈ lw_all := lw_g (lw_at lw_m1 168 rfl) rfl
theorem q222 : (Jvm.Cond.code ({ cls := "DebtFerry", name := "owes", desc := "(II)I" } : Jvm.MethodName) prog_1_method_17_code (3 : Nat) (Option.some Jvm.ClassFile.FieldType.int)) ∈ lw_all := lw_g (lw_at lw_m1 169 rfl) rfl
theorem q224 : (Jvm.Cond.instanceMethod ({ cls := "DebtFerry", name := "lend", desc := "(III)I" } : Jvm.MethodName)) ∈ lw_all := lw_g (lw_at lw_m1 171 rfl) rfl
theorem q225 : (Jvm.Cond.selects "DebtFerry" ({ cls := "DebtFerry", name := "lend", desc := "(III)I" } : Jvm.MethodName) ({ cls := "DebtFerry", name := "lend", desc := "(III)I" } : Jvm.MethodName)) ∈ lw_all := lw_g (lw_at lw_m1 172 rfl) rfl
theorem q226 : (Jvm.Cond.code ({ cls := "DebtFerry", name := "lend", desc := "(III)I" } : Jvm.MethodName) prog_1_method_18_code (5 : Nat) (Option.some Jvm.ClassFile.FieldType.int)) ∈ lw_all := lw_g (lw_at lw_m1 173 rfl) rfl
theorem q227 : (Jvm.Cond.methodLink "DebtFerry" (124 : Nat) ({ cls := "DebtFerry", name := "isNoNote", desc := "(II)Z" } : Jvm.MethodName)) ∈ lw_all := lw_g (lw_at lw_m1 174 rfl) rfl
theorem q228 : (Jvm.Cond.privateMethod ({ cls := "DebtFerry", name := "isNoNote", desc := "(II)Z" } : Jvm.MethodName)) ∈ lw_tbl := lw_at lw_m1 175 rfl
theorem q229 : (Jvm.Cond.instanceMethod ({ cls := "DebtFerry", name := "isNoNote", desc := "(II)Z" } : Jvm.MethodName)) ∈ lw_all := lw_g (lw_at lw_m1 176 rfl) rfl
theorem q230 : (Jvm.Cond.code ({ cls := "DebtFerry", name := "isNoNote", desc := "(II)Z" } : Jvm.MethodName) prog_1_method_7_code (3 : Nat) (Option.some Jvm.ClassFile.FieldType.boolean)) ∈ lw_all := lw_g (lw_at lw_m1 177 rfl) rfl
theorem q231 : (Jvm.Cond.constantLong "DebtFerry" (128 : Nat) (9 : Int64)) ∈ lw_all := lw_g (lw_at lw_m1 178 rfl) rfl
theorem q233 : (Jvm.Cond.instanceMethod ({ cls := "DebtFerry", name := "count", desc := "(I)I" } : Jvm.MethodName)) ∈ lw_all := lw_g (lw_at lw_m1 180 rfl) rfl
theorem q234 : (Jvm.Cond.selects "DebtFerry" ({ cls := "DebtFerry", name := "count", desc := "(I)I" } : Jvm.MethodName) ({ cls := "DebtFerry", name := "count", desc := "(I)I" } : Jvm.MethodName)) ∈ lw_all := lw_g (lw_at lw_m1 181 rfl) rfl
theorem q235 : (Jvm.Cond.code ({ cls := "DebtFerry", name := "count", desc := "(I)I" } : Jvm.MethodName) prog_1_method_19_code (3 : Nat) (Option.some Jvm.ClassFile.FieldType.int)) ∈ lw_all := lw_g (lw_at lw_m1 182 rfl) rfl
theorem q236 : (Jvm.Cond.constantLong "DebtFerry" (130 : Nat) (3 : Int64)) ∈ lw_all := lw_g (lw_at lw_m1 183 rfl) rfl
theorem q237 : (Jvm.Cond.methodLink "DebtFerry" (132 : Nat) ({ cls := "DebtFerry", name := "noRiver", desc := "()Z" } : Jvm.MethodName)) ∈ lw_all := lw_g (lw_at lw_m1 184 rfl) rfl
theorem q238 : (Jvm.Cond.privateMethod ({ cls := "DebtFerry", name := "noRiver", desc := "()Z" } : Jvm.MethodName)) ∈ lw_tbl := lw_at lw_m1 185 rfl
theorem q239 : (Jvm.Cond.instanceMethod ({ cls := "DebtFerry", name := "noRiver", desc := "()Z" } : Jvm.MethodName)) ∈ lw_all := lw_g (lw_at lw_m1 186 rfl) rfl
theorem q240 : (Jvm.Cond.code ({ cls := "DebtFerry", name := "noRiver", desc := "()Z" } : Jvm.MethodName) prog_1_method_5_code (1 : Nat) (Option.some Jvm.ClassFile.FieldType.boolean)) ∈ lw_all := lw_g (lw_at lw_m1 187 rfl) rfl
theorem q241 : (Jvm.Cond.interfaceEntry "DebtFerry" (48 : Nat)) ∈ lw_tbl := lw_at lw_m1 188 rfl
theorem q242 : (Jvm.Cond.methodLink "DebtFerry" (48 : Nat) ({ cls := "java/util/List", name := "isEmpty", desc := "()Z" } : Jvm.MethodName)) ∈ lw_all := lw_g (lw_at lw_m1 189 rfl) rfl
theorem q251 : (Jvm.Cond.instanceMethod ({ cls := "DebtFerry", name := "build", desc := "(I)I" } : Jvm.MethodName)) ∈ lw_all := lw_g (lw_at lw_m1 198 rfl) rfl
theorem q252 : (Jvm.Cond.selects "DebtFerry" ({ cls := "DebtFerry", name := "build", desc := "(I)I" } : Jvm.MethodName) ({ cls := "DebtFerry", name := "build", desc := "(I)I" } : Jvm.MethodName)) ∈ lw_all := lw_g (lw_at lw_m1 199 rfl) rfl
theorem q253 : (Jvm.Cond.code ({ cls := "DebtFerry", name := "build", desc := "(I)I" } : Jvm.MethodName) prog_1_method_20_code (3 : Nat) (Option.some Jvm.ClassFile.FieldType.int)) ∈ lw_all := lw_g (lw_at lw_m1 200 rfl) rfl
theorem q255 : (Jvm.Cond.instanceMethod ({ cls := "DebtFerry", name := "debt", desc := "(II)I" } : Jvm.MethodName)) ∈ lw_all := lw_g (lw_at lw_m1 202 rfl) rfl
theorem q256 : (Jvm.Cond.selects "DebtFerry" ({ cls := "DebtFerry", name := "debt", desc := "(II)I" } : Jvm.MethodName) ({ cls := "DebtFerry", name := "debt", desc := "(II)I" } : Jvm.MethodName)) ∈ lw_all := lw_g (lw_at lw_m1 203 rfl) rfl
theorem q257 : (Jvm.Cond.code ({ cls := "DebtFerry", name := "debt", desc := "(II)I" } : Jvm.MethodName) prog_1_method_23_code (3 : Nat) (Option.some Jvm.ClassFile.FieldType.int)) ∈ lw_all := lw_g (lw_at lw_m1 204 rfl) rfl
theorem q258 : (Jvm.Cond.methodLink "DebtFerry" (157 : Nat) ({ cls := "DebtFerry", name := "isLoad", desc := "(I)Z" } : Jvm.MethodName)) ∈ lw_all := lw_g (lw_at lw_m1 205 rfl) rfl
theorem q259 : (Jvm.Cond.privateMethod ({ cls := "DebtFerry", name := "isLoad", desc := "(I)Z" } : Jvm.MethodName)) ∈ lw_tbl := lw_at lw_m1 206 rfl
theorem q260 : (Jvm.Cond.instanceMethod ({ cls := "DebtFerry", name := "isLoad", desc := "(I)Z" } : Jvm.MethodName)) ∈ lw_all := lw_g (lw_at lw_m1 207 rfl) rfl
theorem q261 : (Jvm.Cond.code ({ cls := "DebtFerry", name := "isLoad", desc := "(I)Z" } : Jvm.MethodName) prog_1_method_9_code (2 : Nat) (Option.some Jvm.ClassFile.FieldType.boolean)) ∈ lw_all := lw_g (lw_at lw_m1 208 rfl) rfl
theorem q262 : (Jvm.Cond.methodLink "DebtFerry" (66 : Nat) ({ cls := "DebtFerry", name := "everyone", desc := "()I" } : Jvm.MethodName)) ∈ lw_all := lw_g (lw_at lw_m1 209 rfl) rfl
theorem q263 : (Jvm.Cond.privateMethod ({ cls := "DebtFerry", name := "everyone", desc := "()I" } : Jvm.MethodName)) ∈ lw_tbl := lw_at lw_m1 210 rfl
theorem q264 : (Jvm.Cond.instanceMethod ({ cls := "DebtFerry", name := "everyone", desc := "()I" } : Jvm.MethodName)) ∈ lw_all := lw_g (lw_at lw_m1 211 rfl) rfl
theorem q265 : (Jvm.Cond.code ({ cls := "DebtFerry", name := "everyone", desc := "()I" } : Jvm.MethodName) prog_1_method_8_code (1 : Nat) (Option.some Jvm.ClassFile.FieldType.int)) ∈ lw_all := lw_g (lw_at lw_m1 212 rfl) rfl
theorem q266 : (Jvm.Cond.methodLink "DebtFerry" (135 : Nat) ({ cls := "DebtFerry", name := "isIn", desc := "(II)Z" } : Jvm.MethodName)) ∈ lw_all := lw_g (lw_at lw_m1 213 rfl) rfl
theorem q267 : (Jvm.Cond.static ({ cls := "DebtFerry", name := "isIn", desc := "(II)Z" } : Jvm.MethodName)) ∈ lw_all := lw_g (lw_at lw_m1 214 rfl) rfl
theorem q268 : (Jvm.Cond.code ({ cls := "DebtFerry", name := "isIn", desc := "(II)Z" } : Jvm.MethodName) prog_1_method_2_code (2 : Nat) (Option.some Jvm.ClassFile.FieldType.boolean)) ∈ lw_all := lw_g (lw_at lw_m1 215 rfl) rfl
theorem q269 : (Jvm.Cond.methodLink "DebtFerry" (138 : Nat) ({ cls := "DebtFerry$Rider", name := "debtIn", desc := "(I)I" } : Jvm.MethodName)) ∈ lw_all := lw_g (lw_at lw_m1 216 rfl) rfl
theorem q297 : (Jvm.Cond.instanceMethod ({ cls := "DebtFerry", name := "pullers", desc := "(I)I" } : Jvm.MethodName)) ∈ lw_all := lw_g (lw_at lw_m2 4 rfl) rfl
theorem q298 : (Jvm.Cond.selects "DebtFerry" ({ cls := "DebtFerry", name := "pullers", desc := "(I)I" } : Jvm.MethodName) ({ cls := "DebtFerry", name := "pullers", desc := "(I)I" } : Jvm.MethodName)) ∈ lw_all := lw_g (lw_at lw_m2 5 rfl) rfl
theorem q299 : (Jvm.Cond.code ({ cls := "DebtFerry", name := "pullers", desc := "(I)I" } : Jvm.MethodName) prog_1_method_24_code (2 : Nat) (Option.some Jvm.ClassFile.FieldType.int)) ∈ lw_all := lw_g (lw_at lw_m2 6 rfl) rfl
theorem q300 : (Jvm.Cond.methodLink "DebtFerry" (146 : Nat) ({ cls := "DebtFerry", name := "pulling", desc := "(I)I" } : Jvm.MethodName)) ∈ lw_all := lw_g (lw_at lw_m2 7 rfl) rfl
theorem q301 : (Jvm.Cond.privateMethod ({ cls := "DebtFerry", name := "pulling", desc := "(I)I" } : Jvm.MethodName)) ∈ lw_tbl := lw_at lw_m2 8 rfl
theorem q302 : (Jvm.Cond.instanceMethod ({ cls := "DebtFerry", name := "pulling", desc := "(I)I" } : Jvm.MethodName)) ∈ lw_all := lw_g (lw_at lw_m2 9 rfl) rfl
theorem q303 : (Jvm.Cond.code ({ cls := "DebtFerry", name := "pulling", desc := "(I)I" } : Jvm.MethodName) prog_1_method_21_code (6 : Nat) (Option.some Jvm.ClassFile.FieldType.int)) ∈ lw_all := lw_g (lw_at lw_m2 10 rfl) rfl
theorem q304 : (Jvm.Cond.methodLink "DebtFerry" (141 : Nat) ({ cls := "java/lang/Math", name := "max", desc := "(II)I" } : Jvm.MethodName)) ∈ lw_all := lw_g (lw_at lw_m2 11 rfl) rfl
theorem q306 : (Jvm.Cond.instanceMethod ({ cls := "DebtFerry", name := "fair", desc := "(I)I" } : Jvm.MethodName)) ∈ lw_all := lw_g (lw_at lw_m2 13 rfl) rfl
theorem q307 : (Jvm.Cond.selects "DebtFerry" ({ cls := "DebtFerry", name := "fair", desc := "(I)I" } : Jvm.MethodName) ({ cls := "DebtFerry", name := "fair", desc := "(I)I" } : Jvm.MethodName)) ∈ lw_all := lw_g (lw_at lw_m2 14 rfl) rfl
theorem q308 : (Jvm.Cond.code ({ cls := "DebtFerry", name := "fair", desc := "(I)I" } : Jvm.MethodName) prog_1_method_25_code (2 : Nat) (Option.some Jvm.ClassFile.FieldType.int)) ∈ lw_all := lw_g (lw_at lw_m2 15 rfl) rfl
theorem q309 : (Jvm.Cond.methodLink "DebtFerry" (160 : Nat) ({ cls := "DebtFerry", name := "isFair", desc := "(I)Z" } : Jvm.MethodName)) ∈ lw_all := lw_g (lw_at lw_m2 16 rfl) rfl
theorem q310 : (Jvm.Cond.privateMethod ({ cls := "DebtFerry", name := "isFair", desc := "(I)Z" } : Jvm.MethodName)) ∈ lw_tbl := lw_at lw_m2 17 rfl
theorem q311 : (Jvm.Cond.instanceMethod ({ cls := "DebtFerry", name := "isFair", desc := "(I)Z" } : Jvm.MethodName)) ∈ lw_all := lw_g (lw_at lw_m2 18 rfl) rfl
theorem q312 : (Jvm.Cond.code ({ cls := "DebtFerry", name := "isFair", desc := "(I)Z" } : Jvm.MethodName) prog_1_method_22_code (3 : Nat) (Option.some Jvm.ClassFile.FieldType.boolean)) ∈ lw_all := lw_g (lw_at lw_m2 19 rfl) rfl
theorem q313 : (Jvm.Cond.methodLink "DebtFerry" (149 : Nat) ({ cls := "java/lang/Integer", name := "bitCount", desc := "(I)I" } : Jvm.MethodName)) ∈ lw_all := lw_g (lw_at lw_m2 20 rfl) rfl
theorem q319 : (Jvm.Cond.methodLink "DebtFerry" (154 : Nat) ({ cls := "java/lang/Integer", name := "numberOfTrailingZeros", desc := "(I)I" } : Jvm.MethodName)) ∈ lw_all := lw_g (lw_at lw_m2 26 rfl) rfl
theorem q324 : (Jvm.Cond.instanceMethod ({ cls := "DebtFerry", name := "cross", desc := "(I)I" } : Jvm.MethodName)) ∈ lw_all := lw_g (lw_at lw_m2 31 rfl) rfl
theorem q325 : (Jvm.Cond.selects "DebtFerry" ({ cls := "DebtFerry", name := "cross", desc := "(I)I" } : Jvm.MethodName) ({ cls := "DebtFerry", name := "cross", desc := "(I)I" } : Jvm.MethodName)) ∈ lw_all := lw_g (lw_at lw_m2 32 rfl) rfl
theorem q326 : (Jvm.Cond.code ({ cls := "DebtFerry", name := "cross", desc := "(I)I" } : Jvm.MethodName) prog_1_method_31_code (5 : Nat) (Option.some Jvm.ClassFile.FieldType.int)) ∈ lw_all := lw_g (lw_at lw_m2 33 rfl) rfl
theorem q327 : (Jvm.Cond.constantLong "DebtFerry" (166 : Nat) (-1 : Int64)) ∈ lw_all := lw_g (lw_at lw_m2 34 rfl) rfl
theorem q328 : (Jvm.Cond.constantLong "DebtFerry" (168 : Nat) (4 : Int64)) ∈ lw_all := lw_g (lw_at lw_m2 35 rfl) rfl
theorem q329 : (Jvm.Cond.methodLink "DebtFerry" (170 : Nat) ({ cls := "DebtFerry", name := "reckon", desc := "()V" } : Jvm.MethodName)) ∈ lw_all := lw_g (lw_at lw_m2 36 rfl) rfl
theorem q330 : (Jvm.Cond.privateMethod ({ cls := "DebtFerry", name := "reckon", desc := "()V" } : Jvm.MethodName)) ∈ lw_tbl := lw_at lw_m2 37 rfl
theorem q331 : (Jvm.Cond.instanceMethod ({ cls := "DebtFerry", name := "reckon", desc := "()V" } : Jvm.MethodName)) ∈ lw_all := lw_g (lw_at lw_m2 38 rfl) rfl
theorem q332 : (Jvm.Cond.code ({ cls := "DebtFerry", name := "reckon", desc := "()V" } : Jvm.MethodName) prog_1_method_29_code (2 : Nat) (Option.none : Option Jvm.ClassFile.FieldType)) ∈ lw_all := lw_g (lw_at lw_m2 39 rfl) rfl
theorem q333 : (Jvm.Cond.methodLink "DebtFerry" (163 : Nat) ({ cls := "DebtFerry", name := "fewestFor", desc := "(I)I" } : Jvm.MethodName)) ∈ lw_all := lw_g (lw_at lw_m2 40 rfl) rfl
theorem q334 : (Jvm.Cond.privateMethod ({ cls := "DebtFerry", name := "fewestFor", desc := "(I)I" } : Jvm.MethodName)) ∈ lw_tbl := lw_at lw_m2 41 rfl
theorem q335 : (Jvm.Cond.instanceMethod ({ cls := "DebtFerry", name := "fewestFor", desc := "(I)I" } : Jvm.MethodName)) ∈ lw_all := lw_g (lw_at lw_m2 42 rfl) rfl
theorem q336 : (Jvm.Cond.code ({ cls := "DebtFerry", name := "fewestFor", desc := "(I)I" } : Jvm.MethodName) prog_1_method_28_code (5 : Nat) (Option.some Jvm.ClassFile.FieldType.int)) ∈ lw_all := lw_g (lw_at lw_m2 43 rfl) rfl
theorem q337 : (Jvm.Cond.methodLink "DebtFerry" (173 : Nat) ({ cls := "DebtFerry", name := "firstLoad", desc := "(I)I" } : Jvm.MethodName)) ∈ lw_all := lw_g (lw_at lw_m2 44 rfl) rfl
theorem q338 : (Jvm.Cond.privateMethod ({ cls := "DebtFerry", name := "firstLoad", desc := "(I)I" } : Jvm.MethodName)) ∈ lw_tbl := lw_at lw_m2 45 rfl
theorem q339 : (Jvm.Cond.instanceMethod ({ cls := "DebtFerry", name := "firstLoad", desc := "(I)I" } : Jvm.MethodName)) ∈ lw_all := lw_g (lw_at lw_m2 46 rfl) rfl
theorem q340 : (Jvm.Cond.code ({ cls := "DebtFerry", name := "firstLoad", desc := "(I)I" } : Jvm.MethodName) prog_1_method_30_code (3 : Nat) (Option.some Jvm.ClassFile.FieldType.int)) ∈ lw_all := lw_g (lw_at lw_m2 47 rfl) rfl
theorem q342 : (Jvm.Cond.instanceMethod ({ cls := "DebtFerry", name := "loan", desc := "(III)I" } : Jvm.MethodName)) ∈ lw_all := lw_g (lw_at lw_m2 49 rfl) rfl
theorem q343 : (Jvm.Cond.selects "DebtFerry" ({ cls := "DebtFerry", name := "loan", desc := "(III)I" } : Jvm.MethodName) ({ cls := "DebtFerry", name := "loan", desc := "(III)I" } : Jvm.MethodName)) ∈ lw_all := lw_g (lw_at lw_m2 50 rfl) rfl
theorem q344 : (Jvm.Cond.code ({ cls := "DebtFerry", name := "loan", desc := "(III)I" } : Jvm.MethodName) prog_1_method_33_code (8 : Nat) (Option.some Jvm.ClassFile.FieldType.int)) ∈ lw_all := lw_g (lw_at lw_m2 51 rfl) rfl
theorem q345 : (Jvm.Cond.methodLink "DebtFerry" (176 : Nat) ({ cls := "DebtFerry", name := "penceTo", desc := "(III)I" } : Jvm.MethodName)) ∈ lw_all := lw_g (lw_at lw_m2 52 rfl) rfl
theorem q346 : (Jvm.Cond.privateMethod ({ cls := "DebtFerry", name := "penceTo", desc := "(III)I" } : Jvm.MethodName)) ∈ lw_tbl := lw_at lw_m2 53 rfl
theorem q347 : (Jvm.Cond.instanceMethod ({ cls := "DebtFerry", name := "penceTo", desc := "(III)I" } : Jvm.MethodName)) ∈ lw_all := lw_g (lw_at lw_m2 54 rfl) rfl
theorem q348 : (Jvm.Cond.code ({ cls := "DebtFerry", name := "penceTo", desc := "(III)I" } : Jvm.MethodName) prog_1_method_32_code (8 : Nat) (Option.some Jvm.ClassFile.FieldType.int)) ∈ lw_all := lw_g (lw_at lw_m2 55 rfl) rfl
theorem q350 : (Jvm.Cond.instanceMethod ({ cls := "DebtFerry", name := "forgave", desc := "(I)I" } : Jvm.MethodName)) ∈ lw_all := lw_g (lw_at lw_m2 57 rfl) rfl
theorem q351 : (Jvm.Cond.selects "DebtFerry" ({ cls := "DebtFerry", name := "forgave", desc := "(I)I" } : Jvm.MethodName) ({ cls := "DebtFerry", name := "forgave", desc := "(I)I" } : Jvm.MethodName)) ∈ lw_all := lw_g (lw_at lw_m2 58 rfl) rfl
theorem q352 : (Jvm.Cond.code ({ cls := "DebtFerry", name := "forgave", desc := "(I)I" } : Jvm.MethodName) prog_1_method_36_code (5 : Nat) (Option.some Jvm.ClassFile.FieldType.int)) ∈ lw_all := lw_g (lw_at lw_m2 59 rfl) rfl
theorem q353 : (Jvm.Cond.methodLink "DebtFerry" (186 : Nat) ({ cls := "DebtFerry", name := "keep", desc := "()V" } : Jvm.MethodName)) ∈ lw_all := lw_g (lw_at lw_m2 60 rfl) rfl
theorem q354 : (Jvm.Cond.privateMethod ({ cls := "DebtFerry", name := "keep", desc := "()V" } : Jvm.MethodName)) ∈ lw_tbl := lw_at lw_m2 61 rfl
theorem q355 : (Jvm.Cond.instanceMethod ({ cls := "DebtFerry", name := "keep", desc := "()V" } : Jvm.MethodName)) ∈ lw_all := lw_g (lw_at lw_m2 62 rfl) rfl
theorem q356 : (Jvm.Cond.code ({ cls := "DebtFerry", name := "keep", desc := "()V" } : Jvm.MethodName) prog_1_method_34_code (1 : Nat) (Option.none : Option Jvm.ClassFile.FieldType)) ∈ lw_all := lw_g (lw_at lw_m2 63 rfl) rfl
theorem q357 : (Jvm.Cond.methodLink "DebtFerry" (180 : Nat) ({ cls := "java/lang/System", name := "arraycopy", desc := "(Ljava/lang/Object;ILjava/lang/Object;II)V" } : Jvm.MethodName)) ∈ lw_all := lw_g (lw_at lw_m2 64 rfl) rfl
theorem q360 : (Jvm.Cond.methodLink "DebtFerry" (189 : Nat) ({ cls := "DebtFerry", name := "putBack", desc := "()V" } : Jvm.MethodName)) ∈ lw_all := lw_g (lw_at lw_m2 67 rfl) rfl
theorem q361 : (Jvm.Cond.privateMethod ({ cls := "DebtFerry", name := "putBack", desc := "()V" } : Jvm.MethodName)) ∈ lw_tbl := lw_at lw_m2 68 rfl
theorem q362 : (Jvm.Cond.instanceMethod ({ cls := "DebtFerry", name := "putBack", desc := "()V" } : Jvm.MethodName)) ∈ lw_all := lw_g (lw_at lw_m2 69 rfl) rfl
theorem q363 : (Jvm.Cond.code ({ cls := "DebtFerry", name := "putBack", desc := "()V" } : Jvm.MethodName) prog_1_method_35_code (1 : Nat) (Option.none : Option Jvm.ClassFile.FieldType)) ∈ lw_all := lw_g (lw_at lw_m2 70 rfl) rfl
theorem q365 : (Jvm.Cond.instanceMethod ({ cls := "DebtFerry", name := "reading", desc := "(II)I" } : Jvm.MethodName)) ∈ lw_all := lw_g (lw_at lw_m2 72 rfl) rfl
theorem q366 : (Jvm.Cond.selects "DebtFerry" ({ cls := "DebtFerry", name := "reading", desc := "(II)I" } : Jvm.MethodName) ({ cls := "DebtFerry", name := "reading", desc := "(II)I" } : Jvm.MethodName)) ∈ lw_all := lw_g (lw_at lw_m2 73 rfl) rfl
theorem q367 : (Jvm.Cond.code ({ cls := "DebtFerry", name := "reading", desc := "(II)I" } : Jvm.MethodName) prog_1_method_37_code (3 : Nat) (Option.some Jvm.ClassFile.FieldType.int)) ∈ lw_all := lw_g (lw_at lw_m2 74 rfl) rfl
theorem q368 : (Jvm.Cond.classLink "DebtFerry" (192 : Nat) "DebtFerry$Reading") ∈ lw_all := lw_g (lw_at lw_m2 75 rfl) rfl
theorem q370 : (Jvm.Cond.methodLink "DebtFerry" (194 : Nat) ({ cls := "DebtFerry$Reading", name := "<init>", desc := "(II)V" } : Jvm.MethodName)) ∈ lw_all := lw_g (lw_at lw_m2 77 rfl) rfl
theorem q375 : (Jvm.Cond.fieldLinkNest "DebtFerry" (200 : Nat) "DebtFerry$Reading" "load" "I" "DebtFerry") ∈ lw_tbl := lw_at lw_m2 82 rfl
theorem q377 : (Jvm.Cond.fieldLinkNest "DebtFerry" (203 : Nat) "DebtFerry$Reading" "pulled" "I" "DebtFerry") ∈ lw_tbl := lw_at lw_m2 84 rfl
theorem q383 : (Jvm.Cond.interfaceEntry "DebtFerry" (91 : Nat)) ∈ lw_tbl := lw_at lw_m2 90 rfl
theorem q384 : (Jvm.Cond.methodLink "DebtFerry" (91 : Nat) ({ cls := "java/util/List", name := "add", desc := "(Ljava/lang/Object;)Z" } : Jvm.MethodName)) ∈ lw_all := lw_g (lw_at lw_m2 91 rfl) rfl
theorem q418 : (Jvm.Cond.selects "DebtFerry" ({ cls := "java/lang/Object", name := "getClass", desc := "()Ljava/lang/Class;" } : Jvm.MethodName) ({ cls := "java/lang/Object", name := "getClass", desc := "()Ljava/lang/Class;" } : Jvm.MethodName)) ∈ lw_all := lw_g (lw_at lw_m2 125 rfl) rfl
theorem q450 : (Jvm.Cond.instanceMethod ({ cls := "DebtFerry", name := "back", desc := "(I)I" } : Jvm.MethodName)) ∈ lw_all := lw_g (lw_at lw_m2 157 rfl) rfl
theorem q451 : (Jvm.Cond.selects "DebtFerry" ({ cls := "DebtFerry", name := "back", desc := "(I)I" } : Jvm.MethodName) ({ cls := "DebtFerry", name := "back", desc := "(I)I" } : Jvm.MethodName)) ∈ lw_all := lw_g (lw_at lw_m2 158 rfl) rfl
theorem q452 : (Jvm.Cond.code ({ cls := "DebtFerry", name := "back", desc := "(I)I" } : Jvm.MethodName) prog_1_method_38_code (3 : Nat) (Option.some Jvm.ClassFile.FieldType.int)) ∈ lw_all := lw_g (lw_at lw_m2 159 rfl) rfl
theorem q453 : (Jvm.Cond.interfaceEntry "DebtFerry" (197 : Nat)) ∈ lw_tbl := lw_at lw_m2 160 rfl
theorem q454 : (Jvm.Cond.methodLink "DebtFerry" (197 : Nat) ({ cls := "java/util/List", name := "remove", desc := "(I)Ljava/lang/Object;" } : Jvm.MethodName)) ∈ lw_all := lw_g (lw_at lw_m2 161 rfl) rfl
theorem q468 : (Jvm.Cond.instanceMethod ({ cls := "DebtFerry", name := "notes", desc := "(II)I" } : Jvm.MethodName)) ∈ lw_all := lw_g (lw_at lw_m2 175 rfl) rfl
theorem q469 : (Jvm.Cond.selects "DebtFerry" ({ cls := "DebtFerry", name := "notes", desc := "(II)I" } : Jvm.MethodName) ({ cls := "DebtFerry", name := "notes", desc := "(II)I" } : Jvm.MethodName)) ∈ lw_all := lw_g (lw_at lw_m2 176 rfl) rfl
theorem q470 : (Jvm.Cond.code ({ cls := "DebtFerry", name := "notes", desc := "(II)I" } : Jvm.MethodName) prog_1_method_40_code (6 : Nat) (Option.some Jvm.ClassFile.FieldType.int)) ∈ lw_all := lw_g (lw_at lw_m2 177 rfl) rfl
theorem q471 : (Jvm.Cond.methodLink "DebtFerry" (206 : Nat) ({ cls := "DebtFerry", name := "areSo", desc := "()Z" } : Jvm.MethodName)) ∈ lw_all := lw_g (lw_at lw_m2 178 rfl) rfl
theorem q472 : (Jvm.Cond.privateMethod ({ cls := "DebtFerry", name := "areSo", desc := "()Z" } : Jvm.MethodName)) ∈ lw_tbl := lw_at lw_m2 179 rfl
theorem q473 : (Jvm.Cond.instanceMethod ({ cls := "DebtFerry", name := "areSo", desc := "()Z" } : Jvm.MethodName)) ∈ lw_all := lw_g (lw_at lw_m2 180 rfl) rfl
theorem q474 : (Jvm.Cond.code ({ cls := "DebtFerry", name := "areSo", desc := "()Z" } : Jvm.MethodName) prog_1_method_39_code (3 : Nat) (Option.some Jvm.ClassFile.FieldType.boolean)) ∈ lw_all := lw_g (lw_at lw_m2 181 rfl) rfl
theorem q476 : (Jvm.Cond.instanceMethod ({ cls := "DebtFerry", name := "kinds", desc := "(I)I" } : Jvm.MethodName)) ∈ lw_all := lw_g (lw_at lw_m2 183 rfl) rfl
theorem q477 : (Jvm.Cond.selects "DebtFerry" ({ cls := "DebtFerry", name := "kinds", desc := "(I)I" } : Jvm.MethodName) ({ cls := "DebtFerry", name := "kinds", desc := "(I)I" } : Jvm.MethodName)) ∈ lw_all := lw_g (lw_at lw_m2 184 rfl) rfl
theorem q478 : (Jvm.Cond.code ({ cls := "DebtFerry", name := "kinds", desc := "(I)I" } : Jvm.MethodName) prog_1_method_41_code (5 : Nat) (Option.some Jvm.ClassFile.FieldType.int)) ∈ lw_all := lw_g (lw_at lw_m2 185 rfl) rfl
theorem q479 : (Jvm.Cond.methodLink "DebtFerry" (87 : Nat) ({ cls := "DebtFerry", name := "madeOf", desc := "(IIZ)LDebtFerry$Rider;" } : Jvm.MethodName)) ∈ lw_all := lw_g (lw_at lw_m2 186 rfl) rfl
theorem q480 : (Jvm.Cond.privateMethod ({ cls := "DebtFerry", name := "madeOf", desc := "(IIZ)LDebtFerry$Rider;" } : Jvm.MethodName)) ∈ lw_tbl := lw_at lw_m2 187 rfl
theorem q481 : (Jvm.Cond.instanceMethod ({ cls := "DebtFerry", name := "madeOf", desc := "(IIZ)LDebtFerry$Rider;" } : Jvm.MethodName)) ∈ lw_all := lw_g (lw_at lw_m2 188 rfl) rfl
theorem q482 : (Jvm.Cond.code ({ cls := "DebtFerry", name := "madeOf", desc := "(IIZ)LDebtFerry$Rider;" } : Jvm.MethodName) prog_1_method_4_code (4 : Nat) (Option.some (Jvm.ClassFile.FieldType.object "DebtFerry$Rider"))) ∈ lw_all := lw_g (lw_at lw_m2 189 rfl) rfl
theorem q484 : (Jvm.Cond.methodLink "DebtFerry" (39 : Nat) ({ cls := "DebtFerry$Rider", name := "<init>", desc := "(LDebtFerry;IZ)V" } : Jvm.MethodName)) ∈ lw_all := lw_g (lw_at lw_m2 191 rfl) rfl
theorem q495 : (Jvm.Cond.fieldLink "DebtFerry" (116 : Nat) "DebtFerry$Rider" "isLame" "Z") ∈ lw_all := lw_g (lw_at lw_m2 202 rfl) rfl
theorem q504 : (Jvm.Cond.classLink "DebtFerry" (42 : Nat) "DebtFerry$Friend") ∈ lw_all := lw_g (lw_at lw_m2 211 rfl) rfl
theorem q506 : (Jvm.Cond.methodLink "DebtFerry" (44 : Nat) ({ cls := "DebtFerry$Friend", name := "<init>", desc := "(LDebtFerry;IZ)V" } : Jvm.MethodName)) ∈ lw_all := lw_g (lw_at lw_m2 213 rfl) rfl
theorem q516 : (Jvm.Cond.classLink "DebtFerry" (45 : Nat) "DebtFerry$Banker") ∈ lw_all := lw_g (lw_at lw_m2 223 rfl) rfl
theorem q518 : (Jvm.Cond.methodLink "DebtFerry" (47 : Nat) ({ cls := "DebtFerry$Banker", name := "<init>", desc := "(LDebtFerry;IZ)V" } : Jvm.MethodName)) ∈ lw_all := lw_g (lw_at lw_m2 225 rfl) rfl
theorem q530 : (Jvm.Cond.interfaceEntry "DebtFerry" (209 : Nat)) ∈ lw_tbl := lw_at lw_m2 237 rfl
theorem q531 : (Jvm.Cond.methodLink "DebtFerry" (209 : Nat) ({ cls := "java/util/List", name := "set", desc := "(ILjava/lang/Object;)Ljava/lang/Object;" } : Jvm.MethodName)) ∈ lw_all := lw_g (lw_at lw_m2 238 rfl) rfl
theorem q540 : (Jvm.Cond.instanceMethod ({ cls := "DebtFerry", name := "often", desc := "()I" } : Jvm.MethodName)) ∈ lw_all := lw_g (lw_at lw_m3 7 rfl) rfl
theorem q541 : (Jvm.Cond.selects "DebtFerry" ({ cls := "DebtFerry", name := "often", desc := "()I" } : Jvm.MethodName) ({ cls := "DebtFerry", name := "often", desc := "()I" } : Jvm.MethodName)) ∈ lw_all := lw_g (lw_at lw_m3 8 rfl) rfl
theorem q542 : (Jvm.Cond.code ({ cls := "DebtFerry", name := "often", desc := "()I" } : Jvm.MethodName) prog_1_method_42_code (4 : Nat) (Option.some Jvm.ClassFile.FieldType.int)) ∈ lw_all := lw_g (lw_at lw_m3 9 rfl) rfl
theorem q544 : (Jvm.Cond.instanceMethod ({ cls := "DebtFerry", name := "odds", desc := "(III)J" } : Jvm.MethodName)) ∈ lw_all := lw_g (lw_at lw_m3 11 rfl) rfl
theorem q545 : (Jvm.Cond.selects "DebtFerry" ({ cls := "DebtFerry", name := "odds", desc := "(III)J" } : Jvm.MethodName) ({ cls := "DebtFerry", name := "odds", desc := "(III)J" } : Jvm.MethodName)) ∈ lw_all := lw_g (lw_at lw_m3 12 rfl) rfl
theorem q546 : (Jvm.Cond.code ({ cls := "DebtFerry", name := "odds", desc := "(III)J" } : Jvm.MethodName) prog_1_method_44_code (8 : Nat) (Option.some Jvm.ClassFile.FieldType.long)) ∈ lw_all := lw_g (lw_at lw_m3 13 rfl) rfl
theorem q547 : (Jvm.Cond.constantLong "DebtFerry" (217 : Nat) (-9223372036854775808 : Int64)) ∈ lw_all := lw_g (lw_at lw_m3 14 rfl) rfl
theorem q548 : (Jvm.Cond.methodLink "DebtFerry" (213 : Nat) ({ cls := "DebtFerry", name := "greatest", desc := "(JJ)J" } : Jvm.MethodName)) ∈ lw_all := lw_g (lw_at lw_m3 15 rfl) rfl
theorem q549 : (Jvm.Cond.static ({ cls := "DebtFerry", name := "greatest", desc := "(JJ)J" } : Jvm.MethodName)) ∈ lw_all := lw_g (lw_at lw_m3 16 rfl) rfl
theorem q550 : (Jvm.Cond.code ({ cls := "DebtFerry", name := "greatest", desc := "(JJ)J" } : Jvm.MethodName) prog_1_method_43_code (4 : Nat) (Option.some Jvm.ClassFile.FieldType.long)) ∈ lw_all := lw_g (lw_at lw_m3 17 rfl) rfl
theorem q552 : (Jvm.Cond.instanceMethod ({ cls := "DebtFerry", name := "sheet", desc := "(III)I" } : Jvm.MethodName)) ∈ lw_all := lw_g (lw_at lw_m3 19 rfl) rfl
theorem q553 : (Jvm.Cond.selects "DebtFerry" ({ cls := "DebtFerry", name := "sheet", desc := "(III)I" } : Jvm.MethodName) ({ cls := "DebtFerry", name := "sheet", desc := "(III)I" } : Jvm.MethodName)) ∈ lw_all := lw_g (lw_at lw_m3 20 rfl) rfl
theorem q554 : (Jvm.Cond.codeWith ({ cls := "DebtFerry", name := "sheet", desc := "(III)I" } : Jvm.MethodName) prog_1_method_54_code (5 : Nat) (Option.some Jvm.ClassFile.FieldType.int) [((43 : Nat), (62 : Nat), (63 : Nat), (246 : Nat))]) ∈ lw_all := lw_g (lw_at lw_m3 21 rfl) rfl
theorem q555 : (Jvm.Cond.classLink "DebtFerry" (246 : Nat) "java/lang/NegativeArraySizeException") ∈ lw_all := lw_g (lw_at lw_m3 22 rfl) rfl
theorem q642 : (Jvm.Cond.methodLink "DebtFerry" (231 : Nat) ({ cls := "DebtFerry", name := "noSheet", desc := "(I)Z" } : Jvm.MethodName)) ∈ lw_all := lw_g (lw_at lw_m3 109 rfl) rfl
theorem q643 : (Jvm.Cond.static ({ cls := "DebtFerry", name := "noSheet", desc := "(I)Z" } : Jvm.MethodName)) ∈ lw_all := lw_g (lw_at lw_m3 110 rfl) rfl
theorem q644 : (Jvm.Cond.code ({ cls := "DebtFerry", name := "noSheet", desc := "(I)Z" } : Jvm.MethodName) prog_1_method_52_code (1 : Nat) (Option.some Jvm.ClassFile.FieldType.boolean)) ∈ lw_all := lw_g (lw_at lw_m3 111 rfl) rfl
theorem q645 : (Jvm.Cond.methodLink "DebtFerry" (234 : Nat) ({ cls := "DebtFerry", name := "refused", desc := "(I)I" } : Jvm.MethodName)) ∈ lw_all := lw_g (lw_at lw_m3 112 rfl) rfl
theorem q646 : (Jvm.Cond.privateMethod ({ cls := "DebtFerry", name := "refused", desc := "(I)I" } : Jvm.MethodName)) ∈ lw_tbl := lw_at lw_m3 113 rfl
theorem q647 : (Jvm.Cond.instanceMethod ({ cls := "DebtFerry", name := "refused", desc := "(I)I" } : Jvm.MethodName)) ∈ lw_all := lw_g (lw_at lw_m3 114 rfl) rfl
theorem q648 : (Jvm.Cond.code ({ cls := "DebtFerry", name := "refused", desc := "(I)I" } : Jvm.MethodName) prog_1_method_45_code (2 : Nat) (Option.some Jvm.ClassFile.FieldType.int)) ∈ lw_all := lw_g (lw_at lw_m3 115 rfl) rfl
theorem q649 : (Jvm.Cond.constantLong "DebtFerry" (237 : Nat) (2 : Int64)) ∈ lw_all := lw_g (lw_at lw_m3 116 rfl) rfl
theorem q651 : (Jvm.Cond.methodLink "DebtFerry" (239 : Nat) ({ cls := "DebtFerry", name := "rowOf", desc := "(II)Ljava/lang/Object;" } : Jvm.MethodName)) ∈ lw_all := lw_g (lw_at lw_m3 118 rfl) rfl
theorem q652 : (Jvm.Cond.static ({ cls := "DebtFerry", name := "rowOf", desc := "(II)Ljava/lang/Object;" } : Jvm.MethodName)) ∈ lw_all := lw_g (lw_at lw_m3 119 rfl) rfl
theorem q653 : (Jvm.Cond.code ({ cls := "DebtFerry", name := "rowOf", desc := "(II)Ljava/lang/Object;" } : Jvm.MethodName) prog_1_method_48_code (2 : Nat) (Option.some (Jvm.ClassFile.FieldType.object "java/lang/Object"))) ∈ lw_all := lw_g (lw_at lw_m3 120 rfl) rfl
theorem q654 : (Jvm.Cond.methodLink "DebtFerry" (243 : Nat) ({ cls := "DebtFerry$Sheet", name := "<init>", desc := "(Ljava/lang/Object;)V" } : Jvm.MethodName)) ∈ lw_all := lw_g (lw_at lw_m3 121 rfl) rfl
theorem q659 : (Jvm.Cond.fieldLink "DebtFerry" (227 : Nat) "DebtFerry$Sheet" "row" "Ljava/lang/Object;") ∈ lw_all := lw_g (lw_at lw_m3 126 rfl) rfl
theorem q664 : (Jvm.Cond.methodLink "DebtFerry" (248 : Nat) ({ cls := "DebtFerry", name := "fails", desc := "(I)I" } : Jvm.MethodName)) ∈ lw_all := lw_g (lw_at lw_m3 131 rfl) rfl
theorem q665 : (Jvm.Cond.privateMethod ({ cls := "DebtFerry", name := "fails", desc := "(I)I" } : Jvm.MethodName)) ∈ lw_tbl := lw_at lw_m3 132 rfl
theorem q666 : (Jvm.Cond.instanceMethod ({ cls := "DebtFerry", name := "fails", desc := "(I)I" } : Jvm.MethodName)) ∈ lw_all := lw_g (lw_at lw_m3 133 rfl) rfl
theorem q667 : (Jvm.Cond.code ({ cls := "DebtFerry", name := "fails", desc := "(I)I" } : Jvm.MethodName) prog_1_method_46_code (2 : Nat) (Option.some Jvm.ClassFile.FieldType.int)) ∈ lw_all := lw_g (lw_at lw_m3 134 rfl) rfl
theorem q669 : (Jvm.Cond.instanceMethod ({ cls := "DebtFerry", name := "lose", desc := "(I)I" } : Jvm.MethodName)) ∈ lw_all := lw_g (lw_at lw_m3 136 rfl) rfl
theorem q670 : (Jvm.Cond.selects "DebtFerry" ({ cls := "DebtFerry", name := "lose", desc := "(I)I" } : Jvm.MethodName) ({ cls := "DebtFerry", name := "lose", desc := "(I)I" } : Jvm.MethodName)) ∈ lw_all := lw_g (lw_at lw_m3 137 rfl) rfl
theorem q671 : (Jvm.Cond.code ({ cls := "DebtFerry", name := "lose", desc := "(I)I" } : Jvm.MethodName) prog_1_method_55_code (3 : Nat) (Option.some Jvm.ClassFile.FieldType.int)) ∈ lw_all := lw_g (lw_at lw_m3 138 rfl) rfl
theorem q673 : (Jvm.Cond.instanceMethod ({ cls := "DebtFerry", name := "put", desc := "(III)I" } : Jvm.MethodName)) ∈ lw_all := lw_g (lw_at lw_m3 140 rfl) rfl
theorem q674 : (Jvm.Cond.selects "DebtFerry" ({ cls := "DebtFerry", name := "put", desc := "(III)I" } : Jvm.MethodName) ({ cls := "DebtFerry", name := "put", desc := "(III)I" } : Jvm.MethodName)) ∈ lw_all := lw_g (lw_at lw_m3 141 rfl) rfl
theorem q675 : (Jvm.Cond.codeWith ({ cls := "DebtFerry", name := "put", desc := "(III)I" } : Jvm.MethodName) prog_1_method_56_code (5 : Nat) (Option.some Jvm.ClassFile.FieldType.int) [((18 : Nat), (33 : Nat), (34 : Nat), (255 : Nat)), ((18 : Nat), (33 : Nat), (42 : Nat), (257 : Nat))]) ∈ lw_all := lw_g (lw_at lw_m3 142 rfl) rfl
theorem q676 : (Jvm.Cond.classLink "DebtFerry" (255 : Nat) "java/lang/NullPointerException") ∈ lw_all := lw_g (lw_at lw_m3 143 rfl) rfl
theorem q701 : (Jvm.Cond.classLink "DebtFerry" (257 : Nat) "java/lang/IndexOutOfBoundsException") ∈ lw_all := lw_g (lw_at lw_m3 168 rfl) rfl
theorem q720 : (Jvm.Cond.methodLink "DebtFerry" (251 : Nat) ({ cls := "DebtFerry", name := "setIn", desc := "(Ljava/lang/Object;II)V" } : Jvm.MethodName)) ∈ lw_all := lw_g (lw_at lw_m3 187 rfl) rfl
theorem q721 : (Jvm.Cond.static ({ cls := "DebtFerry", name := "setIn", desc := "(Ljava/lang/Object;II)V" } : Jvm.MethodName)) ∈ lw_all := lw_g (lw_at lw_m3 188 rfl) rfl
theorem q722 : (Jvm.Cond.code ({ cls := "DebtFerry", name := "setIn", desc := "(Ljava/lang/Object;II)V" } : Jvm.MethodName) prog_1_method_51_code (3 : Nat) (Option.none : Option Jvm.ClassFile.FieldType)) ∈ lw_all := lw_g (lw_at lw_m3 189 rfl) rfl
theorem q723 : (Jvm.Cond.classLink "DebtFerry" (222 : Nat) "[B") ∈ lw_all := lw_g (lw_at lw_m3 190 rfl) rfl
theorem q724 : (Jvm.Cond.classLink "DebtFerry" (224 : Nat) "[S") ∈ lw_all := lw_g (lw_at lw_m3 191 rfl) rfl
theorem q725 : (Jvm.Cond.classLink "DebtFerry" (226 : Nat) "[I") ∈ lw_all := lw_g (lw_at lw_m3 192 rfl) rfl
theorem q727 : (Jvm.Cond.instanceMethod ({ cls := "DebtFerry", name := "cell", desc := "(III)J" } : Jvm.MethodName)) ∈ lw_all := lw_g (lw_at lw_m3 194 rfl) rfl
theorem q728 : (Jvm.Cond.selects "DebtFerry" ({ cls := "DebtFerry", name := "cell", desc := "(III)J" } : Jvm.MethodName) ({ cls := "DebtFerry", name := "cell", desc := "(III)J" } : Jvm.MethodName)) ∈ lw_all := lw_g (lw_at lw_m3 195 rfl) rfl
theorem q729 : (Jvm.Cond.codeWith ({ cls := "DebtFerry", name := "cell", desc := "(III)J" } : Jvm.MethodName) prog_1_method_57_code (5 : Nat) (Option.some Jvm.ClassFile.FieldType.long) [((28 : Nat), (39 : Nat), (40 : Nat), (255 : Nat)), ((28 : Nat), (39 : Nat), (48 : Nat), (270 : Nat)), ((28 : Nat), (39 : Nat), (56 : Nat), (257 : Nat))]) ∈ lw_all := lw_g (lw_at lw_m3 196 rfl) rfl
theorem q730 : (Jvm.Cond.classLink "DebtFerry" (270 : Nat) "java/lang/ClassCastException") ∈ lw_all := lw_g (lw_at lw_m3 197 rfl) rfl
theorem q744 : (Jvm.Cond.methodLink "DebtFerry" (259 : Nat) ({ cls := "DebtFerry", name := "rowIn", desc := "(I)Ljava/lang/Object;" } : Jvm.MethodName)) ∈ lw_all := lw_g (lw_at lw_m3 211 rfl) rfl
theorem q745 : (Jvm.Cond.privateMethod ({ cls := "DebtFerry", name := "rowIn", desc := "(I)Ljava/lang/Object;" } : Jvm.MethodName)) ∈ lw_tbl := lw_at lw_m3 212 rfl
theorem q746 : (Jvm.Cond.instanceMethod ({ cls := "DebtFerry", name := "rowIn", desc := "(I)Ljava/lang/Object;" } : Jvm.MethodName)) ∈ lw_all := lw_g (lw_at lw_m3 213 rfl) rfl
theorem q747 : (Jvm.Cond.code ({ cls := "DebtFerry", name := "rowIn", desc := "(I)Ljava/lang/Object;" } : Jvm.MethodName) prog_1_method_53_code (2 : Nat) (Option.some (Jvm.ClassFile.FieldType.object "java/lang/Object"))) ∈ lw_all := lw_g (lw_at lw_m3 214 rfl) rfl
theorem q748 : (Jvm.Cond.methodLink "DebtFerry" (262 : Nat) ({ cls := "DebtFerry", name := "cellOf", desc := "(Ljava/lang/Object;II)I" } : Jvm.MethodName)) ∈ lw_all := lw_g (lw_at lw_m3 215 rfl) rfl
theorem q749 : (Jvm.Cond.static ({ cls := "DebtFerry", name := "cellOf", desc := "(Ljava/lang/Object;II)I" } : Jvm.MethodName)) ∈ lw_all := lw_g (lw_at lw_m3 216 rfl) rfl
theorem q750 : (Jvm.Cond.code ({ cls := "DebtFerry", name := "cellOf", desc := "(Ljava/lang/Object;II)I" } : Jvm.MethodName) prog_1_method_49_code (3 : Nat) (Option.some Jvm.ClassFile.FieldType.int)) ∈ lw_all := lw_g (lw_at lw_m3 217 rfl) rfl
theorem q751 : (Jvm.Cond.methodLink "DebtFerry" (266 : Nat) ({ cls := "DebtFerry", name := "failsLong", desc := "(I)J" } : Jvm.MethodName)) ∈ lw_all := lw_g (lw_at lw_m3 218 rfl) rfl
theorem q752 : (Jvm.Cond.privateMethod ({ cls := "DebtFerry", name := "failsLong", desc := "(I)J" } : Jvm.MethodName)) ∈ lw_tbl := lw_at lw_m3 219 rfl
theorem q753 : (Jvm.Cond.instanceMethod ({ cls := "DebtFerry", name := "failsLong", desc := "(I)J" } : Jvm.MethodName)) ∈ lw_all := lw_g (lw_at lw_m3 220 rfl) rfl
theorem q754 : (Jvm.Cond.code ({ cls := "DebtFerry", name := "failsLong", desc := "(I)J" } : Jvm.MethodName) prog_1_method_47_code (2 : Nat) (Option.some Jvm.ClassFile.FieldType.long)) ∈ lw_all := lw_g (lw_at lw_m3 221 rfl) rfl
theorem q756 : (Jvm.Cond.instanceMethod ({ cls := "DebtFerry", name := "river", desc := "(IIII)I" } : Jvm.MethodName)) ∈ lw_all := lw_g (lw_at lw_m3 223 rfl) rfl
theorem q757 : (Jvm.Cond.selects "DebtFerry" ({ cls := "DebtFerry", name := "river", desc := "(IIII)I" } : Jvm.MethodName) ({ cls := "DebtFerry", name := "river", desc := "(IIII)I" } : Jvm.MethodName)) ∈ lw_all := lw_g (lw_at lw_m3 224 rfl) rfl
theorem q758 : (Jvm.Cond.code ({ cls := "DebtFerry", name := "river", desc := "(IIII)I" } : Jvm.MethodName) prog_1_method_61_code (5 : Nat) (Option.some Jvm.ClassFile.FieldType.int)) ∈ lw_all := lw_g (lw_at lw_m3 225 rfl) rfl
theorem q759 : (Jvm.Cond.classLink "DebtFerry" (299 : Nat) "DebtFerry$Mooring") ∈ lw_all := lw_g (lw_at lw_m3 226 rfl) rfl
theorem q761 : (Jvm.Cond.methodLink "DebtFerry" (301 : Nat) ({ cls := "DebtFerry$Mooring", name := "<init>", desc := "(LDebtFerry;IIII)V" } : Jvm.MethodName)) ∈ lw_all := lw_g (lw_at lw_m3 228 rfl) rfl
theorem q773 : (Jvm.Cond.fieldLink "DebtFerry" (288 : Nat) "DebtFerry$Looking" "sheet" "I") ∈ lw_all := lw_g (lw_at lw_m4 0 rfl) rfl
theorem q775 : (Jvm.Cond.fieldLink "DebtFerry" (293 : Nat) "DebtFerry$Looking" "lane" "I") ∈ lw_all := lw_g (lw_at lw_m4 2 rfl) rfl
theorem q795 : (Jvm.Cond.methodLink "DebtFerry" (304 : Nat) ({ cls := "DebtFerry", name := "looked", desc := "(LDebtFerry$Looking;Z)I" } : Jvm.MethodName)) ∈ lw_all := lw_g (lw_at lw_m4 22 rfl) rfl
theorem q796 : (Jvm.Cond.privateMethod ({ cls := "DebtFerry", name := "looked", desc := "(LDebtFerry$Looking;Z)I" } : Jvm.MethodName)) ∈ lw_tbl := lw_at lw_m4 23 rfl
theorem q797 : (Jvm.Cond.instanceMethod ({ cls := "DebtFerry", name := "looked", desc := "(LDebtFerry$Looking;Z)I" } : Jvm.MethodName)) ∈ lw_all := lw_g (lw_at lw_m4 24 rfl) rfl
theorem q798 : (Jvm.Cond.code ({ cls := "DebtFerry", name := "looked", desc := "(LDebtFerry$Looking;Z)I" } : Jvm.MethodName) prog_1_method_60_code (3 : Nat) (Option.some Jvm.ClassFile.FieldType.int)) ∈ lw_all := lw_g (lw_at lw_m4 25 rfl) rfl
theorem q799 : (Jvm.Cond.methodLink "DebtFerry" (296 : Nat) ({ cls := "DebtFerry$Looking", name := "tried", desc := "()I" } : Jvm.MethodName)) ∈ lw_all := lw_g (lw_at lw_m4 26 rfl) rfl
theorem q837 : (Jvm.Cond.static ({ cls := "DebtFerry", name := "cellsOf", desc := "(Ljava/lang/Object;III)[I" } : Jvm.MethodName)) ∈ lw_all := lw_g (lw_at lw_m4 64 rfl) rfl
theorem q838 : (Jvm.Cond.code ({ cls := "DebtFerry", name := "cellsOf", desc := "(Ljava/lang/Object;III)[I" } : Jvm.MethodName) prog_1_method_59_code (8 : Nat) (Option.some (Jvm.ClassFile.FieldType.array Jvm.ClassFile.FieldType.int))) ∈ lw_all := lw_g (lw_at lw_m4 65 rfl) rfl
theorem q839 : (Jvm.Cond.methodLink "DebtFerry" (277 : Nat) ({ cls := "DebtFerry", name := "sizeOf", desc := "(Ljava/lang/Object;I)I" } : Jvm.MethodName)) ∈ lw_all := lw_g (lw_at lw_m4 66 rfl) rfl
theorem q840 : (Jvm.Cond.static ({ cls := "DebtFerry", name := "sizeOf", desc := "(Ljava/lang/Object;I)I" } : Jvm.MethodName)) ∈ lw_all := lw_g (lw_at lw_m4 67 rfl) rfl
theorem q841 : (Jvm.Cond.code ({ cls := "DebtFerry", name := "sizeOf", desc := "(Ljava/lang/Object;I)I" } : Jvm.MethodName) prog_1_method_50_code (2 : Nat) (Option.some Jvm.ClassFile.FieldType.int)) ∈ lw_all := lw_g (lw_at lw_m4 68 rfl) rfl
theorem q842 : (Jvm.Cond.methodLink "DebtFerry" (281 : Nat) ({ cls := "java/lang/Math", name := "min", desc := "(II)I" } : Jvm.MethodName)) ∈ lw_all := lw_g (lw_at lw_m4 69 rfl) rfl
theorem q843 : (Jvm.Cond.methodLink "DebtFerry" (284 : Nat) ({ cls := "DebtFerry", name := "need", desc := "(Z)V" } : Jvm.MethodName)) ∈ lw_all := lw_g (lw_at lw_m4 70 rfl) rfl
theorem q844 : (Jvm.Cond.static ({ cls := "DebtFerry", name := "need", desc := "(Z)V" } : Jvm.MethodName)) ∈ lw_all := lw_g (lw_at lw_m4 71 rfl) rfl
theorem q845 : (Jvm.Cond.code ({ cls := "DebtFerry", name := "need", desc := "(Z)V" } : Jvm.MethodName) prog_1_method_58_code (1 : Nat) (Option.none : Option Jvm.ClassFile.FieldType)) ∈ lw_all := lw_g (lw_at lw_m4 72 rfl) rfl
theorem q854 : (Jvm.Cond.stringRef "DebtFerry" (272 : Nat) "not all there") ∈ lw_tbl := lw_at lw_m4 81 rfl
theorem q855 : (Jvm.Cond.methodLink "DebtFerry" (274 : Nat) ({ cls := "java/lang/IndexOutOfBoundsException", name := "<init>", desc := "(Ljava/lang/String;)V" } : Jvm.MethodName)) ∈ lw_all := lw_g (lw_at lw_m4 82 rfl) rfl
theorem q865 : (Jvm.Cond.privateMethod ({ cls := "DebtFerry", name := "loadsBarred", desc := "([I)I" } : Jvm.MethodName)) ∈ lw_tbl := lw_at lw_m4 92 rfl
theorem q866 : (Jvm.Cond.instanceMethod ({ cls := "DebtFerry", name := "loadsBarred", desc := "([I)I" } : Jvm.MethodName)) ∈ lw_all := lw_g (lw_at lw_m4 93 rfl) rfl
theorem q867 : (Jvm.Cond.code ({ cls := "DebtFerry", name := "loadsBarred", desc := "([I)I" } : Jvm.MethodName) prog_1_method_26_code (3 : Nat) (Option.some Jvm.ClassFile.FieldType.int)) ∈ lw_all := lw_g (lw_at lw_m4 94 rfl) rfl
theorem q869 : (Jvm.Cond.privateMethod ({ cls := "DebtFerry", name := "loadsBy", desc := "([II)I" } : Jvm.MethodName)) ∈ lw_tbl := lw_at lw_m4 96 rfl
theorem q870 : (Jvm.Cond.instanceMethod ({ cls := "DebtFerry", name := "loadsBy", desc := "([II)I" } : Jvm.MethodName)) ∈ lw_all := lw_g (lw_at lw_m4 97 rfl) rfl
theorem q871 : (Jvm.Cond.code ({ cls := "DebtFerry", name := "loadsBy", desc := "([II)I" } : Jvm.MethodName) prog_1_method_27_code (11 : Nat) (Option.some Jvm.ClassFile.FieldType.int)) ∈ lw_all := lw_g (lw_at lw_m4 98 rfl) rfl
theorem q876 : (Jvm.Cond.privateMethod ({ cls := "DebtFerry", name := "newRiver", desc := "([I)I" } : Jvm.MethodName)) ∈ lw_tbl := lw_at lw_m4 103 rfl
theorem q877 : (Jvm.Cond.instanceMethod ({ cls := "DebtFerry", name := "newRiver", desc := "([I)I" } : Jvm.MethodName)) ∈ lw_all := lw_g (lw_at lw_m4 104 rfl) rfl
theorem q878 : (Jvm.Cond.code ({ cls := "DebtFerry", name := "newRiver", desc := "([I)I" } : Jvm.MethodName) prog_1_method_15_code (9 : Nat) (Option.some Jvm.ClassFile.FieldType.int)) ∈ lw_all := lw_g (lw_at lw_m4 105 rfl) rfl
theorem q879 : (Jvm.Cond.methodLink "DebtFerry" (73 : Nat) ({ cls := "DebtFerry", name := "codeAt", desc := "([II)I" } : Jvm.MethodName)) ∈ lw_all := lw_g (lw_at lw_m4 106 rfl) rfl
theorem q880 : (Jvm.Cond.static ({ cls := "DebtFerry", name := "codeAt", desc := "([II)I" } : Jvm.MethodName)) ∈ lw_all := lw_g (lw_at lw_m4 107 rfl) rfl
theorem q881 : (Jvm.Cond.code ({ cls := "DebtFerry", name := "codeAt", desc := "([II)I" } : Jvm.MethodName) prog_1_method_12_code (2 : Nat) (Option.some Jvm.ClassFile.FieldType.int)) ∈ lw_all := lw_g (lw_at lw_m4 108 rfl) rfl
theorem q882 : (Jvm.Cond.methodLink "DebtFerry" (77 : Nat) ({ cls := "DebtFerry", name := "isFigure", desc := "([IIII)Z" } : Jvm.MethodName)) ∈ lw_all := lw_g (lw_at lw_m4 109 rfl) rfl
theorem q883 : (Jvm.Cond.static ({ cls := "DebtFerry", name := "isFigure", desc := "([IIII)Z" } : Jvm.MethodName)) ∈ lw_all := lw_g (lw_at lw_m4 110 rfl) rfl
theorem q884 : (Jvm.Cond.code ({ cls := "DebtFerry", name := "isFigure", desc := "([IIII)Z" } : Jvm.MethodName) prog_1_method_13_code (4 : Nat) (Option.some Jvm.ClassFile.FieldType.boolean)) ∈ lw_all := lw_g (lw_at lw_m4 111 rfl) rfl
theorem q885 : (Jvm.Cond.methodLink "DebtFerry" (81 : Nat) ({ cls := "DebtFerry", name := "figureAt", desc := "([II)I" } : Jvm.MethodName)) ∈ lw_all := lw_g (lw_at lw_m4 112 rfl) rfl
theorem q886 : (Jvm.Cond.static ({ cls := "DebtFerry", name := "figureAt", desc := "([II)I" } : Jvm.MethodName)) ∈ lw_all := lw_g (lw_at lw_m4 113 rfl) rfl
theorem q887 : (Jvm.Cond.code ({ cls := "DebtFerry", name := "figureAt", desc := "([II)I" } : Jvm.MethodName) prog_1_method_14_code (2 : Nat) (Option.some Jvm.ClassFile.FieldType.int)) ∈ lw_all := lw_g (lw_at lw_m4 114 rfl) rfl
theorem q888 : (Jvm.Cond.methodLink "DebtFerry" (84 : Nat) ({ cls := "java/util/ArrayList", name := "<init>", desc := "(I)V" } : Jvm.MethodName)) ∈ lw_all := lw_g (lw_at lw_m4 115 rfl) rfl
theorem q893 : (Jvm.Cond.interfaceEntry "DebtFerry" (102 : Nat)) ∈ lw_tbl := lw_at lw_m4 120 rfl
theorem q894 : (Jvm.Cond.methodLink "DebtFerry" (102 : Nat) ({ cls := "java/util/List", name := "clear", desc := "()V" } : Jvm.MethodName)) ∈ lw_all := lw_g (lw_at lw_m4 121 rfl) rfl
theorem q902 : (Jvm.Cond.interfaceEntry "DebtFerry" (105 : Nat)) ∈ lw_tbl := lw_at lw_m4 129 rfl
theorem q903 : (Jvm.Cond.methodLink "DebtFerry" (105 : Nat) ({ cls := "java/util/List", name := "addAll", desc := "(Ljava/util/Collection;)Z" } : Jvm.MethodName)) ∈ lw_all := lw_g (lw_at lw_m4 130 rfl) rfl
theorem q929 : (Jvm.Cond.instanceMethod ({ cls := "DebtFerry", name := "loads", desc := "(IIIII)I" } : Jvm.MethodName)) ∈ lw_all := lw_g (lw_at lw_m4 156 rfl) rfl
theorem q930 : (Jvm.Cond.selects "DebtFerry" ({ cls := "DebtFerry", name := "loads", desc := "(IIIII)I" } : Jvm.MethodName) ({ cls := "DebtFerry", name := "loads", desc := "(IIIII)I" } : Jvm.MethodName)) ∈ lw_all := lw_g (lw_at lw_m4 157 rfl) rfl
theorem q931 : (Jvm.Cond.code ({ cls := "DebtFerry", name := "loads", desc := "(IIIII)I" } : Jvm.MethodName) prog_1_method_62_code (6 : Nat) (Option.some Jvm.ClassFile.FieldType.int)) ∈ lw_all := lw_g (lw_at lw_m4 158 rfl) rfl
theorem q932 : (Jvm.Cond.classLink "DebtFerry" (308 : Nat) "DebtFerry$Loading") ∈ lw_all := lw_g (lw_at lw_m4 159 rfl) rfl
theorem q934 : (Jvm.Cond.methodLink "DebtFerry" (310 : Nat) ({ cls := "DebtFerry$Loading", name := "<init>", desc := "(LDebtFerry;IIIII)V" } : Jvm.MethodName)) ∈ lw_all := lw_g (lw_at lw_m4 161 rfl) rfl
theorem q951 : (Jvm.Cond.constantLong "DebtFerry" (313 : Nat) (20 : Int64)) ∈ lw_all := lw_g (lw_at lw_m4 178 rfl) rfl
theorem q952 : (Jvm.Cond.constantLong "DebtFerry" (315 : Nat) (10 : Int64)) ∈ lw_all := lw_g (lw_at lw_m4 179 rfl) rfl
theorem q953 : (Jvm.Cond.constantLong "DebtFerry" (317 : Nat) (14 : Int64)) ∈ lw_all := lw_g (lw_at lw_m4 180 rfl) rfl
theorem q955 : (Jvm.Cond.instanceMethod ({ cls := "DebtFerry", name := "copy", desc := "(IIIII)I" } : Jvm.MethodName)) ∈ lw_all := lw_g (lw_at lw_m4 182 rfl) rfl
theorem q956 : (Jvm.Cond.selects "DebtFerry" ({ cls := "DebtFerry", name := "copy", desc := "(IIIII)I" } : Jvm.MethodName) ({ cls := "DebtFerry", name := "copy", desc := "(IIIII)I" } : Jvm.MethodName)) ∈ lw_all := lw_g (lw_at lw_m4 183 rfl) rfl
theorem q957 : (Jvm.Cond.code ({ cls := "DebtFerry", name := "copy", desc := "(IIIII)I" } : Jvm.MethodName) prog_1_method_63_code (6 : Nat) (Option.some Jvm.ClassFile.FieldType.int)) ∈ lw_all := lw_g (lw_at lw_m4 184 rfl) rfl
theorem q958 : (Jvm.Cond.classLink "DebtFerry" (319 : Nat) "DebtFerry$Copying") ∈ lw_all := lw_g (lw_at lw_m4 185 rfl) rfl
theorem q960 : (Jvm.Cond.methodLink "DebtFerry" (321 : Nat) ({ cls := "DebtFerry$Copying", name := "<init>", desc := "(LDebtFerry;IIIII)V" } : Jvm.MethodName)) ∈ lw_all := lw_g (lw_at lw_m4 187 rfl) rfl
theorem q984 : (Jvm.Cond.methodLink "DebtFerry" (322 : Nat) ({ cls := "DebtFerry$Copying", name := "tried", desc := "()I" } : Jvm.MethodName)) ∈ lw_all := lw_g (lw_at lw_m4 211 rfl) rfl
theorem q988 : (Jvm.Cond.instanceMethod ({ cls := "DebtFerry", name := "tell", desc := "(I)I" } : Jvm.MethodName)) ∈ lw_all := lw_g (lw_at lw_m4 215 rfl) rfl
theorem q989 : (Jvm.Cond.selects "DebtFerry" ({ cls := "DebtFerry", name := "tell", desc := "(I)I" } : Jvm.MethodName) ({ cls := "DebtFerry", name := "tell", desc := "(I)I" } : Jvm.MethodName)) ∈ lw_all := lw_g (lw_at lw_m4 216 rfl) rfl
theorem q990 : (Jvm.Cond.code ({ cls := "DebtFerry", name := "tell", desc := "(I)I" } : Jvm.MethodName) prog_1_method_64_code (2 : Nat) (Option.some Jvm.ClassFile.FieldType.int)) ∈ lw_all := lw_g (lw_at lw_m4 217 rfl) rfl
theorem q991 : (Jvm.Cond.methodLink "DebtFerry" (323 : Nat) ({ cls := "DebtFerry$Rider", name := "said", desc := "()I" } : Jvm.MethodName)) ∈ lw_all := lw_g (lw_at lw_m4 218 rfl) rfl
theorem q1023 : (Jvm.Cond.instanceMethod ({ cls := "DebtFerry", name := "hail", desc := "(I)I" } : Jvm.MethodName)) ∈ lw_all := lw_g (lw_at lw_m5 10 rfl) rfl
theorem q1024 : (Jvm.Cond.selects "DebtFerry" ({ cls := "DebtFerry", name := "hail", desc := "(I)I" } : Jvm.MethodName) ({ cls := "DebtFerry", name := "hail", desc := "(I)I" } : Jvm.MethodName)) ∈ lw_all := lw_g (lw_at lw_m5 11 rfl) rfl
theorem q1025 : (Jvm.Cond.code ({ cls := "DebtFerry", name := "hail", desc := "(I)I" } : Jvm.MethodName) prog_1_method_65_code (3 : Nat) (Option.some Jvm.ClassFile.FieldType.int)) ∈ lw_all := lw_g (lw_at lw_m5 12 rfl) rfl
theorem q1026 : (Jvm.Cond.classLink "DebtFerry" (326 : Nat) "DebtFerry$Hailed") ∈ lw_all := lw_g (lw_at lw_m5 13 rfl) rfl
theorem q1027 : (Jvm.Cond.interfaceEntry "DebtFerry" (328 : Nat)) ∈ lw_tbl := lw_at lw_m5 14 rfl
theorem q1028 : (Jvm.Cond.methodLink "DebtFerry" (328 : Nat) ({ cls := "DebtFerry$Hailed", name := "hailed", desc := "()I" } : Jvm.MethodName)) ∈ lw_all := lw_g (lw_at lw_m5 15 rfl) rfl
theorem q1069 : (Jvm.Cond.instanceMethod ({ cls := "DebtFerry", name := "as", desc := "(II)I" } : Jvm.MethodName)) ∈ lw_all := lw_g (lw_at lw_m5 56 rfl) rfl
theorem q1070 : (Jvm.Cond.selects "DebtFerry" ({ cls := "DebtFerry", name := "as", desc := "(II)I" } : Jvm.MethodName) ({ cls := "DebtFerry", name := "as", desc := "(II)I" } : Jvm.MethodName)) ∈ lw_all := lw_g (lw_at lw_m5 57 rfl) rfl
theorem q1071 : (Jvm.Cond.code ({ cls := "DebtFerry", name := "as", desc := "(II)I" } : Jvm.MethodName) prog_1_method_66_code (3 : Nat) (Option.some Jvm.ClassFile.FieldType.int)) ∈ lw_all := lw_g (lw_at lw_m5 58 rfl) rfl
theorem q1072 : (Jvm.Cond.classLink "DebtFerry" (331 : Nat) "DebtFerry$Taking") ∈ lw_all := lw_g (lw_at lw_m5 59 rfl) rfl
theorem q1074 : (Jvm.Cond.methodLink "DebtFerry" (333 : Nat) ({ cls := "DebtFerry$Taking", name := "<init>", desc := "(LDebtFerry;LDebtFerry$Rider;I)V" } : Jvm.MethodName)) ∈ lw_all := lw_g (lw_at lw_m5 61 rfl) rfl
theorem q1089 : (Jvm.Cond.methodLink "DebtFerry" (336 : Nat) ({ cls := "DebtFerry$Taking", name := "tried", desc := "()I" } : Jvm.MethodName)) ∈ lw_all := lw_g (lw_at lw_m5 76 rfl) rfl
theorem q1093 : (Jvm.Cond.instanceMethod ({ cls := "DebtFerry", name := "trace", desc := "()I" } : Jvm.MethodName)) ∈ lw_all := lw_g (lw_at lw_m5 80 rfl) rfl
theorem q1094 : (Jvm.Cond.selects "DebtFerry" ({ cls := "DebtFerry", name := "trace", desc := "()I" } : Jvm.MethodName) ({ cls := "DebtFerry", name := "trace", desc := "()I" } : Jvm.MethodName)) ∈ lw_all := lw_g (lw_at lw_m5 81 rfl) rfl
theorem q1095 : (Jvm.Cond.code ({ cls := "DebtFerry", name := "trace", desc := "()I" } : Jvm.MethodName) prog_1_method_67_code (1 : Nat) (Option.some Jvm.ClassFile.FieldType.int)) ∈ lw_all := lw_g (lw_at lw_m5 82 rfl) rfl
theorem q1097 : (Jvm.Cond.instanceMethod ({ cls := "DebtFerry", name := "fault", desc := "()I" } : Jvm.MethodName)) ∈ lw_all := lw_g (lw_at lw_m5 84 rfl) rfl
theorem q1098 : (Jvm.Cond.selects "DebtFerry" ({ cls := "DebtFerry", name := "fault", desc := "()I" } : Jvm.MethodName) ({ cls := "DebtFerry", name := "fault", desc := "()I" } : Jvm.MethodName)) ∈ lw_all := lw_g (lw_at lw_m5 85 rfl) rfl
theorem q1099 : (Jvm.Cond.code ({ cls := "DebtFerry", name := "fault", desc := "()I" } : Jvm.MethodName) prog_1_method_68_code (1 : Nat) (Option.some Jvm.ClassFile.FieldType.int)) ∈ lw_all := lw_g (lw_at lw_m5 86 rfl) rfl
theorem q1101 : (Jvm.Cond.instanceMethod ({ cls := "DebtFerry", name := "many", desc := "(I)I" } : Jvm.MethodName)) ∈ lw_all := lw_g (lw_at lw_m5 88 rfl) rfl
theorem q1102 : (Jvm.Cond.selects "DebtFerry" ({ cls := "DebtFerry", name := "many", desc := "(I)I" } : Jvm.MethodName) ({ cls := "DebtFerry", name := "many", desc := "(I)I" } : Jvm.MethodName)) ∈ lw_all := lw_g (lw_at lw_m5 89 rfl) rfl
theorem q1103 : (Jvm.Cond.code ({ cls := "DebtFerry", name := "many", desc := "(I)I" } : Jvm.MethodName) prog_1_method_69_code (2 : Nat) (Option.some Jvm.ClassFile.FieldType.int)) ∈ lw_all := lw_g (lw_at lw_m5 90 rfl) rfl
theorem q1439 : (Jvm.Cond.castable "DebtFerry" "java/lang/Object") ∈ lw_tbl := lw_at lw_m6 186 rfl
theorem in_X0 : ∀ w ∈ wsX00, w ∈ lw_all := lw_in wsX00 [138, 140, 142, 144, 146, 148, 150, 152, 154, 156] (by decide +kernel) (by decide +kernel)
