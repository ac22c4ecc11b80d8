/-! DebtFerry$Act -/
set_option maxRecDepth 100000
def RX2 : String := "DebtFerry$Act"
abbrev cX2_init : ByteArray := prog_2_method_1_code
def yX2_init : MethodName := ⟨RX2, "<init>", "(LDebtFerry;)V"⟩
def dkwX2_init_0 : List UInt8 := [42, 43, 181, 0, 3, 42, 183, 0, 9, 177]
abbrev dktX2_init_0 : List UInt8 := dkwX2_init_0 ++ []
theorem dksX2_init_0 : cX2_init.data.toList.drop 0 = dktX2_init_0 := by decide +kernel
theorem dX2_init_0 : decode cX2_init 0 = .ok (.aload_n 0, 1) := dk_42 (dk_at dksX2_init_0 0 rfl rfl)
theorem dX2_init_1 : decode cX2_init 1 = .ok (.aload_n 1, 1) := dk_43 (dk_at dksX2_init_0 1 rfl rfl)
theorem dX2_init_2 : decode cX2_init 2 = .ok (.putfield 3, 3) := dk_181 0 3 (dk_at dksX2_init_0 2 rfl rfl)
theorem dX2_init_5 : decode cX2_init 5 = .ok (.aload_n 0, 1) := dk_42 (dk_at dksX2_init_0 5 rfl rfl)
theorem dX2_init_6 : decode cX2_init 6 = .ok (.invokespecial 9, 3) := dk_183 0 9 (dk_at dksX2_init_0 6 rfl rfl)
theorem dX2_init_9 : decode cX2_init 9 = .ok (.return_, 1) := dk_177 (dk_at dksX2_init_0 9 rfl rfl)
abbrev cX2_tried : ByteArray := prog_2_method_3_code
def yX2_tried : MethodName := ⟨RX2, "tried", "()I"⟩
def dkwX2_tried_2 : List UInt8 := [6, 182, 0, 25, 172]
abbrev dktX2_tried_2 : List UInt8 := dkwX2_tried_2 ++ []
def dkwX2_tried_1 : List UInt8 := [42, 180, 0, 3, 5, 182, 0, 25, 172, 76, 42, 180, 0, 3, 7, 182, 0, 25, 172, 76, 42, 180, 0, 3]
abbrev dktX2_tried_1 : List UInt8 := dkwX2_tried_1 ++ dktX2_tried_2
def dkwX2_tried_0 : List UInt8 := [42, 180, 0, 3, 3, 181, 0, 15, 42, 182, 0, 19, 172, 76, 42, 180, 0, 3, 4, 182, 0, 25, 172, 76]
abbrev dktX2_tried_0 : List UInt8 := dkwX2_tried_0 ++ dktX2_tried_1
theorem dksX2_tried_0 : cX2_tried.data.toList.drop 0 = dktX2_tried_0 := by decide +kernel
theorem dksX2_tried_1 : cX2_tried.data.toList.drop 24 = dktX2_tried_1 := dk_seg dksX2_tried_0 24 rfl rfl
theorem dksX2_tried_2 : cX2_tried.data.toList.drop 48 = dktX2_tried_2 := dk_seg dksX2_tried_1 24 rfl rfl
theorem dX2_tried_0 : decode cX2_tried 0 = .ok (.aload_n 0, 1) := dk_42 (dk_at dksX2_tried_0 0 rfl rfl)
theorem dX2_tried_1 : decode cX2_tried 1 = .ok (.getfield 3, 3) := dk_180 0 3 (dk_at dksX2_tried_0 1 rfl rfl)
theorem dX2_tried_4 : decode cX2_tried 4 = .ok (.iconst 0, 1) := dk_3 (dk_at dksX2_tried_0 4 rfl rfl)
theorem dX2_tried_5 : decode cX2_tried 5 = .ok (.putfield 15, 3) := dk_181 0 15 (dk_at dksX2_tried_0 5 rfl rfl)
theorem dX2_tried_8 : decode cX2_tried 8 = .ok (.aload_n 0, 1) := dk_42 (dk_at dksX2_tried_0 8 rfl rfl)
theorem dX2_tried_9 : decode cX2_tried 9 = .ok (.invokevirtual 19, 3) := dk_182 0 19 (dk_at dksX2_tried_0 9 rfl rfl)
theorem dX2_tried_12 : decode cX2_tried 12 = .ok (.ireturn, 1) := dk_172 (dk_at dksX2_tried_0 12 rfl rfl)
theorem dX2_tried_13 : decode cX2_tried 13 = .ok (.astore_n 1, 1) := dk_76 (dk_at dksX2_tried_0 13 rfl rfl)
theorem dX2_tried_14 : decode cX2_tried 14 = .ok (.aload_n 0, 1) := dk_42 (dk_at dksX2_tried_0 14 rfl rfl)
theorem dX2_tried_15 : decode cX2_tried 15 = .ok (.getfield 3, 3) := dk_180 0 3 (dk_at dksX2_tried_0 15 rfl rfl)
theorem dX2_tried_18 : decode cX2_tried 18 = .ok (.iconst 1, 1) := dk_4 (dk_at dksX2_tried_0 18 rfl rfl)
theorem dX2_tried_19 : decode cX2_tried 19 = .ok (.invokevirtual 25, 3) := dk_182 0 25 (dk_at dksX2_tried_0 19 rfl rfl)
theorem dX2_tried_22 : decode cX2_tried 22 = .ok (.ireturn, 1) := dk_172 (dk_at dksX2_tried_0 22 rfl rfl)
theorem dX2_tried_23 : decode cX2_tried 23 = .ok (.astore_n 1, 1) := dk_76 (dk_at dksX2_tried_0 23 rfl rfl)
theorem dX2_tried_24 : decode cX2_tried 24 = .ok (.aload_n 0, 1) := dk_42 (dk_at dksX2_tried_1 0 rfl rfl)
theorem dX2_tried_25 : decode cX2_tried 25 = .ok (.getfield 3, 3) := dk_180 0 3 (dk_at dksX2_tried_1 1 rfl rfl)
theorem dX2_tried_28 : decode cX2_tried 28 = .ok (.iconst 2, 1) := dk_5 (dk_at dksX2_tried_1 4 rfl rfl)
theorem dX2_tried_29 : decode cX2_tried 29 = .ok (.invokevirtual 25, 3) := dk_182 0 25 (dk_at dksX2_tried_1 5 rfl rfl)
theorem dX2_tried_32 : decode cX2_tried 32 = .ok (.ireturn, 1) := dk_172 (dk_at dksX2_tried_1 8 rfl rfl)
theorem dX2_tried_33 : decode cX2_tried 33 = .ok (.astore_n 1, 1) := dk_76 (dk_at dksX2_tried_1 9 rfl rfl)
theorem dX2_tried_34 : decode cX2_tried 34 = .ok (.aload_n 0, 1) := dk_42 (dk_at dksX2_tried_1 10 rfl rfl)
theorem dX2_tried_35 : decode cX2_tried 35 = .ok (.getfield 3, 3) := dk_180 0 3 (dk_at dksX2_tried_1 11 rfl rfl)
theorem dX2_tried_38 : decode cX2_tried 38 = .ok (.iconst 4, 1) := dk_7 (dk_at dksX2_tried_1 14 rfl rfl)
theorem dX2_tried_39 : decode cX2_tried 39 = .ok (.invokevirtual 25, 3) := dk_182 0 25 (dk_at dksX2_tried_1 15 rfl rfl)
theorem dX2_tried_42 : decode cX2_tried 42 = .ok (.ireturn, 1) := dk_172 (dk_at dksX2_tried_1 18 rfl rfl)
theorem dX2_tried_43 : decode cX2_tried 43 = .ok (.astore_n 1, 1) := dk_76 (dk_at dksX2_tried_1 19 rfl rfl)
theorem dX2_tried_44 : decode cX2_tried 44 = .ok (.aload_n 0, 1) := dk_42 (dk_at dksX2_tried_1 20 rfl rfl)
theorem dX2_tried_45 : decode cX2_tried 45 = .ok (.getfield 3, 3) := dk_180 0 3 (dk_at dksX2_tried_1 21 rfl rfl)
theorem dX2_tried_48 : decode cX2_tried 48 = .ok (.iconst 3, 1) := dk_6 (dk_at dksX2_tried_2 0 rfl rfl)
theorem dX2_tried_49 : decode cX2_tried 49 = .ok (.invokevirtual 25, 3) := dk_182 0 25 (dk_at dksX2_tried_2 1 rfl rfl)
theorem dX2_tried_52 : decode cX2_tried 52 = .ok (.ireturn, 1) := dk_172 (dk_at dksX2_tried_2 4 rfl rfl)
theorem q59 : (Jvm.Cond.initialized "DebtFerry$Act") ∈ lw_all := lw_g (lw_at lw_m1 6 rfl) rfl
theorem q135 : (Jvm.Cond.fieldLinkNest "DebtFerry$Act" (15 : Nat) "DebtFerry" "fault" "I" "DebtFerry") ∈ lw_tbl := lw_at lw_m1 82 rfl
theorem q768 : (Jvm.Cond.instanceMethod ({ cls := "DebtFerry$Act", name := "<init>", desc := "(LDebtFerry;)V" } : Jvm.MethodName)) ∈ lw_all := lw_g (lw_at lw_m3 235 rfl) rfl
theorem q769 : (Jvm.Cond.code ({ cls := "DebtFerry$Act", name := "<init>", desc := "(LDebtFerry;)V" } : Jvm.MethodName) prog_2_method_1_code (2 : Nat) (Option.none : Option Jvm.ClassFile.FieldType)) ∈ lw_all := lw_g (lw_at lw_m3 236 rfl) rfl
theorem q770 : (Jvm.Cond.methodLink "DebtFerry$Act" (9 : Nat) ({ cls := "java/lang/Object", name := "<init>", desc := "()V" } : Jvm.MethodName)) ∈ lw_all := lw_g (lw_at lw_m3 237 rfl) rfl
theorem q779 : (Jvm.Cond.fieldLink "DebtFerry$Act" (3 : Nat) "DebtFerry$Act" "this$0" "LDebtFerry;") ∈ lw_all := lw_g (lw_at lw_m4 6 rfl) rfl
theorem q793 : (Jvm.Cond.soleField "DebtFerry$Act" "this$0") ∈ lw_all := lw_g (lw_at lw_m4 20 rfl) rfl
theorem q801 : (Jvm.Cond.declares ({ cls := "DebtFerry$Act", name := "tried", desc := "()I" } : Jvm.MethodName)) ∈ lw_tbl := lw_at lw_m4 28 rfl
theorem q804 : (Jvm.Cond.instanceMethod ({ cls := "DebtFerry$Act", name := "tried", desc := "()I" } : Jvm.MethodName)) ∈ lw_all := lw_g (lw_at lw_m4 31 rfl) rfl
theorem q805 : (Jvm.Cond.codeWith ({ cls := "DebtFerry$Act", name := "tried", desc := "()I" } : Jvm.MethodName) prog_2_method_3_code (2 : Nat) (Option.some Jvm.ClassFile.FieldType.int) [((8 : Nat), (12 : Nat), (13 : Nat), (23 : Nat)), ((8 : Nat), (12 : Nat), (23 : Nat), (29 : Nat)), ((8 : Nat), (12 : Nat), (23 : Nat), (31 : Nat)), ((8 : Nat), (12 : Nat), (33 : Nat), (33 : Nat)), ((8 : Nat), (12 : Nat), (43 : Nat), (35 : Nat))]) ∈ lw_all := lw_g (lw_at lw_m4 32 rfl) rfl
theorem q806 : (Jvm.Cond.classLink "DebtFerry$Act" (23 : Nat) "java/lang/NullPointerException") ∈ lw_all := lw_g (lw_at lw_m4 33 rfl) rfl
theorem q807 : (Jvm.Cond.classLink "DebtFerry$Act" (29 : Nat) "java/lang/ClassCastException") ∈ lw_all := lw_g (lw_at lw_m4 34 rfl) rfl
theorem q808 : (Jvm.Cond.classLink "DebtFerry$Act" (31 : Nat) "java/lang/ArrayStoreException") ∈ lw_all := lw_g (lw_at lw_m4 35 rfl) rfl
theorem q822 : (Jvm.Cond.classLink "DebtFerry$Act" (33 : Nat) "java/lang/NegativeArraySizeException") ∈ lw_all := lw_g (lw_at lw_m4 49 rfl) rfl
theorem q823 : (Jvm.Cond.classLink "DebtFerry$Act" (35 : Nat) "java/lang/IndexOutOfBoundsException") ∈ lw_all := lw_g (lw_at lw_m4 50 rfl) rfl
theorem q824 : (Jvm.Cond.methodLink "DebtFerry$Act" (19 : Nat) ({ cls := "DebtFerry$Act", name := "done", desc := "()I" } : Jvm.MethodName)) ∈ lw_all := lw_g (lw_at lw_m4 51 rfl) rfl
theorem q825 : (Jvm.Cond.declares ({ cls := "DebtFerry$Act", name := "done", desc := "()I" } : Jvm.MethodName)) ∈ lw_tbl := lw_at lw_m4 52 rfl
theorem q826 : (Jvm.Cond.sameMethod "DebtFerry$Act" "DebtFerry$Act" "done" "()I") ∈ lw_all := lw_g (lw_at lw_m4 53 rfl) rfl
theorem q927 : (Jvm.Cond.methodLinkNest "DebtFerry$Act" (25 : Nat) ({ cls := "DebtFerry", name := "fails", desc := "(I)I" } : Jvm.MethodName) "DebtFerry") ∈ lw_tbl := lw_at lw_m4 154 rfl
/-! DebtFerry$Looking -/
set_option maxRecDepth 100000
def RX3 : String := "DebtFerry$Looking"
abbrev cX3_init : ByteArray := prog_8_method_1_code
def yX3_init : MethodName := ⟨RX3, "<init>", "(LDebtFerry;IIII)V"⟩
def dkwX3_init_1 : List UInt8 := [181, 0, 20, 42, 21, 5, 181, 0, 23, 177]
abbrev dktX3_init_1 : List UInt8 := dkwX3_init_1 ++ []
def dkwX3_init_0 : List UInt8 := [42, 43, 181, 0, 1, 42, 43, 183, 0, 7, 42, 28, 181, 0, 13, 42, 29, 181, 0, 17, 42, 21, 4]
abbrev dktX3_init_0 : List UInt8 := dkwX3_init_0 ++ dktX3_init_1
theorem dksX3_init_0 : cX3_init.data.toList.drop 0 = dktX3_init_0 := by decide +kernel
theorem dksX3_init_1 : cX3_init.data.toList.drop 23 = dktX3_init_1 := dk_seg dksX3_init_0 23 rfl rfl
theorem dX3_init_0 : decode cX3_init 0 = .ok (.aload_n 0, 1) := dk_42 (dk_at dksX3_init_0 0 rfl rfl)
theorem dX3_init_1 : decode cX3_init 1 = .ok (.aload_n 1, 1) := dk_43 (dk_at dksX3_init_0 1 rfl rfl)
theorem dX3_init_2 : decode cX3_init 2 = .ok (.putfield 1, 3) := dk_181 0 1 (dk_at dksX3_init_0 2 rfl rfl)
theorem dX3_init_5 : decode cX3_init 5 = .ok (.aload_n 0, 1) := dk_42 (dk_at dksX3_init_0 5 rfl rfl)
theorem dX3_init_6 : decode cX3_init 6 = .ok (.aload_n 1, 1) := dk_43 (dk_at dksX3_init_0 6 rfl rfl)
theorem dX3_init_7 : decode cX3_init 7 = .ok (.invokespecial 7, 3) := dk_183 0 7 (dk_at dksX3_init_0 7 rfl rfl)
theorem dX3_init_10 : decode cX3_init 10 = .ok (.aload_n 0, 1) := dk_42 (dk_at dksX3_init_0 10 rfl rfl)
theorem dX3_init_11 : decode cX3_init 11 = .ok (.iload_n 2, 1) := dk_28 (dk_at dksX3_init_0 11 rfl rfl)
theorem dX3_init_12 : decode cX3_init 12 = .ok (.putfield 13, 3) := dk_181 0 13 (dk_at dksX3_init_0 12 rfl rfl)
theorem dX3_init_15 : decode cX3_init 15 = .ok (.aload_n 0, 1) := dk_42 (dk_at dksX3_init_0 15 rfl rfl)
theorem dX3_init_16 : decode cX3_init 16 = .ok (.iload_n 3, 1) := dk_29 (dk_at dksX3_init_0 16 rfl rfl)
theorem dX3_init_17 : decode cX3_init 17 = .ok (.putfield 17, 3) := dk_181 0 17 (dk_at dksX3_init_0 17 rfl rfl)
theorem dX3_init_20 : decode cX3_init 20 = .ok (.aload_n 0, 1) := dk_42 (dk_at dksX3_init_0 20 rfl rfl)
theorem dX3_init_21 : decode cX3_init 21 = .ok (.iload 4, 2) := dk_21 4 (dk_at dksX3_init_0 21 rfl rfl)
theorem dX3_init_23 : decode cX3_init 23 = .ok (.putfield 20, 3) := dk_181 0 20 (dk_at dksX3_init_1 0 rfl rfl)
theorem dX3_init_26 : decode cX3_init 26 = .ok (.aload_n 0, 1) := dk_42 (dk_at dksX3_init_1 3 rfl rfl)
theorem dX3_init_27 : decode cX3_init 27 = .ok (.iload 5, 2) := dk_21 5 (dk_at dksX3_init_1 4 rfl rfl)
theorem dX3_init_29 : decode cX3_init 29 = .ok (.putfield 23, 3) := dk_181 0 23 (dk_at dksX3_init_1 6 rfl rfl)
theorem dX3_init_32 : decode cX3_init 32 = .ok (.return_, 1) := dk_177 (dk_at dksX3_init_1 9 rfl rfl)
abbrev cX3_done : ByteArray := prog_8_method_3_code
def yX3_done : MethodName := ⟨RX3, "done", "()I"⟩
def dkwX3_done_1 : List UInt8 := [184, 0, 32, 182, 0, 36, 172]
abbrev dktX3_done_1 : List UInt8 := dkwX3_done_1 ++ []
def dkwX3_done_0 : List UInt8 := [42, 42, 180, 0, 1, 42, 180, 0, 13, 182, 0, 26, 42, 180, 0, 17, 42, 180, 0, 20, 42, 180, 0, 23]
abbrev dktX3_done_0 : List UInt8 := dkwX3_done_0 ++ dktX3_done_1
theorem dksX3_done_0 : cX3_done.data.toList.drop 0 = dktX3_done_0 := by decide +kernel
theorem dksX3_done_1 : cX3_done.data.toList.drop 24 = dktX3_done_1 := dk_seg dksX3_done_0 24 rfl rfl
theorem dX3_done_0 : decode cX3_done 0 = .ok (.aload_n 0, 1) := dk_42 (dk_at dksX3_done_0 0 rfl rfl)
theorem dX3_done_1 : decode cX3_done 1 = .ok (.aload_n 0, 1) := dk_42 (dk_at dksX3_done_0 1 rfl rfl)
theorem dX3_done_2 : decode cX3_done 2 = .ok (.getfield 1, 3) := dk_180 0 1 (dk_at dksX3_done_0 2 rfl rfl)
theorem dX3_done_5 : decode cX3_done 5 = .ok (.aload_n 0, 1) := dk_42 (dk_at dksX3_done_0 5 rfl rfl)
theorem dX3_done_6 : decode cX3_done 6 = .ok (.getfield 13, 3) := dk_180 0 13 (dk_at dksX3_done_0 6 rfl rfl)
theorem dX3_done_9 : decode cX3_done 9 = .ok (.invokevirtual 26, 3) := dk_182 0 26 (dk_at dksX3_done_0 9 rfl rfl)
theorem dX3_done_12 : decode cX3_done 12 = .ok (.aload_n 0, 1) := dk_42 (dk_at dksX3_done_0 12 rfl rfl)
theorem dX3_done_13 : decode cX3_done 13 = .ok (.getfield 17, 3) := dk_180 0 17 (dk_at dksX3_done_0 13 rfl rfl)
theorem dX3_done_16 : decode cX3_done 16 = .ok (.aload_n 0, 1) := dk_42 (dk_at dksX3_done_0 16 rfl rfl)
theorem dX3_done_17 : decode cX3_done 17 = .ok (.getfield 20, 3) := dk_180 0 20 (dk_at dksX3_done_0 17 rfl rfl)
theorem dX3_done_20 : decode cX3_done 20 = .ok (.aload_n 0, 1) := dk_42 (dk_at dksX3_done_0 20 rfl rfl)
theorem dX3_done_21 : decode cX3_done 21 = .ok (.getfield 23, 3) := dk_180 0 23 (dk_at dksX3_done_0 21 rfl rfl)
theorem dX3_done_24 : decode cX3_done 24 = .ok (.invokestatic 32, 3) := dk_184 0 32 (dk_at dksX3_done_1 0 rfl rfl)
theorem dX3_done_27 : decode cX3_done 27 = .ok (.invokevirtual 36, 3) := dk_182 0 36 (dk_at dksX3_done_1 3 rfl rfl)
theorem dX3_done_30 : decode cX3_done 30 = .ok (.ireturn, 1) := dk_172 (dk_at dksX3_done_1 6 rfl rfl)
theorem q60 : (Jvm.Cond.initialized "DebtFerry$Looking") ∈ lw_all := lw_g (lw_at lw_m1 7 rfl) rfl
theorem q765 : (Jvm.Cond.instanceMethod ({ cls := "DebtFerry$Looking", name := "<init>", desc := "(LDebtFerry;IIII)V" } : Jvm.MethodName)) ∈ lw_all := lw_g (lw_at lw_m3 232 rfl) rfl
theorem q766 : (Jvm.Cond.code ({ cls := "DebtFerry$Looking", name := "<init>", desc := "(LDebtFerry;IIII)V" } : Jvm.MethodName) prog_8_method_1_code (6 : Nat) (Option.none : Option Jvm.ClassFile.FieldType)) ∈ lw_all := lw_g (lw_at lw_m3 233 rfl) rfl
theorem q767 : (Jvm.Cond.methodLinkNest "DebtFerry$Looking" (7 : Nat) ({ cls := "DebtFerry$Act", name := "<init>", desc := "(LDebtFerry;)V" } : Jvm.MethodName) "DebtFerry") ∈ lw_tbl := lw_at lw_m3 234 rfl
theorem q772 : (Jvm.Cond.fieldLink "DebtFerry$Looking" (13 : Nat) "DebtFerry$Looking" "sheet" "I") ∈ lw_all := lw_g (lw_at lw_m3 239 rfl) rfl
theorem q774 : (Jvm.Cond.fieldLink "DebtFerry$Looking" (17 : Nat) "DebtFerry$Looking" "lane" "I") ∈ lw_all := lw_g (lw_at lw_m4 1 rfl) rfl
theorem q776 : (Jvm.Cond.fieldLink "DebtFerry$Looking" (20 : Nat) "DebtFerry$Looking" "i" "I") ∈ lw_all := lw_g (lw_at lw_m4 3 rfl) rfl
theorem q777 : (Jvm.Cond.fieldLink "DebtFerry$Looking" (23 : Nat) "DebtFerry$Looking" "n" "I") ∈ lw_all := lw_g (lw_at lw_m4 4 rfl) rfl
theorem q778 : (Jvm.Cond.fieldLink "DebtFerry$Looking" (1 : Nat) "DebtFerry$Looking" "this$0" "LDebtFerry;") ∈ lw_all := lw_g (lw_at lw_m4 5 rfl) rfl
theorem q783 : (Jvm.Cond.soleField "DebtFerry$Looking" "sheet") ∈ lw_all := lw_g (lw_at lw_m4 10 rfl) rfl
theorem q785 : (Jvm.Cond.soleField "DebtFerry$Looking" "lane") ∈ lw_all := lw_g (lw_at lw_m4 12 rfl) rfl
theorem q787 : (Jvm.Cond.soleField "DebtFerry$Looking" "i") ∈ lw_all := lw_g (lw_at lw_m4 14 rfl) rfl
theorem q789 : (Jvm.Cond.soleField "DebtFerry$Looking" "n") ∈ lw_all := lw_g (lw_at lw_m4 16 rfl) rfl
theorem q791 : (Jvm.Cond.soleField "DebtFerry$Looking" "this$0") ∈ lw_all := lw_g (lw_at lw_m4 18 rfl) rfl
theorem q800 : (Jvm.Cond.sameMethod "DebtFerry$Looking" "DebtFerry$Act" "tried" "()I") ∈ lw_all := lw_g (lw_at lw_m4 27 rfl) rfl
theorem q833 : (Jvm.Cond.instanceMethod ({ cls := "DebtFerry$Looking", name := "done", desc := "()I" } : Jvm.MethodName)) ∈ lw_all := lw_g (lw_at lw_m4 60 rfl) rfl
theorem q834 : (Jvm.Cond.code ({ cls := "DebtFerry$Looking", name := "done", desc := "()I" } : Jvm.MethodName) prog_8_method_3_code (1 : Nat) (Option.some Jvm.ClassFile.FieldType.int)) ∈ lw_all := lw_g (lw_at lw_m4 61 rfl) rfl
theorem q835 : (Jvm.Cond.methodLinkNest "DebtFerry$Looking" (26 : Nat) ({ cls := "DebtFerry", name := "rowIn", desc := "(I)Ljava/lang/Object;" } : Jvm.MethodName) "DebtFerry") ∈ lw_tbl := lw_at lw_m4 62 rfl
theorem q836 : (Jvm.Cond.methodLinkNest "DebtFerry$Looking" (32 : Nat) ({ cls := "DebtFerry", name := "cellsOf", desc := "(Ljava/lang/Object;III)[I" } : Jvm.MethodName) "DebtFerry") ∈ lw_tbl := lw_at lw_m4 63 rfl
theorem q858 : (Jvm.Cond.methodLink "DebtFerry$Looking" (36 : Nat) ({ cls := "DebtFerry$Looking", name := "lookAt", desc := "([I)I" } : Jvm.MethodName)) ∈ lw_all := lw_g (lw_at lw_m4 85 rfl) rfl
theorem q859 : (Jvm.Cond.declares ({ cls := "DebtFerry$Looking", name := "lookAt", desc := "([I)I" } : Jvm.MethodName)) ∈ lw_tbl := lw_at lw_m4 86 rfl
theorem q860 : (Jvm.Cond.sameMethod "DebtFerry$Looking" "DebtFerry$Looking" "lookAt" "([I)I") ∈ lw_all := lw_g (lw_at lw_m4 87 rfl) rfl
/-! DebtFerry$Mooring -/
set_option maxRecDepth 100000
def RX4 : String := "DebtFerry$Mooring"
def TX4 : u_T := fun k => match k with
  | 0 => ("DebtFerry$Looking", "sheet", "I", true)
  | 1 => ("DebtFerry$Looking", "lane", "I", true)
  | 2 => ("DebtFerry$Looking", "i", "I", true)
  | 3 => ("DebtFerry$Looking", "n", "I", true)
  | 4 => ("DebtFerry$Looking", "this$0", "LDebtFerry;", true)
  | 5 => ("DebtFerry$Act", "this$0", "LDebtFerry;", true)
  | _ => ("DebtFerry$Mooring", "this$0", "LDebtFerry;", true)
def tyX4 : Nat → FieldType := fun k => match k with
  | 0 => .int
  | 1 => .int
  | 2 => .int
  | 3 => .int
  | 4 => .object "DebtFerry"
  | 5 => .object "DebtFerry"
  | _ => .object "DebtFerry"
abbrev wsX40 : List Cond := u_ws RX4 TX4 7
-- two fields of one name: no nmX4
theorem tyX4_ok : ∀ k, k < 7 → parseFieldDescriptor (TX4 k).2.2.1 = some (tyX4 k) := by decide +kernel
abbrev cX4_init : ByteArray := prog_9_method_1_code
def yX4_init : MethodName := ⟨RX4, "<init>", "(LDebtFerry;IIII)V"⟩
def dkwX4_init_0 : List UInt8 := [42, 43, 181, 0, 1, 42, 43, 28, 29, 21, 4, 21, 5, 183, 0, 7, 177]
abbrev dktX4_init_0 : List UInt8 := dkwX4_init_0 ++ []
theorem dksX4_init_0 : cX4_init.data.toList.drop 0 = dktX4_init_0 := by decide +kernel
theorem dX4_init_0 : decode cX4_init 0 = .ok (.aload_n 0, 1) := dk_42 (dk_at dksX4_init_0 0 rfl rfl)
theorem dX4_init_1 : decode cX4_init 1 = .ok (.aload_n 1, 1) := dk_43 (dk_at dksX4_init_0 1 rfl rfl)
theorem dX4_init_2 : decode cX4_init 2 = .ok (.putfield 1, 3) := dk_181 0 1 (dk_at dksX4_init_0 2 rfl rfl)
theorem dX4_init_5 : decode cX4_init 5 = .ok (.aload_n 0, 1) := dk_42 (dk_at dksX4_init_0 5 rfl rfl)
theorem dX4_init_6 : decode cX4_init 6 = .ok (.aload_n 1, 1) := dk_43 (dk_at dksX4_init_0 6 rfl rfl)
theorem dX4_init_7 : decode cX4_init 7 = .ok (.iload_n 2, 1) := dk_28 (dk_at dksX4_init_0 7 rfl rfl)
theorem dX4_init_8 : decode cX4_init 8 = .ok (.iload_n 3, 1) := dk_29 (dk_at dksX4_init_0 8 rfl rfl)
theorem dX4_init_9 : decode cX4_init 9 = .ok (.iload 4, 2) := dk_21 4 (dk_at dksX4_init_0 9 rfl rfl)
theorem dX4_init_11 : decode cX4_init 11 = .ok (.iload 5, 2) := dk_21 5 (dk_at dksX4_init_0 11 rfl rfl)
theorem dX4_init_13 : decode cX4_init 13 = .ok (.invokespecial 7, 3) := dk_183 0 7 (dk_at dksX4_init_0 13 rfl rfl)
theorem dX4_init_16 : decode cX4_init 16 = .ok (.return_, 1) := dk_177 (dk_at dksX4_init_0 16 rfl rfl)
abbrev cX4_lookAt : ByteArray := prog_9_method_2_code
def yX4_lookAt : MethodName := ⟨RX4, "lookAt", "([I)I"⟩
def dkwX4_lookAt_0 : List UInt8 := [42, 180, 0, 1, 43, 182, 0, 13, 172]
abbrev dktX4_lookAt_0 : List UInt8 := dkwX4_lookAt_0 ++ []
theorem dksX4_lookAt_0 : cX4_lookAt.data.toList.drop 0 = dktX4_lookAt_0 := by decide +kernel
theorem dX4_lookAt_0 : decode cX4_lookAt 0 = .ok (.aload_n 0, 1) := dk_42 (dk_at dksX4_lookAt_0 0 rfl rfl)
theorem dX4_lookAt_1 : decode cX4_lookAt 1 = .ok (.getfield 1, 3) := dk_180 0 1 (dk_at dksX4_lookAt_0 1 rfl rfl)
theorem dX4_lookAt_4 : decode cX4_lookAt 4 = .ok (.aload_n 1, 1) := dk_43 (dk_at dksX4_lookAt_0 4 rfl rfl)
theorem dX4_lookAt_5 : decode cX4_lookAt 5 = .ok (.invokevirtual 13, 3) := dk_182 0 13 (dk_at dksX4_lookAt_0 5 rfl rfl)
theorem dX4_lookAt_8 : decode cX4_lookAt 8 = .ok (.ireturn, 1) := dk_172 (dk_at dksX4_lookAt_0 8 rfl rfl)
theorem q61 : (Jvm.Cond.initialized "DebtFerry$Mooring") ∈ lw_all := lw_g (lw_at lw_m1 8 rfl) rfl
theorem q423 : (Jvm.Cond.selects "DebtFerry$Mooring" ({ cls := "java/lang/Object", name := "getClass", desc := "()Ljava/lang/Class;" } : Jvm.MethodName) ({ cls := "java/lang/Object", name := "getClass", desc := "()Ljava/lang/Class;" } : Jvm.MethodName)) ∈ lw_all := lw_g (lw_at lw_m2 130 rfl) rfl
theorem q760 : (Jvm.Cond.instantiable "DebtFerry$Mooring" (7 : Nat)) ∈ lw_all := lw_g (lw_at lw_m3 227 rfl) rfl
theorem q762 : (Jvm.Cond.instanceMethod ({ cls := "DebtFerry$Mooring", name := "<init>", desc := "(LDebtFerry;IIII)V" } : Jvm.MethodName)) ∈ lw_all := lw_g (lw_at lw_m3 229 rfl) rfl
theorem q763 : (Jvm.Cond.code ({ cls := "DebtFerry$Mooring", name := "<init>", desc := "(LDebtFerry;IIII)V" } : Jvm.MethodName) prog_9_method_1_code (6 : Nat) (Option.none : Option Jvm.ClassFile.FieldType)) ∈ lw_all := lw_g (lw_at lw_m3 230 rfl) rfl
theorem q764 : (Jvm.Cond.methodLink "DebtFerry$Mooring" (7 : Nat) ({ cls := "DebtFerry$Looking", name := "<init>", desc := "(LDebtFerry;IIII)V" } : Jvm.MethodName)) ∈ lw_all := lw_g (lw_at lw_m3 231 rfl) rfl
theorem q771 : (Jvm.Cond.fieldLink "DebtFerry$Mooring" (1 : Nat) "DebtFerry$Mooring" "this$0" "LDebtFerry;") ∈ lw_all := lw_g (lw_at lw_m3 238 rfl) rfl
theorem q780 : (Jvm.Cond.laysFinal "DebtFerry$Mooring" "DebtFerry$Mooring" "this$0" "LDebtFerry;") ∈ lw_all := lw_g (lw_at lw_m4 7 rfl) rfl
theorem q781 : (Jvm.Cond.soleField "DebtFerry$Mooring" "this$0") ∈ lw_all := lw_g (lw_at lw_m4 8 rfl) rfl
theorem q782 : (Jvm.Cond.laysFinal "DebtFerry$Mooring" "DebtFerry$Looking" "sheet" "I") ∈ lw_all := lw_g (lw_at lw_m4 9 rfl) rfl
theorem q784 : (Jvm.Cond.laysFinal "DebtFerry$Mooring" "DebtFerry$Looking" "lane" "I") ∈ lw_all := lw_g (lw_at lw_m4 11 rfl) rfl
theorem q786 : (Jvm.Cond.laysFinal "DebtFerry$Mooring" "DebtFerry$Looking" "i" "I") ∈ lw_all := lw_g (lw_at lw_m4 13 rfl) rfl
theorem q788 : (Jvm.Cond.laysFinal "DebtFerry$Mooring" "DebtFerry$Looking" "n" "I") ∈ lw_all := lw_g (lw_at lw_m4 15 rfl) rfl
theorem q790 : (Jvm.Cond.laysFinal "DebtFerry$Mooring" "DebtFerry$Looking" "this$0" "LDebtFerry;") ∈ lw_all := lw_g (lw_at lw_m4 17 rfl) rfl
theorem q792 : (Jvm.Cond.laysFinal "DebtFerry$Mooring" "DebtFerry$Act" "this$0" "LDebtFerry;") ∈ lw_all := lw_g (lw_at lw_m4 19 rfl) rfl
theorem q794 : (Jvm.Cond.superclass "DebtFerry$Mooring" "DebtFerry$Looking") ∈ lw_all := lw_g (lw_at lw_m4 21 rfl) rfl
theorem q803 : (Jvm.Cond.selects "DebtFerry$Mooring" ({ cls := "DebtFerry$Looking", name := "tried", desc := "()I" } : Jvm.MethodName) ({ cls := "DebtFerry$Act", name := "tried", desc := "()I" } : Jvm.MethodName)) ∈ lw_all := lw_g (lw_at lw_m4 30 rfl) rfl
theorem q872 : (Jvm.Cond.selects "DebtFerry$Mooring" ({ cls := "DebtFerry$Looking", name := "lookAt", desc := "([I)I" } : Jvm.MethodName) ({ cls := "DebtFerry$Mooring", name := "lookAt", desc := "([I)I" } : Jvm.MethodName)) ∈ lw_all := lw_g (lw_at lw_m4 99 rfl) rfl
theorem q873 : (Jvm.Cond.instanceMethod ({ cls := "DebtFerry$Mooring", name := "lookAt", desc := "([I)I" } : Jvm.MethodName)) ∈ lw_all := lw_g (lw_at lw_m4 100 rfl) rfl
theorem q874 : (Jvm.Cond.code ({ cls := "DebtFerry$Mooring", name := "lookAt", desc := "([I)I" } : Jvm.MethodName) prog_9_method_2_code (2 : Nat) (Option.some Jvm.ClassFile.FieldType.int)) ∈ lw_all := lw_g (lw_at lw_m4 101 rfl) rfl
theorem q875 : (Jvm.Cond.methodLinkNest "DebtFerry$Mooring" (13 : Nat) ({ cls := "DebtFerry", name := "newRiver", desc := "([I)I" } : Jvm.MethodName) "DebtFerry") ∈ lw_tbl := lw_at lw_m4 102 rfl
theorem q921 : (Jvm.Cond.selects "DebtFerry$Mooring" ({ cls := "DebtFerry$Act", name := "done", desc := "()I" } : Jvm.MethodName) ({ cls := "DebtFerry$Looking", name := "done", desc := "()I" } : Jvm.MethodName)) ∈ lw_all := lw_g (lw_at lw_m4 148 rfl) rfl
theorem q1442 : (Jvm.Cond.castable "DebtFerry$Mooring" "java/lang/Object") ∈ lw_tbl := lw_at lw_m6 189 rfl
theorem in_X4 : ∀ w ∈ wsX40, w ∈ lw_all := lw_in wsX40 [782, 784, 786, 788, 790, 792, 780] (by decide +kernel) (by decide +kernel)
/-! DebtFerry$Rider -/
set_option maxRecDepth 100000
def RX5 : String := "DebtFerry$Rider"
def TX5 : u_T := fun k => match k with
  | 0 => ("DebtFerry$Rider", "number", "I", true)
  | 1 => ("DebtFerry$Rider", "isLame", "Z", true)
  | _ => ("DebtFerry$Rider", "this$0", "LDebtFerry;", true)
def tyX5 : Nat → FieldType := fun k => match k with
  | 0 => .int
  | 1 => .boolean
  | _ => .object "DebtFerry"
abbrev wsX50 : List Cond := u_ws RX5 TX5 3
theorem nmX5 : ∀ a, a < 3 → ∀ b, b < 3 → a ≠ b → (TX5 a).2.1 ≠ (TX5 b).2.1 := by decide +kernel
theorem tyX5_ok : ∀ k, k < 3 → parseFieldDescriptor (TX5 k).2.2.1 = some (tyX5 k) := by decide +kernel
abbrev cX5_kind : ByteArray := prog_11_method_3_code
def yX5_kind : MethodName := ⟨RX5, "kind", "()I"⟩
theorem dX5_kind_0 : decode cX5_kind 0 = .ok (.iconst 0, 1) := by decide +kernel
theorem dX5_kind_1 : decode cX5_kind 1 = .ok (.ireturn, 1) := by decide +kernel
abbrev cX5_debtIn : ByteArray := prog_11_method_4_code
def yX5_debtIn : MethodName := ⟨RX5, "debtIn", "(I)I"⟩
def dkwX5_debtIn_2 : List UInt8 := [180, 0, 41, 167, 0, 4, 4, 104, 96, 61, 132, 3, 1, 167, 255, 202, 28, 172]
abbrev dktX5_debtIn_2 : List UInt8 := dkwX5_debtIn_2 ++ []
def dkwX5_debtIn_1 : List UInt8 := [180, 0, 1, 42, 180, 0, 13, 29, 182, 0, 33, 27, 29, 184, 0, 37, 153, 0, 13, 42, 180, 0, 1]
abbrev dktX5_debtIn_1 : List UInt8 := dkwX5_debtIn_1 ++ dktX5_debtIn_2
def dkwX5_debtIn_0 : List UInt8 := [3, 61, 3, 62, 29, 42, 180, 0, 1, 180, 0, 21, 185, 0, 27, 1, 0, 162, 0, 44, 28, 42]
abbrev dktX5_debtIn_0 : List UInt8 := dkwX5_debtIn_0 ++ dktX5_debtIn_1
theorem dksX5_debtIn_0 : cX5_debtIn.data.toList.drop 0 = dktX5_debtIn_0 := by decide +kernel
theorem dksX5_debtIn_1 : cX5_debtIn.data.toList.drop 22 = dktX5_debtIn_1 := dk_seg dksX5_debtIn_0 22 rfl rfl
theorem dksX5_debtIn_2 : cX5_debtIn.data.toList.drop 45 = dktX5_debtIn_2 := dk_seg dksX5_debtIn_1 23 rfl rfl
theorem dX5_debtIn_0 : decode cX5_debtIn 0 = .ok (.iconst 0, 1) := dk_3 (dk_at dksX5_debtIn_0 0 rfl rfl)
theorem dX5_debtIn_1 : decode cX5_debtIn 1 = .ok (.istore_n 2, 1) := dk_61 (dk_at dksX5_debtIn_0 1 rfl rfl)
theorem dX5_debtIn_2 : decode cX5_debtIn 2 = .ok (.iconst 0, 1) := dk_3 (dk_at dksX5_debtIn_0 2 rfl rfl)
theorem dX5_debtIn_3 : decode cX5_debtIn 3 = .ok (.istore_n 3, 1) := dk_62 (dk_at dksX5_debtIn_0 3 rfl rfl)
theorem dX5_debtIn_4 : decode cX5_debtIn 4 = .ok (.iload_n 3, 1) := dk_29 (dk_at dksX5_debtIn_0 4 rfl rfl)
theorem dX5_debtIn_5 : decode cX5_debtIn 5 = .ok (.aload_n 0, 1) := dk_42 (dk_at dksX5_debtIn_0 5 rfl rfl)
theorem dX5_debtIn_6 : decode cX5_debtIn 6 = .ok (.getfield 1, 3) := dk_180 0 1 (dk_at dksX5_debtIn_0 6 rfl rfl)
theorem dX5_debtIn_9 : decode cX5_debtIn 9 = .ok (.getfield 21, 3) := dk_180 0 21 (dk_at dksX5_debtIn_0 9 rfl rfl)
theorem dX5_debtIn_12 : decode cX5_debtIn 12 = .ok (.invokeinterface 27 1, 5) := by decide +kernel
theorem dX5_debtIn_17 : decode cX5_debtIn 17 = .ok (.if_icmp .ge 44, 3) := dk_162 0 44 (dk_at dksX5_debtIn_0 17 rfl rfl)
theorem dX5_debtIn_20 : decode cX5_debtIn 20 = .ok (.iload_n 2, 1) := dk_28 (dk_at dksX5_debtIn_0 20 rfl rfl)
theorem dX5_debtIn_21 : decode cX5_debtIn 21 = .ok (.aload_n 0, 1) := dk_42 (dk_at dksX5_debtIn_0 21 rfl rfl)
theorem dX5_debtIn_22 : decode cX5_debtIn 22 = .ok (.getfield 1, 3) := dk_180 0 1 (dk_at dksX5_debtIn_1 0 rfl rfl)
theorem dX5_debtIn_25 : decode cX5_debtIn 25 = .ok (.aload_n 0, 1) := dk_42 (dk_at dksX5_debtIn_1 3 rfl rfl)
theorem dX5_debtIn_26 : decode cX5_debtIn 26 = .ok (.getfield 13, 3) := dk_180 0 13 (dk_at dksX5_debtIn_1 4 rfl rfl)
theorem dX5_debtIn_29 : decode cX5_debtIn 29 = .ok (.iload_n 3, 1) := dk_29 (dk_at dksX5_debtIn_1 7 rfl rfl)
theorem dX5_debtIn_30 : decode cX5_debtIn 30 = .ok (.invokevirtual 33, 3) := dk_182 0 33 (dk_at dksX5_debtIn_1 8 rfl rfl)
theorem dX5_debtIn_33 : decode cX5_debtIn 33 = .ok (.iload_n 1, 1) := dk_27 (dk_at dksX5_debtIn_1 11 rfl rfl)
theorem dX5_debtIn_34 : decode cX5_debtIn 34 = .ok (.iload_n 3, 1) := dk_29 (dk_at dksX5_debtIn_1 12 rfl rfl)
theorem dX5_debtIn_35 : decode cX5_debtIn 35 = .ok (.invokestatic 37, 3) := dk_184 0 37 (dk_at dksX5_debtIn_1 13 rfl rfl)
theorem dX5_debtIn_38 : decode cX5_debtIn 38 = .ok (.ifCond .eq 13, 3) := dk_153 0 13 (dk_at dksX5_debtIn_1 16 rfl rfl)
theorem dX5_debtIn_41 : decode cX5_debtIn 41 = .ok (.aload_n 0, 1) := dk_42 (dk_at dksX5_debtIn_1 19 rfl rfl)
theorem dX5_debtIn_42 : decode cX5_debtIn 42 = .ok (.getfield 1, 3) := dk_180 0 1 (dk_at dksX5_debtIn_1 20 rfl rfl)
theorem dX5_debtIn_45 : decode cX5_debtIn 45 = .ok (.getfield 41, 3) := dk_180 0 41 (dk_at dksX5_debtIn_2 0 rfl rfl)
theorem dX5_debtIn_48 : decode cX5_debtIn 48 = .ok (.goto 4, 3) := dk_167 0 4 (dk_at dksX5_debtIn_2 3 rfl rfl)
theorem dX5_debtIn_51 : decode cX5_debtIn 51 = .ok (.iconst 1, 1) := dk_4 (dk_at dksX5_debtIn_2 6 rfl rfl)
theorem dX5_debtIn_52 : decode cX5_debtIn 52 = .ok (.imul, 1) := dk_104 (dk_at dksX5_debtIn_2 7 rfl rfl)
theorem dX5_debtIn_53 : decode cX5_debtIn 53 = .ok (.iadd, 1) := dk_96 (dk_at dksX5_debtIn_2 8 rfl rfl)
theorem dX5_debtIn_54 : decode cX5_debtIn 54 = .ok (.istore_n 2, 1) := dk_61 (dk_at dksX5_debtIn_2 9 rfl rfl)
theorem dX5_debtIn_55 : decode cX5_debtIn 55 = .ok (.iinc 3 1, 3) := dk_132 3 1 (dk_at dksX5_debtIn_2 10 rfl rfl)
theorem dX5_debtIn_58 : decode cX5_debtIn 58 = .ok (.goto (-54), 3) := dk_167 255 202 (dk_at dksX5_debtIn_2 13 rfl rfl)
theorem dX5_debtIn_61 : decode cX5_debtIn 61 = .ok (.iload_n 2, 1) := dk_28 (dk_at dksX5_debtIn_2 16 rfl rfl)
theorem dX5_debtIn_62 : decode cX5_debtIn 62 = .ok (.ireturn, 1) := dk_172 (dk_at dksX5_debtIn_2 17 rfl rfl)
abbrev cX5_init : ByteArray := prog_11_method_1_code
def yX5_init : MethodName := ⟨RX5, "<init>", "(LDebtFerry;IZ)V"⟩
def dkwX5_init_0 : List UInt8 := [42, 43, 181, 0, 1, 42, 183, 0, 7, 42, 28, 181, 0, 13, 42, 29, 181, 0, 17, 177]
abbrev dktX5_init_0 : List UInt8 := dkwX5_init_0 ++ []
theorem dksX5_init_0 : cX5_init.data.toList.drop 0 = dktX5_init_0 := by decide +kernel
theorem dX5_init_0 : decode cX5_init 0 = .ok (.aload_n 0, 1) := dk_42 (dk_at dksX5_init_0 0 rfl rfl)
theorem dX5_init_1 : decode cX5_init 1 = .ok (.aload_n 1, 1) := dk_43 (dk_at dksX5_init_0 1 rfl rfl)
theorem dX5_init_2 : decode cX5_init 2 = .ok (.putfield 1, 3) := dk_181 0 1 (dk_at dksX5_init_0 2 rfl rfl)
theorem dX5_init_5 : decode cX5_init 5 = .ok (.aload_n 0, 1) := dk_42 (dk_at dksX5_init_0 5 rfl rfl)
theorem dX5_init_6 : decode cX5_init 6 = .ok (.invokespecial 7, 3) := dk_183 0 7 (dk_at dksX5_init_0 6 rfl rfl)
theorem dX5_init_9 : decode cX5_init 9 = .ok (.aload_n 0, 1) := dk_42 (dk_at dksX5_init_0 9 rfl rfl)
theorem dX5_init_10 : decode cX5_init 10 = .ok (.iload_n 2, 1) := dk_28 (dk_at dksX5_init_0 10 rfl rfl)
theorem dX5_init_11 : decode cX5_init 11 = .ok (.putfield 13, 3) := dk_181 0 13 (dk_at dksX5_init_0 11 rfl rfl)
theorem dX5_init_14 : decode cX5_init 14 = .ok (.aload_n 0, 1) := dk_42 (dk_at dksX5_init_0 14 rfl rfl)
theorem dX5_init_15 : decode cX5_init 15 = .ok (.iload_n 3, 1) := dk_29 (dk_at dksX5_init_0 15 rfl rfl)
theorem dX5_init_16 : decode cX5_init 16 = .ok (.putfield 17, 3) := dk_181 0 17 (dk_at dksX5_init_0 16 rfl rfl)
theorem dX5_init_19 : decode cX5_init 19 = .ok (.return_, 1) := dk_177 (dk_at dksX5_init_0 19 rfl rfl)
abbrev cX5_tracedBy : ByteArray := prog_11_method_5_code
def yX5_tracedBy : MethodName := ⟨RX5, "tracedBy", "(I)I"⟩
def dkwX5_tracedBy_0 : List UInt8 := [42, 180, 0, 1, 16, 31, 42, 180, 0, 1, 180, 0, 44, 104, 27, 96, 181, 0, 44, 3, 172]
abbrev dktX5_tracedBy_0 : List UInt8 := dkwX5_tracedBy_0 ++ []
theorem dksX5_tracedBy_0 : cX5_tracedBy.data.toList.drop 0 = dktX5_tracedBy_0 := by decide +kernel
theorem dX5_tracedBy_0 : decode cX5_tracedBy 0 = .ok (.aload_n 0, 1) := dk_42 (dk_at dksX5_tracedBy_0 0 rfl rfl)
theorem dX5_tracedBy_1 : decode cX5_tracedBy 1 = .ok (.getfield 1, 3) := dk_180 0 1 (dk_at dksX5_tracedBy_0 1 rfl rfl)
theorem dX5_tracedBy_4 : decode cX5_tracedBy 4 = .ok (.bipush 31, 2) := dk_16 31 (dk_at dksX5_tracedBy_0 4 rfl rfl)
theorem dX5_tracedBy_6 : decode cX5_tracedBy 6 = .ok (.aload_n 0, 1) := dk_42 (dk_at dksX5_tracedBy_0 6 rfl rfl)
theorem dX5_tracedBy_7 : decode cX5_tracedBy 7 = .ok (.getfield 1, 3) := dk_180 0 1 (dk_at dksX5_tracedBy_0 7 rfl rfl)
theorem dX5_tracedBy_10 : decode cX5_tracedBy 10 = .ok (.getfield 44, 3) := dk_180 0 44 (dk_at dksX5_tracedBy_0 10 rfl rfl)
theorem dX5_tracedBy_13 : decode cX5_tracedBy 13 = .ok (.imul, 1) := dk_104 (dk_at dksX5_tracedBy_0 13 rfl rfl)
theorem dX5_tracedBy_14 : decode cX5_tracedBy 14 = .ok (.iload_n 1, 1) := dk_27 (dk_at dksX5_tracedBy_0 14 rfl rfl)
theorem dX5_tracedBy_15 : decode cX5_tracedBy 15 = .ok (.iadd, 1) := dk_96 (dk_at dksX5_tracedBy_0 15 rfl rfl)
theorem dX5_tracedBy_16 : decode cX5_tracedBy 16 = .ok (.putfield 44, 3) := dk_181 0 44 (dk_at dksX5_tracedBy_0 16 rfl rfl)
theorem dX5_tracedBy_19 : decode cX5_tracedBy 19 = .ok (.iconst 0, 1) := dk_3 (dk_at dksX5_tracedBy_0 19 rfl rfl)
theorem dX5_tracedBy_20 : decode cX5_tracedBy 20 = .ok (.ireturn, 1) := dk_172 (dk_at dksX5_tracedBy_0 20 rfl rfl)
abbrev cX5_said : ByteArray := prog_11_method_6_code
def yX5_said : MethodName := ⟨RX5, "said", "()I"⟩
def dkwX5_said_0 : List UInt8 := [42, 4, 182, 0, 47, 42, 180, 0, 1, 42, 180, 0, 13, 182, 0, 51, 96, 172]
abbrev dktX5_said_0 : List UInt8 := dkwX5_said_0 ++ []
theorem dksX5_said_0 : cX5_said.data.toList.drop 0 = dktX5_said_0 := by decide +kernel
theorem dX5_said_0 : decode cX5_said 0 = .ok (.aload_n 0, 1) := dk_42 (dk_at dksX5_said_0 0 rfl rfl)
theorem dX5_said_1 : decode cX5_said 1 = .ok (.iconst 1, 1) := dk_4 (dk_at dksX5_said_0 1 rfl rfl)
theorem dX5_said_2 : decode cX5_said 2 = .ok (.invokevirtual 47, 3) := dk_182 0 47 (dk_at dksX5_said_0 2 rfl rfl)
theorem dX5_said_5 : decode cX5_said 5 = .ok (.aload_n 0, 1) := dk_42 (dk_at dksX5_said_0 5 rfl rfl)
theorem dX5_said_6 : decode cX5_said 6 = .ok (.getfield 1, 3) := dk_180 0 1 (dk_at dksX5_said_0 6 rfl rfl)
theorem dX5_said_9 : decode cX5_said 9 = .ok (.aload_n 0, 1) := dk_42 (dk_at dksX5_said_0 9 rfl rfl)
theorem dX5_said_10 : decode cX5_said 10 = .ok (.getfield 13, 3) := dk_180 0 13 (dk_at dksX5_said_0 10 rfl rfl)
theorem dX5_said_13 : decode cX5_said 13 = .ok (.invokevirtual 51, 3) := dk_182 0 51 (dk_at dksX5_said_0 13 rfl rfl)
theorem dX5_said_16 : decode cX5_said 16 = .ok (.iadd, 1) := dk_96 (dk_at dksX5_said_0 16 rfl rfl)
theorem dX5_said_17 : decode cX5_said 17 = .ok (.ireturn, 1) := dk_172 (dk_at dksX5_said_0 17 rfl rfl)
abbrev cX5_number : ByteArray := prog_11_method_2_code
def yX5_number : MethodName := ⟨RX5, "number", "()I"⟩
theorem dX5_number_0 : decode cX5_number 0 = .ok (.aload_n 0, 1) := by decide +kernel
theorem dX5_number_1 : decode cX5_number 1 = .ok (.getfield 13, 3) := by decide +kernel
theorem dX5_number_4 : decode cX5_number 4 = .ok (.ireturn, 1) := by decide +kernel
theorem q77 : (Jvm.Cond.initialized "DebtFerry$Rider") ∈ lw_all := lw_g (lw_at lw_m1 24 rfl) rfl
theorem q124 : (Jvm.Cond.fieldLinkNest "DebtFerry$Rider" (44 : Nat) "DebtFerry" "trace" "I" "DebtFerry") ∈ lw_tbl := lw_at lw_m1 71 rfl
theorem q127 : (Jvm.Cond.fieldLinkNest "DebtFerry$Rider" (41 : Nat) "DebtFerry" "timesNow" "I" "DebtFerry") ∈ lw_tbl := lw_at lw_m1 74 rfl
theorem q131 : (Jvm.Cond.fieldLinkNest "DebtFerry$Rider" (21 : Nat) "DebtFerry" "people" "Ljava/util/List;" "DebtFerry") ∈ lw_tbl := lw_at lw_m1 78 rfl
theorem q201 : (Jvm.Cond.instanceMethod ({ cls := "DebtFerry$Rider", name := "kind", desc := "()I" } : Jvm.MethodName)) ∈ lw_all := lw_g (lw_at lw_m1 148 rfl) rfl
theorem q202 : (Jvm.Cond.selects "DebtFerry$Rider" ({ cls := "DebtFerry$Rider", name := "kind", desc := "()I" } : Jvm.MethodName) ({ cls := "DebtFerry$Rider", name := "kind", desc := "()I" } : Jvm.MethodName)) ∈ lw_all := lw_g (lw_at lw_m1 149 rfl) rfl
theorem q203 : (Jvm.Cond.sameMethod "DebtFerry$Rider" "DebtFerry$Rider" "kind" "()I") ∈ lw_all := lw_g (lw_at lw_m1 150 rfl) rfl
theorem q210 : (Jvm.Cond.code ({ cls := "DebtFerry$Rider", name := "kind", desc := "()I" } : Jvm.MethodName) prog_11_method_3_code (1 : Nat) (Option.some Jvm.ClassFile.FieldType.int)) ∈ lw_all := lw_g (lw_at lw_m1 157 rfl) rfl
theorem q270 : (Jvm.Cond.instanceMethod ({ cls := "DebtFerry$Rider", name := "debtIn", desc := "(I)I" } : Jvm.MethodName)) ∈ lw_all := lw_g (lw_at lw_m1 217 rfl) rfl
theorem q271 : (Jvm.Cond.selects "DebtFerry$Rider" ({ cls := "DebtFerry$Rider", name := "debtIn", desc := "(I)I" } : Jvm.MethodName) ({ cls := "DebtFerry$Rider", name := "debtIn", desc := "(I)I" } : Jvm.MethodName)) ∈ lw_all := lw_g (lw_at lw_m1 218 rfl) rfl
theorem q272 : (Jvm.Cond.sameMethod "DebtFerry$Rider" "DebtFerry$Rider" "debtIn" "(I)I") ∈ lw_all := lw_g (lw_at lw_m1 219 rfl) rfl
theorem q291 : (Jvm.Cond.code ({ cls := "DebtFerry$Rider", name := "debtIn", desc := "(I)I" } : Jvm.MethodName) prog_11_method_4_code (4 : Nat) (Option.some Jvm.ClassFile.FieldType.int)) ∈ lw_all := lw_g (lw_at lw_m1 238 rfl) rfl
theorem q292 : (Jvm.Cond.interfaceEntry "DebtFerry$Rider" (27 : Nat)) ∈ lw_tbl := lw_at lw_m1 239 rfl
theorem q293 : (Jvm.Cond.methodLink "DebtFerry$Rider" (27 : Nat) ({ cls := "java/util/List", name := "size", desc := "()I" } : Jvm.MethodName)) ∈ lw_all := lw_g (lw_at lw_m2 0 rfl) rfl
theorem q294 : (Jvm.Cond.methodLinkNest "DebtFerry$Rider" (33 : Nat) ({ cls := "DebtFerry", name := "noteOf", desc := "(II)I" } : Jvm.MethodName) "DebtFerry") ∈ lw_tbl := lw_at lw_m2 1 rfl
theorem q295 : (Jvm.Cond.methodLinkNest "DebtFerry$Rider" (37 : Nat) ({ cls := "DebtFerry", name := "isIn", desc := "(II)Z" } : Jvm.MethodName) "DebtFerry") ∈ lw_tbl := lw_at lw_m2 2 rfl
theorem q425 : (Jvm.Cond.selects "DebtFerry$Rider" ({ cls := "java/lang/Object", name := "getClass", desc := "()Ljava/lang/Class;" } : Jvm.MethodName) ({ cls := "java/lang/Object", name := "getClass", desc := "()Ljava/lang/Class;" } : Jvm.MethodName)) ∈ lw_all := lw_g (lw_at lw_m2 132 rfl) rfl
theorem q483 : (Jvm.Cond.instantiable "DebtFerry$Rider" (3 : Nat)) ∈ lw_all := lw_g (lw_at lw_m2 190 rfl) rfl
theorem q485 : (Jvm.Cond.instanceMethod ({ cls := "DebtFerry$Rider", name := "<init>", desc := "(LDebtFerry;IZ)V" } : Jvm.MethodName)) ∈ lw_all := lw_g (lw_at lw_m2 192 rfl) rfl
theorem q486 : (Jvm.Cond.code ({ cls := "DebtFerry$Rider", name := "<init>", desc := "(LDebtFerry;IZ)V" } : Jvm.MethodName) prog_11_method_1_code (4 : Nat) (Option.none : Option Jvm.ClassFile.FieldType)) ∈ lw_all := lw_g (lw_at lw_m2 193 rfl) rfl
theorem q487 : (Jvm.Cond.methodLink "DebtFerry$Rider" (7 : Nat) ({ cls := "java/lang/Object", name := "<init>", desc := "()V" } : Jvm.MethodName)) ∈ lw_all := lw_g (lw_at lw_m2 194 rfl) rfl
theorem q488 : (Jvm.Cond.fieldLink "DebtFerry$Rider" (13 : Nat) "DebtFerry$Rider" "number" "I") ∈ lw_all := lw_g (lw_at lw_m2 195 rfl) rfl
theorem q494 : (Jvm.Cond.fieldLink "DebtFerry$Rider" (17 : Nat) "DebtFerry$Rider" "isLame" "Z") ∈ lw_all := lw_g (lw_at lw_m2 201 rfl) rfl
theorem q496 : (Jvm.Cond.fieldLink "DebtFerry$Rider" (1 : Nat) "DebtFerry$Rider" "this$0" "LDebtFerry;") ∈ lw_all := lw_g (lw_at lw_m2 203 rfl) rfl
theorem q497 : (Jvm.Cond.laysFinal "DebtFerry$Rider" "DebtFerry$Rider" "number" "I") ∈ lw_all := lw_g (lw_at lw_m2 204 rfl) rfl
theorem q498 : (Jvm.Cond.soleField "DebtFerry$Rider" "number") ∈ lw_all := lw_g (lw_at lw_m2 205 rfl) rfl
theorem q499 : (Jvm.Cond.laysFinal "DebtFerry$Rider" "DebtFerry$Rider" "isLame" "Z") ∈ lw_all := lw_g (lw_at lw_m2 206 rfl) rfl
theorem q500 : (Jvm.Cond.soleField "DebtFerry$Rider" "isLame") ∈ lw_all := lw_g (lw_at lw_m2 207 rfl) rfl
theorem q501 : (Jvm.Cond.laysFinal "DebtFerry$Rider" "DebtFerry$Rider" "this$0" "LDebtFerry;") ∈ lw_all := lw_g (lw_at lw_m2 208 rfl) rfl
theorem q502 : (Jvm.Cond.soleField "DebtFerry$Rider" "this$0") ∈ lw_all := lw_g (lw_at lw_m2 209 rfl) rfl
theorem q503 : (Jvm.Cond.superclass "DebtFerry$Rider" "java/lang/Object") ∈ lw_all := lw_g (lw_at lw_m2 210 rfl) rfl
theorem q992 : (Jvm.Cond.instanceMethod ({ cls := "DebtFerry$Rider", name := "said", desc := "()I" } : Jvm.MethodName)) ∈ lw_all := lw_g (lw_at lw_m4 219 rfl) rfl
theorem q993 : (Jvm.Cond.selects "DebtFerry$Rider" ({ cls := "DebtFerry$Rider", name := "said", desc := "()I" } : Jvm.MethodName) ({ cls := "DebtFerry$Rider", name := "said", desc := "()I" } : Jvm.MethodName)) ∈ lw_all := lw_g (lw_at lw_m4 220 rfl) rfl
theorem q994 : (Jvm.Cond.sameMethod "DebtFerry$Rider" "DebtFerry$Rider" "said" "()I") ∈ lw_all := lw_g (lw_at lw_m4 221 rfl) rfl
theorem q1000 : (Jvm.Cond.declares ({ cls := "DebtFerry$Rider", name := "tracedBy", desc := "(I)I" } : Jvm.MethodName)) ∈ lw_tbl := lw_at lw_m4 227 rfl
theorem q1002 : (Jvm.Cond.instanceMethod ({ cls := "DebtFerry$Rider", name := "tracedBy", desc := "(I)I" } : Jvm.MethodName)) ∈ lw_all := lw_g (lw_at lw_m4 229 rfl) rfl
theorem q1003 : (Jvm.Cond.code ({ cls := "DebtFerry$Rider", name := "tracedBy", desc := "(I)I" } : Jvm.MethodName) prog_11_method_5_code (2 : Nat) (Option.some Jvm.ClassFile.FieldType.int)) ∈ lw_all := lw_g (lw_at lw_m4 230 rfl) rfl
theorem q1019 : (Jvm.Cond.code ({ cls := "DebtFerry$Rider", name := "said", desc := "()I" } : Jvm.MethodName) prog_11_method_6_code (1 : Nat) (Option.some Jvm.ClassFile.FieldType.int)) ∈ lw_all := lw_g (lw_at lw_m5 6 rfl) rfl
theorem q1020 : (Jvm.Cond.methodLink "DebtFerry$Rider" (47 : Nat) ({ cls := "DebtFerry$Rider", name := "tracedBy", desc := "(I)I" } : Jvm.MethodName)) ∈ lw_all := lw_g (lw_at lw_m5 7 rfl) rfl
theorem q1021 : (Jvm.Cond.methodLinkNest "DebtFerry$Rider" (51 : Nat) ({ cls := "DebtFerry", name := "allOwedBy", desc := "(I)I" } : Jvm.MethodName) "DebtFerry") ∈ lw_tbl := lw_at lw_m5 8 rfl
theorem q1048 : (Jvm.Cond.publicMethod ({ cls := "DebtFerry$Rider", name := "tracedBy", desc := "(I)I" } : Jvm.MethodName)) ∈ lw_tbl := lw_at lw_m5 35 rfl
theorem q1051 : (Jvm.Cond.castable "DebtFerry$Rider" "DebtFerry$Hailed") ∈ lw_tbl := lw_at lw_m5 38 rfl
theorem q1052 : (Jvm.Cond.selects "DebtFerry$Rider" ({ cls := "DebtFerry$Hailed", name := "tracedBy", desc := "(I)I" } : Jvm.MethodName) ({ cls := "DebtFerry$Rider", name := "tracedBy", desc := "(I)I" } : Jvm.MethodName)) ∈ lw_all := lw_g (lw_at lw_m5 39 rfl) rfl
theorem q1053 : (Jvm.Cond.unhidden "DebtFerry$Rider" "tracedBy" "(I)I") ∈ lw_tbl := lw_at lw_m5 40 rfl
theorem q1060 : (Jvm.Cond.instanceMethod ({ cls := "DebtFerry$Rider", name := "number", desc := "()I" } : Jvm.MethodName)) ∈ lw_all := lw_g (lw_at lw_m5 47 rfl) rfl
theorem q1061 : (Jvm.Cond.publicMethod ({ cls := "DebtFerry$Rider", name := "number", desc := "()I" } : Jvm.MethodName)) ∈ lw_tbl := lw_at lw_m5 48 rfl
theorem q1062 : (Jvm.Cond.code ({ cls := "DebtFerry$Rider", name := "number", desc := "()I" } : Jvm.MethodName) prog_11_method_2_code (1 : Nat) (Option.some Jvm.ClassFile.FieldType.int)) ∈ lw_all := lw_g (lw_at lw_m5 49 rfl) rfl
theorem q1065 : (Jvm.Cond.selects "DebtFerry$Rider" ({ cls := "DebtFerry$Hailed", name := "number", desc := "()I" } : Jvm.MethodName) ({ cls := "DebtFerry$Rider", name := "number", desc := "()I" } : Jvm.MethodName)) ∈ lw_all := lw_g (lw_at lw_m5 52 rfl) rfl
theorem q1066 : (Jvm.Cond.unhidden "DebtFerry$Rider" "number" "()I") ∈ lw_tbl := lw_at lw_m5 53 rfl
theorem q1067 : (Jvm.Cond.unhidden "DebtFerry$Rider" "hailed" "()I") ∈ lw_tbl := lw_at lw_m5 54 rfl
theorem q1430 : (Jvm.Cond.sameMethod "DebtFerry$Rider" "DebtFerry$Rider" "tracedBy" "(I)I") ∈ lw_all := lw_g (lw_at lw_m6 177 rfl) rfl
theorem q1433 : (Jvm.Cond.selects "DebtFerry$Rider" ({ cls := "DebtFerry$Rider", name := "tracedBy", desc := "(I)I" } : Jvm.MethodName) ({ cls := "DebtFerry$Rider", name := "tracedBy", desc := "(I)I" } : Jvm.MethodName)) ∈ lw_all := lw_g (lw_at lw_m6 180 rfl) rfl
theorem q1449 : (Jvm.Cond.castable "DebtFerry$Rider" "java/lang/Object") ∈ lw_tbl := lw_at lw_m6 196 rfl
theorem in_X5 : ∀ w ∈ wsX50, w ∈ lw_all := lw_in wsX50 [497, 499, 501] (by decide +kernel) (by decide +kernel)
/-! DebtFerry$Friend -/
set_option maxRecDepth 100000
def RX6 : String := "DebtFerry$Friend"
def TX6 : u_T := fun k => match k with
  | 0 => ("DebtFerry$Rider", "number", "I", true)
  | 1 => ("DebtFerry$Rider", "isLame", "Z", true)
  | 2 => ("DebtFerry$Rider", "this$0", "LDebtFerry;", true)
  | _ => ("DebtFerry$Friend", "this$0", "LDebtFerry;", true)
def tyX6 : Nat → FieldType := fun k => match k with
  | 0 => .int
  | 1 => .boolean
  | 2 => .object "DebtFerry"
  | _ => .object "DebtFerry"
abbrev wsX60 : List Cond := u_ws RX6 TX6 4
-- two fields of one name: no nmX6
theorem tyX6_ok : ∀ k, k < 4 → parseFieldDescriptor (TX6 k).2.2.1 = some (tyX6 k) := by decide +kernel
abbrev cX6_kind : ByteArray := prog_5_method_2_code
def yX6_kind : MethodName := ⟨RX6, "kind", "()I"⟩
theorem dX6_kind_0 : decode cX6_kind 0 = .ok (.iconst 1, 1) := by decide +kernel
theorem dX6_kind_1 : decode cX6_kind 1 = .ok (.ireturn, 1) := by decide +kernel
abbrev cX6_plainDebt : ByteArray := prog_5_method_4_code
def yX6_plainDebt : MethodName := ⟨RX6, "plainDebt", "(I)I"⟩
def dkwX6_plainDebt_0 : List UInt8 := [42, 27, 183, 0, 23, 172]
abbrev dktX6_plainDebt_0 : List UInt8 := dkwX6_plainDebt_0 ++ []
theorem dksX6_plainDebt_0 : cX6_plainDebt.data.toList.drop 0 = dktX6_plainDebt_0 := by decide +kernel
theorem dX6_plainDebt_0 : decode cX6_plainDebt 0 = .ok (.aload_n 0, 1) := dk_42 (dk_at dksX6_plainDebt_0 0 rfl rfl)
theorem dX6_plainDebt_1 : decode cX6_plainDebt 1 = .ok (.iload_n 1, 1) := dk_27 (dk_at dksX6_plainDebt_0 1 rfl rfl)
theorem dX6_plainDebt_2 : decode cX6_plainDebt 2 = .ok (.invokespecial 23, 3) := dk_183 0 23 (dk_at dksX6_plainDebt_0 2 rfl rfl)
theorem dX6_plainDebt_5 : decode cX6_plainDebt 5 = .ok (.ireturn, 1) := dk_172 (dk_at dksX6_plainDebt_0 5 rfl rfl)
abbrev cX6_debtIn : ByteArray := prog_5_method_3_code
def yX6_debtIn : MethodName := ⟨RX6, "debtIn", "(I)I"⟩
def dkwX6_debtIn_0 : List UInt8 := [3, 42, 27, 182, 0, 13, 4, 100, 184, 0, 17, 172]
abbrev dktX6_debtIn_0 : List UInt8 := dkwX6_debtIn_0 ++ []
theorem dksX6_debtIn_0 : cX6_debtIn.data.toList.drop 0 = dktX6_debtIn_0 := by decide +kernel
theorem dX6_debtIn_0 : decode cX6_debtIn 0 = .ok (.iconst 0, 1) := dk_3 (dk_at dksX6_debtIn_0 0 rfl rfl)
theorem dX6_debtIn_1 : decode cX6_debtIn 1 = .ok (.aload_n 0, 1) := dk_42 (dk_at dksX6_debtIn_0 1 rfl rfl)
theorem dX6_debtIn_2 : decode cX6_debtIn 2 = .ok (.iload_n 1, 1) := dk_27 (dk_at dksX6_debtIn_0 2 rfl rfl)
theorem dX6_debtIn_3 : decode cX6_debtIn 3 = .ok (.invokevirtual 13, 3) := dk_182 0 13 (dk_at dksX6_debtIn_0 3 rfl rfl)
theorem dX6_debtIn_6 : decode cX6_debtIn 6 = .ok (.iconst 1, 1) := dk_4 (dk_at dksX6_debtIn_0 6 rfl rfl)
theorem dX6_debtIn_7 : decode cX6_debtIn 7 = .ok (.isub, 1) := dk_100 (dk_at dksX6_debtIn_0 7 rfl rfl)
theorem dX6_debtIn_8 : decode cX6_debtIn 8 = .ok (.invokestatic 17, 3) := dk_184 0 17 (dk_at dksX6_debtIn_0 8 rfl rfl)
theorem dX6_debtIn_11 : decode cX6_debtIn 11 = .ok (.ireturn, 1) := dk_172 (dk_at dksX6_debtIn_0 11 rfl rfl)
abbrev cX6_init : ByteArray := prog_5_method_1_code
def yX6_init : MethodName := ⟨RX6, "<init>", "(LDebtFerry;IZ)V"⟩
def dkwX6_init_0 : List UInt8 := [42, 43, 181, 0, 1, 42, 43, 28, 29, 183, 0, 7, 177]
abbrev dktX6_init_0 : List UInt8 := dkwX6_init_0 ++ []
theorem dksX6_init_0 : cX6_init.data.toList.drop 0 = dktX6_init_0 := by decide +kernel
theorem dX6_init_0 : decode cX6_init 0 = .ok (.aload_n 0, 1) := dk_42 (dk_at dksX6_init_0 0 rfl rfl)
theorem dX6_init_1 : decode cX6_init 1 = .ok (.aload_n 1, 1) := dk_43 (dk_at dksX6_init_0 1 rfl rfl)
theorem dX6_init_2 : decode cX6_init 2 = .ok (.putfield 1, 3) := dk_181 0 1 (dk_at dksX6_init_0 2 rfl rfl)
theorem dX6_init_5 : decode cX6_init 5 = .ok (.aload_n 0, 1) := dk_42 (dk_at dksX6_init_0 5 rfl rfl)
theorem dX6_init_6 : decode cX6_init 6 = .ok (.aload_n 1, 1) := dk_43 (dk_at dksX6_init_0 6 rfl rfl)
theorem dX6_init_7 : decode cX6_init 7 = .ok (.iload_n 2, 1) := dk_28 (dk_at dksX6_init_0 7 rfl rfl)
theorem dX6_init_8 : decode cX6_init 8 = .ok (.iload_n 3, 1) := dk_29 (dk_at dksX6_init_0 8 rfl rfl)
theorem dX6_init_9 : decode cX6_init 9 = .ok (.invokespecial 7, 3) := dk_183 0 7 (dk_at dksX6_init_0 9 rfl rfl)
theorem dX6_init_12 : decode cX6_init 12 = .ok (.return_, 1) := dk_177 (dk_at dksX6_init_0 12 rfl rfl)
abbrev cX6_said : ByteArray := prog_5_method_5_code
def yX6_said : MethodName := ⟨RX6, "said", "()I"⟩
def dkwX6_said_0 : List UInt8 := [42, 5, 182, 0, 26, 42, 183, 0, 29, 96, 16, 100, 96, 172]
abbrev dktX6_said_0 : List UInt8 := dkwX6_said_0 ++ []
theorem dksX6_said_0 : cX6_said.data.toList.drop 0 = dktX6_said_0 := by decide +kernel
theorem dX6_said_0 : decode cX6_said 0 = .ok (.aload_n 0, 1) := dk_42 (dk_at dksX6_said_0 0 rfl rfl)
theorem dX6_said_1 : decode cX6_said 1 = .ok (.iconst 2, 1) := dk_5 (dk_at dksX6_said_0 1 rfl rfl)
theorem dX6_said_2 : decode cX6_said 2 = .ok (.invokevirtual 26, 3) := dk_182 0 26 (dk_at dksX6_said_0 2 rfl rfl)
theorem dX6_said_5 : decode cX6_said 5 = .ok (.aload_n 0, 1) := dk_42 (dk_at dksX6_said_0 5 rfl rfl)
theorem dX6_said_6 : decode cX6_said 6 = .ok (.invokespecial 29, 3) := dk_183 0 29 (dk_at dksX6_said_0 6 rfl rfl)
theorem dX6_said_9 : decode cX6_said 9 = .ok (.iadd, 1) := dk_96 (dk_at dksX6_said_0 9 rfl rfl)
theorem dX6_said_10 : decode cX6_said 10 = .ok (.bipush 100, 2) := dk_16 100 (dk_at dksX6_said_0 10 rfl rfl)
theorem dX6_said_12 : decode cX6_said 12 = .ok (.iadd, 1) := dk_96 (dk_at dksX6_said_0 12 rfl rfl)
theorem dX6_said_13 : decode cX6_said 13 = .ok (.ireturn, 1) := dk_172 (dk_at dksX6_said_0 13 rfl rfl)
abbrev cX6_plainly : ByteArray := prog_5_method_6_code
def yX6_plainly : MethodName := ⟨RX6, "plainly", "()I"⟩
theorem dX6_plainly_0 : decode cX6_plainly 0 = .ok (.aload_n 0, 1) := by decide +kernel
theorem dX6_plainly_1 : decode cX6_plainly 1 = .ok (.invokespecial 29, 3) := by decide +kernel
theorem dX6_plainly_4 : decode cX6_plainly 4 = .ok (.ireturn, 1) := by decide +kernel
theorem q78 : (Jvm.Cond.initialized "DebtFerry$Friend") ∈ lw_all := lw_g (lw_at lw_m1 25 rfl) rfl
theorem q207 : (Jvm.Cond.selects "DebtFerry$Friend" ({ cls := "DebtFerry$Rider", name := "kind", desc := "()I" } : Jvm.MethodName) ({ cls := "DebtFerry$Friend", name := "kind", desc := "()I" } : Jvm.MethodName)) ∈ lw_all := lw_g (lw_at lw_m1 154 rfl) rfl
theorem q208 : (Jvm.Cond.instanceMethod ({ cls := "DebtFerry$Friend", name := "kind", desc := "()I" } : Jvm.MethodName)) ∈ lw_all := lw_g (lw_at lw_m1 155 rfl) rfl
theorem q209 : (Jvm.Cond.code ({ cls := "DebtFerry$Friend", name := "kind", desc := "()I" } : Jvm.MethodName) prog_5_method_2_code (1 : Nat) (Option.some Jvm.ClassFile.FieldType.int)) ∈ lw_all := lw_g (lw_at lw_m1 156 rfl) rfl
theorem q278 : (Jvm.Cond.declares ({ cls := "DebtFerry$Friend", name := "plainDebt", desc := "(I)I" } : Jvm.MethodName)) ∈ lw_tbl := lw_at lw_m1 225 rfl
theorem q280 : (Jvm.Cond.instanceMethod ({ cls := "DebtFerry$Friend", name := "plainDebt", desc := "(I)I" } : Jvm.MethodName)) ∈ lw_all := lw_g (lw_at lw_m1 227 rfl) rfl
theorem q281 : (Jvm.Cond.code ({ cls := "DebtFerry$Friend", name := "plainDebt", desc := "(I)I" } : Jvm.MethodName) prog_5_method_4_code (2 : Nat) (Option.some Jvm.ClassFile.FieldType.int)) ∈ lw_all := lw_g (lw_at lw_m1 228 rfl) rfl
theorem q282 : (Jvm.Cond.methodLink "DebtFerry$Friend" (23 : Nat) ({ cls := "DebtFerry$Rider", name := "debtIn", desc := "(I)I" } : Jvm.MethodName)) ∈ lw_all := lw_g (lw_at lw_m1 229 rfl) rfl
theorem q283 : (Jvm.Cond.superclass "DebtFerry$Friend" "DebtFerry$Rider") ∈ lw_all := lw_g (lw_at lw_m1 230 rfl) rfl
theorem q284 : (Jvm.Cond.selects "DebtFerry$Friend" ({ cls := "DebtFerry$Rider", name := "debtIn", desc := "(I)I" } : Jvm.MethodName) ({ cls := "DebtFerry$Friend", name := "debtIn", desc := "(I)I" } : Jvm.MethodName)) ∈ lw_all := lw_g (lw_at lw_m1 231 rfl) rfl
theorem q285 : (Jvm.Cond.instanceMethod ({ cls := "DebtFerry$Friend", name := "debtIn", desc := "(I)I" } : Jvm.MethodName)) ∈ lw_all := lw_g (lw_at lw_m1 232 rfl) rfl
theorem q286 : (Jvm.Cond.code ({ cls := "DebtFerry$Friend", name := "debtIn", desc := "(I)I" } : Jvm.MethodName) prog_5_method_3_code (2 : Nat) (Option.some Jvm.ClassFile.FieldType.int)) ∈ lw_all := lw_g (lw_at lw_m1 233 rfl) rfl
theorem q287 : (Jvm.Cond.methodLink "DebtFerry$Friend" (13 : Nat) ({ cls := "DebtFerry$Friend", name := "plainDebt", desc := "(I)I" } : Jvm.MethodName)) ∈ lw_all := lw_g (lw_at lw_m1 234 rfl) rfl
theorem q288 : (Jvm.Cond.methodLink "DebtFerry$Friend" (17 : Nat) ({ cls := "java/lang/Math", name := "max", desc := "(II)I" } : Jvm.MethodName)) ∈ lw_all := lw_g (lw_at lw_m1 235 rfl) rfl
theorem q421 : (Jvm.Cond.selects "DebtFerry$Friend" ({ cls := "java/lang/Object", name := "getClass", desc := "()Ljava/lang/Class;" } : Jvm.MethodName) ({ cls := "java/lang/Object", name := "getClass", desc := "()Ljava/lang/Class;" } : Jvm.MethodName)) ∈ lw_all := lw_g (lw_at lw_m2 128 rfl) rfl
theorem q491 : (Jvm.Cond.sameField "DebtFerry$Friend" "DebtFerry$Rider" "number" "I") ∈ lw_all := lw_g (lw_at lw_m2 198 rfl) rfl
theorem q505 : (Jvm.Cond.instantiable "DebtFerry$Friend" (4 : Nat)) ∈ lw_all := lw_g (lw_at lw_m2 212 rfl) rfl
theorem q507 : (Jvm.Cond.instanceMethod ({ cls := "DebtFerry$Friend", name := "<init>", desc := "(LDebtFerry;IZ)V" } : Jvm.MethodName)) ∈ lw_all := lw_g (lw_at lw_m2 214 rfl) rfl
theorem q508 : (Jvm.Cond.code ({ cls := "DebtFerry$Friend", name := "<init>", desc := "(LDebtFerry;IZ)V" } : Jvm.MethodName) prog_5_method_1_code (4 : Nat) (Option.none : Option Jvm.ClassFile.FieldType)) ∈ lw_all := lw_g (lw_at lw_m2 215 rfl) rfl
theorem q509 : (Jvm.Cond.methodLink "DebtFerry$Friend" (7 : Nat) ({ cls := "DebtFerry$Rider", name := "<init>", desc := "(LDebtFerry;IZ)V" } : Jvm.MethodName)) ∈ lw_all := lw_g (lw_at lw_m2 216 rfl) rfl
theorem q510 : (Jvm.Cond.fieldLink "DebtFerry$Friend" (1 : Nat) "DebtFerry$Friend" "this$0" "LDebtFerry;") ∈ lw_all := lw_g (lw_at lw_m2 217 rfl) rfl
theorem q511 : (Jvm.Cond.laysFinal "DebtFerry$Friend" "DebtFerry$Friend" "this$0" "LDebtFerry;") ∈ lw_all := lw_g (lw_at lw_m2 218 rfl) rfl
theorem q512 : (Jvm.Cond.soleField "DebtFerry$Friend" "this$0") ∈ lw_all := lw_g (lw_at lw_m2 219 rfl) rfl
theorem q513 : (Jvm.Cond.laysFinal "DebtFerry$Friend" "DebtFerry$Rider" "number" "I") ∈ lw_all := lw_g (lw_at lw_m2 220 rfl) rfl
theorem q514 : (Jvm.Cond.laysFinal "DebtFerry$Friend" "DebtFerry$Rider" "isLame" "Z") ∈ lw_all := lw_g (lw_at lw_m2 221 rfl) rfl
theorem q515 : (Jvm.Cond.laysFinal "DebtFerry$Friend" "DebtFerry$Rider" "this$0" "LDebtFerry;") ∈ lw_all := lw_g (lw_at lw_m2 222 rfl) rfl
theorem q1005 : (Jvm.Cond.instanceMethod ({ cls := "DebtFerry$Friend", name := "said", desc := "()I" } : Jvm.MethodName)) ∈ lw_all := lw_g (lw_at lw_m4 232 rfl) rfl
theorem q1006 : (Jvm.Cond.code ({ cls := "DebtFerry$Friend", name := "said", desc := "()I" } : Jvm.MethodName) prog_5_method_5_code (1 : Nat) (Option.some Jvm.ClassFile.FieldType.int)) ∈ lw_all := lw_g (lw_at lw_m4 233 rfl) rfl
theorem q1007 : (Jvm.Cond.methodLink "DebtFerry$Friend" (26 : Nat) ({ cls := "DebtFerry$Friend", name := "tracedBy", desc := "(I)I" } : Jvm.MethodName)) ∈ lw_all := lw_g (lw_at lw_m4 234 rfl) rfl
theorem q1008 : (Jvm.Cond.sameMethod "DebtFerry$Friend" "DebtFerry$Rider" "tracedBy" "(I)I") ∈ lw_all := lw_g (lw_at lw_m4 235 rfl) rfl
theorem q1010 : (Jvm.Cond.selects "DebtFerry$Friend" ({ cls := "DebtFerry$Friend", name := "tracedBy", desc := "(I)I" } : Jvm.MethodName) ({ cls := "DebtFerry$Rider", name := "tracedBy", desc := "(I)I" } : Jvm.MethodName)) ∈ lw_all := lw_g (lw_at lw_m4 237 rfl) rfl
theorem q1011 : (Jvm.Cond.methodLink "DebtFerry$Friend" (29 : Nat) ({ cls := "DebtFerry$Rider", name := "said", desc := "()I" } : Jvm.MethodName)) ∈ lw_all := lw_g (lw_at lw_m4 238 rfl) rfl
theorem q1014 : (Jvm.Cond.declares ({ cls := "DebtFerry$Friend", name := "plainly", desc := "()I" } : Jvm.MethodName)) ∈ lw_tbl := lw_at lw_m5 1 rfl
theorem q1016 : (Jvm.Cond.instanceMethod ({ cls := "DebtFerry$Friend", name := "plainly", desc := "()I" } : Jvm.MethodName)) ∈ lw_all := lw_g (lw_at lw_m5 3 rfl) rfl
theorem q1017 : (Jvm.Cond.code ({ cls := "DebtFerry$Friend", name := "plainly", desc := "()I" } : Jvm.MethodName) prog_5_method_6_code (1 : Nat) (Option.some Jvm.ClassFile.FieldType.int)) ∈ lw_all := lw_g (lw_at lw_m5 4 rfl) rfl
theorem q1018 : (Jvm.Cond.selects "DebtFerry$Friend" ({ cls := "DebtFerry$Rider", name := "said", desc := "()I" } : Jvm.MethodName) ({ cls := "DebtFerry$Friend", name := "said", desc := "()I" } : Jvm.MethodName)) ∈ lw_all := lw_g (lw_at lw_m5 5 rfl) rfl
theorem q1037 : (Jvm.Cond.castable "DebtFerry$Friend" "DebtFerry$Hailed") ∈ lw_tbl := lw_at lw_m5 24 rfl
theorem q1038 : (Jvm.Cond.unhidden "DebtFerry$Friend" "hailed" "()I") ∈ lw_tbl := lw_at lw_m5 25 rfl
theorem q1049 : (Jvm.Cond.selects "DebtFerry$Friend" ({ cls := "DebtFerry$Hailed", name := "tracedBy", desc := "(I)I" } : Jvm.MethodName) ({ cls := "DebtFerry$Rider", name := "tracedBy", desc := "(I)I" } : Jvm.MethodName)) ∈ lw_all := lw_g (lw_at lw_m5 36 rfl) rfl
theorem q1050 : (Jvm.Cond.unhidden "DebtFerry$Friend" "tracedBy" "(I)I") ∈ lw_tbl := lw_at lw_m5 37 rfl
theorem q1063 : (Jvm.Cond.selects "DebtFerry$Friend" ({ cls := "DebtFerry$Hailed", name := "number", desc := "()I" } : Jvm.MethodName) ({ cls := "DebtFerry$Rider", name := "number", desc := "()I" } : Jvm.MethodName)) ∈ lw_all := lw_g (lw_at lw_m5 50 rfl) rfl
theorem q1064 : (Jvm.Cond.unhidden "DebtFerry$Friend" "number" "()I") ∈ lw_tbl := lw_at lw_m5 51 rfl
theorem q1425 : (Jvm.Cond.sameMethod "DebtFerry$Friend" "DebtFerry$Friend" "plainDebt" "(I)I") ∈ lw_all := lw_g (lw_at lw_m6 172 rfl) rfl
theorem q1427 : (Jvm.Cond.selects "DebtFerry$Friend" ({ cls := "DebtFerry$Friend", name := "plainDebt", desc := "(I)I" } : Jvm.MethodName) ({ cls := "DebtFerry$Friend", name := "plainDebt", desc := "(I)I" } : Jvm.MethodName)) ∈ lw_all := lw_g (lw_at lw_m6 174 rfl) rfl
theorem q1429 : (Jvm.Cond.sameMethod "DebtFerry$Friend" "DebtFerry$Friend" "said" "()I") ∈ lw_all := lw_g (lw_at lw_m6 176 rfl) rfl
theorem q1432 : (Jvm.Cond.selects "DebtFerry$Friend" ({ cls := "DebtFerry$Rider", name := "tracedBy", desc := "(I)I" } : Jvm.MethodName) ({ cls := "DebtFerry$Rider", name := "tracedBy", desc := "(I)I" } : Jvm.MethodName)) ∈ lw_all := lw_g (lw_at lw_m6 179 rfl) rfl
theorem q1436 : (Jvm.Cond.castable "DebtFerry$Friend" "DebtFerry$Rider") ∈ lw_tbl := lw_at lw_m6 183 rfl
theorem q1450 : (Jvm.Cond.castable "DebtFerry$Friend" "java/lang/Object") ∈ lw_tbl := lw_at lw_m6 197 rfl
theorem in_X6 : ∀ w ∈ wsX60, w ∈ lw_all := lw_in wsX60 [513, 514, 515, 511] (by decide +kernel) (by decide +kernel)
/-! DebtFerry$Banker -/
set_option maxRecDepth 100000
def RX7 : String := "DebtFerry$Banker"
def TX7 : u_T := fun k => match k with
  | 0 => ("DebtFerry$Rider", "number", "I", true)
  | 1 => ("DebtFerry$Rider", "isLame", "Z", true)
  | 2 => ("DebtFerry$Rider", "this$0", "LDebtFerry;", true)
  | 3 => ("DebtFerry$Friend", "this$0", "LDebtFerry;", true)
  | _ => ("DebtFerry$Banker", "this$0", "LDebtFerry;", true)
def tyX7 : Nat → FieldType := fun k => match k with
  | 0 => .int
  | 1 => .boolean
  | 2 => .object "DebtFerry"
  | 3 => .object "DebtFerry"
  | _ => .object "DebtFerry"
abbrev wsX70 : List Cond := u_ws RX7 TX7 5
-- two fields of one name: no nmX7
theorem tyX7_ok : ∀ k, k < 5 → parseFieldDescriptor (TX7 k).2.2.1 = some (tyX7 k) := by decide +kernel
abbrev cX7_kind : ByteArray := prog_3_method_2_code
def yX7_kind : MethodName := ⟨RX7, "kind", "()I"⟩
theorem dX7_kind_0 : decode cX7_kind 0 = .ok (.iconst 2, 1) := by decide +kernel
theorem dX7_kind_1 : decode cX7_kind 1 = .ok (.ireturn, 1) := by decide +kernel
abbrev cX7_debtIn : ByteArray := prog_3_method_3_code
def yX7_debtIn : MethodName := ⟨RX7, "debtIn", "(I)I"⟩
def dkwX7_debtIn_0 : List UInt8 := [42, 27, 182, 0, 13, 5, 108, 172]
abbrev dktX7_debtIn_0 : List UInt8 := dkwX7_debtIn_0 ++ []
theorem dksX7_debtIn_0 : cX7_debtIn.data.toList.drop 0 = dktX7_debtIn_0 := by decide +kernel
theorem dX7_debtIn_0 : decode cX7_debtIn 0 = .ok (.aload_n 0, 1) := dk_42 (dk_at dksX7_debtIn_0 0 rfl rfl)
theorem dX7_debtIn_1 : decode cX7_debtIn 1 = .ok (.iload_n 1, 1) := dk_27 (dk_at dksX7_debtIn_0 1 rfl rfl)
theorem dX7_debtIn_2 : decode cX7_debtIn 2 = .ok (.invokevirtual 13, 3) := dk_182 0 13 (dk_at dksX7_debtIn_0 2 rfl rfl)
theorem dX7_debtIn_5 : decode cX7_debtIn 5 = .ok (.iconst 2, 1) := dk_5 (dk_at dksX7_debtIn_0 5 rfl rfl)
theorem dX7_debtIn_6 : decode cX7_debtIn 6 = .ok (.idiv, 1) := dk_108 (dk_at dksX7_debtIn_0 6 rfl rfl)
theorem dX7_debtIn_7 : decode cX7_debtIn 7 = .ok (.ireturn, 1) := dk_172 (dk_at dksX7_debtIn_0 7 rfl rfl)
abbrev cX7_init : ByteArray := prog_3_method_1_code
def yX7_init : MethodName := ⟨RX7, "<init>", "(LDebtFerry;IZ)V"⟩
def dkwX7_init_0 : List UInt8 := [42, 43, 181, 0, 1, 42, 43, 28, 29, 183, 0, 7, 177]
abbrev dktX7_init_0 : List UInt8 := dkwX7_init_0 ++ []
theorem dksX7_init_0 : cX7_init.data.toList.drop 0 = dktX7_init_0 := by decide +kernel
theorem dX7_init_0 : decode cX7_init 0 = .ok (.aload_n 0, 1) := dk_42 (dk_at dksX7_init_0 0 rfl rfl)
theorem dX7_init_1 : decode cX7_init 1 = .ok (.aload_n 1, 1) := dk_43 (dk_at dksX7_init_0 1 rfl rfl)
theorem dX7_init_2 : decode cX7_init 2 = .ok (.putfield 1, 3) := dk_181 0 1 (dk_at dksX7_init_0 2 rfl rfl)
theorem dX7_init_5 : decode cX7_init 5 = .ok (.aload_n 0, 1) := dk_42 (dk_at dksX7_init_0 5 rfl rfl)
theorem dX7_init_6 : decode cX7_init 6 = .ok (.aload_n 1, 1) := dk_43 (dk_at dksX7_init_0 6 rfl rfl)
theorem dX7_init_7 : decode cX7_init 7 = .ok (.iload_n 2, 1) := dk_28 (dk_at dksX7_init_0 7 rfl rfl)
theorem dX7_init_8 : decode cX7_init 8 = .ok (.iload_n 3, 1) := dk_29 (dk_at dksX7_init_0 8 rfl rfl)
theorem dX7_init_9 : decode cX7_init 9 = .ok (.invokespecial 7, 3) := dk_183 0 7 (dk_at dksX7_init_0 9 rfl rfl)
theorem dX7_init_12 : decode cX7_init 12 = .ok (.return_, 1) := dk_177 (dk_at dksX7_init_0 12 rfl rfl)
abbrev cX7_said : ByteArray := prog_3_method_4_code
def yX7_said : MethodName := ⟨RX7, "said", "()I"⟩
def dkwX7_said_0 : List UInt8 := [42, 6, 182, 0, 17, 42, 183, 0, 20, 96, 42, 182, 0, 24, 96, 172]
abbrev dktX7_said_0 : List UInt8 := dkwX7_said_0 ++ []
theorem dksX7_said_0 : cX7_said.data.toList.drop 0 = dktX7_said_0 := by decide +kernel
theorem dX7_said_0 : decode cX7_said 0 = .ok (.aload_n 0, 1) := dk_42 (dk_at dksX7_said_0 0 rfl rfl)
theorem dX7_said_1 : decode cX7_said 1 = .ok (.iconst 3, 1) := dk_6 (dk_at dksX7_said_0 1 rfl rfl)
theorem dX7_said_2 : decode cX7_said 2 = .ok (.invokevirtual 17, 3) := dk_182 0 17 (dk_at dksX7_said_0 2 rfl rfl)
theorem dX7_said_5 : decode cX7_said 5 = .ok (.aload_n 0, 1) := dk_42 (dk_at dksX7_said_0 5 rfl rfl)
theorem dX7_said_6 : decode cX7_said 6 = .ok (.invokespecial 20, 3) := dk_183 0 20 (dk_at dksX7_said_0 6 rfl rfl)
theorem dX7_said_9 : decode cX7_said 9 = .ok (.iadd, 1) := dk_96 (dk_at dksX7_said_0 9 rfl rfl)
theorem dX7_said_10 : decode cX7_said 10 = .ok (.aload_n 0, 1) := dk_42 (dk_at dksX7_said_0 10 rfl rfl)
theorem dX7_said_11 : decode cX7_said 11 = .ok (.invokevirtual 24, 3) := dk_182 0 24 (dk_at dksX7_said_0 11 rfl rfl)
theorem dX7_said_14 : decode cX7_said 14 = .ok (.iadd, 1) := dk_96 (dk_at dksX7_said_0 14 rfl rfl)
theorem dX7_said_15 : decode cX7_said 15 = .ok (.ireturn, 1) := dk_172 (dk_at dksX7_said_0 15 rfl rfl)
abbrev cX7_hailed : ByteArray := prog_3_method_5_code
def yX7_hailed : MethodName := ⟨RX7, "hailed", "()I"⟩
def dkwX7_hailed_0 : List UInt8 := [42, 8, 182, 0, 17, 16, 40, 96, 172]
abbrev dktX7_hailed_0 : List UInt8 := dkwX7_hailed_0 ++ []
theorem dksX7_hailed_0 : cX7_hailed.data.toList.drop 0 = dktX7_hailed_0 := by decide +kernel
theorem dX7_hailed_0 : decode cX7_hailed 0 = .ok (.aload_n 0, 1) := dk_42 (dk_at dksX7_hailed_0 0 rfl rfl)
theorem dX7_hailed_1 : decode cX7_hailed 1 = .ok (.iconst 5, 1) := dk_8 (dk_at dksX7_hailed_0 1 rfl rfl)
theorem dX7_hailed_2 : decode cX7_hailed 2 = .ok (.invokevirtual 17, 3) := dk_182 0 17 (dk_at dksX7_hailed_0 2 rfl rfl)
theorem dX7_hailed_5 : decode cX7_hailed 5 = .ok (.bipush 40, 2) := dk_16 40 (dk_at dksX7_hailed_0 5 rfl rfl)
theorem dX7_hailed_7 : decode cX7_hailed 7 = .ok (.iadd, 1) := dk_96 (dk_at dksX7_hailed_0 7 rfl rfl)
theorem dX7_hailed_8 : decode cX7_hailed 8 = .ok (.ireturn, 1) := dk_172 (dk_at dksX7_hailed_0 8 rfl rfl)
theorem q79 : (Jvm.Cond.initialized "DebtFerry$Banker") ∈ lw_all := lw_g (lw_at lw_m1 26 rfl) rfl
theorem q204 : (Jvm.Cond.selects "DebtFerry$Banker" ({ cls := "DebtFerry$Rider", name := "kind", desc := "()I" } : Jvm.MethodName) ({ cls := "DebtFerry$Banker", name := "kind", desc := "()I" } : Jvm.MethodName)) ∈ lw_all := lw_g (lw_at lw_m1 151 rfl) rfl
theorem q205 : (Jvm.Cond.instanceMethod ({ cls := "DebtFerry$Banker", name := "kind", desc := "()I" } : Jvm.MethodName)) ∈ lw_all := lw_g (lw_at lw_m1 152 rfl) rfl
theorem q206 : (Jvm.Cond.code ({ cls := "DebtFerry$Banker", name := "kind", desc := "()I" } : Jvm.MethodName) prog_3_method_2_code (1 : Nat) (Option.some Jvm.ClassFile.FieldType.int)) ∈ lw_all := lw_g (lw_at lw_m1 153 rfl) rfl
theorem q273 : (Jvm.Cond.selects "DebtFerry$Banker" ({ cls := "DebtFerry$Rider", name := "debtIn", desc := "(I)I" } : Jvm.MethodName) ({ cls := "DebtFerry$Banker", name := "debtIn", desc := "(I)I" } : Jvm.MethodName)) ∈ lw_all := lw_g (lw_at lw_m1 220 rfl) rfl
theorem q274 : (Jvm.Cond.instanceMethod ({ cls := "DebtFerry$Banker", name := "debtIn", desc := "(I)I" } : Jvm.MethodName)) ∈ lw_all := lw_g (lw_at lw_m1 221 rfl) rfl
theorem q275 : (Jvm.Cond.code ({ cls := "DebtFerry$Banker", name := "debtIn", desc := "(I)I" } : Jvm.MethodName) prog_3_method_3_code (2 : Nat) (Option.some Jvm.ClassFile.FieldType.int)) ∈ lw_all := lw_g (lw_at lw_m1 222 rfl) rfl
theorem q276 : (Jvm.Cond.methodLink "DebtFerry$Banker" (13 : Nat) ({ cls := "DebtFerry$Banker", name := "plainDebt", desc := "(I)I" } : Jvm.MethodName)) ∈ lw_all := lw_g (lw_at lw_m1 223 rfl) rfl
theorem q277 : (Jvm.Cond.sameMethod "DebtFerry$Banker" "DebtFerry$Friend" "plainDebt" "(I)I") ∈ lw_all := lw_g (lw_at lw_m1 224 rfl) rfl
theorem q279 : (Jvm.Cond.selects "DebtFerry$Banker" ({ cls := "DebtFerry$Banker", name := "plainDebt", desc := "(I)I" } : Jvm.MethodName) ({ cls := "DebtFerry$Friend", name := "plainDebt", desc := "(I)I" } : Jvm.MethodName)) ∈ lw_all := lw_g (lw_at lw_m1 226 rfl) rfl
theorem q419 : (Jvm.Cond.selects "DebtFerry$Banker" ({ cls := "java/lang/Object", name := "getClass", desc := "()Ljava/lang/Class;" } : Jvm.MethodName) ({ cls := "java/lang/Object", name := "getClass", desc := "()Ljava/lang/Class;" } : Jvm.MethodName)) ∈ lw_all := lw_g (lw_at lw_m2 126 rfl) rfl
theorem q493 : (Jvm.Cond.sameField "DebtFerry$Banker" "DebtFerry$Rider" "number" "I") ∈ lw_all := lw_g (lw_at lw_m2 200 rfl) rfl
theorem q517 : (Jvm.Cond.instantiable "DebtFerry$Banker" (5 : Nat)) ∈ lw_all := lw_g (lw_at lw_m2 224 rfl) rfl
theorem q519 : (Jvm.Cond.instanceMethod ({ cls := "DebtFerry$Banker", name := "<init>", desc := "(LDebtFerry;IZ)V" } : Jvm.MethodName)) ∈ lw_all := lw_g (lw_at lw_m2 226 rfl) rfl
theorem q520 : (Jvm.Cond.code ({ cls := "DebtFerry$Banker", name := "<init>", desc := "(LDebtFerry;IZ)V" } : Jvm.MethodName) prog_3_method_1_code (4 : Nat) (Option.none : Option Jvm.ClassFile.FieldType)) ∈ lw_all := lw_g (lw_at lw_m2 227 rfl) rfl
theorem q521 : (Jvm.Cond.methodLink "DebtFerry$Banker" (7 : Nat) ({ cls := "DebtFerry$Friend", name := "<init>", desc := "(LDebtFerry;IZ)V" } : Jvm.MethodName)) ∈ lw_all := lw_g (lw_at lw_m2 228 rfl) rfl
theorem q522 : (Jvm.Cond.fieldLink "DebtFerry$Banker" (1 : Nat) "DebtFerry$Banker" "this$0" "LDebtFerry;") ∈ lw_all := lw_g (lw_at lw_m2 229 rfl) rfl
theorem q523 : (Jvm.Cond.laysFinal "DebtFerry$Banker" "DebtFerry$Banker" "this$0" "LDebtFerry;") ∈ lw_all := lw_g (lw_at lw_m2 230 rfl) rfl
theorem q524 : (Jvm.Cond.soleField "DebtFerry$Banker" "this$0") ∈ lw_all := lw_g (lw_at lw_m2 231 rfl) rfl
theorem q525 : (Jvm.Cond.laysFinal "DebtFerry$Banker" "DebtFerry$Friend" "this$0" "LDebtFerry;") ∈ lw_all := lw_g (lw_at lw_m2 232 rfl) rfl
theorem q526 : (Jvm.Cond.laysFinal "DebtFerry$Banker" "DebtFerry$Rider" "number" "I") ∈ lw_all := lw_g (lw_at lw_m2 233 rfl) rfl
theorem q527 : (Jvm.Cond.laysFinal "DebtFerry$Banker" "DebtFerry$Rider" "isLame" "Z") ∈ lw_all := lw_g (lw_at lw_m2 234 rfl) rfl
theorem q528 : (Jvm.Cond.laysFinal "DebtFerry$Banker" "DebtFerry$Rider" "this$0" "LDebtFerry;") ∈ lw_all := lw_g (lw_at lw_m2 235 rfl) rfl
theorem q529 : (Jvm.Cond.superclass "DebtFerry$Banker" "DebtFerry$Friend") ∈ lw_all := lw_g (lw_at lw_m2 236 rfl) rfl
theorem q995 : (Jvm.Cond.selects "DebtFerry$Banker" ({ cls := "DebtFerry$Rider", name := "said", desc := "()I" } : Jvm.MethodName) ({ cls := "DebtFerry$Banker", name := "said", desc := "()I" } : Jvm.MethodName)) ∈ lw_all := lw_g (lw_at lw_m4 222 rfl) rfl
theorem q996 : (Jvm.Cond.instanceMethod ({ cls := "DebtFerry$Banker", name := "said", desc := "()I" } : Jvm.MethodName)) ∈ lw_all := lw_g (lw_at lw_m4 223 rfl) rfl
theorem q997 : (Jvm.Cond.code ({ cls := "DebtFerry$Banker", name := "said", desc := "()I" } : Jvm.MethodName) prog_3_method_4_code (1 : Nat) (Option.some Jvm.ClassFile.FieldType.int)) ∈ lw_all := lw_g (lw_at lw_m4 224 rfl) rfl
theorem q998 : (Jvm.Cond.methodLink "DebtFerry$Banker" (17 : Nat) ({ cls := "DebtFerry$Banker", name := "tracedBy", desc := "(I)I" } : Jvm.MethodName)) ∈ lw_all := lw_g (lw_at lw_m4 225 rfl) rfl
theorem q999 : (Jvm.Cond.sameMethod "DebtFerry$Banker" "DebtFerry$Rider" "tracedBy" "(I)I") ∈ lw_all := lw_g (lw_at lw_m4 226 rfl) rfl
theorem q1001 : (Jvm.Cond.selects "DebtFerry$Banker" ({ cls := "DebtFerry$Banker", name := "tracedBy", desc := "(I)I" } : Jvm.MethodName) ({ cls := "DebtFerry$Rider", name := "tracedBy", desc := "(I)I" } : Jvm.MethodName)) ∈ lw_all := lw_g (lw_at lw_m4 228 rfl) rfl
theorem q1004 : (Jvm.Cond.methodLink "DebtFerry$Banker" (20 : Nat) ({ cls := "DebtFerry$Friend", name := "said", desc := "()I" } : Jvm.MethodName)) ∈ lw_all := lw_g (lw_at lw_m4 231 rfl) rfl
theorem q1009 : (Jvm.Cond.selects "DebtFerry$Banker" ({ cls := "DebtFerry$Friend", name := "tracedBy", desc := "(I)I" } : Jvm.MethodName) ({ cls := "DebtFerry$Rider", name := "tracedBy", desc := "(I)I" } : Jvm.MethodName)) ∈ lw_all := lw_g (lw_at lw_m4 236 rfl) rfl
theorem q1012 : (Jvm.Cond.methodLink "DebtFerry$Banker" (24 : Nat) ({ cls := "DebtFerry$Banker", name := "plainly", desc := "()I" } : Jvm.MethodName)) ∈ lw_all := lw_g (lw_at lw_m4 239 rfl) rfl
theorem q1013 : (Jvm.Cond.sameMethod "DebtFerry$Banker" "DebtFerry$Friend" "plainly" "()I") ∈ lw_all := lw_g (lw_at lw_m5 0 rfl) rfl
theorem q1015 : (Jvm.Cond.selects "DebtFerry$Banker" ({ cls := "DebtFerry$Banker", name := "plainly", desc := "()I" } : Jvm.MethodName) ({ cls := "DebtFerry$Friend", name := "plainly", desc := "()I" } : Jvm.MethodName)) ∈ lw_all := lw_g (lw_at lw_m5 2 rfl) rfl
theorem q1031 : (Jvm.Cond.castable "DebtFerry$Banker" "DebtFerry$Hailed") ∈ lw_tbl := lw_at lw_m5 18 rfl
theorem q1032 : (Jvm.Cond.selects "DebtFerry$Banker" ({ cls := "DebtFerry$Hailed", name := "hailed", desc := "()I" } : Jvm.MethodName) ({ cls := "DebtFerry$Banker", name := "hailed", desc := "()I" } : Jvm.MethodName)) ∈ lw_all := lw_g (lw_at lw_m5 19 rfl) rfl
theorem q1033 : (Jvm.Cond.unhidden "DebtFerry$Banker" "hailed" "()I") ∈ lw_tbl := lw_at lw_m5 20 rfl
theorem q1034 : (Jvm.Cond.instanceMethod ({ cls := "DebtFerry$Banker", name := "hailed", desc := "()I" } : Jvm.MethodName)) ∈ lw_all := lw_g (lw_at lw_m5 21 rfl) rfl
theorem q1035 : (Jvm.Cond.publicMethod ({ cls := "DebtFerry$Banker", name := "hailed", desc := "()I" } : Jvm.MethodName)) ∈ lw_tbl := lw_at lw_m5 22 rfl
theorem q1036 : (Jvm.Cond.code ({ cls := "DebtFerry$Banker", name := "hailed", desc := "()I" } : Jvm.MethodName) prog_3_method_5_code (1 : Nat) (Option.some Jvm.ClassFile.FieldType.int)) ∈ lw_all := lw_g (lw_at lw_m5 23 rfl) rfl
theorem q1046 : (Jvm.Cond.selects "DebtFerry$Banker" ({ cls := "DebtFerry$Hailed", name := "tracedBy", desc := "(I)I" } : Jvm.MethodName) ({ cls := "DebtFerry$Rider", name := "tracedBy", desc := "(I)I" } : Jvm.MethodName)) ∈ lw_all := lw_g (lw_at lw_m5 33 rfl) rfl
theorem q1047 : (Jvm.Cond.unhidden "DebtFerry$Banker" "tracedBy" "(I)I") ∈ lw_tbl := lw_at lw_m5 34 rfl
theorem q1058 : (Jvm.Cond.selects "DebtFerry$Banker" ({ cls := "DebtFerry$Hailed", name := "number", desc := "()I" } : Jvm.MethodName) ({ cls := "DebtFerry$Rider", name := "number", desc := "()I" } : Jvm.MethodName)) ∈ lw_all := lw_g (lw_at lw_m5 45 rfl) rfl
theorem q1059 : (Jvm.Cond.unhidden "DebtFerry$Banker" "number" "()I") ∈ lw_tbl := lw_at lw_m5 46 rfl
theorem q1426 : (Jvm.Cond.selects "DebtFerry$Banker" ({ cls := "DebtFerry$Friend", name := "plainDebt", desc := "(I)I" } : Jvm.MethodName) ({ cls := "DebtFerry$Friend", name := "plainDebt", desc := "(I)I" } : Jvm.MethodName)) ∈ lw_all := lw_g (lw_at lw_m6 173 rfl) rfl
theorem q1431 : (Jvm.Cond.selects "DebtFerry$Banker" ({ cls := "DebtFerry$Rider", name := "tracedBy", desc := "(I)I" } : Jvm.MethodName) ({ cls := "DebtFerry$Rider", name := "tracedBy", desc := "(I)I" } : Jvm.MethodName)) ∈ lw_all := lw_g (lw_at lw_m6 178 rfl) rfl
theorem q1435 : (Jvm.Cond.castable "DebtFerry$Banker" "DebtFerry$Rider") ∈ lw_tbl := lw_at lw_m6 182 rfl
theorem q1437 : (Jvm.Cond.castable "DebtFerry$Banker" "DebtFerry$Friend") ∈ lw_tbl := lw_at lw_m6 184 rfl
theorem q1451 : (Jvm.Cond.castable "DebtFerry$Banker" "java/lang/Object") ∈ lw_tbl := lw_at lw_m6 198 rfl
theorem in_X7 : ∀ w ∈ wsX70, w ∈ lw_all := lw_in wsX70 [526, 527, 528, 525, 523] (by decide +kernel) (by decide +kernel)
/-! DebtFerry$Loading -/
set_option maxRecDepth 100000
def RX8 : String := "DebtFerry$Loading"
def TX8 : u_T := fun k => match k with
  | 0 => ("DebtFerry$Looking", "sheet", "I", true)
  | 1 => ("DebtFerry$Looking", "lane", "I", true)
  | 2 => ("DebtFerry$Looking", "i", "I", true)
  | 3 => ("DebtFerry$Looking", "n", "I", true)
  | 4 => ("DebtFerry$Looking", "this$0", "LDebtFerry;", true)
  | 5 => ("DebtFerry$Act", "this$0", "LDebtFerry;", true)
  | 6 => ("DebtFerry$Loading", "what", "I", true)
  | _ => ("DebtFerry$Loading", "this$0", "LDebtFerry;", true)
def tyX8 : Nat → FieldType := fun k => match k with
  | 0 => .int
  | 1 => .int
  | 2 => .int
  | 3 => .int
  | 4 => .object "DebtFerry"
  | 5 => .object "DebtFerry"
  | 6 => .int
  | _ => .object "DebtFerry"
abbrev wsX80 : List Cond := u_ws RX8 TX8 8
-- two fields of one name: no nmX8
theorem tyX8_ok : ∀ k, k < 8 → parseFieldDescriptor (TX8 k).2.2.1 = some (tyX8 k) := by decide +kernel
abbrev cX8_lookAt : ByteArray := prog_7_method_2_code
def yX8_lookAt : MethodName := ⟨RX8, "lookAt", "([I)I"⟩
def dkwX8_lookAt_1 : List UInt8 := [180, 0, 13, 182, 0, 23, 172]
abbrev dktX8_lookAt_1 : List UInt8 := dkwX8_lookAt_1 ++ []
def dkwX8_lookAt_0 : List UInt8 := [42, 180, 0, 1, 43, 182, 0, 17, 61, 28, 156, 0, 7, 28, 167, 0, 15, 42, 180, 0, 1, 43, 42]
abbrev dktX8_lookAt_0 : List UInt8 := dkwX8_lookAt_0 ++ dktX8_lookAt_1
theorem dksX8_lookAt_0 : cX8_lookAt.data.toList.drop 0 = dktX8_lookAt_0 := by decide +kernel
theorem dksX8_lookAt_1 : cX8_lookAt.data.toList.drop 23 = dktX8_lookAt_1 := dk_seg dksX8_lookAt_0 23 rfl rfl
theorem dX8_lookAt_0 : decode cX8_lookAt 0 = .ok (.aload_n 0, 1) := dk_42 (dk_at dksX8_lookAt_0 0 rfl rfl)
theorem dX8_lookAt_1 : decode cX8_lookAt 1 = .ok (.getfield 1, 3) := dk_180 0 1 (dk_at dksX8_lookAt_0 1 rfl rfl)
theorem dX8_lookAt_4 : decode cX8_lookAt 4 = .ok (.aload_n 1, 1) := dk_43 (dk_at dksX8_lookAt_0 4 rfl rfl)
theorem dX8_lookAt_5 : decode cX8_lookAt 5 = .ok (.invokevirtual 17, 3) := dk_182 0 17 (dk_at dksX8_lookAt_0 5 rfl rfl)
theorem dX8_lookAt_8 : decode cX8_lookAt 8 = .ok (.istore_n 2, 1) := dk_61 (dk_at dksX8_lookAt_0 8 rfl rfl)
theorem dX8_lookAt_9 : decode cX8_lookAt 9 = .ok (.iload_n 2, 1) := dk_28 (dk_at dksX8_lookAt_0 9 rfl rfl)
theorem dX8_lookAt_10 : decode cX8_lookAt 10 = .ok (.ifCond .ge 7, 3) := dk_156 0 7 (dk_at dksX8_lookAt_0 10 rfl rfl)
theorem dX8_lookAt_13 : decode cX8_lookAt 13 = .ok (.iload_n 2, 1) := dk_28 (dk_at dksX8_lookAt_0 13 rfl rfl)
theorem dX8_lookAt_14 : decode cX8_lookAt 14 = .ok (.goto 15, 3) := dk_167 0 15 (dk_at dksX8_lookAt_0 14 rfl rfl)
theorem dX8_lookAt_17 : decode cX8_lookAt 17 = .ok (.aload_n 0, 1) := dk_42 (dk_at dksX8_lookAt_0 17 rfl rfl)
theorem dX8_lookAt_18 : decode cX8_lookAt 18 = .ok (.getfield 1, 3) := dk_180 0 1 (dk_at dksX8_lookAt_0 18 rfl rfl)
theorem dX8_lookAt_21 : decode cX8_lookAt 21 = .ok (.aload_n 1, 1) := dk_43 (dk_at dksX8_lookAt_0 21 rfl rfl)
theorem dX8_lookAt_22 : decode cX8_lookAt 22 = .ok (.aload_n 0, 1) := dk_42 (dk_at dksX8_lookAt_0 22 rfl rfl)
theorem dX8_lookAt_23 : decode cX8_lookAt 23 = .ok (.getfield 13, 3) := dk_180 0 13 (dk_at dksX8_lookAt_1 0 rfl rfl)
theorem dX8_lookAt_26 : decode cX8_lookAt 26 = .ok (.invokevirtual 23, 3) := dk_182 0 23 (dk_at dksX8_lookAt_1 3 rfl rfl)
theorem dX8_lookAt_29 : decode cX8_lookAt 29 = .ok (.ireturn, 1) := dk_172 (dk_at dksX8_lookAt_1 6 rfl rfl)
abbrev cX8_init : ByteArray := prog_7_method_1_code
def yX8_init : MethodName := ⟨RX8, "<init>", "(LDebtFerry;IIIII)V"⟩
def dkwX8_init_0 : List UInt8 := [42, 43, 181, 0, 1, 42, 43, 28, 29, 21, 4, 21, 5, 183, 0, 7, 42, 21, 6, 181, 0, 13, 177]
abbrev dktX8_init_0 : List UInt8 := dkwX8_init_0 ++ []
theorem dksX8_init_0 : cX8_init.data.toList.drop 0 = dktX8_init_0 := by decide +kernel
theorem dX8_init_0 : decode cX8_init 0 = .ok (.aload_n 0, 1) := dk_42 (dk_at dksX8_init_0 0 rfl rfl)
theorem dX8_init_1 : decode cX8_init 1 = .ok (.aload_n 1, 1) := dk_43 (dk_at dksX8_init_0 1 rfl rfl)
theorem dX8_init_2 : decode cX8_init 2 = .ok (.putfield 1, 3) := dk_181 0 1 (dk_at dksX8_init_0 2 rfl rfl)
theorem dX8_init_5 : decode cX8_init 5 = .ok (.aload_n 0, 1) := dk_42 (dk_at dksX8_init_0 5 rfl rfl)
theorem dX8_init_6 : decode cX8_init 6 = .ok (.aload_n 1, 1) := dk_43 (dk_at dksX8_init_0 6 rfl rfl)
theorem dX8_init_7 : decode cX8_init 7 = .ok (.iload_n 2, 1) := dk_28 (dk_at dksX8_init_0 7 rfl rfl)
theorem dX8_init_8 : decode cX8_init 8 = .ok (.iload_n 3, 1) := dk_29 (dk_at dksX8_init_0 8 rfl rfl)
theorem dX8_init_9 : decode cX8_init 9 = .ok (.iload 4, 2) := dk_21 4 (dk_at dksX8_init_0 9 rfl rfl)
theorem dX8_init_11 : decode cX8_init 11 = .ok (.iload 5, 2) := dk_21 5 (dk_at dksX8_init_0 11 rfl rfl)
theorem dX8_init_13 : decode cX8_init 13 = .ok (.invokespecial 7, 3) := dk_183 0 7 (dk_at dksX8_init_0 13 rfl rfl)
theorem dX8_init_16 : decode cX8_init 16 = .ok (.aload_n 0, 1) := dk_42 (dk_at dksX8_init_0 16 rfl rfl)
theorem dX8_init_17 : decode cX8_init 17 = .ok (.iload 6, 2) := dk_21 6 (dk_at dksX8_init_0 17 rfl rfl)
theorem dX8_init_19 : decode cX8_init 19 = .ok (.putfield 13, 3) := dk_181 0 13 (dk_at dksX8_init_0 19 rfl rfl)
theorem dX8_init_22 : decode cX8_init 22 = .ok (.return_, 1) := dk_177 (dk_at dksX8_init_0 22 rfl rfl)
theorem q82 : (Jvm.Cond.initialized "DebtFerry$Loading") ∈ lw_all := lw_g (lw_at lw_m1 29 rfl) rfl
theorem q422 : (Jvm.Cond.selects "DebtFerry$Loading" ({ cls := "java/lang/Object", name := "getClass", desc := "()Ljava/lang/Class;" } : Jvm.MethodName) ({ cls := "java/lang/Object", name := "getClass", desc := "()Ljava/lang/Class;" } : Jvm.MethodName)) ∈ lw_all := lw_g (lw_at lw_m2 129 rfl) rfl
theorem q802 : (Jvm.Cond.selects "DebtFerry$Loading" ({ cls := "DebtFerry$Looking", name := "tried", desc := "()I" } : Jvm.MethodName) ({ cls := "DebtFerry$Act", name := "tried", desc := "()I" } : Jvm.MethodName)) ∈ lw_all := lw_g (lw_at lw_m4 29 rfl) rfl
theorem q832 : (Jvm.Cond.selects "DebtFerry$Loading" ({ cls := "DebtFerry$Act", name := "done", desc := "()I" } : Jvm.MethodName) ({ cls := "DebtFerry$Looking", name := "done", desc := "()I" } : Jvm.MethodName)) ∈ lw_all := lw_g (lw_at lw_m4 59 rfl) rfl
theorem q861 : (Jvm.Cond.selects "DebtFerry$Loading" ({ cls := "DebtFerry$Looking", name := "lookAt", desc := "([I)I" } : Jvm.MethodName) ({ cls := "DebtFerry$Loading", name := "lookAt", desc := "([I)I" } : Jvm.MethodName)) ∈ lw_all := lw_g (lw_at lw_m4 88 rfl) rfl
theorem q862 : (Jvm.Cond.instanceMethod ({ cls := "DebtFerry$Loading", name := "lookAt", desc := "([I)I" } : Jvm.MethodName)) ∈ lw_all := lw_g (lw_at lw_m4 89 rfl) rfl
theorem q863 : (Jvm.Cond.code ({ cls := "DebtFerry$Loading", name := "lookAt", desc := "([I)I" } : Jvm.MethodName) prog_7_method_2_code (3 : Nat) (Option.some Jvm.ClassFile.FieldType.int)) ∈ lw_all := lw_g (lw_at lw_m4 90 rfl) rfl
theorem q864 : (Jvm.Cond.methodLinkNest "DebtFerry$Loading" (17 : Nat) ({ cls := "DebtFerry", name := "loadsBarred", desc := "([I)I" } : Jvm.MethodName) "DebtFerry") ∈ lw_tbl := lw_at lw_m4 91 rfl
theorem q868 : (Jvm.Cond.methodLinkNest "DebtFerry$Loading" (23 : Nat) ({ cls := "DebtFerry", name := "loadsBy", desc := "([II)I" } : Jvm.MethodName) "DebtFerry") ∈ lw_tbl := lw_at lw_m4 95 rfl
theorem q933 : (Jvm.Cond.instantiable "DebtFerry$Loading" (8 : Nat)) ∈ lw_all := lw_g (lw_at lw_m4 160 rfl) rfl
theorem q935 : (Jvm.Cond.instanceMethod ({ cls := "DebtFerry$Loading", name := "<init>", desc := "(LDebtFerry;IIIII)V" } : Jvm.MethodName)) ∈ lw_all := lw_g (lw_at lw_m4 162 rfl) rfl
theorem q936 : (Jvm.Cond.code ({ cls := "DebtFerry$Loading", name := "<init>", desc := "(LDebtFerry;IIIII)V" } : Jvm.MethodName) prog_7_method_1_code (7 : Nat) (Option.none : Option Jvm.ClassFile.FieldType)) ∈ lw_all := lw_g (lw_at lw_m4 163 rfl) rfl
theorem q937 : (Jvm.Cond.methodLink "DebtFerry$Loading" (7 : Nat) ({ cls := "DebtFerry$Looking", name := "<init>", desc := "(LDebtFerry;IIII)V" } : Jvm.MethodName)) ∈ lw_all := lw_g (lw_at lw_m4 164 rfl) rfl
theorem q938 : (Jvm.Cond.fieldLink "DebtFerry$Loading" (13 : Nat) "DebtFerry$Loading" "what" "I") ∈ lw_all := lw_g (lw_at lw_m4 165 rfl) rfl
theorem q939 : (Jvm.Cond.fieldLink "DebtFerry$Loading" (1 : Nat) "DebtFerry$Loading" "this$0" "LDebtFerry;") ∈ lw_all := lw_g (lw_at lw_m4 166 rfl) rfl
theorem q940 : (Jvm.Cond.laysFinal "DebtFerry$Loading" "DebtFerry$Loading" "what" "I") ∈ lw_all := lw_g (lw_at lw_m4 167 rfl) rfl
theorem q941 : (Jvm.Cond.soleField "DebtFerry$Loading" "what") ∈ lw_all := lw_g (lw_at lw_m4 168 rfl) rfl
theorem q942 : (Jvm.Cond.laysFinal "DebtFerry$Loading" "DebtFerry$Loading" "this$0" "LDebtFerry;") ∈ lw_all := lw_g (lw_at lw_m4 169 rfl) rfl
theorem q943 : (Jvm.Cond.soleField "DebtFerry$Loading" "this$0") ∈ lw_all := lw_g (lw_at lw_m4 170 rfl) rfl
theorem q944 : (Jvm.Cond.laysFinal "DebtFerry$Loading" "DebtFerry$Looking" "sheet" "I") ∈ lw_all := lw_g (lw_at lw_m4 171 rfl) rfl
theorem q945 : (Jvm.Cond.laysFinal "DebtFerry$Loading" "DebtFerry$Looking" "lane" "I") ∈ lw_all := lw_g (lw_at lw_m4 172 rfl) rfl
theorem q946 : (Jvm.Cond.laysFinal "DebtFerry$Loading" "DebtFerry$Looking" "i" "I") ∈ lw_all := lw_g (lw_at lw_m4 173 rfl) rfl
theorem q947 : (Jvm.Cond.laysFinal "DebtFerry$Loading" "DebtFerry$Looking" "n" "I") ∈ lw_all := lw_g (lw_at lw_m4 174 rfl) rfl
theorem q948 : (Jvm.Cond.laysFinal "DebtFerry$Loading" "DebtFerry$Looking" "this$0" "LDebtFerry;") ∈ lw_all := lw_g (lw_at lw_m4 175 rfl) rfl
theorem q949 : (Jvm.Cond.laysFinal "DebtFerry$Loading" "DebtFerry$Act" "this$0" "LDebtFerry;") ∈ lw_all := lw_g (lw_at lw_m4 176 rfl) rfl
theorem q950 : (Jvm.Cond.superclass "DebtFerry$Loading" "DebtFerry$Looking") ∈ lw_all := lw_g (lw_at lw_m4 177 rfl) rfl
theorem q1452 : (Jvm.Cond.castable "DebtFerry$Loading" "java/lang/Object") ∈ lw_tbl := lw_at lw_m6 199 rfl
theorem in_X8 : ∀ w ∈ wsX80, w ∈ lw_all := lw_in wsX80 [944, 945, 946, 947, 948, 949, 940, 942] (by decide +kernel) (by decide +kernel)
/-! DebtFerry$Reading -/
set_option maxRecDepth 100000
def RX9 : String := "DebtFerry$Reading"
def TX9 : u_T := fun k => match k with
  | 0 => ("DebtFerry$Reading", "load", "I", true)
  | _ => ("DebtFerry$Reading", "pulled", "I", true)
def tyX9 : Nat → FieldType := fun k => match k with
  | 0 => .int
  | _ => .int
abbrev wsX90 : List Cond := u_ws RX9 TX9 2
theorem nmX9 : ∀ a, a < 2 → ∀ b, b < 2 → a ≠ b → (TX9 a).2.1 ≠ (TX9 b).2.1 := by decide +kernel
theorem tyX9_ok : ∀ k, k < 2 → parseFieldDescriptor (TX9 k).2.2.1 = some (tyX9 k) := by decide +kernel
abbrev cX9_init : ByteArray := prog_10_method_1_code
def yX9_init : MethodName := ⟨RX9, "<init>", "(II)V"⟩
def dkwX9_init_0 : List UInt8 := [42, 183, 0, 1, 42, 27, 181, 0, 7, 42, 28, 181, 0, 13, 177]
abbrev dktX9_init_0 : List UInt8 := dkwX9_init_0 ++ []
theorem dksX9_init_0 : cX9_init.data.toList.drop 0 = dktX9_init_0 := by decide +kernel
theorem dX9_init_0 : decode cX9_init 0 = .ok (.aload_n 0, 1) := dk_42 (dk_at dksX9_init_0 0 rfl rfl)
theorem dX9_init_1 : decode cX9_init 1 = .ok (.invokespecial 1, 3) := dk_183 0 1 (dk_at dksX9_init_0 1 rfl rfl)
theorem dX9_init_4 : decode cX9_init 4 = .ok (.aload_n 0, 1) := dk_42 (dk_at dksX9_init_0 4 rfl rfl)
theorem dX9_init_5 : decode cX9_init 5 = .ok (.iload_n 1, 1) := dk_27 (dk_at dksX9_init_0 5 rfl rfl)
theorem dX9_init_6 : decode cX9_init 6 = .ok (.putfield 7, 3) := dk_181 0 7 (dk_at dksX9_init_0 6 rfl rfl)
theorem dX9_init_9 : decode cX9_init 9 = .ok (.aload_n 0, 1) := dk_42 (dk_at dksX9_init_0 9 rfl rfl)
theorem dX9_init_10 : decode cX9_init 10 = .ok (.iload_n 2, 1) := dk_28 (dk_at dksX9_init_0 10 rfl rfl)
theorem dX9_init_11 : decode cX9_init 11 = .ok (.putfield 13, 3) := dk_181 0 13 (dk_at dksX9_init_0 11 rfl rfl)
theorem dX9_init_14 : decode cX9_init 14 = .ok (.return_, 1) := dk_177 (dk_at dksX9_init_0 14 rfl rfl)
theorem q83 : (Jvm.Cond.initialized "DebtFerry$Reading") ∈ lw_all := lw_g (lw_at lw_m1 30 rfl) rfl
theorem q369 : (Jvm.Cond.instantiable "DebtFerry$Reading" (2 : Nat)) ∈ lw_all := lw_g (lw_at lw_m2 76 rfl) rfl
theorem q371 : (Jvm.Cond.instanceMethod ({ cls := "DebtFerry$Reading", name := "<init>", desc := "(II)V" } : Jvm.MethodName)) ∈ lw_all := lw_g (lw_at lw_m2 78 rfl) rfl
theorem q372 : (Jvm.Cond.code ({ cls := "DebtFerry$Reading", name := "<init>", desc := "(II)V" } : Jvm.MethodName) prog_10_method_1_code (3 : Nat) (Option.none : Option Jvm.ClassFile.FieldType)) ∈ lw_all := lw_g (lw_at lw_m2 79 rfl) rfl
theorem q373 : (Jvm.Cond.methodLink "DebtFerry$Reading" (1 : Nat) ({ cls := "java/lang/Object", name := "<init>", desc := "()V" } : Jvm.MethodName)) ∈ lw_all := lw_g (lw_at lw_m2 80 rfl) rfl
theorem q374 : (Jvm.Cond.fieldLink "DebtFerry$Reading" (7 : Nat) "DebtFerry$Reading" "load" "I") ∈ lw_all := lw_g (lw_at lw_m2 81 rfl) rfl
theorem q376 : (Jvm.Cond.fieldLink "DebtFerry$Reading" (13 : Nat) "DebtFerry$Reading" "pulled" "I") ∈ lw_all := lw_g (lw_at lw_m2 83 rfl) rfl
theorem q378 : (Jvm.Cond.laysFinal "DebtFerry$Reading" "DebtFerry$Reading" "load" "I") ∈ lw_all := lw_g (lw_at lw_m2 85 rfl) rfl
theorem q379 : (Jvm.Cond.soleField "DebtFerry$Reading" "load") ∈ lw_all := lw_g (lw_at lw_m2 86 rfl) rfl
theorem q380 : (Jvm.Cond.laysFinal "DebtFerry$Reading" "DebtFerry$Reading" "pulled" "I") ∈ lw_all := lw_g (lw_at lw_m2 87 rfl) rfl
theorem q381 : (Jvm.Cond.soleField "DebtFerry$Reading" "pulled") ∈ lw_all := lw_g (lw_at lw_m2 88 rfl) rfl
theorem q382 : (Jvm.Cond.superclass "DebtFerry$Reading" "java/lang/Object") ∈ lw_all := lw_g (lw_at lw_m2 89 rfl) rfl
theorem q424 : (Jvm.Cond.selects "DebtFerry$Reading" ({ cls := "java/lang/Object", name := "getClass", desc := "()Ljava/lang/Class;" } : Jvm.MethodName) ({ cls := "java/lang/Object", name := "getClass", desc := "()Ljava/lang/Class;" } : Jvm.MethodName)) ∈ lw_all := lw_g (lw_at lw_m2 131 rfl) rfl
theorem q1453 : (Jvm.Cond.castable "DebtFerry$Reading" "java/lang/Object") ∈ lw_tbl := lw_at lw_m6 200 rfl
theorem in_X9 : ∀ w ∈ wsX90, w ∈ lw_all := lw_in wsX90 [378, 380] (by decide +kernel) (by decide +kernel)
/-! DebtFerry$Sheet -/
set_option maxRecDepth 100000
def RX10 : String := "DebtFerry$Sheet"
def TX10 : u_T := fun k => match k with
  | _ => ("DebtFerry$Sheet", "row", "Ljava/lang/Object;", true)
def tyX10 : Nat → FieldType := fun k => match k with
  | _ => .object "java/lang/Object"
abbrev wsX100 : List Cond := u_ws RX10 TX10 1
theorem nmX10 : ∀ a, a < 1 → ∀ b, b < 1 → a ≠ b → (TX10 a).2.1 ≠ (TX10 b).2.1 := by decide +kernel
theorem tyX10_ok : ∀ k, k < 1 → parseFieldDescriptor (TX10 k).2.2.1 = some (tyX10 k) := by decide +kernel
abbrev cX10_init : ByteArray := prog_12_method_1_code
def yX10_init : MethodName := ⟨RX10, "<init>", "(Ljava/lang/Object;)V"⟩
def dkwX10_init_0 : List UInt8 := [42, 183, 0, 1, 42, 43, 181, 0, 7, 177]
abbrev dktX10_init_0 : List UInt8 := dkwX10_init_0 ++ []
theorem dksX10_init_0 : cX10_init.data.toList.drop 0 = dktX10_init_0 := by decide +kernel
theorem dX10_init_0 : decode cX10_init 0 = .ok (.aload_n 0, 1) := dk_42 (dk_at dksX10_init_0 0 rfl rfl)
theorem dX10_init_1 : decode cX10_init 1 = .ok (.invokespecial 1, 3) := dk_183 0 1 (dk_at dksX10_init_0 1 rfl rfl)
theorem dX10_init_4 : decode cX10_init 4 = .ok (.aload_n 0, 1) := dk_42 (dk_at dksX10_init_0 4 rfl rfl)
theorem dX10_init_5 : decode cX10_init 5 = .ok (.aload_n 1, 1) := dk_43 (dk_at dksX10_init_0 5 rfl rfl)
theorem dX10_init_6 : decode cX10_init 6 = .ok (.putfield 7, 3) := dk_181 0 7 (dk_at dksX10_init_0 6 rfl rfl)
theorem dX10_init_9 : decode cX10_init 9 = .ok (.return_, 1) := dk_177 (dk_at dksX10_init_0 9 rfl rfl)
theorem q84 : (Jvm.Cond.initialized "DebtFerry$Sheet") ∈ lw_all := lw_g (lw_at lw_m1 31 rfl) rfl
theorem q426 : (Jvm.Cond.selects "DebtFerry$Sheet" ({ cls := "java/lang/Object", name := "getClass", desc := "()Ljava/lang/Class;" } : Jvm.MethodName) ({ cls := "java/lang/Object", name := "getClass", desc := "()Ljava/lang/Class;" } : Jvm.MethodName)) ∈ lw_all := lw_g (lw_at lw_m2 133 rfl) rfl
theorem q650 : (Jvm.Cond.instantiable "DebtFerry$Sheet" (1 : Nat)) ∈ lw_all := lw_g (lw_at lw_m3 117 rfl) rfl
theorem q655 : (Jvm.Cond.instanceMethod ({ cls := "DebtFerry$Sheet", name := "<init>", desc := "(Ljava/lang/Object;)V" } : Jvm.MethodName)) ∈ lw_all := lw_g (lw_at lw_m3 122 rfl) rfl
theorem q656 : (Jvm.Cond.code ({ cls := "DebtFerry$Sheet", name := "<init>", desc := "(Ljava/lang/Object;)V" } : Jvm.MethodName) prog_12_method_1_code (2 : Nat) (Option.none : Option Jvm.ClassFile.FieldType)) ∈ lw_all := lw_g (lw_at lw_m3 123 rfl) rfl
theorem q657 : (Jvm.Cond.methodLink "DebtFerry$Sheet" (1 : Nat) ({ cls := "java/lang/Object", name := "<init>", desc := "()V" } : Jvm.MethodName)) ∈ lw_all := lw_g (lw_at lw_m3 124 rfl) rfl
theorem q658 : (Jvm.Cond.fieldLink "DebtFerry$Sheet" (7 : Nat) "DebtFerry$Sheet" "row" "Ljava/lang/Object;") ∈ lw_all := lw_g (lw_at lw_m3 125 rfl) rfl
theorem q660 : (Jvm.Cond.laysFinal "DebtFerry$Sheet" "DebtFerry$Sheet" "row" "Ljava/lang/Object;") ∈ lw_all := lw_g (lw_at lw_m3 127 rfl) rfl
theorem q661 : (Jvm.Cond.soleField "DebtFerry$Sheet" "row") ∈ lw_all := lw_g (lw_at lw_m3 128 rfl) rfl
theorem q662 : (Jvm.Cond.superclass "DebtFerry$Sheet" "java/lang/Object") ∈ lw_all := lw_g (lw_at lw_m3 129 rfl) rfl
theorem q1438 : (Jvm.Cond.castable "DebtFerry$Sheet" "java/lang/Object") ∈ lw_tbl := lw_at lw_m6 185 rfl
theorem in_X10 : ∀ w ∈ wsX100, w ∈ lw_all := lw_in wsX100 [660] (by decide +kernel) (by decide +kernel)
/-! DebtFerry$Copying -/
set_option maxRecDepth 100000
def RX11 : String := "DebtFerry$Copying"
def TX11 : u_T := fun k => match k with
  | 0 => ("DebtFerry$Act", "this$0", "LDebtFerry;", true)
  | 1 => ("DebtFerry$Copying", "from", "I", true)
  | 2 => ("DebtFerry$Copying", "i", "I", true)
  | 3 => ("DebtFerry$Copying", "to", "I", true)
  | 4 => ("DebtFerry$Copying", "j", "I", true)
  | 5 => ("DebtFerry$Copying", "n", "I", true)
  | _ => ("DebtFerry$Copying", "this$0", "LDebtFerry;", true)
def tyX11 : Nat → FieldType := fun k => match k with
  | 0 => .object "DebtFerry"
  | 1 => .int
  | 2 => .int
  | 3 => .int
  | 4 => .int
  | 5 => .int
  | _ => .object "DebtFerry"
abbrev wsX110 : List Cond := u_ws RX11 TX11 7
-- two fields of one name: no nmX11
theorem tyX11_ok : ∀ k, k < 7 → parseFieldDescriptor (TX11 k).2.2.1 = some (tyX11 k) := by decide +kernel
abbrev cX11_done : ByteArray := prog_4_method_2_code
def yX11_done : MethodName := ⟨RX11, "done", "()I"⟩
def dkwX11_done_1 : List UInt8 := [182, 0, 29, 42, 180, 0, 23, 42, 180, 0, 26, 184, 0, 35, 42, 180, 0, 26, 172]
abbrev dktX11_done_1 : List UInt8 := dkwX11_done_1 ++ []
def dkwX11_done_0 : List UInt8 := [42, 180, 0, 1, 42, 180, 0, 13, 182, 0, 29, 42, 180, 0, 17, 42, 180, 0, 1, 42, 180, 0, 20]
abbrev dktX11_done_0 : List UInt8 := dkwX11_done_0 ++ dktX11_done_1
theorem dksX11_done_0 : cX11_done.data.toList.drop 0 = dktX11_done_0 := by decide +kernel
theorem dksX11_done_1 : cX11_done.data.toList.drop 23 = dktX11_done_1 := dk_seg dksX11_done_0 23 rfl rfl
theorem dX11_done_0 : decode cX11_done 0 = .ok (.aload_n 0, 1) := dk_42 (dk_at dksX11_done_0 0 rfl rfl)
theorem dX11_done_1 : decode cX11_done 1 = .ok (.getfield 1, 3) := dk_180 0 1 (dk_at dksX11_done_0 1 rfl rfl)
theorem dX11_done_4 : decode cX11_done 4 = .ok (.aload_n 0, 1) := dk_42 (dk_at dksX11_done_0 4 rfl rfl)
theorem dX11_done_5 : decode cX11_done 5 = .ok (.getfield 13, 3) := dk_180 0 13 (dk_at dksX11_done_0 5 rfl rfl)
theorem dX11_done_8 : decode cX11_done 8 = .ok (.invokevirtual 29, 3) := dk_182 0 29 (dk_at dksX11_done_0 8 rfl rfl)
theorem dX11_done_11 : decode cX11_done 11 = .ok (.aload_n 0, 1) := dk_42 (dk_at dksX11_done_0 11 rfl rfl)
theorem dX11_done_12 : decode cX11_done 12 = .ok (.getfield 17, 3) := dk_180 0 17 (dk_at dksX11_done_0 12 rfl rfl)
theorem dX11_done_15 : decode cX11_done 15 = .ok (.aload_n 0, 1) := dk_42 (dk_at dksX11_done_0 15 rfl rfl)
theorem dX11_done_16 : decode cX11_done 16 = .ok (.getfield 1, 3) := dk_180 0 1 (dk_at dksX11_done_0 16 rfl rfl)
theorem dX11_done_19 : decode cX11_done 19 = .ok (.aload_n 0, 1) := dk_42 (dk_at dksX11_done_0 19 rfl rfl)
theorem dX11_done_20 : decode cX11_done 20 = .ok (.getfield 20, 3) := dk_180 0 20 (dk_at dksX11_done_0 20 rfl rfl)
theorem dX11_done_23 : decode cX11_done 23 = .ok (.invokevirtual 29, 3) := dk_182 0 29 (dk_at dksX11_done_1 0 rfl rfl)
theorem dX11_done_26 : decode cX11_done 26 = .ok (.aload_n 0, 1) := dk_42 (dk_at dksX11_done_1 3 rfl rfl)
theorem dX11_done_27 : decode cX11_done 27 = .ok (.getfield 23, 3) := dk_180 0 23 (dk_at dksX11_done_1 4 rfl rfl)
theorem dX11_done_30 : decode cX11_done 30 = .ok (.aload_n 0, 1) := dk_42 (dk_at dksX11_done_1 7 rfl rfl)
theorem dX11_done_31 : decode cX11_done 31 = .ok (.getfield 26, 3) := dk_180 0 26 (dk_at dksX11_done_1 8 rfl rfl)
theorem dX11_done_34 : decode cX11_done 34 = .ok (.invokestatic 35, 3) := dk_184 0 35 (dk_at dksX11_done_1 11 rfl rfl)
theorem dX11_done_37 : decode cX11_done 37 = .ok (.aload_n 0, 1) := dk_42 (dk_at dksX11_done_1 14 rfl rfl)
theorem dX11_done_38 : decode cX11_done 38 = .ok (.getfield 26, 3) := dk_180 0 26 (dk_at dksX11_done_1 15 rfl rfl)
theorem dX11_done_41 : decode cX11_done 41 = .ok (.ireturn, 1) := dk_172 (dk_at dksX11_done_1 18 rfl rfl)
abbrev cX11_init : ByteArray := prog_4_method_1_code
def yX11_init : MethodName := ⟨RX11, "<init>", "(LDebtFerry;IIIII)V"⟩
def dkwX11_init_1 : List UInt8 := [181, 0, 20, 42, 21, 5, 181, 0, 23, 42, 21, 6, 181, 0, 26, 177]
abbrev dktX11_init_1 : List UInt8 := dkwX11_init_1 ++ []
def dkwX11_init_0 : List UInt8 := [42, 43, 181, 0, 1, 42, 43, 183, 0, 7, 42, 28, 181, 0, 13, 42, 29, 181, 0, 17, 42, 21, 4]
abbrev dktX11_init_0 : List UInt8 := dkwX11_init_0 ++ dktX11_init_1
theorem dksX11_init_0 : cX11_init.data.toList.drop 0 = dktX11_init_0 := by decide +kernel
theorem dksX11_init_1 : cX11_init.data.toList.drop 23 = dktX11_init_1 := dk_seg dksX11_init_0 23 rfl rfl
theorem dX11_init_0 : decode cX11_init 0 = .ok (.aload_n 0, 1) := dk_42 (dk_at dksX11_init_0 0 rfl rfl)
theorem dX11_init_1 : decode cX11_init 1 = .ok (.aload_n 1, 1) := dk_43 (dk_at dksX11_init_0 1 rfl rfl)
theorem dX11_init_2 : decode cX11_init 2 = .ok (.putfield 1, 3) := dk_181 0 1 (dk_at dksX11_init_0 2 rfl rfl)
theorem dX11_init_5 : decode cX11_init 5 = .ok (.aload_n 0, 1) := dk_42 (dk_at dksX11_init_0 5 rfl rfl)
theorem dX11_init_6 : decode cX11_init 6 = .ok (.aload_n 1, 1) := dk_43 (dk_at dksX11_init_0 6 rfl rfl)
theorem dX11_init_7 : decode cX11_init 7 = .ok (.invokespecial 7, 3) := dk_183 0 7 (dk_at dksX11_init_0 7 rfl rfl)
theorem dX11_init_10 : decode cX11_init 10 = .ok (.aload_n 0, 1) := dk_42 (dk_at dksX11_init_0 10 rfl rfl)
theorem dX11_init_11 : decode cX11_init 11 = .ok (.iload_n 2, 1) := dk_28 (dk_at dksX11_init_0 11 rfl rfl)
theorem dX11_init_12 : decode cX11_init 12 = .ok (.putfield 13, 3) := dk_181 0 13 (dk_at dksX11_init_0 12 rfl rfl)
theorem dX11_init_15 : decode cX11_init 15 = .ok (.aload_n 0, 1) := dk_42 (dk_at dksX11_init_0 15 rfl rfl)
theorem dX11_init_16 : decode cX11_init 16 = .ok (.iload_n 3, 1) := dk_29 (dk_at dksX11_init_0 16 rfl rfl)
theorem dX11_init_17 : decode cX11_init 17 = .ok (.putfield 17, 3) := dk_181 0 17 (dk_at dksX11_init_0 17 rfl rfl)
theorem dX11_init_20 : decode cX11_init 20 = .ok (.aload_n 0, 1) := dk_42 (dk_at dksX11_init_0 20 rfl rfl)
theorem dX11_init_21 : decode cX11_init 21 = .ok (.iload 4, 2) := dk_21 4 (dk_at dksX11_init_0 21 rfl rfl)
theorem dX11_init_23 : decode cX11_init 23 = .ok (.putfield 20, 3) := dk_181 0 20 (dk_at dksX11_init_1 0 rfl rfl)
theorem dX11_init_26 : decode cX11_init 26 = .ok (.aload_n 0, 1) := dk_42 (dk_at dksX11_init_1 3 rfl rfl)
theorem dX11_init_27 : decode cX11_init 27 = .ok (.iload 5, 2) := dk_21 5 (dk_at dksX11_init_1 4 rfl rfl)
theorem dX11_init_29 : decode cX11_init 29 = .ok (.putfield 23, 3) := dk_181 0 23 (dk_at dksX11_init_1 6 rfl rfl)
theorem dX11_init_32 : decode cX11_init 32 = .ok (.aload_n 0, 1) := dk_42 (dk_at dksX11_init_1 9 rfl rfl)
theorem dX11_init_33 : decode cX11_init 33 = .ok (.iload 6, 2) := dk_21 6 (dk_at dksX11_init_1 10 rfl rfl)
theorem dX11_init_35 : decode cX11_init 35 = .ok (.putfield 26, 3) := dk_181 0 26 (dk_at dksX11_init_1 12 rfl rfl)
theorem dX11_init_38 : decode cX11_init 38 = .ok (.return_, 1) := dk_177 (dk_at dksX11_init_1 15 rfl rfl)
theorem q85 : (Jvm.Cond.initialized "DebtFerry$Copying") ∈ lw_all := lw_g (lw_at lw_m1 32 rfl) rfl
theorem q420 : (Jvm.Cond.selects "DebtFerry$Copying" ({ cls := "java/lang/Object", name := "getClass", desc := "()Ljava/lang/Class;" } : Jvm.MethodName) ({ cls := "java/lang/Object", name := "getClass", desc := "()Ljava/lang/Class;" } : Jvm.MethodName)) ∈ lw_all := lw_g (lw_at lw_m2 127 rfl) rfl
theorem q827 : (Jvm.Cond.selects "DebtFerry$Copying" ({ cls := "DebtFerry$Act", name := "done", desc := "()I" } : Jvm.MethodName) ({ cls := "DebtFerry$Copying", name := "done", desc := "()I" } : Jvm.MethodName)) ∈ lw_all := lw_g (lw_at lw_m4 54 rfl) rfl
theorem q828 : (Jvm.Cond.instanceMethod ({ cls := "DebtFerry$Copying", name := "done", desc := "()I" } : Jvm.MethodName)) ∈ lw_all := lw_g (lw_at lw_m4 55 rfl) rfl
theorem q829 : (Jvm.Cond.code ({ cls := "DebtFerry$Copying", name := "done", desc := "()I" } : Jvm.MethodName) prog_4_method_2_code (1 : Nat) (Option.some Jvm.ClassFile.FieldType.int)) ∈ lw_all := lw_g (lw_at lw_m4 56 rfl) rfl
theorem q830 : (Jvm.Cond.methodLinkNest "DebtFerry$Copying" (29 : Nat) ({ cls := "DebtFerry", name := "rowIn", desc := "(I)Ljava/lang/Object;" } : Jvm.MethodName) "DebtFerry") ∈ lw_tbl := lw_at lw_m4 57 rfl
theorem q831 : (Jvm.Cond.methodLink "DebtFerry$Copying" (35 : Nat) ({ cls := "java/lang/System", name := "arraycopy", desc := "(Ljava/lang/Object;ILjava/lang/Object;II)V" } : Jvm.MethodName)) ∈ lw_all := lw_g (lw_at lw_m4 58 rfl) rfl
theorem q959 : (Jvm.Cond.instantiable "DebtFerry$Copying" (7 : Nat)) ∈ lw_all := lw_g (lw_at lw_m4 186 rfl) rfl
theorem q961 : (Jvm.Cond.instanceMethod ({ cls := "DebtFerry$Copying", name := "<init>", desc := "(LDebtFerry;IIIII)V" } : Jvm.MethodName)) ∈ lw_all := lw_g (lw_at lw_m4 188 rfl) rfl
theorem q962 : (Jvm.Cond.code ({ cls := "DebtFerry$Copying", name := "<init>", desc := "(LDebtFerry;IIIII)V" } : Jvm.MethodName) prog_4_method_1_code (7 : Nat) (Option.none : Option Jvm.ClassFile.FieldType)) ∈ lw_all := lw_g (lw_at lw_m4 189 rfl) rfl
theorem q963 : (Jvm.Cond.methodLinkNest "DebtFerry$Copying" (7 : Nat) ({ cls := "DebtFerry$Act", name := "<init>", desc := "(LDebtFerry;)V" } : Jvm.MethodName) "DebtFerry") ∈ lw_tbl := lw_at lw_m4 190 rfl
theorem q964 : (Jvm.Cond.fieldLink "DebtFerry$Copying" (13 : Nat) "DebtFerry$Copying" "from" "I") ∈ lw_all := lw_g (lw_at lw_m4 191 rfl) rfl
theorem q965 : (Jvm.Cond.fieldLink "DebtFerry$Copying" (17 : Nat) "DebtFerry$Copying" "i" "I") ∈ lw_all := lw_g (lw_at lw_m4 192 rfl) rfl
theorem q966 : (Jvm.Cond.fieldLink "DebtFerry$Copying" (20 : Nat) "DebtFerry$Copying" "to" "I") ∈ lw_all := lw_g (lw_at lw_m4 193 rfl) rfl
theorem q967 : (Jvm.Cond.fieldLink "DebtFerry$Copying" (23 : Nat) "DebtFerry$Copying" "j" "I") ∈ lw_all := lw_g (lw_at lw_m4 194 rfl) rfl
theorem q968 : (Jvm.Cond.fieldLink "DebtFerry$Copying" (26 : Nat) "DebtFerry$Copying" "n" "I") ∈ lw_all := lw_g (lw_at lw_m4 195 rfl) rfl
theorem q969 : (Jvm.Cond.fieldLink "DebtFerry$Copying" (1 : Nat) "DebtFerry$Copying" "this$0" "LDebtFerry;") ∈ lw_all := lw_g (lw_at lw_m4 196 rfl) rfl
theorem q970 : (Jvm.Cond.laysFinal "DebtFerry$Copying" "DebtFerry$Copying" "from" "I") ∈ lw_all := lw_g (lw_at lw_m4 197 rfl) rfl
theorem q971 : (Jvm.Cond.soleField "DebtFerry$Copying" "from") ∈ lw_all := lw_g (lw_at lw_m4 198 rfl) rfl
theorem q972 : (Jvm.Cond.laysFinal "DebtFerry$Copying" "DebtFerry$Copying" "i" "I") ∈ lw_all := lw_g (lw_at lw_m4 199 rfl) rfl
theorem q973 : (Jvm.Cond.soleField "DebtFerry$Copying" "i") ∈ lw_all := lw_g (lw_at lw_m4 200 rfl) rfl
theorem q974 : (Jvm.Cond.laysFinal "DebtFerry$Copying" "DebtFerry$Copying" "to" "I") ∈ lw_all := lw_g (lw_at lw_m4 201 rfl) rfl
theorem q975 : (Jvm.Cond.soleField "DebtFerry$Copying" "to") ∈ lw_all := lw_g (lw_at lw_m4 202 rfl) rfl
theorem q976 : (Jvm.Cond.laysFinal "DebtFerry$Copying" "DebtFerry$Copying" "j" "I") ∈ lw_all := lw_g (lw_at lw_m4 203 rfl) rfl
theorem q977 : (Jvm.Cond.soleField "DebtFerry$Copying" "j") ∈ lw_all := lw_g (lw_at lw_m4 204 rfl) rfl
theorem q978 : (Jvm.Cond.laysFinal "DebtFerry$Copying" "DebtFerry$Copying" "n" "I") ∈ lw_all := lw_g (lw_at lw_m4 205 rfl) rfl
theorem q979 : (Jvm.Cond.soleField "DebtFerry$Copying" "n") ∈ lw_all := lw_g (lw_at lw_m4 206 rfl) rfl
theorem q980 : (Jvm.Cond.laysFinal "DebtFerry$Copying" "DebtFerry$Copying" "this$0" "LDebtFerry;") ∈ lw_all := lw_g (lw_at lw_m4 207 rfl) rfl
theorem q981 : (Jvm.Cond.soleField "DebtFerry$Copying" "this$0") ∈ lw_all := lw_g (lw_at lw_m4 208 rfl) rfl
theorem q982 : (Jvm.Cond.laysFinal "DebtFerry$Copying" "DebtFerry$Act" "this$0" "LDebtFerry;") ∈ lw_all := lw_g (lw_at lw_m4 209 rfl) rfl
theorem q983 : (Jvm.Cond.superclass "DebtFerry$Copying" "DebtFerry$Act") ∈ lw_all := lw_g (lw_at lw_m4 210 rfl) rfl
theorem q985 : (Jvm.Cond.sameMethod "DebtFerry$Copying" "DebtFerry$Act" "tried" "()I") ∈ lw_all := lw_g (lw_at lw_m4 212 rfl) rfl
theorem q986 : (Jvm.Cond.selects "DebtFerry$Copying" ({ cls := "DebtFerry$Copying", name := "tried", desc := "()I" } : Jvm.MethodName) ({ cls := "DebtFerry$Act", name := "tried", desc := "()I" } : Jvm.MethodName)) ∈ lw_all := lw_g (lw_at lw_m4 213 rfl) rfl
theorem q1454 : (Jvm.Cond.castable "DebtFerry$Copying" "java/lang/Object") ∈ lw_tbl := lw_at lw_m6 201 rfl
theorem in_X11 : ∀ w ∈ wsX110, w ∈ lw_all := lw_in wsX110 [982, 970, 972, 974, 976, 978, 980] (by decide +kernel) (by decide +kernel)
/-! DebtFerry$Taking -/
set_option maxRecDepth 100000
def RX12 : String := "DebtFerry$Taking"
def TX12 : u_T := fun k => match k with
  | 0 => ("DebtFerry$Act", "this$0", "LDebtFerry;", true)
  | 1 => ("DebtFerry$Taking", "one", "LDebtFerry$Rider;", true)
  | 2 => ("DebtFerry$Taking", "kind", "I", true)
  | _ => ("DebtFerry$Taking", "this$0", "LDebtFerry;", true)
def tyX12 : Nat → FieldType := fun k => match k with
  | 0 => .object "DebtFerry"
  | 1 => .object "DebtFerry$Rider"
  | 2 => .int
  | _ => .object "DebtFerry"
abbrev wsX120 : List Cond := u_ws RX12 TX12 4
-- two fields of one name: no nmX12
theorem tyX12_ok : ∀ k, k < 4 → parseFieldDescriptor (TX12 k).2.2.1 = some (tyX12 k) := by decide +kernel
abbrev cX12_done : ByteArray := prog_13_method_2_code
def yX12_done : MethodName := ⟨RX12, "done", "()I"⟩
def dkwX12_done_2 : List UInt8 := [180, 0, 31, 60, 27, 156, 0, 7, 3, 167, 0, 4, 4, 172]
abbrev dktX12_done_2 : List UInt8 := dkwX12_done_2 ++ []
def dkwX12_done_1 : List UInt8 := [160, 0, 16, 42, 180, 0, 13, 192, 0, 26, 180, 0, 28, 167, 0, 13, 42, 180, 0, 13, 192, 0, 29]
abbrev dktX12_done_1 : List UInt8 := dkwX12_done_1 ++ dktX12_done_2
def dkwX12_done_0 : List UInt8 := [42, 180, 0, 17, 154, 0, 13, 42, 180, 0, 13, 180, 0, 21, 167, 0, 34, 42, 180, 0, 17, 4]
abbrev dktX12_done_0 : List UInt8 := dkwX12_done_0 ++ dktX12_done_1
theorem dksX12_done_0 : cX12_done.data.toList.drop 0 = dktX12_done_0 := by decide +kernel
theorem dksX12_done_1 : cX12_done.data.toList.drop 22 = dktX12_done_1 := dk_seg dksX12_done_0 22 rfl rfl
theorem dksX12_done_2 : cX12_done.data.toList.drop 45 = dktX12_done_2 := dk_seg dksX12_done_1 23 rfl rfl
theorem dX12_done_0 : decode cX12_done 0 = .ok (.aload_n 0, 1) := dk_42 (dk_at dksX12_done_0 0 rfl rfl)
theorem dX12_done_1 : decode cX12_done 1 = .ok (.getfield 17, 3) := dk_180 0 17 (dk_at dksX12_done_0 1 rfl rfl)
theorem dX12_done_4 : decode cX12_done 4 = .ok (.ifCond .ne 13, 3) := dk_154 0 13 (dk_at dksX12_done_0 4 rfl rfl)
theorem dX12_done_7 : decode cX12_done 7 = .ok (.aload_n 0, 1) := dk_42 (dk_at dksX12_done_0 7 rfl rfl)
theorem dX12_done_8 : decode cX12_done 8 = .ok (.getfield 13, 3) := dk_180 0 13 (dk_at dksX12_done_0 8 rfl rfl)
theorem dX12_done_11 : decode cX12_done 11 = .ok (.getfield 21, 3) := dk_180 0 21 (dk_at dksX12_done_0 11 rfl rfl)
theorem dX12_done_14 : decode cX12_done 14 = .ok (.goto 34, 3) := dk_167 0 34 (dk_at dksX12_done_0 14 rfl rfl)
theorem dX12_done_17 : decode cX12_done 17 = .ok (.aload_n 0, 1) := dk_42 (dk_at dksX12_done_0 17 rfl rfl)
theorem dX12_done_18 : decode cX12_done 18 = .ok (.getfield 17, 3) := dk_180 0 17 (dk_at dksX12_done_0 18 rfl rfl)
theorem dX12_done_21 : decode cX12_done 21 = .ok (.iconst 1, 1) := dk_4 (dk_at dksX12_done_0 21 rfl rfl)
theorem dX12_done_22 : decode cX12_done 22 = .ok (.if_icmp .ne 16, 3) := dk_160 0 16 (dk_at dksX12_done_1 0 rfl rfl)
theorem dX12_done_25 : decode cX12_done 25 = .ok (.aload_n 0, 1) := dk_42 (dk_at dksX12_done_1 3 rfl rfl)
theorem dX12_done_26 : decode cX12_done 26 = .ok (.getfield 13, 3) := dk_180 0 13 (dk_at dksX12_done_1 4 rfl rfl)
theorem dX12_done_29 : decode cX12_done 29 = .ok (.checkcast 26, 3) := dk_192 0 26 (dk_at dksX12_done_1 7 rfl rfl)
theorem dX12_done_32 : decode cX12_done 32 = .ok (.getfield 28, 3) := dk_180 0 28 (dk_at dksX12_done_1 10 rfl rfl)
theorem dX12_done_35 : decode cX12_done 35 = .ok (.goto 13, 3) := dk_167 0 13 (dk_at dksX12_done_1 13 rfl rfl)
theorem dX12_done_38 : decode cX12_done 38 = .ok (.aload_n 0, 1) := dk_42 (dk_at dksX12_done_1 16 rfl rfl)
theorem dX12_done_39 : decode cX12_done 39 = .ok (.getfield 13, 3) := dk_180 0 13 (dk_at dksX12_done_1 17 rfl rfl)
theorem dX12_done_42 : decode cX12_done 42 = .ok (.checkcast 29, 3) := dk_192 0 29 (dk_at dksX12_done_1 20 rfl rfl)
theorem dX12_done_45 : decode cX12_done 45 = .ok (.getfield 31, 3) := dk_180 0 31 (dk_at dksX12_done_2 0 rfl rfl)
theorem dX12_done_48 : decode cX12_done 48 = .ok (.istore_n 1, 1) := dk_60 (dk_at dksX12_done_2 3 rfl rfl)
theorem dX12_done_49 : decode cX12_done 49 = .ok (.iload_n 1, 1) := dk_27 (dk_at dksX12_done_2 4 rfl rfl)
theorem dX12_done_50 : decode cX12_done 50 = .ok (.ifCond .ge 7, 3) := dk_156 0 7 (dk_at dksX12_done_2 5 rfl rfl)
theorem dX12_done_53 : decode cX12_done 53 = .ok (.iconst 0, 1) := dk_3 (dk_at dksX12_done_2 8 rfl rfl)
theorem dX12_done_54 : decode cX12_done 54 = .ok (.goto 4, 3) := dk_167 0 4 (dk_at dksX12_done_2 9 rfl rfl)
theorem dX12_done_57 : decode cX12_done 57 = .ok (.iconst 1, 1) := dk_4 (dk_at dksX12_done_2 12 rfl rfl)
theorem dX12_done_58 : decode cX12_done 58 = .ok (.ireturn, 1) := dk_172 (dk_at dksX12_done_2 13 rfl rfl)
abbrev cX12_init : ByteArray := prog_13_method_1_code
def yX12_init : MethodName := ⟨RX12, "<init>", "(LDebtFerry;LDebtFerry$Rider;I)V"⟩
def dkwX12_init_0 : List UInt8 := [42, 43, 181, 0, 1, 42, 43, 183, 0, 7, 42, 44, 181, 0, 13, 42, 29, 181, 0, 17, 177]
abbrev dktX12_init_0 : List UInt8 := dkwX12_init_0 ++ []
theorem dksX12_init_0 : cX12_init.data.toList.drop 0 = dktX12_init_0 := by decide +kernel
theorem dX12_init_0 : decode cX12_init 0 = .ok (.aload_n 0, 1) := dk_42 (dk_at dksX12_init_0 0 rfl rfl)
theorem dX12_init_1 : decode cX12_init 1 = .ok (.aload_n 1, 1) := dk_43 (dk_at dksX12_init_0 1 rfl rfl)
theorem dX12_init_2 : decode cX12_init 2 = .ok (.putfield 1, 3) := dk_181 0 1 (dk_at dksX12_init_0 2 rfl rfl)
theorem dX12_init_5 : decode cX12_init 5 = .ok (.aload_n 0, 1) := dk_42 (dk_at dksX12_init_0 5 rfl rfl)
theorem dX12_init_6 : decode cX12_init 6 = .ok (.aload_n 1, 1) := dk_43 (dk_at dksX12_init_0 6 rfl rfl)
theorem dX12_init_7 : decode cX12_init 7 = .ok (.invokespecial 7, 3) := dk_183 0 7 (dk_at dksX12_init_0 7 rfl rfl)
theorem dX12_init_10 : decode cX12_init 10 = .ok (.aload_n 0, 1) := dk_42 (dk_at dksX12_init_0 10 rfl rfl)
theorem dX12_init_11 : decode cX12_init 11 = .ok (.aload_n 2, 1) := dk_44 (dk_at dksX12_init_0 11 rfl rfl)
theorem dX12_init_12 : decode cX12_init 12 = .ok (.putfield 13, 3) := dk_181 0 13 (dk_at dksX12_init_0 12 rfl rfl)
theorem dX12_init_15 : decode cX12_init 15 = .ok (.aload_n 0, 1) := dk_42 (dk_at dksX12_init_0 15 rfl rfl)
theorem dX12_init_16 : decode cX12_init 16 = .ok (.iload_n 3, 1) := dk_29 (dk_at dksX12_init_0 16 rfl rfl)
theorem dX12_init_17 : decode cX12_init 17 = .ok (.putfield 17, 3) := dk_181 0 17 (dk_at dksX12_init_0 17 rfl rfl)
theorem dX12_init_20 : decode cX12_init 20 = .ok (.return_, 1) := dk_177 (dk_at dksX12_init_0 20 rfl rfl)
theorem q86 : (Jvm.Cond.initialized "DebtFerry$Taking") ∈ lw_all := lw_g (lw_at lw_m1 33 rfl) rfl
theorem q427 : (Jvm.Cond.selects "DebtFerry$Taking" ({ cls := "java/lang/Object", name := "getClass", desc := "()Ljava/lang/Class;" } : Jvm.MethodName) ({ cls := "java/lang/Object", name := "getClass", desc := "()Ljava/lang/Class;" } : Jvm.MethodName)) ∈ lw_all := lw_g (lw_at lw_m2 134 rfl) rfl
theorem q489 : (Jvm.Cond.fieldLink "DebtFerry$Taking" (21 : Nat) "DebtFerry$Rider" "number" "I") ∈ lw_all := lw_g (lw_at lw_m2 196 rfl) rfl
theorem q490 : (Jvm.Cond.fieldLink "DebtFerry$Taking" (28 : Nat) "DebtFerry$Friend" "number" "I") ∈ lw_all := lw_g (lw_at lw_m2 197 rfl) rfl
theorem q492 : (Jvm.Cond.fieldLink "DebtFerry$Taking" (31 : Nat) "DebtFerry$Banker" "number" "I") ∈ lw_all := lw_g (lw_at lw_m2 199 rfl) rfl
theorem q922 : (Jvm.Cond.selects "DebtFerry$Taking" ({ cls := "DebtFerry$Act", name := "done", desc := "()I" } : Jvm.MethodName) ({ cls := "DebtFerry$Taking", name := "done", desc := "()I" } : Jvm.MethodName)) ∈ lw_all := lw_g (lw_at lw_m4 149 rfl) rfl
theorem q923 : (Jvm.Cond.instanceMethod ({ cls := "DebtFerry$Taking", name := "done", desc := "()I" } : Jvm.MethodName)) ∈ lw_all := lw_g (lw_at lw_m4 150 rfl) rfl
theorem q924 : (Jvm.Cond.code ({ cls := "DebtFerry$Taking", name := "done", desc := "()I" } : Jvm.MethodName) prog_13_method_2_code (2 : Nat) (Option.some Jvm.ClassFile.FieldType.int)) ∈ lw_all := lw_g (lw_at lw_m4 151 rfl) rfl
theorem q925 : (Jvm.Cond.classLink "DebtFerry$Taking" (26 : Nat) "DebtFerry$Friend") ∈ lw_all := lw_g (lw_at lw_m4 152 rfl) rfl
theorem q926 : (Jvm.Cond.classLink "DebtFerry$Taking" (29 : Nat) "DebtFerry$Banker") ∈ lw_all := lw_g (lw_at lw_m4 153 rfl) rfl
theorem q1073 : (Jvm.Cond.instantiable "DebtFerry$Taking" (4 : Nat)) ∈ lw_all := lw_g (lw_at lw_m5 60 rfl) rfl
theorem q1075 : (Jvm.Cond.instanceMethod ({ cls := "DebtFerry$Taking", name := "<init>", desc := "(LDebtFerry;LDebtFerry$Rider;I)V" } : Jvm.MethodName)) ∈ lw_all := lw_g (lw_at lw_m5 62 rfl) rfl
theorem q1076 : (Jvm.Cond.code ({ cls := "DebtFerry$Taking", name := "<init>", desc := "(LDebtFerry;LDebtFerry$Rider;I)V" } : Jvm.MethodName) prog_13_method_1_code (4 : Nat) (Option.none : Option Jvm.ClassFile.FieldType)) ∈ lw_all := lw_g (lw_at lw_m5 63 rfl) rfl
theorem q1077 : (Jvm.Cond.methodLinkNest "DebtFerry$Taking" (7 : Nat) ({ cls := "DebtFerry$Act", name := "<init>", desc := "(LDebtFerry;)V" } : Jvm.MethodName) "DebtFerry") ∈ lw_tbl := lw_at lw_m5 64 rfl
theorem q1078 : (Jvm.Cond.fieldLink "DebtFerry$Taking" (13 : Nat) "DebtFerry$Taking" "one" "LDebtFerry$Rider;") ∈ lw_all := lw_g (lw_at lw_m5 65 rfl) rfl
theorem q1079 : (Jvm.Cond.fieldLink "DebtFerry$Taking" (17 : Nat) "DebtFerry$Taking" "kind" "I") ∈ lw_all := lw_g (lw_at lw_m5 66 rfl) rfl
theorem q1080 : (Jvm.Cond.fieldLink "DebtFerry$Taking" (1 : Nat) "DebtFerry$Taking" "this$0" "LDebtFerry;") ∈ lw_all := lw_g (lw_at lw_m5 67 rfl) rfl
theorem q1081 : (Jvm.Cond.laysFinal "DebtFerry$Taking" "DebtFerry$Taking" "one" "LDebtFerry$Rider;") ∈ lw_all := lw_g (lw_at lw_m5 68 rfl) rfl
theorem q1082 : (Jvm.Cond.soleField "DebtFerry$Taking" "one") ∈ lw_all := lw_g (lw_at lw_m5 69 rfl) rfl
theorem q1083 : (Jvm.Cond.laysFinal "DebtFerry$Taking" "DebtFerry$Taking" "kind" "I") ∈ lw_all := lw_g (lw_at lw_m5 70 rfl) rfl
theorem q1084 : (Jvm.Cond.soleField "DebtFerry$Taking" "kind") ∈ lw_all := lw_g (lw_at lw_m5 71 rfl) rfl
theorem q1085 : (Jvm.Cond.laysFinal "DebtFerry$Taking" "DebtFerry$Taking" "this$0" "LDebtFerry;") ∈ lw_all := lw_g (lw_at lw_m5 72 rfl) rfl
theorem q1086 : (Jvm.Cond.soleField "DebtFerry$Taking" "this$0") ∈ lw_all := lw_g (lw_at lw_m5 73 rfl) rfl
theorem q1087 : (Jvm.Cond.laysFinal "DebtFerry$Taking" "DebtFerry$Act" "this$0" "LDebtFerry;") ∈ lw_all := lw_g (lw_at lw_m5 74 rfl) rfl
theorem q1088 : (Jvm.Cond.superclass "DebtFerry$Taking" "DebtFerry$Act") ∈ lw_all := lw_g (lw_at lw_m5 75 rfl) rfl
theorem q1090 : (Jvm.Cond.sameMethod "DebtFerry$Taking" "DebtFerry$Act" "tried" "()I") ∈ lw_all := lw_g (lw_at lw_m5 77 rfl) rfl
theorem q1091 : (Jvm.Cond.selects "DebtFerry$Taking" ({ cls := "DebtFerry$Taking", name := "tried", desc := "()I" } : Jvm.MethodName) ({ cls := "DebtFerry$Act", name := "tried", desc := "()I" } : Jvm.MethodName)) ∈ lw_all := lw_g (lw_at lw_m5 78 rfl) rfl
theorem q1455 : (Jvm.Cond.castable "DebtFerry$Taking" "java/lang/Object") ∈ lw_tbl := lw_at lw_m6 202 rfl
theorem in_X12 : ∀ w ∈ wsX120, w ∈ lw_all := lw_in wsX120 [1087, 1081, 1083, 1085] (by decide +kernel) (by decide +kernel)
/-! DebtFerry$Hailed -/
set_option maxRecDepth 100000
def RX13 : String := "DebtFerry$Hailed"
abbrev cX13_hailed : ByteArray := prog_6_method_3_code
def yX13_hailed : MethodName := ⟨RX13, "hailed", "()I"⟩
def dkwX13_hailed_0 : List UInt8 := [42, 7, 185, 0, 1, 2, 0, 42, 185, 0, 7, 1, 0, 96, 172]
abbrev dktX13_hailed_0 : List UInt8 := dkwX13_hailed_0 ++ []
theorem dksX13_hailed_0 : cX13_hailed.data.toList.drop 0 = dktX13_hailed_0 := by decide +kernel
theorem dX13_hailed_0 : decode cX13_hailed 0 = .ok (.aload_n 0, 1) := dk_42 (dk_at dksX13_hailed_0 0 rfl rfl)
theorem dX13_hailed_1 : decode cX13_hailed 1 = .ok (.iconst 4, 1) := dk_7 (dk_at dksX13_hailed_0 1 rfl rfl)
theorem dX13_hailed_2 : decode cX13_hailed 2 = .ok (.invokeinterface 1 2, 5) := by decide +kernel
theorem dX13_hailed_7 : decode cX13_hailed 7 = .ok (.aload_n 0, 1) := dk_42 (dk_at dksX13_hailed_0 7 rfl rfl)
theorem dX13_hailed_8 : decode cX13_hailed 8 = .ok (.invokeinterface 7 1, 5) := by decide +kernel
theorem dX13_hailed_13 : decode cX13_hailed 13 = .ok (.iadd, 1) := dk_96 (dk_at dksX13_hailed_0 13 rfl rfl)
theorem dX13_hailed_14 : decode cX13_hailed 14 = .ok (.ireturn, 1) := dk_172 (dk_at dksX13_hailed_0 14 rfl rfl)
theorem q1029 : (Jvm.Cond.interfaceMethod "DebtFerry$Hailed" "DebtFerry$Hailed" "hailed" "()I") ∈ lw_tbl := lw_at lw_m5 16 rfl
theorem q1030 : (Jvm.Cond.declares ({ cls := "DebtFerry$Hailed", name := "hailed", desc := "()I" } : Jvm.MethodName)) ∈ lw_tbl := lw_at lw_m5 17 rfl
theorem q1039 : (Jvm.Cond.instanceMethod ({ cls := "DebtFerry$Hailed", name := "hailed", desc := "()I" } : Jvm.MethodName)) ∈ lw_all := lw_g (lw_at lw_m5 26 rfl) rfl
theorem q1040 : (Jvm.Cond.publicMethod ({ cls := "DebtFerry$Hailed", name := "hailed", desc := "()I" } : Jvm.MethodName)) ∈ lw_tbl := lw_at lw_m5 27 rfl
theorem q1041 : (Jvm.Cond.code ({ cls := "DebtFerry$Hailed", name := "hailed", desc := "()I" } : Jvm.MethodName) prog_6_method_3_code (1 : Nat) (Option.some Jvm.ClassFile.FieldType.int)) ∈ lw_all := lw_g (lw_at lw_m5 28 rfl) rfl
theorem q1042 : (Jvm.Cond.interfaceEntry "DebtFerry$Hailed" (1 : Nat)) ∈ lw_tbl := lw_at lw_m5 29 rfl
theorem q1043 : (Jvm.Cond.methodLink "DebtFerry$Hailed" (1 : Nat) ({ cls := "DebtFerry$Hailed", name := "tracedBy", desc := "(I)I" } : Jvm.MethodName)) ∈ lw_all := lw_g (lw_at lw_m5 30 rfl) rfl
theorem q1044 : (Jvm.Cond.interfaceMethod "DebtFerry$Hailed" "DebtFerry$Hailed" "tracedBy" "(I)I") ∈ lw_tbl := lw_at lw_m5 31 rfl
theorem q1045 : (Jvm.Cond.declares ({ cls := "DebtFerry$Hailed", name := "tracedBy", desc := "(I)I" } : Jvm.MethodName)) ∈ lw_tbl := lw_at lw_m5 32 rfl
theorem q1054 : (Jvm.Cond.interfaceEntry "DebtFerry$Hailed" (7 : Nat)) ∈ lw_tbl := lw_at lw_m5 41 rfl
theorem q1055 : (Jvm.Cond.methodLink "DebtFerry$Hailed" (7 : Nat) ({ cls := "DebtFerry$Hailed", name := "number", desc := "()I" } : Jvm.MethodName)) ∈ lw_all := lw_g (lw_at lw_m5 42 rfl) rfl
theorem q1056 : (Jvm.Cond.interfaceMethod "DebtFerry$Hailed" "DebtFerry$Hailed" "number" "()I") ∈ lw_tbl := lw_at lw_m5 43 rfl
theorem q1057 : (Jvm.Cond.declares ({ cls := "DebtFerry$Hailed", name := "number", desc := "()I" } : Jvm.MethodName)) ∈ lw_tbl := lw_at lw_m5 44 rfl
