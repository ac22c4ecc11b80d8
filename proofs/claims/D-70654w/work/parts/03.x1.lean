/-! DebtFerryModel -/
set_option maxRecDepth 100000
def RX1 : String := "DebtFerryModel"
def TX1 : u_T := fun k => match k with
  | 0 => ("DebtFerryModel", "fault", "I", false)
  | 1 => ("DebtFerryModel", "trace", "I", false)
  | 2 => ("DebtFerryModel", "sorts", "[I", true)
  | 3 => ("DebtFerryModel", "sheetLong", "[I", true)
  | 4 => ("DebtFerryModel", "cells", "[I", true)
  | 5 => ("DebtFerryModel", "people", "I", false)
  | 6 => ("DebtFerryModel", "room", "I", false)
  | 7 => ("DebtFerryModel", "times", "I", false)
  | 8 => ("DebtFerryModel", "kind", "[I", true)
  | 9 => ("DebtFerryModel", "lame", "[I", true)
  | 10 => ("DebtFerryModel", "note", "[I", true)
  | 11 => ("DebtFerryModel", "at", "I", false)
  | 12 => ("DebtFerryModel", "readRoom", "I", false)
  | 13 => ("DebtFerryModel", "readTimes", "I", false)
  | 14 => ("DebtFerryModel", "readPeople", "I", false)
  | 15 => ("DebtFerryModel", "readKind", "[I", true)
  | 16 => ("DebtFerryModel", "readLame", "[I", true)
  | 17 => ("DebtFerryModel", "readNote", "[I", true)
  | 18 => ("DebtFerryModel", "wet", "I", false)
  | 19 => ("DebtFerryModel", "forgiving", "I", false)
  | 20 => ("DebtFerryModel", "fairs", "I", false)
  | 21 => ("DebtFerryModel", "quarrels", "I", false)
  | 22 => ("DebtFerryModel", "drifts", "I", false)
  | 23 => ("DebtFerryModel", "crossed", "I", false)
  | 24 => ("DebtFerryModel", "pulls", "[I", true)
  | 25 => ("DebtFerryModel", "fewest", "[I", true)
  | 26 => ("DebtFerryModel", "readings", "I", false)
  | 27 => ("DebtFerryModel", "readLoad", "[I", true)
  | _ => ("DebtFerryModel", "readPulled", "[I", true)
def tyX1 : Nat → FieldType := fun k => match k with
  | 0 => .int
  | 1 => .int
  | 2 => .array .int
  | 3 => .array .int
  | 4 => .array .int
  | 5 => .int
  | 6 => .int
  | 7 => .int
  | 8 => .array .int
  | 9 => .array .int
  | 10 => .array .int
  | 11 => .int
  | 12 => .int
  | 13 => .int
  | 14 => .int
  | 15 => .array .int
  | 16 => .array .int
  | 17 => .array .int
  | 18 => .int
  | 19 => .int
  | 20 => .int
  | 21 => .int
  | 22 => .int
  | 23 => .int
  | 24 => .array .int
  | 25 => .array .int
  | 26 => .int
  | 27 => .array .int
  | _ => .array .int
abbrev wsX10 : List Cond := u_ws RX1 TX1 29
set_option maxRecDepth 100000 in
theorem nmX1 : ∀ a, a < 29 → ∀ b, b < 29 → a ≠ b → (TX1 a).2.1 ≠ (TX1 b).2.1 := by decide +kernel
set_option maxRecDepth 100000 in
theorem tyX1_ok : ∀ k, k < 29 → parseFieldDescriptor (TX1 k).2.2.1 = some (tyX1 k) := by decide +kernel
abbrev cX1_init : ByteArray := prog_15_method_1_code
def yX1_init : MethodName := ⟨RX1, "<init>", "()V"⟩
def dkwX1_init_5 : List UInt8 := [181, 0, 46, 177]
abbrev dktX1_init_5 : List UInt8 := dkwX1_init_5 ++ []
def dkwX1_init_4 : List UInt8 := [181, 0, 37, 42, 16, 32, 188, 10, 181, 0, 40, 42, 16, 8, 188, 10, 181, 0, 43, 42, 16, 8, 188, 10]
abbrev dktX1_init_4 : List UInt8 := dkwX1_init_4 ++ dktX1_init_5
def dkwX1_init_3 : List UInt8 := [188, 10, 181, 0, 28, 42, 8, 188, 10, 181, 0, 31, 42, 16, 25, 188, 10, 181, 0, 34, 42, 8, 188, 10]
abbrev dktX1_init_3 : List UInt8 := dkwX1_init_3 ++ dktX1_init_4
def dkwX1_init_2 : List UInt8 := [8, 188, 10, 181, 0, 19, 42, 8, 188, 10, 181, 0, 22, 42, 16, 25, 188, 10, 181, 0, 25, 42, 8]
abbrev dktX1_init_2 : List UInt8 := dkwX1_init_2 ++ dktX1_init_3
def dkwX1_init_1 : List UInt8 := [6, 16, 247, 79, 181, 0, 9, 42, 7, 188, 10, 181, 0, 13, 42, 17, 0, 240, 188, 10, 181, 0, 16, 42]
abbrev dktX1_init_1 : List UInt8 := dkwX1_init_1 ++ dktX1_init_2
def dkwX1_init_0 : List UInt8 := [42, 183, 0, 1, 42, 7, 188, 10, 89, 3, 16, 247, 79, 89, 4, 16, 247, 79, 89, 5, 16, 247, 79, 89]
abbrev dktX1_init_0 : List UInt8 := dkwX1_init_0 ++ dktX1_init_1
theorem dksX1_init_0 : cX1_init.data.toList.drop 0 = dktX1_init_0 := by decide +kernel
theorem dksX1_init_1 : cX1_init.data.toList.drop 24 = dktX1_init_1 := dk_seg dksX1_init_0 24 rfl rfl
theorem dksX1_init_2 : cX1_init.data.toList.drop 48 = dktX1_init_2 := dk_seg dksX1_init_1 24 rfl rfl
theorem dksX1_init_3 : cX1_init.data.toList.drop 71 = dktX1_init_3 := dk_seg dksX1_init_2 23 rfl rfl
theorem dksX1_init_4 : cX1_init.data.toList.drop 95 = dktX1_init_4 := dk_seg dksX1_init_3 24 rfl rfl
theorem dksX1_init_5 : cX1_init.data.toList.drop 119 = dktX1_init_5 := dk_seg dksX1_init_4 24 rfl rfl
theorem dX1_init_0 : decode cX1_init 0 = .ok (.aload_n 0, 1) := dk_42 (dk_at dksX1_init_0 0 rfl rfl)
theorem dX1_init_1 : decode cX1_init 1 = .ok (.invokespecial 1, 3) := dk_183 0 1 (dk_at dksX1_init_0 1 rfl rfl)
theorem dX1_init_4 : decode cX1_init 4 = .ok (.aload_n 0, 1) := dk_42 (dk_at dksX1_init_0 4 rfl rfl)
theorem dX1_init_5 : decode cX1_init 5 = .ok (.iconst 4, 1) := dk_7 (dk_at dksX1_init_0 5 rfl rfl)
theorem dX1_init_6 : decode cX1_init 6 = .ok (.newarray .int, 2) := dk_188_10 (dk_at dksX1_init_0 6 rfl rfl)
theorem dX1_init_8 : decode cX1_init 8 = .ok (.dup, 1) := dk_89 (dk_at dksX1_init_0 8 rfl rfl)
theorem dX1_init_9 : decode cX1_init 9 = .ok (.iconst 0, 1) := dk_3 (dk_at dksX1_init_0 9 rfl rfl)
theorem dX1_init_10 : decode cX1_init 10 = .ok (.bipush (-9), 2) := dk_16 247 (dk_at dksX1_init_0 10 rfl rfl)
theorem dX1_init_12 : decode cX1_init 12 = .ok (.iastore, 1) := dk_79 (dk_at dksX1_init_0 12 rfl rfl)
theorem dX1_init_13 : decode cX1_init 13 = .ok (.dup, 1) := dk_89 (dk_at dksX1_init_0 13 rfl rfl)
theorem dX1_init_14 : decode cX1_init 14 = .ok (.iconst 1, 1) := dk_4 (dk_at dksX1_init_0 14 rfl rfl)
theorem dX1_init_15 : decode cX1_init 15 = .ok (.bipush (-9), 2) := dk_16 247 (dk_at dksX1_init_0 15 rfl rfl)
theorem dX1_init_17 : decode cX1_init 17 = .ok (.iastore, 1) := dk_79 (dk_at dksX1_init_0 17 rfl rfl)
theorem dX1_init_18 : decode cX1_init 18 = .ok (.dup, 1) := dk_89 (dk_at dksX1_init_0 18 rfl rfl)
theorem dX1_init_19 : decode cX1_init 19 = .ok (.iconst 2, 1) := dk_5 (dk_at dksX1_init_0 19 rfl rfl)
theorem dX1_init_20 : decode cX1_init 20 = .ok (.bipush (-9), 2) := dk_16 247 (dk_at dksX1_init_0 20 rfl rfl)
theorem dX1_init_22 : decode cX1_init 22 = .ok (.iastore, 1) := dk_79 (dk_at dksX1_init_0 22 rfl rfl)
theorem dX1_init_23 : decode cX1_init 23 = .ok (.dup, 1) := dk_89 (dk_at dksX1_init_0 23 rfl rfl)
theorem dX1_init_24 : decode cX1_init 24 = .ok (.iconst 3, 1) := dk_6 (dk_at dksX1_init_1 0 rfl rfl)
theorem dX1_init_25 : decode cX1_init 25 = .ok (.bipush (-9), 2) := dk_16 247 (dk_at dksX1_init_1 1 rfl rfl)
theorem dX1_init_27 : decode cX1_init 27 = .ok (.iastore, 1) := dk_79 (dk_at dksX1_init_1 3 rfl rfl)
theorem dX1_init_28 : decode cX1_init 28 = .ok (.putfield 9, 3) := dk_181 0 9 (dk_at dksX1_init_1 4 rfl rfl)
theorem dX1_init_31 : decode cX1_init 31 = .ok (.aload_n 0, 1) := dk_42 (dk_at dksX1_init_1 7 rfl rfl)
theorem dX1_init_32 : decode cX1_init 32 = .ok (.iconst 4, 1) := dk_7 (dk_at dksX1_init_1 8 rfl rfl)
theorem dX1_init_33 : decode cX1_init 33 = .ok (.newarray .int, 2) := dk_188_10 (dk_at dksX1_init_1 9 rfl rfl)
theorem dX1_init_35 : decode cX1_init 35 = .ok (.putfield 13, 3) := dk_181 0 13 (dk_at dksX1_init_1 11 rfl rfl)
theorem dX1_init_38 : decode cX1_init 38 = .ok (.aload_n 0, 1) := dk_42 (dk_at dksX1_init_1 14 rfl rfl)
theorem dX1_init_39 : decode cX1_init 39 = .ok (.sipush 240, 3) := dk_17 0 240 (dk_at dksX1_init_1 15 rfl rfl)
theorem dX1_init_42 : decode cX1_init 42 = .ok (.newarray .int, 2) := dk_188_10 (dk_at dksX1_init_1 18 rfl rfl)
theorem dX1_init_44 : decode cX1_init 44 = .ok (.putfield 16, 3) := dk_181 0 16 (dk_at dksX1_init_1 20 rfl rfl)
theorem dX1_init_47 : decode cX1_init 47 = .ok (.aload_n 0, 1) := dk_42 (dk_at dksX1_init_1 23 rfl rfl)
theorem dX1_init_48 : decode cX1_init 48 = .ok (.iconst 5, 1) := dk_8 (dk_at dksX1_init_2 0 rfl rfl)
theorem dX1_init_49 : decode cX1_init 49 = .ok (.newarray .int, 2) := dk_188_10 (dk_at dksX1_init_2 1 rfl rfl)
theorem dX1_init_51 : decode cX1_init 51 = .ok (.putfield 19, 3) := dk_181 0 19 (dk_at dksX1_init_2 3 rfl rfl)
theorem dX1_init_54 : decode cX1_init 54 = .ok (.aload_n 0, 1) := dk_42 (dk_at dksX1_init_2 6 rfl rfl)
theorem dX1_init_55 : decode cX1_init 55 = .ok (.iconst 5, 1) := dk_8 (dk_at dksX1_init_2 7 rfl rfl)
theorem dX1_init_56 : decode cX1_init 56 = .ok (.newarray .int, 2) := dk_188_10 (dk_at dksX1_init_2 8 rfl rfl)
theorem dX1_init_58 : decode cX1_init 58 = .ok (.putfield 22, 3) := dk_181 0 22 (dk_at dksX1_init_2 10 rfl rfl)
theorem dX1_init_61 : decode cX1_init 61 = .ok (.aload_n 0, 1) := dk_42 (dk_at dksX1_init_2 13 rfl rfl)
theorem dX1_init_62 : decode cX1_init 62 = .ok (.bipush 25, 2) := dk_16 25 (dk_at dksX1_init_2 14 rfl rfl)
theorem dX1_init_64 : decode cX1_init 64 = .ok (.newarray .int, 2) := dk_188_10 (dk_at dksX1_init_2 16 rfl rfl)
theorem dX1_init_66 : decode cX1_init 66 = .ok (.putfield 25, 3) := dk_181 0 25 (dk_at dksX1_init_2 18 rfl rfl)
theorem dX1_init_69 : decode cX1_init 69 = .ok (.aload_n 0, 1) := dk_42 (dk_at dksX1_init_2 21 rfl rfl)
theorem dX1_init_70 : decode cX1_init 70 = .ok (.iconst 5, 1) := dk_8 (dk_at dksX1_init_2 22 rfl rfl)
theorem dX1_init_71 : decode cX1_init 71 = .ok (.newarray .int, 2) := dk_188_10 (dk_at dksX1_init_3 0 rfl rfl)
theorem dX1_init_73 : decode cX1_init 73 = .ok (.putfield 28, 3) := dk_181 0 28 (dk_at dksX1_init_3 2 rfl rfl)
theorem dX1_init_76 : decode cX1_init 76 = .ok (.aload_n 0, 1) := dk_42 (dk_at dksX1_init_3 5 rfl rfl)
theorem dX1_init_77 : decode cX1_init 77 = .ok (.iconst 5, 1) := dk_8 (dk_at dksX1_init_3 6 rfl rfl)
theorem dX1_init_78 : decode cX1_init 78 = .ok (.newarray .int, 2) := dk_188_10 (dk_at dksX1_init_3 7 rfl rfl)
theorem dX1_init_80 : decode cX1_init 80 = .ok (.putfield 31, 3) := dk_181 0 31 (dk_at dksX1_init_3 9 rfl rfl)
theorem dX1_init_83 : decode cX1_init 83 = .ok (.aload_n 0, 1) := dk_42 (dk_at dksX1_init_3 12 rfl rfl)
theorem dX1_init_84 : decode cX1_init 84 = .ok (.bipush 25, 2) := dk_16 25 (dk_at dksX1_init_3 13 rfl rfl)
theorem dX1_init_86 : decode cX1_init 86 = .ok (.newarray .int, 2) := dk_188_10 (dk_at dksX1_init_3 15 rfl rfl)
theorem dX1_init_88 : decode cX1_init 88 = .ok (.putfield 34, 3) := dk_181 0 34 (dk_at dksX1_init_3 17 rfl rfl)
theorem dX1_init_91 : decode cX1_init 91 = .ok (.aload_n 0, 1) := dk_42 (dk_at dksX1_init_3 20 rfl rfl)
theorem dX1_init_92 : decode cX1_init 92 = .ok (.iconst 5, 1) := dk_8 (dk_at dksX1_init_3 21 rfl rfl)
theorem dX1_init_93 : decode cX1_init 93 = .ok (.newarray .int, 2) := dk_188_10 (dk_at dksX1_init_3 22 rfl rfl)
theorem dX1_init_95 : decode cX1_init 95 = .ok (.putfield 37, 3) := dk_181 0 37 (dk_at dksX1_init_4 0 rfl rfl)
theorem dX1_init_98 : decode cX1_init 98 = .ok (.aload_n 0, 1) := dk_42 (dk_at dksX1_init_4 3 rfl rfl)
theorem dX1_init_99 : decode cX1_init 99 = .ok (.bipush 32, 2) := dk_16 32 (dk_at dksX1_init_4 4 rfl rfl)
theorem dX1_init_101 : decode cX1_init 101 = .ok (.newarray .int, 2) := dk_188_10 (dk_at dksX1_init_4 6 rfl rfl)
theorem dX1_init_103 : decode cX1_init 103 = .ok (.putfield 40, 3) := dk_181 0 40 (dk_at dksX1_init_4 8 rfl rfl)
theorem dX1_init_106 : decode cX1_init 106 = .ok (.aload_n 0, 1) := dk_42 (dk_at dksX1_init_4 11 rfl rfl)
theorem dX1_init_107 : decode cX1_init 107 = .ok (.bipush 8, 2) := dk_16 8 (dk_at dksX1_init_4 12 rfl rfl)
theorem dX1_init_109 : decode cX1_init 109 = .ok (.newarray .int, 2) := dk_188_10 (dk_at dksX1_init_4 14 rfl rfl)
theorem dX1_init_111 : decode cX1_init 111 = .ok (.putfield 43, 3) := dk_181 0 43 (dk_at dksX1_init_4 16 rfl rfl)
theorem dX1_init_114 : decode cX1_init 114 = .ok (.aload_n 0, 1) := dk_42 (dk_at dksX1_init_4 19 rfl rfl)
theorem dX1_init_115 : decode cX1_init 115 = .ok (.bipush 8, 2) := dk_16 8 (dk_at dksX1_init_4 20 rfl rfl)
theorem dX1_init_117 : decode cX1_init 117 = .ok (.newarray .int, 2) := dk_188_10 (dk_at dksX1_init_4 22 rfl rfl)
theorem dX1_init_119 : decode cX1_init 119 = .ok (.putfield 46, 3) := dk_181 0 46 (dk_at dksX1_init_5 0 rfl rfl)
theorem dX1_init_122 : decode cX1_init 122 = .ok (.return_, 1) := dk_177 (dk_at dksX1_init_5 3 rfl rfl)
abbrev cX1_river : ByteArray := prog_15_method_14_code
def yX1_river : MethodName := ⟨RX1, "river", "(IIII)I"⟩
def dkwX1_river_3 : List UInt8 := [154, 0, 14, 16, 156, 42, 180, 0, 62, 21, 6, 100, 100, 172, 42, 182, 0, 83, 42, 180, 0, 59, 172]
abbrev dktX1_river_3 : List UInt8 := dkwX1_river_3 ++ []
def dkwX1_river_2 : List UInt8 := [16, 60, 27, 104, 29, 96, 54, 6, 42, 21, 6, 181, 0, 62, 42, 21, 6, 21, 4, 96, 182, 0, 80]
abbrev dktX1_river_2 : List UInt8 := dkwX1_river_2 ++ dktX1_river_3
def dkwX1_river_1 : List UInt8 := [42, 27, 28, 29, 21, 4, 182, 0, 72, 54, 5, 21, 5, 153, 0, 10, 42, 21, 5, 182, 0, 76, 172]
abbrev dktX1_river_1 : List UInt8 := dkwX1_river_1 ++ dktX1_river_2
def dkwX1_river_0 : List UInt8 := [42, 3, 181, 0, 49, 27, 184, 0, 65, 154, 0, 5, 2, 172, 28, 184, 0, 69, 154, 0, 6, 16, 254, 172]
abbrev dktX1_river_0 : List UInt8 := dkwX1_river_0 ++ dktX1_river_1
theorem dksX1_river_0 : cX1_river.data.toList.drop 0 = dktX1_river_0 := by decide +kernel
theorem dksX1_river_1 : cX1_river.data.toList.drop 24 = dktX1_river_1 := dk_seg dksX1_river_0 24 rfl rfl
theorem dksX1_river_2 : cX1_river.data.toList.drop 47 = dktX1_river_2 := dk_seg dksX1_river_1 23 rfl rfl
theorem dksX1_river_3 : cX1_river.data.toList.drop 70 = dktX1_river_3 := dk_seg dksX1_river_2 23 rfl rfl
theorem dX1_river_0 : decode cX1_river 0 = .ok (.aload_n 0, 1) := dk_42 (dk_at dksX1_river_0 0 rfl rfl)
theorem dX1_river_1 : decode cX1_river 1 = .ok (.iconst 0, 1) := dk_3 (dk_at dksX1_river_0 1 rfl rfl)
theorem dX1_river_2 : decode cX1_river 2 = .ok (.putfield 49, 3) := dk_181 0 49 (dk_at dksX1_river_0 2 rfl rfl)
theorem dX1_river_5 : decode cX1_river 5 = .ok (.iload_n 1, 1) := dk_27 (dk_at dksX1_river_0 5 rfl rfl)
theorem dX1_river_6 : decode cX1_river 6 = .ok (.invokestatic 65, 3) := dk_184 0 65 (dk_at dksX1_river_0 6 rfl rfl)
theorem dX1_river_9 : decode cX1_river 9 = .ok (.ifCond .ne 5, 3) := dk_154 0 5 (dk_at dksX1_river_0 9 rfl rfl)
theorem dX1_river_12 : decode cX1_river 12 = .ok (.iconst (-1), 1) := dk_2 (dk_at dksX1_river_0 12 rfl rfl)
theorem dX1_river_13 : decode cX1_river 13 = .ok (.ireturn, 1) := dk_172 (dk_at dksX1_river_0 13 rfl rfl)
theorem dX1_river_14 : decode cX1_river 14 = .ok (.iload_n 2, 1) := dk_28 (dk_at dksX1_river_0 14 rfl rfl)
theorem dX1_river_15 : decode cX1_river 15 = .ok (.invokestatic 69, 3) := dk_184 0 69 (dk_at dksX1_river_0 15 rfl rfl)
theorem dX1_river_18 : decode cX1_river 18 = .ok (.ifCond .ne 6, 3) := dk_154 0 6 (dk_at dksX1_river_0 18 rfl rfl)
theorem dX1_river_21 : decode cX1_river 21 = .ok (.bipush (-2), 2) := dk_16 254 (dk_at dksX1_river_0 21 rfl rfl)
theorem dX1_river_23 : decode cX1_river 23 = .ok (.ireturn, 1) := dk_172 (dk_at dksX1_river_0 23 rfl rfl)
theorem dX1_river_24 : decode cX1_river 24 = .ok (.aload_n 0, 1) := dk_42 (dk_at dksX1_river_1 0 rfl rfl)
theorem dX1_river_25 : decode cX1_river 25 = .ok (.iload_n 1, 1) := dk_27 (dk_at dksX1_river_1 1 rfl rfl)
theorem dX1_river_26 : decode cX1_river 26 = .ok (.iload_n 2, 1) := dk_28 (dk_at dksX1_river_1 2 rfl rfl)
theorem dX1_river_27 : decode cX1_river 27 = .ok (.iload_n 3, 1) := dk_29 (dk_at dksX1_river_1 3 rfl rfl)
theorem dX1_river_28 : decode cX1_river 28 = .ok (.iload 4, 2) := dk_21 4 (dk_at dksX1_river_1 4 rfl rfl)
theorem dX1_river_30 : decode cX1_river 30 = .ok (.invokevirtual 72, 3) := dk_182 0 72 (dk_at dksX1_river_1 6 rfl rfl)
theorem dX1_river_33 : decode cX1_river 33 = .ok (.istore 5, 2) := dk_54 5 (dk_at dksX1_river_1 9 rfl rfl)
theorem dX1_river_35 : decode cX1_river 35 = .ok (.iload 5, 2) := dk_21 5 (dk_at dksX1_river_1 11 rfl rfl)
theorem dX1_river_37 : decode cX1_river 37 = .ok (.ifCond .eq 10, 3) := dk_153 0 10 (dk_at dksX1_river_1 13 rfl rfl)
theorem dX1_river_40 : decode cX1_river 40 = .ok (.aload_n 0, 1) := dk_42 (dk_at dksX1_river_1 16 rfl rfl)
theorem dX1_river_41 : decode cX1_river 41 = .ok (.iload 5, 2) := dk_21 5 (dk_at dksX1_river_1 17 rfl rfl)
theorem dX1_river_43 : decode cX1_river 43 = .ok (.invokevirtual 76, 3) := dk_182 0 76 (dk_at dksX1_river_1 19 rfl rfl)
theorem dX1_river_46 : decode cX1_river 46 = .ok (.ireturn, 1) := dk_172 (dk_at dksX1_river_1 22 rfl rfl)
theorem dX1_river_47 : decode cX1_river 47 = .ok (.bipush 60, 2) := dk_16 60 (dk_at dksX1_river_2 0 rfl rfl)
theorem dX1_river_49 : decode cX1_river 49 = .ok (.iload_n 1, 1) := dk_27 (dk_at dksX1_river_2 2 rfl rfl)
theorem dX1_river_50 : decode cX1_river 50 = .ok (.imul, 1) := dk_104 (dk_at dksX1_river_2 3 rfl rfl)
theorem dX1_river_51 : decode cX1_river 51 = .ok (.iload_n 3, 1) := dk_29 (dk_at dksX1_river_2 4 rfl rfl)
theorem dX1_river_52 : decode cX1_river 52 = .ok (.iadd, 1) := dk_96 (dk_at dksX1_river_2 5 rfl rfl)
theorem dX1_river_53 : decode cX1_river 53 = .ok (.istore 6, 2) := dk_54 6 (dk_at dksX1_river_2 6 rfl rfl)
theorem dX1_river_55 : decode cX1_river 55 = .ok (.aload_n 0, 1) := dk_42 (dk_at dksX1_river_2 8 rfl rfl)
theorem dX1_river_56 : decode cX1_river 56 = .ok (.iload 6, 2) := dk_21 6 (dk_at dksX1_river_2 9 rfl rfl)
theorem dX1_river_58 : decode cX1_river 58 = .ok (.putfield 62, 3) := dk_181 0 62 (dk_at dksX1_river_2 11 rfl rfl)
theorem dX1_river_61 : decode cX1_river 61 = .ok (.aload_n 0, 1) := dk_42 (dk_at dksX1_river_2 14 rfl rfl)
theorem dX1_river_62 : decode cX1_river 62 = .ok (.iload 6, 2) := dk_21 6 (dk_at dksX1_river_2 15 rfl rfl)
theorem dX1_river_64 : decode cX1_river 64 = .ok (.iload 4, 2) := dk_21 4 (dk_at dksX1_river_2 17 rfl rfl)
theorem dX1_river_66 : decode cX1_river 66 = .ok (.iadd, 1) := dk_96 (dk_at dksX1_river_2 19 rfl rfl)
theorem dX1_river_67 : decode cX1_river 67 = .ok (.invokevirtual 80, 3) := dk_182 0 80 (dk_at dksX1_river_2 20 rfl rfl)
theorem dX1_river_70 : decode cX1_river 70 = .ok (.ifCond .ne 14, 3) := dk_154 0 14 (dk_at dksX1_river_3 0 rfl rfl)
theorem dX1_river_73 : decode cX1_river 73 = .ok (.bipush (-100), 2) := dk_16 156 (dk_at dksX1_river_3 3 rfl rfl)
theorem dX1_river_75 : decode cX1_river 75 = .ok (.aload_n 0, 1) := dk_42 (dk_at dksX1_river_3 5 rfl rfl)
theorem dX1_river_76 : decode cX1_river 76 = .ok (.getfield 62, 3) := dk_180 0 62 (dk_at dksX1_river_3 6 rfl rfl)
theorem dX1_river_79 : decode cX1_river 79 = .ok (.iload 6, 2) := dk_21 6 (dk_at dksX1_river_3 9 rfl rfl)
theorem dX1_river_81 : decode cX1_river 81 = .ok (.isub, 1) := dk_100 (dk_at dksX1_river_3 11 rfl rfl)
theorem dX1_river_82 : decode cX1_river 82 = .ok (.isub, 1) := dk_100 (dk_at dksX1_river_3 12 rfl rfl)
theorem dX1_river_83 : decode cX1_river 83 = .ok (.ireturn, 1) := dk_172 (dk_at dksX1_river_3 13 rfl rfl)
theorem dX1_river_84 : decode cX1_river 84 = .ok (.aload_n 0, 1) := dk_42 (dk_at dksX1_river_3 14 rfl rfl)
theorem dX1_river_85 : decode cX1_river 85 = .ok (.invokevirtual 83, 3) := dk_182 0 83 (dk_at dksX1_river_3 15 rfl rfl)
theorem dX1_river_88 : decode cX1_river 88 = .ok (.aload_n 0, 1) := dk_42 (dk_at dksX1_river_3 18 rfl rfl)
theorem dX1_river_89 : decode cX1_river 89 = .ok (.getfield 59, 3) := dk_180 0 59 (dk_at dksX1_river_3 19 rfl rfl)
theorem dX1_river_92 : decode cX1_river 92 = .ok (.ireturn, 1) := dk_172 (dk_at dksX1_river_3 22 rfl rfl)
abbrev cX1_isSheet : ByteArray := prog_15_method_6_code
def yX1_isSheet : MethodName := ⟨RX1, "isSheet", "(I)Z"⟩
def dkwX1_isSheet_0 : List UInt8 := [26, 3, 6, 184, 0, 55, 172]
abbrev dktX1_isSheet_0 : List UInt8 := dkwX1_isSheet_0 ++ []
theorem dksX1_isSheet_0 : cX1_isSheet.data.toList.drop 0 = dktX1_isSheet_0 := by decide +kernel
theorem dX1_isSheet_0 : decode cX1_isSheet 0 = .ok (.iload_n 0, 1) := dk_26 (dk_at dksX1_isSheet_0 0 rfl rfl)
theorem dX1_isSheet_1 : decode cX1_isSheet 1 = .ok (.iconst 0, 1) := dk_3 (dk_at dksX1_isSheet_0 1 rfl rfl)
theorem dX1_isSheet_2 : decode cX1_isSheet 2 = .ok (.iconst 3, 1) := dk_6 (dk_at dksX1_isSheet_0 2 rfl rfl)
theorem dX1_isSheet_3 : decode cX1_isSheet 3 = .ok (.invokestatic 55, 3) := dk_184 0 55 (dk_at dksX1_isSheet_0 3 rfl rfl)
theorem dX1_isSheet_6 : decode cX1_isSheet 6 = .ok (.ireturn, 1) := dk_172 (dk_at dksX1_isSheet_0 6 rfl rfl)
abbrev cX1_within : ByteArray := prog_15_method_5_code
def yX1_within : MethodName := ⟨RX1, "within", "(III)Z"⟩
def dkwX1_within_0 : List UInt8 := [26, 27, 161, 0, 12, 26, 28, 163, 0, 7, 4, 167, 0, 4, 3, 172]
abbrev dktX1_within_0 : List UInt8 := dkwX1_within_0 ++ []
theorem dksX1_within_0 : cX1_within.data.toList.drop 0 = dktX1_within_0 := by decide +kernel
theorem dX1_within_0 : decode cX1_within 0 = .ok (.iload_n 0, 1) := dk_26 (dk_at dksX1_within_0 0 rfl rfl)
theorem dX1_within_1 : decode cX1_within 1 = .ok (.iload_n 1, 1) := dk_27 (dk_at dksX1_within_0 1 rfl rfl)
theorem dX1_within_2 : decode cX1_within 2 = .ok (.if_icmp .lt 12, 3) := dk_161 0 12 (dk_at dksX1_within_0 2 rfl rfl)
theorem dX1_within_5 : decode cX1_within 5 = .ok (.iload_n 0, 1) := dk_26 (dk_at dksX1_within_0 5 rfl rfl)
theorem dX1_within_6 : decode cX1_within 6 = .ok (.iload_n 2, 1) := dk_28 (dk_at dksX1_within_0 6 rfl rfl)
theorem dX1_within_7 : decode cX1_within 7 = .ok (.if_icmp .gt 7, 3) := dk_163 0 7 (dk_at dksX1_within_0 7 rfl rfl)
theorem dX1_within_10 : decode cX1_within 10 = .ok (.iconst 1, 1) := dk_4 (dk_at dksX1_within_0 10 rfl rfl)
theorem dX1_within_11 : decode cX1_within 11 = .ok (.goto 4, 3) := dk_167 0 4 (dk_at dksX1_within_0 11 rfl rfl)
theorem dX1_within_14 : decode cX1_within 14 = .ok (.iconst 0, 1) := dk_3 (dk_at dksX1_within_0 14 rfl rfl)
theorem dX1_within_15 : decode cX1_within 15 = .ok (.ireturn, 1) := dk_172 (dk_at dksX1_within_0 15 rfl rfl)
abbrev cX1_isSort : ByteArray := prog_15_method_7_code
def yX1_isSort : MethodName := ⟨RX1, "isSort", "(I)Z"⟩
def dkwX1_isSort_0 : List UInt8 := [26, 3, 5, 184, 0, 55, 172]
abbrev dktX1_isSort_0 : List UInt8 := dkwX1_isSort_0 ++ []
theorem dksX1_isSort_0 : cX1_isSort.data.toList.drop 0 = dktX1_isSort_0 := by decide +kernel
theorem dX1_isSort_0 : decode cX1_isSort 0 = .ok (.iload_n 0, 1) := dk_26 (dk_at dksX1_isSort_0 0 rfl rfl)
theorem dX1_isSort_1 : decode cX1_isSort 1 = .ok (.iconst 0, 1) := dk_3 (dk_at dksX1_isSort_0 1 rfl rfl)
theorem dX1_isSort_2 : decode cX1_isSort 2 = .ok (.iconst 2, 1) := dk_5 (dk_at dksX1_isSort_0 2 rfl rfl)
theorem dX1_isSort_3 : decode cX1_isSort 3 = .ok (.invokestatic 55, 3) := dk_184 0 55 (dk_at dksX1_isSort_0 3 rfl rfl)
theorem dX1_isSort_6 : decode cX1_isSort 6 = .ok (.ireturn, 1) := dk_172 (dk_at dksX1_isSort_0 6 rfl rfl)
abbrev cX1_against : ByteArray := prog_15_method_8_code
def yX1_against : MethodName := ⟨RX1, "against", "(IIII)I"⟩
def dkwX1_against_3 : List UInt8 := [167, 0, 4, 3, 172]
abbrev dktX1_against_3 : List UInt8 := dkwX1_against_3 ++ []
def dkwX1_against_2 : List UInt8 := [42, 180, 0, 13, 27, 46, 163, 0, 16, 21, 4, 42, 180, 0, 13, 27, 46, 29, 100, 164, 0, 7, 6]
abbrev dktX1_against_2 : List UInt8 := dkwX1_against_2 ++ dktX1_against_3
def dkwX1_against_1 : List UInt8 := [180, 0, 9, 27, 46, 16, 247, 160, 0, 5, 4, 172, 21, 4, 156, 0, 5, 7, 172, 29, 155, 0, 26, 29]
abbrev dktX1_against_1 : List UInt8 := dkwX1_against_1 ++ dktX1_against_2
def dkwX1_against_0 : List UInt8 := [42, 180, 0, 9, 27, 46, 16, 247, 159, 0, 15, 42, 180, 0, 9, 27, 46, 28, 159, 0, 5, 5, 172, 42]
abbrev dktX1_against_0 : List UInt8 := dkwX1_against_0 ++ dktX1_against_1
theorem dksX1_against_0 : cX1_against.data.toList.drop 0 = dktX1_against_0 := by decide +kernel
theorem dksX1_against_1 : cX1_against.data.toList.drop 24 = dktX1_against_1 := dk_seg dksX1_against_0 24 rfl rfl
theorem dksX1_against_2 : cX1_against.data.toList.drop 48 = dktX1_against_2 := dk_seg dksX1_against_1 24 rfl rfl
theorem dksX1_against_3 : cX1_against.data.toList.drop 71 = dktX1_against_3 := dk_seg dksX1_against_2 23 rfl rfl
theorem dX1_against_0 : decode cX1_against 0 = .ok (.aload_n 0, 1) := dk_42 (dk_at dksX1_against_0 0 rfl rfl)
theorem dX1_against_1 : decode cX1_against 1 = .ok (.getfield 9, 3) := dk_180 0 9 (dk_at dksX1_against_0 1 rfl rfl)
theorem dX1_against_4 : decode cX1_against 4 = .ok (.iload_n 1, 1) := dk_27 (dk_at dksX1_against_0 4 rfl rfl)
theorem dX1_against_5 : decode cX1_against 5 = .ok (.iaload, 1) := dk_46 (dk_at dksX1_against_0 5 rfl rfl)
theorem dX1_against_6 : decode cX1_against 6 = .ok (.bipush (-9), 2) := dk_16 247 (dk_at dksX1_against_0 6 rfl rfl)
theorem dX1_against_8 : decode cX1_against 8 = .ok (.if_icmp .eq 15, 3) := dk_159 0 15 (dk_at dksX1_against_0 8 rfl rfl)
theorem dX1_against_11 : decode cX1_against 11 = .ok (.aload_n 0, 1) := dk_42 (dk_at dksX1_against_0 11 rfl rfl)
theorem dX1_against_12 : decode cX1_against 12 = .ok (.getfield 9, 3) := dk_180 0 9 (dk_at dksX1_against_0 12 rfl rfl)
theorem dX1_against_15 : decode cX1_against 15 = .ok (.iload_n 1, 1) := dk_27 (dk_at dksX1_against_0 15 rfl rfl)
theorem dX1_against_16 : decode cX1_against 16 = .ok (.iaload, 1) := dk_46 (dk_at dksX1_against_0 16 rfl rfl)
theorem dX1_against_17 : decode cX1_against 17 = .ok (.iload_n 2, 1) := dk_28 (dk_at dksX1_against_0 17 rfl rfl)
theorem dX1_against_18 : decode cX1_against 18 = .ok (.if_icmp .eq 5, 3) := dk_159 0 5 (dk_at dksX1_against_0 18 rfl rfl)
theorem dX1_against_21 : decode cX1_against 21 = .ok (.iconst 2, 1) := dk_5 (dk_at dksX1_against_0 21 rfl rfl)
theorem dX1_against_22 : decode cX1_against 22 = .ok (.ireturn, 1) := dk_172 (dk_at dksX1_against_0 22 rfl rfl)
theorem dX1_against_23 : decode cX1_against 23 = .ok (.aload_n 0, 1) := dk_42 (dk_at dksX1_against_0 23 rfl rfl)
theorem dX1_against_24 : decode cX1_against 24 = .ok (.getfield 9, 3) := dk_180 0 9 (dk_at dksX1_against_1 0 rfl rfl)
theorem dX1_against_27 : decode cX1_against 27 = .ok (.iload_n 1, 1) := dk_27 (dk_at dksX1_against_1 3 rfl rfl)
theorem dX1_against_28 : decode cX1_against 28 = .ok (.iaload, 1) := dk_46 (dk_at dksX1_against_1 4 rfl rfl)
theorem dX1_against_29 : decode cX1_against 29 = .ok (.bipush (-9), 2) := dk_16 247 (dk_at dksX1_against_1 5 rfl rfl)
theorem dX1_against_31 : decode cX1_against 31 = .ok (.if_icmp .ne 5, 3) := dk_160 0 5 (dk_at dksX1_against_1 7 rfl rfl)
theorem dX1_against_34 : decode cX1_against 34 = .ok (.iconst 1, 1) := dk_4 (dk_at dksX1_against_1 10 rfl rfl)
theorem dX1_against_35 : decode cX1_against 35 = .ok (.ireturn, 1) := dk_172 (dk_at dksX1_against_1 11 rfl rfl)
theorem dX1_against_36 : decode cX1_against 36 = .ok (.iload 4, 2) := dk_21 4 (dk_at dksX1_against_1 12 rfl rfl)
theorem dX1_against_38 : decode cX1_against 38 = .ok (.ifCond .ge 5, 3) := dk_156 0 5 (dk_at dksX1_against_1 14 rfl rfl)
theorem dX1_against_41 : decode cX1_against 41 = .ok (.iconst 4, 1) := dk_7 (dk_at dksX1_against_1 17 rfl rfl)
theorem dX1_against_42 : decode cX1_against 42 = .ok (.ireturn, 1) := dk_172 (dk_at dksX1_against_1 18 rfl rfl)
theorem dX1_against_43 : decode cX1_against 43 = .ok (.iload_n 3, 1) := dk_29 (dk_at dksX1_against_1 19 rfl rfl)
theorem dX1_against_44 : decode cX1_against 44 = .ok (.ifCond .lt 26, 3) := dk_155 0 26 (dk_at dksX1_against_1 20 rfl rfl)
theorem dX1_against_47 : decode cX1_against 47 = .ok (.iload_n 3, 1) := dk_29 (dk_at dksX1_against_1 23 rfl rfl)
theorem dX1_against_48 : decode cX1_against 48 = .ok (.aload_n 0, 1) := dk_42 (dk_at dksX1_against_2 0 rfl rfl)
theorem dX1_against_49 : decode cX1_against 49 = .ok (.getfield 13, 3) := dk_180 0 13 (dk_at dksX1_against_2 1 rfl rfl)
theorem dX1_against_52 : decode cX1_against 52 = .ok (.iload_n 1, 1) := dk_27 (dk_at dksX1_against_2 4 rfl rfl)
theorem dX1_against_53 : decode cX1_against 53 = .ok (.iaload, 1) := dk_46 (dk_at dksX1_against_2 5 rfl rfl)
theorem dX1_against_54 : decode cX1_against 54 = .ok (.if_icmp .gt 16, 3) := dk_163 0 16 (dk_at dksX1_against_2 6 rfl rfl)
theorem dX1_against_57 : decode cX1_against 57 = .ok (.iload 4, 2) := dk_21 4 (dk_at dksX1_against_2 9 rfl rfl)
theorem dX1_against_59 : decode cX1_against 59 = .ok (.aload_n 0, 1) := dk_42 (dk_at dksX1_against_2 11 rfl rfl)
theorem dX1_against_60 : decode cX1_against 60 = .ok (.getfield 13, 3) := dk_180 0 13 (dk_at dksX1_against_2 12 rfl rfl)
theorem dX1_against_63 : decode cX1_against 63 = .ok (.iload_n 1, 1) := dk_27 (dk_at dksX1_against_2 15 rfl rfl)
theorem dX1_against_64 : decode cX1_against 64 = .ok (.iaload, 1) := dk_46 (dk_at dksX1_against_2 16 rfl rfl)
theorem dX1_against_65 : decode cX1_against 65 = .ok (.iload_n 3, 1) := dk_29 (dk_at dksX1_against_2 17 rfl rfl)
theorem dX1_against_66 : decode cX1_against 66 = .ok (.isub, 1) := dk_100 (dk_at dksX1_against_2 18 rfl rfl)
theorem dX1_against_67 : decode cX1_against 67 = .ok (.if_icmp .le 7, 3) := dk_164 0 7 (dk_at dksX1_against_2 19 rfl rfl)
theorem dX1_against_70 : decode cX1_against 70 = .ok (.iconst 3, 1) := dk_6 (dk_at dksX1_against_2 22 rfl rfl)
theorem dX1_against_71 : decode cX1_against 71 = .ok (.goto 4, 3) := dk_167 0 4 (dk_at dksX1_against_3 0 rfl rfl)
theorem dX1_against_74 : decode cX1_against 74 = .ok (.iconst 0, 1) := dk_3 (dk_at dksX1_against_3 3 rfl rfl)
theorem dX1_against_75 : decode cX1_against 75 = .ok (.ireturn, 1) := dk_172 (dk_at dksX1_against_3 4 rfl rfl)
abbrev cX1_fails : ByteArray := prog_15_method_3_code
def yX1_fails : MethodName := ⟨RX1, "fails", "(I)I"⟩
def dkwX1_fails_0 : List UInt8 := [42, 27, 181, 0, 49, 16, 246, 27, 100, 172]
abbrev dktX1_fails_0 : List UInt8 := dkwX1_fails_0 ++ []
theorem dksX1_fails_0 : cX1_fails.data.toList.drop 0 = dktX1_fails_0 := by decide +kernel
theorem dX1_fails_0 : decode cX1_fails 0 = .ok (.aload_n 0, 1) := dk_42 (dk_at dksX1_fails_0 0 rfl rfl)
theorem dX1_fails_1 : decode cX1_fails 1 = .ok (.iload_n 1, 1) := dk_27 (dk_at dksX1_fails_0 1 rfl rfl)
theorem dX1_fails_2 : decode cX1_fails 2 = .ok (.putfield 49, 3) := dk_181 0 49 (dk_at dksX1_fails_0 2 rfl rfl)
theorem dX1_fails_5 : decode cX1_fails 5 = .ok (.bipush (-10), 2) := dk_16 246 (dk_at dksX1_fails_0 5 rfl rfl)
theorem dX1_fails_7 : decode cX1_fails 7 = .ok (.iload_n 1, 1) := dk_27 (dk_at dksX1_fails_0 7 rfl rfl)
theorem dX1_fails_8 : decode cX1_fails 8 = .ok (.isub, 1) := dk_100 (dk_at dksX1_fails_0 8 rfl rfl)
theorem dX1_fails_9 : decode cX1_fails 9 = .ok (.ireturn, 1) := dk_172 (dk_at dksX1_fails_0 9 rfl rfl)
abbrev cX1_readRiver : ByteArray := prog_15_method_16_code
def yX1_readRiver : MethodName := ⟨RX1, "readRiver", "(I)Z"⟩
def dkwX1_readRiver_5 : List UInt8 := [180, 0, 62, 27, 160, 0, 7, 4, 167, 0, 4, 3, 172]
abbrev dktX1_readRiver_5 : List UInt8 := dkwX1_readRiver_5 ++ []
def dkwX1_readRiver_4 : List UInt8 := [182, 0, 104, 153, 0, 12, 42, 27, 28, 182, 0, 112, 154, 0, 5, 3, 172, 132, 2, 1, 167, 255, 224, 42]
abbrev dktX1_readRiver_4 : List UInt8 := dkwX1_readRiver_4 ++ dktX1_readRiver_5
def dkwX1_readRiver_3 : List UInt8 := [180, 0, 86, 16, 247, 160, 0, 5, 3, 172, 3, 61, 28, 42, 180, 0, 86, 162, 0, 30, 42, 27, 16, 44]
abbrev dktX1_readRiver_3 : List UInt8 := dkwX1_readRiver_3 ++ dktX1_readRiver_4
def dkwX1_readRiver_2 : List UInt8 := [180, 0, 95, 16, 247, 160, 0, 5, 3, 172, 42, 42, 27, 5, 8, 182, 0, 108, 181, 0, 86, 42]
abbrev dktX1_readRiver_2 : List UInt8 := dkwX1_readRiver_2 ++ dktX1_readRiver_3
def dkwX1_readRiver_1 : List UInt8 := [180, 0, 89, 16, 247, 160, 0, 5, 3, 172, 42, 42, 27, 4, 6, 182, 0, 108, 181, 0, 95, 42]
abbrev dktX1_readRiver_1 : List UInt8 := dkwX1_readRiver_1 ++ dktX1_readRiver_2
def dkwX1_readRiver_0 : List UInt8 := [42, 27, 16, 111, 182, 0, 104, 154, 0, 5, 3, 172, 42, 42, 27, 4, 6, 182, 0, 108, 181, 0, 89, 42]
abbrev dktX1_readRiver_0 : List UInt8 := dkwX1_readRiver_0 ++ dktX1_readRiver_1
theorem dksX1_readRiver_0 : cX1_readRiver.data.toList.drop 0 = dktX1_readRiver_0 := by decide +kernel
theorem dksX1_readRiver_1 : cX1_readRiver.data.toList.drop 24 = dktX1_readRiver_1 := dk_seg dksX1_readRiver_0 24 rfl rfl
theorem dksX1_readRiver_2 : cX1_readRiver.data.toList.drop 46 = dktX1_readRiver_2 := dk_seg dksX1_readRiver_1 22 rfl rfl
theorem dksX1_readRiver_3 : cX1_readRiver.data.toList.drop 68 = dktX1_readRiver_3 := dk_seg dksX1_readRiver_2 22 rfl rfl
theorem dksX1_readRiver_4 : cX1_readRiver.data.toList.drop 92 = dktX1_readRiver_4 := dk_seg dksX1_readRiver_3 24 rfl rfl
theorem dksX1_readRiver_5 : cX1_readRiver.data.toList.drop 116 = dktX1_readRiver_5 := dk_seg dksX1_readRiver_4 24 rfl rfl
theorem dX1_readRiver_0 : decode cX1_readRiver 0 = .ok (.aload_n 0, 1) := dk_42 (dk_at dksX1_readRiver_0 0 rfl rfl)
theorem dX1_readRiver_1 : decode cX1_readRiver 1 = .ok (.iload_n 1, 1) := dk_27 (dk_at dksX1_readRiver_0 1 rfl rfl)
theorem dX1_readRiver_2 : decode cX1_readRiver 2 = .ok (.bipush 111, 2) := dk_16 111 (dk_at dksX1_readRiver_0 2 rfl rfl)
theorem dX1_readRiver_4 : decode cX1_readRiver 4 = .ok (.invokevirtual 104, 3) := dk_182 0 104 (dk_at dksX1_readRiver_0 4 rfl rfl)
theorem dX1_readRiver_7 : decode cX1_readRiver 7 = .ok (.ifCond .ne 5, 3) := dk_154 0 5 (dk_at dksX1_readRiver_0 7 rfl rfl)
theorem dX1_readRiver_10 : decode cX1_readRiver 10 = .ok (.iconst 0, 1) := dk_3 (dk_at dksX1_readRiver_0 10 rfl rfl)
theorem dX1_readRiver_11 : decode cX1_readRiver 11 = .ok (.ireturn, 1) := dk_172 (dk_at dksX1_readRiver_0 11 rfl rfl)
theorem dX1_readRiver_12 : decode cX1_readRiver 12 = .ok (.aload_n 0, 1) := dk_42 (dk_at dksX1_readRiver_0 12 rfl rfl)
theorem dX1_readRiver_13 : decode cX1_readRiver 13 = .ok (.aload_n 0, 1) := dk_42 (dk_at dksX1_readRiver_0 13 rfl rfl)
theorem dX1_readRiver_14 : decode cX1_readRiver 14 = .ok (.iload_n 1, 1) := dk_27 (dk_at dksX1_readRiver_0 14 rfl rfl)
theorem dX1_readRiver_15 : decode cX1_readRiver 15 = .ok (.iconst 1, 1) := dk_4 (dk_at dksX1_readRiver_0 15 rfl rfl)
theorem dX1_readRiver_16 : decode cX1_readRiver 16 = .ok (.iconst 3, 1) := dk_6 (dk_at dksX1_readRiver_0 16 rfl rfl)
theorem dX1_readRiver_17 : decode cX1_readRiver 17 = .ok (.invokevirtual 108, 3) := dk_182 0 108 (dk_at dksX1_readRiver_0 17 rfl rfl)
theorem dX1_readRiver_20 : decode cX1_readRiver 20 = .ok (.putfield 89, 3) := dk_181 0 89 (dk_at dksX1_readRiver_0 20 rfl rfl)
theorem dX1_readRiver_23 : decode cX1_readRiver 23 = .ok (.aload_n 0, 1) := dk_42 (dk_at dksX1_readRiver_0 23 rfl rfl)
theorem dX1_readRiver_24 : decode cX1_readRiver 24 = .ok (.getfield 89, 3) := dk_180 0 89 (dk_at dksX1_readRiver_1 0 rfl rfl)
theorem dX1_readRiver_27 : decode cX1_readRiver 27 = .ok (.bipush (-9), 2) := dk_16 247 (dk_at dksX1_readRiver_1 3 rfl rfl)
theorem dX1_readRiver_29 : decode cX1_readRiver 29 = .ok (.if_icmp .ne 5, 3) := dk_160 0 5 (dk_at dksX1_readRiver_1 5 rfl rfl)
theorem dX1_readRiver_32 : decode cX1_readRiver 32 = .ok (.iconst 0, 1) := dk_3 (dk_at dksX1_readRiver_1 8 rfl rfl)
theorem dX1_readRiver_33 : decode cX1_readRiver 33 = .ok (.ireturn, 1) := dk_172 (dk_at dksX1_readRiver_1 9 rfl rfl)
theorem dX1_readRiver_34 : decode cX1_readRiver 34 = .ok (.aload_n 0, 1) := dk_42 (dk_at dksX1_readRiver_1 10 rfl rfl)
theorem dX1_readRiver_35 : decode cX1_readRiver 35 = .ok (.aload_n 0, 1) := dk_42 (dk_at dksX1_readRiver_1 11 rfl rfl)
theorem dX1_readRiver_36 : decode cX1_readRiver 36 = .ok (.iload_n 1, 1) := dk_27 (dk_at dksX1_readRiver_1 12 rfl rfl)
theorem dX1_readRiver_37 : decode cX1_readRiver 37 = .ok (.iconst 1, 1) := dk_4 (dk_at dksX1_readRiver_1 13 rfl rfl)
theorem dX1_readRiver_38 : decode cX1_readRiver 38 = .ok (.iconst 3, 1) := dk_6 (dk_at dksX1_readRiver_1 14 rfl rfl)
theorem dX1_readRiver_39 : decode cX1_readRiver 39 = .ok (.invokevirtual 108, 3) := dk_182 0 108 (dk_at dksX1_readRiver_1 15 rfl rfl)
theorem dX1_readRiver_42 : decode cX1_readRiver 42 = .ok (.putfield 95, 3) := dk_181 0 95 (dk_at dksX1_readRiver_1 18 rfl rfl)
theorem dX1_readRiver_45 : decode cX1_readRiver 45 = .ok (.aload_n 0, 1) := dk_42 (dk_at dksX1_readRiver_1 21 rfl rfl)
theorem dX1_readRiver_46 : decode cX1_readRiver 46 = .ok (.getfield 95, 3) := dk_180 0 95 (dk_at dksX1_readRiver_2 0 rfl rfl)
theorem dX1_readRiver_49 : decode cX1_readRiver 49 = .ok (.bipush (-9), 2) := dk_16 247 (dk_at dksX1_readRiver_2 3 rfl rfl)
theorem dX1_readRiver_51 : decode cX1_readRiver 51 = .ok (.if_icmp .ne 5, 3) := dk_160 0 5 (dk_at dksX1_readRiver_2 5 rfl rfl)
theorem dX1_readRiver_54 : decode cX1_readRiver 54 = .ok (.iconst 0, 1) := dk_3 (dk_at dksX1_readRiver_2 8 rfl rfl)
theorem dX1_readRiver_55 : decode cX1_readRiver 55 = .ok (.ireturn, 1) := dk_172 (dk_at dksX1_readRiver_2 9 rfl rfl)
theorem dX1_readRiver_56 : decode cX1_readRiver 56 = .ok (.aload_n 0, 1) := dk_42 (dk_at dksX1_readRiver_2 10 rfl rfl)
theorem dX1_readRiver_57 : decode cX1_readRiver 57 = .ok (.aload_n 0, 1) := dk_42 (dk_at dksX1_readRiver_2 11 rfl rfl)
theorem dX1_readRiver_58 : decode cX1_readRiver 58 = .ok (.iload_n 1, 1) := dk_27 (dk_at dksX1_readRiver_2 12 rfl rfl)
theorem dX1_readRiver_59 : decode cX1_readRiver 59 = .ok (.iconst 2, 1) := dk_5 (dk_at dksX1_readRiver_2 13 rfl rfl)
theorem dX1_readRiver_60 : decode cX1_readRiver 60 = .ok (.iconst 5, 1) := dk_8 (dk_at dksX1_readRiver_2 14 rfl rfl)
theorem dX1_readRiver_61 : decode cX1_readRiver 61 = .ok (.invokevirtual 108, 3) := dk_182 0 108 (dk_at dksX1_readRiver_2 15 rfl rfl)
theorem dX1_readRiver_64 : decode cX1_readRiver 64 = .ok (.putfield 86, 3) := dk_181 0 86 (dk_at dksX1_readRiver_2 18 rfl rfl)
theorem dX1_readRiver_67 : decode cX1_readRiver 67 = .ok (.aload_n 0, 1) := dk_42 (dk_at dksX1_readRiver_2 21 rfl rfl)
theorem dX1_readRiver_68 : decode cX1_readRiver 68 = .ok (.getfield 86, 3) := dk_180 0 86 (dk_at dksX1_readRiver_3 0 rfl rfl)
theorem dX1_readRiver_71 : decode cX1_readRiver 71 = .ok (.bipush (-9), 2) := dk_16 247 (dk_at dksX1_readRiver_3 3 rfl rfl)
theorem dX1_readRiver_73 : decode cX1_readRiver 73 = .ok (.if_icmp .ne 5, 3) := dk_160 0 5 (dk_at dksX1_readRiver_3 5 rfl rfl)
theorem dX1_readRiver_76 : decode cX1_readRiver 76 = .ok (.iconst 0, 1) := dk_3 (dk_at dksX1_readRiver_3 8 rfl rfl)
theorem dX1_readRiver_77 : decode cX1_readRiver 77 = .ok (.ireturn, 1) := dk_172 (dk_at dksX1_readRiver_3 9 rfl rfl)
theorem dX1_readRiver_78 : decode cX1_readRiver 78 = .ok (.iconst 0, 1) := dk_3 (dk_at dksX1_readRiver_3 10 rfl rfl)
theorem dX1_readRiver_79 : decode cX1_readRiver 79 = .ok (.istore_n 2, 1) := dk_61 (dk_at dksX1_readRiver_3 11 rfl rfl)
theorem dX1_readRiver_80 : decode cX1_readRiver 80 = .ok (.iload_n 2, 1) := dk_28 (dk_at dksX1_readRiver_3 12 rfl rfl)
theorem dX1_readRiver_81 : decode cX1_readRiver 81 = .ok (.aload_n 0, 1) := dk_42 (dk_at dksX1_readRiver_3 13 rfl rfl)
theorem dX1_readRiver_82 : decode cX1_readRiver 82 = .ok (.getfield 86, 3) := dk_180 0 86 (dk_at dksX1_readRiver_3 14 rfl rfl)
theorem dX1_readRiver_85 : decode cX1_readRiver 85 = .ok (.if_icmp .ge 30, 3) := dk_162 0 30 (dk_at dksX1_readRiver_3 17 rfl rfl)
theorem dX1_readRiver_88 : decode cX1_readRiver 88 = .ok (.aload_n 0, 1) := dk_42 (dk_at dksX1_readRiver_3 20 rfl rfl)
theorem dX1_readRiver_89 : decode cX1_readRiver 89 = .ok (.iload_n 1, 1) := dk_27 (dk_at dksX1_readRiver_3 21 rfl rfl)
theorem dX1_readRiver_90 : decode cX1_readRiver 90 = .ok (.bipush 44, 2) := dk_16 44 (dk_at dksX1_readRiver_3 22 rfl rfl)
theorem dX1_readRiver_92 : decode cX1_readRiver 92 = .ok (.invokevirtual 104, 3) := dk_182 0 104 (dk_at dksX1_readRiver_4 0 rfl rfl)
theorem dX1_readRiver_95 : decode cX1_readRiver 95 = .ok (.ifCond .eq 12, 3) := dk_153 0 12 (dk_at dksX1_readRiver_4 3 rfl rfl)
theorem dX1_readRiver_98 : decode cX1_readRiver 98 = .ok (.aload_n 0, 1) := dk_42 (dk_at dksX1_readRiver_4 6 rfl rfl)
theorem dX1_readRiver_99 : decode cX1_readRiver 99 = .ok (.iload_n 1, 1) := dk_27 (dk_at dksX1_readRiver_4 7 rfl rfl)
theorem dX1_readRiver_100 : decode cX1_readRiver 100 = .ok (.iload_n 2, 1) := dk_28 (dk_at dksX1_readRiver_4 8 rfl rfl)
theorem dX1_readRiver_101 : decode cX1_readRiver 101 = .ok (.invokevirtual 112, 3) := dk_182 0 112 (dk_at dksX1_readRiver_4 9 rfl rfl)
theorem dX1_readRiver_104 : decode cX1_readRiver 104 = .ok (.ifCond .ne 5, 3) := dk_154 0 5 (dk_at dksX1_readRiver_4 12 rfl rfl)
theorem dX1_readRiver_107 : decode cX1_readRiver 107 = .ok (.iconst 0, 1) := dk_3 (dk_at dksX1_readRiver_4 15 rfl rfl)
theorem dX1_readRiver_108 : decode cX1_readRiver 108 = .ok (.ireturn, 1) := dk_172 (dk_at dksX1_readRiver_4 16 rfl rfl)
theorem dX1_readRiver_109 : decode cX1_readRiver 109 = .ok (.iinc 2 1, 3) := dk_132 2 1 (dk_at dksX1_readRiver_4 17 rfl rfl)
theorem dX1_readRiver_112 : decode cX1_readRiver 112 = .ok (.goto (-32), 3) := dk_167 255 224 (dk_at dksX1_readRiver_4 20 rfl rfl)
theorem dX1_readRiver_115 : decode cX1_readRiver 115 = .ok (.aload_n 0, 1) := dk_42 (dk_at dksX1_readRiver_4 23 rfl rfl)
theorem dX1_readRiver_116 : decode cX1_readRiver 116 = .ok (.getfield 62, 3) := dk_180 0 62 (dk_at dksX1_readRiver_5 0 rfl rfl)
theorem dX1_readRiver_119 : decode cX1_readRiver 119 = .ok (.iload_n 1, 1) := dk_27 (dk_at dksX1_readRiver_5 3 rfl rfl)
theorem dX1_readRiver_120 : decode cX1_readRiver 120 = .ok (.if_icmp .ne 7, 3) := dk_160 0 7 (dk_at dksX1_readRiver_5 4 rfl rfl)
theorem dX1_readRiver_123 : decode cX1_readRiver 123 = .ok (.iconst 1, 1) := dk_4 (dk_at dksX1_readRiver_5 7 rfl rfl)
theorem dX1_readRiver_124 : decode cX1_readRiver 124 = .ok (.goto 4, 3) := dk_167 0 4 (dk_at dksX1_readRiver_5 8 rfl rfl)
theorem dX1_readRiver_127 : decode cX1_readRiver 127 = .ok (.iconst 0, 1) := dk_3 (dk_at dksX1_readRiver_5 11 rfl rfl)
theorem dX1_readRiver_128 : decode cX1_readRiver 128 = .ok (.ireturn, 1) := dk_172 (dk_at dksX1_readRiver_5 12 rfl rfl)
abbrev cX1_isSign : ByteArray := prog_15_method_13_code
def yX1_isSign : MethodName := ⟨RX1, "isSign", "(II)Z"⟩
def dkwX1_isSign_1 : List UInt8 := [89, 180, 0, 62, 4, 96, 181, 0, 62, 4, 172]
abbrev dktX1_isSign_1 : List UInt8 := dkwX1_isSign_1 ++ []
def dkwX1_isSign_0 : List UInt8 := [42, 180, 0, 62, 27, 162, 0, 16, 42, 180, 0, 16, 42, 180, 0, 62, 46, 28, 159, 0, 5, 3, 172, 42]
abbrev dktX1_isSign_0 : List UInt8 := dkwX1_isSign_0 ++ dktX1_isSign_1
theorem dksX1_isSign_0 : cX1_isSign.data.toList.drop 0 = dktX1_isSign_0 := by decide +kernel
theorem dksX1_isSign_1 : cX1_isSign.data.toList.drop 24 = dktX1_isSign_1 := dk_seg dksX1_isSign_0 24 rfl rfl
theorem dX1_isSign_0 : decode cX1_isSign 0 = .ok (.aload_n 0, 1) := dk_42 (dk_at dksX1_isSign_0 0 rfl rfl)
theorem dX1_isSign_1 : decode cX1_isSign 1 = .ok (.getfield 62, 3) := dk_180 0 62 (dk_at dksX1_isSign_0 1 rfl rfl)
theorem dX1_isSign_4 : decode cX1_isSign 4 = .ok (.iload_n 1, 1) := dk_27 (dk_at dksX1_isSign_0 4 rfl rfl)
theorem dX1_isSign_5 : decode cX1_isSign 5 = .ok (.if_icmp .ge 16, 3) := dk_162 0 16 (dk_at dksX1_isSign_0 5 rfl rfl)
theorem dX1_isSign_8 : decode cX1_isSign 8 = .ok (.aload_n 0, 1) := dk_42 (dk_at dksX1_isSign_0 8 rfl rfl)
theorem dX1_isSign_9 : decode cX1_isSign 9 = .ok (.getfield 16, 3) := dk_180 0 16 (dk_at dksX1_isSign_0 9 rfl rfl)
theorem dX1_isSign_12 : decode cX1_isSign 12 = .ok (.aload_n 0, 1) := dk_42 (dk_at dksX1_isSign_0 12 rfl rfl)
theorem dX1_isSign_13 : decode cX1_isSign 13 = .ok (.getfield 62, 3) := dk_180 0 62 (dk_at dksX1_isSign_0 13 rfl rfl)
theorem dX1_isSign_16 : decode cX1_isSign 16 = .ok (.iaload, 1) := dk_46 (dk_at dksX1_isSign_0 16 rfl rfl)
theorem dX1_isSign_17 : decode cX1_isSign 17 = .ok (.iload_n 2, 1) := dk_28 (dk_at dksX1_isSign_0 17 rfl rfl)
theorem dX1_isSign_18 : decode cX1_isSign 18 = .ok (.if_icmp .eq 5, 3) := dk_159 0 5 (dk_at dksX1_isSign_0 18 rfl rfl)
theorem dX1_isSign_21 : decode cX1_isSign 21 = .ok (.iconst 0, 1) := dk_3 (dk_at dksX1_isSign_0 21 rfl rfl)
theorem dX1_isSign_22 : decode cX1_isSign 22 = .ok (.ireturn, 1) := dk_172 (dk_at dksX1_isSign_0 22 rfl rfl)
theorem dX1_isSign_23 : decode cX1_isSign 23 = .ok (.aload_n 0, 1) := dk_42 (dk_at dksX1_isSign_0 23 rfl rfl)
theorem dX1_isSign_24 : decode cX1_isSign 24 = .ok (.dup, 1) := dk_89 (dk_at dksX1_isSign_1 0 rfl rfl)
theorem dX1_isSign_25 : decode cX1_isSign 25 = .ok (.getfield 62, 3) := dk_180 0 62 (dk_at dksX1_isSign_1 1 rfl rfl)
theorem dX1_isSign_28 : decode cX1_isSign 28 = .ok (.iconst 1, 1) := dk_4 (dk_at dksX1_isSign_1 4 rfl rfl)
theorem dX1_isSign_29 : decode cX1_isSign 29 = .ok (.iadd, 1) := dk_96 (dk_at dksX1_isSign_1 5 rfl rfl)
theorem dX1_isSign_30 : decode cX1_isSign 30 = .ok (.putfield 62, 3) := dk_181 0 62 (dk_at dksX1_isSign_1 6 rfl rfl)
theorem dX1_isSign_33 : decode cX1_isSign 33 = .ok (.iconst 1, 1) := dk_4 (dk_at dksX1_isSign_1 9 rfl rfl)
theorem dX1_isSign_34 : decode cX1_isSign 34 = .ok (.ireturn, 1) := dk_172 (dk_at dksX1_isSign_1 10 rfl rfl)
abbrev cX1_digit : ByteArray := prog_15_method_12_code
def yX1_digit : MethodName := ⟨RX1, "digit", "(III)I"⟩
def dkwX1_digit_2 : List UInt8 := [42, 180, 0, 62, 4, 100, 46, 16, 48, 100, 172]
abbrev dktX1_digit_2 : List UInt8 := dkwX1_digit_2 ++ []
def dkwX1_digit_1 : List UInt8 := [96, 184, 0, 55, 154, 0, 6, 16, 247, 172, 42, 89, 180, 0, 62, 4, 96, 181, 0, 62, 42, 180, 0, 16]
abbrev dktX1_digit_1 : List UInt8 := dkwX1_digit_1 ++ dktX1_digit_2
def dkwX1_digit_0 : List UInt8 := [42, 180, 0, 62, 27, 162, 0, 26, 42, 180, 0, 16, 42, 180, 0, 62, 46, 16, 48, 28, 96, 16, 48, 29]
abbrev dktX1_digit_0 : List UInt8 := dkwX1_digit_0 ++ dktX1_digit_1
theorem dksX1_digit_0 : cX1_digit.data.toList.drop 0 = dktX1_digit_0 := by decide +kernel
theorem dksX1_digit_1 : cX1_digit.data.toList.drop 24 = dktX1_digit_1 := dk_seg dksX1_digit_0 24 rfl rfl
theorem dksX1_digit_2 : cX1_digit.data.toList.drop 48 = dktX1_digit_2 := dk_seg dksX1_digit_1 24 rfl rfl
theorem dX1_digit_0 : decode cX1_digit 0 = .ok (.aload_n 0, 1) := dk_42 (dk_at dksX1_digit_0 0 rfl rfl)
theorem dX1_digit_1 : decode cX1_digit 1 = .ok (.getfield 62, 3) := dk_180 0 62 (dk_at dksX1_digit_0 1 rfl rfl)
theorem dX1_digit_4 : decode cX1_digit 4 = .ok (.iload_n 1, 1) := dk_27 (dk_at dksX1_digit_0 4 rfl rfl)
theorem dX1_digit_5 : decode cX1_digit 5 = .ok (.if_icmp .ge 26, 3) := dk_162 0 26 (dk_at dksX1_digit_0 5 rfl rfl)
theorem dX1_digit_8 : decode cX1_digit 8 = .ok (.aload_n 0, 1) := dk_42 (dk_at dksX1_digit_0 8 rfl rfl)
theorem dX1_digit_9 : decode cX1_digit 9 = .ok (.getfield 16, 3) := dk_180 0 16 (dk_at dksX1_digit_0 9 rfl rfl)
theorem dX1_digit_12 : decode cX1_digit 12 = .ok (.aload_n 0, 1) := dk_42 (dk_at dksX1_digit_0 12 rfl rfl)
theorem dX1_digit_13 : decode cX1_digit 13 = .ok (.getfield 62, 3) := dk_180 0 62 (dk_at dksX1_digit_0 13 rfl rfl)
theorem dX1_digit_16 : decode cX1_digit 16 = .ok (.iaload, 1) := dk_46 (dk_at dksX1_digit_0 16 rfl rfl)
theorem dX1_digit_17 : decode cX1_digit 17 = .ok (.bipush 48, 2) := dk_16 48 (dk_at dksX1_digit_0 17 rfl rfl)
theorem dX1_digit_19 : decode cX1_digit 19 = .ok (.iload_n 2, 1) := dk_28 (dk_at dksX1_digit_0 19 rfl rfl)
theorem dX1_digit_20 : decode cX1_digit 20 = .ok (.iadd, 1) := dk_96 (dk_at dksX1_digit_0 20 rfl rfl)
theorem dX1_digit_21 : decode cX1_digit 21 = .ok (.bipush 48, 2) := dk_16 48 (dk_at dksX1_digit_0 21 rfl rfl)
theorem dX1_digit_23 : decode cX1_digit 23 = .ok (.iload_n 3, 1) := dk_29 (dk_at dksX1_digit_0 23 rfl rfl)
theorem dX1_digit_24 : decode cX1_digit 24 = .ok (.iadd, 1) := dk_96 (dk_at dksX1_digit_1 0 rfl rfl)
theorem dX1_digit_25 : decode cX1_digit 25 = .ok (.invokestatic 55, 3) := dk_184 0 55 (dk_at dksX1_digit_1 1 rfl rfl)
theorem dX1_digit_28 : decode cX1_digit 28 = .ok (.ifCond .ne 6, 3) := dk_154 0 6 (dk_at dksX1_digit_1 4 rfl rfl)
theorem dX1_digit_31 : decode cX1_digit 31 = .ok (.bipush (-9), 2) := dk_16 247 (dk_at dksX1_digit_1 7 rfl rfl)
theorem dX1_digit_33 : decode cX1_digit 33 = .ok (.ireturn, 1) := dk_172 (dk_at dksX1_digit_1 9 rfl rfl)
theorem dX1_digit_34 : decode cX1_digit 34 = .ok (.aload_n 0, 1) := dk_42 (dk_at dksX1_digit_1 10 rfl rfl)
theorem dX1_digit_35 : decode cX1_digit 35 = .ok (.dup, 1) := dk_89 (dk_at dksX1_digit_1 11 rfl rfl)
theorem dX1_digit_36 : decode cX1_digit 36 = .ok (.getfield 62, 3) := dk_180 0 62 (dk_at dksX1_digit_1 12 rfl rfl)
theorem dX1_digit_39 : decode cX1_digit 39 = .ok (.iconst 1, 1) := dk_4 (dk_at dksX1_digit_1 15 rfl rfl)
theorem dX1_digit_40 : decode cX1_digit 40 = .ok (.iadd, 1) := dk_96 (dk_at dksX1_digit_1 16 rfl rfl)
theorem dX1_digit_41 : decode cX1_digit 41 = .ok (.putfield 62, 3) := dk_181 0 62 (dk_at dksX1_digit_1 17 rfl rfl)
theorem dX1_digit_44 : decode cX1_digit 44 = .ok (.aload_n 0, 1) := dk_42 (dk_at dksX1_digit_1 20 rfl rfl)
theorem dX1_digit_45 : decode cX1_digit 45 = .ok (.getfield 16, 3) := dk_180 0 16 (dk_at dksX1_digit_1 21 rfl rfl)
theorem dX1_digit_48 : decode cX1_digit 48 = .ok (.aload_n 0, 1) := dk_42 (dk_at dksX1_digit_2 0 rfl rfl)
theorem dX1_digit_49 : decode cX1_digit 49 = .ok (.getfield 62, 3) := dk_180 0 62 (dk_at dksX1_digit_2 1 rfl rfl)
theorem dX1_digit_52 : decode cX1_digit 52 = .ok (.iconst 1, 1) := dk_4 (dk_at dksX1_digit_2 4 rfl rfl)
theorem dX1_digit_53 : decode cX1_digit 53 = .ok (.isub, 1) := dk_100 (dk_at dksX1_digit_2 5 rfl rfl)
theorem dX1_digit_54 : decode cX1_digit 54 = .ok (.iaload, 1) := dk_46 (dk_at dksX1_digit_2 6 rfl rfl)
theorem dX1_digit_55 : decode cX1_digit 55 = .ok (.bipush 48, 2) := dk_16 48 (dk_at dksX1_digit_2 7 rfl rfl)
theorem dX1_digit_57 : decode cX1_digit 57 = .ok (.isub, 1) := dk_100 (dk_at dksX1_digit_2 9 rfl rfl)
theorem dX1_digit_58 : decode cX1_digit 58 = .ok (.ireturn, 1) := dk_172 (dk_at dksX1_digit_2 10 rfl rfl)
abbrev cX1_readPerson : ByteArray := prog_15_method_17_code
def yX1_readPerson : MethodName := ⟨RX1, "readPerson", "(II)Z"⟩
def dkwX1_readPerson_7 : List UInt8 := [160, 0, 5, 3, 172, 132, 4, 1, 167, 255, 197, 4, 172]
abbrev dktX1_readPerson_7 : List UInt8 := dkwX1_readPerson_7 ++ []
def dkwX1_readPerson_6 : List UInt8 := [167, 0, 5, 16, 9, 182, 0, 108, 79, 42, 180, 0, 34, 8, 28, 104, 21, 4, 96, 46, 16, 247]
abbrev dktX1_readPerson_6 : List UInt8 := dkwX1_readPerson_6 ++ dktX1_readPerson_7
def dkwX1_readPerson_5 : List UInt8 := [162, 0, 56, 42, 180, 0, 34, 8, 28, 104, 21, 4, 96, 42, 27, 3, 21, 4, 28, 160, 0, 7, 3]
abbrev dktX1_readPerson_5 : List UInt8 := dkwX1_readPerson_5 ++ dktX1_readPerson_6
def dkwX1_readPerson_4 : List UInt8 := [79, 42, 180, 0, 31, 28, 46, 16, 247, 160, 0, 5, 3, 172, 3, 54, 4, 21, 4, 42, 180, 0, 86]
abbrev dktX1_readPerson_4 : List UInt8 := dkwX1_readPerson_4 ++ dktX1_readPerson_5
def dkwX1_readPerson_3 : List UInt8 := [3, 172, 42, 89, 180, 0, 62, 4, 96, 181, 0, 62, 42, 180, 0, 31, 28, 42, 27, 3, 4, 182, 0, 108]
abbrev dktX1_readPerson_3 : List UInt8 := dkwX1_readPerson_3 ++ dktX1_readPerson_4
def dkwX1_readPerson_2 : List UInt8 := [29, 16, 98, 160, 0, 7, 5, 167, 0, 5, 16, 247, 79, 42, 180, 0, 28, 28, 46, 16, 247, 160, 0, 5]
abbrev dktX1_readPerson_2 : List UInt8 := dkwX1_readPerson_2 ++ dktX1_readPerson_3
def dkwX1_readPerson_1 : List UInt8 := [180, 0, 28, 28, 29, 16, 114, 160, 0, 7, 3, 167, 0, 25, 29, 16, 102, 160, 0, 7, 4, 167, 0, 15]
abbrev dktX1_readPerson_1 : List UInt8 := dkwX1_readPerson_1 ++ dktX1_readPerson_2
def dkwX1_readPerson_0 : List UInt8 := [42, 180, 0, 62, 27, 162, 0, 15, 42, 180, 0, 16, 42, 180, 0, 62, 46, 167, 0, 4, 3, 62, 42]
abbrev dktX1_readPerson_0 : List UInt8 := dkwX1_readPerson_0 ++ dktX1_readPerson_1
theorem dksX1_readPerson_0 : cX1_readPerson.data.toList.drop 0 = dktX1_readPerson_0 := by decide +kernel
theorem dksX1_readPerson_1 : cX1_readPerson.data.toList.drop 23 = dktX1_readPerson_1 := dk_seg dksX1_readPerson_0 23 rfl rfl
theorem dksX1_readPerson_2 : cX1_readPerson.data.toList.drop 47 = dktX1_readPerson_2 := dk_seg dksX1_readPerson_1 24 rfl rfl
theorem dksX1_readPerson_3 : cX1_readPerson.data.toList.drop 71 = dktX1_readPerson_3 := dk_seg dksX1_readPerson_2 24 rfl rfl
theorem dksX1_readPerson_4 : cX1_readPerson.data.toList.drop 95 = dktX1_readPerson_4 := dk_seg dksX1_readPerson_3 24 rfl rfl
theorem dksX1_readPerson_5 : cX1_readPerson.data.toList.drop 118 = dktX1_readPerson_5 := dk_seg dksX1_readPerson_4 23 rfl rfl
theorem dksX1_readPerson_6 : cX1_readPerson.data.toList.drop 141 = dktX1_readPerson_6 := dk_seg dksX1_readPerson_5 23 rfl rfl
theorem dksX1_readPerson_7 : cX1_readPerson.data.toList.drop 163 = dktX1_readPerson_7 := dk_seg dksX1_readPerson_6 22 rfl rfl
theorem dX1_readPerson_0 : decode cX1_readPerson 0 = .ok (.aload_n 0, 1) := dk_42 (dk_at dksX1_readPerson_0 0 rfl rfl)
theorem dX1_readPerson_1 : decode cX1_readPerson 1 = .ok (.getfield 62, 3) := dk_180 0 62 (dk_at dksX1_readPerson_0 1 rfl rfl)
theorem dX1_readPerson_4 : decode cX1_readPerson 4 = .ok (.iload_n 1, 1) := dk_27 (dk_at dksX1_readPerson_0 4 rfl rfl)
theorem dX1_readPerson_5 : decode cX1_readPerson 5 = .ok (.if_icmp .ge 15, 3) := dk_162 0 15 (dk_at dksX1_readPerson_0 5 rfl rfl)
theorem dX1_readPerson_8 : decode cX1_readPerson 8 = .ok (.aload_n 0, 1) := dk_42 (dk_at dksX1_readPerson_0 8 rfl rfl)
theorem dX1_readPerson_9 : decode cX1_readPerson 9 = .ok (.getfield 16, 3) := dk_180 0 16 (dk_at dksX1_readPerson_0 9 rfl rfl)
theorem dX1_readPerson_12 : decode cX1_readPerson 12 = .ok (.aload_n 0, 1) := dk_42 (dk_at dksX1_readPerson_0 12 rfl rfl)
theorem dX1_readPerson_13 : decode cX1_readPerson 13 = .ok (.getfield 62, 3) := dk_180 0 62 (dk_at dksX1_readPerson_0 13 rfl rfl)
theorem dX1_readPerson_16 : decode cX1_readPerson 16 = .ok (.iaload, 1) := dk_46 (dk_at dksX1_readPerson_0 16 rfl rfl)
theorem dX1_readPerson_17 : decode cX1_readPerson 17 = .ok (.goto 4, 3) := dk_167 0 4 (dk_at dksX1_readPerson_0 17 rfl rfl)
theorem dX1_readPerson_20 : decode cX1_readPerson 20 = .ok (.iconst 0, 1) := dk_3 (dk_at dksX1_readPerson_0 20 rfl rfl)
theorem dX1_readPerson_21 : decode cX1_readPerson 21 = .ok (.istore_n 3, 1) := dk_62 (dk_at dksX1_readPerson_0 21 rfl rfl)
theorem dX1_readPerson_22 : decode cX1_readPerson 22 = .ok (.aload_n 0, 1) := dk_42 (dk_at dksX1_readPerson_0 22 rfl rfl)
theorem dX1_readPerson_23 : decode cX1_readPerson 23 = .ok (.getfield 28, 3) := dk_180 0 28 (dk_at dksX1_readPerson_1 0 rfl rfl)
theorem dX1_readPerson_26 : decode cX1_readPerson 26 = .ok (.iload_n 2, 1) := dk_28 (dk_at dksX1_readPerson_1 3 rfl rfl)
theorem dX1_readPerson_27 : decode cX1_readPerson 27 = .ok (.iload_n 3, 1) := dk_29 (dk_at dksX1_readPerson_1 4 rfl rfl)
theorem dX1_readPerson_28 : decode cX1_readPerson 28 = .ok (.bipush 114, 2) := dk_16 114 (dk_at dksX1_readPerson_1 5 rfl rfl)
theorem dX1_readPerson_30 : decode cX1_readPerson 30 = .ok (.if_icmp .ne 7, 3) := dk_160 0 7 (dk_at dksX1_readPerson_1 7 rfl rfl)
theorem dX1_readPerson_33 : decode cX1_readPerson 33 = .ok (.iconst 0, 1) := dk_3 (dk_at dksX1_readPerson_1 10 rfl rfl)
theorem dX1_readPerson_34 : decode cX1_readPerson 34 = .ok (.goto 25, 3) := dk_167 0 25 (dk_at dksX1_readPerson_1 11 rfl rfl)
theorem dX1_readPerson_37 : decode cX1_readPerson 37 = .ok (.iload_n 3, 1) := dk_29 (dk_at dksX1_readPerson_1 14 rfl rfl)
theorem dX1_readPerson_38 : decode cX1_readPerson 38 = .ok (.bipush 102, 2) := dk_16 102 (dk_at dksX1_readPerson_1 15 rfl rfl)
theorem dX1_readPerson_40 : decode cX1_readPerson 40 = .ok (.if_icmp .ne 7, 3) := dk_160 0 7 (dk_at dksX1_readPerson_1 17 rfl rfl)
theorem dX1_readPerson_43 : decode cX1_readPerson 43 = .ok (.iconst 1, 1) := dk_4 (dk_at dksX1_readPerson_1 20 rfl rfl)
theorem dX1_readPerson_44 : decode cX1_readPerson 44 = .ok (.goto 15, 3) := dk_167 0 15 (dk_at dksX1_readPerson_1 21 rfl rfl)
theorem dX1_readPerson_47 : decode cX1_readPerson 47 = .ok (.iload_n 3, 1) := dk_29 (dk_at dksX1_readPerson_2 0 rfl rfl)
theorem dX1_readPerson_48 : decode cX1_readPerson 48 = .ok (.bipush 98, 2) := dk_16 98 (dk_at dksX1_readPerson_2 1 rfl rfl)
theorem dX1_readPerson_50 : decode cX1_readPerson 50 = .ok (.if_icmp .ne 7, 3) := dk_160 0 7 (dk_at dksX1_readPerson_2 3 rfl rfl)
theorem dX1_readPerson_53 : decode cX1_readPerson 53 = .ok (.iconst 2, 1) := dk_5 (dk_at dksX1_readPerson_2 6 rfl rfl)
theorem dX1_readPerson_54 : decode cX1_readPerson 54 = .ok (.goto 5, 3) := dk_167 0 5 (dk_at dksX1_readPerson_2 7 rfl rfl)
theorem dX1_readPerson_57 : decode cX1_readPerson 57 = .ok (.bipush (-9), 2) := dk_16 247 (dk_at dksX1_readPerson_2 10 rfl rfl)
theorem dX1_readPerson_59 : decode cX1_readPerson 59 = .ok (.iastore, 1) := dk_79 (dk_at dksX1_readPerson_2 12 rfl rfl)
theorem dX1_readPerson_60 : decode cX1_readPerson 60 = .ok (.aload_n 0, 1) := dk_42 (dk_at dksX1_readPerson_2 13 rfl rfl)
theorem dX1_readPerson_61 : decode cX1_readPerson 61 = .ok (.getfield 28, 3) := dk_180 0 28 (dk_at dksX1_readPerson_2 14 rfl rfl)
theorem dX1_readPerson_64 : decode cX1_readPerson 64 = .ok (.iload_n 2, 1) := dk_28 (dk_at dksX1_readPerson_2 17 rfl rfl)
theorem dX1_readPerson_65 : decode cX1_readPerson 65 = .ok (.iaload, 1) := dk_46 (dk_at dksX1_readPerson_2 18 rfl rfl)
theorem dX1_readPerson_66 : decode cX1_readPerson 66 = .ok (.bipush (-9), 2) := dk_16 247 (dk_at dksX1_readPerson_2 19 rfl rfl)
theorem dX1_readPerson_68 : decode cX1_readPerson 68 = .ok (.if_icmp .ne 5, 3) := dk_160 0 5 (dk_at dksX1_readPerson_2 21 rfl rfl)
theorem dX1_readPerson_71 : decode cX1_readPerson 71 = .ok (.iconst 0, 1) := dk_3 (dk_at dksX1_readPerson_3 0 rfl rfl)
theorem dX1_readPerson_72 : decode cX1_readPerson 72 = .ok (.ireturn, 1) := dk_172 (dk_at dksX1_readPerson_3 1 rfl rfl)
theorem dX1_readPerson_73 : decode cX1_readPerson 73 = .ok (.aload_n 0, 1) := dk_42 (dk_at dksX1_readPerson_3 2 rfl rfl)
theorem dX1_readPerson_74 : decode cX1_readPerson 74 = .ok (.dup, 1) := dk_89 (dk_at dksX1_readPerson_3 3 rfl rfl)
theorem dX1_readPerson_75 : decode cX1_readPerson 75 = .ok (.getfield 62, 3) := dk_180 0 62 (dk_at dksX1_readPerson_3 4 rfl rfl)
theorem dX1_readPerson_78 : decode cX1_readPerson 78 = .ok (.iconst 1, 1) := dk_4 (dk_at dksX1_readPerson_3 7 rfl rfl)
theorem dX1_readPerson_79 : decode cX1_readPerson 79 = .ok (.iadd, 1) := dk_96 (dk_at dksX1_readPerson_3 8 rfl rfl)
theorem dX1_readPerson_80 : decode cX1_readPerson 80 = .ok (.putfield 62, 3) := dk_181 0 62 (dk_at dksX1_readPerson_3 9 rfl rfl)
theorem dX1_readPerson_83 : decode cX1_readPerson 83 = .ok (.aload_n 0, 1) := dk_42 (dk_at dksX1_readPerson_3 12 rfl rfl)
theorem dX1_readPerson_84 : decode cX1_readPerson 84 = .ok (.getfield 31, 3) := dk_180 0 31 (dk_at dksX1_readPerson_3 13 rfl rfl)
theorem dX1_readPerson_87 : decode cX1_readPerson 87 = .ok (.iload_n 2, 1) := dk_28 (dk_at dksX1_readPerson_3 16 rfl rfl)
theorem dX1_readPerson_88 : decode cX1_readPerson 88 = .ok (.aload_n 0, 1) := dk_42 (dk_at dksX1_readPerson_3 17 rfl rfl)
theorem dX1_readPerson_89 : decode cX1_readPerson 89 = .ok (.iload_n 1, 1) := dk_27 (dk_at dksX1_readPerson_3 18 rfl rfl)
theorem dX1_readPerson_90 : decode cX1_readPerson 90 = .ok (.iconst 0, 1) := dk_3 (dk_at dksX1_readPerson_3 19 rfl rfl)
theorem dX1_readPerson_91 : decode cX1_readPerson 91 = .ok (.iconst 1, 1) := dk_4 (dk_at dksX1_readPerson_3 20 rfl rfl)
theorem dX1_readPerson_92 : decode cX1_readPerson 92 = .ok (.invokevirtual 108, 3) := dk_182 0 108 (dk_at dksX1_readPerson_3 21 rfl rfl)
theorem dX1_readPerson_95 : decode cX1_readPerson 95 = .ok (.iastore, 1) := dk_79 (dk_at dksX1_readPerson_4 0 rfl rfl)
theorem dX1_readPerson_96 : decode cX1_readPerson 96 = .ok (.aload_n 0, 1) := dk_42 (dk_at dksX1_readPerson_4 1 rfl rfl)
theorem dX1_readPerson_97 : decode cX1_readPerson 97 = .ok (.getfield 31, 3) := dk_180 0 31 (dk_at dksX1_readPerson_4 2 rfl rfl)
theorem dX1_readPerson_100 : decode cX1_readPerson 100 = .ok (.iload_n 2, 1) := dk_28 (dk_at dksX1_readPerson_4 5 rfl rfl)
theorem dX1_readPerson_101 : decode cX1_readPerson 101 = .ok (.iaload, 1) := dk_46 (dk_at dksX1_readPerson_4 6 rfl rfl)
theorem dX1_readPerson_102 : decode cX1_readPerson 102 = .ok (.bipush (-9), 2) := dk_16 247 (dk_at dksX1_readPerson_4 7 rfl rfl)
theorem dX1_readPerson_104 : decode cX1_readPerson 104 = .ok (.if_icmp .ne 5, 3) := dk_160 0 5 (dk_at dksX1_readPerson_4 9 rfl rfl)
theorem dX1_readPerson_107 : decode cX1_readPerson 107 = .ok (.iconst 0, 1) := dk_3 (dk_at dksX1_readPerson_4 12 rfl rfl)
theorem dX1_readPerson_108 : decode cX1_readPerson 108 = .ok (.ireturn, 1) := dk_172 (dk_at dksX1_readPerson_4 13 rfl rfl)
theorem dX1_readPerson_109 : decode cX1_readPerson 109 = .ok (.iconst 0, 1) := dk_3 (dk_at dksX1_readPerson_4 14 rfl rfl)
theorem dX1_readPerson_110 : decode cX1_readPerson 110 = .ok (.istore 4, 2) := dk_54 4 (dk_at dksX1_readPerson_4 15 rfl rfl)
theorem dX1_readPerson_112 : decode cX1_readPerson 112 = .ok (.iload 4, 2) := dk_21 4 (dk_at dksX1_readPerson_4 17 rfl rfl)
theorem dX1_readPerson_114 : decode cX1_readPerson 114 = .ok (.aload_n 0, 1) := dk_42 (dk_at dksX1_readPerson_4 19 rfl rfl)
theorem dX1_readPerson_115 : decode cX1_readPerson 115 = .ok (.getfield 86, 3) := dk_180 0 86 (dk_at dksX1_readPerson_4 20 rfl rfl)
theorem dX1_readPerson_118 : decode cX1_readPerson 118 = .ok (.if_icmp .ge 56, 3) := dk_162 0 56 (dk_at dksX1_readPerson_5 0 rfl rfl)
theorem dX1_readPerson_121 : decode cX1_readPerson 121 = .ok (.aload_n 0, 1) := dk_42 (dk_at dksX1_readPerson_5 3 rfl rfl)
theorem dX1_readPerson_122 : decode cX1_readPerson 122 = .ok (.getfield 34, 3) := dk_180 0 34 (dk_at dksX1_readPerson_5 4 rfl rfl)
theorem dX1_readPerson_125 : decode cX1_readPerson 125 = .ok (.iconst 5, 1) := dk_8 (dk_at dksX1_readPerson_5 7 rfl rfl)
theorem dX1_readPerson_126 : decode cX1_readPerson 126 = .ok (.iload_n 2, 1) := dk_28 (dk_at dksX1_readPerson_5 8 rfl rfl)
theorem dX1_readPerson_127 : decode cX1_readPerson 127 = .ok (.imul, 1) := dk_104 (dk_at dksX1_readPerson_5 9 rfl rfl)
theorem dX1_readPerson_128 : decode cX1_readPerson 128 = .ok (.iload 4, 2) := dk_21 4 (dk_at dksX1_readPerson_5 10 rfl rfl)
theorem dX1_readPerson_130 : decode cX1_readPerson 130 = .ok (.iadd, 1) := dk_96 (dk_at dksX1_readPerson_5 12 rfl rfl)
theorem dX1_readPerson_131 : decode cX1_readPerson 131 = .ok (.aload_n 0, 1) := dk_42 (dk_at dksX1_readPerson_5 13 rfl rfl)
theorem dX1_readPerson_132 : decode cX1_readPerson 132 = .ok (.iload_n 1, 1) := dk_27 (dk_at dksX1_readPerson_5 14 rfl rfl)
theorem dX1_readPerson_133 : decode cX1_readPerson 133 = .ok (.iconst 0, 1) := dk_3 (dk_at dksX1_readPerson_5 15 rfl rfl)
theorem dX1_readPerson_134 : decode cX1_readPerson 134 = .ok (.iload 4, 2) := dk_21 4 (dk_at dksX1_readPerson_5 16 rfl rfl)
theorem dX1_readPerson_136 : decode cX1_readPerson 136 = .ok (.iload_n 2, 1) := dk_28 (dk_at dksX1_readPerson_5 18 rfl rfl)
theorem dX1_readPerson_137 : decode cX1_readPerson 137 = .ok (.if_icmp .ne 7, 3) := dk_160 0 7 (dk_at dksX1_readPerson_5 19 rfl rfl)
theorem dX1_readPerson_140 : decode cX1_readPerson 140 = .ok (.iconst 0, 1) := dk_3 (dk_at dksX1_readPerson_5 22 rfl rfl)
theorem dX1_readPerson_141 : decode cX1_readPerson 141 = .ok (.goto 5, 3) := dk_167 0 5 (dk_at dksX1_readPerson_6 0 rfl rfl)
theorem dX1_readPerson_144 : decode cX1_readPerson 144 = .ok (.bipush 9, 2) := dk_16 9 (dk_at dksX1_readPerson_6 3 rfl rfl)
theorem dX1_readPerson_146 : decode cX1_readPerson 146 = .ok (.invokevirtual 108, 3) := dk_182 0 108 (dk_at dksX1_readPerson_6 5 rfl rfl)
theorem dX1_readPerson_149 : decode cX1_readPerson 149 = .ok (.iastore, 1) := dk_79 (dk_at dksX1_readPerson_6 8 rfl rfl)
theorem dX1_readPerson_150 : decode cX1_readPerson 150 = .ok (.aload_n 0, 1) := dk_42 (dk_at dksX1_readPerson_6 9 rfl rfl)
theorem dX1_readPerson_151 : decode cX1_readPerson 151 = .ok (.getfield 34, 3) := dk_180 0 34 (dk_at dksX1_readPerson_6 10 rfl rfl)
theorem dX1_readPerson_154 : decode cX1_readPerson 154 = .ok (.iconst 5, 1) := dk_8 (dk_at dksX1_readPerson_6 13 rfl rfl)
theorem dX1_readPerson_155 : decode cX1_readPerson 155 = .ok (.iload_n 2, 1) := dk_28 (dk_at dksX1_readPerson_6 14 rfl rfl)
theorem dX1_readPerson_156 : decode cX1_readPerson 156 = .ok (.imul, 1) := dk_104 (dk_at dksX1_readPerson_6 15 rfl rfl)
theorem dX1_readPerson_157 : decode cX1_readPerson 157 = .ok (.iload 4, 2) := dk_21 4 (dk_at dksX1_readPerson_6 16 rfl rfl)
theorem dX1_readPerson_159 : decode cX1_readPerson 159 = .ok (.iadd, 1) := dk_96 (dk_at dksX1_readPerson_6 18 rfl rfl)
theorem dX1_readPerson_160 : decode cX1_readPerson 160 = .ok (.iaload, 1) := dk_46 (dk_at dksX1_readPerson_6 19 rfl rfl)
theorem dX1_readPerson_161 : decode cX1_readPerson 161 = .ok (.bipush (-9), 2) := dk_16 247 (dk_at dksX1_readPerson_6 20 rfl rfl)
theorem dX1_readPerson_163 : decode cX1_readPerson 163 = .ok (.if_icmp .ne 5, 3) := dk_160 0 5 (dk_at dksX1_readPerson_7 0 rfl rfl)
theorem dX1_readPerson_166 : decode cX1_readPerson 166 = .ok (.iconst 0, 1) := dk_3 (dk_at dksX1_readPerson_7 3 rfl rfl)
theorem dX1_readPerson_167 : decode cX1_readPerson 167 = .ok (.ireturn, 1) := dk_172 (dk_at dksX1_readPerson_7 4 rfl rfl)
theorem dX1_readPerson_168 : decode cX1_readPerson 168 = .ok (.iinc 4 1, 3) := dk_132 4 1 (dk_at dksX1_readPerson_7 5 rfl rfl)
theorem dX1_readPerson_171 : decode cX1_readPerson 171 = .ok (.goto (-59), 3) := dk_167 255 197 (dk_at dksX1_readPerson_7 8 rfl rfl)
theorem dX1_readPerson_174 : decode cX1_readPerson 174 = .ok (.iconst 1, 1) := dk_4 (dk_at dksX1_readPerson_7 11 rfl rfl)
theorem dX1_readPerson_175 : decode cX1_readPerson 175 = .ok (.ireturn, 1) := dk_172 (dk_at dksX1_readPerson_7 12 rfl rfl)
abbrev cX1_takeRiver : ByteArray := prog_15_method_15_code
def yX1_takeRiver : MethodName := ⟨RX1, "takeRiver", "()V"⟩
def dkwX1_takeRiver_4 : List UInt8 := [167, 255, 225, 132, 1, 1, 167, 255, 185, 42, 3, 181, 0, 101, 177]
abbrev dktX1_takeRiver_4 : List UInt8 := dkwX1_takeRiver_4 ++ []
def dkwX1_takeRiver_3 : List UInt8 := [180, 0, 25, 8, 27, 104, 28, 96, 42, 180, 0, 34, 8, 27, 104, 28, 96, 46, 79, 132, 2, 1]
abbrev dktX1_takeRiver_3 : List UInt8 := dkwX1_takeRiver_3 ++ dktX1_takeRiver_4
def dkwX1_takeRiver_2 : List UInt8 := [180, 0, 22, 27, 42, 180, 0, 31, 27, 46, 79, 3, 61, 28, 42, 180, 0, 59, 162, 0, 29, 42]
abbrev dktX1_takeRiver_2 : List UInt8 := dkwX1_takeRiver_2 ++ dktX1_takeRiver_3
def dkwX1_takeRiver_1 : List UInt8 := [3, 60, 27, 42, 180, 0, 59, 162, 0, 69, 42, 180, 0, 19, 27, 42, 180, 0, 28, 27, 46, 79, 42]
abbrev dktX1_takeRiver_1 : List UInt8 := dkwX1_takeRiver_1 ++ dktX1_takeRiver_2
def dkwX1_takeRiver_0 : List UInt8 := [42, 42, 180, 0, 86, 181, 0, 59, 42, 42, 180, 0, 89, 181, 0, 92, 42, 42, 180, 0, 95, 181, 0, 98]
abbrev dktX1_takeRiver_0 : List UInt8 := dkwX1_takeRiver_0 ++ dktX1_takeRiver_1
theorem dksX1_takeRiver_0 : cX1_takeRiver.data.toList.drop 0 = dktX1_takeRiver_0 := by decide +kernel
theorem dksX1_takeRiver_1 : cX1_takeRiver.data.toList.drop 24 = dktX1_takeRiver_1 := dk_seg dksX1_takeRiver_0 24 rfl rfl
theorem dksX1_takeRiver_2 : cX1_takeRiver.data.toList.drop 47 = dktX1_takeRiver_2 := dk_seg dksX1_takeRiver_1 23 rfl rfl
theorem dksX1_takeRiver_3 : cX1_takeRiver.data.toList.drop 69 = dktX1_takeRiver_3 := dk_seg dksX1_takeRiver_2 22 rfl rfl
theorem dksX1_takeRiver_4 : cX1_takeRiver.data.toList.drop 91 = dktX1_takeRiver_4 := dk_seg dksX1_takeRiver_3 22 rfl rfl
theorem dX1_takeRiver_0 : decode cX1_takeRiver 0 = .ok (.aload_n 0, 1) := dk_42 (dk_at dksX1_takeRiver_0 0 rfl rfl)
theorem dX1_takeRiver_1 : decode cX1_takeRiver 1 = .ok (.aload_n 0, 1) := dk_42 (dk_at dksX1_takeRiver_0 1 rfl rfl)
theorem dX1_takeRiver_2 : decode cX1_takeRiver 2 = .ok (.getfield 86, 3) := dk_180 0 86 (dk_at dksX1_takeRiver_0 2 rfl rfl)
theorem dX1_takeRiver_5 : decode cX1_takeRiver 5 = .ok (.putfield 59, 3) := dk_181 0 59 (dk_at dksX1_takeRiver_0 5 rfl rfl)
theorem dX1_takeRiver_8 : decode cX1_takeRiver 8 = .ok (.aload_n 0, 1) := dk_42 (dk_at dksX1_takeRiver_0 8 rfl rfl)
theorem dX1_takeRiver_9 : decode cX1_takeRiver 9 = .ok (.aload_n 0, 1) := dk_42 (dk_at dksX1_takeRiver_0 9 rfl rfl)
theorem dX1_takeRiver_10 : decode cX1_takeRiver 10 = .ok (.getfield 89, 3) := dk_180 0 89 (dk_at dksX1_takeRiver_0 10 rfl rfl)
theorem dX1_takeRiver_13 : decode cX1_takeRiver 13 = .ok (.putfield 92, 3) := dk_181 0 92 (dk_at dksX1_takeRiver_0 13 rfl rfl)
theorem dX1_takeRiver_16 : decode cX1_takeRiver 16 = .ok (.aload_n 0, 1) := dk_42 (dk_at dksX1_takeRiver_0 16 rfl rfl)
theorem dX1_takeRiver_17 : decode cX1_takeRiver 17 = .ok (.aload_n 0, 1) := dk_42 (dk_at dksX1_takeRiver_0 17 rfl rfl)
theorem dX1_takeRiver_18 : decode cX1_takeRiver 18 = .ok (.getfield 95, 3) := dk_180 0 95 (dk_at dksX1_takeRiver_0 18 rfl rfl)
theorem dX1_takeRiver_21 : decode cX1_takeRiver 21 = .ok (.putfield 98, 3) := dk_181 0 98 (dk_at dksX1_takeRiver_0 21 rfl rfl)
theorem dX1_takeRiver_24 : decode cX1_takeRiver 24 = .ok (.iconst 0, 1) := dk_3 (dk_at dksX1_takeRiver_1 0 rfl rfl)
theorem dX1_takeRiver_25 : decode cX1_takeRiver 25 = .ok (.istore_n 1, 1) := dk_60 (dk_at dksX1_takeRiver_1 1 rfl rfl)
theorem dX1_takeRiver_26 : decode cX1_takeRiver 26 = .ok (.iload_n 1, 1) := dk_27 (dk_at dksX1_takeRiver_1 2 rfl rfl)
theorem dX1_takeRiver_27 : decode cX1_takeRiver 27 = .ok (.aload_n 0, 1) := dk_42 (dk_at dksX1_takeRiver_1 3 rfl rfl)
theorem dX1_takeRiver_28 : decode cX1_takeRiver 28 = .ok (.getfield 59, 3) := dk_180 0 59 (dk_at dksX1_takeRiver_1 4 rfl rfl)
theorem dX1_takeRiver_31 : decode cX1_takeRiver 31 = .ok (.if_icmp .ge 69, 3) := dk_162 0 69 (dk_at dksX1_takeRiver_1 7 rfl rfl)
theorem dX1_takeRiver_34 : decode cX1_takeRiver 34 = .ok (.aload_n 0, 1) := dk_42 (dk_at dksX1_takeRiver_1 10 rfl rfl)
theorem dX1_takeRiver_35 : decode cX1_takeRiver 35 = .ok (.getfield 19, 3) := dk_180 0 19 (dk_at dksX1_takeRiver_1 11 rfl rfl)
theorem dX1_takeRiver_38 : decode cX1_takeRiver 38 = .ok (.iload_n 1, 1) := dk_27 (dk_at dksX1_takeRiver_1 14 rfl rfl)
theorem dX1_takeRiver_39 : decode cX1_takeRiver 39 = .ok (.aload_n 0, 1) := dk_42 (dk_at dksX1_takeRiver_1 15 rfl rfl)
theorem dX1_takeRiver_40 : decode cX1_takeRiver 40 = .ok (.getfield 28, 3) := dk_180 0 28 (dk_at dksX1_takeRiver_1 16 rfl rfl)
theorem dX1_takeRiver_43 : decode cX1_takeRiver 43 = .ok (.iload_n 1, 1) := dk_27 (dk_at dksX1_takeRiver_1 19 rfl rfl)
theorem dX1_takeRiver_44 : decode cX1_takeRiver 44 = .ok (.iaload, 1) := dk_46 (dk_at dksX1_takeRiver_1 20 rfl rfl)
theorem dX1_takeRiver_45 : decode cX1_takeRiver 45 = .ok (.iastore, 1) := dk_79 (dk_at dksX1_takeRiver_1 21 rfl rfl)
theorem dX1_takeRiver_46 : decode cX1_takeRiver 46 = .ok (.aload_n 0, 1) := dk_42 (dk_at dksX1_takeRiver_1 22 rfl rfl)
theorem dX1_takeRiver_47 : decode cX1_takeRiver 47 = .ok (.getfield 22, 3) := dk_180 0 22 (dk_at dksX1_takeRiver_2 0 rfl rfl)
theorem dX1_takeRiver_50 : decode cX1_takeRiver 50 = .ok (.iload_n 1, 1) := dk_27 (dk_at dksX1_takeRiver_2 3 rfl rfl)
theorem dX1_takeRiver_51 : decode cX1_takeRiver 51 = .ok (.aload_n 0, 1) := dk_42 (dk_at dksX1_takeRiver_2 4 rfl rfl)
theorem dX1_takeRiver_52 : decode cX1_takeRiver 52 = .ok (.getfield 31, 3) := dk_180 0 31 (dk_at dksX1_takeRiver_2 5 rfl rfl)
theorem dX1_takeRiver_55 : decode cX1_takeRiver 55 = .ok (.iload_n 1, 1) := dk_27 (dk_at dksX1_takeRiver_2 8 rfl rfl)
theorem dX1_takeRiver_56 : decode cX1_takeRiver 56 = .ok (.iaload, 1) := dk_46 (dk_at dksX1_takeRiver_2 9 rfl rfl)
theorem dX1_takeRiver_57 : decode cX1_takeRiver 57 = .ok (.iastore, 1) := dk_79 (dk_at dksX1_takeRiver_2 10 rfl rfl)
theorem dX1_takeRiver_58 : decode cX1_takeRiver 58 = .ok (.iconst 0, 1) := dk_3 (dk_at dksX1_takeRiver_2 11 rfl rfl)
theorem dX1_takeRiver_59 : decode cX1_takeRiver 59 = .ok (.istore_n 2, 1) := dk_61 (dk_at dksX1_takeRiver_2 12 rfl rfl)
theorem dX1_takeRiver_60 : decode cX1_takeRiver 60 = .ok (.iload_n 2, 1) := dk_28 (dk_at dksX1_takeRiver_2 13 rfl rfl)
theorem dX1_takeRiver_61 : decode cX1_takeRiver 61 = .ok (.aload_n 0, 1) := dk_42 (dk_at dksX1_takeRiver_2 14 rfl rfl)
theorem dX1_takeRiver_62 : decode cX1_takeRiver 62 = .ok (.getfield 59, 3) := dk_180 0 59 (dk_at dksX1_takeRiver_2 15 rfl rfl)
theorem dX1_takeRiver_65 : decode cX1_takeRiver 65 = .ok (.if_icmp .ge 29, 3) := dk_162 0 29 (dk_at dksX1_takeRiver_2 18 rfl rfl)
theorem dX1_takeRiver_68 : decode cX1_takeRiver 68 = .ok (.aload_n 0, 1) := dk_42 (dk_at dksX1_takeRiver_2 21 rfl rfl)
theorem dX1_takeRiver_69 : decode cX1_takeRiver 69 = .ok (.getfield 25, 3) := dk_180 0 25 (dk_at dksX1_takeRiver_3 0 rfl rfl)
theorem dX1_takeRiver_72 : decode cX1_takeRiver 72 = .ok (.iconst 5, 1) := dk_8 (dk_at dksX1_takeRiver_3 3 rfl rfl)
theorem dX1_takeRiver_73 : decode cX1_takeRiver 73 = .ok (.iload_n 1, 1) := dk_27 (dk_at dksX1_takeRiver_3 4 rfl rfl)
theorem dX1_takeRiver_74 : decode cX1_takeRiver 74 = .ok (.imul, 1) := dk_104 (dk_at dksX1_takeRiver_3 5 rfl rfl)
theorem dX1_takeRiver_75 : decode cX1_takeRiver 75 = .ok (.iload_n 2, 1) := dk_28 (dk_at dksX1_takeRiver_3 6 rfl rfl)
theorem dX1_takeRiver_76 : decode cX1_takeRiver 76 = .ok (.iadd, 1) := dk_96 (dk_at dksX1_takeRiver_3 7 rfl rfl)
theorem dX1_takeRiver_77 : decode cX1_takeRiver 77 = .ok (.aload_n 0, 1) := dk_42 (dk_at dksX1_takeRiver_3 8 rfl rfl)
theorem dX1_takeRiver_78 : decode cX1_takeRiver 78 = .ok (.getfield 34, 3) := dk_180 0 34 (dk_at dksX1_takeRiver_3 9 rfl rfl)
theorem dX1_takeRiver_81 : decode cX1_takeRiver 81 = .ok (.iconst 5, 1) := dk_8 (dk_at dksX1_takeRiver_3 12 rfl rfl)
theorem dX1_takeRiver_82 : decode cX1_takeRiver 82 = .ok (.iload_n 1, 1) := dk_27 (dk_at dksX1_takeRiver_3 13 rfl rfl)
theorem dX1_takeRiver_83 : decode cX1_takeRiver 83 = .ok (.imul, 1) := dk_104 (dk_at dksX1_takeRiver_3 14 rfl rfl)
theorem dX1_takeRiver_84 : decode cX1_takeRiver 84 = .ok (.iload_n 2, 1) := dk_28 (dk_at dksX1_takeRiver_3 15 rfl rfl)
theorem dX1_takeRiver_85 : decode cX1_takeRiver 85 = .ok (.iadd, 1) := dk_96 (dk_at dksX1_takeRiver_3 16 rfl rfl)
theorem dX1_takeRiver_86 : decode cX1_takeRiver 86 = .ok (.iaload, 1) := dk_46 (dk_at dksX1_takeRiver_3 17 rfl rfl)
theorem dX1_takeRiver_87 : decode cX1_takeRiver 87 = .ok (.iastore, 1) := dk_79 (dk_at dksX1_takeRiver_3 18 rfl rfl)
theorem dX1_takeRiver_88 : decode cX1_takeRiver 88 = .ok (.iinc 2 1, 3) := dk_132 2 1 (dk_at dksX1_takeRiver_3 19 rfl rfl)
theorem dX1_takeRiver_91 : decode cX1_takeRiver 91 = .ok (.goto (-31), 3) := dk_167 255 225 (dk_at dksX1_takeRiver_4 0 rfl rfl)
theorem dX1_takeRiver_94 : decode cX1_takeRiver 94 = .ok (.iinc 1 1, 3) := dk_132 1 1 (dk_at dksX1_takeRiver_4 3 rfl rfl)
theorem dX1_takeRiver_97 : decode cX1_takeRiver 97 = .ok (.goto (-71), 3) := dk_167 255 185 (dk_at dksX1_takeRiver_4 6 rfl rfl)
theorem dX1_takeRiver_100 : decode cX1_takeRiver 100 = .ok (.aload_n 0, 1) := dk_42 (dk_at dksX1_takeRiver_4 9 rfl rfl)
theorem dX1_takeRiver_101 : decode cX1_takeRiver 101 = .ok (.iconst 0, 1) := dk_3 (dk_at dksX1_takeRiver_4 10 rfl rfl)
theorem dX1_takeRiver_102 : decode cX1_takeRiver 102 = .ok (.putfield 101, 3) := dk_181 0 101 (dk_at dksX1_takeRiver_4 11 rfl rfl)
theorem dX1_takeRiver_105 : decode cX1_takeRiver 105 = .ok (.return_, 1) := dk_177 (dk_at dksX1_takeRiver_4 14 rfl rfl)
abbrev cX1_ofPerson : ByteArray := prog_15_method_19_code
def yX1_ofPerson : MethodName := ⟨RX1, "ofPerson", "(II)I"⟩
def dkwX1_ofPerson_2 : List UInt8 := [167, 0, 5, 16, 254, 172]
abbrev dktX1_ofPerson_2 : List UInt8 := dkwX1_ofPerson_2 ++ []
def dkwX1_ofPerson_1 : List UInt8 := [4, 160, 0, 12, 42, 180, 0, 22, 27, 46, 167, 0, 18, 28, 5, 160, 0, 11, 42, 27, 182, 0, 118]
abbrev dktX1_ofPerson_1 : List UInt8 := dkwX1_ofPerson_1 ++ dktX1_ofPerson_2
def dkwX1_ofPerson_0 : List UInt8 := [42, 27, 182, 0, 115, 154, 0, 5, 2, 172, 28, 154, 0, 12, 42, 180, 0, 19, 27, 46, 167, 0, 32, 28]
abbrev dktX1_ofPerson_0 : List UInt8 := dkwX1_ofPerson_0 ++ dktX1_ofPerson_1
theorem dksX1_ofPerson_0 : cX1_ofPerson.data.toList.drop 0 = dktX1_ofPerson_0 := by decide +kernel
theorem dksX1_ofPerson_1 : cX1_ofPerson.data.toList.drop 24 = dktX1_ofPerson_1 := dk_seg dksX1_ofPerson_0 24 rfl rfl
theorem dksX1_ofPerson_2 : cX1_ofPerson.data.toList.drop 47 = dktX1_ofPerson_2 := dk_seg dksX1_ofPerson_1 23 rfl rfl
theorem dX1_ofPerson_0 : decode cX1_ofPerson 0 = .ok (.aload_n 0, 1) := dk_42 (dk_at dksX1_ofPerson_0 0 rfl rfl)
theorem dX1_ofPerson_1 : decode cX1_ofPerson 1 = .ok (.iload_n 1, 1) := dk_27 (dk_at dksX1_ofPerson_0 1 rfl rfl)
theorem dX1_ofPerson_2 : decode cX1_ofPerson 2 = .ok (.invokevirtual 115, 3) := dk_182 0 115 (dk_at dksX1_ofPerson_0 2 rfl rfl)
theorem dX1_ofPerson_5 : decode cX1_ofPerson 5 = .ok (.ifCond .ne 5, 3) := dk_154 0 5 (dk_at dksX1_ofPerson_0 5 rfl rfl)
theorem dX1_ofPerson_8 : decode cX1_ofPerson 8 = .ok (.iconst (-1), 1) := dk_2 (dk_at dksX1_ofPerson_0 8 rfl rfl)
theorem dX1_ofPerson_9 : decode cX1_ofPerson 9 = .ok (.ireturn, 1) := dk_172 (dk_at dksX1_ofPerson_0 9 rfl rfl)
theorem dX1_ofPerson_10 : decode cX1_ofPerson 10 = .ok (.iload_n 2, 1) := dk_28 (dk_at dksX1_ofPerson_0 10 rfl rfl)
theorem dX1_ofPerson_11 : decode cX1_ofPerson 11 = .ok (.ifCond .ne 12, 3) := dk_154 0 12 (dk_at dksX1_ofPerson_0 11 rfl rfl)
theorem dX1_ofPerson_14 : decode cX1_ofPerson 14 = .ok (.aload_n 0, 1) := dk_42 (dk_at dksX1_ofPerson_0 14 rfl rfl)
theorem dX1_ofPerson_15 : decode cX1_ofPerson 15 = .ok (.getfield 19, 3) := dk_180 0 19 (dk_at dksX1_ofPerson_0 15 rfl rfl)
theorem dX1_ofPerson_18 : decode cX1_ofPerson 18 = .ok (.iload_n 1, 1) := dk_27 (dk_at dksX1_ofPerson_0 18 rfl rfl)
theorem dX1_ofPerson_19 : decode cX1_ofPerson 19 = .ok (.iaload, 1) := dk_46 (dk_at dksX1_ofPerson_0 19 rfl rfl)
theorem dX1_ofPerson_20 : decode cX1_ofPerson 20 = .ok (.goto 32, 3) := dk_167 0 32 (dk_at dksX1_ofPerson_0 20 rfl rfl)
theorem dX1_ofPerson_23 : decode cX1_ofPerson 23 = .ok (.iload_n 2, 1) := dk_28 (dk_at dksX1_ofPerson_0 23 rfl rfl)
theorem dX1_ofPerson_24 : decode cX1_ofPerson 24 = .ok (.iconst 1, 1) := dk_4 (dk_at dksX1_ofPerson_1 0 rfl rfl)
theorem dX1_ofPerson_25 : decode cX1_ofPerson 25 = .ok (.if_icmp .ne 12, 3) := dk_160 0 12 (dk_at dksX1_ofPerson_1 1 rfl rfl)
theorem dX1_ofPerson_28 : decode cX1_ofPerson 28 = .ok (.aload_n 0, 1) := dk_42 (dk_at dksX1_ofPerson_1 4 rfl rfl)
theorem dX1_ofPerson_29 : decode cX1_ofPerson 29 = .ok (.getfield 22, 3) := dk_180 0 22 (dk_at dksX1_ofPerson_1 5 rfl rfl)
theorem dX1_ofPerson_32 : decode cX1_ofPerson 32 = .ok (.iload_n 1, 1) := dk_27 (dk_at dksX1_ofPerson_1 8 rfl rfl)
theorem dX1_ofPerson_33 : decode cX1_ofPerson 33 = .ok (.iaload, 1) := dk_46 (dk_at dksX1_ofPerson_1 9 rfl rfl)
theorem dX1_ofPerson_34 : decode cX1_ofPerson 34 = .ok (.goto 18, 3) := dk_167 0 18 (dk_at dksX1_ofPerson_1 10 rfl rfl)
theorem dX1_ofPerson_37 : decode cX1_ofPerson 37 = .ok (.iload_n 2, 1) := dk_28 (dk_at dksX1_ofPerson_1 13 rfl rfl)
theorem dX1_ofPerson_38 : decode cX1_ofPerson 38 = .ok (.iconst 2, 1) := dk_5 (dk_at dksX1_ofPerson_1 14 rfl rfl)
theorem dX1_ofPerson_39 : decode cX1_ofPerson 39 = .ok (.if_icmp .ne 11, 3) := dk_160 0 11 (dk_at dksX1_ofPerson_1 15 rfl rfl)
theorem dX1_ofPerson_42 : decode cX1_ofPerson 42 = .ok (.aload_n 0, 1) := dk_42 (dk_at dksX1_ofPerson_1 18 rfl rfl)
theorem dX1_ofPerson_43 : decode cX1_ofPerson 43 = .ok (.iload_n 1, 1) := dk_27 (dk_at dksX1_ofPerson_1 19 rfl rfl)
theorem dX1_ofPerson_44 : decode cX1_ofPerson 44 = .ok (.invokevirtual 118, 3) := dk_182 0 118 (dk_at dksX1_ofPerson_1 20 rfl rfl)
theorem dX1_ofPerson_47 : decode cX1_ofPerson 47 = .ok (.goto 5, 3) := dk_167 0 5 (dk_at dksX1_ofPerson_2 0 rfl rfl)
theorem dX1_ofPerson_50 : decode cX1_ofPerson 50 = .ok (.bipush (-2), 2) := dk_16 254 (dk_at dksX1_ofPerson_2 3 rfl rfl)
theorem dX1_ofPerson_52 : decode cX1_ofPerson 52 = .ok (.ireturn, 1) := dk_172 (dk_at dksX1_ofPerson_2 5 rfl rfl)
abbrev cX1_isPerson : ByteArray := prog_15_method_9_code
def yX1_isPerson : MethodName := ⟨RX1, "isPerson", "(I)Z"⟩
def dkwX1_isPerson_0 : List UInt8 := [27, 155, 0, 15, 27, 42, 180, 0, 59, 162, 0, 7, 4, 167, 0, 4, 3, 172]
abbrev dktX1_isPerson_0 : List UInt8 := dkwX1_isPerson_0 ++ []
theorem dksX1_isPerson_0 : cX1_isPerson.data.toList.drop 0 = dktX1_isPerson_0 := by decide +kernel
theorem dX1_isPerson_0 : decode cX1_isPerson 0 = .ok (.iload_n 1, 1) := dk_27 (dk_at dksX1_isPerson_0 0 rfl rfl)
theorem dX1_isPerson_1 : decode cX1_isPerson 1 = .ok (.ifCond .lt 15, 3) := dk_155 0 15 (dk_at dksX1_isPerson_0 1 rfl rfl)
theorem dX1_isPerson_4 : decode cX1_isPerson 4 = .ok (.iload_n 1, 1) := dk_27 (dk_at dksX1_isPerson_0 4 rfl rfl)
theorem dX1_isPerson_5 : decode cX1_isPerson 5 = .ok (.aload_n 0, 1) := dk_42 (dk_at dksX1_isPerson_0 5 rfl rfl)
theorem dX1_isPerson_6 : decode cX1_isPerson 6 = .ok (.getfield 59, 3) := dk_180 0 59 (dk_at dksX1_isPerson_0 6 rfl rfl)
theorem dX1_isPerson_9 : decode cX1_isPerson 9 = .ok (.if_icmp .ge 7, 3) := dk_162 0 7 (dk_at dksX1_isPerson_0 9 rfl rfl)
theorem dX1_isPerson_12 : decode cX1_isPerson 12 = .ok (.iconst 1, 1) := dk_4 (dk_at dksX1_isPerson_0 12 rfl rfl)
theorem dX1_isPerson_13 : decode cX1_isPerson 13 = .ok (.goto 4, 3) := dk_167 0 4 (dk_at dksX1_isPerson_0 13 rfl rfl)
theorem dX1_isPerson_16 : decode cX1_isPerson 16 = .ok (.iconst 0, 1) := dk_3 (dk_at dksX1_isPerson_0 16 rfl rfl)
theorem dX1_isPerson_17 : decode cX1_isPerson 17 = .ok (.ireturn, 1) := dk_172 (dk_at dksX1_isPerson_0 17 rfl rfl)
abbrev cX1_allOf : ByteArray := prog_15_method_18_code
def yX1_allOf : MethodName := ⟨RX1, "allOf", "(I)I"⟩
def dkwX1_allOf_1 : List UInt8 := [61, 132, 3, 1, 167, 255, 232, 28, 172]
abbrev dktX1_allOf_1 : List UInt8 := dkwX1_allOf_1 ++ []
def dkwX1_allOf_0 : List UInt8 := [3, 61, 3, 62, 29, 42, 180, 0, 59, 162, 0, 22, 28, 42, 180, 0, 25, 8, 27, 104, 29, 96, 46, 96]
abbrev dktX1_allOf_0 : List UInt8 := dkwX1_allOf_0 ++ dktX1_allOf_1
theorem dksX1_allOf_0 : cX1_allOf.data.toList.drop 0 = dktX1_allOf_0 := by decide +kernel
theorem dksX1_allOf_1 : cX1_allOf.data.toList.drop 24 = dktX1_allOf_1 := dk_seg dksX1_allOf_0 24 rfl rfl
theorem dX1_allOf_0 : decode cX1_allOf 0 = .ok (.iconst 0, 1) := dk_3 (dk_at dksX1_allOf_0 0 rfl rfl)
theorem dX1_allOf_1 : decode cX1_allOf 1 = .ok (.istore_n 2, 1) := dk_61 (dk_at dksX1_allOf_0 1 rfl rfl)
theorem dX1_allOf_2 : decode cX1_allOf 2 = .ok (.iconst 0, 1) := dk_3 (dk_at dksX1_allOf_0 2 rfl rfl)
theorem dX1_allOf_3 : decode cX1_allOf 3 = .ok (.istore_n 3, 1) := dk_62 (dk_at dksX1_allOf_0 3 rfl rfl)
theorem dX1_allOf_4 : decode cX1_allOf 4 = .ok (.iload_n 3, 1) := dk_29 (dk_at dksX1_allOf_0 4 rfl rfl)
theorem dX1_allOf_5 : decode cX1_allOf 5 = .ok (.aload_n 0, 1) := dk_42 (dk_at dksX1_allOf_0 5 rfl rfl)
theorem dX1_allOf_6 : decode cX1_allOf 6 = .ok (.getfield 59, 3) := dk_180 0 59 (dk_at dksX1_allOf_0 6 rfl rfl)
theorem dX1_allOf_9 : decode cX1_allOf 9 = .ok (.if_icmp .ge 22, 3) := dk_162 0 22 (dk_at dksX1_allOf_0 9 rfl rfl)
theorem dX1_allOf_12 : decode cX1_allOf 12 = .ok (.iload_n 2, 1) := dk_28 (dk_at dksX1_allOf_0 12 rfl rfl)
theorem dX1_allOf_13 : decode cX1_allOf 13 = .ok (.aload_n 0, 1) := dk_42 (dk_at dksX1_allOf_0 13 rfl rfl)
theorem dX1_allOf_14 : decode cX1_allOf 14 = .ok (.getfield 25, 3) := dk_180 0 25 (dk_at dksX1_allOf_0 14 rfl rfl)
theorem dX1_allOf_17 : decode cX1_allOf 17 = .ok (.iconst 5, 1) := dk_8 (dk_at dksX1_allOf_0 17 rfl rfl)
theorem dX1_allOf_18 : decode cX1_allOf 18 = .ok (.iload_n 1, 1) := dk_27 (dk_at dksX1_allOf_0 18 rfl rfl)
theorem dX1_allOf_19 : decode cX1_allOf 19 = .ok (.imul, 1) := dk_104 (dk_at dksX1_allOf_0 19 rfl rfl)
theorem dX1_allOf_20 : decode cX1_allOf 20 = .ok (.iload_n 3, 1) := dk_29 (dk_at dksX1_allOf_0 20 rfl rfl)
theorem dX1_allOf_21 : decode cX1_allOf 21 = .ok (.iadd, 1) := dk_96 (dk_at dksX1_allOf_0 21 rfl rfl)
theorem dX1_allOf_22 : decode cX1_allOf 22 = .ok (.iaload, 1) := dk_46 (dk_at dksX1_allOf_0 22 rfl rfl)
theorem dX1_allOf_23 : decode cX1_allOf 23 = .ok (.iadd, 1) := dk_96 (dk_at dksX1_allOf_0 23 rfl rfl)
theorem dX1_allOf_24 : decode cX1_allOf 24 = .ok (.istore_n 2, 1) := dk_61 (dk_at dksX1_allOf_1 0 rfl rfl)
theorem dX1_allOf_25 : decode cX1_allOf 25 = .ok (.iinc 3 1, 3) := dk_132 3 1 (dk_at dksX1_allOf_1 1 rfl rfl)
theorem dX1_allOf_28 : decode cX1_allOf 28 = .ok (.goto (-24), 3) := dk_167 255 232 (dk_at dksX1_allOf_1 4 rfl rfl)
theorem dX1_allOf_31 : decode cX1_allOf 31 = .ok (.iload_n 2, 1) := dk_28 (dk_at dksX1_allOf_1 7 rfl rfl)
theorem dX1_allOf_32 : decode cX1_allOf 32 = .ok (.ireturn, 1) := dk_172 (dk_at dksX1_allOf_1 8 rfl rfl)
abbrev cX1_owes : ByteArray := prog_15_method_20_code
def yX1_owes : MethodName := ⟨RX1, "owes", "(II)I"⟩
def dkwX1_owes_1 : List UInt8 := [96, 46, 167, 0, 4, 2, 172]
abbrev dktX1_owes_1 : List UInt8 := dkwX1_owes_1 ++ []
def dkwX1_owes_0 : List UInt8 := [42, 27, 182, 0, 115, 153, 0, 24, 42, 28, 182, 0, 115, 153, 0, 16, 42, 180, 0, 25, 8, 27, 104, 28]
abbrev dktX1_owes_0 : List UInt8 := dkwX1_owes_0 ++ dktX1_owes_1
theorem dksX1_owes_0 : cX1_owes.data.toList.drop 0 = dktX1_owes_0 := by decide +kernel
theorem dksX1_owes_1 : cX1_owes.data.toList.drop 24 = dktX1_owes_1 := dk_seg dksX1_owes_0 24 rfl rfl
theorem dX1_owes_0 : decode cX1_owes 0 = .ok (.aload_n 0, 1) := dk_42 (dk_at dksX1_owes_0 0 rfl rfl)
theorem dX1_owes_1 : decode cX1_owes 1 = .ok (.iload_n 1, 1) := dk_27 (dk_at dksX1_owes_0 1 rfl rfl)
theorem dX1_owes_2 : decode cX1_owes 2 = .ok (.invokevirtual 115, 3) := dk_182 0 115 (dk_at dksX1_owes_0 2 rfl rfl)
theorem dX1_owes_5 : decode cX1_owes 5 = .ok (.ifCond .eq 24, 3) := dk_153 0 24 (dk_at dksX1_owes_0 5 rfl rfl)
theorem dX1_owes_8 : decode cX1_owes 8 = .ok (.aload_n 0, 1) := dk_42 (dk_at dksX1_owes_0 8 rfl rfl)
theorem dX1_owes_9 : decode cX1_owes 9 = .ok (.iload_n 2, 1) := dk_28 (dk_at dksX1_owes_0 9 rfl rfl)
theorem dX1_owes_10 : decode cX1_owes 10 = .ok (.invokevirtual 115, 3) := dk_182 0 115 (dk_at dksX1_owes_0 10 rfl rfl)
theorem dX1_owes_13 : decode cX1_owes 13 = .ok (.ifCond .eq 16, 3) := dk_153 0 16 (dk_at dksX1_owes_0 13 rfl rfl)
theorem dX1_owes_16 : decode cX1_owes 16 = .ok (.aload_n 0, 1) := dk_42 (dk_at dksX1_owes_0 16 rfl rfl)
theorem dX1_owes_17 : decode cX1_owes 17 = .ok (.getfield 25, 3) := dk_180 0 25 (dk_at dksX1_owes_0 17 rfl rfl)
theorem dX1_owes_20 : decode cX1_owes 20 = .ok (.iconst 5, 1) := dk_8 (dk_at dksX1_owes_0 20 rfl rfl)
theorem dX1_owes_21 : decode cX1_owes 21 = .ok (.iload_n 1, 1) := dk_27 (dk_at dksX1_owes_0 21 rfl rfl)
theorem dX1_owes_22 : decode cX1_owes 22 = .ok (.imul, 1) := dk_104 (dk_at dksX1_owes_0 22 rfl rfl)
theorem dX1_owes_23 : decode cX1_owes 23 = .ok (.iload_n 2, 1) := dk_28 (dk_at dksX1_owes_0 23 rfl rfl)
theorem dX1_owes_24 : decode cX1_owes 24 = .ok (.iadd, 1) := dk_96 (dk_at dksX1_owes_1 0 rfl rfl)
theorem dX1_owes_25 : decode cX1_owes 25 = .ok (.iaload, 1) := dk_46 (dk_at dksX1_owes_1 1 rfl rfl)
theorem dX1_owes_26 : decode cX1_owes 26 = .ok (.goto 4, 3) := dk_167 0 4 (dk_at dksX1_owes_1 2 rfl rfl)
theorem dX1_owes_29 : decode cX1_owes 29 = .ok (.iconst (-1), 1) := dk_2 (dk_at dksX1_owes_1 5 rfl rfl)
theorem dX1_owes_30 : decode cX1_owes 30 = .ok (.ireturn, 1) := dk_172 (dk_at dksX1_owes_1 6 rfl rfl)
abbrev cX1_lend : ByteArray := prog_15_method_22_code
def yX1_lend : MethodName := ⟨RX1, "lend", "(III)I"⟩
def dkwX1_lend_2 : List UInt8 := [21, 4, 172]
abbrev dktX1_lend_2 : List UInt8 := dkwX1_lend_2 ++ []
def dkwX1_lend_1 : List UInt8 := [42, 180, 0, 25, 8, 27, 104, 28, 96, 46, 54, 4, 42, 180, 0, 25, 8, 27, 104, 28, 96, 29, 79]
abbrev dktX1_lend_1 : List UInt8 := dkwX1_lend_1 ++ dktX1_lend_2
def dkwX1_lend_0 : List UInt8 := [42, 27, 28, 182, 0, 121, 154, 0, 5, 2, 172, 29, 3, 16, 9, 184, 0, 55, 154, 0, 6, 16, 254, 172]
abbrev dktX1_lend_0 : List UInt8 := dkwX1_lend_0 ++ dktX1_lend_1
theorem dksX1_lend_0 : cX1_lend.data.toList.drop 0 = dktX1_lend_0 := by decide +kernel
theorem dksX1_lend_1 : cX1_lend.data.toList.drop 24 = dktX1_lend_1 := dk_seg dksX1_lend_0 24 rfl rfl
theorem dksX1_lend_2 : cX1_lend.data.toList.drop 47 = dktX1_lend_2 := dk_seg dksX1_lend_1 23 rfl rfl
theorem dX1_lend_0 : decode cX1_lend 0 = .ok (.aload_n 0, 1) := dk_42 (dk_at dksX1_lend_0 0 rfl rfl)
theorem dX1_lend_1 : decode cX1_lend 1 = .ok (.iload_n 1, 1) := dk_27 (dk_at dksX1_lend_0 1 rfl rfl)
theorem dX1_lend_2 : decode cX1_lend 2 = .ok (.iload_n 2, 1) := dk_28 (dk_at dksX1_lend_0 2 rfl rfl)
theorem dX1_lend_3 : decode cX1_lend 3 = .ok (.invokevirtual 121, 3) := dk_182 0 121 (dk_at dksX1_lend_0 3 rfl rfl)
theorem dX1_lend_6 : decode cX1_lend 6 = .ok (.ifCond .ne 5, 3) := dk_154 0 5 (dk_at dksX1_lend_0 6 rfl rfl)
theorem dX1_lend_9 : decode cX1_lend 9 = .ok (.iconst (-1), 1) := dk_2 (dk_at dksX1_lend_0 9 rfl rfl)
theorem dX1_lend_10 : decode cX1_lend 10 = .ok (.ireturn, 1) := dk_172 (dk_at dksX1_lend_0 10 rfl rfl)
theorem dX1_lend_11 : decode cX1_lend 11 = .ok (.iload_n 3, 1) := dk_29 (dk_at dksX1_lend_0 11 rfl rfl)
theorem dX1_lend_12 : decode cX1_lend 12 = .ok (.iconst 0, 1) := dk_3 (dk_at dksX1_lend_0 12 rfl rfl)
theorem dX1_lend_13 : decode cX1_lend 13 = .ok (.bipush 9, 2) := dk_16 9 (dk_at dksX1_lend_0 13 rfl rfl)
theorem dX1_lend_15 : decode cX1_lend 15 = .ok (.invokestatic 55, 3) := dk_184 0 55 (dk_at dksX1_lend_0 15 rfl rfl)
theorem dX1_lend_18 : decode cX1_lend 18 = .ok (.ifCond .ne 6, 3) := dk_154 0 6 (dk_at dksX1_lend_0 18 rfl rfl)
theorem dX1_lend_21 : decode cX1_lend 21 = .ok (.bipush (-2), 2) := dk_16 254 (dk_at dksX1_lend_0 21 rfl rfl)
theorem dX1_lend_23 : decode cX1_lend 23 = .ok (.ireturn, 1) := dk_172 (dk_at dksX1_lend_0 23 rfl rfl)
theorem dX1_lend_24 : decode cX1_lend 24 = .ok (.aload_n 0, 1) := dk_42 (dk_at dksX1_lend_1 0 rfl rfl)
theorem dX1_lend_25 : decode cX1_lend 25 = .ok (.getfield 25, 3) := dk_180 0 25 (dk_at dksX1_lend_1 1 rfl rfl)
theorem dX1_lend_28 : decode cX1_lend 28 = .ok (.iconst 5, 1) := dk_8 (dk_at dksX1_lend_1 4 rfl rfl)
theorem dX1_lend_29 : decode cX1_lend 29 = .ok (.iload_n 1, 1) := dk_27 (dk_at dksX1_lend_1 5 rfl rfl)
theorem dX1_lend_30 : decode cX1_lend 30 = .ok (.imul, 1) := dk_104 (dk_at dksX1_lend_1 6 rfl rfl)
theorem dX1_lend_31 : decode cX1_lend 31 = .ok (.iload_n 2, 1) := dk_28 (dk_at dksX1_lend_1 7 rfl rfl)
theorem dX1_lend_32 : decode cX1_lend 32 = .ok (.iadd, 1) := dk_96 (dk_at dksX1_lend_1 8 rfl rfl)
theorem dX1_lend_33 : decode cX1_lend 33 = .ok (.iaload, 1) := dk_46 (dk_at dksX1_lend_1 9 rfl rfl)
theorem dX1_lend_34 : decode cX1_lend 34 = .ok (.istore 4, 2) := dk_54 4 (dk_at dksX1_lend_1 10 rfl rfl)
theorem dX1_lend_36 : decode cX1_lend 36 = .ok (.aload_n 0, 1) := dk_42 (dk_at dksX1_lend_1 12 rfl rfl)
theorem dX1_lend_37 : decode cX1_lend 37 = .ok (.getfield 25, 3) := dk_180 0 25 (dk_at dksX1_lend_1 13 rfl rfl)
theorem dX1_lend_40 : decode cX1_lend 40 = .ok (.iconst 5, 1) := dk_8 (dk_at dksX1_lend_1 16 rfl rfl)
theorem dX1_lend_41 : decode cX1_lend 41 = .ok (.iload_n 1, 1) := dk_27 (dk_at dksX1_lend_1 17 rfl rfl)
theorem dX1_lend_42 : decode cX1_lend 42 = .ok (.imul, 1) := dk_104 (dk_at dksX1_lend_1 18 rfl rfl)
theorem dX1_lend_43 : decode cX1_lend 43 = .ok (.iload_n 2, 1) := dk_28 (dk_at dksX1_lend_1 19 rfl rfl)
theorem dX1_lend_44 : decode cX1_lend 44 = .ok (.iadd, 1) := dk_96 (dk_at dksX1_lend_1 20 rfl rfl)
theorem dX1_lend_45 : decode cX1_lend 45 = .ok (.iload_n 3, 1) := dk_29 (dk_at dksX1_lend_1 21 rfl rfl)
theorem dX1_lend_46 : decode cX1_lend 46 = .ok (.iastore, 1) := dk_79 (dk_at dksX1_lend_1 22 rfl rfl)
theorem dX1_lend_47 : decode cX1_lend 47 = .ok (.iload 4, 2) := dk_21 4 (dk_at dksX1_lend_2 0 rfl rfl)
theorem dX1_lend_49 : decode cX1_lend 49 = .ok (.ireturn, 1) := dk_172 (dk_at dksX1_lend_2 2 rfl rfl)
abbrev cX1_isNote : ByteArray := prog_15_method_21_code
def yX1_isNote : MethodName := ⟨RX1, "isNote", "(II)Z"⟩
def dkwX1_isNote_1 : List UInt8 := [167, 0, 4, 3, 172]
abbrev dktX1_isNote_1 : List UInt8 := dkwX1_isNote_1 ++ []
def dkwX1_isNote_0 : List UInt8 := [42, 27, 182, 0, 115, 153, 0, 20, 42, 28, 182, 0, 115, 153, 0, 12, 27, 28, 159, 0, 7, 4]
abbrev dktX1_isNote_0 : List UInt8 := dkwX1_isNote_0 ++ dktX1_isNote_1
theorem dksX1_isNote_0 : cX1_isNote.data.toList.drop 0 = dktX1_isNote_0 := by decide +kernel
theorem dksX1_isNote_1 : cX1_isNote.data.toList.drop 22 = dktX1_isNote_1 := dk_seg dksX1_isNote_0 22 rfl rfl
theorem dX1_isNote_0 : decode cX1_isNote 0 = .ok (.aload_n 0, 1) := dk_42 (dk_at dksX1_isNote_0 0 rfl rfl)
theorem dX1_isNote_1 : decode cX1_isNote 1 = .ok (.iload_n 1, 1) := dk_27 (dk_at dksX1_isNote_0 1 rfl rfl)
theorem dX1_isNote_2 : decode cX1_isNote 2 = .ok (.invokevirtual 115, 3) := dk_182 0 115 (dk_at dksX1_isNote_0 2 rfl rfl)
theorem dX1_isNote_5 : decode cX1_isNote 5 = .ok (.ifCond .eq 20, 3) := dk_153 0 20 (dk_at dksX1_isNote_0 5 rfl rfl)
theorem dX1_isNote_8 : decode cX1_isNote 8 = .ok (.aload_n 0, 1) := dk_42 (dk_at dksX1_isNote_0 8 rfl rfl)
theorem dX1_isNote_9 : decode cX1_isNote 9 = .ok (.iload_n 2, 1) := dk_28 (dk_at dksX1_isNote_0 9 rfl rfl)
theorem dX1_isNote_10 : decode cX1_isNote 10 = .ok (.invokevirtual 115, 3) := dk_182 0 115 (dk_at dksX1_isNote_0 10 rfl rfl)
theorem dX1_isNote_13 : decode cX1_isNote 13 = .ok (.ifCond .eq 12, 3) := dk_153 0 12 (dk_at dksX1_isNote_0 13 rfl rfl)
theorem dX1_isNote_16 : decode cX1_isNote 16 = .ok (.iload_n 1, 1) := dk_27 (dk_at dksX1_isNote_0 16 rfl rfl)
theorem dX1_isNote_17 : decode cX1_isNote 17 = .ok (.iload_n 2, 1) := dk_28 (dk_at dksX1_isNote_0 17 rfl rfl)
theorem dX1_isNote_18 : decode cX1_isNote 18 = .ok (.if_icmp .eq 7, 3) := dk_159 0 7 (dk_at dksX1_isNote_0 18 rfl rfl)
theorem dX1_isNote_21 : decode cX1_isNote 21 = .ok (.iconst 1, 1) := dk_4 (dk_at dksX1_isNote_0 21 rfl rfl)
theorem dX1_isNote_22 : decode cX1_isNote 22 = .ok (.goto 4, 3) := dk_167 0 4 (dk_at dksX1_isNote_1 0 rfl rfl)
theorem dX1_isNote_25 : decode cX1_isNote 25 = .ok (.iconst 0, 1) := dk_3 (dk_at dksX1_isNote_1 3 rfl rfl)
theorem dX1_isNote_26 : decode cX1_isNote 26 = .ok (.ireturn, 1) := dk_172 (dk_at dksX1_isNote_1 4 rfl rfl)
abbrev cX1_count : ByteArray := prog_15_method_23_code
def yX1_count : MethodName := ⟨RX1, "count", "(I)I"⟩
def dkwX1_count_1 : List UInt8 := [180, 0, 98, 61, 42, 27, 181, 0, 98, 28, 172]
abbrev dktX1_count_1 : List UInt8 := dkwX1_count_1 ++ []
def dkwX1_count_0 : List UInt8 := [27, 4, 6, 184, 0, 55, 154, 0, 6, 16, 254, 172, 42, 180, 0, 59, 154, 0, 6, 16, 253, 172, 42]
abbrev dktX1_count_0 : List UInt8 := dkwX1_count_0 ++ dktX1_count_1
theorem dksX1_count_0 : cX1_count.data.toList.drop 0 = dktX1_count_0 := by decide +kernel
theorem dksX1_count_1 : cX1_count.data.toList.drop 23 = dktX1_count_1 := dk_seg dksX1_count_0 23 rfl rfl
theorem dX1_count_0 : decode cX1_count 0 = .ok (.iload_n 1, 1) := dk_27 (dk_at dksX1_count_0 0 rfl rfl)
theorem dX1_count_1 : decode cX1_count 1 = .ok (.iconst 1, 1) := dk_4 (dk_at dksX1_count_0 1 rfl rfl)
theorem dX1_count_2 : decode cX1_count 2 = .ok (.iconst 3, 1) := dk_6 (dk_at dksX1_count_0 2 rfl rfl)
theorem dX1_count_3 : decode cX1_count 3 = .ok (.invokestatic 55, 3) := dk_184 0 55 (dk_at dksX1_count_0 3 rfl rfl)
theorem dX1_count_6 : decode cX1_count 6 = .ok (.ifCond .ne 6, 3) := dk_154 0 6 (dk_at dksX1_count_0 6 rfl rfl)
theorem dX1_count_9 : decode cX1_count 9 = .ok (.bipush (-2), 2) := dk_16 254 (dk_at dksX1_count_0 9 rfl rfl)
theorem dX1_count_11 : decode cX1_count 11 = .ok (.ireturn, 1) := dk_172 (dk_at dksX1_count_0 11 rfl rfl)
theorem dX1_count_12 : decode cX1_count 12 = .ok (.aload_n 0, 1) := dk_42 (dk_at dksX1_count_0 12 rfl rfl)
theorem dX1_count_13 : decode cX1_count 13 = .ok (.getfield 59, 3) := dk_180 0 59 (dk_at dksX1_count_0 13 rfl rfl)
theorem dX1_count_16 : decode cX1_count 16 = .ok (.ifCond .ne 6, 3) := dk_154 0 6 (dk_at dksX1_count_0 16 rfl rfl)
theorem dX1_count_19 : decode cX1_count 19 = .ok (.bipush (-3), 2) := dk_16 253 (dk_at dksX1_count_0 19 rfl rfl)
theorem dX1_count_21 : decode cX1_count 21 = .ok (.ireturn, 1) := dk_172 (dk_at dksX1_count_0 21 rfl rfl)
theorem dX1_count_22 : decode cX1_count 22 = .ok (.aload_n 0, 1) := dk_42 (dk_at dksX1_count_0 22 rfl rfl)
theorem dX1_count_23 : decode cX1_count 23 = .ok (.getfield 98, 3) := dk_180 0 98 (dk_at dksX1_count_1 0 rfl rfl)
theorem dX1_count_26 : decode cX1_count 26 = .ok (.istore_n 2, 1) := dk_61 (dk_at dksX1_count_1 3 rfl rfl)
theorem dX1_count_27 : decode cX1_count 27 = .ok (.aload_n 0, 1) := dk_42 (dk_at dksX1_count_1 4 rfl rfl)
theorem dX1_count_28 : decode cX1_count 28 = .ok (.iload_n 1, 1) := dk_27 (dk_at dksX1_count_1 5 rfl rfl)
theorem dX1_count_29 : decode cX1_count 29 = .ok (.putfield 98, 3) := dk_181 0 98 (dk_at dksX1_count_1 6 rfl rfl)
theorem dX1_count_32 : decode cX1_count 32 = .ok (.iload_n 2, 1) := dk_28 (dk_at dksX1_count_1 9 rfl rfl)
theorem dX1_count_33 : decode cX1_count 33 = .ok (.ireturn, 1) := dk_172 (dk_at dksX1_count_1 10 rfl rfl)
abbrev cX1_build : ByteArray := prog_15_method_24_code
def yX1_build : MethodName := ⟨RX1, "build", "(I)I"⟩
def dkwX1_build_1 : List UInt8 := [180, 0, 92, 61, 42, 27, 181, 0, 92, 28, 172]
abbrev dktX1_build_1 : List UInt8 := dkwX1_build_1 ++ []
def dkwX1_build_0 : List UInt8 := [27, 4, 6, 184, 0, 55, 154, 0, 6, 16, 254, 172, 42, 180, 0, 59, 154, 0, 6, 16, 253, 172, 42]
abbrev dktX1_build_0 : List UInt8 := dkwX1_build_0 ++ dktX1_build_1
theorem dksX1_build_0 : cX1_build.data.toList.drop 0 = dktX1_build_0 := by decide +kernel
theorem dksX1_build_1 : cX1_build.data.toList.drop 23 = dktX1_build_1 := dk_seg dksX1_build_0 23 rfl rfl
theorem dX1_build_0 : decode cX1_build 0 = .ok (.iload_n 1, 1) := dk_27 (dk_at dksX1_build_0 0 rfl rfl)
theorem dX1_build_1 : decode cX1_build 1 = .ok (.iconst 1, 1) := dk_4 (dk_at dksX1_build_0 1 rfl rfl)
theorem dX1_build_2 : decode cX1_build 2 = .ok (.iconst 3, 1) := dk_6 (dk_at dksX1_build_0 2 rfl rfl)
theorem dX1_build_3 : decode cX1_build 3 = .ok (.invokestatic 55, 3) := dk_184 0 55 (dk_at dksX1_build_0 3 rfl rfl)
theorem dX1_build_6 : decode cX1_build 6 = .ok (.ifCond .ne 6, 3) := dk_154 0 6 (dk_at dksX1_build_0 6 rfl rfl)
theorem dX1_build_9 : decode cX1_build 9 = .ok (.bipush (-2), 2) := dk_16 254 (dk_at dksX1_build_0 9 rfl rfl)
theorem dX1_build_11 : decode cX1_build 11 = .ok (.ireturn, 1) := dk_172 (dk_at dksX1_build_0 11 rfl rfl)
theorem dX1_build_12 : decode cX1_build 12 = .ok (.aload_n 0, 1) := dk_42 (dk_at dksX1_build_0 12 rfl rfl)
theorem dX1_build_13 : decode cX1_build 13 = .ok (.getfield 59, 3) := dk_180 0 59 (dk_at dksX1_build_0 13 rfl rfl)
theorem dX1_build_16 : decode cX1_build 16 = .ok (.ifCond .ne 6, 3) := dk_154 0 6 (dk_at dksX1_build_0 16 rfl rfl)
theorem dX1_build_19 : decode cX1_build 19 = .ok (.bipush (-3), 2) := dk_16 253 (dk_at dksX1_build_0 19 rfl rfl)
theorem dX1_build_21 : decode cX1_build 21 = .ok (.ireturn, 1) := dk_172 (dk_at dksX1_build_0 21 rfl rfl)
theorem dX1_build_22 : decode cX1_build 22 = .ok (.aload_n 0, 1) := dk_42 (dk_at dksX1_build_0 22 rfl rfl)
theorem dX1_build_23 : decode cX1_build 23 = .ok (.getfield 92, 3) := dk_180 0 92 (dk_at dksX1_build_1 0 rfl rfl)
theorem dX1_build_26 : decode cX1_build 26 = .ok (.istore_n 2, 1) := dk_61 (dk_at dksX1_build_1 3 rfl rfl)
theorem dX1_build_27 : decode cX1_build 27 = .ok (.aload_n 0, 1) := dk_42 (dk_at dksX1_build_1 4 rfl rfl)
theorem dX1_build_28 : decode cX1_build 28 = .ok (.iload_n 1, 1) := dk_27 (dk_at dksX1_build_1 5 rfl rfl)
theorem dX1_build_29 : decode cX1_build 29 = .ok (.putfield 92, 3) := dk_181 0 92 (dk_at dksX1_build_1 6 rfl rfl)
theorem dX1_build_32 : decode cX1_build 32 = .ok (.iload_n 2, 1) := dk_28 (dk_at dksX1_build_1 9 rfl rfl)
theorem dX1_build_33 : decode cX1_build 33 = .ok (.ireturn, 1) := dk_172 (dk_at dksX1_build_1 10 rfl rfl)
abbrev cX1_debt : ByteArray := prog_15_method_29_code
def yX1_debt : MethodName := ⟨RX1, "debt", "(II)I"⟩
def dkwX1_debt_1 : List UInt8 := [184, 0, 127, 153, 0, 12, 42, 27, 28, 182, 0, 133, 167, 0, 5, 16, 253, 172]
abbrev dktX1_debt_1 : List UInt8 := dkwX1_debt_1 ++ []
def dkwX1_debt_0 : List UInt8 := [42, 27, 182, 0, 115, 154, 0, 5, 2, 172, 42, 28, 182, 0, 143, 154, 0, 6, 16, 254, 172, 28, 27]
abbrev dktX1_debt_0 : List UInt8 := dkwX1_debt_0 ++ dktX1_debt_1
theorem dksX1_debt_0 : cX1_debt.data.toList.drop 0 = dktX1_debt_0 := by decide +kernel
theorem dksX1_debt_1 : cX1_debt.data.toList.drop 23 = dktX1_debt_1 := dk_seg dksX1_debt_0 23 rfl rfl
theorem dX1_debt_0 : decode cX1_debt 0 = .ok (.aload_n 0, 1) := dk_42 (dk_at dksX1_debt_0 0 rfl rfl)
theorem dX1_debt_1 : decode cX1_debt 1 = .ok (.iload_n 1, 1) := dk_27 (dk_at dksX1_debt_0 1 rfl rfl)
theorem dX1_debt_2 : decode cX1_debt 2 = .ok (.invokevirtual 115, 3) := dk_182 0 115 (dk_at dksX1_debt_0 2 rfl rfl)
theorem dX1_debt_5 : decode cX1_debt 5 = .ok (.ifCond .ne 5, 3) := dk_154 0 5 (dk_at dksX1_debt_0 5 rfl rfl)
theorem dX1_debt_8 : decode cX1_debt 8 = .ok (.iconst (-1), 1) := dk_2 (dk_at dksX1_debt_0 8 rfl rfl)
theorem dX1_debt_9 : decode cX1_debt 9 = .ok (.ireturn, 1) := dk_172 (dk_at dksX1_debt_0 9 rfl rfl)
theorem dX1_debt_10 : decode cX1_debt 10 = .ok (.aload_n 0, 1) := dk_42 (dk_at dksX1_debt_0 10 rfl rfl)
theorem dX1_debt_11 : decode cX1_debt 11 = .ok (.iload_n 2, 1) := dk_28 (dk_at dksX1_debt_0 11 rfl rfl)
theorem dX1_debt_12 : decode cX1_debt 12 = .ok (.invokevirtual 143, 3) := dk_182 0 143 (dk_at dksX1_debt_0 12 rfl rfl)
theorem dX1_debt_15 : decode cX1_debt 15 = .ok (.ifCond .ne 6, 3) := dk_154 0 6 (dk_at dksX1_debt_0 15 rfl rfl)
theorem dX1_debt_18 : decode cX1_debt 18 = .ok (.bipush (-2), 2) := dk_16 254 (dk_at dksX1_debt_0 18 rfl rfl)
theorem dX1_debt_20 : decode cX1_debt 20 = .ok (.ireturn, 1) := dk_172 (dk_at dksX1_debt_0 20 rfl rfl)
theorem dX1_debt_21 : decode cX1_debt 21 = .ok (.iload_n 2, 1) := dk_28 (dk_at dksX1_debt_0 21 rfl rfl)
theorem dX1_debt_22 : decode cX1_debt 22 = .ok (.iload_n 1, 1) := dk_27 (dk_at dksX1_debt_0 22 rfl rfl)
theorem dX1_debt_23 : decode cX1_debt 23 = .ok (.invokestatic 127, 3) := dk_184 0 127 (dk_at dksX1_debt_1 0 rfl rfl)
theorem dX1_debt_26 : decode cX1_debt 26 = .ok (.ifCond .eq 12, 3) := dk_153 0 12 (dk_at dksX1_debt_1 3 rfl rfl)
theorem dX1_debt_29 : decode cX1_debt 29 = .ok (.aload_n 0, 1) := dk_42 (dk_at dksX1_debt_1 6 rfl rfl)
theorem dX1_debt_30 : decode cX1_debt 30 = .ok (.iload_n 1, 1) := dk_27 (dk_at dksX1_debt_1 7 rfl rfl)
theorem dX1_debt_31 : decode cX1_debt 31 = .ok (.iload_n 2, 1) := dk_28 (dk_at dksX1_debt_1 8 rfl rfl)
theorem dX1_debt_32 : decode cX1_debt 32 = .ok (.invokevirtual 133, 3) := dk_182 0 133 (dk_at dksX1_debt_1 9 rfl rfl)
theorem dX1_debt_35 : decode cX1_debt 35 = .ok (.goto 5, 3) := dk_167 0 5 (dk_at dksX1_debt_1 12 rfl rfl)
theorem dX1_debt_38 : decode cX1_debt 38 = .ok (.bipush (-3), 2) := dk_16 253 (dk_at dksX1_debt_1 15 rfl rfl)
theorem dX1_debt_40 : decode cX1_debt 40 = .ok (.ireturn, 1) := dk_172 (dk_at dksX1_debt_1 17 rfl rfl)
abbrev cX1_isSet : ByteArray := prog_15_method_10_code
def yX1_isSet : MethodName := ⟨RX1, "isSet", "(I)Z"⟩
def dkwX1_isSet_0 : List UInt8 := [27, 155, 0, 17, 27, 4, 42, 180, 0, 59, 120, 162, 0, 7, 4, 167, 0, 4, 3, 172]
abbrev dktX1_isSet_0 : List UInt8 := dkwX1_isSet_0 ++ []
theorem dksX1_isSet_0 : cX1_isSet.data.toList.drop 0 = dktX1_isSet_0 := by decide +kernel
theorem dX1_isSet_0 : decode cX1_isSet 0 = .ok (.iload_n 1, 1) := dk_27 (dk_at dksX1_isSet_0 0 rfl rfl)
theorem dX1_isSet_1 : decode cX1_isSet 1 = .ok (.ifCond .lt 17, 3) := dk_155 0 17 (dk_at dksX1_isSet_0 1 rfl rfl)
theorem dX1_isSet_4 : decode cX1_isSet 4 = .ok (.iload_n 1, 1) := dk_27 (dk_at dksX1_isSet_0 4 rfl rfl)
theorem dX1_isSet_5 : decode cX1_isSet 5 = .ok (.iconst 1, 1) := dk_4 (dk_at dksX1_isSet_0 5 rfl rfl)
theorem dX1_isSet_6 : decode cX1_isSet 6 = .ok (.aload_n 0, 1) := dk_42 (dk_at dksX1_isSet_0 6 rfl rfl)
theorem dX1_isSet_7 : decode cX1_isSet 7 = .ok (.getfield 59, 3) := dk_180 0 59 (dk_at dksX1_isSet_0 7 rfl rfl)
theorem dX1_isSet_10 : decode cX1_isSet 10 = .ok (.ishl, 1) := dk_120 (dk_at dksX1_isSet_0 10 rfl rfl)
theorem dX1_isSet_11 : decode cX1_isSet 11 = .ok (.if_icmp .ge 7, 3) := dk_162 0 7 (dk_at dksX1_isSet_0 11 rfl rfl)
theorem dX1_isSet_14 : decode cX1_isSet 14 = .ok (.iconst 1, 1) := dk_4 (dk_at dksX1_isSet_0 14 rfl rfl)
theorem dX1_isSet_15 : decode cX1_isSet 15 = .ok (.goto 4, 3) := dk_167 0 4 (dk_at dksX1_isSet_0 15 rfl rfl)
theorem dX1_isSet_18 : decode cX1_isSet 18 = .ok (.iconst 0, 1) := dk_3 (dk_at dksX1_isSet_0 18 rfl rfl)
theorem dX1_isSet_19 : decode cX1_isSet 19 = .ok (.ireturn, 1) := dk_172 (dk_at dksX1_isSet_0 19 rfl rfl)
abbrev cX1_isOf : ByteArray := prog_15_method_11_code
def yX1_isOf : MethodName := ⟨RX1, "isOf", "(II)Z"⟩
def dkwX1_isOf_0 : List UInt8 := [26, 27, 122, 4, 126, 4, 160, 0, 7, 4, 167, 0, 4, 3, 172]
abbrev dktX1_isOf_0 : List UInt8 := dkwX1_isOf_0 ++ []
theorem dksX1_isOf_0 : cX1_isOf.data.toList.drop 0 = dktX1_isOf_0 := by decide +kernel
theorem dX1_isOf_0 : decode cX1_isOf 0 = .ok (.iload_n 0, 1) := dk_26 (dk_at dksX1_isOf_0 0 rfl rfl)
theorem dX1_isOf_1 : decode cX1_isOf 1 = .ok (.iload_n 1, 1) := dk_27 (dk_at dksX1_isOf_0 1 rfl rfl)
theorem dX1_isOf_2 : decode cX1_isOf 2 = .ok (.ishr, 1) := dk_122 (dk_at dksX1_isOf_0 2 rfl rfl)
theorem dX1_isOf_3 : decode cX1_isOf 3 = .ok (.iconst 1, 1) := dk_4 (dk_at dksX1_isOf_0 3 rfl rfl)
theorem dX1_isOf_4 : decode cX1_isOf 4 = .ok (.iand, 1) := dk_126 (dk_at dksX1_isOf_0 4 rfl rfl)
theorem dX1_isOf_5 : decode cX1_isOf 5 = .ok (.iconst 1, 1) := dk_4 (dk_at dksX1_isOf_0 5 rfl rfl)
theorem dX1_isOf_6 : decode cX1_isOf 6 = .ok (.if_icmp .ne 7, 3) := dk_160 0 7 (dk_at dksX1_isOf_0 6 rfl rfl)
theorem dX1_isOf_9 : decode cX1_isOf 9 = .ok (.iconst 1, 1) := dk_4 (dk_at dksX1_isOf_0 9 rfl rfl)
theorem dX1_isOf_10 : decode cX1_isOf 10 = .ok (.goto 4, 3) := dk_167 0 4 (dk_at dksX1_isOf_0 10 rfl rfl)
theorem dX1_isOf_13 : decode cX1_isOf 13 = .ok (.iconst 0, 1) := dk_3 (dk_at dksX1_isOf_0 13 rfl rfl)
theorem dX1_isOf_14 : decode cX1_isOf 14 = .ok (.ireturn, 1) := dk_172 (dk_at dksX1_isOf_0 14 rfl rfl)
abbrev cX1_debtOf : ByteArray := prog_15_method_25_code
def yX1_debtOf : MethodName := ⟨RX1, "debtOf", "(II)I"⟩
def dkwX1_debtOf_5 : List UInt8 := [167, 0, 6, 29, 5, 108, 172]
abbrev dktX1_debtOf_5 : List UInt8 := dkwX1_debtOf_5 ++ []
def dkwX1_debtOf_4 : List UInt8 := [29, 158, 0, 9, 29, 4, 100, 167, 0, 4, 3, 172, 42, 180, 0, 19, 27, 46, 154, 0, 7, 29]
abbrev dktX1_debtOf_4 : List UInt8 := dkwX1_debtOf_4 ++ dktX1_debtOf_5
def dkwX1_debtOf_3 : List UInt8 := [104, 167, 0, 5, 21, 5, 96, 62, 132, 4, 1, 167, 255, 180, 42, 180, 0, 19, 27, 46, 4, 160, 0, 15]
abbrev dktX1_debtOf_3 : List UInt8 := dkwX1_debtOf_3 ++ dktX1_debtOf_4
def dkwX1_debtOf_2 : List UInt8 := [27, 104, 21, 4, 96, 46, 54, 5, 29, 28, 21, 4, 184, 0, 127, 153, 0, 13, 42, 180, 0, 98, 21, 5]
abbrev dktX1_debtOf_2 : List UInt8 := dkwX1_debtOf_2 ++ dktX1_debtOf_3
def dkwX1_debtOf_1 : List UInt8 := [154, 0, 15, 42, 180, 0, 130, 21, 4, 184, 0, 127, 153, 0, 7, 3, 167, 0, 14, 42, 180, 0, 25, 8]
abbrev dktX1_debtOf_1 : List UInt8 := dkwX1_debtOf_1 ++ dktX1_debtOf_2
def dkwX1_debtOf_0 : List UInt8 := [3, 62, 3, 54, 4, 21, 4, 42, 180, 0, 59, 162, 0, 73, 42, 180, 0, 124, 27, 184, 0, 127]
abbrev dktX1_debtOf_0 : List UInt8 := dkwX1_debtOf_0 ++ dktX1_debtOf_1
theorem dksX1_debtOf_0 : cX1_debtOf.data.toList.drop 0 = dktX1_debtOf_0 := by decide +kernel
theorem dksX1_debtOf_1 : cX1_debtOf.data.toList.drop 22 = dktX1_debtOf_1 := dk_seg dksX1_debtOf_0 22 rfl rfl
theorem dksX1_debtOf_2 : cX1_debtOf.data.toList.drop 46 = dktX1_debtOf_2 := dk_seg dksX1_debtOf_1 24 rfl rfl
theorem dksX1_debtOf_3 : cX1_debtOf.data.toList.drop 70 = dktX1_debtOf_3 := dk_seg dksX1_debtOf_2 24 rfl rfl
theorem dksX1_debtOf_4 : cX1_debtOf.data.toList.drop 94 = dktX1_debtOf_4 := dk_seg dksX1_debtOf_3 24 rfl rfl
theorem dksX1_debtOf_5 : cX1_debtOf.data.toList.drop 116 = dktX1_debtOf_5 := dk_seg dksX1_debtOf_4 22 rfl rfl
theorem dX1_debtOf_0 : decode cX1_debtOf 0 = .ok (.iconst 0, 1) := dk_3 (dk_at dksX1_debtOf_0 0 rfl rfl)
theorem dX1_debtOf_1 : decode cX1_debtOf 1 = .ok (.istore_n 3, 1) := dk_62 (dk_at dksX1_debtOf_0 1 rfl rfl)
theorem dX1_debtOf_2 : decode cX1_debtOf 2 = .ok (.iconst 0, 1) := dk_3 (dk_at dksX1_debtOf_0 2 rfl rfl)
theorem dX1_debtOf_3 : decode cX1_debtOf 3 = .ok (.istore 4, 2) := dk_54 4 (dk_at dksX1_debtOf_0 3 rfl rfl)
theorem dX1_debtOf_5 : decode cX1_debtOf 5 = .ok (.iload 4, 2) := dk_21 4 (dk_at dksX1_debtOf_0 5 rfl rfl)
theorem dX1_debtOf_7 : decode cX1_debtOf 7 = .ok (.aload_n 0, 1) := dk_42 (dk_at dksX1_debtOf_0 7 rfl rfl)
theorem dX1_debtOf_8 : decode cX1_debtOf 8 = .ok (.getfield 59, 3) := dk_180 0 59 (dk_at dksX1_debtOf_0 8 rfl rfl)
theorem dX1_debtOf_11 : decode cX1_debtOf 11 = .ok (.if_icmp .ge 73, 3) := dk_162 0 73 (dk_at dksX1_debtOf_0 11 rfl rfl)
theorem dX1_debtOf_14 : decode cX1_debtOf 14 = .ok (.aload_n 0, 1) := dk_42 (dk_at dksX1_debtOf_0 14 rfl rfl)
theorem dX1_debtOf_15 : decode cX1_debtOf 15 = .ok (.getfield 124, 3) := dk_180 0 124 (dk_at dksX1_debtOf_0 15 rfl rfl)
theorem dX1_debtOf_18 : decode cX1_debtOf 18 = .ok (.iload_n 1, 1) := dk_27 (dk_at dksX1_debtOf_0 18 rfl rfl)
theorem dX1_debtOf_19 : decode cX1_debtOf 19 = .ok (.invokestatic 127, 3) := dk_184 0 127 (dk_at dksX1_debtOf_0 19 rfl rfl)
theorem dX1_debtOf_22 : decode cX1_debtOf 22 = .ok (.ifCond .ne 15, 3) := dk_154 0 15 (dk_at dksX1_debtOf_1 0 rfl rfl)
theorem dX1_debtOf_25 : decode cX1_debtOf 25 = .ok (.aload_n 0, 1) := dk_42 (dk_at dksX1_debtOf_1 3 rfl rfl)
theorem dX1_debtOf_26 : decode cX1_debtOf 26 = .ok (.getfield 130, 3) := dk_180 0 130 (dk_at dksX1_debtOf_1 4 rfl rfl)
theorem dX1_debtOf_29 : decode cX1_debtOf 29 = .ok (.iload 4, 2) := dk_21 4 (dk_at dksX1_debtOf_1 7 rfl rfl)
theorem dX1_debtOf_31 : decode cX1_debtOf 31 = .ok (.invokestatic 127, 3) := dk_184 0 127 (dk_at dksX1_debtOf_1 9 rfl rfl)
theorem dX1_debtOf_34 : decode cX1_debtOf 34 = .ok (.ifCond .eq 7, 3) := dk_153 0 7 (dk_at dksX1_debtOf_1 12 rfl rfl)
theorem dX1_debtOf_37 : decode cX1_debtOf 37 = .ok (.iconst 0, 1) := dk_3 (dk_at dksX1_debtOf_1 15 rfl rfl)
theorem dX1_debtOf_38 : decode cX1_debtOf 38 = .ok (.goto 14, 3) := dk_167 0 14 (dk_at dksX1_debtOf_1 16 rfl rfl)
theorem dX1_debtOf_41 : decode cX1_debtOf 41 = .ok (.aload_n 0, 1) := dk_42 (dk_at dksX1_debtOf_1 19 rfl rfl)
theorem dX1_debtOf_42 : decode cX1_debtOf 42 = .ok (.getfield 25, 3) := dk_180 0 25 (dk_at dksX1_debtOf_1 20 rfl rfl)
theorem dX1_debtOf_45 : decode cX1_debtOf 45 = .ok (.iconst 5, 1) := dk_8 (dk_at dksX1_debtOf_1 23 rfl rfl)
theorem dX1_debtOf_46 : decode cX1_debtOf 46 = .ok (.iload_n 1, 1) := dk_27 (dk_at dksX1_debtOf_2 0 rfl rfl)
theorem dX1_debtOf_47 : decode cX1_debtOf 47 = .ok (.imul, 1) := dk_104 (dk_at dksX1_debtOf_2 1 rfl rfl)
theorem dX1_debtOf_48 : decode cX1_debtOf 48 = .ok (.iload 4, 2) := dk_21 4 (dk_at dksX1_debtOf_2 2 rfl rfl)
theorem dX1_debtOf_50 : decode cX1_debtOf 50 = .ok (.iadd, 1) := dk_96 (dk_at dksX1_debtOf_2 4 rfl rfl)
theorem dX1_debtOf_51 : decode cX1_debtOf 51 = .ok (.iaload, 1) := dk_46 (dk_at dksX1_debtOf_2 5 rfl rfl)
theorem dX1_debtOf_52 : decode cX1_debtOf 52 = .ok (.istore 5, 2) := dk_54 5 (dk_at dksX1_debtOf_2 6 rfl rfl)
theorem dX1_debtOf_54 : decode cX1_debtOf 54 = .ok (.iload_n 3, 1) := dk_29 (dk_at dksX1_debtOf_2 8 rfl rfl)
theorem dX1_debtOf_55 : decode cX1_debtOf 55 = .ok (.iload_n 2, 1) := dk_28 (dk_at dksX1_debtOf_2 9 rfl rfl)
theorem dX1_debtOf_56 : decode cX1_debtOf 56 = .ok (.iload 4, 2) := dk_21 4 (dk_at dksX1_debtOf_2 10 rfl rfl)
theorem dX1_debtOf_58 : decode cX1_debtOf 58 = .ok (.invokestatic 127, 3) := dk_184 0 127 (dk_at dksX1_debtOf_2 12 rfl rfl)
theorem dX1_debtOf_61 : decode cX1_debtOf 61 = .ok (.ifCond .eq 13, 3) := dk_153 0 13 (dk_at dksX1_debtOf_2 15 rfl rfl)
theorem dX1_debtOf_64 : decode cX1_debtOf 64 = .ok (.aload_n 0, 1) := dk_42 (dk_at dksX1_debtOf_2 18 rfl rfl)
theorem dX1_debtOf_65 : decode cX1_debtOf 65 = .ok (.getfield 98, 3) := dk_180 0 98 (dk_at dksX1_debtOf_2 19 rfl rfl)
theorem dX1_debtOf_68 : decode cX1_debtOf 68 = .ok (.iload 5, 2) := dk_21 5 (dk_at dksX1_debtOf_2 22 rfl rfl)
theorem dX1_debtOf_70 : decode cX1_debtOf 70 = .ok (.imul, 1) := dk_104 (dk_at dksX1_debtOf_3 0 rfl rfl)
theorem dX1_debtOf_71 : decode cX1_debtOf 71 = .ok (.goto 5, 3) := dk_167 0 5 (dk_at dksX1_debtOf_3 1 rfl rfl)
theorem dX1_debtOf_74 : decode cX1_debtOf 74 = .ok (.iload 5, 2) := dk_21 5 (dk_at dksX1_debtOf_3 4 rfl rfl)
theorem dX1_debtOf_76 : decode cX1_debtOf 76 = .ok (.iadd, 1) := dk_96 (dk_at dksX1_debtOf_3 6 rfl rfl)
theorem dX1_debtOf_77 : decode cX1_debtOf 77 = .ok (.istore_n 3, 1) := dk_62 (dk_at dksX1_debtOf_3 7 rfl rfl)
theorem dX1_debtOf_78 : decode cX1_debtOf 78 = .ok (.iinc 4 1, 3) := dk_132 4 1 (dk_at dksX1_debtOf_3 8 rfl rfl)
theorem dX1_debtOf_81 : decode cX1_debtOf 81 = .ok (.goto (-76), 3) := dk_167 255 180 (dk_at dksX1_debtOf_3 11 rfl rfl)
theorem dX1_debtOf_84 : decode cX1_debtOf 84 = .ok (.aload_n 0, 1) := dk_42 (dk_at dksX1_debtOf_3 14 rfl rfl)
theorem dX1_debtOf_85 : decode cX1_debtOf 85 = .ok (.getfield 19, 3) := dk_180 0 19 (dk_at dksX1_debtOf_3 15 rfl rfl)
theorem dX1_debtOf_88 : decode cX1_debtOf 88 = .ok (.iload_n 1, 1) := dk_27 (dk_at dksX1_debtOf_3 18 rfl rfl)
theorem dX1_debtOf_89 : decode cX1_debtOf 89 = .ok (.iaload, 1) := dk_46 (dk_at dksX1_debtOf_3 19 rfl rfl)
theorem dX1_debtOf_90 : decode cX1_debtOf 90 = .ok (.iconst 1, 1) := dk_4 (dk_at dksX1_debtOf_3 20 rfl rfl)
theorem dX1_debtOf_91 : decode cX1_debtOf 91 = .ok (.if_icmp .ne 15, 3) := dk_160 0 15 (dk_at dksX1_debtOf_3 21 rfl rfl)
theorem dX1_debtOf_94 : decode cX1_debtOf 94 = .ok (.iload_n 3, 1) := dk_29 (dk_at dksX1_debtOf_4 0 rfl rfl)
theorem dX1_debtOf_95 : decode cX1_debtOf 95 = .ok (.ifCond .le 9, 3) := dk_158 0 9 (dk_at dksX1_debtOf_4 1 rfl rfl)
theorem dX1_debtOf_98 : decode cX1_debtOf 98 = .ok (.iload_n 3, 1) := dk_29 (dk_at dksX1_debtOf_4 4 rfl rfl)
theorem dX1_debtOf_99 : decode cX1_debtOf 99 = .ok (.iconst 1, 1) := dk_4 (dk_at dksX1_debtOf_4 5 rfl rfl)
theorem dX1_debtOf_100 : decode cX1_debtOf 100 = .ok (.isub, 1) := dk_100 (dk_at dksX1_debtOf_4 6 rfl rfl)
theorem dX1_debtOf_101 : decode cX1_debtOf 101 = .ok (.goto 4, 3) := dk_167 0 4 (dk_at dksX1_debtOf_4 7 rfl rfl)
theorem dX1_debtOf_104 : decode cX1_debtOf 104 = .ok (.iconst 0, 1) := dk_3 (dk_at dksX1_debtOf_4 10 rfl rfl)
theorem dX1_debtOf_105 : decode cX1_debtOf 105 = .ok (.ireturn, 1) := dk_172 (dk_at dksX1_debtOf_4 11 rfl rfl)
theorem dX1_debtOf_106 : decode cX1_debtOf 106 = .ok (.aload_n 0, 1) := dk_42 (dk_at dksX1_debtOf_4 12 rfl rfl)
theorem dX1_debtOf_107 : decode cX1_debtOf 107 = .ok (.getfield 19, 3) := dk_180 0 19 (dk_at dksX1_debtOf_4 13 rfl rfl)
theorem dX1_debtOf_110 : decode cX1_debtOf 110 = .ok (.iload_n 1, 1) := dk_27 (dk_at dksX1_debtOf_4 16 rfl rfl)
theorem dX1_debtOf_111 : decode cX1_debtOf 111 = .ok (.iaload, 1) := dk_46 (dk_at dksX1_debtOf_4 17 rfl rfl)
theorem dX1_debtOf_112 : decode cX1_debtOf 112 = .ok (.ifCond .ne 7, 3) := dk_154 0 7 (dk_at dksX1_debtOf_4 18 rfl rfl)
theorem dX1_debtOf_115 : decode cX1_debtOf 115 = .ok (.iload_n 3, 1) := dk_29 (dk_at dksX1_debtOf_4 21 rfl rfl)
theorem dX1_debtOf_116 : decode cX1_debtOf 116 = .ok (.goto 6, 3) := dk_167 0 6 (dk_at dksX1_debtOf_5 0 rfl rfl)
theorem dX1_debtOf_119 : decode cX1_debtOf 119 = .ok (.iload_n 3, 1) := dk_29 (dk_at dksX1_debtOf_5 3 rfl rfl)
theorem dX1_debtOf_120 : decode cX1_debtOf 120 = .ok (.iconst 2, 1) := dk_5 (dk_at dksX1_debtOf_5 4 rfl rfl)
theorem dX1_debtOf_121 : decode cX1_debtOf 121 = .ok (.idiv, 1) := dk_108 (dk_at dksX1_debtOf_5 5 rfl rfl)
theorem dX1_debtOf_122 : decode cX1_debtOf 122 = .ok (.ireturn, 1) := dk_172 (dk_at dksX1_debtOf_5 6 rfl rfl)
abbrev cX1_pullers : ByteArray := prog_15_method_30_code
def yX1_pullers : MethodName := ⟨RX1, "pullers", "(I)I"⟩
def dkwX1_pullers_1 : List UInt8 := [167, 0, 5, 16, 254, 172]
abbrev dktX1_pullers_1 : List UInt8 := dkwX1_pullers_1 ++ []
def dkwX1_pullers_0 : List UInt8 := [42, 180, 0, 59, 154, 0, 6, 16, 253, 172, 42, 27, 182, 0, 143, 153, 0, 11, 42, 27, 182, 0, 137]
abbrev dktX1_pullers_0 : List UInt8 := dkwX1_pullers_0 ++ dktX1_pullers_1
theorem dksX1_pullers_0 : cX1_pullers.data.toList.drop 0 = dktX1_pullers_0 := by decide +kernel
theorem dksX1_pullers_1 : cX1_pullers.data.toList.drop 23 = dktX1_pullers_1 := dk_seg dksX1_pullers_0 23 rfl rfl
theorem dX1_pullers_0 : decode cX1_pullers 0 = .ok (.aload_n 0, 1) := dk_42 (dk_at dksX1_pullers_0 0 rfl rfl)
theorem dX1_pullers_1 : decode cX1_pullers 1 = .ok (.getfield 59, 3) := dk_180 0 59 (dk_at dksX1_pullers_0 1 rfl rfl)
theorem dX1_pullers_4 : decode cX1_pullers 4 = .ok (.ifCond .ne 6, 3) := dk_154 0 6 (dk_at dksX1_pullers_0 4 rfl rfl)
theorem dX1_pullers_7 : decode cX1_pullers 7 = .ok (.bipush (-3), 2) := dk_16 253 (dk_at dksX1_pullers_0 7 rfl rfl)
theorem dX1_pullers_9 : decode cX1_pullers 9 = .ok (.ireturn, 1) := dk_172 (dk_at dksX1_pullers_0 9 rfl rfl)
theorem dX1_pullers_10 : decode cX1_pullers 10 = .ok (.aload_n 0, 1) := dk_42 (dk_at dksX1_pullers_0 10 rfl rfl)
theorem dX1_pullers_11 : decode cX1_pullers 11 = .ok (.iload_n 1, 1) := dk_27 (dk_at dksX1_pullers_0 11 rfl rfl)
theorem dX1_pullers_12 : decode cX1_pullers 12 = .ok (.invokevirtual 143, 3) := dk_182 0 143 (dk_at dksX1_pullers_0 12 rfl rfl)
theorem dX1_pullers_15 : decode cX1_pullers 15 = .ok (.ifCond .eq 11, 3) := dk_153 0 11 (dk_at dksX1_pullers_0 15 rfl rfl)
theorem dX1_pullers_18 : decode cX1_pullers 18 = .ok (.aload_n 0, 1) := dk_42 (dk_at dksX1_pullers_0 18 rfl rfl)
theorem dX1_pullers_19 : decode cX1_pullers 19 = .ok (.iload_n 1, 1) := dk_27 (dk_at dksX1_pullers_0 19 rfl rfl)
theorem dX1_pullers_20 : decode cX1_pullers 20 = .ok (.invokevirtual 137, 3) := dk_182 0 137 (dk_at dksX1_pullers_0 20 rfl rfl)
theorem dX1_pullers_23 : decode cX1_pullers 23 = .ok (.goto 5, 3) := dk_167 0 5 (dk_at dksX1_pullers_1 0 rfl rfl)
theorem dX1_pullers_26 : decode cX1_pullers 26 = .ok (.bipush (-2), 2) := dk_16 254 (dk_at dksX1_pullers_1 3 rfl rfl)
theorem dX1_pullers_28 : decode cX1_pullers 28 = .ok (.ireturn, 1) := dk_172 (dk_at dksX1_pullers_1 5 rfl rfl)
abbrev cX1_pullersOf : ByteArray := prog_15_method_26_code
def yX1_pullersOf : MethodName := ⟨RX1, "pullersOf", "(I)I"⟩
def dkwX1_pullersOf_3 : List UInt8 := [167, 255, 194, 29, 172]
abbrev dktX1_pullersOf_3 : List UInt8 := dkwX1_pullersOf_3 ++ []
def dkwX1_pullersOf_2 : List UInt8 := [61, 3, 62, 29, 21, 5, 28, 160, 0, 10, 4, 21, 4, 120, 167, 0, 4, 3, 128, 62, 132, 4, 1]
abbrev dktX1_pullersOf_2 : List UInt8 := dkwX1_pullersOf_2 ++ dktX1_pullersOf_3
def dkwX1_pullersOf_1 : List UInt8 := [153, 0, 13, 42, 21, 4, 27, 182, 0, 133, 167, 0, 4, 3, 54, 5, 21, 5, 28, 164, 0, 8, 21, 5]
abbrev dktX1_pullersOf_1 : List UInt8 := dkwX1_pullersOf_1 ++ dktX1_pullersOf_2
def dkwX1_pullersOf_0 : List UInt8 := [4, 61, 3, 62, 3, 54, 4, 21, 4, 42, 180, 0, 59, 162, 0, 59, 27, 21, 4, 184, 0, 127]
abbrev dktX1_pullersOf_0 : List UInt8 := dkwX1_pullersOf_0 ++ dktX1_pullersOf_1
theorem dksX1_pullersOf_0 : cX1_pullersOf.data.toList.drop 0 = dktX1_pullersOf_0 := by decide +kernel
theorem dksX1_pullersOf_1 : cX1_pullersOf.data.toList.drop 22 = dktX1_pullersOf_1 := dk_seg dksX1_pullersOf_0 22 rfl rfl
theorem dksX1_pullersOf_2 : cX1_pullersOf.data.toList.drop 46 = dktX1_pullersOf_2 := dk_seg dksX1_pullersOf_1 24 rfl rfl
theorem dksX1_pullersOf_3 : cX1_pullersOf.data.toList.drop 69 = dktX1_pullersOf_3 := dk_seg dksX1_pullersOf_2 23 rfl rfl
theorem dX1_pullersOf_0 : decode cX1_pullersOf 0 = .ok (.iconst 1, 1) := dk_4 (dk_at dksX1_pullersOf_0 0 rfl rfl)
theorem dX1_pullersOf_1 : decode cX1_pullersOf 1 = .ok (.istore_n 2, 1) := dk_61 (dk_at dksX1_pullersOf_0 1 rfl rfl)
theorem dX1_pullersOf_2 : decode cX1_pullersOf 2 = .ok (.iconst 0, 1) := dk_3 (dk_at dksX1_pullersOf_0 2 rfl rfl)
theorem dX1_pullersOf_3 : decode cX1_pullersOf 3 = .ok (.istore_n 3, 1) := dk_62 (dk_at dksX1_pullersOf_0 3 rfl rfl)
theorem dX1_pullersOf_4 : decode cX1_pullersOf 4 = .ok (.iconst 0, 1) := dk_3 (dk_at dksX1_pullersOf_0 4 rfl rfl)
theorem dX1_pullersOf_5 : decode cX1_pullersOf 5 = .ok (.istore 4, 2) := dk_54 4 (dk_at dksX1_pullersOf_0 5 rfl rfl)
theorem dX1_pullersOf_7 : decode cX1_pullersOf 7 = .ok (.iload 4, 2) := dk_21 4 (dk_at dksX1_pullersOf_0 7 rfl rfl)
theorem dX1_pullersOf_9 : decode cX1_pullersOf 9 = .ok (.aload_n 0, 1) := dk_42 (dk_at dksX1_pullersOf_0 9 rfl rfl)
theorem dX1_pullersOf_10 : decode cX1_pullersOf 10 = .ok (.getfield 59, 3) := dk_180 0 59 (dk_at dksX1_pullersOf_0 10 rfl rfl)
theorem dX1_pullersOf_13 : decode cX1_pullersOf 13 = .ok (.if_icmp .ge 59, 3) := dk_162 0 59 (dk_at dksX1_pullersOf_0 13 rfl rfl)
theorem dX1_pullersOf_16 : decode cX1_pullersOf 16 = .ok (.iload_n 1, 1) := dk_27 (dk_at dksX1_pullersOf_0 16 rfl rfl)
theorem dX1_pullersOf_17 : decode cX1_pullersOf 17 = .ok (.iload 4, 2) := dk_21 4 (dk_at dksX1_pullersOf_0 17 rfl rfl)
theorem dX1_pullersOf_19 : decode cX1_pullersOf 19 = .ok (.invokestatic 127, 3) := dk_184 0 127 (dk_at dksX1_pullersOf_0 19 rfl rfl)
theorem dX1_pullersOf_22 : decode cX1_pullersOf 22 = .ok (.ifCond .eq 13, 3) := dk_153 0 13 (dk_at dksX1_pullersOf_1 0 rfl rfl)
theorem dX1_pullersOf_25 : decode cX1_pullersOf 25 = .ok (.aload_n 0, 1) := dk_42 (dk_at dksX1_pullersOf_1 3 rfl rfl)
theorem dX1_pullersOf_26 : decode cX1_pullersOf 26 = .ok (.iload 4, 2) := dk_21 4 (dk_at dksX1_pullersOf_1 4 rfl rfl)
theorem dX1_pullersOf_28 : decode cX1_pullersOf 28 = .ok (.iload_n 1, 1) := dk_27 (dk_at dksX1_pullersOf_1 6 rfl rfl)
theorem dX1_pullersOf_29 : decode cX1_pullersOf 29 = .ok (.invokevirtual 133, 3) := dk_182 0 133 (dk_at dksX1_pullersOf_1 7 rfl rfl)
theorem dX1_pullersOf_32 : decode cX1_pullersOf 32 = .ok (.goto 4, 3) := dk_167 0 4 (dk_at dksX1_pullersOf_1 10 rfl rfl)
theorem dX1_pullersOf_35 : decode cX1_pullersOf 35 = .ok (.iconst 0, 1) := dk_3 (dk_at dksX1_pullersOf_1 13 rfl rfl)
theorem dX1_pullersOf_36 : decode cX1_pullersOf 36 = .ok (.istore 5, 2) := dk_54 5 (dk_at dksX1_pullersOf_1 14 rfl rfl)
theorem dX1_pullersOf_38 : decode cX1_pullersOf 38 = .ok (.iload 5, 2) := dk_21 5 (dk_at dksX1_pullersOf_1 16 rfl rfl)
theorem dX1_pullersOf_40 : decode cX1_pullersOf 40 = .ok (.iload_n 2, 1) := dk_28 (dk_at dksX1_pullersOf_1 18 rfl rfl)
theorem dX1_pullersOf_41 : decode cX1_pullersOf 41 = .ok (.if_icmp .le 8, 3) := dk_164 0 8 (dk_at dksX1_pullersOf_1 19 rfl rfl)
theorem dX1_pullersOf_44 : decode cX1_pullersOf 44 = .ok (.iload 5, 2) := dk_21 5 (dk_at dksX1_pullersOf_1 22 rfl rfl)
theorem dX1_pullersOf_46 : decode cX1_pullersOf 46 = .ok (.istore_n 2, 1) := dk_61 (dk_at dksX1_pullersOf_2 0 rfl rfl)
theorem dX1_pullersOf_47 : decode cX1_pullersOf 47 = .ok (.iconst 0, 1) := dk_3 (dk_at dksX1_pullersOf_2 1 rfl rfl)
theorem dX1_pullersOf_48 : decode cX1_pullersOf 48 = .ok (.istore_n 3, 1) := dk_62 (dk_at dksX1_pullersOf_2 2 rfl rfl)
theorem dX1_pullersOf_49 : decode cX1_pullersOf 49 = .ok (.iload_n 3, 1) := dk_29 (dk_at dksX1_pullersOf_2 3 rfl rfl)
theorem dX1_pullersOf_50 : decode cX1_pullersOf 50 = .ok (.iload 5, 2) := dk_21 5 (dk_at dksX1_pullersOf_2 4 rfl rfl)
theorem dX1_pullersOf_52 : decode cX1_pullersOf 52 = .ok (.iload_n 2, 1) := dk_28 (dk_at dksX1_pullersOf_2 6 rfl rfl)
theorem dX1_pullersOf_53 : decode cX1_pullersOf 53 = .ok (.if_icmp .ne 10, 3) := dk_160 0 10 (dk_at dksX1_pullersOf_2 7 rfl rfl)
theorem dX1_pullersOf_56 : decode cX1_pullersOf 56 = .ok (.iconst 1, 1) := dk_4 (dk_at dksX1_pullersOf_2 10 rfl rfl)
theorem dX1_pullersOf_57 : decode cX1_pullersOf 57 = .ok (.iload 4, 2) := dk_21 4 (dk_at dksX1_pullersOf_2 11 rfl rfl)
theorem dX1_pullersOf_59 : decode cX1_pullersOf 59 = .ok (.ishl, 1) := dk_120 (dk_at dksX1_pullersOf_2 13 rfl rfl)
theorem dX1_pullersOf_60 : decode cX1_pullersOf 60 = .ok (.goto 4, 3) := dk_167 0 4 (dk_at dksX1_pullersOf_2 14 rfl rfl)
theorem dX1_pullersOf_63 : decode cX1_pullersOf 63 = .ok (.iconst 0, 1) := dk_3 (dk_at dksX1_pullersOf_2 17 rfl rfl)
theorem dX1_pullersOf_64 : decode cX1_pullersOf 64 = .ok (.ior, 1) := dk_128 (dk_at dksX1_pullersOf_2 18 rfl rfl)
theorem dX1_pullersOf_65 : decode cX1_pullersOf 65 = .ok (.istore_n 3, 1) := dk_62 (dk_at dksX1_pullersOf_2 19 rfl rfl)
theorem dX1_pullersOf_66 : decode cX1_pullersOf 66 = .ok (.iinc 4 1, 3) := dk_132 4 1 (dk_at dksX1_pullersOf_2 20 rfl rfl)
theorem dX1_pullersOf_69 : decode cX1_pullersOf 69 = .ok (.goto (-62), 3) := dk_167 255 194 (dk_at dksX1_pullersOf_3 0 rfl rfl)
theorem dX1_pullersOf_72 : decode cX1_pullersOf 72 = .ok (.iload_n 3, 1) := dk_29 (dk_at dksX1_pullersOf_3 3 rfl rfl)
theorem dX1_pullersOf_73 : decode cX1_pullersOf 73 = .ok (.ireturn, 1) := dk_172 (dk_at dksX1_pullersOf_3 4 rfl rfl)
abbrev cX1_fair : ByteArray := prog_15_method_31_code
def yX1_fair : MethodName := ⟨RX1, "fair", "(I)I"⟩
def dkwX1_fair_1 : List UInt8 := [27, 182, 0, 146, 153, 0, 7, 4, 167, 0, 4, 3, 172]
abbrev dktX1_fair_1 : List UInt8 := dkwX1_fair_1 ++ []
def dkwX1_fair_0 : List UInt8 := [42, 180, 0, 59, 154, 0, 6, 16, 253, 172, 42, 27, 182, 0, 143, 154, 0, 8, 16, 254, 167, 0, 16, 42]
abbrev dktX1_fair_0 : List UInt8 := dkwX1_fair_0 ++ dktX1_fair_1
theorem dksX1_fair_0 : cX1_fair.data.toList.drop 0 = dktX1_fair_0 := by decide +kernel
theorem dksX1_fair_1 : cX1_fair.data.toList.drop 24 = dktX1_fair_1 := dk_seg dksX1_fair_0 24 rfl rfl
theorem dX1_fair_0 : decode cX1_fair 0 = .ok (.aload_n 0, 1) := dk_42 (dk_at dksX1_fair_0 0 rfl rfl)
theorem dX1_fair_1 : decode cX1_fair 1 = .ok (.getfield 59, 3) := dk_180 0 59 (dk_at dksX1_fair_0 1 rfl rfl)
theorem dX1_fair_4 : decode cX1_fair 4 = .ok (.ifCond .ne 6, 3) := dk_154 0 6 (dk_at dksX1_fair_0 4 rfl rfl)
theorem dX1_fair_7 : decode cX1_fair 7 = .ok (.bipush (-3), 2) := dk_16 253 (dk_at dksX1_fair_0 7 rfl rfl)
theorem dX1_fair_9 : decode cX1_fair 9 = .ok (.ireturn, 1) := dk_172 (dk_at dksX1_fair_0 9 rfl rfl)
theorem dX1_fair_10 : decode cX1_fair 10 = .ok (.aload_n 0, 1) := dk_42 (dk_at dksX1_fair_0 10 rfl rfl)
theorem dX1_fair_11 : decode cX1_fair 11 = .ok (.iload_n 1, 1) := dk_27 (dk_at dksX1_fair_0 11 rfl rfl)
theorem dX1_fair_12 : decode cX1_fair 12 = .ok (.invokevirtual 143, 3) := dk_182 0 143 (dk_at dksX1_fair_0 12 rfl rfl)
theorem dX1_fair_15 : decode cX1_fair 15 = .ok (.ifCond .ne 8, 3) := dk_154 0 8 (dk_at dksX1_fair_0 15 rfl rfl)
theorem dX1_fair_18 : decode cX1_fair 18 = .ok (.bipush (-2), 2) := dk_16 254 (dk_at dksX1_fair_0 18 rfl rfl)
theorem dX1_fair_20 : decode cX1_fair 20 = .ok (.goto 16, 3) := dk_167 0 16 (dk_at dksX1_fair_0 20 rfl rfl)
theorem dX1_fair_23 : decode cX1_fair 23 = .ok (.aload_n 0, 1) := dk_42 (dk_at dksX1_fair_0 23 rfl rfl)
theorem dX1_fair_24 : decode cX1_fair 24 = .ok (.iload_n 1, 1) := dk_27 (dk_at dksX1_fair_1 0 rfl rfl)
theorem dX1_fair_25 : decode cX1_fair 25 = .ok (.invokevirtual 146, 3) := dk_182 0 146 (dk_at dksX1_fair_1 1 rfl rfl)
theorem dX1_fair_28 : decode cX1_fair 28 = .ok (.ifCond .eq 7, 3) := dk_153 0 7 (dk_at dksX1_fair_1 4 rfl rfl)
theorem dX1_fair_31 : decode cX1_fair 31 = .ok (.iconst 1, 1) := dk_4 (dk_at dksX1_fair_1 7 rfl rfl)
theorem dX1_fair_32 : decode cX1_fair 32 = .ok (.goto 4, 3) := dk_167 0 4 (dk_at dksX1_fair_1 8 rfl rfl)
theorem dX1_fair_35 : decode cX1_fair 35 = .ok (.iconst 0, 1) := dk_3 (dk_at dksX1_fair_1 11 rfl rfl)
theorem dX1_fair_36 : decode cX1_fair 36 = .ok (.ireturn, 1) := dk_172 (dk_at dksX1_fair_1 12 rfl rfl)
abbrev cX1_isFair : ByteArray := prog_15_method_28_code
def yX1_isFair : MethodName := ⟨RX1, "isFair", "(I)Z"⟩
def dkwX1_isFair_2 : List UInt8 := [153, 0, 15, 42, 180, 0, 22, 29, 46, 4, 160, 0, 5, 3, 172, 132, 3, 1, 167, 255, 225, 4, 172]
abbrev dktX1_isFair_2 : List UInt8 := dkwX1_isFair_2 ++ []
def dkwX1_isFair_1 : List UInt8 := [184, 0, 140, 4, 159, 0, 5, 3, 172, 3, 62, 29, 42, 180, 0, 59, 162, 0, 29, 28, 29, 184, 0, 127]
abbrev dktX1_isFair_1 : List UInt8 := dkwX1_isFair_1 ++ dktX1_isFair_2
def dkwX1_isFair_0 : List UInt8 := [42, 27, 182, 0, 137, 61, 27, 153, 0, 22, 27, 184, 0, 140, 42, 180, 0, 92, 163, 0, 11, 28]
abbrev dktX1_isFair_0 : List UInt8 := dkwX1_isFair_0 ++ dktX1_isFair_1
theorem dksX1_isFair_0 : cX1_isFair.data.toList.drop 0 = dktX1_isFair_0 := by decide +kernel
theorem dksX1_isFair_1 : cX1_isFair.data.toList.drop 22 = dktX1_isFair_1 := dk_seg dksX1_isFair_0 22 rfl rfl
theorem dksX1_isFair_2 : cX1_isFair.data.toList.drop 46 = dktX1_isFair_2 := dk_seg dksX1_isFair_1 24 rfl rfl
theorem dX1_isFair_0 : decode cX1_isFair 0 = .ok (.aload_n 0, 1) := dk_42 (dk_at dksX1_isFair_0 0 rfl rfl)
theorem dX1_isFair_1 : decode cX1_isFair 1 = .ok (.iload_n 1, 1) := dk_27 (dk_at dksX1_isFair_0 1 rfl rfl)
theorem dX1_isFair_2 : decode cX1_isFair 2 = .ok (.invokevirtual 137, 3) := dk_182 0 137 (dk_at dksX1_isFair_0 2 rfl rfl)
theorem dX1_isFair_5 : decode cX1_isFair 5 = .ok (.istore_n 2, 1) := dk_61 (dk_at dksX1_isFair_0 5 rfl rfl)
theorem dX1_isFair_6 : decode cX1_isFair 6 = .ok (.iload_n 1, 1) := dk_27 (dk_at dksX1_isFair_0 6 rfl rfl)
theorem dX1_isFair_7 : decode cX1_isFair 7 = .ok (.ifCond .eq 22, 3) := dk_153 0 22 (dk_at dksX1_isFair_0 7 rfl rfl)
theorem dX1_isFair_10 : decode cX1_isFair 10 = .ok (.iload_n 1, 1) := dk_27 (dk_at dksX1_isFair_0 10 rfl rfl)
theorem dX1_isFair_11 : decode cX1_isFair 11 = .ok (.invokestatic 140, 3) := dk_184 0 140 (dk_at dksX1_isFair_0 11 rfl rfl)
theorem dX1_isFair_14 : decode cX1_isFair 14 = .ok (.aload_n 0, 1) := dk_42 (dk_at dksX1_isFair_0 14 rfl rfl)
theorem dX1_isFair_15 : decode cX1_isFair 15 = .ok (.getfield 92, 3) := dk_180 0 92 (dk_at dksX1_isFair_0 15 rfl rfl)
theorem dX1_isFair_18 : decode cX1_isFair 18 = .ok (.if_icmp .gt 11, 3) := dk_163 0 11 (dk_at dksX1_isFair_0 18 rfl rfl)
theorem dX1_isFair_21 : decode cX1_isFair 21 = .ok (.iload_n 2, 1) := dk_28 (dk_at dksX1_isFair_0 21 rfl rfl)
theorem dX1_isFair_22 : decode cX1_isFair 22 = .ok (.invokestatic 140, 3) := dk_184 0 140 (dk_at dksX1_isFair_1 0 rfl rfl)
theorem dX1_isFair_25 : decode cX1_isFair 25 = .ok (.iconst 1, 1) := dk_4 (dk_at dksX1_isFair_1 3 rfl rfl)
theorem dX1_isFair_26 : decode cX1_isFair 26 = .ok (.if_icmp .eq 5, 3) := dk_159 0 5 (dk_at dksX1_isFair_1 4 rfl rfl)
theorem dX1_isFair_29 : decode cX1_isFair 29 = .ok (.iconst 0, 1) := dk_3 (dk_at dksX1_isFair_1 7 rfl rfl)
theorem dX1_isFair_30 : decode cX1_isFair 30 = .ok (.ireturn, 1) := dk_172 (dk_at dksX1_isFair_1 8 rfl rfl)
theorem dX1_isFair_31 : decode cX1_isFair 31 = .ok (.iconst 0, 1) := dk_3 (dk_at dksX1_isFair_1 9 rfl rfl)
theorem dX1_isFair_32 : decode cX1_isFair 32 = .ok (.istore_n 3, 1) := dk_62 (dk_at dksX1_isFair_1 10 rfl rfl)
theorem dX1_isFair_33 : decode cX1_isFair 33 = .ok (.iload_n 3, 1) := dk_29 (dk_at dksX1_isFair_1 11 rfl rfl)
theorem dX1_isFair_34 : decode cX1_isFair 34 = .ok (.aload_n 0, 1) := dk_42 (dk_at dksX1_isFair_1 12 rfl rfl)
theorem dX1_isFair_35 : decode cX1_isFair 35 = .ok (.getfield 59, 3) := dk_180 0 59 (dk_at dksX1_isFair_1 13 rfl rfl)
theorem dX1_isFair_38 : decode cX1_isFair 38 = .ok (.if_icmp .ge 29, 3) := dk_162 0 29 (dk_at dksX1_isFair_1 16 rfl rfl)
theorem dX1_isFair_41 : decode cX1_isFair 41 = .ok (.iload_n 2, 1) := dk_28 (dk_at dksX1_isFair_1 19 rfl rfl)
theorem dX1_isFair_42 : decode cX1_isFair 42 = .ok (.iload_n 3, 1) := dk_29 (dk_at dksX1_isFair_1 20 rfl rfl)
theorem dX1_isFair_43 : decode cX1_isFair 43 = .ok (.invokestatic 127, 3) := dk_184 0 127 (dk_at dksX1_isFair_1 21 rfl rfl)
theorem dX1_isFair_46 : decode cX1_isFair 46 = .ok (.ifCond .eq 15, 3) := dk_153 0 15 (dk_at dksX1_isFair_2 0 rfl rfl)
theorem dX1_isFair_49 : decode cX1_isFair 49 = .ok (.aload_n 0, 1) := dk_42 (dk_at dksX1_isFair_2 3 rfl rfl)
theorem dX1_isFair_50 : decode cX1_isFair 50 = .ok (.getfield 22, 3) := dk_180 0 22 (dk_at dksX1_isFair_2 4 rfl rfl)
theorem dX1_isFair_53 : decode cX1_isFair 53 = .ok (.iload_n 3, 1) := dk_29 (dk_at dksX1_isFair_2 7 rfl rfl)
theorem dX1_isFair_54 : decode cX1_isFair 54 = .ok (.iaload, 1) := dk_46 (dk_at dksX1_isFair_2 8 rfl rfl)
theorem dX1_isFair_55 : decode cX1_isFair 55 = .ok (.iconst 1, 1) := dk_4 (dk_at dksX1_isFair_2 9 rfl rfl)
theorem dX1_isFair_56 : decode cX1_isFair 56 = .ok (.if_icmp .ne 5, 3) := dk_160 0 5 (dk_at dksX1_isFair_2 10 rfl rfl)
theorem dX1_isFair_59 : decode cX1_isFair 59 = .ok (.iconst 0, 1) := dk_3 (dk_at dksX1_isFair_2 13 rfl rfl)
theorem dX1_isFair_60 : decode cX1_isFair 60 = .ok (.ireturn, 1) := dk_172 (dk_at dksX1_isFair_2 14 rfl rfl)
theorem dX1_isFair_61 : decode cX1_isFair 61 = .ok (.iinc 3 1, 3) := dk_132 3 1 (dk_at dksX1_isFair_2 15 rfl rfl)
theorem dX1_isFair_64 : decode cX1_isFair 64 = .ok (.goto (-31), 3) := dk_167 255 225 (dk_at dksX1_isFair_2 18 rfl rfl)
theorem dX1_isFair_67 : decode cX1_isFair 67 = .ok (.iconst 1, 1) := dk_4 (dk_at dksX1_isFair_2 21 rfl rfl)
theorem dX1_isFair_68 : decode cX1_isFair 68 = .ok (.ireturn, 1) := dk_172 (dk_at dksX1_isFair_2 22 rfl rfl)
abbrev cX1_size : ByteArray := prog_15_method_27_code
def yX1_size : MethodName := ⟨RX1, "size", "(I)I"⟩
def dkwX1_size_0 : List UInt8 := [3, 60, 26, 61, 28, 158, 0, 16, 27, 28, 4, 126, 96, 60, 28, 4, 122, 61, 167, 255, 242, 27, 172]
abbrev dktX1_size_0 : List UInt8 := dkwX1_size_0 ++ []
theorem dksX1_size_0 : cX1_size.data.toList.drop 0 = dktX1_size_0 := by decide +kernel
theorem dX1_size_0 : decode cX1_size 0 = .ok (.iconst 0, 1) := dk_3 (dk_at dksX1_size_0 0 rfl rfl)
theorem dX1_size_1 : decode cX1_size 1 = .ok (.istore_n 1, 1) := dk_60 (dk_at dksX1_size_0 1 rfl rfl)
theorem dX1_size_2 : decode cX1_size 2 = .ok (.iload_n 0, 1) := dk_26 (dk_at dksX1_size_0 2 rfl rfl)
theorem dX1_size_3 : decode cX1_size 3 = .ok (.istore_n 2, 1) := dk_61 (dk_at dksX1_size_0 3 rfl rfl)
theorem dX1_size_4 : decode cX1_size 4 = .ok (.iload_n 2, 1) := dk_28 (dk_at dksX1_size_0 4 rfl rfl)
theorem dX1_size_5 : decode cX1_size 5 = .ok (.ifCond .le 16, 3) := dk_158 0 16 (dk_at dksX1_size_0 5 rfl rfl)
theorem dX1_size_8 : decode cX1_size 8 = .ok (.iload_n 1, 1) := dk_27 (dk_at dksX1_size_0 8 rfl rfl)
theorem dX1_size_9 : decode cX1_size 9 = .ok (.iload_n 2, 1) := dk_28 (dk_at dksX1_size_0 9 rfl rfl)
theorem dX1_size_10 : decode cX1_size 10 = .ok (.iconst 1, 1) := dk_4 (dk_at dksX1_size_0 10 rfl rfl)
theorem dX1_size_11 : decode cX1_size 11 = .ok (.iand, 1) := dk_126 (dk_at dksX1_size_0 11 rfl rfl)
theorem dX1_size_12 : decode cX1_size 12 = .ok (.iadd, 1) := dk_96 (dk_at dksX1_size_0 12 rfl rfl)
theorem dX1_size_13 : decode cX1_size 13 = .ok (.istore_n 1, 1) := dk_60 (dk_at dksX1_size_0 13 rfl rfl)
theorem dX1_size_14 : decode cX1_size 14 = .ok (.iload_n 2, 1) := dk_28 (dk_at dksX1_size_0 14 rfl rfl)
theorem dX1_size_15 : decode cX1_size 15 = .ok (.iconst 1, 1) := dk_4 (dk_at dksX1_size_0 15 rfl rfl)
theorem dX1_size_16 : decode cX1_size 16 = .ok (.ishr, 1) := dk_122 (dk_at dksX1_size_0 16 rfl rfl)
theorem dX1_size_17 : decode cX1_size 17 = .ok (.istore_n 2, 1) := dk_61 (dk_at dksX1_size_0 17 rfl rfl)
theorem dX1_size_18 : decode cX1_size 18 = .ok (.goto (-14), 3) := dk_167 255 242 (dk_at dksX1_size_0 18 rfl rfl)
theorem dX1_size_21 : decode cX1_size 21 = .ok (.iload_n 1, 1) := dk_27 (dk_at dksX1_size_0 21 rfl rfl)
theorem dX1_size_22 : decode cX1_size 22 = .ok (.ireturn, 1) := dk_172 (dk_at dksX1_size_0 22 rfl rfl)
abbrev cX1_loads : ByteArray := prog_15_method_33_code
def yX1_loads : MethodName := ⟨RX1, "loads", "(IIIII)I"⟩
def dkwX1_loads_7 : List UInt8 := [167, 0, 8, 16, 156, 21, 8, 100, 172]
abbrev dktX1_loads_7 : List UInt8 := dkwX1_loads_7 ++ []
def dkwX1_loads_6 : List UInt8 := [54, 8, 21, 5, 4, 160, 0, 6, 21, 8, 172, 21, 8, 16, 247, 160, 0, 12, 42, 21, 5, 182, 0, 164]
abbrev dktX1_loads_6 : List UInt8 := dkwX1_loads_6 ++ dktX1_loads_7
def dkwX1_loads_5 : List UInt8 := [46, 182, 0, 143, 154, 0, 6, 16, 254, 172, 132, 8, 1, 167, 255, 226, 42, 21, 7, 21, 4, 182, 0, 161]
abbrev dktX1_loads_5 : List UInt8 := dkwX1_loads_5 ++ dktX1_loads_6
def dkwX1_loads_4 : List UInt8 := [29, 96, 54, 7, 3, 54, 8, 21, 8, 21, 4, 162, 0, 29, 42, 42, 180, 0, 16, 21, 7, 21, 8, 96]
abbrev dktX1_loads_4 : List UInt8 := dkwX1_loads_4 ++ dktX1_loads_5
def dkwX1_loads_3 : List UInt8 := [153, 0, 10, 42, 21, 6, 182, 0, 76, 172, 42, 180, 0, 59, 154, 0, 6, 16, 253, 172, 16, 60, 27, 104]
abbrev dktX1_loads_3 : List UInt8 := dkwX1_loads_3 ++ dktX1_loads_4
def dkwX1_loads_2 : List UInt8 := [184, 0, 55, 154, 0, 6, 16, 254, 172, 42, 27, 28, 29, 21, 4, 182, 0, 72, 54, 6, 21, 6]
abbrev dktX1_loads_2 : List UInt8 := dkwX1_loads_2 ++ dktX1_loads_3
def dkwX1_loads_1 : List UInt8 := [16, 20, 184, 0, 55, 153, 0, 25, 21, 5, 3, 7, 184, 0, 55, 154, 0, 18, 21, 5, 16, 10, 16, 14]
abbrev dktX1_loads_1 : List UInt8 := dkwX1_loads_1 ++ dktX1_loads_2
def dkwX1_loads_0 : List UInt8 := [42, 3, 181, 0, 49, 27, 184, 0, 65, 154, 0, 5, 2, 172, 28, 184, 0, 69, 153, 0, 36, 21, 4, 3]
abbrev dktX1_loads_0 : List UInt8 := dkwX1_loads_0 ++ dktX1_loads_1
theorem dksX1_loads_0 : cX1_loads.data.toList.drop 0 = dktX1_loads_0 := by decide +kernel
theorem dksX1_loads_1 : cX1_loads.data.toList.drop 24 = dktX1_loads_1 := dk_seg dksX1_loads_0 24 rfl rfl
theorem dksX1_loads_2 : cX1_loads.data.toList.drop 48 = dktX1_loads_2 := dk_seg dksX1_loads_1 24 rfl rfl
theorem dksX1_loads_3 : cX1_loads.data.toList.drop 70 = dktX1_loads_3 := dk_seg dksX1_loads_2 22 rfl rfl
theorem dksX1_loads_4 : cX1_loads.data.toList.drop 94 = dktX1_loads_4 := dk_seg dksX1_loads_3 24 rfl rfl
theorem dksX1_loads_5 : cX1_loads.data.toList.drop 118 = dktX1_loads_5 := dk_seg dksX1_loads_4 24 rfl rfl
theorem dksX1_loads_6 : cX1_loads.data.toList.drop 142 = dktX1_loads_6 := dk_seg dksX1_loads_5 24 rfl rfl
theorem dksX1_loads_7 : cX1_loads.data.toList.drop 166 = dktX1_loads_7 := dk_seg dksX1_loads_6 24 rfl rfl
theorem dX1_loads_0 : decode cX1_loads 0 = .ok (.aload_n 0, 1) := dk_42 (dk_at dksX1_loads_0 0 rfl rfl)
theorem dX1_loads_1 : decode cX1_loads 1 = .ok (.iconst 0, 1) := dk_3 (dk_at dksX1_loads_0 1 rfl rfl)
theorem dX1_loads_2 : decode cX1_loads 2 = .ok (.putfield 49, 3) := dk_181 0 49 (dk_at dksX1_loads_0 2 rfl rfl)
theorem dX1_loads_5 : decode cX1_loads 5 = .ok (.iload_n 1, 1) := dk_27 (dk_at dksX1_loads_0 5 rfl rfl)
theorem dX1_loads_6 : decode cX1_loads 6 = .ok (.invokestatic 65, 3) := dk_184 0 65 (dk_at dksX1_loads_0 6 rfl rfl)
theorem dX1_loads_9 : decode cX1_loads 9 = .ok (.ifCond .ne 5, 3) := dk_154 0 5 (dk_at dksX1_loads_0 9 rfl rfl)
theorem dX1_loads_12 : decode cX1_loads 12 = .ok (.iconst (-1), 1) := dk_2 (dk_at dksX1_loads_0 12 rfl rfl)
theorem dX1_loads_13 : decode cX1_loads 13 = .ok (.ireturn, 1) := dk_172 (dk_at dksX1_loads_0 13 rfl rfl)
theorem dX1_loads_14 : decode cX1_loads 14 = .ok (.iload_n 2, 1) := dk_28 (dk_at dksX1_loads_0 14 rfl rfl)
theorem dX1_loads_15 : decode cX1_loads 15 = .ok (.invokestatic 69, 3) := dk_184 0 69 (dk_at dksX1_loads_0 15 rfl rfl)
theorem dX1_loads_18 : decode cX1_loads 18 = .ok (.ifCond .eq 36, 3) := dk_153 0 36 (dk_at dksX1_loads_0 18 rfl rfl)
theorem dX1_loads_21 : decode cX1_loads 21 = .ok (.iload 4, 2) := dk_21 4 (dk_at dksX1_loads_0 21 rfl rfl)
theorem dX1_loads_23 : decode cX1_loads 23 = .ok (.iconst 0, 1) := dk_3 (dk_at dksX1_loads_0 23 rfl rfl)
theorem dX1_loads_24 : decode cX1_loads 24 = .ok (.bipush 20, 2) := dk_16 20 (dk_at dksX1_loads_1 0 rfl rfl)
theorem dX1_loads_26 : decode cX1_loads 26 = .ok (.invokestatic 55, 3) := dk_184 0 55 (dk_at dksX1_loads_1 2 rfl rfl)
theorem dX1_loads_29 : decode cX1_loads 29 = .ok (.ifCond .eq 25, 3) := dk_153 0 25 (dk_at dksX1_loads_1 5 rfl rfl)
theorem dX1_loads_32 : decode cX1_loads 32 = .ok (.iload 5, 2) := dk_21 5 (dk_at dksX1_loads_1 8 rfl rfl)
theorem dX1_loads_34 : decode cX1_loads 34 = .ok (.iconst 0, 1) := dk_3 (dk_at dksX1_loads_1 10 rfl rfl)
theorem dX1_loads_35 : decode cX1_loads 35 = .ok (.iconst 4, 1) := dk_7 (dk_at dksX1_loads_1 11 rfl rfl)
theorem dX1_loads_36 : decode cX1_loads 36 = .ok (.invokestatic 55, 3) := dk_184 0 55 (dk_at dksX1_loads_1 12 rfl rfl)
theorem dX1_loads_39 : decode cX1_loads 39 = .ok (.ifCond .ne 18, 3) := dk_154 0 18 (dk_at dksX1_loads_1 15 rfl rfl)
theorem dX1_loads_42 : decode cX1_loads 42 = .ok (.iload 5, 2) := dk_21 5 (dk_at dksX1_loads_1 18 rfl rfl)
theorem dX1_loads_44 : decode cX1_loads 44 = .ok (.bipush 10, 2) := dk_16 10 (dk_at dksX1_loads_1 20 rfl rfl)
theorem dX1_loads_46 : decode cX1_loads 46 = .ok (.bipush 14, 2) := dk_16 14 (dk_at dksX1_loads_1 22 rfl rfl)
theorem dX1_loads_48 : decode cX1_loads 48 = .ok (.invokestatic 55, 3) := dk_184 0 55 (dk_at dksX1_loads_2 0 rfl rfl)
theorem dX1_loads_51 : decode cX1_loads 51 = .ok (.ifCond .ne 6, 3) := dk_154 0 6 (dk_at dksX1_loads_2 3 rfl rfl)
theorem dX1_loads_54 : decode cX1_loads 54 = .ok (.bipush (-2), 2) := dk_16 254 (dk_at dksX1_loads_2 6 rfl rfl)
theorem dX1_loads_56 : decode cX1_loads 56 = .ok (.ireturn, 1) := dk_172 (dk_at dksX1_loads_2 8 rfl rfl)
theorem dX1_loads_57 : decode cX1_loads 57 = .ok (.aload_n 0, 1) := dk_42 (dk_at dksX1_loads_2 9 rfl rfl)
theorem dX1_loads_58 : decode cX1_loads 58 = .ok (.iload_n 1, 1) := dk_27 (dk_at dksX1_loads_2 10 rfl rfl)
theorem dX1_loads_59 : decode cX1_loads 59 = .ok (.iload_n 2, 1) := dk_28 (dk_at dksX1_loads_2 11 rfl rfl)
theorem dX1_loads_60 : decode cX1_loads 60 = .ok (.iload_n 3, 1) := dk_29 (dk_at dksX1_loads_2 12 rfl rfl)
theorem dX1_loads_61 : decode cX1_loads 61 = .ok (.iload 4, 2) := dk_21 4 (dk_at dksX1_loads_2 13 rfl rfl)
theorem dX1_loads_63 : decode cX1_loads 63 = .ok (.invokevirtual 72, 3) := dk_182 0 72 (dk_at dksX1_loads_2 15 rfl rfl)
theorem dX1_loads_66 : decode cX1_loads 66 = .ok (.istore 6, 2) := dk_54 6 (dk_at dksX1_loads_2 18 rfl rfl)
theorem dX1_loads_68 : decode cX1_loads 68 = .ok (.iload 6, 2) := dk_21 6 (dk_at dksX1_loads_2 20 rfl rfl)
theorem dX1_loads_70 : decode cX1_loads 70 = .ok (.ifCond .eq 10, 3) := dk_153 0 10 (dk_at dksX1_loads_3 0 rfl rfl)
theorem dX1_loads_73 : decode cX1_loads 73 = .ok (.aload_n 0, 1) := dk_42 (dk_at dksX1_loads_3 3 rfl rfl)
theorem dX1_loads_74 : decode cX1_loads 74 = .ok (.iload 6, 2) := dk_21 6 (dk_at dksX1_loads_3 4 rfl rfl)
theorem dX1_loads_76 : decode cX1_loads 76 = .ok (.invokevirtual 76, 3) := dk_182 0 76 (dk_at dksX1_loads_3 6 rfl rfl)
theorem dX1_loads_79 : decode cX1_loads 79 = .ok (.ireturn, 1) := dk_172 (dk_at dksX1_loads_3 9 rfl rfl)
theorem dX1_loads_80 : decode cX1_loads 80 = .ok (.aload_n 0, 1) := dk_42 (dk_at dksX1_loads_3 10 rfl rfl)
theorem dX1_loads_81 : decode cX1_loads 81 = .ok (.getfield 59, 3) := dk_180 0 59 (dk_at dksX1_loads_3 11 rfl rfl)
theorem dX1_loads_84 : decode cX1_loads 84 = .ok (.ifCond .ne 6, 3) := dk_154 0 6 (dk_at dksX1_loads_3 14 rfl rfl)
theorem dX1_loads_87 : decode cX1_loads 87 = .ok (.bipush (-3), 2) := dk_16 253 (dk_at dksX1_loads_3 17 rfl rfl)
theorem dX1_loads_89 : decode cX1_loads 89 = .ok (.ireturn, 1) := dk_172 (dk_at dksX1_loads_3 19 rfl rfl)
theorem dX1_loads_90 : decode cX1_loads 90 = .ok (.bipush 60, 2) := dk_16 60 (dk_at dksX1_loads_3 20 rfl rfl)
theorem dX1_loads_92 : decode cX1_loads 92 = .ok (.iload_n 1, 1) := dk_27 (dk_at dksX1_loads_3 22 rfl rfl)
theorem dX1_loads_93 : decode cX1_loads 93 = .ok (.imul, 1) := dk_104 (dk_at dksX1_loads_3 23 rfl rfl)
theorem dX1_loads_94 : decode cX1_loads 94 = .ok (.iload_n 3, 1) := dk_29 (dk_at dksX1_loads_4 0 rfl rfl)
theorem dX1_loads_95 : decode cX1_loads 95 = .ok (.iadd, 1) := dk_96 (dk_at dksX1_loads_4 1 rfl rfl)
theorem dX1_loads_96 : decode cX1_loads 96 = .ok (.istore 7, 2) := dk_54 7 (dk_at dksX1_loads_4 2 rfl rfl)
theorem dX1_loads_98 : decode cX1_loads 98 = .ok (.iconst 0, 1) := dk_3 (dk_at dksX1_loads_4 4 rfl rfl)
theorem dX1_loads_99 : decode cX1_loads 99 = .ok (.istore 8, 2) := dk_54 8 (dk_at dksX1_loads_4 5 rfl rfl)
theorem dX1_loads_101 : decode cX1_loads 101 = .ok (.iload 8, 2) := dk_21 8 (dk_at dksX1_loads_4 7 rfl rfl)
theorem dX1_loads_103 : decode cX1_loads 103 = .ok (.iload 4, 2) := dk_21 4 (dk_at dksX1_loads_4 9 rfl rfl)
theorem dX1_loads_105 : decode cX1_loads 105 = .ok (.if_icmp .ge 29, 3) := dk_162 0 29 (dk_at dksX1_loads_4 11 rfl rfl)
theorem dX1_loads_108 : decode cX1_loads 108 = .ok (.aload_n 0, 1) := dk_42 (dk_at dksX1_loads_4 14 rfl rfl)
theorem dX1_loads_109 : decode cX1_loads 109 = .ok (.aload_n 0, 1) := dk_42 (dk_at dksX1_loads_4 15 rfl rfl)
theorem dX1_loads_110 : decode cX1_loads 110 = .ok (.getfield 16, 3) := dk_180 0 16 (dk_at dksX1_loads_4 16 rfl rfl)
theorem dX1_loads_113 : decode cX1_loads 113 = .ok (.iload 7, 2) := dk_21 7 (dk_at dksX1_loads_4 19 rfl rfl)
theorem dX1_loads_115 : decode cX1_loads 115 = .ok (.iload 8, 2) := dk_21 8 (dk_at dksX1_loads_4 21 rfl rfl)
theorem dX1_loads_117 : decode cX1_loads 117 = .ok (.iadd, 1) := dk_96 (dk_at dksX1_loads_4 23 rfl rfl)
theorem dX1_loads_118 : decode cX1_loads 118 = .ok (.iaload, 1) := dk_46 (dk_at dksX1_loads_5 0 rfl rfl)
theorem dX1_loads_119 : decode cX1_loads 119 = .ok (.invokevirtual 143, 3) := dk_182 0 143 (dk_at dksX1_loads_5 1 rfl rfl)
theorem dX1_loads_122 : decode cX1_loads 122 = .ok (.ifCond .ne 6, 3) := dk_154 0 6 (dk_at dksX1_loads_5 4 rfl rfl)
theorem dX1_loads_125 : decode cX1_loads 125 = .ok (.bipush (-2), 2) := dk_16 254 (dk_at dksX1_loads_5 7 rfl rfl)
theorem dX1_loads_127 : decode cX1_loads 127 = .ok (.ireturn, 1) := dk_172 (dk_at dksX1_loads_5 9 rfl rfl)
theorem dX1_loads_128 : decode cX1_loads 128 = .ok (.iinc 8 1, 3) := dk_132 8 1 (dk_at dksX1_loads_5 10 rfl rfl)
theorem dX1_loads_131 : decode cX1_loads 131 = .ok (.goto (-30), 3) := dk_167 255 226 (dk_at dksX1_loads_5 13 rfl rfl)
theorem dX1_loads_134 : decode cX1_loads 134 = .ok (.aload_n 0, 1) := dk_42 (dk_at dksX1_loads_5 16 rfl rfl)
theorem dX1_loads_135 : decode cX1_loads 135 = .ok (.iload 7, 2) := dk_21 7 (dk_at dksX1_loads_5 17 rfl rfl)
theorem dX1_loads_137 : decode cX1_loads 137 = .ok (.iload 4, 2) := dk_21 4 (dk_at dksX1_loads_5 19 rfl rfl)
theorem dX1_loads_139 : decode cX1_loads 139 = .ok (.invokevirtual 161, 3) := dk_182 0 161 (dk_at dksX1_loads_5 21 rfl rfl)
theorem dX1_loads_142 : decode cX1_loads 142 = .ok (.istore 8, 2) := dk_54 8 (dk_at dksX1_loads_6 0 rfl rfl)
theorem dX1_loads_144 : decode cX1_loads 144 = .ok (.iload 5, 2) := dk_21 5 (dk_at dksX1_loads_6 2 rfl rfl)
theorem dX1_loads_146 : decode cX1_loads 146 = .ok (.iconst 1, 1) := dk_4 (dk_at dksX1_loads_6 4 rfl rfl)
theorem dX1_loads_147 : decode cX1_loads 147 = .ok (.if_icmp .ne 6, 3) := dk_160 0 6 (dk_at dksX1_loads_6 5 rfl rfl)
theorem dX1_loads_150 : decode cX1_loads 150 = .ok (.iload 8, 2) := dk_21 8 (dk_at dksX1_loads_6 8 rfl rfl)
theorem dX1_loads_152 : decode cX1_loads 152 = .ok (.ireturn, 1) := dk_172 (dk_at dksX1_loads_6 10 rfl rfl)
theorem dX1_loads_153 : decode cX1_loads 153 = .ok (.iload 8, 2) := dk_21 8 (dk_at dksX1_loads_6 11 rfl rfl)
theorem dX1_loads_155 : decode cX1_loads 155 = .ok (.bipush (-9), 2) := dk_16 247 (dk_at dksX1_loads_6 13 rfl rfl)
theorem dX1_loads_157 : decode cX1_loads 157 = .ok (.if_icmp .ne 12, 3) := dk_160 0 12 (dk_at dksX1_loads_6 15 rfl rfl)
theorem dX1_loads_160 : decode cX1_loads 160 = .ok (.aload_n 0, 1) := dk_42 (dk_at dksX1_loads_6 18 rfl rfl)
theorem dX1_loads_161 : decode cX1_loads 161 = .ok (.iload 5, 2) := dk_21 5 (dk_at dksX1_loads_6 19 rfl rfl)
theorem dX1_loads_163 : decode cX1_loads 163 = .ok (.invokevirtual 164, 3) := dk_182 0 164 (dk_at dksX1_loads_6 21 rfl rfl)
theorem dX1_loads_166 : decode cX1_loads 166 = .ok (.goto 8, 3) := dk_167 0 8 (dk_at dksX1_loads_7 0 rfl rfl)
theorem dX1_loads_169 : decode cX1_loads 169 = .ok (.bipush (-100), 2) := dk_16 156 (dk_at dksX1_loads_7 3 rfl rfl)
theorem dX1_loads_171 : decode cX1_loads 171 = .ok (.iload 8, 2) := dk_21 8 (dk_at dksX1_loads_7 5 rfl rfl)
theorem dX1_loads_173 : decode cX1_loads 173 = .ok (.isub, 1) := dk_100 (dk_at dksX1_loads_7 7 rfl rfl)
theorem dX1_loads_174 : decode cX1_loads 174 = .ok (.ireturn, 1) := dk_172 (dk_at dksX1_loads_7 8 rfl rfl)
abbrev cX1_goLoads : ByteArray := prog_15_method_32_code
def yX1_goLoads : MethodName := ⟨RX1, "goLoads", "(II)I"⟩
def dkwX1_goLoads_9 : List UInt8 := [132, 3, 1, 167, 255, 82, 16, 247, 172]
abbrev dktX1_goLoads_9 : List UInt8 := dkwX1_goLoads_9 ++ []
def dkwX1_goLoads_8 : List UInt8 := [21, 5, 21, 6, 184, 0, 127, 153, 0, 7, 4, 167, 0, 4, 3, 96, 79, 132, 6, 1, 167, 255, 219]
abbrev dktX1_goLoads_8 : List UInt8 := dkwX1_goLoads_8 ++ dktX1_goLoads_9
def dkwX1_goLoads_7 : List UInt8 := [181, 0, 155, 3, 54, 6, 21, 6, 42, 180, 0, 59, 162, 0, 34, 42, 180, 0, 37, 21, 6, 92, 46]
abbrev dktX1_goLoads_7 : List UInt8 := dkwX1_goLoads_7 ++ dktX1_goLoads_8
def dkwX1_goLoads_6 : List UInt8 := [167, 0, 4, 3, 96, 181, 0, 152, 42, 89, 180, 0, 155, 21, 5, 154, 0, 7, 4, 167, 0, 4, 3, 96]
abbrev dktX1_goLoads_6 : List UInt8 := dkwX1_goLoads_6 ++ dktX1_goLoads_7
def dkwX1_goLoads_5 : List UInt8 := [4, 167, 0, 4, 3, 96, 181, 0, 149, 42, 89, 180, 0, 152, 21, 5, 184, 0, 140, 4, 164, 0, 7, 4]
abbrev dktX1_goLoads_5 : List UInt8 := dkwX1_goLoads_5 ++ dktX1_goLoads_6
def dkwX1_goLoads_4 : List UInt8 := [89, 180, 0, 158, 21, 4, 128, 181, 0, 158, 42, 89, 180, 0, 149, 42, 21, 4, 182, 0, 146, 153, 0, 7]
abbrev dktX1_goLoads_4 : List UInt8 := dkwX1_goLoads_4 ++ dktX1_goLoads_5
def dkwX1_goLoads_3 : List UInt8 := [163, 0, 13, 21, 4, 42, 180, 0, 158, 126, 153, 0, 5, 29, 172, 42, 21, 4, 182, 0, 137, 54, 5, 42]
abbrev dktX1_goLoads_3 : List UInt8 := dkwX1_goLoads_3 ++ dktX1_goLoads_4
def dkwX1_goLoads_2 : List UInt8 := [180, 0, 16, 27, 29, 96, 46, 54, 4, 21, 4, 153, 0, 25, 21, 4, 184, 0, 140, 42, 180, 0, 92]
abbrev dktX1_goLoads_2 : List UInt8 := dkwX1_goLoads_2 ++ dktX1_goLoads_3
def dkwX1_goLoads_1 : List UInt8 := [162, 0, 16, 42, 180, 0, 37, 29, 3, 79, 132, 3, 1, 167, 255, 241, 3, 62, 29, 28, 162, 0, 175, 42]
abbrev dktX1_goLoads_1 : List UInt8 := dkwX1_goLoads_1 ++ dktX1_goLoads_2
def dkwX1_goLoads_0 : List UInt8 := [42, 3, 181, 0, 149, 42, 3, 181, 0, 152, 42, 3, 181, 0, 155, 42, 3, 181, 0, 158, 3, 62, 29, 8]
abbrev dktX1_goLoads_0 : List UInt8 := dkwX1_goLoads_0 ++ dktX1_goLoads_1
theorem dksX1_goLoads_0 : cX1_goLoads.data.toList.drop 0 = dktX1_goLoads_0 := by decide +kernel
theorem dksX1_goLoads_1 : cX1_goLoads.data.toList.drop 24 = dktX1_goLoads_1 := dk_seg dksX1_goLoads_0 24 rfl rfl
theorem dksX1_goLoads_2 : cX1_goLoads.data.toList.drop 48 = dktX1_goLoads_2 := dk_seg dksX1_goLoads_1 24 rfl rfl
theorem dksX1_goLoads_3 : cX1_goLoads.data.toList.drop 71 = dktX1_goLoads_3 := dk_seg dksX1_goLoads_2 23 rfl rfl
theorem dksX1_goLoads_4 : cX1_goLoads.data.toList.drop 95 = dktX1_goLoads_4 := dk_seg dksX1_goLoads_3 24 rfl rfl
theorem dksX1_goLoads_5 : cX1_goLoads.data.toList.drop 119 = dktX1_goLoads_5 := dk_seg dksX1_goLoads_4 24 rfl rfl
theorem dksX1_goLoads_6 : cX1_goLoads.data.toList.drop 143 = dktX1_goLoads_6 := dk_seg dksX1_goLoads_5 24 rfl rfl
theorem dksX1_goLoads_7 : cX1_goLoads.data.toList.drop 167 = dktX1_goLoads_7 := dk_seg dksX1_goLoads_6 24 rfl rfl
theorem dksX1_goLoads_8 : cX1_goLoads.data.toList.drop 190 = dktX1_goLoads_8 := dk_seg dksX1_goLoads_7 23 rfl rfl
theorem dksX1_goLoads_9 : cX1_goLoads.data.toList.drop 213 = dktX1_goLoads_9 := dk_seg dksX1_goLoads_8 23 rfl rfl
theorem dX1_goLoads_0 : decode cX1_goLoads 0 = .ok (.aload_n 0, 1) := dk_42 (dk_at dksX1_goLoads_0 0 rfl rfl)
theorem dX1_goLoads_1 : decode cX1_goLoads 1 = .ok (.iconst 0, 1) := dk_3 (dk_at dksX1_goLoads_0 1 rfl rfl)
theorem dX1_goLoads_2 : decode cX1_goLoads 2 = .ok (.putfield 149, 3) := dk_181 0 149 (dk_at dksX1_goLoads_0 2 rfl rfl)
theorem dX1_goLoads_5 : decode cX1_goLoads 5 = .ok (.aload_n 0, 1) := dk_42 (dk_at dksX1_goLoads_0 5 rfl rfl)
theorem dX1_goLoads_6 : decode cX1_goLoads 6 = .ok (.iconst 0, 1) := dk_3 (dk_at dksX1_goLoads_0 6 rfl rfl)
theorem dX1_goLoads_7 : decode cX1_goLoads 7 = .ok (.putfield 152, 3) := dk_181 0 152 (dk_at dksX1_goLoads_0 7 rfl rfl)
theorem dX1_goLoads_10 : decode cX1_goLoads 10 = .ok (.aload_n 0, 1) := dk_42 (dk_at dksX1_goLoads_0 10 rfl rfl)
theorem dX1_goLoads_11 : decode cX1_goLoads 11 = .ok (.iconst 0, 1) := dk_3 (dk_at dksX1_goLoads_0 11 rfl rfl)
theorem dX1_goLoads_12 : decode cX1_goLoads 12 = .ok (.putfield 155, 3) := dk_181 0 155 (dk_at dksX1_goLoads_0 12 rfl rfl)
theorem dX1_goLoads_15 : decode cX1_goLoads 15 = .ok (.aload_n 0, 1) := dk_42 (dk_at dksX1_goLoads_0 15 rfl rfl)
theorem dX1_goLoads_16 : decode cX1_goLoads 16 = .ok (.iconst 0, 1) := dk_3 (dk_at dksX1_goLoads_0 16 rfl rfl)
theorem dX1_goLoads_17 : decode cX1_goLoads 17 = .ok (.putfield 158, 3) := dk_181 0 158 (dk_at dksX1_goLoads_0 17 rfl rfl)
theorem dX1_goLoads_20 : decode cX1_goLoads 20 = .ok (.iconst 0, 1) := dk_3 (dk_at dksX1_goLoads_0 20 rfl rfl)
theorem dX1_goLoads_21 : decode cX1_goLoads 21 = .ok (.istore_n 3, 1) := dk_62 (dk_at dksX1_goLoads_0 21 rfl rfl)
theorem dX1_goLoads_22 : decode cX1_goLoads 22 = .ok (.iload_n 3, 1) := dk_29 (dk_at dksX1_goLoads_0 22 rfl rfl)
theorem dX1_goLoads_23 : decode cX1_goLoads 23 = .ok (.iconst 5, 1) := dk_8 (dk_at dksX1_goLoads_0 23 rfl rfl)
theorem dX1_goLoads_24 : decode cX1_goLoads 24 = .ok (.if_icmp .ge 16, 3) := dk_162 0 16 (dk_at dksX1_goLoads_1 0 rfl rfl)
theorem dX1_goLoads_27 : decode cX1_goLoads 27 = .ok (.aload_n 0, 1) := dk_42 (dk_at dksX1_goLoads_1 3 rfl rfl)
theorem dX1_goLoads_28 : decode cX1_goLoads 28 = .ok (.getfield 37, 3) := dk_180 0 37 (dk_at dksX1_goLoads_1 4 rfl rfl)
theorem dX1_goLoads_31 : decode cX1_goLoads 31 = .ok (.iload_n 3, 1) := dk_29 (dk_at dksX1_goLoads_1 7 rfl rfl)
theorem dX1_goLoads_32 : decode cX1_goLoads 32 = .ok (.iconst 0, 1) := dk_3 (dk_at dksX1_goLoads_1 8 rfl rfl)
theorem dX1_goLoads_33 : decode cX1_goLoads 33 = .ok (.iastore, 1) := dk_79 (dk_at dksX1_goLoads_1 9 rfl rfl)
theorem dX1_goLoads_34 : decode cX1_goLoads 34 = .ok (.iinc 3 1, 3) := dk_132 3 1 (dk_at dksX1_goLoads_1 10 rfl rfl)
theorem dX1_goLoads_37 : decode cX1_goLoads 37 = .ok (.goto (-15), 3) := dk_167 255 241 (dk_at dksX1_goLoads_1 13 rfl rfl)
theorem dX1_goLoads_40 : decode cX1_goLoads 40 = .ok (.iconst 0, 1) := dk_3 (dk_at dksX1_goLoads_1 16 rfl rfl)
theorem dX1_goLoads_41 : decode cX1_goLoads 41 = .ok (.istore_n 3, 1) := dk_62 (dk_at dksX1_goLoads_1 17 rfl rfl)
theorem dX1_goLoads_42 : decode cX1_goLoads 42 = .ok (.iload_n 3, 1) := dk_29 (dk_at dksX1_goLoads_1 18 rfl rfl)
theorem dX1_goLoads_43 : decode cX1_goLoads 43 = .ok (.iload_n 2, 1) := dk_28 (dk_at dksX1_goLoads_1 19 rfl rfl)
theorem dX1_goLoads_44 : decode cX1_goLoads 44 = .ok (.if_icmp .ge 175, 3) := dk_162 0 175 (dk_at dksX1_goLoads_1 20 rfl rfl)
theorem dX1_goLoads_47 : decode cX1_goLoads 47 = .ok (.aload_n 0, 1) := dk_42 (dk_at dksX1_goLoads_1 23 rfl rfl)
theorem dX1_goLoads_48 : decode cX1_goLoads 48 = .ok (.getfield 16, 3) := dk_180 0 16 (dk_at dksX1_goLoads_2 0 rfl rfl)
theorem dX1_goLoads_51 : decode cX1_goLoads 51 = .ok (.iload_n 1, 1) := dk_27 (dk_at dksX1_goLoads_2 3 rfl rfl)
theorem dX1_goLoads_52 : decode cX1_goLoads 52 = .ok (.iload_n 3, 1) := dk_29 (dk_at dksX1_goLoads_2 4 rfl rfl)
theorem dX1_goLoads_53 : decode cX1_goLoads 53 = .ok (.iadd, 1) := dk_96 (dk_at dksX1_goLoads_2 5 rfl rfl)
theorem dX1_goLoads_54 : decode cX1_goLoads 54 = .ok (.iaload, 1) := dk_46 (dk_at dksX1_goLoads_2 6 rfl rfl)
theorem dX1_goLoads_55 : decode cX1_goLoads 55 = .ok (.istore 4, 2) := dk_54 4 (dk_at dksX1_goLoads_2 7 rfl rfl)
theorem dX1_goLoads_57 : decode cX1_goLoads 57 = .ok (.iload 4, 2) := dk_21 4 (dk_at dksX1_goLoads_2 9 rfl rfl)
theorem dX1_goLoads_59 : decode cX1_goLoads 59 = .ok (.ifCond .eq 25, 3) := dk_153 0 25 (dk_at dksX1_goLoads_2 11 rfl rfl)
theorem dX1_goLoads_62 : decode cX1_goLoads 62 = .ok (.iload 4, 2) := dk_21 4 (dk_at dksX1_goLoads_2 14 rfl rfl)
theorem dX1_goLoads_64 : decode cX1_goLoads 64 = .ok (.invokestatic 140, 3) := dk_184 0 140 (dk_at dksX1_goLoads_2 16 rfl rfl)
theorem dX1_goLoads_67 : decode cX1_goLoads 67 = .ok (.aload_n 0, 1) := dk_42 (dk_at dksX1_goLoads_2 19 rfl rfl)
theorem dX1_goLoads_68 : decode cX1_goLoads 68 = .ok (.getfield 92, 3) := dk_180 0 92 (dk_at dksX1_goLoads_2 20 rfl rfl)
theorem dX1_goLoads_71 : decode cX1_goLoads 71 = .ok (.if_icmp .gt 13, 3) := dk_163 0 13 (dk_at dksX1_goLoads_3 0 rfl rfl)
theorem dX1_goLoads_74 : decode cX1_goLoads 74 = .ok (.iload 4, 2) := dk_21 4 (dk_at dksX1_goLoads_3 3 rfl rfl)
theorem dX1_goLoads_76 : decode cX1_goLoads 76 = .ok (.aload_n 0, 1) := dk_42 (dk_at dksX1_goLoads_3 5 rfl rfl)
theorem dX1_goLoads_77 : decode cX1_goLoads 77 = .ok (.getfield 158, 3) := dk_180 0 158 (dk_at dksX1_goLoads_3 6 rfl rfl)
theorem dX1_goLoads_80 : decode cX1_goLoads 80 = .ok (.iand, 1) := dk_126 (dk_at dksX1_goLoads_3 9 rfl rfl)
theorem dX1_goLoads_81 : decode cX1_goLoads 81 = .ok (.ifCond .eq 5, 3) := dk_153 0 5 (dk_at dksX1_goLoads_3 10 rfl rfl)
theorem dX1_goLoads_84 : decode cX1_goLoads 84 = .ok (.iload_n 3, 1) := dk_29 (dk_at dksX1_goLoads_3 13 rfl rfl)
theorem dX1_goLoads_85 : decode cX1_goLoads 85 = .ok (.ireturn, 1) := dk_172 (dk_at dksX1_goLoads_3 14 rfl rfl)
theorem dX1_goLoads_86 : decode cX1_goLoads 86 = .ok (.aload_n 0, 1) := dk_42 (dk_at dksX1_goLoads_3 15 rfl rfl)
theorem dX1_goLoads_87 : decode cX1_goLoads 87 = .ok (.iload 4, 2) := dk_21 4 (dk_at dksX1_goLoads_3 16 rfl rfl)
theorem dX1_goLoads_89 : decode cX1_goLoads 89 = .ok (.invokevirtual 137, 3) := dk_182 0 137 (dk_at dksX1_goLoads_3 18 rfl rfl)
theorem dX1_goLoads_92 : decode cX1_goLoads 92 = .ok (.istore 5, 2) := dk_54 5 (dk_at dksX1_goLoads_3 21 rfl rfl)
theorem dX1_goLoads_94 : decode cX1_goLoads 94 = .ok (.aload_n 0, 1) := dk_42 (dk_at dksX1_goLoads_3 23 rfl rfl)
theorem dX1_goLoads_95 : decode cX1_goLoads 95 = .ok (.dup, 1) := dk_89 (dk_at dksX1_goLoads_4 0 rfl rfl)
theorem dX1_goLoads_96 : decode cX1_goLoads 96 = .ok (.getfield 158, 3) := dk_180 0 158 (dk_at dksX1_goLoads_4 1 rfl rfl)
theorem dX1_goLoads_99 : decode cX1_goLoads 99 = .ok (.iload 4, 2) := dk_21 4 (dk_at dksX1_goLoads_4 4 rfl rfl)
theorem dX1_goLoads_101 : decode cX1_goLoads 101 = .ok (.ior, 1) := dk_128 (dk_at dksX1_goLoads_4 6 rfl rfl)
theorem dX1_goLoads_102 : decode cX1_goLoads 102 = .ok (.putfield 158, 3) := dk_181 0 158 (dk_at dksX1_goLoads_4 7 rfl rfl)
theorem dX1_goLoads_105 : decode cX1_goLoads 105 = .ok (.aload_n 0, 1) := dk_42 (dk_at dksX1_goLoads_4 10 rfl rfl)
theorem dX1_goLoads_106 : decode cX1_goLoads 106 = .ok (.dup, 1) := dk_89 (dk_at dksX1_goLoads_4 11 rfl rfl)
theorem dX1_goLoads_107 : decode cX1_goLoads 107 = .ok (.getfield 149, 3) := dk_180 0 149 (dk_at dksX1_goLoads_4 12 rfl rfl)
theorem dX1_goLoads_110 : decode cX1_goLoads 110 = .ok (.aload_n 0, 1) := dk_42 (dk_at dksX1_goLoads_4 15 rfl rfl)
theorem dX1_goLoads_111 : decode cX1_goLoads 111 = .ok (.iload 4, 2) := dk_21 4 (dk_at dksX1_goLoads_4 16 rfl rfl)
theorem dX1_goLoads_113 : decode cX1_goLoads 113 = .ok (.invokevirtual 146, 3) := dk_182 0 146 (dk_at dksX1_goLoads_4 18 rfl rfl)
theorem dX1_goLoads_116 : decode cX1_goLoads 116 = .ok (.ifCond .eq 7, 3) := dk_153 0 7 (dk_at dksX1_goLoads_4 21 rfl rfl)
theorem dX1_goLoads_119 : decode cX1_goLoads 119 = .ok (.iconst 1, 1) := dk_4 (dk_at dksX1_goLoads_5 0 rfl rfl)
theorem dX1_goLoads_120 : decode cX1_goLoads 120 = .ok (.goto 4, 3) := dk_167 0 4 (dk_at dksX1_goLoads_5 1 rfl rfl)
theorem dX1_goLoads_123 : decode cX1_goLoads 123 = .ok (.iconst 0, 1) := dk_3 (dk_at dksX1_goLoads_5 4 rfl rfl)
theorem dX1_goLoads_124 : decode cX1_goLoads 124 = .ok (.iadd, 1) := dk_96 (dk_at dksX1_goLoads_5 5 rfl rfl)
theorem dX1_goLoads_125 : decode cX1_goLoads 125 = .ok (.putfield 149, 3) := dk_181 0 149 (dk_at dksX1_goLoads_5 6 rfl rfl)
theorem dX1_goLoads_128 : decode cX1_goLoads 128 = .ok (.aload_n 0, 1) := dk_42 (dk_at dksX1_goLoads_5 9 rfl rfl)
theorem dX1_goLoads_129 : decode cX1_goLoads 129 = .ok (.dup, 1) := dk_89 (dk_at dksX1_goLoads_5 10 rfl rfl)
theorem dX1_goLoads_130 : decode cX1_goLoads 130 = .ok (.getfield 152, 3) := dk_180 0 152 (dk_at dksX1_goLoads_5 11 rfl rfl)
theorem dX1_goLoads_133 : decode cX1_goLoads 133 = .ok (.iload 5, 2) := dk_21 5 (dk_at dksX1_goLoads_5 14 rfl rfl)
theorem dX1_goLoads_135 : decode cX1_goLoads 135 = .ok (.invokestatic 140, 3) := dk_184 0 140 (dk_at dksX1_goLoads_5 16 rfl rfl)
theorem dX1_goLoads_138 : decode cX1_goLoads 138 = .ok (.iconst 1, 1) := dk_4 (dk_at dksX1_goLoads_5 19 rfl rfl)
theorem dX1_goLoads_139 : decode cX1_goLoads 139 = .ok (.if_icmp .le 7, 3) := dk_164 0 7 (dk_at dksX1_goLoads_5 20 rfl rfl)
theorem dX1_goLoads_142 : decode cX1_goLoads 142 = .ok (.iconst 1, 1) := dk_4 (dk_at dksX1_goLoads_5 23 rfl rfl)
theorem dX1_goLoads_143 : decode cX1_goLoads 143 = .ok (.goto 4, 3) := dk_167 0 4 (dk_at dksX1_goLoads_6 0 rfl rfl)
theorem dX1_goLoads_146 : decode cX1_goLoads 146 = .ok (.iconst 0, 1) := dk_3 (dk_at dksX1_goLoads_6 3 rfl rfl)
theorem dX1_goLoads_147 : decode cX1_goLoads 147 = .ok (.iadd, 1) := dk_96 (dk_at dksX1_goLoads_6 4 rfl rfl)
theorem dX1_goLoads_148 : decode cX1_goLoads 148 = .ok (.putfield 152, 3) := dk_181 0 152 (dk_at dksX1_goLoads_6 5 rfl rfl)
theorem dX1_goLoads_151 : decode cX1_goLoads 151 = .ok (.aload_n 0, 1) := dk_42 (dk_at dksX1_goLoads_6 8 rfl rfl)
theorem dX1_goLoads_152 : decode cX1_goLoads 152 = .ok (.dup, 1) := dk_89 (dk_at dksX1_goLoads_6 9 rfl rfl)
theorem dX1_goLoads_153 : decode cX1_goLoads 153 = .ok (.getfield 155, 3) := dk_180 0 155 (dk_at dksX1_goLoads_6 10 rfl rfl)
theorem dX1_goLoads_156 : decode cX1_goLoads 156 = .ok (.iload 5, 2) := dk_21 5 (dk_at dksX1_goLoads_6 13 rfl rfl)
theorem dX1_goLoads_158 : decode cX1_goLoads 158 = .ok (.ifCond .ne 7, 3) := dk_154 0 7 (dk_at dksX1_goLoads_6 15 rfl rfl)
theorem dX1_goLoads_161 : decode cX1_goLoads 161 = .ok (.iconst 1, 1) := dk_4 (dk_at dksX1_goLoads_6 18 rfl rfl)
theorem dX1_goLoads_162 : decode cX1_goLoads 162 = .ok (.goto 4, 3) := dk_167 0 4 (dk_at dksX1_goLoads_6 19 rfl rfl)
theorem dX1_goLoads_165 : decode cX1_goLoads 165 = .ok (.iconst 0, 1) := dk_3 (dk_at dksX1_goLoads_6 22 rfl rfl)
theorem dX1_goLoads_166 : decode cX1_goLoads 166 = .ok (.iadd, 1) := dk_96 (dk_at dksX1_goLoads_6 23 rfl rfl)
theorem dX1_goLoads_167 : decode cX1_goLoads 167 = .ok (.putfield 155, 3) := dk_181 0 155 (dk_at dksX1_goLoads_7 0 rfl rfl)
theorem dX1_goLoads_170 : decode cX1_goLoads 170 = .ok (.iconst 0, 1) := dk_3 (dk_at dksX1_goLoads_7 3 rfl rfl)
theorem dX1_goLoads_171 : decode cX1_goLoads 171 = .ok (.istore 6, 2) := dk_54 6 (dk_at dksX1_goLoads_7 4 rfl rfl)
theorem dX1_goLoads_173 : decode cX1_goLoads 173 = .ok (.iload 6, 2) := dk_21 6 (dk_at dksX1_goLoads_7 6 rfl rfl)
theorem dX1_goLoads_175 : decode cX1_goLoads 175 = .ok (.aload_n 0, 1) := dk_42 (dk_at dksX1_goLoads_7 8 rfl rfl)
theorem dX1_goLoads_176 : decode cX1_goLoads 176 = .ok (.getfield 59, 3) := dk_180 0 59 (dk_at dksX1_goLoads_7 9 rfl rfl)
theorem dX1_goLoads_179 : decode cX1_goLoads 179 = .ok (.if_icmp .ge 34, 3) := dk_162 0 34 (dk_at dksX1_goLoads_7 12 rfl rfl)
theorem dX1_goLoads_182 : decode cX1_goLoads 182 = .ok (.aload_n 0, 1) := dk_42 (dk_at dksX1_goLoads_7 15 rfl rfl)
theorem dX1_goLoads_183 : decode cX1_goLoads 183 = .ok (.getfield 37, 3) := dk_180 0 37 (dk_at dksX1_goLoads_7 16 rfl rfl)
theorem dX1_goLoads_186 : decode cX1_goLoads 186 = .ok (.iload 6, 2) := dk_21 6 (dk_at dksX1_goLoads_7 19 rfl rfl)
theorem dX1_goLoads_188 : decode cX1_goLoads 188 = .ok (.dup2, 1) := dk_92 (dk_at dksX1_goLoads_7 21 rfl rfl)
theorem dX1_goLoads_189 : decode cX1_goLoads 189 = .ok (.iaload, 1) := dk_46 (dk_at dksX1_goLoads_7 22 rfl rfl)
theorem dX1_goLoads_190 : decode cX1_goLoads 190 = .ok (.iload 5, 2) := dk_21 5 (dk_at dksX1_goLoads_8 0 rfl rfl)
theorem dX1_goLoads_192 : decode cX1_goLoads 192 = .ok (.iload 6, 2) := dk_21 6 (dk_at dksX1_goLoads_8 2 rfl rfl)
theorem dX1_goLoads_194 : decode cX1_goLoads 194 = .ok (.invokestatic 127, 3) := dk_184 0 127 (dk_at dksX1_goLoads_8 4 rfl rfl)
theorem dX1_goLoads_197 : decode cX1_goLoads 197 = .ok (.ifCond .eq 7, 3) := dk_153 0 7 (dk_at dksX1_goLoads_8 7 rfl rfl)
theorem dX1_goLoads_200 : decode cX1_goLoads 200 = .ok (.iconst 1, 1) := dk_4 (dk_at dksX1_goLoads_8 10 rfl rfl)
theorem dX1_goLoads_201 : decode cX1_goLoads 201 = .ok (.goto 4, 3) := dk_167 0 4 (dk_at dksX1_goLoads_8 11 rfl rfl)
theorem dX1_goLoads_204 : decode cX1_goLoads 204 = .ok (.iconst 0, 1) := dk_3 (dk_at dksX1_goLoads_8 14 rfl rfl)
theorem dX1_goLoads_205 : decode cX1_goLoads 205 = .ok (.iadd, 1) := dk_96 (dk_at dksX1_goLoads_8 15 rfl rfl)
theorem dX1_goLoads_206 : decode cX1_goLoads 206 = .ok (.iastore, 1) := dk_79 (dk_at dksX1_goLoads_8 16 rfl rfl)
theorem dX1_goLoads_207 : decode cX1_goLoads 207 = .ok (.iinc 6 1, 3) := dk_132 6 1 (dk_at dksX1_goLoads_8 17 rfl rfl)
theorem dX1_goLoads_210 : decode cX1_goLoads 210 = .ok (.goto (-37), 3) := dk_167 255 219 (dk_at dksX1_goLoads_8 20 rfl rfl)
theorem dX1_goLoads_213 : decode cX1_goLoads 213 = .ok (.iinc 3 1, 3) := dk_132 3 1 (dk_at dksX1_goLoads_9 0 rfl rfl)
theorem dX1_goLoads_216 : decode cX1_goLoads 216 = .ok (.goto (-174), 3) := dk_167 255 82 (dk_at dksX1_goLoads_9 3 rfl rfl)
theorem dX1_goLoads_219 : decode cX1_goLoads 219 = .ok (.bipush (-9), 2) := dk_16 247 (dk_at dksX1_goLoads_9 6 rfl rfl)
theorem dX1_goLoads_221 : decode cX1_goLoads 221 = .ok (.ireturn, 1) := dk_172 (dk_at dksX1_goLoads_9 8 rfl rfl)
abbrev cX1_tellLoads : ByteArray := prog_15_method_34_code
def yX1_tellLoads : MethodName := ⟨RX1, "tellLoads", "(I)I"⟩
def dkwX1_tellLoads_3 : List UInt8 := [100, 182, 0, 115, 153, 0, 15, 42, 180, 0, 37, 27, 16, 10, 100, 46, 167, 0, 5, 16, 247, 172]
abbrev dktX1_tellLoads_3 : List UInt8 := dkwX1_tellLoads_3 ++ []
def dkwX1_tellLoads_2 : List UInt8 := [42, 180, 0, 149, 172, 42, 180, 0, 158, 172, 42, 180, 0, 152, 172, 42, 180, 0, 155, 172, 42, 27, 16, 10]
abbrev dktX1_tellLoads_2 : List UInt8 := dkwX1_tellLoads_2 ++ dktX1_tellLoads_3
def dkwX1_tellLoads_1 : List UInt8 := [170, 0, 0, 0, 0, 0, 55, 0, 0, 0, 0, 0, 0, 0, 4, 0, 0, 0, 35, 0, 0, 0, 55, 0, 0, 0, 40, 0, 0, 0, 45, 0, 0, 0, 50]
abbrev dktX1_tellLoads_1 : List UInt8 := dkwX1_tellLoads_1 ++ dktX1_tellLoads_2
def dkwX1_tellLoads_0 : List UInt8 := [27]
abbrev dktX1_tellLoads_0 : List UInt8 := dkwX1_tellLoads_0 ++ dktX1_tellLoads_1
theorem dksX1_tellLoads_0 : cX1_tellLoads.data.toList.drop 0 = dktX1_tellLoads_0 := by decide +kernel
theorem dksX1_tellLoads_1 : cX1_tellLoads.data.toList.drop 1 = dktX1_tellLoads_1 := dk_seg dksX1_tellLoads_0 1 rfl rfl
theorem dksX1_tellLoads_2 : cX1_tellLoads.data.toList.drop 36 = dktX1_tellLoads_2 := dk_seg dksX1_tellLoads_1 35 rfl rfl
theorem dksX1_tellLoads_3 : cX1_tellLoads.data.toList.drop 60 = dktX1_tellLoads_3 := dk_seg dksX1_tellLoads_2 24 rfl rfl
theorem dX1_tellLoads_0 : decode cX1_tellLoads 0 = .ok (.iload_n 1, 1) := dk_27 (dk_at dksX1_tellLoads_0 0 rfl rfl)
theorem dX1_tellLoads_1 : decode cX1_tellLoads 1 = .ok (.tableswitch 55 0 4 #[35, 55, 40, 45, 50], 35) := by decide +kernel
theorem dX1_tellLoads_36 : decode cX1_tellLoads 36 = .ok (.aload_n 0, 1) := dk_42 (dk_at dksX1_tellLoads_2 0 rfl rfl)
theorem dX1_tellLoads_37 : decode cX1_tellLoads 37 = .ok (.getfield 149, 3) := dk_180 0 149 (dk_at dksX1_tellLoads_2 1 rfl rfl)
theorem dX1_tellLoads_40 : decode cX1_tellLoads 40 = .ok (.ireturn, 1) := dk_172 (dk_at dksX1_tellLoads_2 4 rfl rfl)
theorem dX1_tellLoads_41 : decode cX1_tellLoads 41 = .ok (.aload_n 0, 1) := dk_42 (dk_at dksX1_tellLoads_2 5 rfl rfl)
theorem dX1_tellLoads_42 : decode cX1_tellLoads 42 = .ok (.getfield 158, 3) := dk_180 0 158 (dk_at dksX1_tellLoads_2 6 rfl rfl)
theorem dX1_tellLoads_45 : decode cX1_tellLoads 45 = .ok (.ireturn, 1) := dk_172 (dk_at dksX1_tellLoads_2 9 rfl rfl)
theorem dX1_tellLoads_46 : decode cX1_tellLoads 46 = .ok (.aload_n 0, 1) := dk_42 (dk_at dksX1_tellLoads_2 10 rfl rfl)
theorem dX1_tellLoads_47 : decode cX1_tellLoads 47 = .ok (.getfield 152, 3) := dk_180 0 152 (dk_at dksX1_tellLoads_2 11 rfl rfl)
theorem dX1_tellLoads_50 : decode cX1_tellLoads 50 = .ok (.ireturn, 1) := dk_172 (dk_at dksX1_tellLoads_2 14 rfl rfl)
theorem dX1_tellLoads_51 : decode cX1_tellLoads 51 = .ok (.aload_n 0, 1) := dk_42 (dk_at dksX1_tellLoads_2 15 rfl rfl)
theorem dX1_tellLoads_52 : decode cX1_tellLoads 52 = .ok (.getfield 155, 3) := dk_180 0 155 (dk_at dksX1_tellLoads_2 16 rfl rfl)
theorem dX1_tellLoads_55 : decode cX1_tellLoads 55 = .ok (.ireturn, 1) := dk_172 (dk_at dksX1_tellLoads_2 19 rfl rfl)
theorem dX1_tellLoads_56 : decode cX1_tellLoads 56 = .ok (.aload_n 0, 1) := dk_42 (dk_at dksX1_tellLoads_2 20 rfl rfl)
theorem dX1_tellLoads_57 : decode cX1_tellLoads 57 = .ok (.iload_n 1, 1) := dk_27 (dk_at dksX1_tellLoads_2 21 rfl rfl)
theorem dX1_tellLoads_58 : decode cX1_tellLoads 58 = .ok (.bipush 10, 2) := dk_16 10 (dk_at dksX1_tellLoads_2 22 rfl rfl)
theorem dX1_tellLoads_60 : decode cX1_tellLoads 60 = .ok (.isub, 1) := dk_100 (dk_at dksX1_tellLoads_3 0 rfl rfl)
theorem dX1_tellLoads_61 : decode cX1_tellLoads 61 = .ok (.invokevirtual 115, 3) := dk_182 0 115 (dk_at dksX1_tellLoads_3 1 rfl rfl)
theorem dX1_tellLoads_64 : decode cX1_tellLoads 64 = .ok (.ifCond .eq 15, 3) := dk_153 0 15 (dk_at dksX1_tellLoads_3 4 rfl rfl)
theorem dX1_tellLoads_67 : decode cX1_tellLoads 67 = .ok (.aload_n 0, 1) := dk_42 (dk_at dksX1_tellLoads_3 7 rfl rfl)
theorem dX1_tellLoads_68 : decode cX1_tellLoads 68 = .ok (.getfield 37, 3) := dk_180 0 37 (dk_at dksX1_tellLoads_3 8 rfl rfl)
theorem dX1_tellLoads_71 : decode cX1_tellLoads 71 = .ok (.iload_n 1, 1) := dk_27 (dk_at dksX1_tellLoads_3 11 rfl rfl)
theorem dX1_tellLoads_72 : decode cX1_tellLoads 72 = .ok (.bipush 10, 2) := dk_16 10 (dk_at dksX1_tellLoads_3 12 rfl rfl)
theorem dX1_tellLoads_74 : decode cX1_tellLoads 74 = .ok (.isub, 1) := dk_100 (dk_at dksX1_tellLoads_3 14 rfl rfl)
theorem dX1_tellLoads_75 : decode cX1_tellLoads 75 = .ok (.iaload, 1) := dk_46 (dk_at dksX1_tellLoads_3 15 rfl rfl)
theorem dX1_tellLoads_76 : decode cX1_tellLoads 76 = .ok (.goto 5, 3) := dk_167 0 5 (dk_at dksX1_tellLoads_3 16 rfl rfl)
theorem dX1_tellLoads_79 : decode cX1_tellLoads 79 = .ok (.bipush (-9), 2) := dk_16 247 (dk_at dksX1_tellLoads_3 19 rfl rfl)
theorem dX1_tellLoads_81 : decode cX1_tellLoads 81 = .ok (.ireturn, 1) := dk_172 (dk_at dksX1_tellLoads_3 21 rfl rfl)
abbrev cX1_cross : ByteArray := prog_15_method_37_code
def yX1_cross : MethodName := ⟨RX1, "cross", "(I)I"⟩
def dkwX1_cross_3 : List UInt8 := [42, 28, 182, 0, 170, 62, 28, 29, 2, 130, 126, 61, 132, 4, 1, 167, 255, 235, 29, 172]
abbrev dktX1_cross_3 : List UInt8 := dkwX1_cross_3 ++ []
def dkwX1_cross_2 : List UInt8 := [27, 42, 180, 0, 40, 28, 46, 161, 0, 6, 16, 247, 172, 3, 62, 3, 54, 4, 21, 4, 27, 163, 0, 21]
abbrev dktX1_cross_2 : List UInt8 := dkwX1_cross_2 ++ dktX1_cross_3
def dkwX1_cross_1 : List UInt8 := [182, 0, 167, 4, 42, 180, 0, 59, 120, 4, 100, 61, 27, 2, 160, 0, 10, 42, 180, 0, 40, 28, 46, 172]
abbrev dktX1_cross_1 : List UInt8 := dkwX1_cross_1 ++ dktX1_cross_2
def dkwX1_cross_0 : List UInt8 := [42, 180, 0, 59, 154, 0, 6, 16, 253, 172, 27, 2, 7, 184, 0, 55, 154, 0, 6, 16, 254, 172, 42]
abbrev dktX1_cross_0 : List UInt8 := dkwX1_cross_0 ++ dktX1_cross_1
theorem dksX1_cross_0 : cX1_cross.data.toList.drop 0 = dktX1_cross_0 := by decide +kernel
theorem dksX1_cross_1 : cX1_cross.data.toList.drop 23 = dktX1_cross_1 := dk_seg dksX1_cross_0 23 rfl rfl
theorem dksX1_cross_2 : cX1_cross.data.toList.drop 47 = dktX1_cross_2 := dk_seg dksX1_cross_1 24 rfl rfl
theorem dksX1_cross_3 : cX1_cross.data.toList.drop 71 = dktX1_cross_3 := dk_seg dksX1_cross_2 24 rfl rfl
theorem dX1_cross_0 : decode cX1_cross 0 = .ok (.aload_n 0, 1) := dk_42 (dk_at dksX1_cross_0 0 rfl rfl)
theorem dX1_cross_1 : decode cX1_cross 1 = .ok (.getfield 59, 3) := dk_180 0 59 (dk_at dksX1_cross_0 1 rfl rfl)
theorem dX1_cross_4 : decode cX1_cross 4 = .ok (.ifCond .ne 6, 3) := dk_154 0 6 (dk_at dksX1_cross_0 4 rfl rfl)
theorem dX1_cross_7 : decode cX1_cross 7 = .ok (.bipush (-3), 2) := dk_16 253 (dk_at dksX1_cross_0 7 rfl rfl)
theorem dX1_cross_9 : decode cX1_cross 9 = .ok (.ireturn, 1) := dk_172 (dk_at dksX1_cross_0 9 rfl rfl)
theorem dX1_cross_10 : decode cX1_cross 10 = .ok (.iload_n 1, 1) := dk_27 (dk_at dksX1_cross_0 10 rfl rfl)
theorem dX1_cross_11 : decode cX1_cross 11 = .ok (.iconst (-1), 1) := dk_2 (dk_at dksX1_cross_0 11 rfl rfl)
theorem dX1_cross_12 : decode cX1_cross 12 = .ok (.iconst 4, 1) := dk_7 (dk_at dksX1_cross_0 12 rfl rfl)
theorem dX1_cross_13 : decode cX1_cross 13 = .ok (.invokestatic 55, 3) := dk_184 0 55 (dk_at dksX1_cross_0 13 rfl rfl)
theorem dX1_cross_16 : decode cX1_cross 16 = .ok (.ifCond .ne 6, 3) := dk_154 0 6 (dk_at dksX1_cross_0 16 rfl rfl)
theorem dX1_cross_19 : decode cX1_cross 19 = .ok (.bipush (-2), 2) := dk_16 254 (dk_at dksX1_cross_0 19 rfl rfl)
theorem dX1_cross_21 : decode cX1_cross 21 = .ok (.ireturn, 1) := dk_172 (dk_at dksX1_cross_0 21 rfl rfl)
theorem dX1_cross_22 : decode cX1_cross 22 = .ok (.aload_n 0, 1) := dk_42 (dk_at dksX1_cross_0 22 rfl rfl)
theorem dX1_cross_23 : decode cX1_cross 23 = .ok (.invokevirtual 167, 3) := dk_182 0 167 (dk_at dksX1_cross_1 0 rfl rfl)
theorem dX1_cross_26 : decode cX1_cross 26 = .ok (.iconst 1, 1) := dk_4 (dk_at dksX1_cross_1 3 rfl rfl)
theorem dX1_cross_27 : decode cX1_cross 27 = .ok (.aload_n 0, 1) := dk_42 (dk_at dksX1_cross_1 4 rfl rfl)
theorem dX1_cross_28 : decode cX1_cross 28 = .ok (.getfield 59, 3) := dk_180 0 59 (dk_at dksX1_cross_1 5 rfl rfl)
theorem dX1_cross_31 : decode cX1_cross 31 = .ok (.ishl, 1) := dk_120 (dk_at dksX1_cross_1 8 rfl rfl)
theorem dX1_cross_32 : decode cX1_cross 32 = .ok (.iconst 1, 1) := dk_4 (dk_at dksX1_cross_1 9 rfl rfl)
theorem dX1_cross_33 : decode cX1_cross 33 = .ok (.isub, 1) := dk_100 (dk_at dksX1_cross_1 10 rfl rfl)
theorem dX1_cross_34 : decode cX1_cross 34 = .ok (.istore_n 2, 1) := dk_61 (dk_at dksX1_cross_1 11 rfl rfl)
theorem dX1_cross_35 : decode cX1_cross 35 = .ok (.iload_n 1, 1) := dk_27 (dk_at dksX1_cross_1 12 rfl rfl)
theorem dX1_cross_36 : decode cX1_cross 36 = .ok (.iconst (-1), 1) := dk_2 (dk_at dksX1_cross_1 13 rfl rfl)
theorem dX1_cross_37 : decode cX1_cross 37 = .ok (.if_icmp .ne 10, 3) := dk_160 0 10 (dk_at dksX1_cross_1 14 rfl rfl)
theorem dX1_cross_40 : decode cX1_cross 40 = .ok (.aload_n 0, 1) := dk_42 (dk_at dksX1_cross_1 17 rfl rfl)
theorem dX1_cross_41 : decode cX1_cross 41 = .ok (.getfield 40, 3) := dk_180 0 40 (dk_at dksX1_cross_1 18 rfl rfl)
theorem dX1_cross_44 : decode cX1_cross 44 = .ok (.iload_n 2, 1) := dk_28 (dk_at dksX1_cross_1 21 rfl rfl)
theorem dX1_cross_45 : decode cX1_cross 45 = .ok (.iaload, 1) := dk_46 (dk_at dksX1_cross_1 22 rfl rfl)
theorem dX1_cross_46 : decode cX1_cross 46 = .ok (.ireturn, 1) := dk_172 (dk_at dksX1_cross_1 23 rfl rfl)
theorem dX1_cross_47 : decode cX1_cross 47 = .ok (.iload_n 1, 1) := dk_27 (dk_at dksX1_cross_2 0 rfl rfl)
theorem dX1_cross_48 : decode cX1_cross 48 = .ok (.aload_n 0, 1) := dk_42 (dk_at dksX1_cross_2 1 rfl rfl)
theorem dX1_cross_49 : decode cX1_cross 49 = .ok (.getfield 40, 3) := dk_180 0 40 (dk_at dksX1_cross_2 2 rfl rfl)
theorem dX1_cross_52 : decode cX1_cross 52 = .ok (.iload_n 2, 1) := dk_28 (dk_at dksX1_cross_2 5 rfl rfl)
theorem dX1_cross_53 : decode cX1_cross 53 = .ok (.iaload, 1) := dk_46 (dk_at dksX1_cross_2 6 rfl rfl)
theorem dX1_cross_54 : decode cX1_cross 54 = .ok (.if_icmp .lt 6, 3) := dk_161 0 6 (dk_at dksX1_cross_2 7 rfl rfl)
theorem dX1_cross_57 : decode cX1_cross 57 = .ok (.bipush (-9), 2) := dk_16 247 (dk_at dksX1_cross_2 10 rfl rfl)
theorem dX1_cross_59 : decode cX1_cross 59 = .ok (.ireturn, 1) := dk_172 (dk_at dksX1_cross_2 12 rfl rfl)
theorem dX1_cross_60 : decode cX1_cross 60 = .ok (.iconst 0, 1) := dk_3 (dk_at dksX1_cross_2 13 rfl rfl)
theorem dX1_cross_61 : decode cX1_cross 61 = .ok (.istore_n 3, 1) := dk_62 (dk_at dksX1_cross_2 14 rfl rfl)
theorem dX1_cross_62 : decode cX1_cross 62 = .ok (.iconst 0, 1) := dk_3 (dk_at dksX1_cross_2 15 rfl rfl)
theorem dX1_cross_63 : decode cX1_cross 63 = .ok (.istore 4, 2) := dk_54 4 (dk_at dksX1_cross_2 16 rfl rfl)
theorem dX1_cross_65 : decode cX1_cross 65 = .ok (.iload 4, 2) := dk_21 4 (dk_at dksX1_cross_2 18 rfl rfl)
theorem dX1_cross_67 : decode cX1_cross 67 = .ok (.iload_n 1, 1) := dk_27 (dk_at dksX1_cross_2 20 rfl rfl)
theorem dX1_cross_68 : decode cX1_cross 68 = .ok (.if_icmp .gt 21, 3) := dk_163 0 21 (dk_at dksX1_cross_2 21 rfl rfl)
theorem dX1_cross_71 : decode cX1_cross 71 = .ok (.aload_n 0, 1) := dk_42 (dk_at dksX1_cross_3 0 rfl rfl)
theorem dX1_cross_72 : decode cX1_cross 72 = .ok (.iload_n 2, 1) := dk_28 (dk_at dksX1_cross_3 1 rfl rfl)
theorem dX1_cross_73 : decode cX1_cross 73 = .ok (.invokevirtual 170, 3) := dk_182 0 170 (dk_at dksX1_cross_3 2 rfl rfl)
theorem dX1_cross_76 : decode cX1_cross 76 = .ok (.istore_n 3, 1) := dk_62 (dk_at dksX1_cross_3 5 rfl rfl)
theorem dX1_cross_77 : decode cX1_cross 77 = .ok (.iload_n 2, 1) := dk_28 (dk_at dksX1_cross_3 6 rfl rfl)
theorem dX1_cross_78 : decode cX1_cross 78 = .ok (.iload_n 3, 1) := dk_29 (dk_at dksX1_cross_3 7 rfl rfl)
theorem dX1_cross_79 : decode cX1_cross 79 = .ok (.iconst (-1), 1) := dk_2 (dk_at dksX1_cross_3 8 rfl rfl)
theorem dX1_cross_80 : decode cX1_cross 80 = .ok (.ixor, 1) := dk_130 (dk_at dksX1_cross_3 9 rfl rfl)
theorem dX1_cross_81 : decode cX1_cross 81 = .ok (.iand, 1) := dk_126 (dk_at dksX1_cross_3 10 rfl rfl)
theorem dX1_cross_82 : decode cX1_cross 82 = .ok (.istore_n 2, 1) := dk_61 (dk_at dksX1_cross_3 11 rfl rfl)
theorem dX1_cross_83 : decode cX1_cross 83 = .ok (.iinc 4 1, 3) := dk_132 4 1 (dk_at dksX1_cross_3 12 rfl rfl)
theorem dX1_cross_86 : decode cX1_cross 86 = .ok (.goto (-21), 3) := dk_167 255 235 (dk_at dksX1_cross_3 15 rfl rfl)
theorem dX1_cross_89 : decode cX1_cross 89 = .ok (.iload_n 3, 1) := dk_29 (dk_at dksX1_cross_3 18 rfl rfl)
theorem dX1_cross_90 : decode cX1_cross 90 = .ok (.ireturn, 1) := dk_172 (dk_at dksX1_cross_3 19 rfl rfl)
abbrev cX1_findFewest : ByteArray := prog_15_method_35_code
def yX1_findFewest : MethodName := ⟨RX1, "findFewest", "()V"⟩
def dkwX1_findFewest_4 : List UInt8 := [29, 4, 96, 79, 132, 2, 1, 167, 255, 183, 132, 1, 1, 167, 255, 157, 177]
abbrev dktX1_findFewest_4 : List UInt8 := dkwX1_findFewest_4 ++ []
def dkwX1_findFewest_3 : List UInt8 := [27, 46, 16, 247, 159, 0, 15, 29, 4, 96, 42, 180, 0, 40, 27, 46, 162, 0, 12, 42, 180, 0, 40, 27]
abbrev dktX1_findFewest_3 : List UInt8 := dkwX1_findFewest_3 ++ dktX1_findFewest_4
def dkwX1_findFewest_2 : List UInt8 := [153, 0, 52, 42, 180, 0, 40, 27, 28, 2, 130, 126, 46, 62, 29, 16, 247, 159, 0, 35, 42, 180, 0, 40]
abbrev dktX1_findFewest_2 : List UInt8 := dkwX1_findFewest_2 ++ dktX1_findFewest_3
def dkwX1_findFewest_1 : List UInt8 := [16, 247, 79, 4, 61, 28, 27, 163, 0, 74, 28, 27, 2, 130, 126, 154, 0, 60, 42, 28, 182, 0, 146]
abbrev dktX1_findFewest_1 : List UInt8 := dkwX1_findFewest_1 ++ dktX1_findFewest_2
def dkwX1_findFewest_0 : List UInt8 := [42, 180, 0, 40, 3, 3, 79, 4, 60, 27, 4, 42, 180, 0, 59, 120, 162, 0, 95, 42, 180, 0, 40, 27]
abbrev dktX1_findFewest_0 : List UInt8 := dkwX1_findFewest_0 ++ dktX1_findFewest_1
theorem dksX1_findFewest_0 : cX1_findFewest.data.toList.drop 0 = dktX1_findFewest_0 := by decide +kernel
theorem dksX1_findFewest_1 : cX1_findFewest.data.toList.drop 24 = dktX1_findFewest_1 := dk_seg dksX1_findFewest_0 24 rfl rfl
theorem dksX1_findFewest_2 : cX1_findFewest.data.toList.drop 47 = dktX1_findFewest_2 := dk_seg dksX1_findFewest_1 23 rfl rfl
theorem dksX1_findFewest_3 : cX1_findFewest.data.toList.drop 71 = dktX1_findFewest_3 := dk_seg dksX1_findFewest_2 24 rfl rfl
theorem dksX1_findFewest_4 : cX1_findFewest.data.toList.drop 95 = dktX1_findFewest_4 := dk_seg dksX1_findFewest_3 24 rfl rfl
theorem dX1_findFewest_0 : decode cX1_findFewest 0 = .ok (.aload_n 0, 1) := dk_42 (dk_at dksX1_findFewest_0 0 rfl rfl)
theorem dX1_findFewest_1 : decode cX1_findFewest 1 = .ok (.getfield 40, 3) := dk_180 0 40 (dk_at dksX1_findFewest_0 1 rfl rfl)
theorem dX1_findFewest_4 : decode cX1_findFewest 4 = .ok (.iconst 0, 1) := dk_3 (dk_at dksX1_findFewest_0 4 rfl rfl)
theorem dX1_findFewest_5 : decode cX1_findFewest 5 = .ok (.iconst 0, 1) := dk_3 (dk_at dksX1_findFewest_0 5 rfl rfl)
theorem dX1_findFewest_6 : decode cX1_findFewest 6 = .ok (.iastore, 1) := dk_79 (dk_at dksX1_findFewest_0 6 rfl rfl)
theorem dX1_findFewest_7 : decode cX1_findFewest 7 = .ok (.iconst 1, 1) := dk_4 (dk_at dksX1_findFewest_0 7 rfl rfl)
theorem dX1_findFewest_8 : decode cX1_findFewest 8 = .ok (.istore_n 1, 1) := dk_60 (dk_at dksX1_findFewest_0 8 rfl rfl)
theorem dX1_findFewest_9 : decode cX1_findFewest 9 = .ok (.iload_n 1, 1) := dk_27 (dk_at dksX1_findFewest_0 9 rfl rfl)
theorem dX1_findFewest_10 : decode cX1_findFewest 10 = .ok (.iconst 1, 1) := dk_4 (dk_at dksX1_findFewest_0 10 rfl rfl)
theorem dX1_findFewest_11 : decode cX1_findFewest 11 = .ok (.aload_n 0, 1) := dk_42 (dk_at dksX1_findFewest_0 11 rfl rfl)
theorem dX1_findFewest_12 : decode cX1_findFewest 12 = .ok (.getfield 59, 3) := dk_180 0 59 (dk_at dksX1_findFewest_0 12 rfl rfl)
theorem dX1_findFewest_15 : decode cX1_findFewest 15 = .ok (.ishl, 1) := dk_120 (dk_at dksX1_findFewest_0 15 rfl rfl)
theorem dX1_findFewest_16 : decode cX1_findFewest 16 = .ok (.if_icmp .ge 95, 3) := dk_162 0 95 (dk_at dksX1_findFewest_0 16 rfl rfl)
theorem dX1_findFewest_19 : decode cX1_findFewest 19 = .ok (.aload_n 0, 1) := dk_42 (dk_at dksX1_findFewest_0 19 rfl rfl)
theorem dX1_findFewest_20 : decode cX1_findFewest 20 = .ok (.getfield 40, 3) := dk_180 0 40 (dk_at dksX1_findFewest_0 20 rfl rfl)
theorem dX1_findFewest_23 : decode cX1_findFewest 23 = .ok (.iload_n 1, 1) := dk_27 (dk_at dksX1_findFewest_0 23 rfl rfl)
theorem dX1_findFewest_24 : decode cX1_findFewest 24 = .ok (.bipush (-9), 2) := dk_16 247 (dk_at dksX1_findFewest_1 0 rfl rfl)
theorem dX1_findFewest_26 : decode cX1_findFewest 26 = .ok (.iastore, 1) := dk_79 (dk_at dksX1_findFewest_1 2 rfl rfl)
theorem dX1_findFewest_27 : decode cX1_findFewest 27 = .ok (.iconst 1, 1) := dk_4 (dk_at dksX1_findFewest_1 3 rfl rfl)
theorem dX1_findFewest_28 : decode cX1_findFewest 28 = .ok (.istore_n 2, 1) := dk_61 (dk_at dksX1_findFewest_1 4 rfl rfl)
theorem dX1_findFewest_29 : decode cX1_findFewest 29 = .ok (.iload_n 2, 1) := dk_28 (dk_at dksX1_findFewest_1 5 rfl rfl)
theorem dX1_findFewest_30 : decode cX1_findFewest 30 = .ok (.iload_n 1, 1) := dk_27 (dk_at dksX1_findFewest_1 6 rfl rfl)
theorem dX1_findFewest_31 : decode cX1_findFewest 31 = .ok (.if_icmp .gt 74, 3) := dk_163 0 74 (dk_at dksX1_findFewest_1 7 rfl rfl)
theorem dX1_findFewest_34 : decode cX1_findFewest 34 = .ok (.iload_n 2, 1) := dk_28 (dk_at dksX1_findFewest_1 10 rfl rfl)
theorem dX1_findFewest_35 : decode cX1_findFewest 35 = .ok (.iload_n 1, 1) := dk_27 (dk_at dksX1_findFewest_1 11 rfl rfl)
theorem dX1_findFewest_36 : decode cX1_findFewest 36 = .ok (.iconst (-1), 1) := dk_2 (dk_at dksX1_findFewest_1 12 rfl rfl)
theorem dX1_findFewest_37 : decode cX1_findFewest 37 = .ok (.ixor, 1) := dk_130 (dk_at dksX1_findFewest_1 13 rfl rfl)
theorem dX1_findFewest_38 : decode cX1_findFewest 38 = .ok (.iand, 1) := dk_126 (dk_at dksX1_findFewest_1 14 rfl rfl)
theorem dX1_findFewest_39 : decode cX1_findFewest 39 = .ok (.ifCond .ne 60, 3) := dk_154 0 60 (dk_at dksX1_findFewest_1 15 rfl rfl)
theorem dX1_findFewest_42 : decode cX1_findFewest 42 = .ok (.aload_n 0, 1) := dk_42 (dk_at dksX1_findFewest_1 18 rfl rfl)
theorem dX1_findFewest_43 : decode cX1_findFewest 43 = .ok (.iload_n 2, 1) := dk_28 (dk_at dksX1_findFewest_1 19 rfl rfl)
theorem dX1_findFewest_44 : decode cX1_findFewest 44 = .ok (.invokevirtual 146, 3) := dk_182 0 146 (dk_at dksX1_findFewest_1 20 rfl rfl)
theorem dX1_findFewest_47 : decode cX1_findFewest 47 = .ok (.ifCond .eq 52, 3) := dk_153 0 52 (dk_at dksX1_findFewest_2 0 rfl rfl)
theorem dX1_findFewest_50 : decode cX1_findFewest 50 = .ok (.aload_n 0, 1) := dk_42 (dk_at dksX1_findFewest_2 3 rfl rfl)
theorem dX1_findFewest_51 : decode cX1_findFewest 51 = .ok (.getfield 40, 3) := dk_180 0 40 (dk_at dksX1_findFewest_2 4 rfl rfl)
theorem dX1_findFewest_54 : decode cX1_findFewest 54 = .ok (.iload_n 1, 1) := dk_27 (dk_at dksX1_findFewest_2 7 rfl rfl)
theorem dX1_findFewest_55 : decode cX1_findFewest 55 = .ok (.iload_n 2, 1) := dk_28 (dk_at dksX1_findFewest_2 8 rfl rfl)
theorem dX1_findFewest_56 : decode cX1_findFewest 56 = .ok (.iconst (-1), 1) := dk_2 (dk_at dksX1_findFewest_2 9 rfl rfl)
theorem dX1_findFewest_57 : decode cX1_findFewest 57 = .ok (.ixor, 1) := dk_130 (dk_at dksX1_findFewest_2 10 rfl rfl)
theorem dX1_findFewest_58 : decode cX1_findFewest 58 = .ok (.iand, 1) := dk_126 (dk_at dksX1_findFewest_2 11 rfl rfl)
theorem dX1_findFewest_59 : decode cX1_findFewest 59 = .ok (.iaload, 1) := dk_46 (dk_at dksX1_findFewest_2 12 rfl rfl)
theorem dX1_findFewest_60 : decode cX1_findFewest 60 = .ok (.istore_n 3, 1) := dk_62 (dk_at dksX1_findFewest_2 13 rfl rfl)
theorem dX1_findFewest_61 : decode cX1_findFewest 61 = .ok (.iload_n 3, 1) := dk_29 (dk_at dksX1_findFewest_2 14 rfl rfl)
theorem dX1_findFewest_62 : decode cX1_findFewest 62 = .ok (.bipush (-9), 2) := dk_16 247 (dk_at dksX1_findFewest_2 15 rfl rfl)
theorem dX1_findFewest_64 : decode cX1_findFewest 64 = .ok (.if_icmp .eq 35, 3) := dk_159 0 35 (dk_at dksX1_findFewest_2 17 rfl rfl)
theorem dX1_findFewest_67 : decode cX1_findFewest 67 = .ok (.aload_n 0, 1) := dk_42 (dk_at dksX1_findFewest_2 20 rfl rfl)
theorem dX1_findFewest_68 : decode cX1_findFewest 68 = .ok (.getfield 40, 3) := dk_180 0 40 (dk_at dksX1_findFewest_2 21 rfl rfl)
theorem dX1_findFewest_71 : decode cX1_findFewest 71 = .ok (.iload_n 1, 1) := dk_27 (dk_at dksX1_findFewest_3 0 rfl rfl)
theorem dX1_findFewest_72 : decode cX1_findFewest 72 = .ok (.iaload, 1) := dk_46 (dk_at dksX1_findFewest_3 1 rfl rfl)
theorem dX1_findFewest_73 : decode cX1_findFewest 73 = .ok (.bipush (-9), 2) := dk_16 247 (dk_at dksX1_findFewest_3 2 rfl rfl)
theorem dX1_findFewest_75 : decode cX1_findFewest 75 = .ok (.if_icmp .eq 15, 3) := dk_159 0 15 (dk_at dksX1_findFewest_3 4 rfl rfl)
theorem dX1_findFewest_78 : decode cX1_findFewest 78 = .ok (.iload_n 3, 1) := dk_29 (dk_at dksX1_findFewest_3 7 rfl rfl)
theorem dX1_findFewest_79 : decode cX1_findFewest 79 = .ok (.iconst 1, 1) := dk_4 (dk_at dksX1_findFewest_3 8 rfl rfl)
theorem dX1_findFewest_80 : decode cX1_findFewest 80 = .ok (.iadd, 1) := dk_96 (dk_at dksX1_findFewest_3 9 rfl rfl)
theorem dX1_findFewest_81 : decode cX1_findFewest 81 = .ok (.aload_n 0, 1) := dk_42 (dk_at dksX1_findFewest_3 10 rfl rfl)
theorem dX1_findFewest_82 : decode cX1_findFewest 82 = .ok (.getfield 40, 3) := dk_180 0 40 (dk_at dksX1_findFewest_3 11 rfl rfl)
theorem dX1_findFewest_85 : decode cX1_findFewest 85 = .ok (.iload_n 1, 1) := dk_27 (dk_at dksX1_findFewest_3 14 rfl rfl)
theorem dX1_findFewest_86 : decode cX1_findFewest 86 = .ok (.iaload, 1) := dk_46 (dk_at dksX1_findFewest_3 15 rfl rfl)
theorem dX1_findFewest_87 : decode cX1_findFewest 87 = .ok (.if_icmp .ge 12, 3) := dk_162 0 12 (dk_at dksX1_findFewest_3 16 rfl rfl)
theorem dX1_findFewest_90 : decode cX1_findFewest 90 = .ok (.aload_n 0, 1) := dk_42 (dk_at dksX1_findFewest_3 19 rfl rfl)
theorem dX1_findFewest_91 : decode cX1_findFewest 91 = .ok (.getfield 40, 3) := dk_180 0 40 (dk_at dksX1_findFewest_3 20 rfl rfl)
theorem dX1_findFewest_94 : decode cX1_findFewest 94 = .ok (.iload_n 1, 1) := dk_27 (dk_at dksX1_findFewest_3 23 rfl rfl)
theorem dX1_findFewest_95 : decode cX1_findFewest 95 = .ok (.iload_n 3, 1) := dk_29 (dk_at dksX1_findFewest_4 0 rfl rfl)
theorem dX1_findFewest_96 : decode cX1_findFewest 96 = .ok (.iconst 1, 1) := dk_4 (dk_at dksX1_findFewest_4 1 rfl rfl)
theorem dX1_findFewest_97 : decode cX1_findFewest 97 = .ok (.iadd, 1) := dk_96 (dk_at dksX1_findFewest_4 2 rfl rfl)
theorem dX1_findFewest_98 : decode cX1_findFewest 98 = .ok (.iastore, 1) := dk_79 (dk_at dksX1_findFewest_4 3 rfl rfl)
theorem dX1_findFewest_99 : decode cX1_findFewest 99 = .ok (.iinc 2 1, 3) := dk_132 2 1 (dk_at dksX1_findFewest_4 4 rfl rfl)
theorem dX1_findFewest_102 : decode cX1_findFewest 102 = .ok (.goto (-73), 3) := dk_167 255 183 (dk_at dksX1_findFewest_4 7 rfl rfl)
theorem dX1_findFewest_105 : decode cX1_findFewest 105 = .ok (.iinc 1 1, 3) := dk_132 1 1 (dk_at dksX1_findFewest_4 10 rfl rfl)
theorem dX1_findFewest_108 : decode cX1_findFewest 108 = .ok (.goto (-99), 3) := dk_167 255 157 (dk_at dksX1_findFewest_4 13 rfl rfl)
theorem dX1_findFewest_111 : decode cX1_findFewest 111 = .ok (.return_, 1) := dk_177 (dk_at dksX1_findFewest_4 16 rfl rfl)
abbrev cX1_firstLoad : ByteArray := prog_15_method_36_code
def yX1_firstLoad : MethodName := ⟨RX1, "firstLoad", "(I)I"⟩
def dkwX1_firstLoad_1 : List UInt8 := [2, 130, 126, 46, 42, 180, 0, 40, 27, 46, 4, 100, 159, 0, 9, 132, 2, 1, 167, 255, 216, 28, 172]
abbrev dktX1_firstLoad_1 : List UInt8 := dkwX1_firstLoad_1 ++ []
def dkwX1_firstLoad_0 : List UInt8 := [4, 61, 28, 27, 2, 130, 126, 154, 0, 32, 42, 28, 182, 0, 146, 153, 0, 24, 42, 180, 0, 40, 27, 28]
abbrev dktX1_firstLoad_0 : List UInt8 := dkwX1_firstLoad_0 ++ dktX1_firstLoad_1
theorem dksX1_firstLoad_0 : cX1_firstLoad.data.toList.drop 0 = dktX1_firstLoad_0 := by decide +kernel
theorem dksX1_firstLoad_1 : cX1_firstLoad.data.toList.drop 24 = dktX1_firstLoad_1 := dk_seg dksX1_firstLoad_0 24 rfl rfl
theorem dX1_firstLoad_0 : decode cX1_firstLoad 0 = .ok (.iconst 1, 1) := dk_4 (dk_at dksX1_firstLoad_0 0 rfl rfl)
theorem dX1_firstLoad_1 : decode cX1_firstLoad 1 = .ok (.istore_n 2, 1) := dk_61 (dk_at dksX1_firstLoad_0 1 rfl rfl)
theorem dX1_firstLoad_2 : decode cX1_firstLoad 2 = .ok (.iload_n 2, 1) := dk_28 (dk_at dksX1_firstLoad_0 2 rfl rfl)
theorem dX1_firstLoad_3 : decode cX1_firstLoad 3 = .ok (.iload_n 1, 1) := dk_27 (dk_at dksX1_firstLoad_0 3 rfl rfl)
theorem dX1_firstLoad_4 : decode cX1_firstLoad 4 = .ok (.iconst (-1), 1) := dk_2 (dk_at dksX1_firstLoad_0 4 rfl rfl)
theorem dX1_firstLoad_5 : decode cX1_firstLoad 5 = .ok (.ixor, 1) := dk_130 (dk_at dksX1_firstLoad_0 5 rfl rfl)
theorem dX1_firstLoad_6 : decode cX1_firstLoad 6 = .ok (.iand, 1) := dk_126 (dk_at dksX1_firstLoad_0 6 rfl rfl)
theorem dX1_firstLoad_7 : decode cX1_firstLoad 7 = .ok (.ifCond .ne 32, 3) := dk_154 0 32 (dk_at dksX1_firstLoad_0 7 rfl rfl)
theorem dX1_firstLoad_10 : decode cX1_firstLoad 10 = .ok (.aload_n 0, 1) := dk_42 (dk_at dksX1_firstLoad_0 10 rfl rfl)
theorem dX1_firstLoad_11 : decode cX1_firstLoad 11 = .ok (.iload_n 2, 1) := dk_28 (dk_at dksX1_firstLoad_0 11 rfl rfl)
theorem dX1_firstLoad_12 : decode cX1_firstLoad 12 = .ok (.invokevirtual 146, 3) := dk_182 0 146 (dk_at dksX1_firstLoad_0 12 rfl rfl)
theorem dX1_firstLoad_15 : decode cX1_firstLoad 15 = .ok (.ifCond .eq 24, 3) := dk_153 0 24 (dk_at dksX1_firstLoad_0 15 rfl rfl)
theorem dX1_firstLoad_18 : decode cX1_firstLoad 18 = .ok (.aload_n 0, 1) := dk_42 (dk_at dksX1_firstLoad_0 18 rfl rfl)
theorem dX1_firstLoad_19 : decode cX1_firstLoad 19 = .ok (.getfield 40, 3) := dk_180 0 40 (dk_at dksX1_firstLoad_0 19 rfl rfl)
theorem dX1_firstLoad_22 : decode cX1_firstLoad 22 = .ok (.iload_n 1, 1) := dk_27 (dk_at dksX1_firstLoad_0 22 rfl rfl)
theorem dX1_firstLoad_23 : decode cX1_firstLoad 23 = .ok (.iload_n 2, 1) := dk_28 (dk_at dksX1_firstLoad_0 23 rfl rfl)
theorem dX1_firstLoad_24 : decode cX1_firstLoad 24 = .ok (.iconst (-1), 1) := dk_2 (dk_at dksX1_firstLoad_1 0 rfl rfl)
theorem dX1_firstLoad_25 : decode cX1_firstLoad 25 = .ok (.ixor, 1) := dk_130 (dk_at dksX1_firstLoad_1 1 rfl rfl)
theorem dX1_firstLoad_26 : decode cX1_firstLoad 26 = .ok (.iand, 1) := dk_126 (dk_at dksX1_firstLoad_1 2 rfl rfl)
theorem dX1_firstLoad_27 : decode cX1_firstLoad 27 = .ok (.iaload, 1) := dk_46 (dk_at dksX1_firstLoad_1 3 rfl rfl)
theorem dX1_firstLoad_28 : decode cX1_firstLoad 28 = .ok (.aload_n 0, 1) := dk_42 (dk_at dksX1_firstLoad_1 4 rfl rfl)
theorem dX1_firstLoad_29 : decode cX1_firstLoad 29 = .ok (.getfield 40, 3) := dk_180 0 40 (dk_at dksX1_firstLoad_1 5 rfl rfl)
theorem dX1_firstLoad_32 : decode cX1_firstLoad 32 = .ok (.iload_n 1, 1) := dk_27 (dk_at dksX1_firstLoad_1 8 rfl rfl)
theorem dX1_firstLoad_33 : decode cX1_firstLoad 33 = .ok (.iaload, 1) := dk_46 (dk_at dksX1_firstLoad_1 9 rfl rfl)
theorem dX1_firstLoad_34 : decode cX1_firstLoad 34 = .ok (.iconst 1, 1) := dk_4 (dk_at dksX1_firstLoad_1 10 rfl rfl)
theorem dX1_firstLoad_35 : decode cX1_firstLoad 35 = .ok (.isub, 1) := dk_100 (dk_at dksX1_firstLoad_1 11 rfl rfl)
theorem dX1_firstLoad_36 : decode cX1_firstLoad 36 = .ok (.if_icmp .eq 9, 3) := dk_159 0 9 (dk_at dksX1_firstLoad_1 12 rfl rfl)
theorem dX1_firstLoad_39 : decode cX1_firstLoad 39 = .ok (.iinc 2 1, 3) := dk_132 2 1 (dk_at dksX1_firstLoad_1 15 rfl rfl)
theorem dX1_firstLoad_42 : decode cX1_firstLoad 42 = .ok (.goto (-40), 3) := dk_167 255 216 (dk_at dksX1_firstLoad_1 18 rfl rfl)
theorem dX1_firstLoad_45 : decode cX1_firstLoad 45 = .ok (.iload_n 2, 1) := dk_28 (dk_at dksX1_firstLoad_1 21 rfl rfl)
theorem dX1_firstLoad_46 : decode cX1_firstLoad 46 = .ok (.ireturn, 1) := dk_172 (dk_at dksX1_firstLoad_1 22 rfl rfl)
abbrev cX1_loan : ByteArray := prog_15_method_38_code
def yX1_loan : MethodName := ⟨RX1, "loan", "(III)I"⟩
def dkwX1_loan_5 : List UInt8 := [132, 5, 1, 167, 255, 213, 132, 4, 1, 167, 255, 197, 16, 247, 172]
abbrev dktX1_loan_5 : List UInt8 := dkwX1_loan_5 ++ []
def dkwX1_loan_4 : List UInt8 := [21, 5, 21, 4, 28, 182, 0, 173, 153, 0, 15, 29, 154, 0, 8, 21, 4, 167, 0, 5, 21, 5, 172]
abbrev dktX1_loan_4 : List UInt8 := dkwX1_loan_4 ++ dktX1_loan_5
def dkwX1_loan_3 : List UInt8 := [163, 0, 58, 3, 54, 5, 21, 5, 42, 180, 0, 59, 162, 0, 40, 21, 5, 27, 159, 0, 28, 42, 27]
abbrev dktX1_loan_3 : List UInt8 := dkwX1_loan_3 ++ dktX1_loan_4
def dkwX1_loan_2 : List UInt8 := [120, 160, 0, 14, 29, 154, 0, 7, 3, 167, 0, 5, 16, 247, 172, 4, 54, 4, 21, 4, 16, 9]
abbrev dktX1_loan_2 : List UInt8 := dkwX1_loan_2 ++ dktX1_loan_3
def dkwX1_loan_1 : List UInt8 := [154, 0, 6, 16, 254, 172, 28, 27, 184, 0, 127, 154, 0, 6, 16, 253, 172, 42, 28, 182, 0, 137, 4, 27]
abbrev dktX1_loan_1 : List UInt8 := dkwX1_loan_1 ++ dktX1_loan_2
def dkwX1_loan_0 : List UInt8 := [42, 27, 182, 0, 115, 154, 0, 5, 2, 172, 42, 28, 182, 0, 143, 153, 0, 12, 29, 3, 4, 184, 0, 55]
abbrev dktX1_loan_0 : List UInt8 := dkwX1_loan_0 ++ dktX1_loan_1
theorem dksX1_loan_0 : cX1_loan.data.toList.drop 0 = dktX1_loan_0 := by decide +kernel
theorem dksX1_loan_1 : cX1_loan.data.toList.drop 24 = dktX1_loan_1 := dk_seg dksX1_loan_0 24 rfl rfl
theorem dksX1_loan_2 : cX1_loan.data.toList.drop 48 = dktX1_loan_2 := dk_seg dksX1_loan_1 24 rfl rfl
theorem dksX1_loan_3 : cX1_loan.data.toList.drop 70 = dktX1_loan_3 := dk_seg dksX1_loan_2 22 rfl rfl
theorem dksX1_loan_4 : cX1_loan.data.toList.drop 93 = dktX1_loan_4 := dk_seg dksX1_loan_3 23 rfl rfl
theorem dksX1_loan_5 : cX1_loan.data.toList.drop 116 = dktX1_loan_5 := dk_seg dksX1_loan_4 23 rfl rfl
theorem dX1_loan_0 : decode cX1_loan 0 = .ok (.aload_n 0, 1) := dk_42 (dk_at dksX1_loan_0 0 rfl rfl)
theorem dX1_loan_1 : decode cX1_loan 1 = .ok (.iload_n 1, 1) := dk_27 (dk_at dksX1_loan_0 1 rfl rfl)
theorem dX1_loan_2 : decode cX1_loan 2 = .ok (.invokevirtual 115, 3) := dk_182 0 115 (dk_at dksX1_loan_0 2 rfl rfl)
theorem dX1_loan_5 : decode cX1_loan 5 = .ok (.ifCond .ne 5, 3) := dk_154 0 5 (dk_at dksX1_loan_0 5 rfl rfl)
theorem dX1_loan_8 : decode cX1_loan 8 = .ok (.iconst (-1), 1) := dk_2 (dk_at dksX1_loan_0 8 rfl rfl)
theorem dX1_loan_9 : decode cX1_loan 9 = .ok (.ireturn, 1) := dk_172 (dk_at dksX1_loan_0 9 rfl rfl)
theorem dX1_loan_10 : decode cX1_loan 10 = .ok (.aload_n 0, 1) := dk_42 (dk_at dksX1_loan_0 10 rfl rfl)
theorem dX1_loan_11 : decode cX1_loan 11 = .ok (.iload_n 2, 1) := dk_28 (dk_at dksX1_loan_0 11 rfl rfl)
theorem dX1_loan_12 : decode cX1_loan 12 = .ok (.invokevirtual 143, 3) := dk_182 0 143 (dk_at dksX1_loan_0 12 rfl rfl)
theorem dX1_loan_15 : decode cX1_loan 15 = .ok (.ifCond .eq 12, 3) := dk_153 0 12 (dk_at dksX1_loan_0 15 rfl rfl)
theorem dX1_loan_18 : decode cX1_loan 18 = .ok (.iload_n 3, 1) := dk_29 (dk_at dksX1_loan_0 18 rfl rfl)
theorem dX1_loan_19 : decode cX1_loan 19 = .ok (.iconst 0, 1) := dk_3 (dk_at dksX1_loan_0 19 rfl rfl)
theorem dX1_loan_20 : decode cX1_loan 20 = .ok (.iconst 1, 1) := dk_4 (dk_at dksX1_loan_0 20 rfl rfl)
theorem dX1_loan_21 : decode cX1_loan 21 = .ok (.invokestatic 55, 3) := dk_184 0 55 (dk_at dksX1_loan_0 21 rfl rfl)
theorem dX1_loan_24 : decode cX1_loan 24 = .ok (.ifCond .ne 6, 3) := dk_154 0 6 (dk_at dksX1_loan_1 0 rfl rfl)
theorem dX1_loan_27 : decode cX1_loan 27 = .ok (.bipush (-2), 2) := dk_16 254 (dk_at dksX1_loan_1 3 rfl rfl)
theorem dX1_loan_29 : decode cX1_loan 29 = .ok (.ireturn, 1) := dk_172 (dk_at dksX1_loan_1 5 rfl rfl)
theorem dX1_loan_30 : decode cX1_loan 30 = .ok (.iload_n 2, 1) := dk_28 (dk_at dksX1_loan_1 6 rfl rfl)
theorem dX1_loan_31 : decode cX1_loan 31 = .ok (.iload_n 1, 1) := dk_27 (dk_at dksX1_loan_1 7 rfl rfl)
theorem dX1_loan_32 : decode cX1_loan 32 = .ok (.invokestatic 127, 3) := dk_184 0 127 (dk_at dksX1_loan_1 8 rfl rfl)
theorem dX1_loan_35 : decode cX1_loan 35 = .ok (.ifCond .ne 6, 3) := dk_154 0 6 (dk_at dksX1_loan_1 11 rfl rfl)
theorem dX1_loan_38 : decode cX1_loan 38 = .ok (.bipush (-3), 2) := dk_16 253 (dk_at dksX1_loan_1 14 rfl rfl)
theorem dX1_loan_40 : decode cX1_loan 40 = .ok (.ireturn, 1) := dk_172 (dk_at dksX1_loan_1 16 rfl rfl)
theorem dX1_loan_41 : decode cX1_loan 41 = .ok (.aload_n 0, 1) := dk_42 (dk_at dksX1_loan_1 17 rfl rfl)
theorem dX1_loan_42 : decode cX1_loan 42 = .ok (.iload_n 2, 1) := dk_28 (dk_at dksX1_loan_1 18 rfl rfl)
theorem dX1_loan_43 : decode cX1_loan 43 = .ok (.invokevirtual 137, 3) := dk_182 0 137 (dk_at dksX1_loan_1 19 rfl rfl)
theorem dX1_loan_46 : decode cX1_loan 46 = .ok (.iconst 1, 1) := dk_4 (dk_at dksX1_loan_1 22 rfl rfl)
theorem dX1_loan_47 : decode cX1_loan 47 = .ok (.iload_n 1, 1) := dk_27 (dk_at dksX1_loan_1 23 rfl rfl)
theorem dX1_loan_48 : decode cX1_loan 48 = .ok (.ishl, 1) := dk_120 (dk_at dksX1_loan_2 0 rfl rfl)
theorem dX1_loan_49 : decode cX1_loan 49 = .ok (.if_icmp .ne 14, 3) := dk_160 0 14 (dk_at dksX1_loan_2 1 rfl rfl)
theorem dX1_loan_52 : decode cX1_loan 52 = .ok (.iload_n 3, 1) := dk_29 (dk_at dksX1_loan_2 4 rfl rfl)
theorem dX1_loan_53 : decode cX1_loan 53 = .ok (.ifCond .ne 7, 3) := dk_154 0 7 (dk_at dksX1_loan_2 5 rfl rfl)
theorem dX1_loan_56 : decode cX1_loan 56 = .ok (.iconst 0, 1) := dk_3 (dk_at dksX1_loan_2 8 rfl rfl)
theorem dX1_loan_57 : decode cX1_loan 57 = .ok (.goto 5, 3) := dk_167 0 5 (dk_at dksX1_loan_2 9 rfl rfl)
theorem dX1_loan_60 : decode cX1_loan 60 = .ok (.bipush (-9), 2) := dk_16 247 (dk_at dksX1_loan_2 12 rfl rfl)
theorem dX1_loan_62 : decode cX1_loan 62 = .ok (.ireturn, 1) := dk_172 (dk_at dksX1_loan_2 14 rfl rfl)
theorem dX1_loan_63 : decode cX1_loan 63 = .ok (.iconst 1, 1) := dk_4 (dk_at dksX1_loan_2 15 rfl rfl)
theorem dX1_loan_64 : decode cX1_loan 64 = .ok (.istore 4, 2) := dk_54 4 (dk_at dksX1_loan_2 16 rfl rfl)
theorem dX1_loan_66 : decode cX1_loan 66 = .ok (.iload 4, 2) := dk_21 4 (dk_at dksX1_loan_2 18 rfl rfl)
theorem dX1_loan_68 : decode cX1_loan 68 = .ok (.bipush 9, 2) := dk_16 9 (dk_at dksX1_loan_2 20 rfl rfl)
theorem dX1_loan_70 : decode cX1_loan 70 = .ok (.if_icmp .gt 58, 3) := dk_163 0 58 (dk_at dksX1_loan_3 0 rfl rfl)
theorem dX1_loan_73 : decode cX1_loan 73 = .ok (.iconst 0, 1) := dk_3 (dk_at dksX1_loan_3 3 rfl rfl)
theorem dX1_loan_74 : decode cX1_loan 74 = .ok (.istore 5, 2) := dk_54 5 (dk_at dksX1_loan_3 4 rfl rfl)
theorem dX1_loan_76 : decode cX1_loan 76 = .ok (.iload 5, 2) := dk_21 5 (dk_at dksX1_loan_3 6 rfl rfl)
theorem dX1_loan_78 : decode cX1_loan 78 = .ok (.aload_n 0, 1) := dk_42 (dk_at dksX1_loan_3 8 rfl rfl)
theorem dX1_loan_79 : decode cX1_loan 79 = .ok (.getfield 59, 3) := dk_180 0 59 (dk_at dksX1_loan_3 9 rfl rfl)
theorem dX1_loan_82 : decode cX1_loan 82 = .ok (.if_icmp .ge 40, 3) := dk_162 0 40 (dk_at dksX1_loan_3 12 rfl rfl)
theorem dX1_loan_85 : decode cX1_loan 85 = .ok (.iload 5, 2) := dk_21 5 (dk_at dksX1_loan_3 15 rfl rfl)
theorem dX1_loan_87 : decode cX1_loan 87 = .ok (.iload_n 1, 1) := dk_27 (dk_at dksX1_loan_3 17 rfl rfl)
theorem dX1_loan_88 : decode cX1_loan 88 = .ok (.if_icmp .eq 28, 3) := dk_159 0 28 (dk_at dksX1_loan_3 18 rfl rfl)
theorem dX1_loan_91 : decode cX1_loan 91 = .ok (.aload_n 0, 1) := dk_42 (dk_at dksX1_loan_3 21 rfl rfl)
theorem dX1_loan_92 : decode cX1_loan 92 = .ok (.iload_n 1, 1) := dk_27 (dk_at dksX1_loan_3 22 rfl rfl)
theorem dX1_loan_93 : decode cX1_loan 93 = .ok (.iload 5, 2) := dk_21 5 (dk_at dksX1_loan_4 0 rfl rfl)
theorem dX1_loan_95 : decode cX1_loan 95 = .ok (.iload 4, 2) := dk_21 4 (dk_at dksX1_loan_4 2 rfl rfl)
theorem dX1_loan_97 : decode cX1_loan 97 = .ok (.iload_n 2, 1) := dk_28 (dk_at dksX1_loan_4 4 rfl rfl)
theorem dX1_loan_98 : decode cX1_loan 98 = .ok (.invokevirtual 173, 3) := dk_182 0 173 (dk_at dksX1_loan_4 5 rfl rfl)
theorem dX1_loan_101 : decode cX1_loan 101 = .ok (.ifCond .eq 15, 3) := dk_153 0 15 (dk_at dksX1_loan_4 8 rfl rfl)
theorem dX1_loan_104 : decode cX1_loan 104 = .ok (.iload_n 3, 1) := dk_29 (dk_at dksX1_loan_4 11 rfl rfl)
theorem dX1_loan_105 : decode cX1_loan 105 = .ok (.ifCond .ne 8, 3) := dk_154 0 8 (dk_at dksX1_loan_4 12 rfl rfl)
theorem dX1_loan_108 : decode cX1_loan 108 = .ok (.iload 4, 2) := dk_21 4 (dk_at dksX1_loan_4 15 rfl rfl)
theorem dX1_loan_110 : decode cX1_loan 110 = .ok (.goto 5, 3) := dk_167 0 5 (dk_at dksX1_loan_4 17 rfl rfl)
theorem dX1_loan_113 : decode cX1_loan 113 = .ok (.iload 5, 2) := dk_21 5 (dk_at dksX1_loan_4 20 rfl rfl)
theorem dX1_loan_115 : decode cX1_loan 115 = .ok (.ireturn, 1) := dk_172 (dk_at dksX1_loan_4 22 rfl rfl)
theorem dX1_loan_116 : decode cX1_loan 116 = .ok (.iinc 5 1, 3) := dk_132 5 1 (dk_at dksX1_loan_5 0 rfl rfl)
theorem dX1_loan_119 : decode cX1_loan 119 = .ok (.goto (-43), 3) := dk_167 255 213 (dk_at dksX1_loan_5 3 rfl rfl)
theorem dX1_loan_122 : decode cX1_loan 122 = .ok (.iinc 4 1, 3) := dk_132 4 1 (dk_at dksX1_loan_5 6 rfl rfl)
theorem dX1_loan_125 : decode cX1_loan 125 = .ok (.goto (-59), 3) := dk_167 255 197 (dk_at dksX1_loan_5 9 rfl rfl)
theorem dX1_loan_128 : decode cX1_loan 128 = .ok (.bipush (-9), 2) := dk_16 247 (dk_at dksX1_loan_5 12 rfl rfl)
theorem dX1_loan_130 : decode cX1_loan 130 = .ok (.ireturn, 1) := dk_172 (dk_at dksX1_loan_5 14 rfl rfl)
abbrev cX1_pullsBy : ByteArray := prog_15_method_39_code
def yX1_pullsBy : MethodName := ⟨RX1, "pullsBy", "(IIII)Z"⟩
def dkwX1_pullsBy_3 : List UInt8 := [172]
abbrev dktX1_pullsBy_3 : List UInt8 := dkwX1_pullsBy_3 ++ []
def dkwX1_pullsBy_2 : List UInt8 := [160, 0, 7, 4, 167, 0, 4, 3, 54, 6, 42, 180, 0, 25, 8, 27, 104, 28, 96, 21, 5, 79, 21, 6]
abbrev dktX1_pullsBy_2 : List UInt8 := dkwX1_pullsBy_2 ++ dktX1_pullsBy_3
def dkwX1_pullsBy_1 : List UInt8 := [180, 0, 25, 8, 27, 104, 28, 96, 21, 5, 29, 96, 79, 42, 21, 4, 182, 0, 137, 4, 27, 120]
abbrev dktX1_pullsBy_1 : List UInt8 := dkwX1_pullsBy_1 ++ dktX1_pullsBy_2
def dkwX1_pullsBy_0 : List UInt8 := [42, 180, 0, 25, 8, 27, 104, 28, 96, 46, 54, 5, 21, 5, 29, 96, 16, 9, 164, 0, 5, 3, 172, 42]
abbrev dktX1_pullsBy_0 : List UInt8 := dkwX1_pullsBy_0 ++ dktX1_pullsBy_1
theorem dksX1_pullsBy_0 : cX1_pullsBy.data.toList.drop 0 = dktX1_pullsBy_0 := by decide +kernel
theorem dksX1_pullsBy_1 : cX1_pullsBy.data.toList.drop 24 = dktX1_pullsBy_1 := dk_seg dksX1_pullsBy_0 24 rfl rfl
theorem dksX1_pullsBy_2 : cX1_pullsBy.data.toList.drop 46 = dktX1_pullsBy_2 := dk_seg dksX1_pullsBy_1 22 rfl rfl
theorem dksX1_pullsBy_3 : cX1_pullsBy.data.toList.drop 70 = dktX1_pullsBy_3 := dk_seg dksX1_pullsBy_2 24 rfl rfl
theorem dX1_pullsBy_0 : decode cX1_pullsBy 0 = .ok (.aload_n 0, 1) := dk_42 (dk_at dksX1_pullsBy_0 0 rfl rfl)
theorem dX1_pullsBy_1 : decode cX1_pullsBy 1 = .ok (.getfield 25, 3) := dk_180 0 25 (dk_at dksX1_pullsBy_0 1 rfl rfl)
theorem dX1_pullsBy_4 : decode cX1_pullsBy 4 = .ok (.iconst 5, 1) := dk_8 (dk_at dksX1_pullsBy_0 4 rfl rfl)
theorem dX1_pullsBy_5 : decode cX1_pullsBy 5 = .ok (.iload_n 1, 1) := dk_27 (dk_at dksX1_pullsBy_0 5 rfl rfl)
theorem dX1_pullsBy_6 : decode cX1_pullsBy 6 = .ok (.imul, 1) := dk_104 (dk_at dksX1_pullsBy_0 6 rfl rfl)
theorem dX1_pullsBy_7 : decode cX1_pullsBy 7 = .ok (.iload_n 2, 1) := dk_28 (dk_at dksX1_pullsBy_0 7 rfl rfl)
theorem dX1_pullsBy_8 : decode cX1_pullsBy 8 = .ok (.iadd, 1) := dk_96 (dk_at dksX1_pullsBy_0 8 rfl rfl)
theorem dX1_pullsBy_9 : decode cX1_pullsBy 9 = .ok (.iaload, 1) := dk_46 (dk_at dksX1_pullsBy_0 9 rfl rfl)
theorem dX1_pullsBy_10 : decode cX1_pullsBy 10 = .ok (.istore 5, 2) := dk_54 5 (dk_at dksX1_pullsBy_0 10 rfl rfl)
theorem dX1_pullsBy_12 : decode cX1_pullsBy 12 = .ok (.iload 5, 2) := dk_21 5 (dk_at dksX1_pullsBy_0 12 rfl rfl)
theorem dX1_pullsBy_14 : decode cX1_pullsBy 14 = .ok (.iload_n 3, 1) := dk_29 (dk_at dksX1_pullsBy_0 14 rfl rfl)
theorem dX1_pullsBy_15 : decode cX1_pullsBy 15 = .ok (.iadd, 1) := dk_96 (dk_at dksX1_pullsBy_0 15 rfl rfl)
theorem dX1_pullsBy_16 : decode cX1_pullsBy 16 = .ok (.bipush 9, 2) := dk_16 9 (dk_at dksX1_pullsBy_0 16 rfl rfl)
theorem dX1_pullsBy_18 : decode cX1_pullsBy 18 = .ok (.if_icmp .le 5, 3) := dk_164 0 5 (dk_at dksX1_pullsBy_0 18 rfl rfl)
theorem dX1_pullsBy_21 : decode cX1_pullsBy 21 = .ok (.iconst 0, 1) := dk_3 (dk_at dksX1_pullsBy_0 21 rfl rfl)
theorem dX1_pullsBy_22 : decode cX1_pullsBy 22 = .ok (.ireturn, 1) := dk_172 (dk_at dksX1_pullsBy_0 22 rfl rfl)
theorem dX1_pullsBy_23 : decode cX1_pullsBy 23 = .ok (.aload_n 0, 1) := dk_42 (dk_at dksX1_pullsBy_0 23 rfl rfl)
theorem dX1_pullsBy_24 : decode cX1_pullsBy 24 = .ok (.getfield 25, 3) := dk_180 0 25 (dk_at dksX1_pullsBy_1 0 rfl rfl)
theorem dX1_pullsBy_27 : decode cX1_pullsBy 27 = .ok (.iconst 5, 1) := dk_8 (dk_at dksX1_pullsBy_1 3 rfl rfl)
theorem dX1_pullsBy_28 : decode cX1_pullsBy 28 = .ok (.iload_n 1, 1) := dk_27 (dk_at dksX1_pullsBy_1 4 rfl rfl)
theorem dX1_pullsBy_29 : decode cX1_pullsBy 29 = .ok (.imul, 1) := dk_104 (dk_at dksX1_pullsBy_1 5 rfl rfl)
theorem dX1_pullsBy_30 : decode cX1_pullsBy 30 = .ok (.iload_n 2, 1) := dk_28 (dk_at dksX1_pullsBy_1 6 rfl rfl)
theorem dX1_pullsBy_31 : decode cX1_pullsBy 31 = .ok (.iadd, 1) := dk_96 (dk_at dksX1_pullsBy_1 7 rfl rfl)
theorem dX1_pullsBy_32 : decode cX1_pullsBy 32 = .ok (.iload 5, 2) := dk_21 5 (dk_at dksX1_pullsBy_1 8 rfl rfl)
theorem dX1_pullsBy_34 : decode cX1_pullsBy 34 = .ok (.iload_n 3, 1) := dk_29 (dk_at dksX1_pullsBy_1 10 rfl rfl)
theorem dX1_pullsBy_35 : decode cX1_pullsBy 35 = .ok (.iadd, 1) := dk_96 (dk_at dksX1_pullsBy_1 11 rfl rfl)
theorem dX1_pullsBy_36 : decode cX1_pullsBy 36 = .ok (.iastore, 1) := dk_79 (dk_at dksX1_pullsBy_1 12 rfl rfl)
theorem dX1_pullsBy_37 : decode cX1_pullsBy 37 = .ok (.aload_n 0, 1) := dk_42 (dk_at dksX1_pullsBy_1 13 rfl rfl)
theorem dX1_pullsBy_38 : decode cX1_pullsBy 38 = .ok (.iload 4, 2) := dk_21 4 (dk_at dksX1_pullsBy_1 14 rfl rfl)
theorem dX1_pullsBy_40 : decode cX1_pullsBy 40 = .ok (.invokevirtual 137, 3) := dk_182 0 137 (dk_at dksX1_pullsBy_1 16 rfl rfl)
theorem dX1_pullsBy_43 : decode cX1_pullsBy 43 = .ok (.iconst 1, 1) := dk_4 (dk_at dksX1_pullsBy_1 19 rfl rfl)
theorem dX1_pullsBy_44 : decode cX1_pullsBy 44 = .ok (.iload_n 1, 1) := dk_27 (dk_at dksX1_pullsBy_1 20 rfl rfl)
theorem dX1_pullsBy_45 : decode cX1_pullsBy 45 = .ok (.ishl, 1) := dk_120 (dk_at dksX1_pullsBy_1 21 rfl rfl)
theorem dX1_pullsBy_46 : decode cX1_pullsBy 46 = .ok (.if_icmp .ne 7, 3) := dk_160 0 7 (dk_at dksX1_pullsBy_2 0 rfl rfl)
theorem dX1_pullsBy_49 : decode cX1_pullsBy 49 = .ok (.iconst 1, 1) := dk_4 (dk_at dksX1_pullsBy_2 3 rfl rfl)
theorem dX1_pullsBy_50 : decode cX1_pullsBy 50 = .ok (.goto 4, 3) := dk_167 0 4 (dk_at dksX1_pullsBy_2 4 rfl rfl)
theorem dX1_pullsBy_53 : decode cX1_pullsBy 53 = .ok (.iconst 0, 1) := dk_3 (dk_at dksX1_pullsBy_2 7 rfl rfl)
theorem dX1_pullsBy_54 : decode cX1_pullsBy 54 = .ok (.istore 6, 2) := dk_54 6 (dk_at dksX1_pullsBy_2 8 rfl rfl)
theorem dX1_pullsBy_56 : decode cX1_pullsBy 56 = .ok (.aload_n 0, 1) := dk_42 (dk_at dksX1_pullsBy_2 10 rfl rfl)
theorem dX1_pullsBy_57 : decode cX1_pullsBy 57 = .ok (.getfield 25, 3) := dk_180 0 25 (dk_at dksX1_pullsBy_2 11 rfl rfl)
theorem dX1_pullsBy_60 : decode cX1_pullsBy 60 = .ok (.iconst 5, 1) := dk_8 (dk_at dksX1_pullsBy_2 14 rfl rfl)
theorem dX1_pullsBy_61 : decode cX1_pullsBy 61 = .ok (.iload_n 1, 1) := dk_27 (dk_at dksX1_pullsBy_2 15 rfl rfl)
theorem dX1_pullsBy_62 : decode cX1_pullsBy 62 = .ok (.imul, 1) := dk_104 (dk_at dksX1_pullsBy_2 16 rfl rfl)
theorem dX1_pullsBy_63 : decode cX1_pullsBy 63 = .ok (.iload_n 2, 1) := dk_28 (dk_at dksX1_pullsBy_2 17 rfl rfl)
theorem dX1_pullsBy_64 : decode cX1_pullsBy 64 = .ok (.iadd, 1) := dk_96 (dk_at dksX1_pullsBy_2 18 rfl rfl)
theorem dX1_pullsBy_65 : decode cX1_pullsBy 65 = .ok (.iload 5, 2) := dk_21 5 (dk_at dksX1_pullsBy_2 19 rfl rfl)
theorem dX1_pullsBy_67 : decode cX1_pullsBy 67 = .ok (.iastore, 1) := dk_79 (dk_at dksX1_pullsBy_2 21 rfl rfl)
theorem dX1_pullsBy_68 : decode cX1_pullsBy 68 = .ok (.iload 6, 2) := dk_21 6 (dk_at dksX1_pullsBy_2 22 rfl rfl)
theorem dX1_pullsBy_70 : decode cX1_pullsBy 70 = .ok (.ireturn, 1) := dk_172 (dk_at dksX1_pullsBy_3 0 rfl rfl)
abbrev cX1_forgave : ByteArray := prog_15_method_40_code
def yX1_forgave : MethodName := ⟨RX1, "forgave", "(I)I"⟩
def dkwX1_forgave_3 : List UInt8 := [167, 0, 4, 28, 61, 132, 3, 1, 167, 255, 204, 42, 3, 181, 0, 130, 28, 172]
abbrev dktX1_forgave_3 : List UInt8 := dkwX1_forgave_3 ++ []
def dkwX1_forgave_2 : List UInt8 := [184, 0, 140, 28, 184, 0, 140, 162, 0, 22, 42, 29, 181, 0, 130, 42, 27, 182, 0, 137, 154, 0, 7, 29]
abbrev dktX1_forgave_2 : List UInt8 := dkwX1_forgave_2 ++ dktX1_forgave_3
def dkwX1_forgave_1 : List UInt8 := [3, 62, 29, 27, 163, 0, 53, 29, 27, 2, 130, 126, 154, 0, 39, 28, 16, 247, 159, 0, 14, 29]
abbrev dktX1_forgave_1 : List UInt8 := dkwX1_forgave_1 ++ dktX1_forgave_2
def dkwX1_forgave_0 : List UInt8 := [42, 180, 0, 59, 154, 0, 6, 16, 253, 172, 42, 27, 182, 0, 143, 154, 0, 6, 16, 254, 172, 16, 247, 61]
abbrev dktX1_forgave_0 : List UInt8 := dkwX1_forgave_0 ++ dktX1_forgave_1
theorem dksX1_forgave_0 : cX1_forgave.data.toList.drop 0 = dktX1_forgave_0 := by decide +kernel
theorem dksX1_forgave_1 : cX1_forgave.data.toList.drop 24 = dktX1_forgave_1 := dk_seg dksX1_forgave_0 24 rfl rfl
theorem dksX1_forgave_2 : cX1_forgave.data.toList.drop 46 = dktX1_forgave_2 := dk_seg dksX1_forgave_1 22 rfl rfl
theorem dksX1_forgave_3 : cX1_forgave.data.toList.drop 70 = dktX1_forgave_3 := dk_seg dksX1_forgave_2 24 rfl rfl
theorem dX1_forgave_0 : decode cX1_forgave 0 = .ok (.aload_n 0, 1) := dk_42 (dk_at dksX1_forgave_0 0 rfl rfl)
theorem dX1_forgave_1 : decode cX1_forgave 1 = .ok (.getfield 59, 3) := dk_180 0 59 (dk_at dksX1_forgave_0 1 rfl rfl)
theorem dX1_forgave_4 : decode cX1_forgave 4 = .ok (.ifCond .ne 6, 3) := dk_154 0 6 (dk_at dksX1_forgave_0 4 rfl rfl)
theorem dX1_forgave_7 : decode cX1_forgave 7 = .ok (.bipush (-3), 2) := dk_16 253 (dk_at dksX1_forgave_0 7 rfl rfl)
theorem dX1_forgave_9 : decode cX1_forgave 9 = .ok (.ireturn, 1) := dk_172 (dk_at dksX1_forgave_0 9 rfl rfl)
theorem dX1_forgave_10 : decode cX1_forgave 10 = .ok (.aload_n 0, 1) := dk_42 (dk_at dksX1_forgave_0 10 rfl rfl)
theorem dX1_forgave_11 : decode cX1_forgave 11 = .ok (.iload_n 1, 1) := dk_27 (dk_at dksX1_forgave_0 11 rfl rfl)
theorem dX1_forgave_12 : decode cX1_forgave 12 = .ok (.invokevirtual 143, 3) := dk_182 0 143 (dk_at dksX1_forgave_0 12 rfl rfl)
theorem dX1_forgave_15 : decode cX1_forgave 15 = .ok (.ifCond .ne 6, 3) := dk_154 0 6 (dk_at dksX1_forgave_0 15 rfl rfl)
theorem dX1_forgave_18 : decode cX1_forgave 18 = .ok (.bipush (-2), 2) := dk_16 254 (dk_at dksX1_forgave_0 18 rfl rfl)
theorem dX1_forgave_20 : decode cX1_forgave 20 = .ok (.ireturn, 1) := dk_172 (dk_at dksX1_forgave_0 20 rfl rfl)
theorem dX1_forgave_21 : decode cX1_forgave 21 = .ok (.bipush (-9), 2) := dk_16 247 (dk_at dksX1_forgave_0 21 rfl rfl)
theorem dX1_forgave_23 : decode cX1_forgave 23 = .ok (.istore_n 2, 1) := dk_61 (dk_at dksX1_forgave_0 23 rfl rfl)
theorem dX1_forgave_24 : decode cX1_forgave 24 = .ok (.iconst 0, 1) := dk_3 (dk_at dksX1_forgave_1 0 rfl rfl)
theorem dX1_forgave_25 : decode cX1_forgave 25 = .ok (.istore_n 3, 1) := dk_62 (dk_at dksX1_forgave_1 1 rfl rfl)
theorem dX1_forgave_26 : decode cX1_forgave 26 = .ok (.iload_n 3, 1) := dk_29 (dk_at dksX1_forgave_1 2 rfl rfl)
theorem dX1_forgave_27 : decode cX1_forgave 27 = .ok (.iload_n 1, 1) := dk_27 (dk_at dksX1_forgave_1 3 rfl rfl)
theorem dX1_forgave_28 : decode cX1_forgave 28 = .ok (.if_icmp .gt 53, 3) := dk_163 0 53 (dk_at dksX1_forgave_1 4 rfl rfl)
theorem dX1_forgave_31 : decode cX1_forgave 31 = .ok (.iload_n 3, 1) := dk_29 (dk_at dksX1_forgave_1 7 rfl rfl)
theorem dX1_forgave_32 : decode cX1_forgave 32 = .ok (.iload_n 1, 1) := dk_27 (dk_at dksX1_forgave_1 8 rfl rfl)
theorem dX1_forgave_33 : decode cX1_forgave 33 = .ok (.iconst (-1), 1) := dk_2 (dk_at dksX1_forgave_1 9 rfl rfl)
theorem dX1_forgave_34 : decode cX1_forgave 34 = .ok (.ixor, 1) := dk_130 (dk_at dksX1_forgave_1 10 rfl rfl)
theorem dX1_forgave_35 : decode cX1_forgave 35 = .ok (.iand, 1) := dk_126 (dk_at dksX1_forgave_1 11 rfl rfl)
theorem dX1_forgave_36 : decode cX1_forgave 36 = .ok (.ifCond .ne 39, 3) := dk_154 0 39 (dk_at dksX1_forgave_1 12 rfl rfl)
theorem dX1_forgave_39 : decode cX1_forgave 39 = .ok (.iload_n 2, 1) := dk_28 (dk_at dksX1_forgave_1 15 rfl rfl)
theorem dX1_forgave_40 : decode cX1_forgave 40 = .ok (.bipush (-9), 2) := dk_16 247 (dk_at dksX1_forgave_1 16 rfl rfl)
theorem dX1_forgave_42 : decode cX1_forgave 42 = .ok (.if_icmp .eq 14, 3) := dk_159 0 14 (dk_at dksX1_forgave_1 18 rfl rfl)
theorem dX1_forgave_45 : decode cX1_forgave 45 = .ok (.iload_n 3, 1) := dk_29 (dk_at dksX1_forgave_1 21 rfl rfl)
theorem dX1_forgave_46 : decode cX1_forgave 46 = .ok (.invokestatic 140, 3) := dk_184 0 140 (dk_at dksX1_forgave_2 0 rfl rfl)
theorem dX1_forgave_49 : decode cX1_forgave 49 = .ok (.iload_n 2, 1) := dk_28 (dk_at dksX1_forgave_2 3 rfl rfl)
theorem dX1_forgave_50 : decode cX1_forgave 50 = .ok (.invokestatic 140, 3) := dk_184 0 140 (dk_at dksX1_forgave_2 4 rfl rfl)
theorem dX1_forgave_53 : decode cX1_forgave 53 = .ok (.if_icmp .ge 22, 3) := dk_162 0 22 (dk_at dksX1_forgave_2 7 rfl rfl)
theorem dX1_forgave_56 : decode cX1_forgave 56 = .ok (.aload_n 0, 1) := dk_42 (dk_at dksX1_forgave_2 10 rfl rfl)
theorem dX1_forgave_57 : decode cX1_forgave 57 = .ok (.iload_n 3, 1) := dk_29 (dk_at dksX1_forgave_2 11 rfl rfl)
theorem dX1_forgave_58 : decode cX1_forgave 58 = .ok (.putfield 130, 3) := dk_181 0 130 (dk_at dksX1_forgave_2 12 rfl rfl)
theorem dX1_forgave_61 : decode cX1_forgave 61 = .ok (.aload_n 0, 1) := dk_42 (dk_at dksX1_forgave_2 15 rfl rfl)
theorem dX1_forgave_62 : decode cX1_forgave 62 = .ok (.iload_n 1, 1) := dk_27 (dk_at dksX1_forgave_2 16 rfl rfl)
theorem dX1_forgave_63 : decode cX1_forgave 63 = .ok (.invokevirtual 137, 3) := dk_182 0 137 (dk_at dksX1_forgave_2 17 rfl rfl)
theorem dX1_forgave_66 : decode cX1_forgave 66 = .ok (.ifCond .ne 7, 3) := dk_154 0 7 (dk_at dksX1_forgave_2 20 rfl rfl)
theorem dX1_forgave_69 : decode cX1_forgave 69 = .ok (.iload_n 3, 1) := dk_29 (dk_at dksX1_forgave_2 23 rfl rfl)
theorem dX1_forgave_70 : decode cX1_forgave 70 = .ok (.goto 4, 3) := dk_167 0 4 (dk_at dksX1_forgave_3 0 rfl rfl)
theorem dX1_forgave_73 : decode cX1_forgave 73 = .ok (.iload_n 2, 1) := dk_28 (dk_at dksX1_forgave_3 3 rfl rfl)
theorem dX1_forgave_74 : decode cX1_forgave 74 = .ok (.istore_n 2, 1) := dk_61 (dk_at dksX1_forgave_3 4 rfl rfl)
theorem dX1_forgave_75 : decode cX1_forgave 75 = .ok (.iinc 3 1, 3) := dk_132 3 1 (dk_at dksX1_forgave_3 5 rfl rfl)
theorem dX1_forgave_78 : decode cX1_forgave 78 = .ok (.goto (-52), 3) := dk_167 255 204 (dk_at dksX1_forgave_3 8 rfl rfl)
theorem dX1_forgave_81 : decode cX1_forgave 81 = .ok (.aload_n 0, 1) := dk_42 (dk_at dksX1_forgave_3 11 rfl rfl)
theorem dX1_forgave_82 : decode cX1_forgave 82 = .ok (.iconst 0, 1) := dk_3 (dk_at dksX1_forgave_3 12 rfl rfl)
theorem dX1_forgave_83 : decode cX1_forgave 83 = .ok (.putfield 130, 3) := dk_181 0 130 (dk_at dksX1_forgave_3 13 rfl rfl)
theorem dX1_forgave_86 : decode cX1_forgave 86 = .ok (.iload_n 2, 1) := dk_28 (dk_at dksX1_forgave_3 16 rfl rfl)
theorem dX1_forgave_87 : decode cX1_forgave 87 = .ok (.ireturn, 1) := dk_172 (dk_at dksX1_forgave_3 17 rfl rfl)
abbrev cX1_reading : ByteArray := prog_15_method_41_code
def yX1_reading : MethodName := ⟨RX1, "reading", "(II)I"⟩
def dkwX1_reading_3 : List UInt8 := [4, 96, 181, 0, 101, 42, 180, 0, 101, 4, 100, 172]
abbrev dktX1_reading_3 : List UInt8 := dkwX1_reading_3 ++ []
def dkwX1_reading_2 : List UInt8 := [180, 0, 43, 42, 180, 0, 101, 27, 79, 42, 180, 0, 46, 42, 180, 0, 101, 28, 79, 42, 89, 180, 0, 101]
abbrev dktX1_reading_2 : List UInt8 := dkwX1_reading_2 ++ dktX1_reading_3
def dkwX1_reading_1 : List UInt8 := [2, 130, 126, 153, 0, 6, 16, 254, 172, 42, 180, 0, 101, 16, 8, 160, 0, 6, 16, 252, 172, 42]
abbrev dktX1_reading_1 : List UInt8 := dkwX1_reading_1 ++ dktX1_reading_2
def dkwX1_reading_0 : List UInt8 := [42, 180, 0, 59, 154, 0, 6, 16, 253, 172, 42, 27, 182, 0, 143, 153, 0, 15, 28, 155, 0, 11, 28, 27]
abbrev dktX1_reading_0 : List UInt8 := dkwX1_reading_0 ++ dktX1_reading_1
theorem dksX1_reading_0 : cX1_reading.data.toList.drop 0 = dktX1_reading_0 := by decide +kernel
theorem dksX1_reading_1 : cX1_reading.data.toList.drop 24 = dktX1_reading_1 := dk_seg dksX1_reading_0 24 rfl rfl
theorem dksX1_reading_2 : cX1_reading.data.toList.drop 46 = dktX1_reading_2 := dk_seg dksX1_reading_1 22 rfl rfl
theorem dksX1_reading_3 : cX1_reading.data.toList.drop 70 = dktX1_reading_3 := dk_seg dksX1_reading_2 24 rfl rfl
theorem dX1_reading_0 : decode cX1_reading 0 = .ok (.aload_n 0, 1) := dk_42 (dk_at dksX1_reading_0 0 rfl rfl)
theorem dX1_reading_1 : decode cX1_reading 1 = .ok (.getfield 59, 3) := dk_180 0 59 (dk_at dksX1_reading_0 1 rfl rfl)
theorem dX1_reading_4 : decode cX1_reading 4 = .ok (.ifCond .ne 6, 3) := dk_154 0 6 (dk_at dksX1_reading_0 4 rfl rfl)
theorem dX1_reading_7 : decode cX1_reading 7 = .ok (.bipush (-3), 2) := dk_16 253 (dk_at dksX1_reading_0 7 rfl rfl)
theorem dX1_reading_9 : decode cX1_reading 9 = .ok (.ireturn, 1) := dk_172 (dk_at dksX1_reading_0 9 rfl rfl)
theorem dX1_reading_10 : decode cX1_reading 10 = .ok (.aload_n 0, 1) := dk_42 (dk_at dksX1_reading_0 10 rfl rfl)
theorem dX1_reading_11 : decode cX1_reading 11 = .ok (.iload_n 1, 1) := dk_27 (dk_at dksX1_reading_0 11 rfl rfl)
theorem dX1_reading_12 : decode cX1_reading 12 = .ok (.invokevirtual 143, 3) := dk_182 0 143 (dk_at dksX1_reading_0 12 rfl rfl)
theorem dX1_reading_15 : decode cX1_reading 15 = .ok (.ifCond .eq 15, 3) := dk_153 0 15 (dk_at dksX1_reading_0 15 rfl rfl)
theorem dX1_reading_18 : decode cX1_reading 18 = .ok (.iload_n 2, 1) := dk_28 (dk_at dksX1_reading_0 18 rfl rfl)
theorem dX1_reading_19 : decode cX1_reading 19 = .ok (.ifCond .lt 11, 3) := dk_155 0 11 (dk_at dksX1_reading_0 19 rfl rfl)
theorem dX1_reading_22 : decode cX1_reading 22 = .ok (.iload_n 2, 1) := dk_28 (dk_at dksX1_reading_0 22 rfl rfl)
theorem dX1_reading_23 : decode cX1_reading 23 = .ok (.iload_n 1, 1) := dk_27 (dk_at dksX1_reading_0 23 rfl rfl)
theorem dX1_reading_24 : decode cX1_reading 24 = .ok (.iconst (-1), 1) := dk_2 (dk_at dksX1_reading_1 0 rfl rfl)
theorem dX1_reading_25 : decode cX1_reading 25 = .ok (.ixor, 1) := dk_130 (dk_at dksX1_reading_1 1 rfl rfl)
theorem dX1_reading_26 : decode cX1_reading 26 = .ok (.iand, 1) := dk_126 (dk_at dksX1_reading_1 2 rfl rfl)
theorem dX1_reading_27 : decode cX1_reading 27 = .ok (.ifCond .eq 6, 3) := dk_153 0 6 (dk_at dksX1_reading_1 3 rfl rfl)
theorem dX1_reading_30 : decode cX1_reading 30 = .ok (.bipush (-2), 2) := dk_16 254 (dk_at dksX1_reading_1 6 rfl rfl)
theorem dX1_reading_32 : decode cX1_reading 32 = .ok (.ireturn, 1) := dk_172 (dk_at dksX1_reading_1 8 rfl rfl)
theorem dX1_reading_33 : decode cX1_reading 33 = .ok (.aload_n 0, 1) := dk_42 (dk_at dksX1_reading_1 9 rfl rfl)
theorem dX1_reading_34 : decode cX1_reading 34 = .ok (.getfield 101, 3) := dk_180 0 101 (dk_at dksX1_reading_1 10 rfl rfl)
theorem dX1_reading_37 : decode cX1_reading 37 = .ok (.bipush 8, 2) := dk_16 8 (dk_at dksX1_reading_1 13 rfl rfl)
theorem dX1_reading_39 : decode cX1_reading 39 = .ok (.if_icmp .ne 6, 3) := dk_160 0 6 (dk_at dksX1_reading_1 15 rfl rfl)
theorem dX1_reading_42 : decode cX1_reading 42 = .ok (.bipush (-4), 2) := dk_16 252 (dk_at dksX1_reading_1 18 rfl rfl)
theorem dX1_reading_44 : decode cX1_reading 44 = .ok (.ireturn, 1) := dk_172 (dk_at dksX1_reading_1 20 rfl rfl)
theorem dX1_reading_45 : decode cX1_reading 45 = .ok (.aload_n 0, 1) := dk_42 (dk_at dksX1_reading_1 21 rfl rfl)
theorem dX1_reading_46 : decode cX1_reading 46 = .ok (.getfield 43, 3) := dk_180 0 43 (dk_at dksX1_reading_2 0 rfl rfl)
theorem dX1_reading_49 : decode cX1_reading 49 = .ok (.aload_n 0, 1) := dk_42 (dk_at dksX1_reading_2 3 rfl rfl)
theorem dX1_reading_50 : decode cX1_reading 50 = .ok (.getfield 101, 3) := dk_180 0 101 (dk_at dksX1_reading_2 4 rfl rfl)
theorem dX1_reading_53 : decode cX1_reading 53 = .ok (.iload_n 1, 1) := dk_27 (dk_at dksX1_reading_2 7 rfl rfl)
theorem dX1_reading_54 : decode cX1_reading 54 = .ok (.iastore, 1) := dk_79 (dk_at dksX1_reading_2 8 rfl rfl)
theorem dX1_reading_55 : decode cX1_reading 55 = .ok (.aload_n 0, 1) := dk_42 (dk_at dksX1_reading_2 9 rfl rfl)
theorem dX1_reading_56 : decode cX1_reading 56 = .ok (.getfield 46, 3) := dk_180 0 46 (dk_at dksX1_reading_2 10 rfl rfl)
theorem dX1_reading_59 : decode cX1_reading 59 = .ok (.aload_n 0, 1) := dk_42 (dk_at dksX1_reading_2 13 rfl rfl)
theorem dX1_reading_60 : decode cX1_reading 60 = .ok (.getfield 101, 3) := dk_180 0 101 (dk_at dksX1_reading_2 14 rfl rfl)
theorem dX1_reading_63 : decode cX1_reading 63 = .ok (.iload_n 2, 1) := dk_28 (dk_at dksX1_reading_2 17 rfl rfl)
theorem dX1_reading_64 : decode cX1_reading 64 = .ok (.iastore, 1) := dk_79 (dk_at dksX1_reading_2 18 rfl rfl)
theorem dX1_reading_65 : decode cX1_reading 65 = .ok (.aload_n 0, 1) := dk_42 (dk_at dksX1_reading_2 19 rfl rfl)
theorem dX1_reading_66 : decode cX1_reading 66 = .ok (.dup, 1) := dk_89 (dk_at dksX1_reading_2 20 rfl rfl)
theorem dX1_reading_67 : decode cX1_reading 67 = .ok (.getfield 101, 3) := dk_180 0 101 (dk_at dksX1_reading_2 21 rfl rfl)
theorem dX1_reading_70 : decode cX1_reading 70 = .ok (.iconst 1, 1) := dk_4 (dk_at dksX1_reading_3 0 rfl rfl)
theorem dX1_reading_71 : decode cX1_reading 71 = .ok (.iadd, 1) := dk_96 (dk_at dksX1_reading_3 1 rfl rfl)
theorem dX1_reading_72 : decode cX1_reading 72 = .ok (.putfield 101, 3) := dk_181 0 101 (dk_at dksX1_reading_3 2 rfl rfl)
theorem dX1_reading_75 : decode cX1_reading 75 = .ok (.aload_n 0, 1) := dk_42 (dk_at dksX1_reading_3 5 rfl rfl)
theorem dX1_reading_76 : decode cX1_reading 76 = .ok (.getfield 101, 3) := dk_180 0 101 (dk_at dksX1_reading_3 6 rfl rfl)
theorem dX1_reading_79 : decode cX1_reading 79 = .ok (.iconst 1, 1) := dk_4 (dk_at dksX1_reading_3 9 rfl rfl)
theorem dX1_reading_80 : decode cX1_reading 80 = .ok (.isub, 1) := dk_100 (dk_at dksX1_reading_3 10 rfl rfl)
theorem dX1_reading_81 : decode cX1_reading 81 = .ok (.ireturn, 1) := dk_172 (dk_at dksX1_reading_3 11 rfl rfl)
abbrev cX1_back : ByteArray := prog_15_method_42_code
def yX1_back : MethodName := ⟨RX1, "back", "(I)I"⟩
def dkwX1_back_1 : List UInt8 := [181, 0, 101, 42, 180, 0, 101, 172]
abbrev dktX1_back_1 : List UInt8 := dkwX1_back_1 ++ []
def dkwX1_back_0 : List UInt8 := [27, 3, 42, 180, 0, 101, 184, 0, 55, 154, 0, 6, 16, 254, 172, 42, 89, 180, 0, 101, 27, 100]
abbrev dktX1_back_0 : List UInt8 := dkwX1_back_0 ++ dktX1_back_1
theorem dksX1_back_0 : cX1_back.data.toList.drop 0 = dktX1_back_0 := by decide +kernel
theorem dksX1_back_1 : cX1_back.data.toList.drop 22 = dktX1_back_1 := dk_seg dksX1_back_0 22 rfl rfl
theorem dX1_back_0 : decode cX1_back 0 = .ok (.iload_n 1, 1) := dk_27 (dk_at dksX1_back_0 0 rfl rfl)
theorem dX1_back_1 : decode cX1_back 1 = .ok (.iconst 0, 1) := dk_3 (dk_at dksX1_back_0 1 rfl rfl)
theorem dX1_back_2 : decode cX1_back 2 = .ok (.aload_n 0, 1) := dk_42 (dk_at dksX1_back_0 2 rfl rfl)
theorem dX1_back_3 : decode cX1_back 3 = .ok (.getfield 101, 3) := dk_180 0 101 (dk_at dksX1_back_0 3 rfl rfl)
theorem dX1_back_6 : decode cX1_back 6 = .ok (.invokestatic 55, 3) := dk_184 0 55 (dk_at dksX1_back_0 6 rfl rfl)
theorem dX1_back_9 : decode cX1_back 9 = .ok (.ifCond .ne 6, 3) := dk_154 0 6 (dk_at dksX1_back_0 9 rfl rfl)
theorem dX1_back_12 : decode cX1_back 12 = .ok (.bipush (-2), 2) := dk_16 254 (dk_at dksX1_back_0 12 rfl rfl)
theorem dX1_back_14 : decode cX1_back 14 = .ok (.ireturn, 1) := dk_172 (dk_at dksX1_back_0 14 rfl rfl)
theorem dX1_back_15 : decode cX1_back 15 = .ok (.aload_n 0, 1) := dk_42 (dk_at dksX1_back_0 15 rfl rfl)
theorem dX1_back_16 : decode cX1_back 16 = .ok (.dup, 1) := dk_89 (dk_at dksX1_back_0 16 rfl rfl)
theorem dX1_back_17 : decode cX1_back 17 = .ok (.getfield 101, 3) := dk_180 0 101 (dk_at dksX1_back_0 17 rfl rfl)
theorem dX1_back_20 : decode cX1_back 20 = .ok (.iload_n 1, 1) := dk_27 (dk_at dksX1_back_0 20 rfl rfl)
theorem dX1_back_21 : decode cX1_back 21 = .ok (.isub, 1) := dk_100 (dk_at dksX1_back_0 21 rfl rfl)
theorem dX1_back_22 : decode cX1_back 22 = .ok (.putfield 101, 3) := dk_181 0 101 (dk_at dksX1_back_1 0 rfl rfl)
theorem dX1_back_25 : decode cX1_back 25 = .ok (.aload_n 0, 1) := dk_42 (dk_at dksX1_back_1 3 rfl rfl)
theorem dX1_back_26 : decode cX1_back 26 = .ok (.getfield 101, 3) := dk_180 0 101 (dk_at dksX1_back_1 4 rfl rfl)
theorem dX1_back_29 : decode cX1_back 29 = .ok (.ireturn, 1) := dk_172 (dk_at dksX1_back_1 7 rfl rfl)
abbrev cX1_notes : ByteArray := prog_15_method_44_code
def yX1_notes : MethodName := ⟨RX1, "notes", "(II)I"⟩
def dkwX1_notes_3 : List UInt8 := [167, 255, 214, 42, 180, 0, 25, 8, 27, 104, 28, 96, 29, 79, 21, 4, 172]
abbrev dktX1_notes_3 : List UInt8 := dkwX1_notes_3 ++ []
def dkwX1_notes_2 : List UInt8 := [21, 4, 42, 182, 0, 177, 153, 0, 10, 4, 21, 5, 120, 167, 0, 4, 3, 128, 54, 4, 132, 5, 1]
abbrev dktX1_notes_2 : List UInt8 := dkwX1_notes_2 ++ dktX1_notes_3
def dkwX1_notes_1 : List UInt8 := [54, 4, 3, 54, 5, 21, 5, 16, 9, 163, 0, 41, 42, 180, 0, 25, 8, 27, 104, 28, 96, 21, 5, 79]
abbrev dktX1_notes_1 : List UInt8 := dkwX1_notes_1 ++ dktX1_notes_2
def dkwX1_notes_0 : List UInt8 := [42, 27, 28, 182, 0, 121, 154, 0, 5, 2, 172, 42, 180, 0, 25, 8, 27, 104, 28, 96, 46, 62, 3]
abbrev dktX1_notes_0 : List UInt8 := dkwX1_notes_0 ++ dktX1_notes_1
theorem dksX1_notes_0 : cX1_notes.data.toList.drop 0 = dktX1_notes_0 := by decide +kernel
theorem dksX1_notes_1 : cX1_notes.data.toList.drop 23 = dktX1_notes_1 := dk_seg dksX1_notes_0 23 rfl rfl
theorem dksX1_notes_2 : cX1_notes.data.toList.drop 47 = dktX1_notes_2 := dk_seg dksX1_notes_1 24 rfl rfl
theorem dksX1_notes_3 : cX1_notes.data.toList.drop 70 = dktX1_notes_3 := dk_seg dksX1_notes_2 23 rfl rfl
theorem dX1_notes_0 : decode cX1_notes 0 = .ok (.aload_n 0, 1) := dk_42 (dk_at dksX1_notes_0 0 rfl rfl)
theorem dX1_notes_1 : decode cX1_notes 1 = .ok (.iload_n 1, 1) := dk_27 (dk_at dksX1_notes_0 1 rfl rfl)
theorem dX1_notes_2 : decode cX1_notes 2 = .ok (.iload_n 2, 1) := dk_28 (dk_at dksX1_notes_0 2 rfl rfl)
theorem dX1_notes_3 : decode cX1_notes 3 = .ok (.invokevirtual 121, 3) := dk_182 0 121 (dk_at dksX1_notes_0 3 rfl rfl)
theorem dX1_notes_6 : decode cX1_notes 6 = .ok (.ifCond .ne 5, 3) := dk_154 0 5 (dk_at dksX1_notes_0 6 rfl rfl)
theorem dX1_notes_9 : decode cX1_notes 9 = .ok (.iconst (-1), 1) := dk_2 (dk_at dksX1_notes_0 9 rfl rfl)
theorem dX1_notes_10 : decode cX1_notes 10 = .ok (.ireturn, 1) := dk_172 (dk_at dksX1_notes_0 10 rfl rfl)
theorem dX1_notes_11 : decode cX1_notes 11 = .ok (.aload_n 0, 1) := dk_42 (dk_at dksX1_notes_0 11 rfl rfl)
theorem dX1_notes_12 : decode cX1_notes 12 = .ok (.getfield 25, 3) := dk_180 0 25 (dk_at dksX1_notes_0 12 rfl rfl)
theorem dX1_notes_15 : decode cX1_notes 15 = .ok (.iconst 5, 1) := dk_8 (dk_at dksX1_notes_0 15 rfl rfl)
theorem dX1_notes_16 : decode cX1_notes 16 = .ok (.iload_n 1, 1) := dk_27 (dk_at dksX1_notes_0 16 rfl rfl)
theorem dX1_notes_17 : decode cX1_notes 17 = .ok (.imul, 1) := dk_104 (dk_at dksX1_notes_0 17 rfl rfl)
theorem dX1_notes_18 : decode cX1_notes 18 = .ok (.iload_n 2, 1) := dk_28 (dk_at dksX1_notes_0 18 rfl rfl)
theorem dX1_notes_19 : decode cX1_notes 19 = .ok (.iadd, 1) := dk_96 (dk_at dksX1_notes_0 19 rfl rfl)
theorem dX1_notes_20 : decode cX1_notes 20 = .ok (.iaload, 1) := dk_46 (dk_at dksX1_notes_0 20 rfl rfl)
theorem dX1_notes_21 : decode cX1_notes 21 = .ok (.istore_n 3, 1) := dk_62 (dk_at dksX1_notes_0 21 rfl rfl)
theorem dX1_notes_22 : decode cX1_notes 22 = .ok (.iconst 0, 1) := dk_3 (dk_at dksX1_notes_0 22 rfl rfl)
theorem dX1_notes_23 : decode cX1_notes 23 = .ok (.istore 4, 2) := dk_54 4 (dk_at dksX1_notes_1 0 rfl rfl)
theorem dX1_notes_25 : decode cX1_notes 25 = .ok (.iconst 0, 1) := dk_3 (dk_at dksX1_notes_1 2 rfl rfl)
theorem dX1_notes_26 : decode cX1_notes 26 = .ok (.istore 5, 2) := dk_54 5 (dk_at dksX1_notes_1 3 rfl rfl)
theorem dX1_notes_28 : decode cX1_notes 28 = .ok (.iload 5, 2) := dk_21 5 (dk_at dksX1_notes_1 5 rfl rfl)
theorem dX1_notes_30 : decode cX1_notes 30 = .ok (.bipush 9, 2) := dk_16 9 (dk_at dksX1_notes_1 7 rfl rfl)
theorem dX1_notes_32 : decode cX1_notes 32 = .ok (.if_icmp .gt 41, 3) := dk_163 0 41 (dk_at dksX1_notes_1 9 rfl rfl)
theorem dX1_notes_35 : decode cX1_notes 35 = .ok (.aload_n 0, 1) := dk_42 (dk_at dksX1_notes_1 12 rfl rfl)
theorem dX1_notes_36 : decode cX1_notes 36 = .ok (.getfield 25, 3) := dk_180 0 25 (dk_at dksX1_notes_1 13 rfl rfl)
theorem dX1_notes_39 : decode cX1_notes 39 = .ok (.iconst 5, 1) := dk_8 (dk_at dksX1_notes_1 16 rfl rfl)
theorem dX1_notes_40 : decode cX1_notes 40 = .ok (.iload_n 1, 1) := dk_27 (dk_at dksX1_notes_1 17 rfl rfl)
theorem dX1_notes_41 : decode cX1_notes 41 = .ok (.imul, 1) := dk_104 (dk_at dksX1_notes_1 18 rfl rfl)
theorem dX1_notes_42 : decode cX1_notes 42 = .ok (.iload_n 2, 1) := dk_28 (dk_at dksX1_notes_1 19 rfl rfl)
theorem dX1_notes_43 : decode cX1_notes 43 = .ok (.iadd, 1) := dk_96 (dk_at dksX1_notes_1 20 rfl rfl)
theorem dX1_notes_44 : decode cX1_notes 44 = .ok (.iload 5, 2) := dk_21 5 (dk_at dksX1_notes_1 21 rfl rfl)
theorem dX1_notes_46 : decode cX1_notes 46 = .ok (.iastore, 1) := dk_79 (dk_at dksX1_notes_1 23 rfl rfl)
theorem dX1_notes_47 : decode cX1_notes 47 = .ok (.iload 4, 2) := dk_21 4 (dk_at dksX1_notes_2 0 rfl rfl)
theorem dX1_notes_49 : decode cX1_notes 49 = .ok (.aload_n 0, 1) := dk_42 (dk_at dksX1_notes_2 2 rfl rfl)
theorem dX1_notes_50 : decode cX1_notes 50 = .ok (.invokevirtual 177, 3) := dk_182 0 177 (dk_at dksX1_notes_2 3 rfl rfl)
theorem dX1_notes_53 : decode cX1_notes 53 = .ok (.ifCond .eq 10, 3) := dk_153 0 10 (dk_at dksX1_notes_2 6 rfl rfl)
theorem dX1_notes_56 : decode cX1_notes 56 = .ok (.iconst 1, 1) := dk_4 (dk_at dksX1_notes_2 9 rfl rfl)
theorem dX1_notes_57 : decode cX1_notes 57 = .ok (.iload 5, 2) := dk_21 5 (dk_at dksX1_notes_2 10 rfl rfl)
theorem dX1_notes_59 : decode cX1_notes 59 = .ok (.ishl, 1) := dk_120 (dk_at dksX1_notes_2 12 rfl rfl)
theorem dX1_notes_60 : decode cX1_notes 60 = .ok (.goto 4, 3) := dk_167 0 4 (dk_at dksX1_notes_2 13 rfl rfl)
theorem dX1_notes_63 : decode cX1_notes 63 = .ok (.iconst 0, 1) := dk_3 (dk_at dksX1_notes_2 16 rfl rfl)
theorem dX1_notes_64 : decode cX1_notes 64 = .ok (.ior, 1) := dk_128 (dk_at dksX1_notes_2 17 rfl rfl)
theorem dX1_notes_65 : decode cX1_notes 65 = .ok (.istore 4, 2) := dk_54 4 (dk_at dksX1_notes_2 18 rfl rfl)
theorem dX1_notes_67 : decode cX1_notes 67 = .ok (.iinc 5 1, 3) := dk_132 5 1 (dk_at dksX1_notes_2 20 rfl rfl)
theorem dX1_notes_70 : decode cX1_notes 70 = .ok (.goto (-42), 3) := dk_167 255 214 (dk_at dksX1_notes_3 0 rfl rfl)
theorem dX1_notes_73 : decode cX1_notes 73 = .ok (.aload_n 0, 1) := dk_42 (dk_at dksX1_notes_3 3 rfl rfl)
theorem dX1_notes_74 : decode cX1_notes 74 = .ok (.getfield 25, 3) := dk_180 0 25 (dk_at dksX1_notes_3 4 rfl rfl)
theorem dX1_notes_77 : decode cX1_notes 77 = .ok (.iconst 5, 1) := dk_8 (dk_at dksX1_notes_3 7 rfl rfl)
theorem dX1_notes_78 : decode cX1_notes 78 = .ok (.iload_n 1, 1) := dk_27 (dk_at dksX1_notes_3 8 rfl rfl)
theorem dX1_notes_79 : decode cX1_notes 79 = .ok (.imul, 1) := dk_104 (dk_at dksX1_notes_3 9 rfl rfl)
theorem dX1_notes_80 : decode cX1_notes 80 = .ok (.iload_n 2, 1) := dk_28 (dk_at dksX1_notes_3 10 rfl rfl)
theorem dX1_notes_81 : decode cX1_notes 81 = .ok (.iadd, 1) := dk_96 (dk_at dksX1_notes_3 11 rfl rfl)
theorem dX1_notes_82 : decode cX1_notes 82 = .ok (.iload_n 3, 1) := dk_29 (dk_at dksX1_notes_3 12 rfl rfl)
theorem dX1_notes_83 : decode cX1_notes 83 = .ok (.iastore, 1) := dk_79 (dk_at dksX1_notes_3 13 rfl rfl)
theorem dX1_notes_84 : decode cX1_notes 84 = .ok (.iload 4, 2) := dk_21 4 (dk_at dksX1_notes_3 14 rfl rfl)
theorem dX1_notes_86 : decode cX1_notes 86 = .ok (.ireturn, 1) := dk_172 (dk_at dksX1_notes_3 16 rfl rfl)
abbrev cX1_areSo : ByteArray := prog_15_method_43_code
def yX1_areSo : MethodName := ⟨RX1, "areSo", "()Z"⟩
def dkwX1_areSo_1 : List UInt8 := [27, 46, 159, 0, 5, 3, 172, 132, 1, 1, 167, 255, 224, 4, 172]
abbrev dktX1_areSo_1 : List UInt8 := dkwX1_areSo_1 ++ []
def dkwX1_areSo_0 : List UInt8 := [3, 60, 27, 42, 180, 0, 101, 162, 0, 30, 42, 42, 180, 0, 43, 27, 46, 182, 0, 137, 42, 180, 0, 46]
abbrev dktX1_areSo_0 : List UInt8 := dkwX1_areSo_0 ++ dktX1_areSo_1
theorem dksX1_areSo_0 : cX1_areSo.data.toList.drop 0 = dktX1_areSo_0 := by decide +kernel
theorem dksX1_areSo_1 : cX1_areSo.data.toList.drop 24 = dktX1_areSo_1 := dk_seg dksX1_areSo_0 24 rfl rfl
theorem dX1_areSo_0 : decode cX1_areSo 0 = .ok (.iconst 0, 1) := dk_3 (dk_at dksX1_areSo_0 0 rfl rfl)
theorem dX1_areSo_1 : decode cX1_areSo 1 = .ok (.istore_n 1, 1) := dk_60 (dk_at dksX1_areSo_0 1 rfl rfl)
theorem dX1_areSo_2 : decode cX1_areSo 2 = .ok (.iload_n 1, 1) := dk_27 (dk_at dksX1_areSo_0 2 rfl rfl)
theorem dX1_areSo_3 : decode cX1_areSo 3 = .ok (.aload_n 0, 1) := dk_42 (dk_at dksX1_areSo_0 3 rfl rfl)
theorem dX1_areSo_4 : decode cX1_areSo 4 = .ok (.getfield 101, 3) := dk_180 0 101 (dk_at dksX1_areSo_0 4 rfl rfl)
theorem dX1_areSo_7 : decode cX1_areSo 7 = .ok (.if_icmp .ge 30, 3) := dk_162 0 30 (dk_at dksX1_areSo_0 7 rfl rfl)
theorem dX1_areSo_10 : decode cX1_areSo 10 = .ok (.aload_n 0, 1) := dk_42 (dk_at dksX1_areSo_0 10 rfl rfl)
theorem dX1_areSo_11 : decode cX1_areSo 11 = .ok (.aload_n 0, 1) := dk_42 (dk_at dksX1_areSo_0 11 rfl rfl)
theorem dX1_areSo_12 : decode cX1_areSo 12 = .ok (.getfield 43, 3) := dk_180 0 43 (dk_at dksX1_areSo_0 12 rfl rfl)
theorem dX1_areSo_15 : decode cX1_areSo 15 = .ok (.iload_n 1, 1) := dk_27 (dk_at dksX1_areSo_0 15 rfl rfl)
theorem dX1_areSo_16 : decode cX1_areSo 16 = .ok (.iaload, 1) := dk_46 (dk_at dksX1_areSo_0 16 rfl rfl)
theorem dX1_areSo_17 : decode cX1_areSo 17 = .ok (.invokevirtual 137, 3) := dk_182 0 137 (dk_at dksX1_areSo_0 17 rfl rfl)
theorem dX1_areSo_20 : decode cX1_areSo 20 = .ok (.aload_n 0, 1) := dk_42 (dk_at dksX1_areSo_0 20 rfl rfl)
theorem dX1_areSo_21 : decode cX1_areSo 21 = .ok (.getfield 46, 3) := dk_180 0 46 (dk_at dksX1_areSo_0 21 rfl rfl)
theorem dX1_areSo_24 : decode cX1_areSo 24 = .ok (.iload_n 1, 1) := dk_27 (dk_at dksX1_areSo_1 0 rfl rfl)
theorem dX1_areSo_25 : decode cX1_areSo 25 = .ok (.iaload, 1) := dk_46 (dk_at dksX1_areSo_1 1 rfl rfl)
theorem dX1_areSo_26 : decode cX1_areSo 26 = .ok (.if_icmp .eq 5, 3) := dk_159 0 5 (dk_at dksX1_areSo_1 2 rfl rfl)
theorem dX1_areSo_29 : decode cX1_areSo 29 = .ok (.iconst 0, 1) := dk_3 (dk_at dksX1_areSo_1 5 rfl rfl)
theorem dX1_areSo_30 : decode cX1_areSo 30 = .ok (.ireturn, 1) := dk_172 (dk_at dksX1_areSo_1 6 rfl rfl)
theorem dX1_areSo_31 : decode cX1_areSo 31 = .ok (.iinc 1 1, 3) := dk_132 1 1 (dk_at dksX1_areSo_1 7 rfl rfl)
theorem dX1_areSo_34 : decode cX1_areSo 34 = .ok (.goto (-32), 3) := dk_167 255 224 (dk_at dksX1_areSo_1 10 rfl rfl)
theorem dX1_areSo_37 : decode cX1_areSo 37 = .ok (.iconst 1, 1) := dk_4 (dk_at dksX1_areSo_1 13 rfl rfl)
theorem dX1_areSo_38 : decode cX1_areSo 38 = .ok (.ireturn, 1) := dk_172 (dk_at dksX1_areSo_1 14 rfl rfl)
abbrev cX1_kinds : ByteArray := prog_15_method_45_code
def yX1_kinds : MethodName := ⟨RX1, "kinds", "(I)I"⟩
def dkwX1_kinds_2 : List UInt8 := [167, 0, 4, 3, 128, 62, 132, 4, 1, 167, 255, 221, 42, 180, 0, 19, 27, 28, 79, 29, 172]
abbrev dktX1_kinds_2 : List UInt8 := dkwX1_kinds_2 ++ []
def dkwX1_kinds_1 : List UInt8 := [6, 162, 0, 35, 42, 180, 0, 19, 27, 21, 4, 79, 29, 42, 182, 0, 177, 153, 0, 10, 4, 21, 4, 120]
abbrev dktX1_kinds_1 : List UInt8 := dkwX1_kinds_1 ++ dktX1_kinds_2
def dkwX1_kinds_0 : List UInt8 := [42, 27, 182, 0, 115, 154, 0, 5, 2, 172, 42, 180, 0, 19, 27, 46, 61, 3, 62, 3, 54, 4, 21, 4]
abbrev dktX1_kinds_0 : List UInt8 := dkwX1_kinds_0 ++ dktX1_kinds_1
theorem dksX1_kinds_0 : cX1_kinds.data.toList.drop 0 = dktX1_kinds_0 := by decide +kernel
theorem dksX1_kinds_1 : cX1_kinds.data.toList.drop 24 = dktX1_kinds_1 := dk_seg dksX1_kinds_0 24 rfl rfl
theorem dksX1_kinds_2 : cX1_kinds.data.toList.drop 48 = dktX1_kinds_2 := dk_seg dksX1_kinds_1 24 rfl rfl
theorem dX1_kinds_0 : decode cX1_kinds 0 = .ok (.aload_n 0, 1) := dk_42 (dk_at dksX1_kinds_0 0 rfl rfl)
theorem dX1_kinds_1 : decode cX1_kinds 1 = .ok (.iload_n 1, 1) := dk_27 (dk_at dksX1_kinds_0 1 rfl rfl)
theorem dX1_kinds_2 : decode cX1_kinds 2 = .ok (.invokevirtual 115, 3) := dk_182 0 115 (dk_at dksX1_kinds_0 2 rfl rfl)
theorem dX1_kinds_5 : decode cX1_kinds 5 = .ok (.ifCond .ne 5, 3) := dk_154 0 5 (dk_at dksX1_kinds_0 5 rfl rfl)
theorem dX1_kinds_8 : decode cX1_kinds 8 = .ok (.iconst (-1), 1) := dk_2 (dk_at dksX1_kinds_0 8 rfl rfl)
theorem dX1_kinds_9 : decode cX1_kinds 9 = .ok (.ireturn, 1) := dk_172 (dk_at dksX1_kinds_0 9 rfl rfl)
theorem dX1_kinds_10 : decode cX1_kinds 10 = .ok (.aload_n 0, 1) := dk_42 (dk_at dksX1_kinds_0 10 rfl rfl)
theorem dX1_kinds_11 : decode cX1_kinds 11 = .ok (.getfield 19, 3) := dk_180 0 19 (dk_at dksX1_kinds_0 11 rfl rfl)
theorem dX1_kinds_14 : decode cX1_kinds 14 = .ok (.iload_n 1, 1) := dk_27 (dk_at dksX1_kinds_0 14 rfl rfl)
theorem dX1_kinds_15 : decode cX1_kinds 15 = .ok (.iaload, 1) := dk_46 (dk_at dksX1_kinds_0 15 rfl rfl)
theorem dX1_kinds_16 : decode cX1_kinds 16 = .ok (.istore_n 2, 1) := dk_61 (dk_at dksX1_kinds_0 16 rfl rfl)
theorem dX1_kinds_17 : decode cX1_kinds 17 = .ok (.iconst 0, 1) := dk_3 (dk_at dksX1_kinds_0 17 rfl rfl)
theorem dX1_kinds_18 : decode cX1_kinds 18 = .ok (.istore_n 3, 1) := dk_62 (dk_at dksX1_kinds_0 18 rfl rfl)
theorem dX1_kinds_19 : decode cX1_kinds 19 = .ok (.iconst 0, 1) := dk_3 (dk_at dksX1_kinds_0 19 rfl rfl)
theorem dX1_kinds_20 : decode cX1_kinds 20 = .ok (.istore 4, 2) := dk_54 4 (dk_at dksX1_kinds_0 20 rfl rfl)
theorem dX1_kinds_22 : decode cX1_kinds 22 = .ok (.iload 4, 2) := dk_21 4 (dk_at dksX1_kinds_0 22 rfl rfl)
theorem dX1_kinds_24 : decode cX1_kinds 24 = .ok (.iconst 3, 1) := dk_6 (dk_at dksX1_kinds_1 0 rfl rfl)
theorem dX1_kinds_25 : decode cX1_kinds 25 = .ok (.if_icmp .ge 35, 3) := dk_162 0 35 (dk_at dksX1_kinds_1 1 rfl rfl)
theorem dX1_kinds_28 : decode cX1_kinds 28 = .ok (.aload_n 0, 1) := dk_42 (dk_at dksX1_kinds_1 4 rfl rfl)
theorem dX1_kinds_29 : decode cX1_kinds 29 = .ok (.getfield 19, 3) := dk_180 0 19 (dk_at dksX1_kinds_1 5 rfl rfl)
theorem dX1_kinds_32 : decode cX1_kinds 32 = .ok (.iload_n 1, 1) := dk_27 (dk_at dksX1_kinds_1 8 rfl rfl)
theorem dX1_kinds_33 : decode cX1_kinds 33 = .ok (.iload 4, 2) := dk_21 4 (dk_at dksX1_kinds_1 9 rfl rfl)
theorem dX1_kinds_35 : decode cX1_kinds 35 = .ok (.iastore, 1) := dk_79 (dk_at dksX1_kinds_1 11 rfl rfl)
theorem dX1_kinds_36 : decode cX1_kinds 36 = .ok (.iload_n 3, 1) := dk_29 (dk_at dksX1_kinds_1 12 rfl rfl)
theorem dX1_kinds_37 : decode cX1_kinds 37 = .ok (.aload_n 0, 1) := dk_42 (dk_at dksX1_kinds_1 13 rfl rfl)
theorem dX1_kinds_38 : decode cX1_kinds 38 = .ok (.invokevirtual 177, 3) := dk_182 0 177 (dk_at dksX1_kinds_1 14 rfl rfl)
theorem dX1_kinds_41 : decode cX1_kinds 41 = .ok (.ifCond .eq 10, 3) := dk_153 0 10 (dk_at dksX1_kinds_1 17 rfl rfl)
theorem dX1_kinds_44 : decode cX1_kinds 44 = .ok (.iconst 1, 1) := dk_4 (dk_at dksX1_kinds_1 20 rfl rfl)
theorem dX1_kinds_45 : decode cX1_kinds 45 = .ok (.iload 4, 2) := dk_21 4 (dk_at dksX1_kinds_1 21 rfl rfl)
theorem dX1_kinds_47 : decode cX1_kinds 47 = .ok (.ishl, 1) := dk_120 (dk_at dksX1_kinds_1 23 rfl rfl)
theorem dX1_kinds_48 : decode cX1_kinds 48 = .ok (.goto 4, 3) := dk_167 0 4 (dk_at dksX1_kinds_2 0 rfl rfl)
theorem dX1_kinds_51 : decode cX1_kinds 51 = .ok (.iconst 0, 1) := dk_3 (dk_at dksX1_kinds_2 3 rfl rfl)
theorem dX1_kinds_52 : decode cX1_kinds 52 = .ok (.ior, 1) := dk_128 (dk_at dksX1_kinds_2 4 rfl rfl)
theorem dX1_kinds_53 : decode cX1_kinds 53 = .ok (.istore_n 3, 1) := dk_62 (dk_at dksX1_kinds_2 5 rfl rfl)
theorem dX1_kinds_54 : decode cX1_kinds 54 = .ok (.iinc 4 1, 3) := dk_132 4 1 (dk_at dksX1_kinds_2 6 rfl rfl)
theorem dX1_kinds_57 : decode cX1_kinds 57 = .ok (.goto (-35), 3) := dk_167 255 221 (dk_at dksX1_kinds_2 9 rfl rfl)
theorem dX1_kinds_60 : decode cX1_kinds 60 = .ok (.aload_n 0, 1) := dk_42 (dk_at dksX1_kinds_2 12 rfl rfl)
theorem dX1_kinds_61 : decode cX1_kinds 61 = .ok (.getfield 19, 3) := dk_180 0 19 (dk_at dksX1_kinds_2 13 rfl rfl)
theorem dX1_kinds_64 : decode cX1_kinds 64 = .ok (.iload_n 1, 1) := dk_27 (dk_at dksX1_kinds_2 16 rfl rfl)
theorem dX1_kinds_65 : decode cX1_kinds 65 = .ok (.iload_n 2, 1) := dk_28 (dk_at dksX1_kinds_2 17 rfl rfl)
theorem dX1_kinds_66 : decode cX1_kinds 66 = .ok (.iastore, 1) := dk_79 (dk_at dksX1_kinds_2 18 rfl rfl)
theorem dX1_kinds_67 : decode cX1_kinds 67 = .ok (.iload_n 3, 1) := dk_29 (dk_at dksX1_kinds_2 19 rfl rfl)
theorem dX1_kinds_68 : decode cX1_kinds 68 = .ok (.ireturn, 1) := dk_172 (dk_at dksX1_kinds_2 20 rfl rfl)
abbrev cX1_often : ByteArray := prog_15_method_46_code
def yX1_often : MethodName := ⟨RX1, "often", "()I"⟩
def dkwX1_often_2 : List UInt8 := [132, 3, 1, 167, 255, 226, 42, 27, 181, 0, 98, 28, 172]
abbrev dktX1_often_2 : List UInt8 := dkwX1_often_2 ++ []
def dkwX1_often_1 : List UInt8 := [42, 29, 181, 0, 98, 28, 42, 182, 0, 177, 153, 0, 9, 4, 29, 120, 167, 0, 4, 3, 128, 61]
abbrev dktX1_often_1 : List UInt8 := dkwX1_often_1 ++ dktX1_often_2
def dkwX1_often_0 : List UInt8 := [42, 180, 0, 59, 154, 0, 6, 16, 253, 172, 42, 180, 0, 98, 60, 3, 61, 4, 62, 29, 6, 163, 0, 31]
abbrev dktX1_often_0 : List UInt8 := dkwX1_often_0 ++ dktX1_often_1
theorem dksX1_often_0 : cX1_often.data.toList.drop 0 = dktX1_often_0 := by decide +kernel
theorem dksX1_often_1 : cX1_often.data.toList.drop 24 = dktX1_often_1 := dk_seg dksX1_often_0 24 rfl rfl
theorem dksX1_often_2 : cX1_often.data.toList.drop 46 = dktX1_often_2 := dk_seg dksX1_often_1 22 rfl rfl
theorem dX1_often_0 : decode cX1_often 0 = .ok (.aload_n 0, 1) := dk_42 (dk_at dksX1_often_0 0 rfl rfl)
theorem dX1_often_1 : decode cX1_often 1 = .ok (.getfield 59, 3) := dk_180 0 59 (dk_at dksX1_often_0 1 rfl rfl)
theorem dX1_often_4 : decode cX1_often 4 = .ok (.ifCond .ne 6, 3) := dk_154 0 6 (dk_at dksX1_often_0 4 rfl rfl)
theorem dX1_often_7 : decode cX1_often 7 = .ok (.bipush (-3), 2) := dk_16 253 (dk_at dksX1_often_0 7 rfl rfl)
theorem dX1_often_9 : decode cX1_often 9 = .ok (.ireturn, 1) := dk_172 (dk_at dksX1_often_0 9 rfl rfl)
theorem dX1_often_10 : decode cX1_often 10 = .ok (.aload_n 0, 1) := dk_42 (dk_at dksX1_often_0 10 rfl rfl)
theorem dX1_often_11 : decode cX1_often 11 = .ok (.getfield 98, 3) := dk_180 0 98 (dk_at dksX1_often_0 11 rfl rfl)
theorem dX1_often_14 : decode cX1_often 14 = .ok (.istore_n 1, 1) := dk_60 (dk_at dksX1_often_0 14 rfl rfl)
theorem dX1_often_15 : decode cX1_often 15 = .ok (.iconst 0, 1) := dk_3 (dk_at dksX1_often_0 15 rfl rfl)
theorem dX1_often_16 : decode cX1_often 16 = .ok (.istore_n 2, 1) := dk_61 (dk_at dksX1_often_0 16 rfl rfl)
theorem dX1_often_17 : decode cX1_often 17 = .ok (.iconst 1, 1) := dk_4 (dk_at dksX1_often_0 17 rfl rfl)
theorem dX1_often_18 : decode cX1_often 18 = .ok (.istore_n 3, 1) := dk_62 (dk_at dksX1_often_0 18 rfl rfl)
theorem dX1_often_19 : decode cX1_often 19 = .ok (.iload_n 3, 1) := dk_29 (dk_at dksX1_often_0 19 rfl rfl)
theorem dX1_often_20 : decode cX1_often 20 = .ok (.iconst 3, 1) := dk_6 (dk_at dksX1_often_0 20 rfl rfl)
theorem dX1_often_21 : decode cX1_often 21 = .ok (.if_icmp .gt 31, 3) := dk_163 0 31 (dk_at dksX1_often_0 21 rfl rfl)
theorem dX1_often_24 : decode cX1_often 24 = .ok (.aload_n 0, 1) := dk_42 (dk_at dksX1_often_1 0 rfl rfl)
theorem dX1_often_25 : decode cX1_often 25 = .ok (.iload_n 3, 1) := dk_29 (dk_at dksX1_often_1 1 rfl rfl)
theorem dX1_often_26 : decode cX1_often 26 = .ok (.putfield 98, 3) := dk_181 0 98 (dk_at dksX1_often_1 2 rfl rfl)
theorem dX1_often_29 : decode cX1_often 29 = .ok (.iload_n 2, 1) := dk_28 (dk_at dksX1_often_1 5 rfl rfl)
theorem dX1_often_30 : decode cX1_often 30 = .ok (.aload_n 0, 1) := dk_42 (dk_at dksX1_often_1 6 rfl rfl)
theorem dX1_often_31 : decode cX1_often 31 = .ok (.invokevirtual 177, 3) := dk_182 0 177 (dk_at dksX1_often_1 7 rfl rfl)
theorem dX1_often_34 : decode cX1_often 34 = .ok (.ifCond .eq 9, 3) := dk_153 0 9 (dk_at dksX1_often_1 10 rfl rfl)
theorem dX1_often_37 : decode cX1_often 37 = .ok (.iconst 1, 1) := dk_4 (dk_at dksX1_often_1 13 rfl rfl)
theorem dX1_often_38 : decode cX1_often 38 = .ok (.iload_n 3, 1) := dk_29 (dk_at dksX1_often_1 14 rfl rfl)
theorem dX1_often_39 : decode cX1_often 39 = .ok (.ishl, 1) := dk_120 (dk_at dksX1_often_1 15 rfl rfl)
theorem dX1_often_40 : decode cX1_often 40 = .ok (.goto 4, 3) := dk_167 0 4 (dk_at dksX1_often_1 16 rfl rfl)
theorem dX1_often_43 : decode cX1_often 43 = .ok (.iconst 0, 1) := dk_3 (dk_at dksX1_often_1 19 rfl rfl)
theorem dX1_often_44 : decode cX1_often 44 = .ok (.ior, 1) := dk_128 (dk_at dksX1_often_1 20 rfl rfl)
theorem dX1_often_45 : decode cX1_often 45 = .ok (.istore_n 2, 1) := dk_61 (dk_at dksX1_often_1 21 rfl rfl)
theorem dX1_often_46 : decode cX1_often 46 = .ok (.iinc 3 1, 3) := dk_132 3 1 (dk_at dksX1_often_2 0 rfl rfl)
theorem dX1_often_49 : decode cX1_often 49 = .ok (.goto (-30), 3) := dk_167 255 226 (dk_at dksX1_often_2 3 rfl rfl)
theorem dX1_often_52 : decode cX1_often 52 = .ok (.aload_n 0, 1) := dk_42 (dk_at dksX1_often_2 6 rfl rfl)
theorem dX1_often_53 : decode cX1_often 53 = .ok (.iload_n 1, 1) := dk_27 (dk_at dksX1_often_2 7 rfl rfl)
theorem dX1_often_54 : decode cX1_often 54 = .ok (.putfield 98, 3) := dk_181 0 98 (dk_at dksX1_often_2 8 rfl rfl)
theorem dX1_often_57 : decode cX1_often 57 = .ok (.iload_n 2, 1) := dk_28 (dk_at dksX1_often_2 11 rfl rfl)
theorem dX1_often_58 : decode cX1_often 58 = .ok (.ireturn, 1) := dk_172 (dk_at dksX1_often_2 12 rfl rfl)
abbrev cX1_odds : ByteArray := prog_15_method_48_code
def yX1_odds : MethodName := ⟨RX1, "odds", "(III)J"⟩
def dkwX1_odds_4 : List UInt8 := [167, 255, 215, 42, 3, 181, 0, 124, 21, 4, 133, 21, 5, 133, 29, 184, 0, 181, 173]
abbrev dktX1_odds_4 : List UInt8 := dkwX1_odds_4 ++ []
def dkwX1_odds_3 : List UInt8 := [184, 0, 127, 153, 0, 7, 4, 167, 0, 4, 3, 96, 54, 4, 42, 89, 180, 0, 124, 4, 96, 181, 0, 124]
abbrev dktX1_odds_3 : List UInt8 := dkwX1_odds_3 ++ dktX1_odds_4
def dkwX1_odds_2 : List UInt8 := [54, 5, 42, 3, 181, 0, 124, 42, 180, 0, 124, 21, 5, 162, 0, 38, 21, 4, 42, 28, 182, 0, 137, 27]
abbrev dktX1_odds_2 : List UInt8 := dkwX1_odds_2 ++ dktX1_odds_3
def dkwX1_odds_1 : List UInt8 := [153, 0, 11, 28, 27, 184, 0, 127, 154, 0, 7, 20, 0, 53, 173, 3, 54, 4, 4, 42, 180, 0, 59, 120]
abbrev dktX1_odds_1 : List UInt8 := dkwX1_odds_1 ++ dktX1_odds_2
def dkwX1_odds_0 : List UInt8 := [42, 27, 182, 0, 115, 153, 0, 28, 42, 28, 182, 0, 143, 153, 0, 20, 29, 3, 4, 184, 0, 55]
abbrev dktX1_odds_0 : List UInt8 := dkwX1_odds_0 ++ dktX1_odds_1
theorem dksX1_odds_0 : cX1_odds.data.toList.drop 0 = dktX1_odds_0 := by decide +kernel
theorem dksX1_odds_1 : cX1_odds.data.toList.drop 22 = dktX1_odds_1 := dk_seg dksX1_odds_0 22 rfl rfl
theorem dksX1_odds_2 : cX1_odds.data.toList.drop 46 = dktX1_odds_2 := dk_seg dksX1_odds_1 24 rfl rfl
theorem dksX1_odds_3 : cX1_odds.data.toList.drop 70 = dktX1_odds_3 := dk_seg dksX1_odds_2 24 rfl rfl
theorem dksX1_odds_4 : cX1_odds.data.toList.drop 94 = dktX1_odds_4 := dk_seg dksX1_odds_3 24 rfl rfl
theorem dX1_odds_0 : decode cX1_odds 0 = .ok (.aload_n 0, 1) := dk_42 (dk_at dksX1_odds_0 0 rfl rfl)
theorem dX1_odds_1 : decode cX1_odds 1 = .ok (.iload_n 1, 1) := dk_27 (dk_at dksX1_odds_0 1 rfl rfl)
theorem dX1_odds_2 : decode cX1_odds 2 = .ok (.invokevirtual 115, 3) := dk_182 0 115 (dk_at dksX1_odds_0 2 rfl rfl)
theorem dX1_odds_5 : decode cX1_odds 5 = .ok (.ifCond .eq 28, 3) := dk_153 0 28 (dk_at dksX1_odds_0 5 rfl rfl)
theorem dX1_odds_8 : decode cX1_odds 8 = .ok (.aload_n 0, 1) := dk_42 (dk_at dksX1_odds_0 8 rfl rfl)
theorem dX1_odds_9 : decode cX1_odds 9 = .ok (.iload_n 2, 1) := dk_28 (dk_at dksX1_odds_0 9 rfl rfl)
theorem dX1_odds_10 : decode cX1_odds 10 = .ok (.invokevirtual 143, 3) := dk_182 0 143 (dk_at dksX1_odds_0 10 rfl rfl)
theorem dX1_odds_13 : decode cX1_odds 13 = .ok (.ifCond .eq 20, 3) := dk_153 0 20 (dk_at dksX1_odds_0 13 rfl rfl)
theorem dX1_odds_16 : decode cX1_odds 16 = .ok (.iload_n 3, 1) := dk_29 (dk_at dksX1_odds_0 16 rfl rfl)
theorem dX1_odds_17 : decode cX1_odds 17 = .ok (.iconst 0, 1) := dk_3 (dk_at dksX1_odds_0 17 rfl rfl)
theorem dX1_odds_18 : decode cX1_odds 18 = .ok (.iconst 1, 1) := dk_4 (dk_at dksX1_odds_0 18 rfl rfl)
theorem dX1_odds_19 : decode cX1_odds 19 = .ok (.invokestatic 55, 3) := dk_184 0 55 (dk_at dksX1_odds_0 19 rfl rfl)
theorem dX1_odds_22 : decode cX1_odds 22 = .ok (.ifCond .eq 11, 3) := dk_153 0 11 (dk_at dksX1_odds_1 0 rfl rfl)
theorem dX1_odds_25 : decode cX1_odds 25 = .ok (.iload_n 2, 1) := dk_28 (dk_at dksX1_odds_1 3 rfl rfl)
theorem dX1_odds_26 : decode cX1_odds 26 = .ok (.iload_n 1, 1) := dk_27 (dk_at dksX1_odds_1 4 rfl rfl)
theorem dX1_odds_27 : decode cX1_odds 27 = .ok (.invokestatic 127, 3) := dk_184 0 127 (dk_at dksX1_odds_1 5 rfl rfl)
theorem dX1_odds_30 : decode cX1_odds 30 = .ok (.ifCond .ne 7, 3) := dk_154 0 7 (dk_at dksX1_odds_1 8 rfl rfl)
theorem dX1_odds_33 : decode cX1_odds 33 = .ok (.ldc2_w 53, 3) := dk_20 0 53 (dk_at dksX1_odds_1 11 rfl rfl)
theorem dX1_odds_36 : decode cX1_odds 36 = .ok (.lreturn, 1) := dk_173 (dk_at dksX1_odds_1 14 rfl rfl)
theorem dX1_odds_37 : decode cX1_odds 37 = .ok (.iconst 0, 1) := dk_3 (dk_at dksX1_odds_1 15 rfl rfl)
theorem dX1_odds_38 : decode cX1_odds 38 = .ok (.istore 4, 2) := dk_54 4 (dk_at dksX1_odds_1 16 rfl rfl)
theorem dX1_odds_40 : decode cX1_odds 40 = .ok (.iconst 1, 1) := dk_4 (dk_at dksX1_odds_1 18 rfl rfl)
theorem dX1_odds_41 : decode cX1_odds 41 = .ok (.aload_n 0, 1) := dk_42 (dk_at dksX1_odds_1 19 rfl rfl)
theorem dX1_odds_42 : decode cX1_odds 42 = .ok (.getfield 59, 3) := dk_180 0 59 (dk_at dksX1_odds_1 20 rfl rfl)
theorem dX1_odds_45 : decode cX1_odds 45 = .ok (.ishl, 1) := dk_120 (dk_at dksX1_odds_1 23 rfl rfl)
theorem dX1_odds_46 : decode cX1_odds 46 = .ok (.istore 5, 2) := dk_54 5 (dk_at dksX1_odds_2 0 rfl rfl)
theorem dX1_odds_48 : decode cX1_odds 48 = .ok (.aload_n 0, 1) := dk_42 (dk_at dksX1_odds_2 2 rfl rfl)
theorem dX1_odds_49 : decode cX1_odds 49 = .ok (.iconst 0, 1) := dk_3 (dk_at dksX1_odds_2 3 rfl rfl)
theorem dX1_odds_50 : decode cX1_odds 50 = .ok (.putfield 124, 3) := dk_181 0 124 (dk_at dksX1_odds_2 4 rfl rfl)
theorem dX1_odds_53 : decode cX1_odds 53 = .ok (.aload_n 0, 1) := dk_42 (dk_at dksX1_odds_2 7 rfl rfl)
theorem dX1_odds_54 : decode cX1_odds 54 = .ok (.getfield 124, 3) := dk_180 0 124 (dk_at dksX1_odds_2 8 rfl rfl)
theorem dX1_odds_57 : decode cX1_odds 57 = .ok (.iload 5, 2) := dk_21 5 (dk_at dksX1_odds_2 11 rfl rfl)
theorem dX1_odds_59 : decode cX1_odds 59 = .ok (.if_icmp .ge 38, 3) := dk_162 0 38 (dk_at dksX1_odds_2 13 rfl rfl)
theorem dX1_odds_62 : decode cX1_odds 62 = .ok (.iload 4, 2) := dk_21 4 (dk_at dksX1_odds_2 16 rfl rfl)
theorem dX1_odds_64 : decode cX1_odds 64 = .ok (.aload_n 0, 1) := dk_42 (dk_at dksX1_odds_2 18 rfl rfl)
theorem dX1_odds_65 : decode cX1_odds 65 = .ok (.iload_n 2, 1) := dk_28 (dk_at dksX1_odds_2 19 rfl rfl)
theorem dX1_odds_66 : decode cX1_odds 66 = .ok (.invokevirtual 137, 3) := dk_182 0 137 (dk_at dksX1_odds_2 20 rfl rfl)
theorem dX1_odds_69 : decode cX1_odds 69 = .ok (.iload_n 1, 1) := dk_27 (dk_at dksX1_odds_2 23 rfl rfl)
theorem dX1_odds_70 : decode cX1_odds 70 = .ok (.invokestatic 127, 3) := dk_184 0 127 (dk_at dksX1_odds_3 0 rfl rfl)
theorem dX1_odds_73 : decode cX1_odds 73 = .ok (.ifCond .eq 7, 3) := dk_153 0 7 (dk_at dksX1_odds_3 3 rfl rfl)
theorem dX1_odds_76 : decode cX1_odds 76 = .ok (.iconst 1, 1) := dk_4 (dk_at dksX1_odds_3 6 rfl rfl)
theorem dX1_odds_77 : decode cX1_odds 77 = .ok (.goto 4, 3) := dk_167 0 4 (dk_at dksX1_odds_3 7 rfl rfl)
theorem dX1_odds_80 : decode cX1_odds 80 = .ok (.iconst 0, 1) := dk_3 (dk_at dksX1_odds_3 10 rfl rfl)
theorem dX1_odds_81 : decode cX1_odds 81 = .ok (.iadd, 1) := dk_96 (dk_at dksX1_odds_3 11 rfl rfl)
theorem dX1_odds_82 : decode cX1_odds 82 = .ok (.istore 4, 2) := dk_54 4 (dk_at dksX1_odds_3 12 rfl rfl)
theorem dX1_odds_84 : decode cX1_odds 84 = .ok (.aload_n 0, 1) := dk_42 (dk_at dksX1_odds_3 14 rfl rfl)
theorem dX1_odds_85 : decode cX1_odds 85 = .ok (.dup, 1) := dk_89 (dk_at dksX1_odds_3 15 rfl rfl)
theorem dX1_odds_86 : decode cX1_odds 86 = .ok (.getfield 124, 3) := dk_180 0 124 (dk_at dksX1_odds_3 16 rfl rfl)
theorem dX1_odds_89 : decode cX1_odds 89 = .ok (.iconst 1, 1) := dk_4 (dk_at dksX1_odds_3 19 rfl rfl)
theorem dX1_odds_90 : decode cX1_odds 90 = .ok (.iadd, 1) := dk_96 (dk_at dksX1_odds_3 20 rfl rfl)
theorem dX1_odds_91 : decode cX1_odds 91 = .ok (.putfield 124, 3) := dk_181 0 124 (dk_at dksX1_odds_3 21 rfl rfl)
theorem dX1_odds_94 : decode cX1_odds 94 = .ok (.goto (-41), 3) := dk_167 255 215 (dk_at dksX1_odds_4 0 rfl rfl)
theorem dX1_odds_97 : decode cX1_odds 97 = .ok (.aload_n 0, 1) := dk_42 (dk_at dksX1_odds_4 3 rfl rfl)
theorem dX1_odds_98 : decode cX1_odds 98 = .ok (.iconst 0, 1) := dk_3 (dk_at dksX1_odds_4 4 rfl rfl)
theorem dX1_odds_99 : decode cX1_odds 99 = .ok (.putfield 124, 3) := dk_181 0 124 (dk_at dksX1_odds_4 5 rfl rfl)
theorem dX1_odds_102 : decode cX1_odds 102 = .ok (.iload 4, 2) := dk_21 4 (dk_at dksX1_odds_4 8 rfl rfl)
theorem dX1_odds_104 : decode cX1_odds 104 = .ok (.i2l, 1) := dk_133 (dk_at dksX1_odds_4 10 rfl rfl)
theorem dX1_odds_105 : decode cX1_odds 105 = .ok (.iload 5, 2) := dk_21 5 (dk_at dksX1_odds_4 11 rfl rfl)
theorem dX1_odds_107 : decode cX1_odds 107 = .ok (.i2l, 1) := dk_133 (dk_at dksX1_odds_4 13 rfl rfl)
theorem dX1_odds_108 : decode cX1_odds 108 = .ok (.iload_n 3, 1) := dk_29 (dk_at dksX1_odds_4 14 rfl rfl)
theorem dX1_odds_109 : decode cX1_odds 109 = .ok (.invokestatic 181, 3) := dk_184 0 181 (dk_at dksX1_odds_4 15 rfl rfl)
theorem dX1_odds_112 : decode cX1_odds 112 = .ok (.lreturn, 1) := dk_173 (dk_at dksX1_odds_4 18 rfl rfl)
abbrev cX1_inLeastTerms : ByteArray := prog_15_method_47_code
def yX1_inLeastTerms : MethodName := ⟨RX1, "inLeastTerms", "(JJI)J"⟩
def dkwX1_inLeastTerms_1 : List UInt8 := [22, 9, 55, 7, 167, 255, 234, 21, 4, 154, 0, 10, 30, 22, 5, 109, 167, 0, 7, 32, 22, 5, 109, 173]
abbrev dktX1_inLeastTerms_1 : List UInt8 := dkwX1_inLeastTerms_1 ++ []
def dkwX1_inLeastTerms_0 : List UInt8 := [30, 55, 5, 32, 55, 7, 22, 7, 9, 148, 153, 0, 21, 22, 5, 22, 7, 113, 55, 9, 22, 7, 55, 5]
abbrev dktX1_inLeastTerms_0 : List UInt8 := dkwX1_inLeastTerms_0 ++ dktX1_inLeastTerms_1
theorem dksX1_inLeastTerms_0 : cX1_inLeastTerms.data.toList.drop 0 = dktX1_inLeastTerms_0 := by decide +kernel
theorem dksX1_inLeastTerms_1 : cX1_inLeastTerms.data.toList.drop 24 = dktX1_inLeastTerms_1 := dk_seg dksX1_inLeastTerms_0 24 rfl rfl
theorem dX1_inLeastTerms_0 : decode cX1_inLeastTerms 0 = .ok (.lload_n 0, 1) := dk_30 (dk_at dksX1_inLeastTerms_0 0 rfl rfl)
theorem dX1_inLeastTerms_1 : decode cX1_inLeastTerms 1 = .ok (.lstore 5, 2) := dk_55 5 (dk_at dksX1_inLeastTerms_0 1 rfl rfl)
theorem dX1_inLeastTerms_3 : decode cX1_inLeastTerms 3 = .ok (.lload_n 2, 1) := dk_32 (dk_at dksX1_inLeastTerms_0 3 rfl rfl)
theorem dX1_inLeastTerms_4 : decode cX1_inLeastTerms 4 = .ok (.lstore 7, 2) := dk_55 7 (dk_at dksX1_inLeastTerms_0 4 rfl rfl)
theorem dX1_inLeastTerms_6 : decode cX1_inLeastTerms 6 = .ok (.lload 7, 2) := dk_22 7 (dk_at dksX1_inLeastTerms_0 6 rfl rfl)
theorem dX1_inLeastTerms_8 : decode cX1_inLeastTerms 8 = .ok (.lconst 0, 1) := dk_9 (dk_at dksX1_inLeastTerms_0 8 rfl rfl)
theorem dX1_inLeastTerms_9 : decode cX1_inLeastTerms 9 = .ok (.lcmp, 1) := dk_148 (dk_at dksX1_inLeastTerms_0 9 rfl rfl)
theorem dX1_inLeastTerms_10 : decode cX1_inLeastTerms 10 = .ok (.ifCond .eq 21, 3) := dk_153 0 21 (dk_at dksX1_inLeastTerms_0 10 rfl rfl)
theorem dX1_inLeastTerms_13 : decode cX1_inLeastTerms 13 = .ok (.lload 5, 2) := dk_22 5 (dk_at dksX1_inLeastTerms_0 13 rfl rfl)
theorem dX1_inLeastTerms_15 : decode cX1_inLeastTerms 15 = .ok (.lload 7, 2) := dk_22 7 (dk_at dksX1_inLeastTerms_0 15 rfl rfl)
theorem dX1_inLeastTerms_17 : decode cX1_inLeastTerms 17 = .ok (.lrem, 1) := dk_113 (dk_at dksX1_inLeastTerms_0 17 rfl rfl)
theorem dX1_inLeastTerms_18 : decode cX1_inLeastTerms 18 = .ok (.lstore 9, 2) := dk_55 9 (dk_at dksX1_inLeastTerms_0 18 rfl rfl)
theorem dX1_inLeastTerms_20 : decode cX1_inLeastTerms 20 = .ok (.lload 7, 2) := dk_22 7 (dk_at dksX1_inLeastTerms_0 20 rfl rfl)
theorem dX1_inLeastTerms_22 : decode cX1_inLeastTerms 22 = .ok (.lstore 5, 2) := dk_55 5 (dk_at dksX1_inLeastTerms_0 22 rfl rfl)
theorem dX1_inLeastTerms_24 : decode cX1_inLeastTerms 24 = .ok (.lload 9, 2) := dk_22 9 (dk_at dksX1_inLeastTerms_1 0 rfl rfl)
theorem dX1_inLeastTerms_26 : decode cX1_inLeastTerms 26 = .ok (.lstore 7, 2) := dk_55 7 (dk_at dksX1_inLeastTerms_1 2 rfl rfl)
theorem dX1_inLeastTerms_28 : decode cX1_inLeastTerms 28 = .ok (.goto (-22), 3) := dk_167 255 234 (dk_at dksX1_inLeastTerms_1 4 rfl rfl)
theorem dX1_inLeastTerms_31 : decode cX1_inLeastTerms 31 = .ok (.iload 4, 2) := dk_21 4 (dk_at dksX1_inLeastTerms_1 7 rfl rfl)
theorem dX1_inLeastTerms_33 : decode cX1_inLeastTerms 33 = .ok (.ifCond .ne 10, 3) := dk_154 0 10 (dk_at dksX1_inLeastTerms_1 9 rfl rfl)
theorem dX1_inLeastTerms_36 : decode cX1_inLeastTerms 36 = .ok (.lload_n 0, 1) := dk_30 (dk_at dksX1_inLeastTerms_1 12 rfl rfl)
theorem dX1_inLeastTerms_37 : decode cX1_inLeastTerms 37 = .ok (.lload 5, 2) := dk_22 5 (dk_at dksX1_inLeastTerms_1 13 rfl rfl)
theorem dX1_inLeastTerms_39 : decode cX1_inLeastTerms 39 = .ok (.ldiv, 1) := dk_109 (dk_at dksX1_inLeastTerms_1 15 rfl rfl)
theorem dX1_inLeastTerms_40 : decode cX1_inLeastTerms 40 = .ok (.goto 7, 3) := dk_167 0 7 (dk_at dksX1_inLeastTerms_1 16 rfl rfl)
theorem dX1_inLeastTerms_43 : decode cX1_inLeastTerms 43 = .ok (.lload_n 2, 1) := dk_32 (dk_at dksX1_inLeastTerms_1 19 rfl rfl)
theorem dX1_inLeastTerms_44 : decode cX1_inLeastTerms 44 = .ok (.lload 5, 2) := dk_22 5 (dk_at dksX1_inLeastTerms_1 20 rfl rfl)
theorem dX1_inLeastTerms_46 : decode cX1_inLeastTerms 46 = .ok (.ldiv, 1) := dk_109 (dk_at dksX1_inLeastTerms_1 22 rfl rfl)
theorem dX1_inLeastTerms_47 : decode cX1_inLeastTerms 47 = .ok (.lreturn, 1) := dk_173 (dk_at dksX1_inLeastTerms_1 23 rfl rfl)
abbrev cX1_sheet : ByteArray := prog_15_method_49_code
def yX1_sheet : MethodName := ⟨RX1, "sheet", "(III)I"⟩
def dkwX1_sheet_3 : List UInt8 := [21, 4, 96, 3, 79, 132, 4, 1, 167, 255, 233, 4, 172]
abbrev dktX1_sheet_3 : List UInt8 := dkwX1_sheet_3 ++ []
def dkwX1_sheet_2 : List UInt8 := [180, 0, 13, 27, 29, 79, 3, 54, 4, 21, 4, 16, 60, 162, 0, 22, 42, 180, 0, 16, 16, 60, 27, 104]
abbrev dktX1_sheet_2 : List UInt8 := dkwX1_sheet_2 ++ dktX1_sheet_3
def dkwX1_sheet_1 : List UInt8 := [164, 0, 6, 16, 254, 172, 29, 156, 0, 9, 42, 7, 182, 0, 76, 172, 42, 180, 0, 9, 27, 28, 79, 42]
abbrev dktX1_sheet_1 : List UInt8 := dkwX1_sheet_1 ++ dktX1_sheet_2
def dkwX1_sheet_0 : List UInt8 := [42, 3, 181, 0, 49, 27, 184, 0, 65, 154, 0, 5, 2, 172, 28, 184, 0, 69, 153, 0, 9, 29, 16, 60]
abbrev dktX1_sheet_0 : List UInt8 := dkwX1_sheet_0 ++ dktX1_sheet_1
theorem dksX1_sheet_0 : cX1_sheet.data.toList.drop 0 = dktX1_sheet_0 := by decide +kernel
theorem dksX1_sheet_1 : cX1_sheet.data.toList.drop 24 = dktX1_sheet_1 := dk_seg dksX1_sheet_0 24 rfl rfl
theorem dksX1_sheet_2 : cX1_sheet.data.toList.drop 48 = dktX1_sheet_2 := dk_seg dksX1_sheet_1 24 rfl rfl
theorem dksX1_sheet_3 : cX1_sheet.data.toList.drop 72 = dktX1_sheet_3 := dk_seg dksX1_sheet_2 24 rfl rfl
theorem dX1_sheet_0 : decode cX1_sheet 0 = .ok (.aload_n 0, 1) := dk_42 (dk_at dksX1_sheet_0 0 rfl rfl)
theorem dX1_sheet_1 : decode cX1_sheet 1 = .ok (.iconst 0, 1) := dk_3 (dk_at dksX1_sheet_0 1 rfl rfl)
theorem dX1_sheet_2 : decode cX1_sheet 2 = .ok (.putfield 49, 3) := dk_181 0 49 (dk_at dksX1_sheet_0 2 rfl rfl)
theorem dX1_sheet_5 : decode cX1_sheet 5 = .ok (.iload_n 1, 1) := dk_27 (dk_at dksX1_sheet_0 5 rfl rfl)
theorem dX1_sheet_6 : decode cX1_sheet 6 = .ok (.invokestatic 65, 3) := dk_184 0 65 (dk_at dksX1_sheet_0 6 rfl rfl)
theorem dX1_sheet_9 : decode cX1_sheet 9 = .ok (.ifCond .ne 5, 3) := dk_154 0 5 (dk_at dksX1_sheet_0 9 rfl rfl)
theorem dX1_sheet_12 : decode cX1_sheet 12 = .ok (.iconst (-1), 1) := dk_2 (dk_at dksX1_sheet_0 12 rfl rfl)
theorem dX1_sheet_13 : decode cX1_sheet 13 = .ok (.ireturn, 1) := dk_172 (dk_at dksX1_sheet_0 13 rfl rfl)
theorem dX1_sheet_14 : decode cX1_sheet 14 = .ok (.iload_n 2, 1) := dk_28 (dk_at dksX1_sheet_0 14 rfl rfl)
theorem dX1_sheet_15 : decode cX1_sheet 15 = .ok (.invokestatic 69, 3) := dk_184 0 69 (dk_at dksX1_sheet_0 15 rfl rfl)
theorem dX1_sheet_18 : decode cX1_sheet 18 = .ok (.ifCond .eq 9, 3) := dk_153 0 9 (dk_at dksX1_sheet_0 18 rfl rfl)
theorem dX1_sheet_21 : decode cX1_sheet 21 = .ok (.iload_n 3, 1) := dk_29 (dk_at dksX1_sheet_0 21 rfl rfl)
theorem dX1_sheet_22 : decode cX1_sheet 22 = .ok (.bipush 60, 2) := dk_16 60 (dk_at dksX1_sheet_0 22 rfl rfl)
theorem dX1_sheet_24 : decode cX1_sheet 24 = .ok (.if_icmp .le 6, 3) := dk_164 0 6 (dk_at dksX1_sheet_1 0 rfl rfl)
theorem dX1_sheet_27 : decode cX1_sheet 27 = .ok (.bipush (-2), 2) := dk_16 254 (dk_at dksX1_sheet_1 3 rfl rfl)
theorem dX1_sheet_29 : decode cX1_sheet 29 = .ok (.ireturn, 1) := dk_172 (dk_at dksX1_sheet_1 5 rfl rfl)
theorem dX1_sheet_30 : decode cX1_sheet 30 = .ok (.iload_n 3, 1) := dk_29 (dk_at dksX1_sheet_1 6 rfl rfl)
theorem dX1_sheet_31 : decode cX1_sheet 31 = .ok (.ifCond .ge 9, 3) := dk_156 0 9 (dk_at dksX1_sheet_1 7 rfl rfl)
theorem dX1_sheet_34 : decode cX1_sheet 34 = .ok (.aload_n 0, 1) := dk_42 (dk_at dksX1_sheet_1 10 rfl rfl)
theorem dX1_sheet_35 : decode cX1_sheet 35 = .ok (.iconst 4, 1) := dk_7 (dk_at dksX1_sheet_1 11 rfl rfl)
theorem dX1_sheet_36 : decode cX1_sheet 36 = .ok (.invokevirtual 76, 3) := dk_182 0 76 (dk_at dksX1_sheet_1 12 rfl rfl)
theorem dX1_sheet_39 : decode cX1_sheet 39 = .ok (.ireturn, 1) := dk_172 (dk_at dksX1_sheet_1 15 rfl rfl)
theorem dX1_sheet_40 : decode cX1_sheet 40 = .ok (.aload_n 0, 1) := dk_42 (dk_at dksX1_sheet_1 16 rfl rfl)
theorem dX1_sheet_41 : decode cX1_sheet 41 = .ok (.getfield 9, 3) := dk_180 0 9 (dk_at dksX1_sheet_1 17 rfl rfl)
theorem dX1_sheet_44 : decode cX1_sheet 44 = .ok (.iload_n 1, 1) := dk_27 (dk_at dksX1_sheet_1 20 rfl rfl)
theorem dX1_sheet_45 : decode cX1_sheet 45 = .ok (.iload_n 2, 1) := dk_28 (dk_at dksX1_sheet_1 21 rfl rfl)
theorem dX1_sheet_46 : decode cX1_sheet 46 = .ok (.iastore, 1) := dk_79 (dk_at dksX1_sheet_1 22 rfl rfl)
theorem dX1_sheet_47 : decode cX1_sheet 47 = .ok (.aload_n 0, 1) := dk_42 (dk_at dksX1_sheet_1 23 rfl rfl)
theorem dX1_sheet_48 : decode cX1_sheet 48 = .ok (.getfield 13, 3) := dk_180 0 13 (dk_at dksX1_sheet_2 0 rfl rfl)
theorem dX1_sheet_51 : decode cX1_sheet 51 = .ok (.iload_n 1, 1) := dk_27 (dk_at dksX1_sheet_2 3 rfl rfl)
theorem dX1_sheet_52 : decode cX1_sheet 52 = .ok (.iload_n 3, 1) := dk_29 (dk_at dksX1_sheet_2 4 rfl rfl)
theorem dX1_sheet_53 : decode cX1_sheet 53 = .ok (.iastore, 1) := dk_79 (dk_at dksX1_sheet_2 5 rfl rfl)
theorem dX1_sheet_54 : decode cX1_sheet 54 = .ok (.iconst 0, 1) := dk_3 (dk_at dksX1_sheet_2 6 rfl rfl)
theorem dX1_sheet_55 : decode cX1_sheet 55 = .ok (.istore 4, 2) := dk_54 4 (dk_at dksX1_sheet_2 7 rfl rfl)
theorem dX1_sheet_57 : decode cX1_sheet 57 = .ok (.iload 4, 2) := dk_21 4 (dk_at dksX1_sheet_2 9 rfl rfl)
theorem dX1_sheet_59 : decode cX1_sheet 59 = .ok (.bipush 60, 2) := dk_16 60 (dk_at dksX1_sheet_2 11 rfl rfl)
theorem dX1_sheet_61 : decode cX1_sheet 61 = .ok (.if_icmp .ge 22, 3) := dk_162 0 22 (dk_at dksX1_sheet_2 13 rfl rfl)
theorem dX1_sheet_64 : decode cX1_sheet 64 = .ok (.aload_n 0, 1) := dk_42 (dk_at dksX1_sheet_2 16 rfl rfl)
theorem dX1_sheet_65 : decode cX1_sheet 65 = .ok (.getfield 16, 3) := dk_180 0 16 (dk_at dksX1_sheet_2 17 rfl rfl)
theorem dX1_sheet_68 : decode cX1_sheet 68 = .ok (.bipush 60, 2) := dk_16 60 (dk_at dksX1_sheet_2 20 rfl rfl)
theorem dX1_sheet_70 : decode cX1_sheet 70 = .ok (.iload_n 1, 1) := dk_27 (dk_at dksX1_sheet_2 22 rfl rfl)
theorem dX1_sheet_71 : decode cX1_sheet 71 = .ok (.imul, 1) := dk_104 (dk_at dksX1_sheet_2 23 rfl rfl)
theorem dX1_sheet_72 : decode cX1_sheet 72 = .ok (.iload 4, 2) := dk_21 4 (dk_at dksX1_sheet_3 0 rfl rfl)
theorem dX1_sheet_74 : decode cX1_sheet 74 = .ok (.iadd, 1) := dk_96 (dk_at dksX1_sheet_3 2 rfl rfl)
theorem dX1_sheet_75 : decode cX1_sheet 75 = .ok (.iconst 0, 1) := dk_3 (dk_at dksX1_sheet_3 3 rfl rfl)
theorem dX1_sheet_76 : decode cX1_sheet 76 = .ok (.iastore, 1) := dk_79 (dk_at dksX1_sheet_3 4 rfl rfl)
theorem dX1_sheet_77 : decode cX1_sheet 77 = .ok (.iinc 4 1, 3) := dk_132 4 1 (dk_at dksX1_sheet_3 5 rfl rfl)
theorem dX1_sheet_80 : decode cX1_sheet 80 = .ok (.goto (-23), 3) := dk_167 255 233 (dk_at dksX1_sheet_3 8 rfl rfl)
theorem dX1_sheet_83 : decode cX1_sheet 83 = .ok (.iconst 1, 1) := dk_4 (dk_at dksX1_sheet_3 11 rfl rfl)
theorem dX1_sheet_84 : decode cX1_sheet 84 = .ok (.ireturn, 1) := dk_172 (dk_at dksX1_sheet_3 12 rfl rfl)
abbrev cX1_lose : ByteArray := prog_15_method_50_code
def yX1_lose : MethodName := ⟨RX1, "lose", "(I)I"⟩
def dkwX1_lose_1 : List UInt8 := [4, 61, 42, 180, 0, 9, 27, 16, 247, 79, 28, 172]
abbrev dktX1_lose_1 : List UInt8 := dkwX1_lose_1 ++ []
def dkwX1_lose_0 : List UInt8 := [27, 184, 0, 65, 154, 0, 5, 2, 172, 42, 180, 0, 9, 27, 46, 16, 247, 160, 0, 7, 3, 167, 0, 4]
abbrev dktX1_lose_0 : List UInt8 := dkwX1_lose_0 ++ dktX1_lose_1
theorem dksX1_lose_0 : cX1_lose.data.toList.drop 0 = dktX1_lose_0 := by decide +kernel
theorem dksX1_lose_1 : cX1_lose.data.toList.drop 24 = dktX1_lose_1 := dk_seg dksX1_lose_0 24 rfl rfl
theorem dX1_lose_0 : decode cX1_lose 0 = .ok (.iload_n 1, 1) := dk_27 (dk_at dksX1_lose_0 0 rfl rfl)
theorem dX1_lose_1 : decode cX1_lose 1 = .ok (.invokestatic 65, 3) := dk_184 0 65 (dk_at dksX1_lose_0 1 rfl rfl)
theorem dX1_lose_4 : decode cX1_lose 4 = .ok (.ifCond .ne 5, 3) := dk_154 0 5 (dk_at dksX1_lose_0 4 rfl rfl)
theorem dX1_lose_7 : decode cX1_lose 7 = .ok (.iconst (-1), 1) := dk_2 (dk_at dksX1_lose_0 7 rfl rfl)
theorem dX1_lose_8 : decode cX1_lose 8 = .ok (.ireturn, 1) := dk_172 (dk_at dksX1_lose_0 8 rfl rfl)
theorem dX1_lose_9 : decode cX1_lose 9 = .ok (.aload_n 0, 1) := dk_42 (dk_at dksX1_lose_0 9 rfl rfl)
theorem dX1_lose_10 : decode cX1_lose 10 = .ok (.getfield 9, 3) := dk_180 0 9 (dk_at dksX1_lose_0 10 rfl rfl)
theorem dX1_lose_13 : decode cX1_lose 13 = .ok (.iload_n 1, 1) := dk_27 (dk_at dksX1_lose_0 13 rfl rfl)
theorem dX1_lose_14 : decode cX1_lose 14 = .ok (.iaload, 1) := dk_46 (dk_at dksX1_lose_0 14 rfl rfl)
theorem dX1_lose_15 : decode cX1_lose 15 = .ok (.bipush (-9), 2) := dk_16 247 (dk_at dksX1_lose_0 15 rfl rfl)
theorem dX1_lose_17 : decode cX1_lose 17 = .ok (.if_icmp .ne 7, 3) := dk_160 0 7 (dk_at dksX1_lose_0 17 rfl rfl)
theorem dX1_lose_20 : decode cX1_lose 20 = .ok (.iconst 0, 1) := dk_3 (dk_at dksX1_lose_0 20 rfl rfl)
theorem dX1_lose_21 : decode cX1_lose 21 = .ok (.goto 4, 3) := dk_167 0 4 (dk_at dksX1_lose_0 21 rfl rfl)
theorem dX1_lose_24 : decode cX1_lose 24 = .ok (.iconst 1, 1) := dk_4 (dk_at dksX1_lose_1 0 rfl rfl)
theorem dX1_lose_25 : decode cX1_lose 25 = .ok (.istore_n 2, 1) := dk_61 (dk_at dksX1_lose_1 1 rfl rfl)
theorem dX1_lose_26 : decode cX1_lose 26 = .ok (.aload_n 0, 1) := dk_42 (dk_at dksX1_lose_1 2 rfl rfl)
theorem dX1_lose_27 : decode cX1_lose 27 = .ok (.getfield 9, 3) := dk_180 0 9 (dk_at dksX1_lose_1 3 rfl rfl)
theorem dX1_lose_30 : decode cX1_lose 30 = .ok (.iload_n 1, 1) := dk_27 (dk_at dksX1_lose_1 6 rfl rfl)
theorem dX1_lose_31 : decode cX1_lose 31 = .ok (.bipush (-9), 2) := dk_16 247 (dk_at dksX1_lose_1 7 rfl rfl)
theorem dX1_lose_33 : decode cX1_lose 33 = .ok (.iastore, 1) := dk_79 (dk_at dksX1_lose_1 9 rfl rfl)
theorem dX1_lose_34 : decode cX1_lose 34 = .ok (.iload_n 2, 1) := dk_28 (dk_at dksX1_lose_1 10 rfl rfl)
theorem dX1_lose_35 : decode cX1_lose 35 = .ok (.ireturn, 1) := dk_172 (dk_at dksX1_lose_1 11 rfl rfl)
abbrev cX1_put : ByteArray := prog_15_method_51_code
def yX1_put : MethodName := ⟨RX1, "put", "(III)I"⟩
def dkwX1_put_4 : List UInt8 := [29, 79, 4, 172]
abbrev dktX1_put_4 : List UInt8 := dkwX1_put_4 ++ []
def dkwX1_put_3 : List UInt8 := [46, 154, 0, 8, 29, 145, 167, 0, 19, 42, 180, 0, 9, 27, 46, 4, 160, 0, 8, 29, 147, 167, 0, 4]
abbrev dktX1_put_3 : List UInt8 := dkwX1_put_3 ++ dktX1_put_4
def dkwX1_put_2 : List UInt8 := [154, 0, 9, 42, 6, 182, 0, 76, 172, 42, 180, 0, 16, 16, 60, 27, 104, 28, 96, 42, 180, 0, 9, 27]
abbrev dktX1_put_2 : List UInt8 := dkwX1_put_2 ++ dktX1_put_3
def dkwX1_put_1 : List UInt8 := [160, 0, 9, 42, 4, 182, 0, 76, 172, 28, 3, 42, 180, 0, 13, 27, 46, 4, 100, 184, 0, 55]
abbrev dktX1_put_1 : List UInt8 := dkwX1_put_1 ++ dktX1_put_2
def dkwX1_put_0 : List UInt8 := [42, 3, 181, 0, 49, 27, 184, 0, 65, 154, 0, 5, 2, 172, 42, 180, 0, 9, 27, 46, 16, 247]
abbrev dktX1_put_0 : List UInt8 := dkwX1_put_0 ++ dktX1_put_1
theorem dksX1_put_0 : cX1_put.data.toList.drop 0 = dktX1_put_0 := by decide +kernel
theorem dksX1_put_1 : cX1_put.data.toList.drop 22 = dktX1_put_1 := dk_seg dksX1_put_0 22 rfl rfl
theorem dksX1_put_2 : cX1_put.data.toList.drop 44 = dktX1_put_2 := dk_seg dksX1_put_1 22 rfl rfl
theorem dksX1_put_3 : cX1_put.data.toList.drop 68 = dktX1_put_3 := dk_seg dksX1_put_2 24 rfl rfl
theorem dksX1_put_4 : cX1_put.data.toList.drop 92 = dktX1_put_4 := dk_seg dksX1_put_3 24 rfl rfl
theorem dX1_put_0 : decode cX1_put 0 = .ok (.aload_n 0, 1) := dk_42 (dk_at dksX1_put_0 0 rfl rfl)
theorem dX1_put_1 : decode cX1_put 1 = .ok (.iconst 0, 1) := dk_3 (dk_at dksX1_put_0 1 rfl rfl)
theorem dX1_put_2 : decode cX1_put 2 = .ok (.putfield 49, 3) := dk_181 0 49 (dk_at dksX1_put_0 2 rfl rfl)
theorem dX1_put_5 : decode cX1_put 5 = .ok (.iload_n 1, 1) := dk_27 (dk_at dksX1_put_0 5 rfl rfl)
theorem dX1_put_6 : decode cX1_put 6 = .ok (.invokestatic 65, 3) := dk_184 0 65 (dk_at dksX1_put_0 6 rfl rfl)
theorem dX1_put_9 : decode cX1_put 9 = .ok (.ifCond .ne 5, 3) := dk_154 0 5 (dk_at dksX1_put_0 9 rfl rfl)
theorem dX1_put_12 : decode cX1_put 12 = .ok (.iconst (-1), 1) := dk_2 (dk_at dksX1_put_0 12 rfl rfl)
theorem dX1_put_13 : decode cX1_put 13 = .ok (.ireturn, 1) := dk_172 (dk_at dksX1_put_0 13 rfl rfl)
theorem dX1_put_14 : decode cX1_put 14 = .ok (.aload_n 0, 1) := dk_42 (dk_at dksX1_put_0 14 rfl rfl)
theorem dX1_put_15 : decode cX1_put 15 = .ok (.getfield 9, 3) := dk_180 0 9 (dk_at dksX1_put_0 15 rfl rfl)
theorem dX1_put_18 : decode cX1_put 18 = .ok (.iload_n 1, 1) := dk_27 (dk_at dksX1_put_0 18 rfl rfl)
theorem dX1_put_19 : decode cX1_put 19 = .ok (.iaload, 1) := dk_46 (dk_at dksX1_put_0 19 rfl rfl)
theorem dX1_put_20 : decode cX1_put 20 = .ok (.bipush (-9), 2) := dk_16 247 (dk_at dksX1_put_0 20 rfl rfl)
theorem dX1_put_22 : decode cX1_put 22 = .ok (.if_icmp .ne 9, 3) := dk_160 0 9 (dk_at dksX1_put_1 0 rfl rfl)
theorem dX1_put_25 : decode cX1_put 25 = .ok (.aload_n 0, 1) := dk_42 (dk_at dksX1_put_1 3 rfl rfl)
theorem dX1_put_26 : decode cX1_put 26 = .ok (.iconst 1, 1) := dk_4 (dk_at dksX1_put_1 4 rfl rfl)
theorem dX1_put_27 : decode cX1_put 27 = .ok (.invokevirtual 76, 3) := dk_182 0 76 (dk_at dksX1_put_1 5 rfl rfl)
theorem dX1_put_30 : decode cX1_put 30 = .ok (.ireturn, 1) := dk_172 (dk_at dksX1_put_1 8 rfl rfl)
theorem dX1_put_31 : decode cX1_put 31 = .ok (.iload_n 2, 1) := dk_28 (dk_at dksX1_put_1 9 rfl rfl)
theorem dX1_put_32 : decode cX1_put 32 = .ok (.iconst 0, 1) := dk_3 (dk_at dksX1_put_1 10 rfl rfl)
theorem dX1_put_33 : decode cX1_put 33 = .ok (.aload_n 0, 1) := dk_42 (dk_at dksX1_put_1 11 rfl rfl)
theorem dX1_put_34 : decode cX1_put 34 = .ok (.getfield 13, 3) := dk_180 0 13 (dk_at dksX1_put_1 12 rfl rfl)
theorem dX1_put_37 : decode cX1_put 37 = .ok (.iload_n 1, 1) := dk_27 (dk_at dksX1_put_1 15 rfl rfl)
theorem dX1_put_38 : decode cX1_put 38 = .ok (.iaload, 1) := dk_46 (dk_at dksX1_put_1 16 rfl rfl)
theorem dX1_put_39 : decode cX1_put 39 = .ok (.iconst 1, 1) := dk_4 (dk_at dksX1_put_1 17 rfl rfl)
theorem dX1_put_40 : decode cX1_put 40 = .ok (.isub, 1) := dk_100 (dk_at dksX1_put_1 18 rfl rfl)
theorem dX1_put_41 : decode cX1_put 41 = .ok (.invokestatic 55, 3) := dk_184 0 55 (dk_at dksX1_put_1 19 rfl rfl)
theorem dX1_put_44 : decode cX1_put 44 = .ok (.ifCond .ne 9, 3) := dk_154 0 9 (dk_at dksX1_put_2 0 rfl rfl)
theorem dX1_put_47 : decode cX1_put 47 = .ok (.aload_n 0, 1) := dk_42 (dk_at dksX1_put_2 3 rfl rfl)
theorem dX1_put_48 : decode cX1_put 48 = .ok (.iconst 3, 1) := dk_6 (dk_at dksX1_put_2 4 rfl rfl)
theorem dX1_put_49 : decode cX1_put 49 = .ok (.invokevirtual 76, 3) := dk_182 0 76 (dk_at dksX1_put_2 5 rfl rfl)
theorem dX1_put_52 : decode cX1_put 52 = .ok (.ireturn, 1) := dk_172 (dk_at dksX1_put_2 8 rfl rfl)
theorem dX1_put_53 : decode cX1_put 53 = .ok (.aload_n 0, 1) := dk_42 (dk_at dksX1_put_2 9 rfl rfl)
theorem dX1_put_54 : decode cX1_put 54 = .ok (.getfield 16, 3) := dk_180 0 16 (dk_at dksX1_put_2 10 rfl rfl)
theorem dX1_put_57 : decode cX1_put 57 = .ok (.bipush 60, 2) := dk_16 60 (dk_at dksX1_put_2 13 rfl rfl)
theorem dX1_put_59 : decode cX1_put 59 = .ok (.iload_n 1, 1) := dk_27 (dk_at dksX1_put_2 15 rfl rfl)
theorem dX1_put_60 : decode cX1_put 60 = .ok (.imul, 1) := dk_104 (dk_at dksX1_put_2 16 rfl rfl)
theorem dX1_put_61 : decode cX1_put 61 = .ok (.iload_n 2, 1) := dk_28 (dk_at dksX1_put_2 17 rfl rfl)
theorem dX1_put_62 : decode cX1_put 62 = .ok (.iadd, 1) := dk_96 (dk_at dksX1_put_2 18 rfl rfl)
theorem dX1_put_63 : decode cX1_put 63 = .ok (.aload_n 0, 1) := dk_42 (dk_at dksX1_put_2 19 rfl rfl)
theorem dX1_put_64 : decode cX1_put 64 = .ok (.getfield 9, 3) := dk_180 0 9 (dk_at dksX1_put_2 20 rfl rfl)
theorem dX1_put_67 : decode cX1_put 67 = .ok (.iload_n 1, 1) := dk_27 (dk_at dksX1_put_2 23 rfl rfl)
theorem dX1_put_68 : decode cX1_put 68 = .ok (.iaload, 1) := dk_46 (dk_at dksX1_put_3 0 rfl rfl)
theorem dX1_put_69 : decode cX1_put 69 = .ok (.ifCond .ne 8, 3) := dk_154 0 8 (dk_at dksX1_put_3 1 rfl rfl)
theorem dX1_put_72 : decode cX1_put 72 = .ok (.iload_n 3, 1) := dk_29 (dk_at dksX1_put_3 4 rfl rfl)
theorem dX1_put_73 : decode cX1_put 73 = .ok (.i2b, 1) := dk_145 (dk_at dksX1_put_3 5 rfl rfl)
theorem dX1_put_74 : decode cX1_put 74 = .ok (.goto 19, 3) := dk_167 0 19 (dk_at dksX1_put_3 6 rfl rfl)
theorem dX1_put_77 : decode cX1_put 77 = .ok (.aload_n 0, 1) := dk_42 (dk_at dksX1_put_3 9 rfl rfl)
theorem dX1_put_78 : decode cX1_put 78 = .ok (.getfield 9, 3) := dk_180 0 9 (dk_at dksX1_put_3 10 rfl rfl)
theorem dX1_put_81 : decode cX1_put 81 = .ok (.iload_n 1, 1) := dk_27 (dk_at dksX1_put_3 13 rfl rfl)
theorem dX1_put_82 : decode cX1_put 82 = .ok (.iaload, 1) := dk_46 (dk_at dksX1_put_3 14 rfl rfl)
theorem dX1_put_83 : decode cX1_put 83 = .ok (.iconst 1, 1) := dk_4 (dk_at dksX1_put_3 15 rfl rfl)
theorem dX1_put_84 : decode cX1_put 84 = .ok (.if_icmp .ne 8, 3) := dk_160 0 8 (dk_at dksX1_put_3 16 rfl rfl)
theorem dX1_put_87 : decode cX1_put 87 = .ok (.iload_n 3, 1) := dk_29 (dk_at dksX1_put_3 19 rfl rfl)
theorem dX1_put_88 : decode cX1_put 88 = .ok (.i2s, 1) := dk_147 (dk_at dksX1_put_3 20 rfl rfl)
theorem dX1_put_89 : decode cX1_put 89 = .ok (.goto 4, 3) := dk_167 0 4 (dk_at dksX1_put_3 21 rfl rfl)
theorem dX1_put_92 : decode cX1_put 92 = .ok (.iload_n 3, 1) := dk_29 (dk_at dksX1_put_4 0 rfl rfl)
theorem dX1_put_93 : decode cX1_put 93 = .ok (.iastore, 1) := dk_79 (dk_at dksX1_put_4 1 rfl rfl)
theorem dX1_put_94 : decode cX1_put 94 = .ok (.iconst 1, 1) := dk_4 (dk_at dksX1_put_4 2 rfl rfl)
theorem dX1_put_95 : decode cX1_put 95 = .ok (.ireturn, 1) := dk_172 (dk_at dksX1_put_4 3 rfl rfl)
abbrev cX1_cell : ByteArray := prog_15_method_52_code
def yX1_cell : MethodName := ⟨RX1, "cell", "(III)J"⟩
def dkwX1_cell_4 : List UInt8 := [16, 60, 27, 104, 28, 96, 46, 133, 173]
abbrev dktX1_cell_4 : List UInt8 := dkwX1_cell_4 ++ []
def dkwX1_cell_3 : List UInt8 := [180, 0, 13, 27, 46, 4, 100, 184, 0, 55, 154, 0, 9, 42, 6, 182, 0, 185, 173, 42, 180, 0, 16]
abbrev dktX1_cell_3 : List UInt8 := dkwX1_cell_3 ++ dktX1_cell_4
def dkwX1_cell_2 : List UInt8 := [182, 0, 185, 173, 42, 180, 0, 9, 27, 46, 16, 247, 160, 0, 9, 42, 4, 182, 0, 185, 173, 28, 3, 42]
abbrev dktX1_cell_2 : List UInt8 := dkwX1_cell_2 ++ dktX1_cell_3
def dkwX1_cell_1 : List UInt8 := [180, 0, 9, 27, 46, 16, 247, 159, 0, 19, 42, 180, 0, 9, 27, 46, 29, 159, 0, 9, 42, 5]
abbrev dktX1_cell_1 : List UInt8 := dkwX1_cell_1 ++ dktX1_cell_2
def dkwX1_cell_0 : List UInt8 := [42, 3, 181, 0, 49, 27, 184, 0, 65, 153, 0, 10, 29, 184, 0, 69, 154, 0, 7, 20, 0, 53, 173, 42]
abbrev dktX1_cell_0 : List UInt8 := dkwX1_cell_0 ++ dktX1_cell_1
theorem dksX1_cell_0 : cX1_cell.data.toList.drop 0 = dktX1_cell_0 := by decide +kernel
theorem dksX1_cell_1 : cX1_cell.data.toList.drop 24 = dktX1_cell_1 := dk_seg dksX1_cell_0 24 rfl rfl
theorem dksX1_cell_2 : cX1_cell.data.toList.drop 46 = dktX1_cell_2 := dk_seg dksX1_cell_1 22 rfl rfl
theorem dksX1_cell_3 : cX1_cell.data.toList.drop 70 = dktX1_cell_3 := dk_seg dksX1_cell_2 24 rfl rfl
theorem dksX1_cell_4 : cX1_cell.data.toList.drop 93 = dktX1_cell_4 := dk_seg dksX1_cell_3 23 rfl rfl
theorem dX1_cell_0 : decode cX1_cell 0 = .ok (.aload_n 0, 1) := dk_42 (dk_at dksX1_cell_0 0 rfl rfl)
theorem dX1_cell_1 : decode cX1_cell 1 = .ok (.iconst 0, 1) := dk_3 (dk_at dksX1_cell_0 1 rfl rfl)
theorem dX1_cell_2 : decode cX1_cell 2 = .ok (.putfield 49, 3) := dk_181 0 49 (dk_at dksX1_cell_0 2 rfl rfl)
theorem dX1_cell_5 : decode cX1_cell 5 = .ok (.iload_n 1, 1) := dk_27 (dk_at dksX1_cell_0 5 rfl rfl)
theorem dX1_cell_6 : decode cX1_cell 6 = .ok (.invokestatic 65, 3) := dk_184 0 65 (dk_at dksX1_cell_0 6 rfl rfl)
theorem dX1_cell_9 : decode cX1_cell 9 = .ok (.ifCond .eq 10, 3) := dk_153 0 10 (dk_at dksX1_cell_0 9 rfl rfl)
theorem dX1_cell_12 : decode cX1_cell 12 = .ok (.iload_n 3, 1) := dk_29 (dk_at dksX1_cell_0 12 rfl rfl)
theorem dX1_cell_13 : decode cX1_cell 13 = .ok (.invokestatic 69, 3) := dk_184 0 69 (dk_at dksX1_cell_0 13 rfl rfl)
theorem dX1_cell_16 : decode cX1_cell 16 = .ok (.ifCond .ne 7, 3) := dk_154 0 7 (dk_at dksX1_cell_0 16 rfl rfl)
theorem dX1_cell_19 : decode cX1_cell 19 = .ok (.ldc2_w 53, 3) := dk_20 0 53 (dk_at dksX1_cell_0 19 rfl rfl)
theorem dX1_cell_22 : decode cX1_cell 22 = .ok (.lreturn, 1) := dk_173 (dk_at dksX1_cell_0 22 rfl rfl)
theorem dX1_cell_23 : decode cX1_cell 23 = .ok (.aload_n 0, 1) := dk_42 (dk_at dksX1_cell_0 23 rfl rfl)
theorem dX1_cell_24 : decode cX1_cell 24 = .ok (.getfield 9, 3) := dk_180 0 9 (dk_at dksX1_cell_1 0 rfl rfl)
theorem dX1_cell_27 : decode cX1_cell 27 = .ok (.iload_n 1, 1) := dk_27 (dk_at dksX1_cell_1 3 rfl rfl)
theorem dX1_cell_28 : decode cX1_cell 28 = .ok (.iaload, 1) := dk_46 (dk_at dksX1_cell_1 4 rfl rfl)
theorem dX1_cell_29 : decode cX1_cell 29 = .ok (.bipush (-9), 2) := dk_16 247 (dk_at dksX1_cell_1 5 rfl rfl)
theorem dX1_cell_31 : decode cX1_cell 31 = .ok (.if_icmp .eq 19, 3) := dk_159 0 19 (dk_at dksX1_cell_1 7 rfl rfl)
theorem dX1_cell_34 : decode cX1_cell 34 = .ok (.aload_n 0, 1) := dk_42 (dk_at dksX1_cell_1 10 rfl rfl)
theorem dX1_cell_35 : decode cX1_cell 35 = .ok (.getfield 9, 3) := dk_180 0 9 (dk_at dksX1_cell_1 11 rfl rfl)
theorem dX1_cell_38 : decode cX1_cell 38 = .ok (.iload_n 1, 1) := dk_27 (dk_at dksX1_cell_1 14 rfl rfl)
theorem dX1_cell_39 : decode cX1_cell 39 = .ok (.iaload, 1) := dk_46 (dk_at dksX1_cell_1 15 rfl rfl)
theorem dX1_cell_40 : decode cX1_cell 40 = .ok (.iload_n 3, 1) := dk_29 (dk_at dksX1_cell_1 16 rfl rfl)
theorem dX1_cell_41 : decode cX1_cell 41 = .ok (.if_icmp .eq 9, 3) := dk_159 0 9 (dk_at dksX1_cell_1 17 rfl rfl)
theorem dX1_cell_44 : decode cX1_cell 44 = .ok (.aload_n 0, 1) := dk_42 (dk_at dksX1_cell_1 20 rfl rfl)
theorem dX1_cell_45 : decode cX1_cell 45 = .ok (.iconst 2, 1) := dk_5 (dk_at dksX1_cell_1 21 rfl rfl)
theorem dX1_cell_46 : decode cX1_cell 46 = .ok (.invokevirtual 185, 3) := dk_182 0 185 (dk_at dksX1_cell_2 0 rfl rfl)
theorem dX1_cell_49 : decode cX1_cell 49 = .ok (.lreturn, 1) := dk_173 (dk_at dksX1_cell_2 3 rfl rfl)
theorem dX1_cell_50 : decode cX1_cell 50 = .ok (.aload_n 0, 1) := dk_42 (dk_at dksX1_cell_2 4 rfl rfl)
theorem dX1_cell_51 : decode cX1_cell 51 = .ok (.getfield 9, 3) := dk_180 0 9 (dk_at dksX1_cell_2 5 rfl rfl)
theorem dX1_cell_54 : decode cX1_cell 54 = .ok (.iload_n 1, 1) := dk_27 (dk_at dksX1_cell_2 8 rfl rfl)
theorem dX1_cell_55 : decode cX1_cell 55 = .ok (.iaload, 1) := dk_46 (dk_at dksX1_cell_2 9 rfl rfl)
theorem dX1_cell_56 : decode cX1_cell 56 = .ok (.bipush (-9), 2) := dk_16 247 (dk_at dksX1_cell_2 10 rfl rfl)
theorem dX1_cell_58 : decode cX1_cell 58 = .ok (.if_icmp .ne 9, 3) := dk_160 0 9 (dk_at dksX1_cell_2 12 rfl rfl)
theorem dX1_cell_61 : decode cX1_cell 61 = .ok (.aload_n 0, 1) := dk_42 (dk_at dksX1_cell_2 15 rfl rfl)
theorem dX1_cell_62 : decode cX1_cell 62 = .ok (.iconst 1, 1) := dk_4 (dk_at dksX1_cell_2 16 rfl rfl)
theorem dX1_cell_63 : decode cX1_cell 63 = .ok (.invokevirtual 185, 3) := dk_182 0 185 (dk_at dksX1_cell_2 17 rfl rfl)
theorem dX1_cell_66 : decode cX1_cell 66 = .ok (.lreturn, 1) := dk_173 (dk_at dksX1_cell_2 20 rfl rfl)
theorem dX1_cell_67 : decode cX1_cell 67 = .ok (.iload_n 2, 1) := dk_28 (dk_at dksX1_cell_2 21 rfl rfl)
theorem dX1_cell_68 : decode cX1_cell 68 = .ok (.iconst 0, 1) := dk_3 (dk_at dksX1_cell_2 22 rfl rfl)
theorem dX1_cell_69 : decode cX1_cell 69 = .ok (.aload_n 0, 1) := dk_42 (dk_at dksX1_cell_2 23 rfl rfl)
theorem dX1_cell_70 : decode cX1_cell 70 = .ok (.getfield 13, 3) := dk_180 0 13 (dk_at dksX1_cell_3 0 rfl rfl)
theorem dX1_cell_73 : decode cX1_cell 73 = .ok (.iload_n 1, 1) := dk_27 (dk_at dksX1_cell_3 3 rfl rfl)
theorem dX1_cell_74 : decode cX1_cell 74 = .ok (.iaload, 1) := dk_46 (dk_at dksX1_cell_3 4 rfl rfl)
theorem dX1_cell_75 : decode cX1_cell 75 = .ok (.iconst 1, 1) := dk_4 (dk_at dksX1_cell_3 5 rfl rfl)
theorem dX1_cell_76 : decode cX1_cell 76 = .ok (.isub, 1) := dk_100 (dk_at dksX1_cell_3 6 rfl rfl)
theorem dX1_cell_77 : decode cX1_cell 77 = .ok (.invokestatic 55, 3) := dk_184 0 55 (dk_at dksX1_cell_3 7 rfl rfl)
theorem dX1_cell_80 : decode cX1_cell 80 = .ok (.ifCond .ne 9, 3) := dk_154 0 9 (dk_at dksX1_cell_3 10 rfl rfl)
theorem dX1_cell_83 : decode cX1_cell 83 = .ok (.aload_n 0, 1) := dk_42 (dk_at dksX1_cell_3 13 rfl rfl)
theorem dX1_cell_84 : decode cX1_cell 84 = .ok (.iconst 3, 1) := dk_6 (dk_at dksX1_cell_3 14 rfl rfl)
theorem dX1_cell_85 : decode cX1_cell 85 = .ok (.invokevirtual 185, 3) := dk_182 0 185 (dk_at dksX1_cell_3 15 rfl rfl)
theorem dX1_cell_88 : decode cX1_cell 88 = .ok (.lreturn, 1) := dk_173 (dk_at dksX1_cell_3 18 rfl rfl)
theorem dX1_cell_89 : decode cX1_cell 89 = .ok (.aload_n 0, 1) := dk_42 (dk_at dksX1_cell_3 19 rfl rfl)
theorem dX1_cell_90 : decode cX1_cell 90 = .ok (.getfield 16, 3) := dk_180 0 16 (dk_at dksX1_cell_3 20 rfl rfl)
theorem dX1_cell_93 : decode cX1_cell 93 = .ok (.bipush 60, 2) := dk_16 60 (dk_at dksX1_cell_4 0 rfl rfl)
theorem dX1_cell_95 : decode cX1_cell 95 = .ok (.iload_n 1, 1) := dk_27 (dk_at dksX1_cell_4 2 rfl rfl)
theorem dX1_cell_96 : decode cX1_cell 96 = .ok (.imul, 1) := dk_104 (dk_at dksX1_cell_4 3 rfl rfl)
theorem dX1_cell_97 : decode cX1_cell 97 = .ok (.iload_n 2, 1) := dk_28 (dk_at dksX1_cell_4 4 rfl rfl)
theorem dX1_cell_98 : decode cX1_cell 98 = .ok (.iadd, 1) := dk_96 (dk_at dksX1_cell_4 5 rfl rfl)
theorem dX1_cell_99 : decode cX1_cell 99 = .ok (.iaload, 1) := dk_46 (dk_at dksX1_cell_4 6 rfl rfl)
theorem dX1_cell_100 : decode cX1_cell 100 = .ok (.i2l, 1) := dk_133 (dk_at dksX1_cell_4 7 rfl rfl)
theorem dX1_cell_101 : decode cX1_cell 101 = .ok (.lreturn, 1) := dk_173 (dk_at dksX1_cell_4 8 rfl rfl)
abbrev cX1_lost : ByteArray := prog_15_method_4_code
def yX1_lost : MethodName := ⟨RX1, "lost", "(I)J"⟩
def dkwX1_lost_0 : List UInt8 := [42, 27, 181, 0, 49, 20, 0, 53, 173]
abbrev dktX1_lost_0 : List UInt8 := dkwX1_lost_0 ++ []
theorem dksX1_lost_0 : cX1_lost.data.toList.drop 0 = dktX1_lost_0 := by decide +kernel
theorem dX1_lost_0 : decode cX1_lost 0 = .ok (.aload_n 0, 1) := dk_42 (dk_at dksX1_lost_0 0 rfl rfl)
theorem dX1_lost_1 : decode cX1_lost 1 = .ok (.iload_n 1, 1) := dk_27 (dk_at dksX1_lost_0 1 rfl rfl)
theorem dX1_lost_2 : decode cX1_lost 2 = .ok (.putfield 49, 3) := dk_181 0 49 (dk_at dksX1_lost_0 2 rfl rfl)
theorem dX1_lost_5 : decode cX1_lost 5 = .ok (.ldc2_w 53, 3) := dk_20 0 53 (dk_at dksX1_lost_0 5 rfl rfl)
theorem dX1_lost_8 : decode cX1_lost 8 = .ok (.lreturn, 1) := dk_173 (dk_at dksX1_lost_0 8 rfl rfl)
abbrev cX1_copy : ByteArray := prog_15_method_53_code
def yX1_copy : MethodName := ⟨RX1, "copy", "(IIIII)I"⟩
def dkwX1_copy_9 : List UInt8 := [180, 0, 16, 16, 60, 27, 104, 28, 96, 21, 9, 96, 46, 79, 132, 8, 1, 167, 255, 198, 21, 5, 172]
abbrev dktX1_copy_9 : List UInt8 := dkwX1_copy_9 ++ []
def dkwX1_copy_8 : List UInt8 := [167, 0, 5, 21, 8, 54, 9, 42, 180, 0, 16, 16, 60, 29, 104, 21, 4, 96, 21, 9, 96, 42]
abbrev dktX1_copy_8 : List UInt8 := dkwX1_copy_8 ++ dktX1_copy_9
def dkwX1_copy_7 : List UInt8 := [54, 7, 3, 54, 8, 21, 8, 21, 5, 162, 0, 57, 21, 7, 153, 0, 13, 21, 5, 4, 100, 21, 8, 100]
abbrev dktX1_copy_7 : List UInt8 := dkwX1_copy_7 ++ dktX1_copy_8
def dkwX1_copy_6 : List UInt8 := [21, 4, 100, 164, 0, 9, 42, 6, 182, 0, 76, 172, 28, 21, 4, 162, 0, 7, 4, 167, 0, 4, 3]
abbrev dktX1_copy_6 : List UInt8 := dkwX1_copy_6 ++ dktX1_copy_7
def dkwX1_copy_5 : List UInt8 := [153, 0, 30, 21, 5, 42, 180, 0, 13, 27, 46, 28, 100, 163, 0, 17, 21, 5, 42, 180, 0, 13, 29, 46]
abbrev dktX1_copy_5 : List UInt8 := dkwX1_copy_5 ++ dktX1_copy_6
def dkwX1_copy_4 : List UInt8 := [163, 0, 18, 21, 4, 42, 180, 0, 13, 29, 46, 163, 0, 7, 4, 167, 0, 4, 3, 54, 6, 21, 6]
abbrev dktX1_copy_4 : List UInt8 := dkwX1_copy_4 ++ dktX1_copy_5
def dkwX1_copy_3 : List UInt8 := [172, 28, 155, 0, 38, 21, 4, 155, 0, 33, 21, 5, 155, 0, 28, 28, 42, 180, 0, 13, 27, 46]
abbrev dktX1_copy_3 : List UInt8 := dkwX1_copy_3 ++ dktX1_copy_4
def dkwX1_copy_2 : List UInt8 := [182, 0, 76, 172, 42, 180, 0, 9, 27, 46, 42, 180, 0, 9, 29, 46, 159, 0, 9, 42, 5, 182, 0, 76]
abbrev dktX1_copy_2 : List UInt8 := dkwX1_copy_2 ++ dktX1_copy_3
def dkwX1_copy_1 : List UInt8 := [180, 0, 9, 27, 46, 16, 247, 159, 0, 14, 42, 180, 0, 9, 29, 46, 16, 247, 160, 0, 9, 42, 4]
abbrev dktX1_copy_1 : List UInt8 := dkwX1_copy_1 ++ dktX1_copy_2
def dkwX1_copy_0 : List UInt8 := [42, 3, 181, 0, 49, 27, 184, 0, 65, 153, 0, 10, 29, 184, 0, 65, 154, 0, 5, 2, 172, 42]
abbrev dktX1_copy_0 : List UInt8 := dkwX1_copy_0 ++ dktX1_copy_1
theorem dksX1_copy_0 : cX1_copy.data.toList.drop 0 = dktX1_copy_0 := by decide +kernel
theorem dksX1_copy_1 : cX1_copy.data.toList.drop 22 = dktX1_copy_1 := dk_seg dksX1_copy_0 22 rfl rfl
theorem dksX1_copy_2 : cX1_copy.data.toList.drop 45 = dktX1_copy_2 := dk_seg dksX1_copy_1 23 rfl rfl
theorem dksX1_copy_3 : cX1_copy.data.toList.drop 69 = dktX1_copy_3 := dk_seg dksX1_copy_2 24 rfl rfl
theorem dksX1_copy_4 : cX1_copy.data.toList.drop 91 = dktX1_copy_4 := dk_seg dksX1_copy_3 22 rfl rfl
theorem dksX1_copy_5 : cX1_copy.data.toList.drop 114 = dktX1_copy_5 := dk_seg dksX1_copy_4 23 rfl rfl
theorem dksX1_copy_6 : cX1_copy.data.toList.drop 138 = dktX1_copy_6 := dk_seg dksX1_copy_5 24 rfl rfl
theorem dksX1_copy_7 : cX1_copy.data.toList.drop 161 = dktX1_copy_7 := dk_seg dksX1_copy_6 23 rfl rfl
theorem dksX1_copy_8 : cX1_copy.data.toList.drop 185 = dktX1_copy_8 := dk_seg dksX1_copy_7 24 rfl rfl
theorem dksX1_copy_9 : cX1_copy.data.toList.drop 207 = dktX1_copy_9 := dk_seg dksX1_copy_8 22 rfl rfl
theorem dX1_copy_0 : decode cX1_copy 0 = .ok (.aload_n 0, 1) := dk_42 (dk_at dksX1_copy_0 0 rfl rfl)
theorem dX1_copy_1 : decode cX1_copy 1 = .ok (.iconst 0, 1) := dk_3 (dk_at dksX1_copy_0 1 rfl rfl)
theorem dX1_copy_2 : decode cX1_copy 2 = .ok (.putfield 49, 3) := dk_181 0 49 (dk_at dksX1_copy_0 2 rfl rfl)
theorem dX1_copy_5 : decode cX1_copy 5 = .ok (.iload_n 1, 1) := dk_27 (dk_at dksX1_copy_0 5 rfl rfl)
theorem dX1_copy_6 : decode cX1_copy 6 = .ok (.invokestatic 65, 3) := dk_184 0 65 (dk_at dksX1_copy_0 6 rfl rfl)
theorem dX1_copy_9 : decode cX1_copy 9 = .ok (.ifCond .eq 10, 3) := dk_153 0 10 (dk_at dksX1_copy_0 9 rfl rfl)
theorem dX1_copy_12 : decode cX1_copy 12 = .ok (.iload_n 3, 1) := dk_29 (dk_at dksX1_copy_0 12 rfl rfl)
theorem dX1_copy_13 : decode cX1_copy 13 = .ok (.invokestatic 65, 3) := dk_184 0 65 (dk_at dksX1_copy_0 13 rfl rfl)
theorem dX1_copy_16 : decode cX1_copy 16 = .ok (.ifCond .ne 5, 3) := dk_154 0 5 (dk_at dksX1_copy_0 16 rfl rfl)
theorem dX1_copy_19 : decode cX1_copy 19 = .ok (.iconst (-1), 1) := dk_2 (dk_at dksX1_copy_0 19 rfl rfl)
theorem dX1_copy_20 : decode cX1_copy 20 = .ok (.ireturn, 1) := dk_172 (dk_at dksX1_copy_0 20 rfl rfl)
theorem dX1_copy_21 : decode cX1_copy 21 = .ok (.aload_n 0, 1) := dk_42 (dk_at dksX1_copy_0 21 rfl rfl)
theorem dX1_copy_22 : decode cX1_copy 22 = .ok (.getfield 9, 3) := dk_180 0 9 (dk_at dksX1_copy_1 0 rfl rfl)
theorem dX1_copy_25 : decode cX1_copy 25 = .ok (.iload_n 1, 1) := dk_27 (dk_at dksX1_copy_1 3 rfl rfl)
theorem dX1_copy_26 : decode cX1_copy 26 = .ok (.iaload, 1) := dk_46 (dk_at dksX1_copy_1 4 rfl rfl)
theorem dX1_copy_27 : decode cX1_copy 27 = .ok (.bipush (-9), 2) := dk_16 247 (dk_at dksX1_copy_1 5 rfl rfl)
theorem dX1_copy_29 : decode cX1_copy 29 = .ok (.if_icmp .eq 14, 3) := dk_159 0 14 (dk_at dksX1_copy_1 7 rfl rfl)
theorem dX1_copy_32 : decode cX1_copy 32 = .ok (.aload_n 0, 1) := dk_42 (dk_at dksX1_copy_1 10 rfl rfl)
theorem dX1_copy_33 : decode cX1_copy 33 = .ok (.getfield 9, 3) := dk_180 0 9 (dk_at dksX1_copy_1 11 rfl rfl)
theorem dX1_copy_36 : decode cX1_copy 36 = .ok (.iload_n 3, 1) := dk_29 (dk_at dksX1_copy_1 14 rfl rfl)
theorem dX1_copy_37 : decode cX1_copy 37 = .ok (.iaload, 1) := dk_46 (dk_at dksX1_copy_1 15 rfl rfl)
theorem dX1_copy_38 : decode cX1_copy 38 = .ok (.bipush (-9), 2) := dk_16 247 (dk_at dksX1_copy_1 16 rfl rfl)
theorem dX1_copy_40 : decode cX1_copy 40 = .ok (.if_icmp .ne 9, 3) := dk_160 0 9 (dk_at dksX1_copy_1 18 rfl rfl)
theorem dX1_copy_43 : decode cX1_copy 43 = .ok (.aload_n 0, 1) := dk_42 (dk_at dksX1_copy_1 21 rfl rfl)
theorem dX1_copy_44 : decode cX1_copy 44 = .ok (.iconst 1, 1) := dk_4 (dk_at dksX1_copy_1 22 rfl rfl)
theorem dX1_copy_45 : decode cX1_copy 45 = .ok (.invokevirtual 76, 3) := dk_182 0 76 (dk_at dksX1_copy_2 0 rfl rfl)
theorem dX1_copy_48 : decode cX1_copy 48 = .ok (.ireturn, 1) := dk_172 (dk_at dksX1_copy_2 3 rfl rfl)
theorem dX1_copy_49 : decode cX1_copy 49 = .ok (.aload_n 0, 1) := dk_42 (dk_at dksX1_copy_2 4 rfl rfl)
theorem dX1_copy_50 : decode cX1_copy 50 = .ok (.getfield 9, 3) := dk_180 0 9 (dk_at dksX1_copy_2 5 rfl rfl)
theorem dX1_copy_53 : decode cX1_copy 53 = .ok (.iload_n 1, 1) := dk_27 (dk_at dksX1_copy_2 8 rfl rfl)
theorem dX1_copy_54 : decode cX1_copy 54 = .ok (.iaload, 1) := dk_46 (dk_at dksX1_copy_2 9 rfl rfl)
theorem dX1_copy_55 : decode cX1_copy 55 = .ok (.aload_n 0, 1) := dk_42 (dk_at dksX1_copy_2 10 rfl rfl)
theorem dX1_copy_56 : decode cX1_copy 56 = .ok (.getfield 9, 3) := dk_180 0 9 (dk_at dksX1_copy_2 11 rfl rfl)
theorem dX1_copy_59 : decode cX1_copy 59 = .ok (.iload_n 3, 1) := dk_29 (dk_at dksX1_copy_2 14 rfl rfl)
theorem dX1_copy_60 : decode cX1_copy 60 = .ok (.iaload, 1) := dk_46 (dk_at dksX1_copy_2 15 rfl rfl)
theorem dX1_copy_61 : decode cX1_copy 61 = .ok (.if_icmp .eq 9, 3) := dk_159 0 9 (dk_at dksX1_copy_2 16 rfl rfl)
theorem dX1_copy_64 : decode cX1_copy 64 = .ok (.aload_n 0, 1) := dk_42 (dk_at dksX1_copy_2 19 rfl rfl)
theorem dX1_copy_65 : decode cX1_copy 65 = .ok (.iconst 2, 1) := dk_5 (dk_at dksX1_copy_2 20 rfl rfl)
theorem dX1_copy_66 : decode cX1_copy 66 = .ok (.invokevirtual 76, 3) := dk_182 0 76 (dk_at dksX1_copy_2 21 rfl rfl)
theorem dX1_copy_69 : decode cX1_copy 69 = .ok (.ireturn, 1) := dk_172 (dk_at dksX1_copy_3 0 rfl rfl)
theorem dX1_copy_70 : decode cX1_copy 70 = .ok (.iload_n 2, 1) := dk_28 (dk_at dksX1_copy_3 1 rfl rfl)
theorem dX1_copy_71 : decode cX1_copy 71 = .ok (.ifCond .lt 38, 3) := dk_155 0 38 (dk_at dksX1_copy_3 2 rfl rfl)
theorem dX1_copy_74 : decode cX1_copy 74 = .ok (.iload 4, 2) := dk_21 4 (dk_at dksX1_copy_3 5 rfl rfl)
theorem dX1_copy_76 : decode cX1_copy 76 = .ok (.ifCond .lt 33, 3) := dk_155 0 33 (dk_at dksX1_copy_3 7 rfl rfl)
theorem dX1_copy_79 : decode cX1_copy 79 = .ok (.iload 5, 2) := dk_21 5 (dk_at dksX1_copy_3 10 rfl rfl)
theorem dX1_copy_81 : decode cX1_copy 81 = .ok (.ifCond .lt 28, 3) := dk_155 0 28 (dk_at dksX1_copy_3 12 rfl rfl)
theorem dX1_copy_84 : decode cX1_copy 84 = .ok (.iload_n 2, 1) := dk_28 (dk_at dksX1_copy_3 15 rfl rfl)
theorem dX1_copy_85 : decode cX1_copy 85 = .ok (.aload_n 0, 1) := dk_42 (dk_at dksX1_copy_3 16 rfl rfl)
theorem dX1_copy_86 : decode cX1_copy 86 = .ok (.getfield 13, 3) := dk_180 0 13 (dk_at dksX1_copy_3 17 rfl rfl)
theorem dX1_copy_89 : decode cX1_copy 89 = .ok (.iload_n 1, 1) := dk_27 (dk_at dksX1_copy_3 20 rfl rfl)
theorem dX1_copy_90 : decode cX1_copy 90 = .ok (.iaload, 1) := dk_46 (dk_at dksX1_copy_3 21 rfl rfl)
theorem dX1_copy_91 : decode cX1_copy 91 = .ok (.if_icmp .gt 18, 3) := dk_163 0 18 (dk_at dksX1_copy_4 0 rfl rfl)
theorem dX1_copy_94 : decode cX1_copy 94 = .ok (.iload 4, 2) := dk_21 4 (dk_at dksX1_copy_4 3 rfl rfl)
theorem dX1_copy_96 : decode cX1_copy 96 = .ok (.aload_n 0, 1) := dk_42 (dk_at dksX1_copy_4 5 rfl rfl)
theorem dX1_copy_97 : decode cX1_copy 97 = .ok (.getfield 13, 3) := dk_180 0 13 (dk_at dksX1_copy_4 6 rfl rfl)
theorem dX1_copy_100 : decode cX1_copy 100 = .ok (.iload_n 3, 1) := dk_29 (dk_at dksX1_copy_4 9 rfl rfl)
theorem dX1_copy_101 : decode cX1_copy 101 = .ok (.iaload, 1) := dk_46 (dk_at dksX1_copy_4 10 rfl rfl)
theorem dX1_copy_102 : decode cX1_copy 102 = .ok (.if_icmp .gt 7, 3) := dk_163 0 7 (dk_at dksX1_copy_4 11 rfl rfl)
theorem dX1_copy_105 : decode cX1_copy 105 = .ok (.iconst 1, 1) := dk_4 (dk_at dksX1_copy_4 14 rfl rfl)
theorem dX1_copy_106 : decode cX1_copy 106 = .ok (.goto 4, 3) := dk_167 0 4 (dk_at dksX1_copy_4 15 rfl rfl)
theorem dX1_copy_109 : decode cX1_copy 109 = .ok (.iconst 0, 1) := dk_3 (dk_at dksX1_copy_4 18 rfl rfl)
theorem dX1_copy_110 : decode cX1_copy 110 = .ok (.istore 6, 2) := dk_54 6 (dk_at dksX1_copy_4 19 rfl rfl)
theorem dX1_copy_112 : decode cX1_copy 112 = .ok (.iload 6, 2) := dk_21 6 (dk_at dksX1_copy_4 21 rfl rfl)
theorem dX1_copy_114 : decode cX1_copy 114 = .ok (.ifCond .eq 30, 3) := dk_153 0 30 (dk_at dksX1_copy_5 0 rfl rfl)
theorem dX1_copy_117 : decode cX1_copy 117 = .ok (.iload 5, 2) := dk_21 5 (dk_at dksX1_copy_5 3 rfl rfl)
theorem dX1_copy_119 : decode cX1_copy 119 = .ok (.aload_n 0, 1) := dk_42 (dk_at dksX1_copy_5 5 rfl rfl)
theorem dX1_copy_120 : decode cX1_copy 120 = .ok (.getfield 13, 3) := dk_180 0 13 (dk_at dksX1_copy_5 6 rfl rfl)
theorem dX1_copy_123 : decode cX1_copy 123 = .ok (.iload_n 1, 1) := dk_27 (dk_at dksX1_copy_5 9 rfl rfl)
theorem dX1_copy_124 : decode cX1_copy 124 = .ok (.iaload, 1) := dk_46 (dk_at dksX1_copy_5 10 rfl rfl)
theorem dX1_copy_125 : decode cX1_copy 125 = .ok (.iload_n 2, 1) := dk_28 (dk_at dksX1_copy_5 11 rfl rfl)
theorem dX1_copy_126 : decode cX1_copy 126 = .ok (.isub, 1) := dk_100 (dk_at dksX1_copy_5 12 rfl rfl)
theorem dX1_copy_127 : decode cX1_copy 127 = .ok (.if_icmp .gt 17, 3) := dk_163 0 17 (dk_at dksX1_copy_5 13 rfl rfl)
theorem dX1_copy_130 : decode cX1_copy 130 = .ok (.iload 5, 2) := dk_21 5 (dk_at dksX1_copy_5 16 rfl rfl)
theorem dX1_copy_132 : decode cX1_copy 132 = .ok (.aload_n 0, 1) := dk_42 (dk_at dksX1_copy_5 18 rfl rfl)
theorem dX1_copy_133 : decode cX1_copy 133 = .ok (.getfield 13, 3) := dk_180 0 13 (dk_at dksX1_copy_5 19 rfl rfl)
theorem dX1_copy_136 : decode cX1_copy 136 = .ok (.iload_n 3, 1) := dk_29 (dk_at dksX1_copy_5 22 rfl rfl)
theorem dX1_copy_137 : decode cX1_copy 137 = .ok (.iaload, 1) := dk_46 (dk_at dksX1_copy_5 23 rfl rfl)
theorem dX1_copy_138 : decode cX1_copy 138 = .ok (.iload 4, 2) := dk_21 4 (dk_at dksX1_copy_6 0 rfl rfl)
theorem dX1_copy_140 : decode cX1_copy 140 = .ok (.isub, 1) := dk_100 (dk_at dksX1_copy_6 2 rfl rfl)
theorem dX1_copy_141 : decode cX1_copy 141 = .ok (.if_icmp .le 9, 3) := dk_164 0 9 (dk_at dksX1_copy_6 3 rfl rfl)
theorem dX1_copy_144 : decode cX1_copy 144 = .ok (.aload_n 0, 1) := dk_42 (dk_at dksX1_copy_6 6 rfl rfl)
theorem dX1_copy_145 : decode cX1_copy 145 = .ok (.iconst 3, 1) := dk_6 (dk_at dksX1_copy_6 7 rfl rfl)
theorem dX1_copy_146 : decode cX1_copy 146 = .ok (.invokevirtual 76, 3) := dk_182 0 76 (dk_at dksX1_copy_6 8 rfl rfl)
theorem dX1_copy_149 : decode cX1_copy 149 = .ok (.ireturn, 1) := dk_172 (dk_at dksX1_copy_6 11 rfl rfl)
theorem dX1_copy_150 : decode cX1_copy 150 = .ok (.iload_n 2, 1) := dk_28 (dk_at dksX1_copy_6 12 rfl rfl)
theorem dX1_copy_151 : decode cX1_copy 151 = .ok (.iload 4, 2) := dk_21 4 (dk_at dksX1_copy_6 13 rfl rfl)
theorem dX1_copy_153 : decode cX1_copy 153 = .ok (.if_icmp .ge 7, 3) := dk_162 0 7 (dk_at dksX1_copy_6 15 rfl rfl)
theorem dX1_copy_156 : decode cX1_copy 156 = .ok (.iconst 1, 1) := dk_4 (dk_at dksX1_copy_6 18 rfl rfl)
theorem dX1_copy_157 : decode cX1_copy 157 = .ok (.goto 4, 3) := dk_167 0 4 (dk_at dksX1_copy_6 19 rfl rfl)
theorem dX1_copy_160 : decode cX1_copy 160 = .ok (.iconst 0, 1) := dk_3 (dk_at dksX1_copy_6 22 rfl rfl)
theorem dX1_copy_161 : decode cX1_copy 161 = .ok (.istore 7, 2) := dk_54 7 (dk_at dksX1_copy_7 0 rfl rfl)
theorem dX1_copy_163 : decode cX1_copy 163 = .ok (.iconst 0, 1) := dk_3 (dk_at dksX1_copy_7 2 rfl rfl)
theorem dX1_copy_164 : decode cX1_copy 164 = .ok (.istore 8, 2) := dk_54 8 (dk_at dksX1_copy_7 3 rfl rfl)
theorem dX1_copy_166 : decode cX1_copy 166 = .ok (.iload 8, 2) := dk_21 8 (dk_at dksX1_copy_7 5 rfl rfl)
theorem dX1_copy_168 : decode cX1_copy 168 = .ok (.iload 5, 2) := dk_21 5 (dk_at dksX1_copy_7 7 rfl rfl)
theorem dX1_copy_170 : decode cX1_copy 170 = .ok (.if_icmp .ge 57, 3) := dk_162 0 57 (dk_at dksX1_copy_7 9 rfl rfl)
theorem dX1_copy_173 : decode cX1_copy 173 = .ok (.iload 7, 2) := dk_21 7 (dk_at dksX1_copy_7 12 rfl rfl)
theorem dX1_copy_175 : decode cX1_copy 175 = .ok (.ifCond .eq 13, 3) := dk_153 0 13 (dk_at dksX1_copy_7 14 rfl rfl)
theorem dX1_copy_178 : decode cX1_copy 178 = .ok (.iload 5, 2) := dk_21 5 (dk_at dksX1_copy_7 17 rfl rfl)
theorem dX1_copy_180 : decode cX1_copy 180 = .ok (.iconst 1, 1) := dk_4 (dk_at dksX1_copy_7 19 rfl rfl)
theorem dX1_copy_181 : decode cX1_copy 181 = .ok (.isub, 1) := dk_100 (dk_at dksX1_copy_7 20 rfl rfl)
theorem dX1_copy_182 : decode cX1_copy 182 = .ok (.iload 8, 2) := dk_21 8 (dk_at dksX1_copy_7 21 rfl rfl)
theorem dX1_copy_184 : decode cX1_copy 184 = .ok (.isub, 1) := dk_100 (dk_at dksX1_copy_7 23 rfl rfl)
theorem dX1_copy_185 : decode cX1_copy 185 = .ok (.goto 5, 3) := dk_167 0 5 (dk_at dksX1_copy_8 0 rfl rfl)
theorem dX1_copy_188 : decode cX1_copy 188 = .ok (.iload 8, 2) := dk_21 8 (dk_at dksX1_copy_8 3 rfl rfl)
theorem dX1_copy_190 : decode cX1_copy 190 = .ok (.istore 9, 2) := dk_54 9 (dk_at dksX1_copy_8 5 rfl rfl)
theorem dX1_copy_192 : decode cX1_copy 192 = .ok (.aload_n 0, 1) := dk_42 (dk_at dksX1_copy_8 7 rfl rfl)
theorem dX1_copy_193 : decode cX1_copy 193 = .ok (.getfield 16, 3) := dk_180 0 16 (dk_at dksX1_copy_8 8 rfl rfl)
theorem dX1_copy_196 : decode cX1_copy 196 = .ok (.bipush 60, 2) := dk_16 60 (dk_at dksX1_copy_8 11 rfl rfl)
theorem dX1_copy_198 : decode cX1_copy 198 = .ok (.iload_n 3, 1) := dk_29 (dk_at dksX1_copy_8 13 rfl rfl)
theorem dX1_copy_199 : decode cX1_copy 199 = .ok (.imul, 1) := dk_104 (dk_at dksX1_copy_8 14 rfl rfl)
theorem dX1_copy_200 : decode cX1_copy 200 = .ok (.iload 4, 2) := dk_21 4 (dk_at dksX1_copy_8 15 rfl rfl)
theorem dX1_copy_202 : decode cX1_copy 202 = .ok (.iadd, 1) := dk_96 (dk_at dksX1_copy_8 17 rfl rfl)
theorem dX1_copy_203 : decode cX1_copy 203 = .ok (.iload 9, 2) := dk_21 9 (dk_at dksX1_copy_8 18 rfl rfl)
theorem dX1_copy_205 : decode cX1_copy 205 = .ok (.iadd, 1) := dk_96 (dk_at dksX1_copy_8 20 rfl rfl)
theorem dX1_copy_206 : decode cX1_copy 206 = .ok (.aload_n 0, 1) := dk_42 (dk_at dksX1_copy_8 21 rfl rfl)
theorem dX1_copy_207 : decode cX1_copy 207 = .ok (.getfield 16, 3) := dk_180 0 16 (dk_at dksX1_copy_9 0 rfl rfl)
theorem dX1_copy_210 : decode cX1_copy 210 = .ok (.bipush 60, 2) := dk_16 60 (dk_at dksX1_copy_9 3 rfl rfl)
theorem dX1_copy_212 : decode cX1_copy 212 = .ok (.iload_n 1, 1) := dk_27 (dk_at dksX1_copy_9 5 rfl rfl)
theorem dX1_copy_213 : decode cX1_copy 213 = .ok (.imul, 1) := dk_104 (dk_at dksX1_copy_9 6 rfl rfl)
theorem dX1_copy_214 : decode cX1_copy 214 = .ok (.iload_n 2, 1) := dk_28 (dk_at dksX1_copy_9 7 rfl rfl)
theorem dX1_copy_215 : decode cX1_copy 215 = .ok (.iadd, 1) := dk_96 (dk_at dksX1_copy_9 8 rfl rfl)
theorem dX1_copy_216 : decode cX1_copy 216 = .ok (.iload 9, 2) := dk_21 9 (dk_at dksX1_copy_9 9 rfl rfl)
theorem dX1_copy_218 : decode cX1_copy 218 = .ok (.iadd, 1) := dk_96 (dk_at dksX1_copy_9 11 rfl rfl)
theorem dX1_copy_219 : decode cX1_copy 219 = .ok (.iaload, 1) := dk_46 (dk_at dksX1_copy_9 12 rfl rfl)
theorem dX1_copy_220 : decode cX1_copy 220 = .ok (.iastore, 1) := dk_79 (dk_at dksX1_copy_9 13 rfl rfl)
theorem dX1_copy_221 : decode cX1_copy 221 = .ok (.iinc 8 1, 3) := dk_132 8 1 (dk_at dksX1_copy_9 14 rfl rfl)
theorem dX1_copy_224 : decode cX1_copy 224 = .ok (.goto (-58), 3) := dk_167 255 198 (dk_at dksX1_copy_9 17 rfl rfl)
theorem dX1_copy_227 : decode cX1_copy 227 = .ok (.iload 5, 2) := dk_21 5 (dk_at dksX1_copy_9 20 rfl rfl)
theorem dX1_copy_229 : decode cX1_copy 229 = .ok (.ireturn, 1) := dk_172 (dk_at dksX1_copy_9 22 rfl rfl)
abbrev cX1_tell : ByteArray := prog_15_method_55_code
def yX1_tell : MethodName := ⟨RX1, "tell", "(I)I"⟩
def dkwX1_tell_4 : List UInt8 := [182, 0, 192, 28, 172]
abbrev dktX1_tell_4 : List UInt8 := dkwX1_tell_4 ++ []
def dkwX1_tell_3 : List UInt8 := [182, 0, 192, 42, 4, 182, 0, 192, 42, 4, 182, 0, 192, 5, 28, 104, 16, 100, 96, 172, 42, 4]
abbrev dktX1_tell_3 : List UInt8 := dkwX1_tell_3 ++ dktX1_tell_4
def dkwX1_tell_2 : List UInt8 := [42, 5, 182, 0, 192, 42, 4, 182, 0, 192, 28, 16, 100, 96, 172, 42, 6, 182, 0, 192, 42, 5]
abbrev dktX1_tell_2 : List UInt8 := dkwX1_tell_2 ++ dktX1_tell_3
def dkwX1_tell_1 : List UInt8 := [171, 0, 0, 0, 0, 68, 0, 0, 0, 2, 0, 0, 0, 1, 0, 0, 0, 26, 0, 0, 0, 2, 0, 0, 0, 41]
abbrev dktX1_tell_1 : List UInt8 := dkwX1_tell_1 ++ dktX1_tell_2
def dkwX1_tell_0 : List UInt8 := [42, 27, 182, 0, 115, 154, 0, 5, 2, 172, 42, 27, 182, 0, 118, 61, 42, 180, 0, 19, 27, 46]
abbrev dktX1_tell_0 : List UInt8 := dkwX1_tell_0 ++ dktX1_tell_1
theorem dksX1_tell_0 : cX1_tell.data.toList.drop 0 = dktX1_tell_0 := by decide +kernel
theorem dksX1_tell_1 : cX1_tell.data.toList.drop 22 = dktX1_tell_1 := dk_seg dksX1_tell_0 22 rfl rfl
theorem dksX1_tell_2 : cX1_tell.data.toList.drop 48 = dktX1_tell_2 := dk_seg dksX1_tell_1 26 rfl rfl
theorem dksX1_tell_3 : cX1_tell.data.toList.drop 70 = dktX1_tell_3 := dk_seg dksX1_tell_2 22 rfl rfl
theorem dksX1_tell_4 : cX1_tell.data.toList.drop 92 = dktX1_tell_4 := dk_seg dksX1_tell_3 22 rfl rfl
theorem dX1_tell_0 : decode cX1_tell 0 = .ok (.aload_n 0, 1) := dk_42 (dk_at dksX1_tell_0 0 rfl rfl)
theorem dX1_tell_1 : decode cX1_tell 1 = .ok (.iload_n 1, 1) := dk_27 (dk_at dksX1_tell_0 1 rfl rfl)
theorem dX1_tell_2 : decode cX1_tell 2 = .ok (.invokevirtual 115, 3) := dk_182 0 115 (dk_at dksX1_tell_0 2 rfl rfl)
theorem dX1_tell_5 : decode cX1_tell 5 = .ok (.ifCond .ne 5, 3) := dk_154 0 5 (dk_at dksX1_tell_0 5 rfl rfl)
theorem dX1_tell_8 : decode cX1_tell 8 = .ok (.iconst (-1), 1) := dk_2 (dk_at dksX1_tell_0 8 rfl rfl)
theorem dX1_tell_9 : decode cX1_tell 9 = .ok (.ireturn, 1) := dk_172 (dk_at dksX1_tell_0 9 rfl rfl)
theorem dX1_tell_10 : decode cX1_tell 10 = .ok (.aload_n 0, 1) := dk_42 (dk_at dksX1_tell_0 10 rfl rfl)
theorem dX1_tell_11 : decode cX1_tell 11 = .ok (.iload_n 1, 1) := dk_27 (dk_at dksX1_tell_0 11 rfl rfl)
theorem dX1_tell_12 : decode cX1_tell 12 = .ok (.invokevirtual 118, 3) := dk_182 0 118 (dk_at dksX1_tell_0 12 rfl rfl)
theorem dX1_tell_15 : decode cX1_tell 15 = .ok (.istore_n 2, 1) := dk_61 (dk_at dksX1_tell_0 15 rfl rfl)
theorem dX1_tell_16 : decode cX1_tell 16 = .ok (.aload_n 0, 1) := dk_42 (dk_at dksX1_tell_0 16 rfl rfl)
theorem dX1_tell_17 : decode cX1_tell 17 = .ok (.getfield 19, 3) := dk_180 0 19 (dk_at dksX1_tell_0 17 rfl rfl)
theorem dX1_tell_20 : decode cX1_tell 20 = .ok (.iload_n 1, 1) := dk_27 (dk_at dksX1_tell_0 20 rfl rfl)
theorem dX1_tell_21 : decode cX1_tell 21 = .ok (.iaload, 1) := dk_46 (dk_at dksX1_tell_0 21 rfl rfl)
theorem dX1_tell_22 : decode cX1_tell 22 = .ok (.lookupswitch 68 #[(1, 26), (2, 41)], 26) := by decide +kernel
theorem dX1_tell_48 : decode cX1_tell 48 = .ok (.aload_n 0, 1) := dk_42 (dk_at dksX1_tell_2 0 rfl rfl)
theorem dX1_tell_49 : decode cX1_tell 49 = .ok (.iconst 2, 1) := dk_5 (dk_at dksX1_tell_2 1 rfl rfl)
theorem dX1_tell_50 : decode cX1_tell 50 = .ok (.invokevirtual 192, 3) := dk_182 0 192 (dk_at dksX1_tell_2 2 rfl rfl)
theorem dX1_tell_53 : decode cX1_tell 53 = .ok (.aload_n 0, 1) := dk_42 (dk_at dksX1_tell_2 5 rfl rfl)
theorem dX1_tell_54 : decode cX1_tell 54 = .ok (.iconst 1, 1) := dk_4 (dk_at dksX1_tell_2 6 rfl rfl)
theorem dX1_tell_55 : decode cX1_tell 55 = .ok (.invokevirtual 192, 3) := dk_182 0 192 (dk_at dksX1_tell_2 7 rfl rfl)
theorem dX1_tell_58 : decode cX1_tell 58 = .ok (.iload_n 2, 1) := dk_28 (dk_at dksX1_tell_2 10 rfl rfl)
theorem dX1_tell_59 : decode cX1_tell 59 = .ok (.bipush 100, 2) := dk_16 100 (dk_at dksX1_tell_2 11 rfl rfl)
theorem dX1_tell_61 : decode cX1_tell 61 = .ok (.iadd, 1) := dk_96 (dk_at dksX1_tell_2 13 rfl rfl)
theorem dX1_tell_62 : decode cX1_tell 62 = .ok (.ireturn, 1) := dk_172 (dk_at dksX1_tell_2 14 rfl rfl)
theorem dX1_tell_63 : decode cX1_tell 63 = .ok (.aload_n 0, 1) := dk_42 (dk_at dksX1_tell_2 15 rfl rfl)
theorem dX1_tell_64 : decode cX1_tell 64 = .ok (.iconst 3, 1) := dk_6 (dk_at dksX1_tell_2 16 rfl rfl)
theorem dX1_tell_65 : decode cX1_tell 65 = .ok (.invokevirtual 192, 3) := dk_182 0 192 (dk_at dksX1_tell_2 17 rfl rfl)
theorem dX1_tell_68 : decode cX1_tell 68 = .ok (.aload_n 0, 1) := dk_42 (dk_at dksX1_tell_2 20 rfl rfl)
theorem dX1_tell_69 : decode cX1_tell 69 = .ok (.iconst 2, 1) := dk_5 (dk_at dksX1_tell_2 21 rfl rfl)
theorem dX1_tell_70 : decode cX1_tell 70 = .ok (.invokevirtual 192, 3) := dk_182 0 192 (dk_at dksX1_tell_3 0 rfl rfl)
theorem dX1_tell_73 : decode cX1_tell 73 = .ok (.aload_n 0, 1) := dk_42 (dk_at dksX1_tell_3 3 rfl rfl)
theorem dX1_tell_74 : decode cX1_tell 74 = .ok (.iconst 1, 1) := dk_4 (dk_at dksX1_tell_3 4 rfl rfl)
theorem dX1_tell_75 : decode cX1_tell 75 = .ok (.invokevirtual 192, 3) := dk_182 0 192 (dk_at dksX1_tell_3 5 rfl rfl)
theorem dX1_tell_78 : decode cX1_tell 78 = .ok (.aload_n 0, 1) := dk_42 (dk_at dksX1_tell_3 8 rfl rfl)
theorem dX1_tell_79 : decode cX1_tell 79 = .ok (.iconst 1, 1) := dk_4 (dk_at dksX1_tell_3 9 rfl rfl)
theorem dX1_tell_80 : decode cX1_tell 80 = .ok (.invokevirtual 192, 3) := dk_182 0 192 (dk_at dksX1_tell_3 10 rfl rfl)
theorem dX1_tell_83 : decode cX1_tell 83 = .ok (.iconst 2, 1) := dk_5 (dk_at dksX1_tell_3 13 rfl rfl)
theorem dX1_tell_84 : decode cX1_tell 84 = .ok (.iload_n 2, 1) := dk_28 (dk_at dksX1_tell_3 14 rfl rfl)
theorem dX1_tell_85 : decode cX1_tell 85 = .ok (.imul, 1) := dk_104 (dk_at dksX1_tell_3 15 rfl rfl)
theorem dX1_tell_86 : decode cX1_tell 86 = .ok (.bipush 100, 2) := dk_16 100 (dk_at dksX1_tell_3 16 rfl rfl)
theorem dX1_tell_88 : decode cX1_tell 88 = .ok (.iadd, 1) := dk_96 (dk_at dksX1_tell_3 18 rfl rfl)
theorem dX1_tell_89 : decode cX1_tell 89 = .ok (.ireturn, 1) := dk_172 (dk_at dksX1_tell_3 19 rfl rfl)
theorem dX1_tell_90 : decode cX1_tell 90 = .ok (.aload_n 0, 1) := dk_42 (dk_at dksX1_tell_3 20 rfl rfl)
theorem dX1_tell_91 : decode cX1_tell 91 = .ok (.iconst 1, 1) := dk_4 (dk_at dksX1_tell_3 21 rfl rfl)
theorem dX1_tell_92 : decode cX1_tell 92 = .ok (.invokevirtual 192, 3) := dk_182 0 192 (dk_at dksX1_tell_4 0 rfl rfl)
theorem dX1_tell_95 : decode cX1_tell 95 = .ok (.iload_n 2, 1) := dk_28 (dk_at dksX1_tell_4 3 rfl rfl)
theorem dX1_tell_96 : decode cX1_tell 96 = .ok (.ireturn, 1) := dk_172 (dk_at dksX1_tell_4 4 rfl rfl)
abbrev cX1_begins : ByteArray := prog_15_method_54_code
def yX1_begins : MethodName := ⟨RX1, "begins", "(I)V"⟩
def dkwX1_begins_0 : List UInt8 := [42, 16, 31, 42, 180, 0, 189, 104, 27, 96, 181, 0, 189, 177]
abbrev dktX1_begins_0 : List UInt8 := dkwX1_begins_0 ++ []
theorem dksX1_begins_0 : cX1_begins.data.toList.drop 0 = dktX1_begins_0 := by decide +kernel
theorem dX1_begins_0 : decode cX1_begins 0 = .ok (.aload_n 0, 1) := dk_42 (dk_at dksX1_begins_0 0 rfl rfl)
theorem dX1_begins_1 : decode cX1_begins 1 = .ok (.bipush 31, 2) := dk_16 31 (dk_at dksX1_begins_0 1 rfl rfl)
theorem dX1_begins_3 : decode cX1_begins 3 = .ok (.aload_n 0, 1) := dk_42 (dk_at dksX1_begins_0 3 rfl rfl)
theorem dX1_begins_4 : decode cX1_begins 4 = .ok (.getfield 189, 3) := dk_180 0 189 (dk_at dksX1_begins_0 4 rfl rfl)
theorem dX1_begins_7 : decode cX1_begins 7 = .ok (.imul, 1) := dk_104 (dk_at dksX1_begins_0 7 rfl rfl)
theorem dX1_begins_8 : decode cX1_begins 8 = .ok (.iload_n 1, 1) := dk_27 (dk_at dksX1_begins_0 8 rfl rfl)
theorem dX1_begins_9 : decode cX1_begins 9 = .ok (.iadd, 1) := dk_96 (dk_at dksX1_begins_0 9 rfl rfl)
theorem dX1_begins_10 : decode cX1_begins 10 = .ok (.putfield 189, 3) := dk_181 0 189 (dk_at dksX1_begins_0 10 rfl rfl)
theorem dX1_begins_13 : decode cX1_begins 13 = .ok (.return_, 1) := dk_177 (dk_at dksX1_begins_0 13 rfl rfl)
abbrev cX1_hail : ByteArray := prog_15_method_56_code
def yX1_hail : MethodName := ⟨RX1, "hail", "(I)I"⟩
def dkwX1_hail_1 : List UInt8 := [167, 0, 4, 7, 182, 0, 192, 42, 180, 0, 19, 27, 46, 5, 160, 0, 8, 16, 40, 167, 0, 4, 27, 172]
abbrev dktX1_hail_1 : List UInt8 := dkwX1_hail_1 ++ []
def dkwX1_hail_0 : List UInt8 := [42, 27, 182, 0, 115, 154, 0, 5, 2, 172, 42, 42, 180, 0, 19, 27, 46, 5, 160, 0, 7, 8]
abbrev dktX1_hail_0 : List UInt8 := dkwX1_hail_0 ++ dktX1_hail_1
theorem dksX1_hail_0 : cX1_hail.data.toList.drop 0 = dktX1_hail_0 := by decide +kernel
theorem dksX1_hail_1 : cX1_hail.data.toList.drop 22 = dktX1_hail_1 := dk_seg dksX1_hail_0 22 rfl rfl
theorem dX1_hail_0 : decode cX1_hail 0 = .ok (.aload_n 0, 1) := dk_42 (dk_at dksX1_hail_0 0 rfl rfl)
theorem dX1_hail_1 : decode cX1_hail 1 = .ok (.iload_n 1, 1) := dk_27 (dk_at dksX1_hail_0 1 rfl rfl)
theorem dX1_hail_2 : decode cX1_hail 2 = .ok (.invokevirtual 115, 3) := dk_182 0 115 (dk_at dksX1_hail_0 2 rfl rfl)
theorem dX1_hail_5 : decode cX1_hail 5 = .ok (.ifCond .ne 5, 3) := dk_154 0 5 (dk_at dksX1_hail_0 5 rfl rfl)
theorem dX1_hail_8 : decode cX1_hail 8 = .ok (.iconst (-1), 1) := dk_2 (dk_at dksX1_hail_0 8 rfl rfl)
theorem dX1_hail_9 : decode cX1_hail 9 = .ok (.ireturn, 1) := dk_172 (dk_at dksX1_hail_0 9 rfl rfl)
theorem dX1_hail_10 : decode cX1_hail 10 = .ok (.aload_n 0, 1) := dk_42 (dk_at dksX1_hail_0 10 rfl rfl)
theorem dX1_hail_11 : decode cX1_hail 11 = .ok (.aload_n 0, 1) := dk_42 (dk_at dksX1_hail_0 11 rfl rfl)
theorem dX1_hail_12 : decode cX1_hail 12 = .ok (.getfield 19, 3) := dk_180 0 19 (dk_at dksX1_hail_0 12 rfl rfl)
theorem dX1_hail_15 : decode cX1_hail 15 = .ok (.iload_n 1, 1) := dk_27 (dk_at dksX1_hail_0 15 rfl rfl)
theorem dX1_hail_16 : decode cX1_hail 16 = .ok (.iaload, 1) := dk_46 (dk_at dksX1_hail_0 16 rfl rfl)
theorem dX1_hail_17 : decode cX1_hail 17 = .ok (.iconst 2, 1) := dk_5 (dk_at dksX1_hail_0 17 rfl rfl)
theorem dX1_hail_18 : decode cX1_hail 18 = .ok (.if_icmp .ne 7, 3) := dk_160 0 7 (dk_at dksX1_hail_0 18 rfl rfl)
theorem dX1_hail_21 : decode cX1_hail 21 = .ok (.iconst 5, 1) := dk_8 (dk_at dksX1_hail_0 21 rfl rfl)
theorem dX1_hail_22 : decode cX1_hail 22 = .ok (.goto 4, 3) := dk_167 0 4 (dk_at dksX1_hail_1 0 rfl rfl)
theorem dX1_hail_25 : decode cX1_hail 25 = .ok (.iconst 4, 1) := dk_7 (dk_at dksX1_hail_1 3 rfl rfl)
theorem dX1_hail_26 : decode cX1_hail 26 = .ok (.invokevirtual 192, 3) := dk_182 0 192 (dk_at dksX1_hail_1 4 rfl rfl)
theorem dX1_hail_29 : decode cX1_hail 29 = .ok (.aload_n 0, 1) := dk_42 (dk_at dksX1_hail_1 7 rfl rfl)
theorem dX1_hail_30 : decode cX1_hail 30 = .ok (.getfield 19, 3) := dk_180 0 19 (dk_at dksX1_hail_1 8 rfl rfl)
theorem dX1_hail_33 : decode cX1_hail 33 = .ok (.iload_n 1, 1) := dk_27 (dk_at dksX1_hail_1 11 rfl rfl)
theorem dX1_hail_34 : decode cX1_hail 34 = .ok (.iaload, 1) := dk_46 (dk_at dksX1_hail_1 12 rfl rfl)
theorem dX1_hail_35 : decode cX1_hail 35 = .ok (.iconst 2, 1) := dk_5 (dk_at dksX1_hail_1 13 rfl rfl)
theorem dX1_hail_36 : decode cX1_hail 36 = .ok (.if_icmp .ne 8, 3) := dk_160 0 8 (dk_at dksX1_hail_1 14 rfl rfl)
theorem dX1_hail_39 : decode cX1_hail 39 = .ok (.bipush 40, 2) := dk_16 40 (dk_at dksX1_hail_1 17 rfl rfl)
theorem dX1_hail_41 : decode cX1_hail 41 = .ok (.goto 4, 3) := dk_167 0 4 (dk_at dksX1_hail_1 19 rfl rfl)
theorem dX1_hail_44 : decode cX1_hail 44 = .ok (.iload_n 1, 1) := dk_27 (dk_at dksX1_hail_1 22 rfl rfl)
theorem dX1_hail_45 : decode cX1_hail 45 = .ok (.ireturn, 1) := dk_172 (dk_at dksX1_hail_1 23 rfl rfl)
abbrev cX1_as : ByteArray := prog_15_method_57_code
def yX1_as : MethodName := ⟨RX1, "as", "(II)I"⟩
def dkwX1_as_1 : List UInt8 := [16, 254, 172, 42, 180, 0, 19, 27, 46, 28, 161, 0, 7, 4, 167, 0, 8, 42, 5, 182, 0, 76, 172]
abbrev dktX1_as_1 : List UInt8 := dkwX1_as_1 ++ []
def dkwX1_as_0 : List UInt8 := [42, 3, 181, 0, 49, 42, 27, 182, 0, 115, 154, 0, 5, 2, 172, 28, 3, 5, 184, 0, 55, 154, 0, 6]
abbrev dktX1_as_0 : List UInt8 := dkwX1_as_0 ++ dktX1_as_1
theorem dksX1_as_0 : cX1_as.data.toList.drop 0 = dktX1_as_0 := by decide +kernel
theorem dksX1_as_1 : cX1_as.data.toList.drop 24 = dktX1_as_1 := dk_seg dksX1_as_0 24 rfl rfl
theorem dX1_as_0 : decode cX1_as 0 = .ok (.aload_n 0, 1) := dk_42 (dk_at dksX1_as_0 0 rfl rfl)
theorem dX1_as_1 : decode cX1_as 1 = .ok (.iconst 0, 1) := dk_3 (dk_at dksX1_as_0 1 rfl rfl)
theorem dX1_as_2 : decode cX1_as 2 = .ok (.putfield 49, 3) := dk_181 0 49 (dk_at dksX1_as_0 2 rfl rfl)
theorem dX1_as_5 : decode cX1_as 5 = .ok (.aload_n 0, 1) := dk_42 (dk_at dksX1_as_0 5 rfl rfl)
theorem dX1_as_6 : decode cX1_as 6 = .ok (.iload_n 1, 1) := dk_27 (dk_at dksX1_as_0 6 rfl rfl)
theorem dX1_as_7 : decode cX1_as 7 = .ok (.invokevirtual 115, 3) := dk_182 0 115 (dk_at dksX1_as_0 7 rfl rfl)
theorem dX1_as_10 : decode cX1_as 10 = .ok (.ifCond .ne 5, 3) := dk_154 0 5 (dk_at dksX1_as_0 10 rfl rfl)
theorem dX1_as_13 : decode cX1_as 13 = .ok (.iconst (-1), 1) := dk_2 (dk_at dksX1_as_0 13 rfl rfl)
theorem dX1_as_14 : decode cX1_as 14 = .ok (.ireturn, 1) := dk_172 (dk_at dksX1_as_0 14 rfl rfl)
theorem dX1_as_15 : decode cX1_as 15 = .ok (.iload_n 2, 1) := dk_28 (dk_at dksX1_as_0 15 rfl rfl)
theorem dX1_as_16 : decode cX1_as 16 = .ok (.iconst 0, 1) := dk_3 (dk_at dksX1_as_0 16 rfl rfl)
theorem dX1_as_17 : decode cX1_as 17 = .ok (.iconst 2, 1) := dk_5 (dk_at dksX1_as_0 17 rfl rfl)
theorem dX1_as_18 : decode cX1_as 18 = .ok (.invokestatic 55, 3) := dk_184 0 55 (dk_at dksX1_as_0 18 rfl rfl)
theorem dX1_as_21 : decode cX1_as 21 = .ok (.ifCond .ne 6, 3) := dk_154 0 6 (dk_at dksX1_as_0 21 rfl rfl)
theorem dX1_as_24 : decode cX1_as 24 = .ok (.bipush (-2), 2) := dk_16 254 (dk_at dksX1_as_1 0 rfl rfl)
theorem dX1_as_26 : decode cX1_as 26 = .ok (.ireturn, 1) := dk_172 (dk_at dksX1_as_1 2 rfl rfl)
theorem dX1_as_27 : decode cX1_as 27 = .ok (.aload_n 0, 1) := dk_42 (dk_at dksX1_as_1 3 rfl rfl)
theorem dX1_as_28 : decode cX1_as 28 = .ok (.getfield 19, 3) := dk_180 0 19 (dk_at dksX1_as_1 4 rfl rfl)
theorem dX1_as_31 : decode cX1_as 31 = .ok (.iload_n 1, 1) := dk_27 (dk_at dksX1_as_1 7 rfl rfl)
theorem dX1_as_32 : decode cX1_as 32 = .ok (.iaload, 1) := dk_46 (dk_at dksX1_as_1 8 rfl rfl)
theorem dX1_as_33 : decode cX1_as 33 = .ok (.iload_n 2, 1) := dk_28 (dk_at dksX1_as_1 9 rfl rfl)
theorem dX1_as_34 : decode cX1_as 34 = .ok (.if_icmp .lt 7, 3) := dk_161 0 7 (dk_at dksX1_as_1 10 rfl rfl)
theorem dX1_as_37 : decode cX1_as 37 = .ok (.iconst 1, 1) := dk_4 (dk_at dksX1_as_1 13 rfl rfl)
theorem dX1_as_38 : decode cX1_as 38 = .ok (.goto 8, 3) := dk_167 0 8 (dk_at dksX1_as_1 14 rfl rfl)
theorem dX1_as_41 : decode cX1_as 41 = .ok (.aload_n 0, 1) := dk_42 (dk_at dksX1_as_1 17 rfl rfl)
theorem dX1_as_42 : decode cX1_as 42 = .ok (.iconst 2, 1) := dk_5 (dk_at dksX1_as_1 18 rfl rfl)
theorem dX1_as_43 : decode cX1_as 43 = .ok (.invokevirtual 76, 3) := dk_182 0 76 (dk_at dksX1_as_1 19 rfl rfl)
theorem dX1_as_46 : decode cX1_as 46 = .ok (.ireturn, 1) := dk_172 (dk_at dksX1_as_1 22 rfl rfl)
abbrev cX1_trace : ByteArray := prog_15_method_58_code
def yX1_trace : MethodName := ⟨RX1, "trace", "()I"⟩
theorem dX1_trace_0 : decode cX1_trace 0 = .ok (.aload_n 0, 1) := by decide +kernel
theorem dX1_trace_1 : decode cX1_trace 1 = .ok (.getfield 189, 3) := by decide +kernel
theorem dX1_trace_4 : decode cX1_trace 4 = .ok (.ireturn, 1) := by decide +kernel
abbrev cX1_fault : ByteArray := prog_15_method_59_code
def yX1_fault : MethodName := ⟨RX1, "fault", "()I"⟩
theorem dX1_fault_0 : decode cX1_fault 0 = .ok (.aload_n 0, 1) := by decide +kernel
theorem dX1_fault_1 : decode cX1_fault 1 = .ok (.getfield 49, 3) := by decide +kernel
theorem dX1_fault_4 : decode cX1_fault 4 = .ok (.ireturn, 1) := by decide +kernel
abbrev cX1_many : ByteArray := prog_15_method_60_code
def yX1_many : MethodName := ⟨RX1, "many", "(I)I"⟩
def dkwX1_many_2 : List UInt8 := [16, 254, 172]
abbrev dktX1_many_2 : List UInt8 := dkwX1_many_2 ++ []
def dkwX1_many_1 : List UInt8 := [5, 160, 0, 10, 42, 180, 0, 98, 167, 0, 17, 27, 6, 160, 0, 10, 42, 180, 0, 101, 167, 0, 5]
abbrev dktX1_many_1 : List UInt8 := dkwX1_many_1 ++ dktX1_many_2
def dkwX1_many_0 : List UInt8 := [27, 154, 0, 10, 42, 180, 0, 59, 167, 0, 41, 27, 4, 160, 0, 10, 42, 180, 0, 92, 167, 0, 29, 27]
abbrev dktX1_many_0 : List UInt8 := dkwX1_many_0 ++ dktX1_many_1
theorem dksX1_many_0 : cX1_many.data.toList.drop 0 = dktX1_many_0 := by decide +kernel
theorem dksX1_many_1 : cX1_many.data.toList.drop 24 = dktX1_many_1 := dk_seg dksX1_many_0 24 rfl rfl
theorem dksX1_many_2 : cX1_many.data.toList.drop 47 = dktX1_many_2 := dk_seg dksX1_many_1 23 rfl rfl
theorem dX1_many_0 : decode cX1_many 0 = .ok (.iload_n 1, 1) := dk_27 (dk_at dksX1_many_0 0 rfl rfl)
theorem dX1_many_1 : decode cX1_many 1 = .ok (.ifCond .ne 10, 3) := dk_154 0 10 (dk_at dksX1_many_0 1 rfl rfl)
theorem dX1_many_4 : decode cX1_many 4 = .ok (.aload_n 0, 1) := dk_42 (dk_at dksX1_many_0 4 rfl rfl)
theorem dX1_many_5 : decode cX1_many 5 = .ok (.getfield 59, 3) := dk_180 0 59 (dk_at dksX1_many_0 5 rfl rfl)
theorem dX1_many_8 : decode cX1_many 8 = .ok (.goto 41, 3) := dk_167 0 41 (dk_at dksX1_many_0 8 rfl rfl)
theorem dX1_many_11 : decode cX1_many 11 = .ok (.iload_n 1, 1) := dk_27 (dk_at dksX1_many_0 11 rfl rfl)
theorem dX1_many_12 : decode cX1_many 12 = .ok (.iconst 1, 1) := dk_4 (dk_at dksX1_many_0 12 rfl rfl)
theorem dX1_many_13 : decode cX1_many 13 = .ok (.if_icmp .ne 10, 3) := dk_160 0 10 (dk_at dksX1_many_0 13 rfl rfl)
theorem dX1_many_16 : decode cX1_many 16 = .ok (.aload_n 0, 1) := dk_42 (dk_at dksX1_many_0 16 rfl rfl)
theorem dX1_many_17 : decode cX1_many 17 = .ok (.getfield 92, 3) := dk_180 0 92 (dk_at dksX1_many_0 17 rfl rfl)
theorem dX1_many_20 : decode cX1_many 20 = .ok (.goto 29, 3) := dk_167 0 29 (dk_at dksX1_many_0 20 rfl rfl)
theorem dX1_many_23 : decode cX1_many 23 = .ok (.iload_n 1, 1) := dk_27 (dk_at dksX1_many_0 23 rfl rfl)
theorem dX1_many_24 : decode cX1_many 24 = .ok (.iconst 2, 1) := dk_5 (dk_at dksX1_many_1 0 rfl rfl)
theorem dX1_many_25 : decode cX1_many 25 = .ok (.if_icmp .ne 10, 3) := dk_160 0 10 (dk_at dksX1_many_1 1 rfl rfl)
theorem dX1_many_28 : decode cX1_many 28 = .ok (.aload_n 0, 1) := dk_42 (dk_at dksX1_many_1 4 rfl rfl)
theorem dX1_many_29 : decode cX1_many 29 = .ok (.getfield 98, 3) := dk_180 0 98 (dk_at dksX1_many_1 5 rfl rfl)
theorem dX1_many_32 : decode cX1_many 32 = .ok (.goto 17, 3) := dk_167 0 17 (dk_at dksX1_many_1 8 rfl rfl)
theorem dX1_many_35 : decode cX1_many 35 = .ok (.iload_n 1, 1) := dk_27 (dk_at dksX1_many_1 11 rfl rfl)
theorem dX1_many_36 : decode cX1_many 36 = .ok (.iconst 3, 1) := dk_6 (dk_at dksX1_many_1 12 rfl rfl)
theorem dX1_many_37 : decode cX1_many 37 = .ok (.if_icmp .ne 10, 3) := dk_160 0 10 (dk_at dksX1_many_1 13 rfl rfl)
theorem dX1_many_40 : decode cX1_many 40 = .ok (.aload_n 0, 1) := dk_42 (dk_at dksX1_many_1 16 rfl rfl)
theorem dX1_many_41 : decode cX1_many 41 = .ok (.getfield 101, 3) := dk_180 0 101 (dk_at dksX1_many_1 17 rfl rfl)
theorem dX1_many_44 : decode cX1_many 44 = .ok (.goto 5, 3) := dk_167 0 5 (dk_at dksX1_many_1 20 rfl rfl)
theorem dX1_many_47 : decode cX1_many 47 = .ok (.bipush (-2), 2) := dk_16 254 (dk_at dksX1_many_2 0 rfl rfl)
theorem dX1_many_49 : decode cX1_many 49 = .ok (.ireturn, 1) := dk_172 (dk_at dksX1_many_2 2 rfl rfl)
theorem q58 : (Jvm.Cond.initialized "DebtFerryModel") ∈ lw_all := lw_g (lw_at lw_m1 5 rfl) rfl
theorem q428 : (Jvm.Cond.selects "DebtFerryModel" ({ cls := "java/lang/Object", name := "getClass", desc := "()Ljava/lang/Class;" } : Jvm.MethodName) ({ cls := "java/lang/Object", name := "getClass", desc := "()Ljava/lang/Class;" } : Jvm.MethodName)) ∈ lw_all := lw_g (lw_at lw_m2 135 rfl) rfl
theorem q1105 : (Jvm.Cond.instantiable "DebtFerryModel" (29 : Nat)) ∈ lw_all := lw_g (lw_at lw_m5 92 rfl) rfl
theorem q1107 : (Jvm.Cond.instanceMethod ({ cls := "DebtFerryModel", name := "<init>", desc := "()V" } : Jvm.MethodName)) ∈ lw_all := lw_g (lw_at lw_m5 94 rfl) rfl
theorem q1108 : (Jvm.Cond.code ({ cls := "DebtFerryModel", name := "<init>", desc := "()V" } : Jvm.MethodName) prog_15_method_1_code (1 : Nat) (Option.none : Option Jvm.ClassFile.FieldType)) ∈ lw_all := lw_g (lw_at lw_m5 95 rfl) rfl
theorem q1109 : (Jvm.Cond.methodLink "DebtFerryModel" (1 : Nat) ({ cls := "java/lang/Object", name := "<init>", desc := "()V" } : Jvm.MethodName)) ∈ lw_all := lw_g (lw_at lw_m5 96 rfl) rfl
theorem q1110 : (Jvm.Cond.fieldLink "DebtFerryModel" (49 : Nat) "DebtFerryModel" "fault" "I") ∈ lw_all := lw_g (lw_at lw_m5 97 rfl) rfl
theorem q1111 : (Jvm.Cond.fieldLink "DebtFerryModel" (189 : Nat) "DebtFerryModel" "trace" "I") ∈ lw_all := lw_g (lw_at lw_m5 98 rfl) rfl
theorem q1112 : (Jvm.Cond.fieldLink "DebtFerryModel" (9 : Nat) "DebtFerryModel" "sorts" "[I") ∈ lw_all := lw_g (lw_at lw_m5 99 rfl) rfl
theorem q1113 : (Jvm.Cond.fieldLink "DebtFerryModel" (13 : Nat) "DebtFerryModel" "sheetLong" "[I") ∈ lw_all := lw_g (lw_at lw_m5 100 rfl) rfl
theorem q1114 : (Jvm.Cond.fieldLink "DebtFerryModel" (16 : Nat) "DebtFerryModel" "cells" "[I") ∈ lw_all := lw_g (lw_at lw_m5 101 rfl) rfl
theorem q1115 : (Jvm.Cond.fieldLink "DebtFerryModel" (59 : Nat) "DebtFerryModel" "people" "I") ∈ lw_all := lw_g (lw_at lw_m5 102 rfl) rfl
theorem q1116 : (Jvm.Cond.fieldLink "DebtFerryModel" (92 : Nat) "DebtFerryModel" "room" "I") ∈ lw_all := lw_g (lw_at lw_m5 103 rfl) rfl
theorem q1117 : (Jvm.Cond.fieldLink "DebtFerryModel" (98 : Nat) "DebtFerryModel" "times" "I") ∈ lw_all := lw_g (lw_at lw_m5 104 rfl) rfl
theorem q1118 : (Jvm.Cond.fieldLink "DebtFerryModel" (19 : Nat) "DebtFerryModel" "kind" "[I") ∈ lw_all := lw_g (lw_at lw_m5 105 rfl) rfl
theorem q1119 : (Jvm.Cond.fieldLink "DebtFerryModel" (22 : Nat) "DebtFerryModel" "lame" "[I") ∈ lw_all := lw_g (lw_at lw_m5 106 rfl) rfl
theorem q1120 : (Jvm.Cond.fieldLink "DebtFerryModel" (25 : Nat) "DebtFerryModel" "note" "[I") ∈ lw_all := lw_g (lw_at lw_m5 107 rfl) rfl
theorem q1121 : (Jvm.Cond.fieldLink "DebtFerryModel" (62 : Nat) "DebtFerryModel" "at" "I") ∈ lw_all := lw_g (lw_at lw_m5 108 rfl) rfl
theorem q1122 : (Jvm.Cond.fieldLink "DebtFerryModel" (89 : Nat) "DebtFerryModel" "readRoom" "I") ∈ lw_all := lw_g (lw_at lw_m5 109 rfl) rfl
theorem q1123 : (Jvm.Cond.fieldLink "DebtFerryModel" (95 : Nat) "DebtFerryModel" "readTimes" "I") ∈ lw_all := lw_g (lw_at lw_m5 110 rfl) rfl
theorem q1124 : (Jvm.Cond.fieldLink "DebtFerryModel" (86 : Nat) "DebtFerryModel" "readPeople" "I") ∈ lw_all := lw_g (lw_at lw_m5 111 rfl) rfl
theorem q1125 : (Jvm.Cond.fieldLink "DebtFerryModel" (28 : Nat) "DebtFerryModel" "readKind" "[I") ∈ lw_all := lw_g (lw_at lw_m5 112 rfl) rfl
theorem q1126 : (Jvm.Cond.fieldLink "DebtFerryModel" (31 : Nat) "DebtFerryModel" "readLame" "[I") ∈ lw_all := lw_g (lw_at lw_m5 113 rfl) rfl
theorem q1127 : (Jvm.Cond.fieldLink "DebtFerryModel" (34 : Nat) "DebtFerryModel" "readNote" "[I") ∈ lw_all := lw_g (lw_at lw_m5 114 rfl) rfl
theorem q1128 : (Jvm.Cond.fieldLink "DebtFerryModel" (124 : Nat) "DebtFerryModel" "wet" "I") ∈ lw_all := lw_g (lw_at lw_m5 115 rfl) rfl
theorem q1129 : (Jvm.Cond.fieldLink "DebtFerryModel" (130 : Nat) "DebtFerryModel" "forgiving" "I") ∈ lw_all := lw_g (lw_at lw_m5 116 rfl) rfl
theorem q1130 : (Jvm.Cond.fieldLink "DebtFerryModel" (149 : Nat) "DebtFerryModel" "fairs" "I") ∈ lw_all := lw_g (lw_at lw_m5 117 rfl) rfl
theorem q1131 : (Jvm.Cond.fieldLink "DebtFerryModel" (152 : Nat) "DebtFerryModel" "quarrels" "I") ∈ lw_all := lw_g (lw_at lw_m5 118 rfl) rfl
theorem q1132 : (Jvm.Cond.fieldLink "DebtFerryModel" (155 : Nat) "DebtFerryModel" "drifts" "I") ∈ lw_all := lw_g (lw_at lw_m5 119 rfl) rfl
theorem q1133 : (Jvm.Cond.fieldLink "DebtFerryModel" (158 : Nat) "DebtFerryModel" "crossed" "I") ∈ lw_all := lw_g (lw_at lw_m5 120 rfl) rfl
theorem q1134 : (Jvm.Cond.fieldLink "DebtFerryModel" (37 : Nat) "DebtFerryModel" "pulls" "[I") ∈ lw_all := lw_g (lw_at lw_m5 121 rfl) rfl
theorem q1135 : (Jvm.Cond.fieldLink "DebtFerryModel" (40 : Nat) "DebtFerryModel" "fewest" "[I") ∈ lw_all := lw_g (lw_at lw_m5 122 rfl) rfl
theorem q1136 : (Jvm.Cond.fieldLink "DebtFerryModel" (101 : Nat) "DebtFerryModel" "readings" "I") ∈ lw_all := lw_g (lw_at lw_m5 123 rfl) rfl
theorem q1137 : (Jvm.Cond.fieldLink "DebtFerryModel" (43 : Nat) "DebtFerryModel" "readLoad" "[I") ∈ lw_all := lw_g (lw_at lw_m5 124 rfl) rfl
theorem q1138 : (Jvm.Cond.fieldLink "DebtFerryModel" (46 : Nat) "DebtFerryModel" "readPulled" "[I") ∈ lw_all := lw_g (lw_at lw_m5 125 rfl) rfl
theorem q1139 : (Jvm.Cond.lays "DebtFerryModel" "DebtFerryModel" "fault" "I") ∈ lw_all := lw_g (lw_at lw_m5 126 rfl) rfl
theorem q1140 : (Jvm.Cond.soleField "DebtFerryModel" "fault") ∈ lw_all := lw_g (lw_at lw_m5 127 rfl) rfl
theorem q1141 : (Jvm.Cond.lays "DebtFerryModel" "DebtFerryModel" "trace" "I") ∈ lw_all := lw_g (lw_at lw_m5 128 rfl) rfl
theorem q1142 : (Jvm.Cond.soleField "DebtFerryModel" "trace") ∈ lw_all := lw_g (lw_at lw_m5 129 rfl) rfl
theorem q1143 : (Jvm.Cond.laysFinal "DebtFerryModel" "DebtFerryModel" "sorts" "[I") ∈ lw_all := lw_g (lw_at lw_m5 130 rfl) rfl
theorem q1144 : (Jvm.Cond.soleField "DebtFerryModel" "sorts") ∈ lw_all := lw_g (lw_at lw_m5 131 rfl) rfl
theorem q1145 : (Jvm.Cond.laysFinal "DebtFerryModel" "DebtFerryModel" "sheetLong" "[I") ∈ lw_all := lw_g (lw_at lw_m5 132 rfl) rfl
theorem q1146 : (Jvm.Cond.soleField "DebtFerryModel" "sheetLong") ∈ lw_all := lw_g (lw_at lw_m5 133 rfl) rfl
theorem q1147 : (Jvm.Cond.laysFinal "DebtFerryModel" "DebtFerryModel" "cells" "[I") ∈ lw_all := lw_g (lw_at lw_m5 134 rfl) rfl
theorem q1148 : (Jvm.Cond.soleField "DebtFerryModel" "cells") ∈ lw_all := lw_g (lw_at lw_m5 135 rfl) rfl
theorem q1149 : (Jvm.Cond.lays "DebtFerryModel" "DebtFerryModel" "people" "I") ∈ lw_all := lw_g (lw_at lw_m5 136 rfl) rfl
theorem q1150 : (Jvm.Cond.soleField "DebtFerryModel" "people") ∈ lw_all := lw_g (lw_at lw_m5 137 rfl) rfl
theorem q1151 : (Jvm.Cond.lays "DebtFerryModel" "DebtFerryModel" "room" "I") ∈ lw_all := lw_g (lw_at lw_m5 138 rfl) rfl
theorem q1152 : (Jvm.Cond.soleField "DebtFerryModel" "room") ∈ lw_all := lw_g (lw_at lw_m5 139 rfl) rfl
theorem q1153 : (Jvm.Cond.lays "DebtFerryModel" "DebtFerryModel" "times" "I") ∈ lw_all := lw_g (lw_at lw_m5 140 rfl) rfl
theorem q1154 : (Jvm.Cond.soleField "DebtFerryModel" "times") ∈ lw_all := lw_g (lw_at lw_m5 141 rfl) rfl
theorem q1155 : (Jvm.Cond.laysFinal "DebtFerryModel" "DebtFerryModel" "kind" "[I") ∈ lw_all := lw_g (lw_at lw_m5 142 rfl) rfl
theorem q1156 : (Jvm.Cond.soleField "DebtFerryModel" "kind") ∈ lw_all := lw_g (lw_at lw_m5 143 rfl) rfl
theorem q1157 : (Jvm.Cond.laysFinal "DebtFerryModel" "DebtFerryModel" "lame" "[I") ∈ lw_all := lw_g (lw_at lw_m5 144 rfl) rfl
theorem q1158 : (Jvm.Cond.soleField "DebtFerryModel" "lame") ∈ lw_all := lw_g (lw_at lw_m5 145 rfl) rfl
theorem q1159 : (Jvm.Cond.laysFinal "DebtFerryModel" "DebtFerryModel" "note" "[I") ∈ lw_all := lw_g (lw_at lw_m5 146 rfl) rfl
theorem q1160 : (Jvm.Cond.soleField "DebtFerryModel" "note") ∈ lw_all := lw_g (lw_at lw_m5 147 rfl) rfl
theorem q1161 : (Jvm.Cond.lays "DebtFerryModel" "DebtFerryModel" "at" "I") ∈ lw_all := lw_g (lw_at lw_m5 148 rfl) rfl
theorem q1162 : (Jvm.Cond.soleField "DebtFerryModel" "at") ∈ lw_all := lw_g (lw_at lw_m5 149 rfl) rfl
theorem q1163 : (Jvm.Cond.lays "DebtFerryModel" "DebtFerryModel" "readRoom" "I") ∈ lw_all := lw_g (lw_at lw_m5 150 rfl) rfl
theorem q1164 : (Jvm.Cond.soleField "DebtFerryModel" "readRoom") ∈ lw_all := lw_g (lw_at lw_m5 151 rfl) rfl
theorem q1165 : (Jvm.Cond.lays "DebtFerryModel" "DebtFerryModel" "readTimes" "I") ∈ lw_all := lw_g (lw_at lw_m5 152 rfl) rfl
theorem q1166 : (Jvm.Cond.soleField "DebtFerryModel" "readTimes") ∈ lw_all := lw_g (lw_at lw_m5 153 rfl) rfl
theorem q1167 : (Jvm.Cond.lays "DebtFerryModel" "DebtFerryModel" "readPeople" "I") ∈ lw_all := lw_g (lw_at lw_m5 154 rfl) rfl
theorem q1168 : (Jvm.Cond.soleField "DebtFerryModel" "readPeople") ∈ lw_all := lw_g (lw_at lw_m5 155 rfl) rfl
theorem q1169 : (Jvm.Cond.laysFinal "DebtFerryModel" "DebtFerryModel" "readKind" "[I") ∈ lw_all := lw_g (lw_at lw_m5 156 rfl) rfl
theorem q1170 : (Jvm.Cond.soleField "DebtFerryModel" "readKind") ∈ lw_all := lw_g (lw_at lw_m5 157 rfl) rfl
theorem q1171 : (Jvm.Cond.laysFinal "DebtFerryModel" "DebtFerryModel" "readLame" "[I") ∈ lw_all := lw_g (lw_at lw_m5 158 rfl) rfl
theorem q1172 : (Jvm.Cond.soleField "DebtFerryModel" "readLame") ∈ lw_all := lw_g (lw_at lw_m5 159 rfl) rfl
theorem q1173 : (Jvm.Cond.laysFinal "DebtFerryModel" "DebtFerryModel" "readNote" "[I") ∈ lw_all := lw_g (lw_at lw_m5 160 rfl) rfl
theorem q1174 : (Jvm.Cond.soleField "DebtFerryModel" "readNote") ∈ lw_all := lw_g (lw_at lw_m5 161 rfl) rfl
theorem q1175 : (Jvm.Cond.lays "DebtFerryModel" "DebtFerryModel" "wet" "I") ∈ lw_all := lw_g (lw_at lw_m5 162 rfl) rfl
theorem q1176 : (Jvm.Cond.soleField "DebtFerryModel" "wet") ∈ lw_all := lw_g (lw_at lw_m5 163 rfl) rfl
theorem q1177 : (Jvm.Cond.lays "DebtFerryModel" "DebtFerryModel" "forgiving" "I") ∈ lw_all := lw_g (lw_at lw_m5 164 rfl) rfl
theorem q1178 : (Jvm.Cond.soleField "DebtFerryModel" "forgiving") ∈ lw_all := lw_g (lw_at lw_m5 165 rfl) rfl
theorem q1179 : (Jvm.Cond.lays "DebtFerryModel" "DebtFerryModel" "fairs" "I") ∈ lw_all := lw_g (lw_at lw_m5 166 rfl) rfl
theorem q1180 : (Jvm.Cond.soleField "DebtFerryModel" "fairs") ∈ lw_all := lw_g (lw_at lw_m5 167 rfl) rfl
theorem q1181 : (Jvm.Cond.lays "DebtFerryModel" "DebtFerryModel" "quarrels" "I") ∈ lw_all := lw_g (lw_at lw_m5 168 rfl) rfl
theorem q1182 : (Jvm.Cond.soleField "DebtFerryModel" "quarrels") ∈ lw_all := lw_g (lw_at lw_m5 169 rfl) rfl
theorem q1183 : (Jvm.Cond.lays "DebtFerryModel" "DebtFerryModel" "drifts" "I") ∈ lw_all := lw_g (lw_at lw_m5 170 rfl) rfl
theorem q1184 : (Jvm.Cond.soleField "DebtFerryModel" "drifts") ∈ lw_all := lw_g (lw_at lw_m5 171 rfl) rfl
theorem q1185 : (Jvm.Cond.lays "DebtFerryModel" "DebtFerryModel" "crossed" "I") ∈ lw_all := lw_g (lw_at lw_m5 172 rfl) rfl
theorem q1186 : (Jvm.Cond.soleField "DebtFerryModel" "crossed") ∈ lw_all := lw_g (lw_at lw_m5 173 rfl) rfl
theorem q1187 : (Jvm.Cond.laysFinal "DebtFerryModel" "DebtFerryModel" "pulls" "[I") ∈ lw_all := lw_g (lw_at lw_m5 174 rfl) rfl
theorem q1188 : (Jvm.Cond.soleField "DebtFerryModel" "pulls") ∈ lw_all := lw_g (lw_at lw_m5 175 rfl) rfl
theorem q1189 : (Jvm.Cond.laysFinal "DebtFerryModel" "DebtFerryModel" "fewest" "[I") ∈ lw_all := lw_g (lw_at lw_m5 176 rfl) rfl
theorem q1190 : (Jvm.Cond.soleField "DebtFerryModel" "fewest") ∈ lw_all := lw_g (lw_at lw_m5 177 rfl) rfl
theorem q1191 : (Jvm.Cond.lays "DebtFerryModel" "DebtFerryModel" "readings" "I") ∈ lw_all := lw_g (lw_at lw_m5 178 rfl) rfl
theorem q1192 : (Jvm.Cond.soleField "DebtFerryModel" "readings") ∈ lw_all := lw_g (lw_at lw_m5 179 rfl) rfl
theorem q1193 : (Jvm.Cond.laysFinal "DebtFerryModel" "DebtFerryModel" "readLoad" "[I") ∈ lw_all := lw_g (lw_at lw_m5 180 rfl) rfl
theorem q1194 : (Jvm.Cond.soleField "DebtFerryModel" "readLoad") ∈ lw_all := lw_g (lw_at lw_m5 181 rfl) rfl
theorem q1195 : (Jvm.Cond.laysFinal "DebtFerryModel" "DebtFerryModel" "readPulled" "[I") ∈ lw_all := lw_g (lw_at lw_m5 182 rfl) rfl
theorem q1196 : (Jvm.Cond.soleField "DebtFerryModel" "readPulled") ∈ lw_all := lw_g (lw_at lw_m5 183 rfl) rfl
theorem q1197 : (Jvm.Cond.superclass "DebtFerryModel" "java/lang/Object") ∈ lw_all := lw_g (lw_at lw_m5 184 rfl) rfl
theorem q1199 : (Jvm.Cond.instanceMethod ({ cls := "DebtFerryModel", name := "river", desc := "(IIII)I" } : Jvm.MethodName)) ∈ lw_all := lw_g (lw_at lw_m5 186 rfl) rfl
theorem q1200 : (Jvm.Cond.selects "DebtFerryModel" ({ cls := "DebtFerryModel", name := "river", desc := "(IIII)I" } : Jvm.MethodName) ({ cls := "DebtFerryModel", name := "river", desc := "(IIII)I" } : Jvm.MethodName)) ∈ lw_all := lw_g (lw_at lw_m5 187 rfl) rfl
theorem q1201 : (Jvm.Cond.code ({ cls := "DebtFerryModel", name := "river", desc := "(IIII)I" } : Jvm.MethodName) prog_15_method_14_code (7 : Nat) (Option.some Jvm.ClassFile.FieldType.int)) ∈ lw_all := lw_g (lw_at lw_m5 188 rfl) rfl
theorem q1202 : (Jvm.Cond.methodLink "DebtFerryModel" (65 : Nat) ({ cls := "DebtFerryModel", name := "isSheet", desc := "(I)Z" } : Jvm.MethodName)) ∈ lw_all := lw_g (lw_at lw_m5 189 rfl) rfl
theorem q1203 : (Jvm.Cond.static ({ cls := "DebtFerryModel", name := "isSheet", desc := "(I)Z" } : Jvm.MethodName)) ∈ lw_all := lw_g (lw_at lw_m5 190 rfl) rfl
theorem q1204 : (Jvm.Cond.code ({ cls := "DebtFerryModel", name := "isSheet", desc := "(I)Z" } : Jvm.MethodName) prog_15_method_6_code (1 : Nat) (Option.some Jvm.ClassFile.FieldType.boolean)) ∈ lw_all := lw_g (lw_at lw_m5 191 rfl) rfl
theorem q1205 : (Jvm.Cond.methodLink "DebtFerryModel" (55 : Nat) ({ cls := "DebtFerryModel", name := "within", desc := "(III)Z" } : Jvm.MethodName)) ∈ lw_all := lw_g (lw_at lw_m5 192 rfl) rfl
theorem q1206 : (Jvm.Cond.static ({ cls := "DebtFerryModel", name := "within", desc := "(III)Z" } : Jvm.MethodName)) ∈ lw_all := lw_g (lw_at lw_m5 193 rfl) rfl
theorem q1207 : (Jvm.Cond.code ({ cls := "DebtFerryModel", name := "within", desc := "(III)Z" } : Jvm.MethodName) prog_15_method_5_code (3 : Nat) (Option.some Jvm.ClassFile.FieldType.boolean)) ∈ lw_all := lw_g (lw_at lw_m5 194 rfl) rfl
theorem q1208 : (Jvm.Cond.methodLink "DebtFerryModel" (69 : Nat) ({ cls := "DebtFerryModel", name := "isSort", desc := "(I)Z" } : Jvm.MethodName)) ∈ lw_all := lw_g (lw_at lw_m5 195 rfl) rfl
theorem q1209 : (Jvm.Cond.static ({ cls := "DebtFerryModel", name := "isSort", desc := "(I)Z" } : Jvm.MethodName)) ∈ lw_all := lw_g (lw_at lw_m5 196 rfl) rfl
theorem q1210 : (Jvm.Cond.code ({ cls := "DebtFerryModel", name := "isSort", desc := "(I)Z" } : Jvm.MethodName) prog_15_method_7_code (1 : Nat) (Option.some Jvm.ClassFile.FieldType.boolean)) ∈ lw_all := lw_g (lw_at lw_m5 197 rfl) rfl
theorem q1211 : (Jvm.Cond.methodLink "DebtFerryModel" (72 : Nat) ({ cls := "DebtFerryModel", name := "against", desc := "(IIII)I" } : Jvm.MethodName)) ∈ lw_all := lw_g (lw_at lw_m5 198 rfl) rfl
theorem q1212 : (Jvm.Cond.privateMethod ({ cls := "DebtFerryModel", name := "against", desc := "(IIII)I" } : Jvm.MethodName)) ∈ lw_tbl := lw_at lw_m5 199 rfl
theorem q1213 : (Jvm.Cond.instanceMethod ({ cls := "DebtFerryModel", name := "against", desc := "(IIII)I" } : Jvm.MethodName)) ∈ lw_all := lw_g (lw_at lw_m5 200 rfl) rfl
theorem q1214 : (Jvm.Cond.code ({ cls := "DebtFerryModel", name := "against", desc := "(IIII)I" } : Jvm.MethodName) prog_15_method_8_code (5 : Nat) (Option.some Jvm.ClassFile.FieldType.int)) ∈ lw_all := lw_g (lw_at lw_m5 201 rfl) rfl
theorem q1215 : (Jvm.Cond.methodLink "DebtFerryModel" (76 : Nat) ({ cls := "DebtFerryModel", name := "fails", desc := "(I)I" } : Jvm.MethodName)) ∈ lw_all := lw_g (lw_at lw_m5 202 rfl) rfl
theorem q1216 : (Jvm.Cond.privateMethod ({ cls := "DebtFerryModel", name := "fails", desc := "(I)I" } : Jvm.MethodName)) ∈ lw_tbl := lw_at lw_m5 203 rfl
theorem q1217 : (Jvm.Cond.instanceMethod ({ cls := "DebtFerryModel", name := "fails", desc := "(I)I" } : Jvm.MethodName)) ∈ lw_all := lw_g (lw_at lw_m5 204 rfl) rfl
theorem q1218 : (Jvm.Cond.code ({ cls := "DebtFerryModel", name := "fails", desc := "(I)I" } : Jvm.MethodName) prog_15_method_3_code (2 : Nat) (Option.some Jvm.ClassFile.FieldType.int)) ∈ lw_all := lw_g (lw_at lw_m5 205 rfl) rfl
theorem q1219 : (Jvm.Cond.methodLink "DebtFerryModel" (80 : Nat) ({ cls := "DebtFerryModel", name := "readRiver", desc := "(I)Z" } : Jvm.MethodName)) ∈ lw_all := lw_g (lw_at lw_m5 206 rfl) rfl
theorem q1220 : (Jvm.Cond.privateMethod ({ cls := "DebtFerryModel", name := "readRiver", desc := "(I)Z" } : Jvm.MethodName)) ∈ lw_tbl := lw_at lw_m5 207 rfl
theorem q1221 : (Jvm.Cond.instanceMethod ({ cls := "DebtFerryModel", name := "readRiver", desc := "(I)Z" } : Jvm.MethodName)) ∈ lw_all := lw_g (lw_at lw_m5 208 rfl) rfl
theorem q1222 : (Jvm.Cond.code ({ cls := "DebtFerryModel", name := "readRiver", desc := "(I)Z" } : Jvm.MethodName) prog_15_method_16_code (3 : Nat) (Option.some Jvm.ClassFile.FieldType.boolean)) ∈ lw_all := lw_g (lw_at lw_m5 209 rfl) rfl
theorem q1223 : (Jvm.Cond.methodLink "DebtFerryModel" (104 : Nat) ({ cls := "DebtFerryModel", name := "isSign", desc := "(II)Z" } : Jvm.MethodName)) ∈ lw_all := lw_g (lw_at lw_m5 210 rfl) rfl
theorem q1224 : (Jvm.Cond.privateMethod ({ cls := "DebtFerryModel", name := "isSign", desc := "(II)Z" } : Jvm.MethodName)) ∈ lw_tbl := lw_at lw_m5 211 rfl
theorem q1225 : (Jvm.Cond.instanceMethod ({ cls := "DebtFerryModel", name := "isSign", desc := "(II)Z" } : Jvm.MethodName)) ∈ lw_all := lw_g (lw_at lw_m5 212 rfl) rfl
theorem q1226 : (Jvm.Cond.code ({ cls := "DebtFerryModel", name := "isSign", desc := "(II)Z" } : Jvm.MethodName) prog_15_method_13_code (3 : Nat) (Option.some Jvm.ClassFile.FieldType.boolean)) ∈ lw_all := lw_g (lw_at lw_m5 213 rfl) rfl
theorem q1227 : (Jvm.Cond.methodLink "DebtFerryModel" (108 : Nat) ({ cls := "DebtFerryModel", name := "digit", desc := "(III)I" } : Jvm.MethodName)) ∈ lw_all := lw_g (lw_at lw_m5 214 rfl) rfl
theorem q1228 : (Jvm.Cond.privateMethod ({ cls := "DebtFerryModel", name := "digit", desc := "(III)I" } : Jvm.MethodName)) ∈ lw_tbl := lw_at lw_m5 215 rfl
theorem q1229 : (Jvm.Cond.instanceMethod ({ cls := "DebtFerryModel", name := "digit", desc := "(III)I" } : Jvm.MethodName)) ∈ lw_all := lw_g (lw_at lw_m5 216 rfl) rfl
theorem q1230 : (Jvm.Cond.code ({ cls := "DebtFerryModel", name := "digit", desc := "(III)I" } : Jvm.MethodName) prog_15_method_12_code (4 : Nat) (Option.some Jvm.ClassFile.FieldType.int)) ∈ lw_all := lw_g (lw_at lw_m5 217 rfl) rfl
theorem q1231 : (Jvm.Cond.methodLink "DebtFerryModel" (112 : Nat) ({ cls := "DebtFerryModel", name := "readPerson", desc := "(II)Z" } : Jvm.MethodName)) ∈ lw_all := lw_g (lw_at lw_m5 218 rfl) rfl
theorem q1232 : (Jvm.Cond.privateMethod ({ cls := "DebtFerryModel", name := "readPerson", desc := "(II)Z" } : Jvm.MethodName)) ∈ lw_tbl := lw_at lw_m5 219 rfl
theorem q1233 : (Jvm.Cond.instanceMethod ({ cls := "DebtFerryModel", name := "readPerson", desc := "(II)Z" } : Jvm.MethodName)) ∈ lw_all := lw_g (lw_at lw_m5 220 rfl) rfl
theorem q1234 : (Jvm.Cond.code ({ cls := "DebtFerryModel", name := "readPerson", desc := "(II)Z" } : Jvm.MethodName) prog_15_method_17_code (5 : Nat) (Option.some Jvm.ClassFile.FieldType.boolean)) ∈ lw_all := lw_g (lw_at lw_m5 221 rfl) rfl
theorem q1235 : (Jvm.Cond.methodLink "DebtFerryModel" (83 : Nat) ({ cls := "DebtFerryModel", name := "takeRiver", desc := "()V" } : Jvm.MethodName)) ∈ lw_all := lw_g (lw_at lw_m5 222 rfl) rfl
theorem q1236 : (Jvm.Cond.privateMethod ({ cls := "DebtFerryModel", name := "takeRiver", desc := "()V" } : Jvm.MethodName)) ∈ lw_tbl := lw_at lw_m5 223 rfl
theorem q1237 : (Jvm.Cond.instanceMethod ({ cls := "DebtFerryModel", name := "takeRiver", desc := "()V" } : Jvm.MethodName)) ∈ lw_all := lw_g (lw_at lw_m5 224 rfl) rfl
theorem q1238 : (Jvm.Cond.code ({ cls := "DebtFerryModel", name := "takeRiver", desc := "()V" } : Jvm.MethodName) prog_15_method_15_code (3 : Nat) (Option.none : Option Jvm.ClassFile.FieldType)) ∈ lw_all := lw_g (lw_at lw_m5 225 rfl) rfl
theorem q1240 : (Jvm.Cond.instanceMethod ({ cls := "DebtFerryModel", name := "ofPerson", desc := "(II)I" } : Jvm.MethodName)) ∈ lw_all := lw_g (lw_at lw_m5 227 rfl) rfl
theorem q1241 : (Jvm.Cond.selects "DebtFerryModel" ({ cls := "DebtFerryModel", name := "ofPerson", desc := "(II)I" } : Jvm.MethodName) ({ cls := "DebtFerryModel", name := "ofPerson", desc := "(II)I" } : Jvm.MethodName)) ∈ lw_all := lw_g (lw_at lw_m5 228 rfl) rfl
theorem q1242 : (Jvm.Cond.code ({ cls := "DebtFerryModel", name := "ofPerson", desc := "(II)I" } : Jvm.MethodName) prog_15_method_19_code (3 : Nat) (Option.some Jvm.ClassFile.FieldType.int)) ∈ lw_all := lw_g (lw_at lw_m5 229 rfl) rfl
theorem q1243 : (Jvm.Cond.methodLink "DebtFerryModel" (115 : Nat) ({ cls := "DebtFerryModel", name := "isPerson", desc := "(I)Z" } : Jvm.MethodName)) ∈ lw_all := lw_g (lw_at lw_m5 230 rfl) rfl
theorem q1244 : (Jvm.Cond.privateMethod ({ cls := "DebtFerryModel", name := "isPerson", desc := "(I)Z" } : Jvm.MethodName)) ∈ lw_tbl := lw_at lw_m5 231 rfl
theorem q1245 : (Jvm.Cond.instanceMethod ({ cls := "DebtFerryModel", name := "isPerson", desc := "(I)Z" } : Jvm.MethodName)) ∈ lw_all := lw_g (lw_at lw_m5 232 rfl) rfl
theorem q1246 : (Jvm.Cond.code ({ cls := "DebtFerryModel", name := "isPerson", desc := "(I)Z" } : Jvm.MethodName) prog_15_method_9_code (2 : Nat) (Option.some Jvm.ClassFile.FieldType.boolean)) ∈ lw_all := lw_g (lw_at lw_m5 233 rfl) rfl
theorem q1247 : (Jvm.Cond.methodLink "DebtFerryModel" (118 : Nat) ({ cls := "DebtFerryModel", name := "allOf", desc := "(I)I" } : Jvm.MethodName)) ∈ lw_all := lw_g (lw_at lw_m5 234 rfl) rfl
theorem q1248 : (Jvm.Cond.privateMethod ({ cls := "DebtFerryModel", name := "allOf", desc := "(I)I" } : Jvm.MethodName)) ∈ lw_tbl := lw_at lw_m5 235 rfl
theorem q1249 : (Jvm.Cond.instanceMethod ({ cls := "DebtFerryModel", name := "allOf", desc := "(I)I" } : Jvm.MethodName)) ∈ lw_all := lw_g (lw_at lw_m5 236 rfl) rfl
theorem q1250 : (Jvm.Cond.code ({ cls := "DebtFerryModel", name := "allOf", desc := "(I)I" } : Jvm.MethodName) prog_15_method_18_code (4 : Nat) (Option.some Jvm.ClassFile.FieldType.int)) ∈ lw_all := lw_g (lw_at lw_m5 237 rfl) rfl
theorem q1252 : (Jvm.Cond.instanceMethod ({ cls := "DebtFerryModel", name := "owes", desc := "(II)I" } : Jvm.MethodName)) ∈ lw_all := lw_g (lw_at lw_m5 239 rfl) rfl
theorem q1253 : (Jvm.Cond.selects "DebtFerryModel" ({ cls := "DebtFerryModel", name := "owes", desc := "(II)I" } : Jvm.MethodName) ({ cls := "DebtFerryModel", name := "owes", desc := "(II)I" } : Jvm.MethodName)) ∈ lw_all := lw_g (lw_at lw_m6 0 rfl) rfl
theorem q1254 : (Jvm.Cond.code ({ cls := "DebtFerryModel", name := "owes", desc := "(II)I" } : Jvm.MethodName) prog_15_method_20_code (3 : Nat) (Option.some Jvm.ClassFile.FieldType.int)) ∈ lw_all := lw_g (lw_at lw_m6 1 rfl) rfl
theorem q1256 : (Jvm.Cond.instanceMethod ({ cls := "DebtFerryModel", name := "lend", desc := "(III)I" } : Jvm.MethodName)) ∈ lw_all := lw_g (lw_at lw_m6 3 rfl) rfl
theorem q1257 : (Jvm.Cond.selects "DebtFerryModel" ({ cls := "DebtFerryModel", name := "lend", desc := "(III)I" } : Jvm.MethodName) ({ cls := "DebtFerryModel", name := "lend", desc := "(III)I" } : Jvm.MethodName)) ∈ lw_all := lw_g (lw_at lw_m6 4 rfl) rfl
theorem q1258 : (Jvm.Cond.code ({ cls := "DebtFerryModel", name := "lend", desc := "(III)I" } : Jvm.MethodName) prog_15_method_22_code (5 : Nat) (Option.some Jvm.ClassFile.FieldType.int)) ∈ lw_all := lw_g (lw_at lw_m6 5 rfl) rfl
theorem q1259 : (Jvm.Cond.methodLink "DebtFerryModel" (121 : Nat) ({ cls := "DebtFerryModel", name := "isNote", desc := "(II)Z" } : Jvm.MethodName)) ∈ lw_all := lw_g (lw_at lw_m6 6 rfl) rfl
theorem q1260 : (Jvm.Cond.privateMethod ({ cls := "DebtFerryModel", name := "isNote", desc := "(II)Z" } : Jvm.MethodName)) ∈ lw_tbl := lw_at lw_m6 7 rfl
theorem q1261 : (Jvm.Cond.instanceMethod ({ cls := "DebtFerryModel", name := "isNote", desc := "(II)Z" } : Jvm.MethodName)) ∈ lw_all := lw_g (lw_at lw_m6 8 rfl) rfl
theorem q1262 : (Jvm.Cond.code ({ cls := "DebtFerryModel", name := "isNote", desc := "(II)Z" } : Jvm.MethodName) prog_15_method_21_code (3 : Nat) (Option.some Jvm.ClassFile.FieldType.boolean)) ∈ lw_all := lw_g (lw_at lw_m6 9 rfl) rfl
theorem q1264 : (Jvm.Cond.instanceMethod ({ cls := "DebtFerryModel", name := "count", desc := "(I)I" } : Jvm.MethodName)) ∈ lw_all := lw_g (lw_at lw_m6 11 rfl) rfl
theorem q1265 : (Jvm.Cond.selects "DebtFerryModel" ({ cls := "DebtFerryModel", name := "count", desc := "(I)I" } : Jvm.MethodName) ({ cls := "DebtFerryModel", name := "count", desc := "(I)I" } : Jvm.MethodName)) ∈ lw_all := lw_g (lw_at lw_m6 12 rfl) rfl
theorem q1266 : (Jvm.Cond.code ({ cls := "DebtFerryModel", name := "count", desc := "(I)I" } : Jvm.MethodName) prog_15_method_23_code (3 : Nat) (Option.some Jvm.ClassFile.FieldType.int)) ∈ lw_all := lw_g (lw_at lw_m6 13 rfl) rfl
theorem q1268 : (Jvm.Cond.instanceMethod ({ cls := "DebtFerryModel", name := "build", desc := "(I)I" } : Jvm.MethodName)) ∈ lw_all := lw_g (lw_at lw_m6 15 rfl) rfl
theorem q1269 : (Jvm.Cond.selects "DebtFerryModel" ({ cls := "DebtFerryModel", name := "build", desc := "(I)I" } : Jvm.MethodName) ({ cls := "DebtFerryModel", name := "build", desc := "(I)I" } : Jvm.MethodName)) ∈ lw_all := lw_g (lw_at lw_m6 16 rfl) rfl
theorem q1270 : (Jvm.Cond.code ({ cls := "DebtFerryModel", name := "build", desc := "(I)I" } : Jvm.MethodName) prog_15_method_24_code (3 : Nat) (Option.some Jvm.ClassFile.FieldType.int)) ∈ lw_all := lw_g (lw_at lw_m6 17 rfl) rfl
theorem q1272 : (Jvm.Cond.instanceMethod ({ cls := "DebtFerryModel", name := "debt", desc := "(II)I" } : Jvm.MethodName)) ∈ lw_all := lw_g (lw_at lw_m6 19 rfl) rfl
theorem q1273 : (Jvm.Cond.selects "DebtFerryModel" ({ cls := "DebtFerryModel", name := "debt", desc := "(II)I" } : Jvm.MethodName) ({ cls := "DebtFerryModel", name := "debt", desc := "(II)I" } : Jvm.MethodName)) ∈ lw_all := lw_g (lw_at lw_m6 20 rfl) rfl
theorem q1274 : (Jvm.Cond.code ({ cls := "DebtFerryModel", name := "debt", desc := "(II)I" } : Jvm.MethodName) prog_15_method_29_code (3 : Nat) (Option.some Jvm.ClassFile.FieldType.int)) ∈ lw_all := lw_g (lw_at lw_m6 21 rfl) rfl
theorem q1275 : (Jvm.Cond.methodLink "DebtFerryModel" (143 : Nat) ({ cls := "DebtFerryModel", name := "isSet", desc := "(I)Z" } : Jvm.MethodName)) ∈ lw_all := lw_g (lw_at lw_m6 22 rfl) rfl
theorem q1276 : (Jvm.Cond.privateMethod ({ cls := "DebtFerryModel", name := "isSet", desc := "(I)Z" } : Jvm.MethodName)) ∈ lw_tbl := lw_at lw_m6 23 rfl
theorem q1277 : (Jvm.Cond.instanceMethod ({ cls := "DebtFerryModel", name := "isSet", desc := "(I)Z" } : Jvm.MethodName)) ∈ lw_all := lw_g (lw_at lw_m6 24 rfl) rfl
theorem q1278 : (Jvm.Cond.code ({ cls := "DebtFerryModel", name := "isSet", desc := "(I)Z" } : Jvm.MethodName) prog_15_method_10_code (2 : Nat) (Option.some Jvm.ClassFile.FieldType.boolean)) ∈ lw_all := lw_g (lw_at lw_m6 25 rfl) rfl
theorem q1279 : (Jvm.Cond.methodLink "DebtFerryModel" (127 : Nat) ({ cls := "DebtFerryModel", name := "isOf", desc := "(II)Z" } : Jvm.MethodName)) ∈ lw_all := lw_g (lw_at lw_m6 26 rfl) rfl
theorem q1280 : (Jvm.Cond.static ({ cls := "DebtFerryModel", name := "isOf", desc := "(II)Z" } : Jvm.MethodName)) ∈ lw_all := lw_g (lw_at lw_m6 27 rfl) rfl
theorem q1281 : (Jvm.Cond.code ({ cls := "DebtFerryModel", name := "isOf", desc := "(II)Z" } : Jvm.MethodName) prog_15_method_11_code (2 : Nat) (Option.some Jvm.ClassFile.FieldType.boolean)) ∈ lw_all := lw_g (lw_at lw_m6 28 rfl) rfl
theorem q1282 : (Jvm.Cond.methodLink "DebtFerryModel" (133 : Nat) ({ cls := "DebtFerryModel", name := "debtOf", desc := "(II)I" } : Jvm.MethodName)) ∈ lw_all := lw_g (lw_at lw_m6 29 rfl) rfl
theorem q1283 : (Jvm.Cond.privateMethod ({ cls := "DebtFerryModel", name := "debtOf", desc := "(II)I" } : Jvm.MethodName)) ∈ lw_tbl := lw_at lw_m6 30 rfl
theorem q1284 : (Jvm.Cond.instanceMethod ({ cls := "DebtFerryModel", name := "debtOf", desc := "(II)I" } : Jvm.MethodName)) ∈ lw_all := lw_g (lw_at lw_m6 31 rfl) rfl
theorem q1285 : (Jvm.Cond.code ({ cls := "DebtFerryModel", name := "debtOf", desc := "(II)I" } : Jvm.MethodName) prog_15_method_25_code (6 : Nat) (Option.some Jvm.ClassFile.FieldType.int)) ∈ lw_all := lw_g (lw_at lw_m6 32 rfl) rfl
theorem q1287 : (Jvm.Cond.instanceMethod ({ cls := "DebtFerryModel", name := "pullers", desc := "(I)I" } : Jvm.MethodName)) ∈ lw_all := lw_g (lw_at lw_m6 34 rfl) rfl
theorem q1288 : (Jvm.Cond.selects "DebtFerryModel" ({ cls := "DebtFerryModel", name := "pullers", desc := "(I)I" } : Jvm.MethodName) ({ cls := "DebtFerryModel", name := "pullers", desc := "(I)I" } : Jvm.MethodName)) ∈ lw_all := lw_g (lw_at lw_m6 35 rfl) rfl
theorem q1289 : (Jvm.Cond.code ({ cls := "DebtFerryModel", name := "pullers", desc := "(I)I" } : Jvm.MethodName) prog_15_method_30_code (2 : Nat) (Option.some Jvm.ClassFile.FieldType.int)) ∈ lw_all := lw_g (lw_at lw_m6 36 rfl) rfl
theorem q1290 : (Jvm.Cond.methodLink "DebtFerryModel" (137 : Nat) ({ cls := "DebtFerryModel", name := "pullersOf", desc := "(I)I" } : Jvm.MethodName)) ∈ lw_all := lw_g (lw_at lw_m6 37 rfl) rfl
theorem q1291 : (Jvm.Cond.privateMethod ({ cls := "DebtFerryModel", name := "pullersOf", desc := "(I)I" } : Jvm.MethodName)) ∈ lw_tbl := lw_at lw_m6 38 rfl
theorem q1292 : (Jvm.Cond.instanceMethod ({ cls := "DebtFerryModel", name := "pullersOf", desc := "(I)I" } : Jvm.MethodName)) ∈ lw_all := lw_g (lw_at lw_m6 39 rfl) rfl
theorem q1293 : (Jvm.Cond.code ({ cls := "DebtFerryModel", name := "pullersOf", desc := "(I)I" } : Jvm.MethodName) prog_15_method_26_code (6 : Nat) (Option.some Jvm.ClassFile.FieldType.int)) ∈ lw_all := lw_g (lw_at lw_m6 40 rfl) rfl
theorem q1295 : (Jvm.Cond.instanceMethod ({ cls := "DebtFerryModel", name := "fair", desc := "(I)I" } : Jvm.MethodName)) ∈ lw_all := lw_g (lw_at lw_m6 42 rfl) rfl
theorem q1296 : (Jvm.Cond.selects "DebtFerryModel" ({ cls := "DebtFerryModel", name := "fair", desc := "(I)I" } : Jvm.MethodName) ({ cls := "DebtFerryModel", name := "fair", desc := "(I)I" } : Jvm.MethodName)) ∈ lw_all := lw_g (lw_at lw_m6 43 rfl) rfl
theorem q1297 : (Jvm.Cond.code ({ cls := "DebtFerryModel", name := "fair", desc := "(I)I" } : Jvm.MethodName) prog_15_method_31_code (2 : Nat) (Option.some Jvm.ClassFile.FieldType.int)) ∈ lw_all := lw_g (lw_at lw_m6 44 rfl) rfl
theorem q1298 : (Jvm.Cond.methodLink "DebtFerryModel" (146 : Nat) ({ cls := "DebtFerryModel", name := "isFair", desc := "(I)Z" } : Jvm.MethodName)) ∈ lw_all := lw_g (lw_at lw_m6 45 rfl) rfl
theorem q1299 : (Jvm.Cond.privateMethod ({ cls := "DebtFerryModel", name := "isFair", desc := "(I)Z" } : Jvm.MethodName)) ∈ lw_tbl := lw_at lw_m6 46 rfl
theorem q1300 : (Jvm.Cond.instanceMethod ({ cls := "DebtFerryModel", name := "isFair", desc := "(I)Z" } : Jvm.MethodName)) ∈ lw_all := lw_g (lw_at lw_m6 47 rfl) rfl
theorem q1301 : (Jvm.Cond.code ({ cls := "DebtFerryModel", name := "isFair", desc := "(I)Z" } : Jvm.MethodName) prog_15_method_28_code (4 : Nat) (Option.some Jvm.ClassFile.FieldType.boolean)) ∈ lw_all := lw_g (lw_at lw_m6 48 rfl) rfl
theorem q1302 : (Jvm.Cond.methodLink "DebtFerryModel" (140 : Nat) ({ cls := "DebtFerryModel", name := "size", desc := "(I)I" } : Jvm.MethodName)) ∈ lw_all := lw_g (lw_at lw_m6 49 rfl) rfl
theorem q1303 : (Jvm.Cond.static ({ cls := "DebtFerryModel", name := "size", desc := "(I)I" } : Jvm.MethodName)) ∈ lw_all := lw_g (lw_at lw_m6 50 rfl) rfl
theorem q1304 : (Jvm.Cond.code ({ cls := "DebtFerryModel", name := "size", desc := "(I)I" } : Jvm.MethodName) prog_15_method_27_code (3 : Nat) (Option.some Jvm.ClassFile.FieldType.int)) ∈ lw_all := lw_g (lw_at lw_m6 51 rfl) rfl
theorem q1306 : (Jvm.Cond.instanceMethod ({ cls := "DebtFerryModel", name := "loads", desc := "(IIIII)I" } : Jvm.MethodName)) ∈ lw_all := lw_g (lw_at lw_m6 53 rfl) rfl
theorem q1307 : (Jvm.Cond.selects "DebtFerryModel" ({ cls := "DebtFerryModel", name := "loads", desc := "(IIIII)I" } : Jvm.MethodName) ({ cls := "DebtFerryModel", name := "loads", desc := "(IIIII)I" } : Jvm.MethodName)) ∈ lw_all := lw_g (lw_at lw_m6 54 rfl) rfl
theorem q1308 : (Jvm.Cond.code ({ cls := "DebtFerryModel", name := "loads", desc := "(IIIII)I" } : Jvm.MethodName) prog_15_method_33_code (9 : Nat) (Option.some Jvm.ClassFile.FieldType.int)) ∈ lw_all := lw_g (lw_at lw_m6 55 rfl) rfl
theorem q1309 : (Jvm.Cond.methodLink "DebtFerryModel" (161 : Nat) ({ cls := "DebtFerryModel", name := "goLoads", desc := "(II)I" } : Jvm.MethodName)) ∈ lw_all := lw_g (lw_at lw_m6 56 rfl) rfl
theorem q1310 : (Jvm.Cond.privateMethod ({ cls := "DebtFerryModel", name := "goLoads", desc := "(II)I" } : Jvm.MethodName)) ∈ lw_tbl := lw_at lw_m6 57 rfl
theorem q1311 : (Jvm.Cond.instanceMethod ({ cls := "DebtFerryModel", name := "goLoads", desc := "(II)I" } : Jvm.MethodName)) ∈ lw_all := lw_g (lw_at lw_m6 58 rfl) rfl
theorem q1312 : (Jvm.Cond.code ({ cls := "DebtFerryModel", name := "goLoads", desc := "(II)I" } : Jvm.MethodName) prog_15_method_32_code (7 : Nat) (Option.some Jvm.ClassFile.FieldType.int)) ∈ lw_all := lw_g (lw_at lw_m6 59 rfl) rfl
theorem q1313 : (Jvm.Cond.methodLink "DebtFerryModel" (164 : Nat) ({ cls := "DebtFerryModel", name := "tellLoads", desc := "(I)I" } : Jvm.MethodName)) ∈ lw_all := lw_g (lw_at lw_m6 60 rfl) rfl
theorem q1314 : (Jvm.Cond.privateMethod ({ cls := "DebtFerryModel", name := "tellLoads", desc := "(I)I" } : Jvm.MethodName)) ∈ lw_tbl := lw_at lw_m6 61 rfl
theorem q1315 : (Jvm.Cond.instanceMethod ({ cls := "DebtFerryModel", name := "tellLoads", desc := "(I)I" } : Jvm.MethodName)) ∈ lw_all := lw_g (lw_at lw_m6 62 rfl) rfl
theorem q1316 : (Jvm.Cond.code ({ cls := "DebtFerryModel", name := "tellLoads", desc := "(I)I" } : Jvm.MethodName) prog_15_method_34_code (2 : Nat) (Option.some Jvm.ClassFile.FieldType.int)) ∈ lw_all := lw_g (lw_at lw_m6 63 rfl) rfl
theorem q1318 : (Jvm.Cond.instanceMethod ({ cls := "DebtFerryModel", name := "cross", desc := "(I)I" } : Jvm.MethodName)) ∈ lw_all := lw_g (lw_at lw_m6 65 rfl) rfl
theorem q1319 : (Jvm.Cond.selects "DebtFerryModel" ({ cls := "DebtFerryModel", name := "cross", desc := "(I)I" } : Jvm.MethodName) ({ cls := "DebtFerryModel", name := "cross", desc := "(I)I" } : Jvm.MethodName)) ∈ lw_all := lw_g (lw_at lw_m6 66 rfl) rfl
theorem q1320 : (Jvm.Cond.code ({ cls := "DebtFerryModel", name := "cross", desc := "(I)I" } : Jvm.MethodName) prog_15_method_37_code (5 : Nat) (Option.some Jvm.ClassFile.FieldType.int)) ∈ lw_all := lw_g (lw_at lw_m6 67 rfl) rfl
theorem q1321 : (Jvm.Cond.methodLink "DebtFerryModel" (167 : Nat) ({ cls := "DebtFerryModel", name := "findFewest", desc := "()V" } : Jvm.MethodName)) ∈ lw_all := lw_g (lw_at lw_m6 68 rfl) rfl
theorem q1322 : (Jvm.Cond.privateMethod ({ cls := "DebtFerryModel", name := "findFewest", desc := "()V" } : Jvm.MethodName)) ∈ lw_tbl := lw_at lw_m6 69 rfl
theorem q1323 : (Jvm.Cond.instanceMethod ({ cls := "DebtFerryModel", name := "findFewest", desc := "()V" } : Jvm.MethodName)) ∈ lw_all := lw_g (lw_at lw_m6 70 rfl) rfl
theorem q1324 : (Jvm.Cond.code ({ cls := "DebtFerryModel", name := "findFewest", desc := "()V" } : Jvm.MethodName) prog_15_method_35_code (4 : Nat) (Option.none : Option Jvm.ClassFile.FieldType)) ∈ lw_all := lw_g (lw_at lw_m6 71 rfl) rfl
theorem q1325 : (Jvm.Cond.methodLink "DebtFerryModel" (170 : Nat) ({ cls := "DebtFerryModel", name := "firstLoad", desc := "(I)I" } : Jvm.MethodName)) ∈ lw_all := lw_g (lw_at lw_m6 72 rfl) rfl
theorem q1326 : (Jvm.Cond.privateMethod ({ cls := "DebtFerryModel", name := "firstLoad", desc := "(I)I" } : Jvm.MethodName)) ∈ lw_tbl := lw_at lw_m6 73 rfl
theorem q1327 : (Jvm.Cond.instanceMethod ({ cls := "DebtFerryModel", name := "firstLoad", desc := "(I)I" } : Jvm.MethodName)) ∈ lw_all := lw_g (lw_at lw_m6 74 rfl) rfl
theorem q1328 : (Jvm.Cond.code ({ cls := "DebtFerryModel", name := "firstLoad", desc := "(I)I" } : Jvm.MethodName) prog_15_method_36_code (3 : Nat) (Option.some Jvm.ClassFile.FieldType.int)) ∈ lw_all := lw_g (lw_at lw_m6 75 rfl) rfl
theorem q1330 : (Jvm.Cond.instanceMethod ({ cls := "DebtFerryModel", name := "loan", desc := "(III)I" } : Jvm.MethodName)) ∈ lw_all := lw_g (lw_at lw_m6 77 rfl) rfl
theorem q1331 : (Jvm.Cond.selects "DebtFerryModel" ({ cls := "DebtFerryModel", name := "loan", desc := "(III)I" } : Jvm.MethodName) ({ cls := "DebtFerryModel", name := "loan", desc := "(III)I" } : Jvm.MethodName)) ∈ lw_all := lw_g (lw_at lw_m6 78 rfl) rfl
theorem q1332 : (Jvm.Cond.code ({ cls := "DebtFerryModel", name := "loan", desc := "(III)I" } : Jvm.MethodName) prog_15_method_38_code (6 : Nat) (Option.some Jvm.ClassFile.FieldType.int)) ∈ lw_all := lw_g (lw_at lw_m6 79 rfl) rfl
theorem q1333 : (Jvm.Cond.methodLink "DebtFerryModel" (173 : Nat) ({ cls := "DebtFerryModel", name := "pullsBy", desc := "(IIII)Z" } : Jvm.MethodName)) ∈ lw_all := lw_g (lw_at lw_m6 80 rfl) rfl
theorem q1334 : (Jvm.Cond.privateMethod ({ cls := "DebtFerryModel", name := "pullsBy", desc := "(IIII)Z" } : Jvm.MethodName)) ∈ lw_tbl := lw_at lw_m6 81 rfl
theorem q1335 : (Jvm.Cond.instanceMethod ({ cls := "DebtFerryModel", name := "pullsBy", desc := "(IIII)Z" } : Jvm.MethodName)) ∈ lw_all := lw_g (lw_at lw_m6 82 rfl) rfl
theorem q1336 : (Jvm.Cond.code ({ cls := "DebtFerryModel", name := "pullsBy", desc := "(IIII)Z" } : Jvm.MethodName) prog_15_method_39_code (7 : Nat) (Option.some Jvm.ClassFile.FieldType.boolean)) ∈ lw_all := lw_g (lw_at lw_m6 83 rfl) rfl
theorem q1338 : (Jvm.Cond.instanceMethod ({ cls := "DebtFerryModel", name := "forgave", desc := "(I)I" } : Jvm.MethodName)) ∈ lw_all := lw_g (lw_at lw_m6 85 rfl) rfl
theorem q1339 : (Jvm.Cond.selects "DebtFerryModel" ({ cls := "DebtFerryModel", name := "forgave", desc := "(I)I" } : Jvm.MethodName) ({ cls := "DebtFerryModel", name := "forgave", desc := "(I)I" } : Jvm.MethodName)) ∈ lw_all := lw_g (lw_at lw_m6 86 rfl) rfl
theorem q1340 : (Jvm.Cond.code ({ cls := "DebtFerryModel", name := "forgave", desc := "(I)I" } : Jvm.MethodName) prog_15_method_40_code (4 : Nat) (Option.some Jvm.ClassFile.FieldType.int)) ∈ lw_all := lw_g (lw_at lw_m6 87 rfl) rfl
theorem q1342 : (Jvm.Cond.instanceMethod ({ cls := "DebtFerryModel", name := "reading", desc := "(II)I" } : Jvm.MethodName)) ∈ lw_all := lw_g (lw_at lw_m6 89 rfl) rfl
theorem q1343 : (Jvm.Cond.selects "DebtFerryModel" ({ cls := "DebtFerryModel", name := "reading", desc := "(II)I" } : Jvm.MethodName) ({ cls := "DebtFerryModel", name := "reading", desc := "(II)I" } : Jvm.MethodName)) ∈ lw_all := lw_g (lw_at lw_m6 90 rfl) rfl
theorem q1344 : (Jvm.Cond.code ({ cls := "DebtFerryModel", name := "reading", desc := "(II)I" } : Jvm.MethodName) prog_15_method_41_code (3 : Nat) (Option.some Jvm.ClassFile.FieldType.int)) ∈ lw_all := lw_g (lw_at lw_m6 91 rfl) rfl
theorem q1346 : (Jvm.Cond.instanceMethod ({ cls := "DebtFerryModel", name := "back", desc := "(I)I" } : Jvm.MethodName)) ∈ lw_all := lw_g (lw_at lw_m6 93 rfl) rfl
theorem q1347 : (Jvm.Cond.selects "DebtFerryModel" ({ cls := "DebtFerryModel", name := "back", desc := "(I)I" } : Jvm.MethodName) ({ cls := "DebtFerryModel", name := "back", desc := "(I)I" } : Jvm.MethodName)) ∈ lw_all := lw_g (lw_at lw_m6 94 rfl) rfl
theorem q1348 : (Jvm.Cond.code ({ cls := "DebtFerryModel", name := "back", desc := "(I)I" } : Jvm.MethodName) prog_15_method_42_code (2 : Nat) (Option.some Jvm.ClassFile.FieldType.int)) ∈ lw_all := lw_g (lw_at lw_m6 95 rfl) rfl
theorem q1350 : (Jvm.Cond.instanceMethod ({ cls := "DebtFerryModel", name := "notes", desc := "(II)I" } : Jvm.MethodName)) ∈ lw_all := lw_g (lw_at lw_m6 97 rfl) rfl
theorem q1351 : (Jvm.Cond.selects "DebtFerryModel" ({ cls := "DebtFerryModel", name := "notes", desc := "(II)I" } : Jvm.MethodName) ({ cls := "DebtFerryModel", name := "notes", desc := "(II)I" } : Jvm.MethodName)) ∈ lw_all := lw_g (lw_at lw_m6 98 rfl) rfl
theorem q1352 : (Jvm.Cond.code ({ cls := "DebtFerryModel", name := "notes", desc := "(II)I" } : Jvm.MethodName) prog_15_method_44_code (6 : Nat) (Option.some Jvm.ClassFile.FieldType.int)) ∈ lw_all := lw_g (lw_at lw_m6 99 rfl) rfl
theorem q1353 : (Jvm.Cond.methodLink "DebtFerryModel" (177 : Nat) ({ cls := "DebtFerryModel", name := "areSo", desc := "()Z" } : Jvm.MethodName)) ∈ lw_all := lw_g (lw_at lw_m6 100 rfl) rfl
theorem q1354 : (Jvm.Cond.privateMethod ({ cls := "DebtFerryModel", name := "areSo", desc := "()Z" } : Jvm.MethodName)) ∈ lw_tbl := lw_at lw_m6 101 rfl
theorem q1355 : (Jvm.Cond.instanceMethod ({ cls := "DebtFerryModel", name := "areSo", desc := "()Z" } : Jvm.MethodName)) ∈ lw_all := lw_g (lw_at lw_m6 102 rfl) rfl
theorem q1356 : (Jvm.Cond.code ({ cls := "DebtFerryModel", name := "areSo", desc := "()Z" } : Jvm.MethodName) prog_15_method_43_code (2 : Nat) (Option.some Jvm.ClassFile.FieldType.boolean)) ∈ lw_all := lw_g (lw_at lw_m6 103 rfl) rfl
theorem q1358 : (Jvm.Cond.instanceMethod ({ cls := "DebtFerryModel", name := "kinds", desc := "(I)I" } : Jvm.MethodName)) ∈ lw_all := lw_g (lw_at lw_m6 105 rfl) rfl
theorem q1359 : (Jvm.Cond.selects "DebtFerryModel" ({ cls := "DebtFerryModel", name := "kinds", desc := "(I)I" } : Jvm.MethodName) ({ cls := "DebtFerryModel", name := "kinds", desc := "(I)I" } : Jvm.MethodName)) ∈ lw_all := lw_g (lw_at lw_m6 106 rfl) rfl
theorem q1360 : (Jvm.Cond.code ({ cls := "DebtFerryModel", name := "kinds", desc := "(I)I" } : Jvm.MethodName) prog_15_method_45_code (5 : Nat) (Option.some Jvm.ClassFile.FieldType.int)) ∈ lw_all := lw_g (lw_at lw_m6 107 rfl) rfl
theorem q1362 : (Jvm.Cond.instanceMethod ({ cls := "DebtFerryModel", name := "often", desc := "()I" } : Jvm.MethodName)) ∈ lw_all := lw_g (lw_at lw_m6 109 rfl) rfl
theorem q1363 : (Jvm.Cond.selects "DebtFerryModel" ({ cls := "DebtFerryModel", name := "often", desc := "()I" } : Jvm.MethodName) ({ cls := "DebtFerryModel", name := "often", desc := "()I" } : Jvm.MethodName)) ∈ lw_all := lw_g (lw_at lw_m6 110 rfl) rfl
theorem q1364 : (Jvm.Cond.code ({ cls := "DebtFerryModel", name := "often", desc := "()I" } : Jvm.MethodName) prog_15_method_46_code (4 : Nat) (Option.some Jvm.ClassFile.FieldType.int)) ∈ lw_all := lw_g (lw_at lw_m6 111 rfl) rfl
theorem q1366 : (Jvm.Cond.instanceMethod ({ cls := "DebtFerryModel", name := "odds", desc := "(III)J" } : Jvm.MethodName)) ∈ lw_all := lw_g (lw_at lw_m6 113 rfl) rfl
theorem q1367 : (Jvm.Cond.selects "DebtFerryModel" ({ cls := "DebtFerryModel", name := "odds", desc := "(III)J" } : Jvm.MethodName) ({ cls := "DebtFerryModel", name := "odds", desc := "(III)J" } : Jvm.MethodName)) ∈ lw_all := lw_g (lw_at lw_m6 114 rfl) rfl
theorem q1368 : (Jvm.Cond.code ({ cls := "DebtFerryModel", name := "odds", desc := "(III)J" } : Jvm.MethodName) prog_15_method_48_code (6 : Nat) (Option.some Jvm.ClassFile.FieldType.long)) ∈ lw_all := lw_g (lw_at lw_m6 115 rfl) rfl
theorem q1369 : (Jvm.Cond.constantLong "DebtFerryModel" (53 : Nat) (-9223372036854775808 : Int64)) ∈ lw_all := lw_g (lw_at lw_m6 116 rfl) rfl
theorem q1370 : (Jvm.Cond.methodLink "DebtFerryModel" (181 : Nat) ({ cls := "DebtFerryModel", name := "inLeastTerms", desc := "(JJI)J" } : Jvm.MethodName)) ∈ lw_all := lw_g (lw_at lw_m6 117 rfl) rfl
theorem q1371 : (Jvm.Cond.static ({ cls := "DebtFerryModel", name := "inLeastTerms", desc := "(JJI)J" } : Jvm.MethodName)) ∈ lw_all := lw_g (lw_at lw_m6 118 rfl) rfl
theorem q1372 : (Jvm.Cond.code ({ cls := "DebtFerryModel", name := "inLeastTerms", desc := "(JJI)J" } : Jvm.MethodName) prog_15_method_47_code (11 : Nat) (Option.some Jvm.ClassFile.FieldType.long)) ∈ lw_all := lw_g (lw_at lw_m6 119 rfl) rfl
theorem q1374 : (Jvm.Cond.instanceMethod ({ cls := "DebtFerryModel", name := "sheet", desc := "(III)I" } : Jvm.MethodName)) ∈ lw_all := lw_g (lw_at lw_m6 121 rfl) rfl
theorem q1375 : (Jvm.Cond.selects "DebtFerryModel" ({ cls := "DebtFerryModel", name := "sheet", desc := "(III)I" } : Jvm.MethodName) ({ cls := "DebtFerryModel", name := "sheet", desc := "(III)I" } : Jvm.MethodName)) ∈ lw_all := lw_g (lw_at lw_m6 122 rfl) rfl
theorem q1376 : (Jvm.Cond.code ({ cls := "DebtFerryModel", name := "sheet", desc := "(III)I" } : Jvm.MethodName) prog_15_method_49_code (5 : Nat) (Option.some Jvm.ClassFile.FieldType.int)) ∈ lw_all := lw_g (lw_at lw_m6 123 rfl) rfl
theorem q1378 : (Jvm.Cond.instanceMethod ({ cls := "DebtFerryModel", name := "lose", desc := "(I)I" } : Jvm.MethodName)) ∈ lw_all := lw_g (lw_at lw_m6 125 rfl) rfl
theorem q1379 : (Jvm.Cond.selects "DebtFerryModel" ({ cls := "DebtFerryModel", name := "lose", desc := "(I)I" } : Jvm.MethodName) ({ cls := "DebtFerryModel", name := "lose", desc := "(I)I" } : Jvm.MethodName)) ∈ lw_all := lw_g (lw_at lw_m6 126 rfl) rfl
theorem q1380 : (Jvm.Cond.code ({ cls := "DebtFerryModel", name := "lose", desc := "(I)I" } : Jvm.MethodName) prog_15_method_50_code (3 : Nat) (Option.some Jvm.ClassFile.FieldType.int)) ∈ lw_all := lw_g (lw_at lw_m6 127 rfl) rfl
theorem q1382 : (Jvm.Cond.instanceMethod ({ cls := "DebtFerryModel", name := "put", desc := "(III)I" } : Jvm.MethodName)) ∈ lw_all := lw_g (lw_at lw_m6 129 rfl) rfl
theorem q1383 : (Jvm.Cond.selects "DebtFerryModel" ({ cls := "DebtFerryModel", name := "put", desc := "(III)I" } : Jvm.MethodName) ({ cls := "DebtFerryModel", name := "put", desc := "(III)I" } : Jvm.MethodName)) ∈ lw_all := lw_g (lw_at lw_m6 130 rfl) rfl
theorem q1384 : (Jvm.Cond.code ({ cls := "DebtFerryModel", name := "put", desc := "(III)I" } : Jvm.MethodName) prog_15_method_51_code (4 : Nat) (Option.some Jvm.ClassFile.FieldType.int)) ∈ lw_all := lw_g (lw_at lw_m6 131 rfl) rfl
theorem q1386 : (Jvm.Cond.instanceMethod ({ cls := "DebtFerryModel", name := "cell", desc := "(III)J" } : Jvm.MethodName)) ∈ lw_all := lw_g (lw_at lw_m6 133 rfl) rfl
theorem q1387 : (Jvm.Cond.selects "DebtFerryModel" ({ cls := "DebtFerryModel", name := "cell", desc := "(III)J" } : Jvm.MethodName) ({ cls := "DebtFerryModel", name := "cell", desc := "(III)J" } : Jvm.MethodName)) ∈ lw_all := lw_g (lw_at lw_m6 134 rfl) rfl
theorem q1388 : (Jvm.Cond.code ({ cls := "DebtFerryModel", name := "cell", desc := "(III)J" } : Jvm.MethodName) prog_15_method_52_code (4 : Nat) (Option.some Jvm.ClassFile.FieldType.long)) ∈ lw_all := lw_g (lw_at lw_m6 135 rfl) rfl
theorem q1389 : (Jvm.Cond.methodLink "DebtFerryModel" (185 : Nat) ({ cls := "DebtFerryModel", name := "lost", desc := "(I)J" } : Jvm.MethodName)) ∈ lw_all := lw_g (lw_at lw_m6 136 rfl) rfl
theorem q1390 : (Jvm.Cond.privateMethod ({ cls := "DebtFerryModel", name := "lost", desc := "(I)J" } : Jvm.MethodName)) ∈ lw_tbl := lw_at lw_m6 137 rfl
theorem q1391 : (Jvm.Cond.instanceMethod ({ cls := "DebtFerryModel", name := "lost", desc := "(I)J" } : Jvm.MethodName)) ∈ lw_all := lw_g (lw_at lw_m6 138 rfl) rfl
theorem q1392 : (Jvm.Cond.code ({ cls := "DebtFerryModel", name := "lost", desc := "(I)J" } : Jvm.MethodName) prog_15_method_4_code (2 : Nat) (Option.some Jvm.ClassFile.FieldType.long)) ∈ lw_all := lw_g (lw_at lw_m6 139 rfl) rfl
theorem q1394 : (Jvm.Cond.instanceMethod ({ cls := "DebtFerryModel", name := "copy", desc := "(IIIII)I" } : Jvm.MethodName)) ∈ lw_all := lw_g (lw_at lw_m6 141 rfl) rfl
theorem q1395 : (Jvm.Cond.selects "DebtFerryModel" ({ cls := "DebtFerryModel", name := "copy", desc := "(IIIII)I" } : Jvm.MethodName) ({ cls := "DebtFerryModel", name := "copy", desc := "(IIIII)I" } : Jvm.MethodName)) ∈ lw_all := lw_g (lw_at lw_m6 142 rfl) rfl
theorem q1396 : (Jvm.Cond.code ({ cls := "DebtFerryModel", name := "copy", desc := "(IIIII)I" } : Jvm.MethodName) prog_15_method_53_code (10 : Nat) (Option.some Jvm.ClassFile.FieldType.int)) ∈ lw_all := lw_g (lw_at lw_m6 143 rfl) rfl
theorem q1398 : (Jvm.Cond.instanceMethod ({ cls := "DebtFerryModel", name := "tell", desc := "(I)I" } : Jvm.MethodName)) ∈ lw_all := lw_g (lw_at lw_m6 145 rfl) rfl
theorem q1399 : (Jvm.Cond.selects "DebtFerryModel" ({ cls := "DebtFerryModel", name := "tell", desc := "(I)I" } : Jvm.MethodName) ({ cls := "DebtFerryModel", name := "tell", desc := "(I)I" } : Jvm.MethodName)) ∈ lw_all := lw_g (lw_at lw_m6 146 rfl) rfl
theorem q1400 : (Jvm.Cond.code ({ cls := "DebtFerryModel", name := "tell", desc := "(I)I" } : Jvm.MethodName) prog_15_method_55_code (3 : Nat) (Option.some Jvm.ClassFile.FieldType.int)) ∈ lw_all := lw_g (lw_at lw_m6 147 rfl) rfl
theorem q1401 : (Jvm.Cond.methodLink "DebtFerryModel" (192 : Nat) ({ cls := "DebtFerryModel", name := "begins", desc := "(I)V" } : Jvm.MethodName)) ∈ lw_all := lw_g (lw_at lw_m6 148 rfl) rfl
theorem q1402 : (Jvm.Cond.privateMethod ({ cls := "DebtFerryModel", name := "begins", desc := "(I)V" } : Jvm.MethodName)) ∈ lw_tbl := lw_at lw_m6 149 rfl
theorem q1403 : (Jvm.Cond.instanceMethod ({ cls := "DebtFerryModel", name := "begins", desc := "(I)V" } : Jvm.MethodName)) ∈ lw_all := lw_g (lw_at lw_m6 150 rfl) rfl
theorem q1404 : (Jvm.Cond.code ({ cls := "DebtFerryModel", name := "begins", desc := "(I)V" } : Jvm.MethodName) prog_15_method_54_code (2 : Nat) (Option.none : Option Jvm.ClassFile.FieldType)) ∈ lw_all := lw_g (lw_at lw_m6 151 rfl) rfl
theorem q1406 : (Jvm.Cond.instanceMethod ({ cls := "DebtFerryModel", name := "hail", desc := "(I)I" } : Jvm.MethodName)) ∈ lw_all := lw_g (lw_at lw_m6 153 rfl) rfl
theorem q1407 : (Jvm.Cond.selects "DebtFerryModel" ({ cls := "DebtFerryModel", name := "hail", desc := "(I)I" } : Jvm.MethodName) ({ cls := "DebtFerryModel", name := "hail", desc := "(I)I" } : Jvm.MethodName)) ∈ lw_all := lw_g (lw_at lw_m6 154 rfl) rfl
theorem q1408 : (Jvm.Cond.code ({ cls := "DebtFerryModel", name := "hail", desc := "(I)I" } : Jvm.MethodName) prog_15_method_56_code (2 : Nat) (Option.some Jvm.ClassFile.FieldType.int)) ∈ lw_all := lw_g (lw_at lw_m6 155 rfl) rfl
theorem q1410 : (Jvm.Cond.instanceMethod ({ cls := "DebtFerryModel", name := "as", desc := "(II)I" } : Jvm.MethodName)) ∈ lw_all := lw_g (lw_at lw_m6 157 rfl) rfl
theorem q1411 : (Jvm.Cond.selects "DebtFerryModel" ({ cls := "DebtFerryModel", name := "as", desc := "(II)I" } : Jvm.MethodName) ({ cls := "DebtFerryModel", name := "as", desc := "(II)I" } : Jvm.MethodName)) ∈ lw_all := lw_g (lw_at lw_m6 158 rfl) rfl
theorem q1412 : (Jvm.Cond.code ({ cls := "DebtFerryModel", name := "as", desc := "(II)I" } : Jvm.MethodName) prog_15_method_57_code (3 : Nat) (Option.some Jvm.ClassFile.FieldType.int)) ∈ lw_all := lw_g (lw_at lw_m6 159 rfl) rfl
theorem q1414 : (Jvm.Cond.instanceMethod ({ cls := "DebtFerryModel", name := "trace", desc := "()I" } : Jvm.MethodName)) ∈ lw_all := lw_g (lw_at lw_m6 161 rfl) rfl
theorem q1415 : (Jvm.Cond.selects "DebtFerryModel" ({ cls := "DebtFerryModel", name := "trace", desc := "()I" } : Jvm.MethodName) ({ cls := "DebtFerryModel", name := "trace", desc := "()I" } : Jvm.MethodName)) ∈ lw_all := lw_g (lw_at lw_m6 162 rfl) rfl
theorem q1416 : (Jvm.Cond.code ({ cls := "DebtFerryModel", name := "trace", desc := "()I" } : Jvm.MethodName) prog_15_method_58_code (1 : Nat) (Option.some Jvm.ClassFile.FieldType.int)) ∈ lw_all := lw_g (lw_at lw_m6 163 rfl) rfl
theorem q1418 : (Jvm.Cond.instanceMethod ({ cls := "DebtFerryModel", name := "fault", desc := "()I" } : Jvm.MethodName)) ∈ lw_all := lw_g (lw_at lw_m6 165 rfl) rfl
theorem q1419 : (Jvm.Cond.selects "DebtFerryModel" ({ cls := "DebtFerryModel", name := "fault", desc := "()I" } : Jvm.MethodName) ({ cls := "DebtFerryModel", name := "fault", desc := "()I" } : Jvm.MethodName)) ∈ lw_all := lw_g (lw_at lw_m6 166 rfl) rfl
theorem q1420 : (Jvm.Cond.code ({ cls := "DebtFerryModel", name := "fault", desc := "()I" } : Jvm.MethodName) prog_15_method_59_code (1 : Nat) (Option.some Jvm.ClassFile.FieldType.int)) ∈ lw_all := lw_g (lw_at lw_m6 167 rfl) rfl
theorem q1422 : (Jvm.Cond.instanceMethod ({ cls := "DebtFerryModel", name := "many", desc := "(I)I" } : Jvm.MethodName)) ∈ lw_all := lw_g (lw_at lw_m6 169 rfl) rfl
theorem q1423 : (Jvm.Cond.selects "DebtFerryModel" ({ cls := "DebtFerryModel", name := "many", desc := "(I)I" } : Jvm.MethodName) ({ cls := "DebtFerryModel", name := "many", desc := "(I)I" } : Jvm.MethodName)) ∈ lw_all := lw_g (lw_at lw_m6 170 rfl) rfl
theorem q1424 : (Jvm.Cond.code ({ cls := "DebtFerryModel", name := "many", desc := "(I)I" } : Jvm.MethodName) prog_15_method_60_code (2 : Nat) (Option.some Jvm.ClassFile.FieldType.int)) ∈ lw_all := lw_g (lw_at lw_m6 171 rfl) rfl
theorem q1441 : (Jvm.Cond.castable "DebtFerryModel" "java/lang/Object") ∈ lw_tbl := lw_at lw_m6 188 rfl
theorem in_X1 : ∀ w ∈ wsX10, w ∈ lw_all := lw_in wsX10 [1139, 1141, 1143, 1145, 1147, 1149, 1151, 1153, 1155, 1157, 1159, 1161, 1163, 1165, 1167, 1169, 1171, 1173, 1175, 1177, 1179, 1181, 1183, 1185, 1187, 1189, 1191, 1193, 1195] (by decide +kernel) (by decide +kernel)
