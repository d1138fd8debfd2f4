/-! GargoyleCopyistsModel -/
set_option maxRecDepth 100000
def RX4 : String := "GargoyleCopyistsModel"
def TX4 : u_T := fun k => match k with
  | 0 => ("GargoyleCopyistsModel", "g", "[I", true)
  | 1 => ("GargoyleCopyistsModel", "before", "[I", true)
  | 2 => ("GargoyleCopyistsModel", "history", "[I", true)
  | 3 => ("GargoyleCopyistsModel", "changes", "I", false)
  | 4 => ("GargoyleCopyistsModel", "saved", "[I", true)
  | 5 => ("GargoyleCopyistsModel", "hasSaved", "Z", false)
  | 6 => ("GargoyleCopyistsModel", "input", "[C", true)
  | 7 => ("GargoyleCopyistsModel", "typed", "I", false)
  | 8 => ("GargoyleCopyistsModel", "why", "I", false)
  | 9 => ("GargoyleCopyistsModel", "whyDetail", "I", false)
  | 10 => ("GargoyleCopyistsModel", "line", "[C", true)
  | 11 => ("GargoyleCopyistsModel", "lined", "I", false)
  | 12 => ("GargoyleCopyistsModel", "place", "I", false)
  | 13 => ("GargoyleCopyistsModel", "isWrong", "Z", false)
  | _ => ("GargoyleCopyistsModel", "told", "[I", true)
def tyX4 : Nat → FieldType := fun k => match k with
  | 0 => .array .int
  | 1 => .array .int
  | 2 => .array .int
  | 3 => .int
  | 4 => .array .int
  | 5 => .boolean
  | 6 => .array .char
  | 7 => .int
  | 8 => .int
  | 9 => .int
  | 10 => .array .char
  | 11 => .int
  | 12 => .int
  | 13 => .boolean
  | _ => .array .int
abbrev wsX40 : List Cond := u_ws RX4 TX4 15
set_option maxRecDepth 100000 in
theorem nmX4 : ∀ a, a < 15 → ∀ b, b < 15 → a ≠ b → (TX4 a).2.1 ≠ (TX4 b).2.1 := by decide +kernel
set_option maxRecDepth 100000 in
theorem tyX4_ok : ∀ k, k < 15 → parseFieldDescriptor (TX4 k).2.2.1 = some (tyX4 k) := by decide +kernel
abbrev cX4_init : ByteArray := prog_17_method_1_code
def yX4_init : MethodName := ⟨RX4, "<init>", "()V"⟩
def dkwX4_init_4 : List UInt8 := [16, 8, 27, 96, 5, 79, 42, 180, 0, 7, 16, 44, 27, 96, 2, 79, 132, 1, 1, 167, 255, 227, 177]
abbrev dktX4_init_4 : List UInt8 := dkwX4_init_4 ++ []
def dkwX4_init_3 : List UInt8 := [6, 16, 12, 79, 42, 180, 0, 7, 7, 16, 20, 79, 3, 60, 27, 16, 6, 162, 0, 29, 42, 180, 0, 7]
abbrev dktX4_init_3 : List UInt8 := dkwX4_init_3 ++ dktX4_init_4
def dkwX4_init_2 : List UInt8 := [181, 0, 22, 42, 16, 40, 188, 5, 181, 0, 26, 42, 17, 0, 240, 188, 10, 181, 0, 29, 42, 180, 0, 7]
abbrev dktX4_init_2 : List UInt8 := dkwX4_init_2 ++ dktX4_init_3
def dkwX4_init_1 : List UInt8 := [17, 9, 176, 188, 10, 181, 0, 16, 42, 17, 1, 54, 188, 10, 181, 0, 19, 42, 16, 60, 188, 5]
abbrev dktX4_init_1 : List UInt8 := dkwX4_init_1 ++ dktX4_init_2
def dkwX4_init_0 : List UInt8 := [42, 183, 0, 1, 42, 17, 1, 54, 188, 10, 181, 0, 7, 42, 17, 1, 54, 188, 10, 181, 0, 13, 42]
abbrev dktX4_init_0 : List UInt8 := dkwX4_init_0 ++ dktX4_init_1
theorem dksX4_init_0 : cX4_init.data.toList.drop 0 = dktX4_init_0 := by decide +kernel
theorem dksX4_init_1 : cX4_init.data.toList.drop 23 = dktX4_init_1 := dk_seg dksX4_init_0 23 rfl rfl
theorem dksX4_init_2 : cX4_init.data.toList.drop 45 = dktX4_init_2 := dk_seg dksX4_init_1 22 rfl rfl
theorem dksX4_init_3 : cX4_init.data.toList.drop 69 = dktX4_init_3 := dk_seg dksX4_init_2 24 rfl rfl
theorem dksX4_init_4 : cX4_init.data.toList.drop 93 = dktX4_init_4 := dk_seg dksX4_init_3 24 rfl rfl
theorem dX4_init_0 : decode cX4_init 0 = .ok (.aload_n 0, 1) := dk_42 (dk_at dksX4_init_0 0 rfl rfl)
theorem dX4_init_1 : decode cX4_init 1 = .ok (.invokespecial 1, 3) := dk_183 0 1 (dk_at dksX4_init_0 1 rfl rfl)
theorem dX4_init_4 : decode cX4_init 4 = .ok (.aload_n 0, 1) := dk_42 (dk_at dksX4_init_0 4 rfl rfl)
theorem dX4_init_5 : decode cX4_init 5 = .ok (.sipush 310, 3) := dk_17 1 54 (dk_at dksX4_init_0 5 rfl rfl)
theorem dX4_init_8 : decode cX4_init 8 = .ok (.newarray .int, 2) := dk_188_10 (dk_at dksX4_init_0 8 rfl rfl)
theorem dX4_init_10 : decode cX4_init 10 = .ok (.putfield 7, 3) := dk_181 0 7 (dk_at dksX4_init_0 10 rfl rfl)
theorem dX4_init_13 : decode cX4_init 13 = .ok (.aload_n 0, 1) := dk_42 (dk_at dksX4_init_0 13 rfl rfl)
theorem dX4_init_14 : decode cX4_init 14 = .ok (.sipush 310, 3) := dk_17 1 54 (dk_at dksX4_init_0 14 rfl rfl)
theorem dX4_init_17 : decode cX4_init 17 = .ok (.newarray .int, 2) := dk_188_10 (dk_at dksX4_init_0 17 rfl rfl)
theorem dX4_init_19 : decode cX4_init 19 = .ok (.putfield 13, 3) := dk_181 0 13 (dk_at dksX4_init_0 19 rfl rfl)
theorem dX4_init_22 : decode cX4_init 22 = .ok (.aload_n 0, 1) := dk_42 (dk_at dksX4_init_0 22 rfl rfl)
theorem dX4_init_23 : decode cX4_init 23 = .ok (.sipush 2480, 3) := dk_17 9 176 (dk_at dksX4_init_1 0 rfl rfl)
theorem dX4_init_26 : decode cX4_init 26 = .ok (.newarray .int, 2) := dk_188_10 (dk_at dksX4_init_1 3 rfl rfl)
theorem dX4_init_28 : decode cX4_init 28 = .ok (.putfield 16, 3) := dk_181 0 16 (dk_at dksX4_init_1 5 rfl rfl)
theorem dX4_init_31 : decode cX4_init 31 = .ok (.aload_n 0, 1) := dk_42 (dk_at dksX4_init_1 8 rfl rfl)
theorem dX4_init_32 : decode cX4_init 32 = .ok (.sipush 310, 3) := dk_17 1 54 (dk_at dksX4_init_1 9 rfl rfl)
theorem dX4_init_35 : decode cX4_init 35 = .ok (.newarray .int, 2) := dk_188_10 (dk_at dksX4_init_1 12 rfl rfl)
theorem dX4_init_37 : decode cX4_init 37 = .ok (.putfield 19, 3) := dk_181 0 19 (dk_at dksX4_init_1 14 rfl rfl)
theorem dX4_init_40 : decode cX4_init 40 = .ok (.aload_n 0, 1) := dk_42 (dk_at dksX4_init_1 17 rfl rfl)
theorem dX4_init_41 : decode cX4_init 41 = .ok (.bipush 60, 2) := dk_16 60 (dk_at dksX4_init_1 18 rfl rfl)
theorem dX4_init_43 : decode cX4_init 43 = .ok (.newarray .char, 2) := dk_188_5 (dk_at dksX4_init_1 20 rfl rfl)
theorem dX4_init_45 : decode cX4_init 45 = .ok (.putfield 22, 3) := dk_181 0 22 (dk_at dksX4_init_2 0 rfl rfl)
theorem dX4_init_48 : decode cX4_init 48 = .ok (.aload_n 0, 1) := dk_42 (dk_at dksX4_init_2 3 rfl rfl)
theorem dX4_init_49 : decode cX4_init 49 = .ok (.bipush 40, 2) := dk_16 40 (dk_at dksX4_init_2 4 rfl rfl)
theorem dX4_init_51 : decode cX4_init 51 = .ok (.newarray .char, 2) := dk_188_5 (dk_at dksX4_init_2 6 rfl rfl)
theorem dX4_init_53 : decode cX4_init 53 = .ok (.putfield 26, 3) := dk_181 0 26 (dk_at dksX4_init_2 8 rfl rfl)
theorem dX4_init_56 : decode cX4_init 56 = .ok (.aload_n 0, 1) := dk_42 (dk_at dksX4_init_2 11 rfl rfl)
theorem dX4_init_57 : decode cX4_init 57 = .ok (.sipush 240, 3) := dk_17 0 240 (dk_at dksX4_init_2 12 rfl rfl)
theorem dX4_init_60 : decode cX4_init 60 = .ok (.newarray .int, 2) := dk_188_10 (dk_at dksX4_init_2 15 rfl rfl)
theorem dX4_init_62 : decode cX4_init 62 = .ok (.putfield 29, 3) := dk_181 0 29 (dk_at dksX4_init_2 17 rfl rfl)
theorem dX4_init_65 : decode cX4_init 65 = .ok (.aload_n 0, 1) := dk_42 (dk_at dksX4_init_2 20 rfl rfl)
theorem dX4_init_66 : decode cX4_init 66 = .ok (.getfield 7, 3) := dk_180 0 7 (dk_at dksX4_init_2 21 rfl rfl)
theorem dX4_init_69 : decode cX4_init 69 = .ok (.iconst 3, 1) := dk_6 (dk_at dksX4_init_3 0 rfl rfl)
theorem dX4_init_70 : decode cX4_init 70 = .ok (.bipush 12, 2) := dk_16 12 (dk_at dksX4_init_3 1 rfl rfl)
theorem dX4_init_72 : decode cX4_init 72 = .ok (.iastore, 1) := dk_79 (dk_at dksX4_init_3 3 rfl rfl)
theorem dX4_init_73 : decode cX4_init 73 = .ok (.aload_n 0, 1) := dk_42 (dk_at dksX4_init_3 4 rfl rfl)
theorem dX4_init_74 : decode cX4_init 74 = .ok (.getfield 7, 3) := dk_180 0 7 (dk_at dksX4_init_3 5 rfl rfl)
theorem dX4_init_77 : decode cX4_init 77 = .ok (.iconst 4, 1) := dk_7 (dk_at dksX4_init_3 8 rfl rfl)
theorem dX4_init_78 : decode cX4_init 78 = .ok (.bipush 20, 2) := dk_16 20 (dk_at dksX4_init_3 9 rfl rfl)
theorem dX4_init_80 : decode cX4_init 80 = .ok (.iastore, 1) := dk_79 (dk_at dksX4_init_3 11 rfl rfl)
theorem dX4_init_81 : decode cX4_init 81 = .ok (.iconst 0, 1) := dk_3 (dk_at dksX4_init_3 12 rfl rfl)
theorem dX4_init_82 : decode cX4_init 82 = .ok (.istore_n 1, 1) := dk_60 (dk_at dksX4_init_3 13 rfl rfl)
theorem dX4_init_83 : decode cX4_init 83 = .ok (.iload_n 1, 1) := dk_27 (dk_at dksX4_init_3 14 rfl rfl)
theorem dX4_init_84 : decode cX4_init 84 = .ok (.bipush 6, 2) := dk_16 6 (dk_at dksX4_init_3 15 rfl rfl)
theorem dX4_init_86 : decode cX4_init 86 = .ok (.if_icmp .ge 29, 3) := dk_162 0 29 (dk_at dksX4_init_3 17 rfl rfl)
theorem dX4_init_89 : decode cX4_init 89 = .ok (.aload_n 0, 1) := dk_42 (dk_at dksX4_init_3 20 rfl rfl)
theorem dX4_init_90 : decode cX4_init 90 = .ok (.getfield 7, 3) := dk_180 0 7 (dk_at dksX4_init_3 21 rfl rfl)
theorem dX4_init_93 : decode cX4_init 93 = .ok (.bipush 8, 2) := dk_16 8 (dk_at dksX4_init_4 0 rfl rfl)
theorem dX4_init_95 : decode cX4_init 95 = .ok (.iload_n 1, 1) := dk_27 (dk_at dksX4_init_4 2 rfl rfl)
theorem dX4_init_96 : decode cX4_init 96 = .ok (.iadd, 1) := dk_96 (dk_at dksX4_init_4 3 rfl rfl)
theorem dX4_init_97 : decode cX4_init 97 = .ok (.iconst 2, 1) := dk_5 (dk_at dksX4_init_4 4 rfl rfl)
theorem dX4_init_98 : decode cX4_init 98 = .ok (.iastore, 1) := dk_79 (dk_at dksX4_init_4 5 rfl rfl)
theorem dX4_init_99 : decode cX4_init 99 = .ok (.aload_n 0, 1) := dk_42 (dk_at dksX4_init_4 6 rfl rfl)
theorem dX4_init_100 : decode cX4_init 100 = .ok (.getfield 7, 3) := dk_180 0 7 (dk_at dksX4_init_4 7 rfl rfl)
theorem dX4_init_103 : decode cX4_init 103 = .ok (.bipush 44, 2) := dk_16 44 (dk_at dksX4_init_4 10 rfl rfl)
theorem dX4_init_105 : decode cX4_init 105 = .ok (.iload_n 1, 1) := dk_27 (dk_at dksX4_init_4 12 rfl rfl)
theorem dX4_init_106 : decode cX4_init 106 = .ok (.iadd, 1) := dk_96 (dk_at dksX4_init_4 13 rfl rfl)
theorem dX4_init_107 : decode cX4_init 107 = .ok (.iconst (-1), 1) := dk_2 (dk_at dksX4_init_4 14 rfl rfl)
theorem dX4_init_108 : decode cX4_init 108 = .ok (.iastore, 1) := dk_79 (dk_at dksX4_init_4 15 rfl rfl)
theorem dX4_init_109 : decode cX4_init 109 = .ok (.iinc 1 1, 3) := dk_132 1 1 (dk_at dksX4_init_4 16 rfl rfl)
theorem dX4_init_112 : decode cX4_init 112 = .ok (.goto (-29), 3) := dk_167 255 227 (dk_at dksX4_init_4 19 rfl rfl)
theorem dX4_init_115 : decode cX4_init 115 = .ok (.return_, 1) := dk_177 (dk_at dksX4_init_4 22 rfl rfl)
abbrev cX4_ledgeOf : ByteArray := prog_17_method_14_code
def yX4_ledgeOf : MethodName := ⟨RX4, "ledgeOf", "(II)I"⟩
def dkwX4_ledgeOf_4 : List UInt8 := [96, 46, 172, 42, 180, 0, 7, 16, 32, 16, 6, 28, 8, 100, 104, 96, 27, 96, 46, 172, 16, 244, 172]
abbrev dktX4_ledgeOf_4 : List UInt8 := dkwX4_ledgeOf_4 ++ []
def dkwX4_ledgeOf_3 : List UInt8 := [180, 0, 7, 16, 44, 27, 96, 46, 2, 160, 0, 8, 16, 241, 167, 0, 12, 42, 180, 0, 7, 16, 44, 27]
abbrev dktX4_ledgeOf_3 : List UInt8 := dkwX4_ledgeOf_3 ++ dktX4_ledgeOf_4
def dkwX4_ledgeOf_2 : List UInt8 := [27, 184, 0, 54, 172, 42, 180, 0, 7, 16, 8, 16, 6, 28, 4, 100, 104, 96, 27, 96, 46, 172, 42]
abbrev dktX4_ledgeOf_2 : List UInt8 := dkwX4_ledgeOf_2 ++ dktX4_ledgeOf_3
def dkwX4_ledgeOf_1 : List UInt8 := [170, 0, 0, 0, 108, 0, 0, 0, 0, 0, 0, 0, 6, 0, 0, 0, 41, 0, 0, 0, 46, 0, 0, 0, 46, 0, 0, 0, 46, 0, 0, 0, 63, 0, 0, 0, 91, 0, 0, 0, 91]
abbrev dktX4_ledgeOf_1 : List UInt8 := dkwX4_ledgeOf_1 ++ dktX4_ledgeOf_2
def dkwX4_ledgeOf_0 : List UInt8 := [27, 184, 0, 50, 154, 0, 6, 16, 245, 172, 28]
abbrev dktX4_ledgeOf_0 : List UInt8 := dkwX4_ledgeOf_0 ++ dktX4_ledgeOf_1
theorem dksX4_ledgeOf_0 : cX4_ledgeOf.data.toList.drop 0 = dktX4_ledgeOf_0 := by decide +kernel
theorem dksX4_ledgeOf_1 : cX4_ledgeOf.data.toList.drop 11 = dktX4_ledgeOf_1 := dk_seg dksX4_ledgeOf_0 11 rfl rfl
theorem dksX4_ledgeOf_2 : cX4_ledgeOf.data.toList.drop 52 = dktX4_ledgeOf_2 := dk_seg dksX4_ledgeOf_1 41 rfl rfl
theorem dksX4_ledgeOf_3 : cX4_ledgeOf.data.toList.drop 75 = dktX4_ledgeOf_3 := dk_seg dksX4_ledgeOf_2 23 rfl rfl
theorem dksX4_ledgeOf_4 : cX4_ledgeOf.data.toList.drop 99 = dktX4_ledgeOf_4 := dk_seg dksX4_ledgeOf_3 24 rfl rfl
theorem dX4_ledgeOf_0 : decode cX4_ledgeOf 0 = .ok (.iload_n 1, 1) := dk_27 (dk_at dksX4_ledgeOf_0 0 rfl rfl)
theorem dX4_ledgeOf_1 : decode cX4_ledgeOf 1 = .ok (.invokestatic 50, 3) := dk_184 0 50 (dk_at dksX4_ledgeOf_0 1 rfl rfl)
theorem dX4_ledgeOf_4 : decode cX4_ledgeOf 4 = .ok (.ifCond .ne 6, 3) := dk_154 0 6 (dk_at dksX4_ledgeOf_0 4 rfl rfl)
theorem dX4_ledgeOf_7 : decode cX4_ledgeOf 7 = .ok (.bipush (-11), 2) := dk_16 245 (dk_at dksX4_ledgeOf_0 7 rfl rfl)
theorem dX4_ledgeOf_9 : decode cX4_ledgeOf 9 = .ok (.ireturn, 1) := dk_172 (dk_at dksX4_ledgeOf_0 9 rfl rfl)
theorem dX4_ledgeOf_10 : decode cX4_ledgeOf 10 = .ok (.iload_n 2, 1) := dk_28 (dk_at dksX4_ledgeOf_0 10 rfl rfl)
theorem dX4_ledgeOf_11 : decode cX4_ledgeOf 11 = .ok (.tableswitch 108 0 6 #[41, 46, 46, 46, 63, 91, 91], 41) := by decide +kernel
theorem dX4_ledgeOf_52 : decode cX4_ledgeOf 52 = .ok (.iload_n 1, 1) := dk_27 (dk_at dksX4_ledgeOf_2 0 rfl rfl)
theorem dX4_ledgeOf_53 : decode cX4_ledgeOf 53 = .ok (.invokestatic 54, 3) := dk_184 0 54 (dk_at dksX4_ledgeOf_2 1 rfl rfl)
theorem dX4_ledgeOf_56 : decode cX4_ledgeOf 56 = .ok (.ireturn, 1) := dk_172 (dk_at dksX4_ledgeOf_2 4 rfl rfl)
theorem dX4_ledgeOf_57 : decode cX4_ledgeOf 57 = .ok (.aload_n 0, 1) := dk_42 (dk_at dksX4_ledgeOf_2 5 rfl rfl)
theorem dX4_ledgeOf_58 : decode cX4_ledgeOf 58 = .ok (.getfield 7, 3) := dk_180 0 7 (dk_at dksX4_ledgeOf_2 6 rfl rfl)
theorem dX4_ledgeOf_61 : decode cX4_ledgeOf 61 = .ok (.bipush 8, 2) := dk_16 8 (dk_at dksX4_ledgeOf_2 9 rfl rfl)
theorem dX4_ledgeOf_63 : decode cX4_ledgeOf 63 = .ok (.bipush 6, 2) := dk_16 6 (dk_at dksX4_ledgeOf_2 11 rfl rfl)
theorem dX4_ledgeOf_65 : decode cX4_ledgeOf 65 = .ok (.iload_n 2, 1) := dk_28 (dk_at dksX4_ledgeOf_2 13 rfl rfl)
theorem dX4_ledgeOf_66 : decode cX4_ledgeOf 66 = .ok (.iconst 1, 1) := dk_4 (dk_at dksX4_ledgeOf_2 14 rfl rfl)
theorem dX4_ledgeOf_67 : decode cX4_ledgeOf 67 = .ok (.isub, 1) := dk_100 (dk_at dksX4_ledgeOf_2 15 rfl rfl)
theorem dX4_ledgeOf_68 : decode cX4_ledgeOf 68 = .ok (.imul, 1) := dk_104 (dk_at dksX4_ledgeOf_2 16 rfl rfl)
theorem dX4_ledgeOf_69 : decode cX4_ledgeOf 69 = .ok (.iadd, 1) := dk_96 (dk_at dksX4_ledgeOf_2 17 rfl rfl)
theorem dX4_ledgeOf_70 : decode cX4_ledgeOf 70 = .ok (.iload_n 1, 1) := dk_27 (dk_at dksX4_ledgeOf_2 18 rfl rfl)
theorem dX4_ledgeOf_71 : decode cX4_ledgeOf 71 = .ok (.iadd, 1) := dk_96 (dk_at dksX4_ledgeOf_2 19 rfl rfl)
theorem dX4_ledgeOf_72 : decode cX4_ledgeOf 72 = .ok (.iaload, 1) := dk_46 (dk_at dksX4_ledgeOf_2 20 rfl rfl)
theorem dX4_ledgeOf_73 : decode cX4_ledgeOf 73 = .ok (.ireturn, 1) := dk_172 (dk_at dksX4_ledgeOf_2 21 rfl rfl)
theorem dX4_ledgeOf_74 : decode cX4_ledgeOf 74 = .ok (.aload_n 0, 1) := dk_42 (dk_at dksX4_ledgeOf_2 22 rfl rfl)
theorem dX4_ledgeOf_75 : decode cX4_ledgeOf 75 = .ok (.getfield 7, 3) := dk_180 0 7 (dk_at dksX4_ledgeOf_3 0 rfl rfl)
theorem dX4_ledgeOf_78 : decode cX4_ledgeOf 78 = .ok (.bipush 44, 2) := dk_16 44 (dk_at dksX4_ledgeOf_3 3 rfl rfl)
theorem dX4_ledgeOf_80 : decode cX4_ledgeOf 80 = .ok (.iload_n 1, 1) := dk_27 (dk_at dksX4_ledgeOf_3 5 rfl rfl)
theorem dX4_ledgeOf_81 : decode cX4_ledgeOf 81 = .ok (.iadd, 1) := dk_96 (dk_at dksX4_ledgeOf_3 6 rfl rfl)
theorem dX4_ledgeOf_82 : decode cX4_ledgeOf 82 = .ok (.iaload, 1) := dk_46 (dk_at dksX4_ledgeOf_3 7 rfl rfl)
theorem dX4_ledgeOf_83 : decode cX4_ledgeOf 83 = .ok (.iconst (-1), 1) := dk_2 (dk_at dksX4_ledgeOf_3 8 rfl rfl)
theorem dX4_ledgeOf_84 : decode cX4_ledgeOf 84 = .ok (.if_icmp .ne 8, 3) := dk_160 0 8 (dk_at dksX4_ledgeOf_3 9 rfl rfl)
theorem dX4_ledgeOf_87 : decode cX4_ledgeOf 87 = .ok (.bipush (-15), 2) := dk_16 241 (dk_at dksX4_ledgeOf_3 12 rfl rfl)
theorem dX4_ledgeOf_89 : decode cX4_ledgeOf 89 = .ok (.goto 12, 3) := dk_167 0 12 (dk_at dksX4_ledgeOf_3 14 rfl rfl)
theorem dX4_ledgeOf_92 : decode cX4_ledgeOf 92 = .ok (.aload_n 0, 1) := dk_42 (dk_at dksX4_ledgeOf_3 17 rfl rfl)
theorem dX4_ledgeOf_93 : decode cX4_ledgeOf 93 = .ok (.getfield 7, 3) := dk_180 0 7 (dk_at dksX4_ledgeOf_3 18 rfl rfl)
theorem dX4_ledgeOf_96 : decode cX4_ledgeOf 96 = .ok (.bipush 44, 2) := dk_16 44 (dk_at dksX4_ledgeOf_3 21 rfl rfl)
theorem dX4_ledgeOf_98 : decode cX4_ledgeOf 98 = .ok (.iload_n 1, 1) := dk_27 (dk_at dksX4_ledgeOf_3 23 rfl rfl)
theorem dX4_ledgeOf_99 : decode cX4_ledgeOf 99 = .ok (.iadd, 1) := dk_96 (dk_at dksX4_ledgeOf_4 0 rfl rfl)
theorem dX4_ledgeOf_100 : decode cX4_ledgeOf 100 = .ok (.iaload, 1) := dk_46 (dk_at dksX4_ledgeOf_4 1 rfl rfl)
theorem dX4_ledgeOf_101 : decode cX4_ledgeOf 101 = .ok (.ireturn, 1) := dk_172 (dk_at dksX4_ledgeOf_4 2 rfl rfl)
theorem dX4_ledgeOf_102 : decode cX4_ledgeOf 102 = .ok (.aload_n 0, 1) := dk_42 (dk_at dksX4_ledgeOf_4 3 rfl rfl)
theorem dX4_ledgeOf_103 : decode cX4_ledgeOf 103 = .ok (.getfield 7, 3) := dk_180 0 7 (dk_at dksX4_ledgeOf_4 4 rfl rfl)
theorem dX4_ledgeOf_106 : decode cX4_ledgeOf 106 = .ok (.bipush 32, 2) := dk_16 32 (dk_at dksX4_ledgeOf_4 7 rfl rfl)
theorem dX4_ledgeOf_108 : decode cX4_ledgeOf 108 = .ok (.bipush 6, 2) := dk_16 6 (dk_at dksX4_ledgeOf_4 9 rfl rfl)
theorem dX4_ledgeOf_110 : decode cX4_ledgeOf 110 = .ok (.iload_n 2, 1) := dk_28 (dk_at dksX4_ledgeOf_4 11 rfl rfl)
theorem dX4_ledgeOf_111 : decode cX4_ledgeOf 111 = .ok (.iconst 5, 1) := dk_8 (dk_at dksX4_ledgeOf_4 12 rfl rfl)
theorem dX4_ledgeOf_112 : decode cX4_ledgeOf 112 = .ok (.isub, 1) := dk_100 (dk_at dksX4_ledgeOf_4 13 rfl rfl)
theorem dX4_ledgeOf_113 : decode cX4_ledgeOf 113 = .ok (.imul, 1) := dk_104 (dk_at dksX4_ledgeOf_4 14 rfl rfl)
theorem dX4_ledgeOf_114 : decode cX4_ledgeOf 114 = .ok (.iadd, 1) := dk_96 (dk_at dksX4_ledgeOf_4 15 rfl rfl)
theorem dX4_ledgeOf_115 : decode cX4_ledgeOf 115 = .ok (.iload_n 1, 1) := dk_27 (dk_at dksX4_ledgeOf_4 16 rfl rfl)
theorem dX4_ledgeOf_116 : decode cX4_ledgeOf 116 = .ok (.iadd, 1) := dk_96 (dk_at dksX4_ledgeOf_4 17 rfl rfl)
theorem dX4_ledgeOf_117 : decode cX4_ledgeOf 117 = .ok (.iaload, 1) := dk_46 (dk_at dksX4_ledgeOf_4 18 rfl rfl)
theorem dX4_ledgeOf_118 : decode cX4_ledgeOf 118 = .ok (.ireturn, 1) := dk_172 (dk_at dksX4_ledgeOf_4 19 rfl rfl)
theorem dX4_ledgeOf_119 : decode cX4_ledgeOf 119 = .ok (.bipush (-12), 2) := dk_16 244 (dk_at dksX4_ledgeOf_4 20 rfl rfl)
theorem dX4_ledgeOf_121 : decode cX4_ledgeOf 121 = .ok (.ireturn, 1) := dk_172 (dk_at dksX4_ledgeOf_4 22 rfl rfl)
abbrev cX4_isLedge : ByteArray := prog_17_method_8_code
def yX4_isLedge : MethodName := ⟨RX4, "isLedge", "(I)Z"⟩
def dkwX4_isLedge_0 : List UInt8 := [26, 3, 8, 184, 0, 46, 172]
abbrev dktX4_isLedge_0 : List UInt8 := dkwX4_isLedge_0 ++ []
theorem dksX4_isLedge_0 : cX4_isLedge.data.toList.drop 0 = dktX4_isLedge_0 := by decide +kernel
theorem dX4_isLedge_0 : decode cX4_isLedge 0 = .ok (.iload_n 0, 1) := dk_26 (dk_at dksX4_isLedge_0 0 rfl rfl)
theorem dX4_isLedge_1 : decode cX4_isLedge 1 = .ok (.iconst 0, 1) := dk_3 (dk_at dksX4_isLedge_0 1 rfl rfl)
theorem dX4_isLedge_2 : decode cX4_isLedge 2 = .ok (.iconst 5, 1) := dk_8 (dk_at dksX4_isLedge_0 2 rfl rfl)
theorem dX4_isLedge_3 : decode cX4_isLedge 3 = .ok (.invokestatic 46, 3) := dk_184 0 46 (dk_at dksX4_isLedge_0 3 rfl rfl)
theorem dX4_isLedge_6 : decode cX4_isLedge 6 = .ok (.ireturn, 1) := dk_172 (dk_at dksX4_isLedge_0 6 rfl rfl)
abbrev cX4_in : ByteArray := prog_17_method_2_code
def yX4_in : MethodName := ⟨RX4, "in", "(III)Z"⟩
def dkwX4_in_0 : List UInt8 := [26, 27, 161, 0, 12, 26, 28, 163, 0, 7, 4, 167, 0, 4, 3, 172]
abbrev dktX4_in_0 : List UInt8 := dkwX4_in_0 ++ []
theorem dksX4_in_0 : cX4_in.data.toList.drop 0 = dktX4_in_0 := by decide +kernel
theorem dX4_in_0 : decode cX4_in 0 = .ok (.iload_n 0, 1) := dk_26 (dk_at dksX4_in_0 0 rfl rfl)
theorem dX4_in_1 : decode cX4_in 1 = .ok (.iload_n 1, 1) := dk_27 (dk_at dksX4_in_0 1 rfl rfl)
theorem dX4_in_2 : decode cX4_in 2 = .ok (.if_icmp .lt 12, 3) := dk_161 0 12 (dk_at dksX4_in_0 2 rfl rfl)
theorem dX4_in_5 : decode cX4_in 5 = .ok (.iload_n 0, 1) := dk_26 (dk_at dksX4_in_0 5 rfl rfl)
theorem dX4_in_6 : decode cX4_in 6 = .ok (.iload_n 2, 1) := dk_28 (dk_at dksX4_in_0 6 rfl rfl)
theorem dX4_in_7 : decode cX4_in 7 = .ok (.if_icmp .gt 7, 3) := dk_163 0 7 (dk_at dksX4_in_0 7 rfl rfl)
theorem dX4_in_10 : decode cX4_in 10 = .ok (.iconst 1, 1) := dk_4 (dk_at dksX4_in_0 10 rfl rfl)
theorem dX4_in_11 : decode cX4_in 11 = .ok (.goto 4, 3) := dk_167 0 4 (dk_at dksX4_in_0 11 rfl rfl)
theorem dX4_in_14 : decode cX4_in 14 = .ok (.iconst 0, 1) := dk_3 (dk_at dksX4_in_0 14 rfl rfl)
theorem dX4_in_15 : decode cX4_in 15 = .ok (.ireturn, 1) := dk_172 (dk_at dksX4_in_0 15 rfl rfl)
abbrev cX4_heightOf : ByteArray := prog_17_method_13_code
def yX4_heightOf : MethodName := ⟨RX4, "heightOf", "(I)I"⟩
def dkwX4_heightOf_0 : List UInt8 := [7, 6, 26, 104, 96, 172]
abbrev dktX4_heightOf_0 : List UInt8 := dkwX4_heightOf_0 ++ []
theorem dksX4_heightOf_0 : cX4_heightOf.data.toList.drop 0 = dktX4_heightOf_0 := by decide +kernel
theorem dX4_heightOf_0 : decode cX4_heightOf 0 = .ok (.iconst 4, 1) := dk_7 (dk_at dksX4_heightOf_0 0 rfl rfl)
theorem dX4_heightOf_1 : decode cX4_heightOf 1 = .ok (.iconst 3, 1) := dk_6 (dk_at dksX4_heightOf_0 1 rfl rfl)
theorem dX4_heightOf_2 : decode cX4_heightOf 2 = .ok (.iload_n 0, 1) := dk_26 (dk_at dksX4_heightOf_0 2 rfl rfl)
theorem dX4_heightOf_3 : decode cX4_heightOf 3 = .ok (.imul, 1) := dk_104 (dk_at dksX4_heightOf_0 3 rfl rfl)
theorem dX4_heightOf_4 : decode cX4_heightOf 4 = .ok (.iadd, 1) := dk_96 (dk_at dksX4_heightOf_0 4 rfl rfl)
theorem dX4_heightOf_5 : decode cX4_heightOf 5 = .ok (.ireturn, 1) := dk_172 (dk_at dksX4_heightOf_0 5 rfl rfl)
abbrev cX4_depth : ByteArray := prog_17_method_16_code
def yX4_depth : MethodName := ⟨RX4, "depth", "(II)I"⟩
def dkwX4_depth_1 : List UInt8 := [16, 245, 172]
abbrev dktX4_depth_1 : List UInt8 := dkwX4_depth_1 ++ []
def dkwX4_depth_0 : List UInt8 := [27, 184, 0, 50, 153, 0, 19, 28, 184, 0, 58, 153, 0, 12, 42, 27, 28, 182, 0, 61, 167, 0, 5]
abbrev dktX4_depth_0 : List UInt8 := dkwX4_depth_0 ++ dktX4_depth_1
theorem dksX4_depth_0 : cX4_depth.data.toList.drop 0 = dktX4_depth_0 := by decide +kernel
theorem dksX4_depth_1 : cX4_depth.data.toList.drop 23 = dktX4_depth_1 := dk_seg dksX4_depth_0 23 rfl rfl
theorem dX4_depth_0 : decode cX4_depth 0 = .ok (.iload_n 1, 1) := dk_27 (dk_at dksX4_depth_0 0 rfl rfl)
theorem dX4_depth_1 : decode cX4_depth 1 = .ok (.invokestatic 50, 3) := dk_184 0 50 (dk_at dksX4_depth_0 1 rfl rfl)
theorem dX4_depth_4 : decode cX4_depth 4 = .ok (.ifCond .eq 19, 3) := dk_153 0 19 (dk_at dksX4_depth_0 4 rfl rfl)
theorem dX4_depth_7 : decode cX4_depth 7 = .ok (.iload_n 2, 1) := dk_28 (dk_at dksX4_depth_0 7 rfl rfl)
theorem dX4_depth_8 : decode cX4_depth 8 = .ok (.invokestatic 58, 3) := dk_184 0 58 (dk_at dksX4_depth_0 8 rfl rfl)
theorem dX4_depth_11 : decode cX4_depth 11 = .ok (.ifCond .eq 12, 3) := dk_153 0 12 (dk_at dksX4_depth_0 11 rfl rfl)
theorem dX4_depth_14 : decode cX4_depth 14 = .ok (.aload_n 0, 1) := dk_42 (dk_at dksX4_depth_0 14 rfl rfl)
theorem dX4_depth_15 : decode cX4_depth 15 = .ok (.iload_n 1, 1) := dk_27 (dk_at dksX4_depth_0 15 rfl rfl)
theorem dX4_depth_16 : decode cX4_depth 16 = .ok (.iload_n 2, 1) := dk_28 (dk_at dksX4_depth_0 16 rfl rfl)
theorem dX4_depth_17 : decode cX4_depth 17 = .ok (.invokevirtual 61, 3) := dk_182 0 61 (dk_at dksX4_depth_0 17 rfl rfl)
theorem dX4_depth_20 : decode cX4_depth 20 = .ok (.goto 5, 3) := dk_167 0 5 (dk_at dksX4_depth_0 20 rfl rfl)
theorem dX4_depth_23 : decode cX4_depth 23 = .ok (.bipush (-11), 2) := dk_16 245 (dk_at dksX4_depth_1 0 rfl rfl)
theorem dX4_depth_25 : decode cX4_depth 25 = .ok (.ireturn, 1) := dk_172 (dk_at dksX4_depth_1 2 rfl rfl)
abbrev cX4_isPoint : ByteArray := prog_17_method_9_code
def yX4_isPoint : MethodName := ⟨RX4, "isPoint", "(I)Z"⟩
def dkwX4_isPoint_0 : List UInt8 := [26, 3, 16, 9, 184, 0, 46, 172]
abbrev dktX4_isPoint_0 : List UInt8 := dkwX4_isPoint_0 ++ []
theorem dksX4_isPoint_0 : cX4_isPoint.data.toList.drop 0 = dktX4_isPoint_0 := by decide +kernel
theorem dX4_isPoint_0 : decode cX4_isPoint 0 = .ok (.iload_n 0, 1) := dk_26 (dk_at dksX4_isPoint_0 0 rfl rfl)
theorem dX4_isPoint_1 : decode cX4_isPoint 1 = .ok (.iconst 0, 1) := dk_3 (dk_at dksX4_isPoint_0 1 rfl rfl)
theorem dX4_isPoint_2 : decode cX4_isPoint 2 = .ok (.bipush 9, 2) := dk_16 9 (dk_at dksX4_isPoint_0 2 rfl rfl)
theorem dX4_isPoint_4 : decode cX4_isPoint 4 = .ok (.invokestatic 46, 3) := dk_184 0 46 (dk_at dksX4_isPoint_0 4 rfl rfl)
theorem dX4_isPoint_7 : decode cX4_isPoint 7 = .ok (.ireturn, 1) := dk_172 (dk_at dksX4_isPoint_0 7 rfl rfl)
abbrev cX4_depthOf : ByteArray := prog_17_method_15_code
def yX4_depthOf : MethodName := ⟨RX4, "depthOf", "(II)I"⟩
def dkwX4_depthOf_1 : List UInt8 := [100, 172]
abbrev dktX4_depthOf_1 : List UInt8 := dkwX4_depthOf_1 ++ []
def dkwX4_depthOf_0 : List UInt8 := [16, 9, 16, 11, 27, 104, 16, 7, 28, 104, 96, 16, 30, 112, 96, 42, 180, 0, 7, 16, 20, 27, 96, 46]
abbrev dktX4_depthOf_0 : List UInt8 := dkwX4_depthOf_0 ++ dktX4_depthOf_1
theorem dksX4_depthOf_0 : cX4_depthOf.data.toList.drop 0 = dktX4_depthOf_0 := by decide +kernel
theorem dksX4_depthOf_1 : cX4_depthOf.data.toList.drop 24 = dktX4_depthOf_1 := dk_seg dksX4_depthOf_0 24 rfl rfl
theorem dX4_depthOf_0 : decode cX4_depthOf 0 = .ok (.bipush 9, 2) := dk_16 9 (dk_at dksX4_depthOf_0 0 rfl rfl)
theorem dX4_depthOf_2 : decode cX4_depthOf 2 = .ok (.bipush 11, 2) := dk_16 11 (dk_at dksX4_depthOf_0 2 rfl rfl)
theorem dX4_depthOf_4 : decode cX4_depthOf 4 = .ok (.iload_n 1, 1) := dk_27 (dk_at dksX4_depthOf_0 4 rfl rfl)
theorem dX4_depthOf_5 : decode cX4_depthOf 5 = .ok (.imul, 1) := dk_104 (dk_at dksX4_depthOf_0 5 rfl rfl)
theorem dX4_depthOf_6 : decode cX4_depthOf 6 = .ok (.bipush 7, 2) := dk_16 7 (dk_at dksX4_depthOf_0 6 rfl rfl)
theorem dX4_depthOf_8 : decode cX4_depthOf 8 = .ok (.iload_n 2, 1) := dk_28 (dk_at dksX4_depthOf_0 8 rfl rfl)
theorem dX4_depthOf_9 : decode cX4_depthOf 9 = .ok (.imul, 1) := dk_104 (dk_at dksX4_depthOf_0 9 rfl rfl)
theorem dX4_depthOf_10 : decode cX4_depthOf 10 = .ok (.iadd, 1) := dk_96 (dk_at dksX4_depthOf_0 10 rfl rfl)
theorem dX4_depthOf_11 : decode cX4_depthOf 11 = .ok (.bipush 30, 2) := dk_16 30 (dk_at dksX4_depthOf_0 11 rfl rfl)
theorem dX4_depthOf_13 : decode cX4_depthOf 13 = .ok (.irem, 1) := dk_112 (dk_at dksX4_depthOf_0 13 rfl rfl)
theorem dX4_depthOf_14 : decode cX4_depthOf 14 = .ok (.iadd, 1) := dk_96 (dk_at dksX4_depthOf_0 14 rfl rfl)
theorem dX4_depthOf_15 : decode cX4_depthOf 15 = .ok (.aload_n 0, 1) := dk_42 (dk_at dksX4_depthOf_0 15 rfl rfl)
theorem dX4_depthOf_16 : decode cX4_depthOf 16 = .ok (.getfield 7, 3) := dk_180 0 7 (dk_at dksX4_depthOf_0 16 rfl rfl)
theorem dX4_depthOf_19 : decode cX4_depthOf 19 = .ok (.bipush 20, 2) := dk_16 20 (dk_at dksX4_depthOf_0 19 rfl rfl)
theorem dX4_depthOf_21 : decode cX4_depthOf 21 = .ok (.iload_n 1, 1) := dk_27 (dk_at dksX4_depthOf_0 21 rfl rfl)
theorem dX4_depthOf_22 : decode cX4_depthOf 22 = .ok (.iadd, 1) := dk_96 (dk_at dksX4_depthOf_0 22 rfl rfl)
theorem dX4_depthOf_23 : decode cX4_depthOf 23 = .ok (.iaload, 1) := dk_46 (dk_at dksX4_depthOf_0 23 rfl rfl)
theorem dX4_depthOf_24 : decode cX4_depthOf 24 = .ok (.isub, 1) := dk_100 (dk_at dksX4_depthOf_1 0 rfl rfl)
theorem dX4_depthOf_25 : decode cX4_depthOf 25 = .ok (.ireturn, 1) := dk_172 (dk_at dksX4_depthOf_1 1 rfl rfl)
abbrev cX4_sacks : ByteArray := prog_17_method_19_code
def yX4_sacks : MethodName := ⟨RX4, "sacks", "(I)I"⟩
def dkwX4_sacks_3 : List UInt8 := [6, 46, 182, 0, 77, 172]
abbrev dktX4_sacks_3 : List UInt8 := dkwX4_sacks_3 ++ []
def dkwX4_sacks_2 : List UInt8 := [16, 60, 164, 0, 8, 16, 60, 167, 0, 11, 42, 180, 0, 7, 6, 46, 27, 96, 79, 42, 42, 180, 0, 7]
abbrev dktX4_sacks_2 : List UInt8 := dkwX4_sacks_2 ++ dktX4_sacks_3
def dkwX4_sacks_1 : List UInt8 := [154, 0, 11, 42, 5, 27, 104, 182, 0, 74, 172, 42, 180, 0, 7, 6, 42, 180, 0, 7, 6, 46, 27, 96]
abbrev dktX4_sacks_1 : List UInt8 := dkwX4_sacks_1 ++ dktX4_sacks_2
def dkwX4_sacks_0 : List UInt8 := [27, 4, 16, 20, 184, 0, 46, 154, 0, 6, 16, 244, 172, 42, 182, 0, 68, 42, 5, 27, 104, 182, 0, 71]
abbrev dktX4_sacks_0 : List UInt8 := dkwX4_sacks_0 ++ dktX4_sacks_1
theorem dksX4_sacks_0 : cX4_sacks.data.toList.drop 0 = dktX4_sacks_0 := by decide +kernel
theorem dksX4_sacks_1 : cX4_sacks.data.toList.drop 24 = dktX4_sacks_1 := dk_seg dksX4_sacks_0 24 rfl rfl
theorem dksX4_sacks_2 : cX4_sacks.data.toList.drop 48 = dktX4_sacks_2 := dk_seg dksX4_sacks_1 24 rfl rfl
theorem dksX4_sacks_3 : cX4_sacks.data.toList.drop 72 = dktX4_sacks_3 := dk_seg dksX4_sacks_2 24 rfl rfl
theorem dX4_sacks_0 : decode cX4_sacks 0 = .ok (.iload_n 1, 1) := dk_27 (dk_at dksX4_sacks_0 0 rfl rfl)
theorem dX4_sacks_1 : decode cX4_sacks 1 = .ok (.iconst 1, 1) := dk_4 (dk_at dksX4_sacks_0 1 rfl rfl)
theorem dX4_sacks_2 : decode cX4_sacks 2 = .ok (.bipush 20, 2) := dk_16 20 (dk_at dksX4_sacks_0 2 rfl rfl)
theorem dX4_sacks_4 : decode cX4_sacks 4 = .ok (.invokestatic 46, 3) := dk_184 0 46 (dk_at dksX4_sacks_0 4 rfl rfl)
theorem dX4_sacks_7 : decode cX4_sacks 7 = .ok (.ifCond .ne 6, 3) := dk_154 0 6 (dk_at dksX4_sacks_0 7 rfl rfl)
theorem dX4_sacks_10 : decode cX4_sacks 10 = .ok (.bipush (-12), 2) := dk_16 244 (dk_at dksX4_sacks_0 10 rfl rfl)
theorem dX4_sacks_12 : decode cX4_sacks 12 = .ok (.ireturn, 1) := dk_172 (dk_at dksX4_sacks_0 12 rfl rfl)
theorem dX4_sacks_13 : decode cX4_sacks 13 = .ok (.aload_n 0, 1) := dk_42 (dk_at dksX4_sacks_0 13 rfl rfl)
theorem dX4_sacks_14 : decode cX4_sacks 14 = .ok (.invokevirtual 68, 3) := dk_182 0 68 (dk_at dksX4_sacks_0 14 rfl rfl)
theorem dX4_sacks_17 : decode cX4_sacks 17 = .ok (.aload_n 0, 1) := dk_42 (dk_at dksX4_sacks_0 17 rfl rfl)
theorem dX4_sacks_18 : decode cX4_sacks 18 = .ok (.iconst 2, 1) := dk_5 (dk_at dksX4_sacks_0 18 rfl rfl)
theorem dX4_sacks_19 : decode cX4_sacks 19 = .ok (.iload_n 1, 1) := dk_27 (dk_at dksX4_sacks_0 19 rfl rfl)
theorem dX4_sacks_20 : decode cX4_sacks 20 = .ok (.imul, 1) := dk_104 (dk_at dksX4_sacks_0 20 rfl rfl)
theorem dX4_sacks_21 : decode cX4_sacks 21 = .ok (.invokevirtual 71, 3) := dk_182 0 71 (dk_at dksX4_sacks_0 21 rfl rfl)
theorem dX4_sacks_24 : decode cX4_sacks 24 = .ok (.ifCond .ne 11, 3) := dk_154 0 11 (dk_at dksX4_sacks_1 0 rfl rfl)
theorem dX4_sacks_27 : decode cX4_sacks 27 = .ok (.aload_n 0, 1) := dk_42 (dk_at dksX4_sacks_1 3 rfl rfl)
theorem dX4_sacks_28 : decode cX4_sacks 28 = .ok (.iconst 2, 1) := dk_5 (dk_at dksX4_sacks_1 4 rfl rfl)
theorem dX4_sacks_29 : decode cX4_sacks 29 = .ok (.iload_n 1, 1) := dk_27 (dk_at dksX4_sacks_1 5 rfl rfl)
theorem dX4_sacks_30 : decode cX4_sacks 30 = .ok (.imul, 1) := dk_104 (dk_at dksX4_sacks_1 6 rfl rfl)
theorem dX4_sacks_31 : decode cX4_sacks 31 = .ok (.invokevirtual 74, 3) := dk_182 0 74 (dk_at dksX4_sacks_1 7 rfl rfl)
theorem dX4_sacks_34 : decode cX4_sacks 34 = .ok (.ireturn, 1) := dk_172 (dk_at dksX4_sacks_1 10 rfl rfl)
theorem dX4_sacks_35 : decode cX4_sacks 35 = .ok (.aload_n 0, 1) := dk_42 (dk_at dksX4_sacks_1 11 rfl rfl)
theorem dX4_sacks_36 : decode cX4_sacks 36 = .ok (.getfield 7, 3) := dk_180 0 7 (dk_at dksX4_sacks_1 12 rfl rfl)
theorem dX4_sacks_39 : decode cX4_sacks 39 = .ok (.iconst 3, 1) := dk_6 (dk_at dksX4_sacks_1 15 rfl rfl)
theorem dX4_sacks_40 : decode cX4_sacks 40 = .ok (.aload_n 0, 1) := dk_42 (dk_at dksX4_sacks_1 16 rfl rfl)
theorem dX4_sacks_41 : decode cX4_sacks 41 = .ok (.getfield 7, 3) := dk_180 0 7 (dk_at dksX4_sacks_1 17 rfl rfl)
theorem dX4_sacks_44 : decode cX4_sacks 44 = .ok (.iconst 3, 1) := dk_6 (dk_at dksX4_sacks_1 20 rfl rfl)
theorem dX4_sacks_45 : decode cX4_sacks 45 = .ok (.iaload, 1) := dk_46 (dk_at dksX4_sacks_1 21 rfl rfl)
theorem dX4_sacks_46 : decode cX4_sacks 46 = .ok (.iload_n 1, 1) := dk_27 (dk_at dksX4_sacks_1 22 rfl rfl)
theorem dX4_sacks_47 : decode cX4_sacks 47 = .ok (.iadd, 1) := dk_96 (dk_at dksX4_sacks_1 23 rfl rfl)
theorem dX4_sacks_48 : decode cX4_sacks 48 = .ok (.bipush 60, 2) := dk_16 60 (dk_at dksX4_sacks_2 0 rfl rfl)
theorem dX4_sacks_50 : decode cX4_sacks 50 = .ok (.if_icmp .le 8, 3) := dk_164 0 8 (dk_at dksX4_sacks_2 2 rfl rfl)
theorem dX4_sacks_53 : decode cX4_sacks 53 = .ok (.bipush 60, 2) := dk_16 60 (dk_at dksX4_sacks_2 5 rfl rfl)
theorem dX4_sacks_55 : decode cX4_sacks 55 = .ok (.goto 11, 3) := dk_167 0 11 (dk_at dksX4_sacks_2 7 rfl rfl)
theorem dX4_sacks_58 : decode cX4_sacks 58 = .ok (.aload_n 0, 1) := dk_42 (dk_at dksX4_sacks_2 10 rfl rfl)
theorem dX4_sacks_59 : decode cX4_sacks 59 = .ok (.getfield 7, 3) := dk_180 0 7 (dk_at dksX4_sacks_2 11 rfl rfl)
theorem dX4_sacks_62 : decode cX4_sacks 62 = .ok (.iconst 3, 1) := dk_6 (dk_at dksX4_sacks_2 14 rfl rfl)
theorem dX4_sacks_63 : decode cX4_sacks 63 = .ok (.iaload, 1) := dk_46 (dk_at dksX4_sacks_2 15 rfl rfl)
theorem dX4_sacks_64 : decode cX4_sacks 64 = .ok (.iload_n 1, 1) := dk_27 (dk_at dksX4_sacks_2 16 rfl rfl)
theorem dX4_sacks_65 : decode cX4_sacks 65 = .ok (.iadd, 1) := dk_96 (dk_at dksX4_sacks_2 17 rfl rfl)
theorem dX4_sacks_66 : decode cX4_sacks 66 = .ok (.iastore, 1) := dk_79 (dk_at dksX4_sacks_2 18 rfl rfl)
theorem dX4_sacks_67 : decode cX4_sacks 67 = .ok (.aload_n 0, 1) := dk_42 (dk_at dksX4_sacks_2 19 rfl rfl)
theorem dX4_sacks_68 : decode cX4_sacks 68 = .ok (.aload_n 0, 1) := dk_42 (dk_at dksX4_sacks_2 20 rfl rfl)
theorem dX4_sacks_69 : decode cX4_sacks 69 = .ok (.getfield 7, 3) := dk_180 0 7 (dk_at dksX4_sacks_2 21 rfl rfl)
theorem dX4_sacks_72 : decode cX4_sacks 72 = .ok (.iconst 3, 1) := dk_6 (dk_at dksX4_sacks_3 0 rfl rfl)
theorem dX4_sacks_73 : decode cX4_sacks 73 = .ok (.iaload, 1) := dk_46 (dk_at dksX4_sacks_3 1 rfl rfl)
theorem dX4_sacks_74 : decode cX4_sacks 74 = .ok (.invokevirtual 77, 3) := dk_182 0 77 (dk_at dksX4_sacks_3 2 rfl rfl)
theorem dX4_sacks_77 : decode cX4_sacks 77 = .ok (.ireturn, 1) := dk_172 (dk_at dksX4_sacks_3 5 rfl rfl)
abbrev cX4_looksBack : ByteArray := prog_17_method_5_code
def yX4_looksBack : MethodName := ⟨RX4, "looksBack", "()V"⟩
def dkwX4_looksBack_0 : List UInt8 := [42, 180, 0, 7, 3, 42, 180, 0, 13, 3, 184, 0, 39, 177]
abbrev dktX4_looksBack_0 : List UInt8 := dkwX4_looksBack_0 ++ []
theorem dksX4_looksBack_0 : cX4_looksBack.data.toList.drop 0 = dktX4_looksBack_0 := by decide +kernel
theorem dX4_looksBack_0 : decode cX4_looksBack 0 = .ok (.aload_n 0, 1) := dk_42 (dk_at dksX4_looksBack_0 0 rfl rfl)
theorem dX4_looksBack_1 : decode cX4_looksBack 1 = .ok (.getfield 7, 3) := dk_180 0 7 (dk_at dksX4_looksBack_0 1 rfl rfl)
theorem dX4_looksBack_4 : decode cX4_looksBack 4 = .ok (.iconst 0, 1) := dk_3 (dk_at dksX4_looksBack_0 4 rfl rfl)
theorem dX4_looksBack_5 : decode cX4_looksBack 5 = .ok (.aload_n 0, 1) := dk_42 (dk_at dksX4_looksBack_0 5 rfl rfl)
theorem dX4_looksBack_6 : decode cX4_looksBack 6 = .ok (.getfield 13, 3) := dk_180 0 13 (dk_at dksX4_looksBack_0 6 rfl rfl)
theorem dX4_looksBack_9 : decode cX4_looksBack 9 = .ok (.iconst 0, 1) := dk_3 (dk_at dksX4_looksBack_0 9 rfl rfl)
theorem dX4_looksBack_10 : decode cX4_looksBack 10 = .ok (.invokestatic 39, 3) := dk_184 0 39 (dk_at dksX4_looksBack_0 10 rfl rfl)
theorem dX4_looksBack_13 : decode cX4_looksBack 13 = .ok (.return_, 1) := dk_177 (dk_at dksX4_looksBack_0 13 rfl rfl)
abbrev cX4_copy : ByteArray := prog_17_method_4_code
def yX4_copy : MethodName := ⟨RX4, "copy", "([II[II)V"⟩
def dkwX4_copy_1 : List UInt8 := [132, 4, 1, 167, 255, 233, 177]
abbrev dktX4_copy_1 : List UInt8 := dkwX4_copy_1 ++ []
def dkwX4_copy_0 : List UInt8 := [3, 54, 4, 21, 4, 17, 1, 54, 162, 0, 21, 44, 29, 21, 4, 96, 42, 27, 21, 4, 96, 46, 79]
abbrev dktX4_copy_0 : List UInt8 := dkwX4_copy_0 ++ dktX4_copy_1
theorem dksX4_copy_0 : cX4_copy.data.toList.drop 0 = dktX4_copy_0 := by decide +kernel
theorem dksX4_copy_1 : cX4_copy.data.toList.drop 23 = dktX4_copy_1 := dk_seg dksX4_copy_0 23 rfl rfl
theorem dX4_copy_0 : decode cX4_copy 0 = .ok (.iconst 0, 1) := dk_3 (dk_at dksX4_copy_0 0 rfl rfl)
theorem dX4_copy_1 : decode cX4_copy 1 = .ok (.istore 4, 2) := dk_54 4 (dk_at dksX4_copy_0 1 rfl rfl)
theorem dX4_copy_3 : decode cX4_copy 3 = .ok (.iload 4, 2) := dk_21 4 (dk_at dksX4_copy_0 3 rfl rfl)
theorem dX4_copy_5 : decode cX4_copy 5 = .ok (.sipush 310, 3) := dk_17 1 54 (dk_at dksX4_copy_0 5 rfl rfl)
theorem dX4_copy_8 : decode cX4_copy 8 = .ok (.if_icmp .ge 21, 3) := dk_162 0 21 (dk_at dksX4_copy_0 8 rfl rfl)
theorem dX4_copy_11 : decode cX4_copy 11 = .ok (.aload_n 2, 1) := dk_44 (dk_at dksX4_copy_0 11 rfl rfl)
theorem dX4_copy_12 : decode cX4_copy 12 = .ok (.iload_n 3, 1) := dk_29 (dk_at dksX4_copy_0 12 rfl rfl)
theorem dX4_copy_13 : decode cX4_copy 13 = .ok (.iload 4, 2) := dk_21 4 (dk_at dksX4_copy_0 13 rfl rfl)
theorem dX4_copy_15 : decode cX4_copy 15 = .ok (.iadd, 1) := dk_96 (dk_at dksX4_copy_0 15 rfl rfl)
theorem dX4_copy_16 : decode cX4_copy 16 = .ok (.aload_n 0, 1) := dk_42 (dk_at dksX4_copy_0 16 rfl rfl)
theorem dX4_copy_17 : decode cX4_copy 17 = .ok (.iload_n 1, 1) := dk_27 (dk_at dksX4_copy_0 17 rfl rfl)
theorem dX4_copy_18 : decode cX4_copy 18 = .ok (.iload 4, 2) := dk_21 4 (dk_at dksX4_copy_0 18 rfl rfl)
theorem dX4_copy_20 : decode cX4_copy 20 = .ok (.iadd, 1) := dk_96 (dk_at dksX4_copy_0 20 rfl rfl)
theorem dX4_copy_21 : decode cX4_copy 21 = .ok (.iaload, 1) := dk_46 (dk_at dksX4_copy_0 21 rfl rfl)
theorem dX4_copy_22 : decode cX4_copy 22 = .ok (.iastore, 1) := dk_79 (dk_at dksX4_copy_0 22 rfl rfl)
theorem dX4_copy_23 : decode cX4_copy 23 = .ok (.iinc 4 1, 3) := dk_132 4 1 (dk_at dksX4_copy_1 0 rfl rfl)
theorem dX4_copy_26 : decode cX4_copy 26 = .ok (.goto (-23), 3) := dk_167 255 233 (dk_at dksX4_copy_1 3 rfl rfl)
theorem dX4_copy_29 : decode cX4_copy 29 = .ok (.return_, 1) := dk_177 (dk_at dksX4_copy_1 6 rfl rfl)
abbrev cX4_pays : ByteArray := prog_17_method_17_code
def yX4_pays : MethodName := ⟨RX4, "pays", "(I)Z"⟩
def dkwX4_pays_2 : List UInt8 := [167, 0, 4, 3, 96, 79, 28, 172]
abbrev dktX4_pays_2 : List UInt8 := dkwX4_pays_2 ++ []
def dkwX4_pays_1 : List UInt8 := [153, 0, 7, 27, 167, 0, 4, 3, 100, 79, 42, 180, 0, 7, 16, 6, 92, 46, 28, 153, 0, 7, 27]
abbrev dktX4_pays_1 : List UInt8 := dkwX4_pays_1 ++ dktX4_pays_2
def dkwX4_pays_0 : List UInt8 := [42, 180, 0, 7, 7, 46, 27, 161, 0, 7, 4, 167, 0, 4, 3, 61, 42, 180, 0, 7, 7, 92, 46, 28]
abbrev dktX4_pays_0 : List UInt8 := dkwX4_pays_0 ++ dktX4_pays_1
theorem dksX4_pays_0 : cX4_pays.data.toList.drop 0 = dktX4_pays_0 := by decide +kernel
theorem dksX4_pays_1 : cX4_pays.data.toList.drop 24 = dktX4_pays_1 := dk_seg dksX4_pays_0 24 rfl rfl
theorem dksX4_pays_2 : cX4_pays.data.toList.drop 47 = dktX4_pays_2 := dk_seg dksX4_pays_1 23 rfl rfl
theorem dX4_pays_0 : decode cX4_pays 0 = .ok (.aload_n 0, 1) := dk_42 (dk_at dksX4_pays_0 0 rfl rfl)
theorem dX4_pays_1 : decode cX4_pays 1 = .ok (.getfield 7, 3) := dk_180 0 7 (dk_at dksX4_pays_0 1 rfl rfl)
theorem dX4_pays_4 : decode cX4_pays 4 = .ok (.iconst 4, 1) := dk_7 (dk_at dksX4_pays_0 4 rfl rfl)
theorem dX4_pays_5 : decode cX4_pays 5 = .ok (.iaload, 1) := dk_46 (dk_at dksX4_pays_0 5 rfl rfl)
theorem dX4_pays_6 : decode cX4_pays 6 = .ok (.iload_n 1, 1) := dk_27 (dk_at dksX4_pays_0 6 rfl rfl)
theorem dX4_pays_7 : decode cX4_pays 7 = .ok (.if_icmp .lt 7, 3) := dk_161 0 7 (dk_at dksX4_pays_0 7 rfl rfl)
theorem dX4_pays_10 : decode cX4_pays 10 = .ok (.iconst 1, 1) := dk_4 (dk_at dksX4_pays_0 10 rfl rfl)
theorem dX4_pays_11 : decode cX4_pays 11 = .ok (.goto 4, 3) := dk_167 0 4 (dk_at dksX4_pays_0 11 rfl rfl)
theorem dX4_pays_14 : decode cX4_pays 14 = .ok (.iconst 0, 1) := dk_3 (dk_at dksX4_pays_0 14 rfl rfl)
theorem dX4_pays_15 : decode cX4_pays 15 = .ok (.istore_n 2, 1) := dk_61 (dk_at dksX4_pays_0 15 rfl rfl)
theorem dX4_pays_16 : decode cX4_pays 16 = .ok (.aload_n 0, 1) := dk_42 (dk_at dksX4_pays_0 16 rfl rfl)
theorem dX4_pays_17 : decode cX4_pays 17 = .ok (.getfield 7, 3) := dk_180 0 7 (dk_at dksX4_pays_0 17 rfl rfl)
theorem dX4_pays_20 : decode cX4_pays 20 = .ok (.iconst 4, 1) := dk_7 (dk_at dksX4_pays_0 20 rfl rfl)
theorem dX4_pays_21 : decode cX4_pays 21 = .ok (.dup2, 1) := dk_92 (dk_at dksX4_pays_0 21 rfl rfl)
theorem dX4_pays_22 : decode cX4_pays 22 = .ok (.iaload, 1) := dk_46 (dk_at dksX4_pays_0 22 rfl rfl)
theorem dX4_pays_23 : decode cX4_pays 23 = .ok (.iload_n 2, 1) := dk_28 (dk_at dksX4_pays_0 23 rfl rfl)
theorem dX4_pays_24 : decode cX4_pays 24 = .ok (.ifCond .eq 7, 3) := dk_153 0 7 (dk_at dksX4_pays_1 0 rfl rfl)
theorem dX4_pays_27 : decode cX4_pays 27 = .ok (.iload_n 1, 1) := dk_27 (dk_at dksX4_pays_1 3 rfl rfl)
theorem dX4_pays_28 : decode cX4_pays 28 = .ok (.goto 4, 3) := dk_167 0 4 (dk_at dksX4_pays_1 4 rfl rfl)
theorem dX4_pays_31 : decode cX4_pays 31 = .ok (.iconst 0, 1) := dk_3 (dk_at dksX4_pays_1 7 rfl rfl)
theorem dX4_pays_32 : decode cX4_pays 32 = .ok (.isub, 1) := dk_100 (dk_at dksX4_pays_1 8 rfl rfl)
theorem dX4_pays_33 : decode cX4_pays 33 = .ok (.iastore, 1) := dk_79 (dk_at dksX4_pays_1 9 rfl rfl)
theorem dX4_pays_34 : decode cX4_pays 34 = .ok (.aload_n 0, 1) := dk_42 (dk_at dksX4_pays_1 10 rfl rfl)
theorem dX4_pays_35 : decode cX4_pays 35 = .ok (.getfield 7, 3) := dk_180 0 7 (dk_at dksX4_pays_1 11 rfl rfl)
theorem dX4_pays_38 : decode cX4_pays 38 = .ok (.bipush 6, 2) := dk_16 6 (dk_at dksX4_pays_1 14 rfl rfl)
theorem dX4_pays_40 : decode cX4_pays 40 = .ok (.dup2, 1) := dk_92 (dk_at dksX4_pays_1 16 rfl rfl)
theorem dX4_pays_41 : decode cX4_pays 41 = .ok (.iaload, 1) := dk_46 (dk_at dksX4_pays_1 17 rfl rfl)
theorem dX4_pays_42 : decode cX4_pays 42 = .ok (.iload_n 2, 1) := dk_28 (dk_at dksX4_pays_1 18 rfl rfl)
theorem dX4_pays_43 : decode cX4_pays 43 = .ok (.ifCond .eq 7, 3) := dk_153 0 7 (dk_at dksX4_pays_1 19 rfl rfl)
theorem dX4_pays_46 : decode cX4_pays 46 = .ok (.iload_n 1, 1) := dk_27 (dk_at dksX4_pays_1 22 rfl rfl)
theorem dX4_pays_47 : decode cX4_pays 47 = .ok (.goto 4, 3) := dk_167 0 4 (dk_at dksX4_pays_2 0 rfl rfl)
theorem dX4_pays_50 : decode cX4_pays 50 = .ok (.iconst 0, 1) := dk_3 (dk_at dksX4_pays_2 3 rfl rfl)
theorem dX4_pays_51 : decode cX4_pays 51 = .ok (.iadd, 1) := dk_96 (dk_at dksX4_pays_2 4 rfl rfl)
theorem dX4_pays_52 : decode cX4_pays 52 = .ok (.iastore, 1) := dk_79 (dk_at dksX4_pays_2 5 rfl rfl)
theorem dX4_pays_53 : decode cX4_pays 53 = .ok (.iload_n 2, 1) := dk_28 (dk_at dksX4_pays_2 6 rfl rfl)
theorem dX4_pays_54 : decode cX4_pays 54 = .ok (.ireturn, 1) := dk_172 (dk_at dksX4_pays_2 7 rfl rfl)
abbrev cX4_tooFew : ByteArray := prog_17_method_18_code
def yX4_tooFew : MethodName := ⟨RX4, "tooFew", "(I)I"⟩
def dkwX4_tooFew_0 : List UInt8 := [42, 16, 14, 27, 42, 180, 0, 7, 7, 46, 100, 182, 0, 65, 172]
abbrev dktX4_tooFew_0 : List UInt8 := dkwX4_tooFew_0 ++ []
theorem dksX4_tooFew_0 : cX4_tooFew.data.toList.drop 0 = dktX4_tooFew_0 := by decide +kernel
theorem dX4_tooFew_0 : decode cX4_tooFew 0 = .ok (.aload_n 0, 1) := dk_42 (dk_at dksX4_tooFew_0 0 rfl rfl)
theorem dX4_tooFew_1 : decode cX4_tooFew 1 = .ok (.bipush 14, 2) := dk_16 14 (dk_at dksX4_tooFew_0 1 rfl rfl)
theorem dX4_tooFew_3 : decode cX4_tooFew 3 = .ok (.iload_n 1, 1) := dk_27 (dk_at dksX4_tooFew_0 3 rfl rfl)
theorem dX4_tooFew_4 : decode cX4_tooFew 4 = .ok (.aload_n 0, 1) := dk_42 (dk_at dksX4_tooFew_0 4 rfl rfl)
theorem dX4_tooFew_5 : decode cX4_tooFew 5 = .ok (.getfield 7, 3) := dk_180 0 7 (dk_at dksX4_tooFew_0 5 rfl rfl)
theorem dX4_tooFew_8 : decode cX4_tooFew 8 = .ok (.iconst 4, 1) := dk_7 (dk_at dksX4_tooFew_0 8 rfl rfl)
theorem dX4_tooFew_9 : decode cX4_tooFew 9 = .ok (.iaload, 1) := dk_46 (dk_at dksX4_tooFew_0 9 rfl rfl)
theorem dX4_tooFew_10 : decode cX4_tooFew 10 = .ok (.isub, 1) := dk_100 (dk_at dksX4_tooFew_0 10 rfl rfl)
theorem dX4_tooFew_11 : decode cX4_tooFew 11 = .ok (.invokevirtual 65, 3) := dk_182 0 65 (dk_at dksX4_tooFew_0 11 rfl rfl)
theorem dX4_tooFew_14 : decode cX4_tooFew 14 = .ok (.ireturn, 1) := dk_172 (dk_at dksX4_tooFew_0 14 rfl rfl)
abbrev cX4_refused : ByteArray := prog_17_method_3_code
def yX4_refused : MethodName := ⟨RX4, "refused", "(II)I"⟩
def dkwX4_refused_0 : List UInt8 := [42, 27, 181, 0, 32, 42, 28, 181, 0, 36, 16, 242, 172]
abbrev dktX4_refused_0 : List UInt8 := dkwX4_refused_0 ++ []
theorem dksX4_refused_0 : cX4_refused.data.toList.drop 0 = dktX4_refused_0 := by decide +kernel
theorem dX4_refused_0 : decode cX4_refused 0 = .ok (.aload_n 0, 1) := dk_42 (dk_at dksX4_refused_0 0 rfl rfl)
theorem dX4_refused_1 : decode cX4_refused 1 = .ok (.iload_n 1, 1) := dk_27 (dk_at dksX4_refused_0 1 rfl rfl)
theorem dX4_refused_2 : decode cX4_refused 2 = .ok (.putfield 32, 3) := dk_181 0 32 (dk_at dksX4_refused_0 2 rfl rfl)
theorem dX4_refused_5 : decode cX4_refused 5 = .ok (.aload_n 0, 1) := dk_42 (dk_at dksX4_refused_0 5 rfl rfl)
theorem dX4_refused_6 : decode cX4_refused 6 = .ok (.iload_n 2, 1) := dk_28 (dk_at dksX4_refused_0 6 rfl rfl)
theorem dX4_refused_7 : decode cX4_refused 7 = .ok (.putfield 36, 3) := dk_181 0 36 (dk_at dksX4_refused_0 7 rfl rfl)
theorem dX4_refused_10 : decode cX4_refused 10 = .ok (.bipush (-14), 2) := dk_16 242 (dk_at dksX4_refused_0 10 rfl rfl)
theorem dX4_refused_12 : decode cX4_refused 12 = .ok (.ireturn, 1) := dk_172 (dk_at dksX4_refused_0 12 rfl rfl)
abbrev cX4_kept : ByteArray := prog_17_method_6_code
def yX4_kept : MethodName := ⟨RX4, "kept", "(I)I"⟩
def dkwX4_kept_4 : List UInt8 := [4, 96, 181, 0, 43, 27, 172]
abbrev dktX4_kept_4 : List UInt8 := dkwX4_kept_4 ++ []
def dkwX4_kept_3 : List UInt8 := [180, 0, 13, 3, 42, 180, 0, 16, 42, 180, 0, 43, 17, 1, 54, 104, 184, 0, 39, 42, 89, 180, 0, 43]
abbrev dktX4_kept_3 : List UInt8 := dkwX4_kept_3 ++ dktX4_kept_4
def dkwX4_kept_2 : List UInt8 := [17, 1, 54, 96, 46, 79, 132, 2, 1, 167, 255, 230, 42, 89, 180, 0, 43, 4, 100, 181, 0, 43, 42]
abbrev dktX4_kept_2 : List UInt8 := dkwX4_kept_2 ++ dktX4_kept_3
def dkwX4_kept_1 : List UInt8 := [16, 8, 160, 0, 44, 3, 61, 28, 17, 8, 122, 162, 0, 25, 42, 180, 0, 16, 28, 42, 180, 0, 16, 28]
abbrev dktX4_kept_1 : List UInt8 := dkwX4_kept_1 ++ dktX4_kept_2
def dkwX4_kept_0 : List UInt8 := [27, 156, 0, 18, 42, 180, 0, 13, 3, 42, 180, 0, 7, 3, 184, 0, 39, 27, 172, 42, 180, 0, 43]
abbrev dktX4_kept_0 : List UInt8 := dkwX4_kept_0 ++ dktX4_kept_1
theorem dksX4_kept_0 : cX4_kept.data.toList.drop 0 = dktX4_kept_0 := by decide +kernel
theorem dksX4_kept_1 : cX4_kept.data.toList.drop 23 = dktX4_kept_1 := dk_seg dksX4_kept_0 23 rfl rfl
theorem dksX4_kept_2 : cX4_kept.data.toList.drop 47 = dktX4_kept_2 := dk_seg dksX4_kept_1 24 rfl rfl
theorem dksX4_kept_3 : cX4_kept.data.toList.drop 70 = dktX4_kept_3 := dk_seg dksX4_kept_2 23 rfl rfl
theorem dksX4_kept_4 : cX4_kept.data.toList.drop 94 = dktX4_kept_4 := dk_seg dksX4_kept_3 24 rfl rfl
theorem dX4_kept_0 : decode cX4_kept 0 = .ok (.iload_n 1, 1) := dk_27 (dk_at dksX4_kept_0 0 rfl rfl)
theorem dX4_kept_1 : decode cX4_kept 1 = .ok (.ifCond .ge 18, 3) := dk_156 0 18 (dk_at dksX4_kept_0 1 rfl rfl)
theorem dX4_kept_4 : decode cX4_kept 4 = .ok (.aload_n 0, 1) := dk_42 (dk_at dksX4_kept_0 4 rfl rfl)
theorem dX4_kept_5 : decode cX4_kept 5 = .ok (.getfield 13, 3) := dk_180 0 13 (dk_at dksX4_kept_0 5 rfl rfl)
theorem dX4_kept_8 : decode cX4_kept 8 = .ok (.iconst 0, 1) := dk_3 (dk_at dksX4_kept_0 8 rfl rfl)
theorem dX4_kept_9 : decode cX4_kept 9 = .ok (.aload_n 0, 1) := dk_42 (dk_at dksX4_kept_0 9 rfl rfl)
theorem dX4_kept_10 : decode cX4_kept 10 = .ok (.getfield 7, 3) := dk_180 0 7 (dk_at dksX4_kept_0 10 rfl rfl)
theorem dX4_kept_13 : decode cX4_kept 13 = .ok (.iconst 0, 1) := dk_3 (dk_at dksX4_kept_0 13 rfl rfl)
theorem dX4_kept_14 : decode cX4_kept 14 = .ok (.invokestatic 39, 3) := dk_184 0 39 (dk_at dksX4_kept_0 14 rfl rfl)
theorem dX4_kept_17 : decode cX4_kept 17 = .ok (.iload_n 1, 1) := dk_27 (dk_at dksX4_kept_0 17 rfl rfl)
theorem dX4_kept_18 : decode cX4_kept 18 = .ok (.ireturn, 1) := dk_172 (dk_at dksX4_kept_0 18 rfl rfl)
theorem dX4_kept_19 : decode cX4_kept 19 = .ok (.aload_n 0, 1) := dk_42 (dk_at dksX4_kept_0 19 rfl rfl)
theorem dX4_kept_20 : decode cX4_kept 20 = .ok (.getfield 43, 3) := dk_180 0 43 (dk_at dksX4_kept_0 20 rfl rfl)
theorem dX4_kept_23 : decode cX4_kept 23 = .ok (.bipush 8, 2) := dk_16 8 (dk_at dksX4_kept_1 0 rfl rfl)
theorem dX4_kept_25 : decode cX4_kept 25 = .ok (.if_icmp .ne 44, 3) := dk_160 0 44 (dk_at dksX4_kept_1 2 rfl rfl)
theorem dX4_kept_28 : decode cX4_kept 28 = .ok (.iconst 0, 1) := dk_3 (dk_at dksX4_kept_1 5 rfl rfl)
theorem dX4_kept_29 : decode cX4_kept 29 = .ok (.istore_n 2, 1) := dk_61 (dk_at dksX4_kept_1 6 rfl rfl)
theorem dX4_kept_30 : decode cX4_kept 30 = .ok (.iload_n 2, 1) := dk_28 (dk_at dksX4_kept_1 7 rfl rfl)
theorem dX4_kept_31 : decode cX4_kept 31 = .ok (.sipush 2170, 3) := dk_17 8 122 (dk_at dksX4_kept_1 8 rfl rfl)
theorem dX4_kept_34 : decode cX4_kept 34 = .ok (.if_icmp .ge 25, 3) := dk_162 0 25 (dk_at dksX4_kept_1 11 rfl rfl)
theorem dX4_kept_37 : decode cX4_kept 37 = .ok (.aload_n 0, 1) := dk_42 (dk_at dksX4_kept_1 14 rfl rfl)
theorem dX4_kept_38 : decode cX4_kept 38 = .ok (.getfield 16, 3) := dk_180 0 16 (dk_at dksX4_kept_1 15 rfl rfl)
theorem dX4_kept_41 : decode cX4_kept 41 = .ok (.iload_n 2, 1) := dk_28 (dk_at dksX4_kept_1 18 rfl rfl)
theorem dX4_kept_42 : decode cX4_kept 42 = .ok (.aload_n 0, 1) := dk_42 (dk_at dksX4_kept_1 19 rfl rfl)
theorem dX4_kept_43 : decode cX4_kept 43 = .ok (.getfield 16, 3) := dk_180 0 16 (dk_at dksX4_kept_1 20 rfl rfl)
theorem dX4_kept_46 : decode cX4_kept 46 = .ok (.iload_n 2, 1) := dk_28 (dk_at dksX4_kept_1 23 rfl rfl)
theorem dX4_kept_47 : decode cX4_kept 47 = .ok (.sipush 310, 3) := dk_17 1 54 (dk_at dksX4_kept_2 0 rfl rfl)
theorem dX4_kept_50 : decode cX4_kept 50 = .ok (.iadd, 1) := dk_96 (dk_at dksX4_kept_2 3 rfl rfl)
theorem dX4_kept_51 : decode cX4_kept 51 = .ok (.iaload, 1) := dk_46 (dk_at dksX4_kept_2 4 rfl rfl)
theorem dX4_kept_52 : decode cX4_kept 52 = .ok (.iastore, 1) := dk_79 (dk_at dksX4_kept_2 5 rfl rfl)
theorem dX4_kept_53 : decode cX4_kept 53 = .ok (.iinc 2 1, 3) := dk_132 2 1 (dk_at dksX4_kept_2 6 rfl rfl)
theorem dX4_kept_56 : decode cX4_kept 56 = .ok (.goto (-26), 3) := dk_167 255 230 (dk_at dksX4_kept_2 9 rfl rfl)
theorem dX4_kept_59 : decode cX4_kept 59 = .ok (.aload_n 0, 1) := dk_42 (dk_at dksX4_kept_2 12 rfl rfl)
theorem dX4_kept_60 : decode cX4_kept 60 = .ok (.dup, 1) := dk_89 (dk_at dksX4_kept_2 13 rfl rfl)
theorem dX4_kept_61 : decode cX4_kept 61 = .ok (.getfield 43, 3) := dk_180 0 43 (dk_at dksX4_kept_2 14 rfl rfl)
theorem dX4_kept_64 : decode cX4_kept 64 = .ok (.iconst 1, 1) := dk_4 (dk_at dksX4_kept_2 17 rfl rfl)
theorem dX4_kept_65 : decode cX4_kept 65 = .ok (.isub, 1) := dk_100 (dk_at dksX4_kept_2 18 rfl rfl)
theorem dX4_kept_66 : decode cX4_kept 66 = .ok (.putfield 43, 3) := dk_181 0 43 (dk_at dksX4_kept_2 19 rfl rfl)
theorem dX4_kept_69 : decode cX4_kept 69 = .ok (.aload_n 0, 1) := dk_42 (dk_at dksX4_kept_2 22 rfl rfl)
theorem dX4_kept_70 : decode cX4_kept 70 = .ok (.getfield 13, 3) := dk_180 0 13 (dk_at dksX4_kept_3 0 rfl rfl)
theorem dX4_kept_73 : decode cX4_kept 73 = .ok (.iconst 0, 1) := dk_3 (dk_at dksX4_kept_3 3 rfl rfl)
theorem dX4_kept_74 : decode cX4_kept 74 = .ok (.aload_n 0, 1) := dk_42 (dk_at dksX4_kept_3 4 rfl rfl)
theorem dX4_kept_75 : decode cX4_kept 75 = .ok (.getfield 16, 3) := dk_180 0 16 (dk_at dksX4_kept_3 5 rfl rfl)
theorem dX4_kept_78 : decode cX4_kept 78 = .ok (.aload_n 0, 1) := dk_42 (dk_at dksX4_kept_3 8 rfl rfl)
theorem dX4_kept_79 : decode cX4_kept 79 = .ok (.getfield 43, 3) := dk_180 0 43 (dk_at dksX4_kept_3 9 rfl rfl)
theorem dX4_kept_82 : decode cX4_kept 82 = .ok (.sipush 310, 3) := dk_17 1 54 (dk_at dksX4_kept_3 12 rfl rfl)
theorem dX4_kept_85 : decode cX4_kept 85 = .ok (.imul, 1) := dk_104 (dk_at dksX4_kept_3 15 rfl rfl)
theorem dX4_kept_86 : decode cX4_kept 86 = .ok (.invokestatic 39, 3) := dk_184 0 39 (dk_at dksX4_kept_3 16 rfl rfl)
theorem dX4_kept_89 : decode cX4_kept 89 = .ok (.aload_n 0, 1) := dk_42 (dk_at dksX4_kept_3 19 rfl rfl)
theorem dX4_kept_90 : decode cX4_kept 90 = .ok (.dup, 1) := dk_89 (dk_at dksX4_kept_3 20 rfl rfl)
theorem dX4_kept_91 : decode cX4_kept 91 = .ok (.getfield 43, 3) := dk_180 0 43 (dk_at dksX4_kept_3 21 rfl rfl)
theorem dX4_kept_94 : decode cX4_kept 94 = .ok (.iconst 1, 1) := dk_4 (dk_at dksX4_kept_4 0 rfl rfl)
theorem dX4_kept_95 : decode cX4_kept 95 = .ok (.iadd, 1) := dk_96 (dk_at dksX4_kept_4 1 rfl rfl)
theorem dX4_kept_96 : decode cX4_kept 96 = .ok (.putfield 43, 3) := dk_181 0 43 (dk_at dksX4_kept_4 2 rfl rfl)
theorem dX4_kept_99 : decode cX4_kept 99 = .ok (.iload_n 1, 1) := dk_27 (dk_at dksX4_kept_4 5 rfl rfl)
theorem dX4_kept_100 : decode cX4_kept 100 = .ok (.ireturn, 1) := dk_172 (dk_at dksX4_kept_4 6 rfl rfl)
abbrev cX4_cast : ByteArray := prog_17_method_21_code
def yX4_cast : MethodName := ⟨RX4, "cast", "(I)I"⟩
def dkwX4_cast_0 : List UInt8 := [42, 182, 0, 68, 42, 42, 27, 182, 0, 80, 182, 0, 77, 172]
abbrev dktX4_cast_0 : List UInt8 := dkwX4_cast_0 ++ []
theorem dksX4_cast_0 : cX4_cast.data.toList.drop 0 = dktX4_cast_0 := by decide +kernel
theorem dX4_cast_0 : decode cX4_cast 0 = .ok (.aload_n 0, 1) := dk_42 (dk_at dksX4_cast_0 0 rfl rfl)
theorem dX4_cast_1 : decode cX4_cast 1 = .ok (.invokevirtual 68, 3) := dk_182 0 68 (dk_at dksX4_cast_0 1 rfl rfl)
theorem dX4_cast_4 : decode cX4_cast 4 = .ok (.aload_n 0, 1) := dk_42 (dk_at dksX4_cast_0 4 rfl rfl)
theorem dX4_cast_5 : decode cX4_cast 5 = .ok (.aload_n 0, 1) := dk_42 (dk_at dksX4_cast_0 5 rfl rfl)
theorem dX4_cast_6 : decode cX4_cast 6 = .ok (.iload_n 1, 1) := dk_27 (dk_at dksX4_cast_0 6 rfl rfl)
theorem dX4_cast_7 : decode cX4_cast 7 = .ok (.invokevirtual 80, 3) := dk_182 0 80 (dk_at dksX4_cast_0 7 rfl rfl)
theorem dX4_cast_10 : decode cX4_cast 10 = .ok (.invokevirtual 77, 3) := dk_182 0 77 (dk_at dksX4_cast_0 10 rfl rfl)
theorem dX4_cast_13 : decode cX4_cast 13 = .ok (.ireturn, 1) := dk_172 (dk_at dksX4_cast_0 13 rfl rfl)
abbrev cX4_casts : ByteArray := prog_17_method_20_code
def yX4_casts : MethodName := ⟨RX4, "casts", "(I)I"⟩
def dkwX4_casts_7 : List UInt8 := [167, 255, 227, 42, 180, 0, 7, 16, 50, 92, 46, 4, 96, 79, 28, 172]
abbrev dktX4_casts_7 : List UInt8 := dkwX4_casts_7 ++ []
def dkwX4_casts_6 : List UInt8 := [180, 0, 7, 16, 91, 16, 10, 28, 104, 96, 29, 96, 42, 27, 29, 182, 0, 61, 79, 132, 3, 1]
abbrev dktX4_casts_6 : List UInt8 := dkwX4_casts_6 ++ dktX4_casts_7
def dkwX4_casts_5 : List UInt8 := [46, 6, 100, 79, 42, 180, 0, 7, 16, 51, 28, 96, 27, 79, 3, 62, 29, 16, 10, 162, 0, 29, 42]
abbrev dktX4_casts_5 : List UInt8 := dkwX4_casts_5 ++ dktX4_casts_6
def dkwX4_casts_4 : List UInt8 := [6, 162, 0, 17, 42, 7, 6, 42, 180, 0, 7, 6, 46, 100, 182, 0, 65, 172, 42, 180, 0, 7, 6, 92]
abbrev dktX4_casts_4 : List UInt8 := dkwX4_casts_4 ++ dktX4_casts_5
def dkwX4_casts_3 : List UInt8 := [161, 0, 18, 42, 6, 42, 180, 0, 7, 16, 8, 27, 96, 46, 182, 0, 65, 172, 42, 180, 0, 7, 6, 46]
abbrev dktX4_casts_3 : List UInt8 := dkwX4_casts_3 ++ dktX4_casts_4
def dkwX4_casts_2 : List UInt8 := [180, 0, 7, 16, 14, 27, 96, 46, 182, 0, 65, 172, 42, 180, 0, 7, 16, 8, 27, 96, 46, 16, 6]
abbrev dktX4_casts_2 : List UInt8 := dkwX4_casts_2 ++ dktX4_casts_3
def dkwX4_casts_1 : List UInt8 := [42, 4, 16, 10, 182, 0, 65, 172, 42, 180, 0, 7, 16, 14, 27, 96, 46, 153, 0, 18, 42, 5, 42]
abbrev dktX4_casts_1 : List UInt8 := dkwX4_casts_1 ++ dktX4_casts_2
def dkwX4_casts_0 : List UInt8 := [27, 184, 0, 50, 154, 0, 6, 16, 245, 172, 42, 180, 0, 7, 16, 50, 46, 61, 28, 16, 10, 160, 0, 11]
abbrev dktX4_casts_0 : List UInt8 := dkwX4_casts_0 ++ dktX4_casts_1
theorem dksX4_casts_0 : cX4_casts.data.toList.drop 0 = dktX4_casts_0 := by decide +kernel
theorem dksX4_casts_1 : cX4_casts.data.toList.drop 24 = dktX4_casts_1 := dk_seg dksX4_casts_0 24 rfl rfl
theorem dksX4_casts_2 : cX4_casts.data.toList.drop 47 = dktX4_casts_2 := dk_seg dksX4_casts_1 23 rfl rfl
theorem dksX4_casts_3 : cX4_casts.data.toList.drop 70 = dktX4_casts_3 := dk_seg dksX4_casts_2 23 rfl rfl
theorem dksX4_casts_4 : cX4_casts.data.toList.drop 94 = dktX4_casts_4 := dk_seg dksX4_casts_3 24 rfl rfl
theorem dksX4_casts_5 : cX4_casts.data.toList.drop 118 = dktX4_casts_5 := dk_seg dksX4_casts_4 24 rfl rfl
theorem dksX4_casts_6 : cX4_casts.data.toList.drop 141 = dktX4_casts_6 := dk_seg dksX4_casts_5 23 rfl rfl
theorem dksX4_casts_7 : cX4_casts.data.toList.drop 163 = dktX4_casts_7 := dk_seg dksX4_casts_6 22 rfl rfl
theorem dX4_casts_0 : decode cX4_casts 0 = .ok (.iload_n 1, 1) := dk_27 (dk_at dksX4_casts_0 0 rfl rfl)
theorem dX4_casts_1 : decode cX4_casts 1 = .ok (.invokestatic 50, 3) := dk_184 0 50 (dk_at dksX4_casts_0 1 rfl rfl)
theorem dX4_casts_4 : decode cX4_casts 4 = .ok (.ifCond .ne 6, 3) := dk_154 0 6 (dk_at dksX4_casts_0 4 rfl rfl)
theorem dX4_casts_7 : decode cX4_casts 7 = .ok (.bipush (-11), 2) := dk_16 245 (dk_at dksX4_casts_0 7 rfl rfl)
theorem dX4_casts_9 : decode cX4_casts 9 = .ok (.ireturn, 1) := dk_172 (dk_at dksX4_casts_0 9 rfl rfl)
theorem dX4_casts_10 : decode cX4_casts 10 = .ok (.aload_n 0, 1) := dk_42 (dk_at dksX4_casts_0 10 rfl rfl)
theorem dX4_casts_11 : decode cX4_casts 11 = .ok (.getfield 7, 3) := dk_180 0 7 (dk_at dksX4_casts_0 11 rfl rfl)
theorem dX4_casts_14 : decode cX4_casts 14 = .ok (.bipush 50, 2) := dk_16 50 (dk_at dksX4_casts_0 14 rfl rfl)
theorem dX4_casts_16 : decode cX4_casts 16 = .ok (.iaload, 1) := dk_46 (dk_at dksX4_casts_0 16 rfl rfl)
theorem dX4_casts_17 : decode cX4_casts 17 = .ok (.istore_n 2, 1) := dk_61 (dk_at dksX4_casts_0 17 rfl rfl)
theorem dX4_casts_18 : decode cX4_casts 18 = .ok (.iload_n 2, 1) := dk_28 (dk_at dksX4_casts_0 18 rfl rfl)
theorem dX4_casts_19 : decode cX4_casts 19 = .ok (.bipush 10, 2) := dk_16 10 (dk_at dksX4_casts_0 19 rfl rfl)
theorem dX4_casts_21 : decode cX4_casts 21 = .ok (.if_icmp .ne 11, 3) := dk_160 0 11 (dk_at dksX4_casts_0 21 rfl rfl)
theorem dX4_casts_24 : decode cX4_casts 24 = .ok (.aload_n 0, 1) := dk_42 (dk_at dksX4_casts_1 0 rfl rfl)
theorem dX4_casts_25 : decode cX4_casts 25 = .ok (.iconst 1, 1) := dk_4 (dk_at dksX4_casts_1 1 rfl rfl)
theorem dX4_casts_26 : decode cX4_casts 26 = .ok (.bipush 10, 2) := dk_16 10 (dk_at dksX4_casts_1 2 rfl rfl)
theorem dX4_casts_28 : decode cX4_casts 28 = .ok (.invokevirtual 65, 3) := dk_182 0 65 (dk_at dksX4_casts_1 4 rfl rfl)
theorem dX4_casts_31 : decode cX4_casts 31 = .ok (.ireturn, 1) := dk_172 (dk_at dksX4_casts_1 7 rfl rfl)
theorem dX4_casts_32 : decode cX4_casts 32 = .ok (.aload_n 0, 1) := dk_42 (dk_at dksX4_casts_1 8 rfl rfl)
theorem dX4_casts_33 : decode cX4_casts 33 = .ok (.getfield 7, 3) := dk_180 0 7 (dk_at dksX4_casts_1 9 rfl rfl)
theorem dX4_casts_36 : decode cX4_casts 36 = .ok (.bipush 14, 2) := dk_16 14 (dk_at dksX4_casts_1 12 rfl rfl)
theorem dX4_casts_38 : decode cX4_casts 38 = .ok (.iload_n 1, 1) := dk_27 (dk_at dksX4_casts_1 14 rfl rfl)
theorem dX4_casts_39 : decode cX4_casts 39 = .ok (.iadd, 1) := dk_96 (dk_at dksX4_casts_1 15 rfl rfl)
theorem dX4_casts_40 : decode cX4_casts 40 = .ok (.iaload, 1) := dk_46 (dk_at dksX4_casts_1 16 rfl rfl)
theorem dX4_casts_41 : decode cX4_casts 41 = .ok (.ifCond .eq 18, 3) := dk_153 0 18 (dk_at dksX4_casts_1 17 rfl rfl)
theorem dX4_casts_44 : decode cX4_casts 44 = .ok (.aload_n 0, 1) := dk_42 (dk_at dksX4_casts_1 20 rfl rfl)
theorem dX4_casts_45 : decode cX4_casts 45 = .ok (.iconst 2, 1) := dk_5 (dk_at dksX4_casts_1 21 rfl rfl)
theorem dX4_casts_46 : decode cX4_casts 46 = .ok (.aload_n 0, 1) := dk_42 (dk_at dksX4_casts_1 22 rfl rfl)
theorem dX4_casts_47 : decode cX4_casts 47 = .ok (.getfield 7, 3) := dk_180 0 7 (dk_at dksX4_casts_2 0 rfl rfl)
theorem dX4_casts_50 : decode cX4_casts 50 = .ok (.bipush 14, 2) := dk_16 14 (dk_at dksX4_casts_2 3 rfl rfl)
theorem dX4_casts_52 : decode cX4_casts 52 = .ok (.iload_n 1, 1) := dk_27 (dk_at dksX4_casts_2 5 rfl rfl)
theorem dX4_casts_53 : decode cX4_casts 53 = .ok (.iadd, 1) := dk_96 (dk_at dksX4_casts_2 6 rfl rfl)
theorem dX4_casts_54 : decode cX4_casts 54 = .ok (.iaload, 1) := dk_46 (dk_at dksX4_casts_2 7 rfl rfl)
theorem dX4_casts_55 : decode cX4_casts 55 = .ok (.invokevirtual 65, 3) := dk_182 0 65 (dk_at dksX4_casts_2 8 rfl rfl)
theorem dX4_casts_58 : decode cX4_casts 58 = .ok (.ireturn, 1) := dk_172 (dk_at dksX4_casts_2 11 rfl rfl)
theorem dX4_casts_59 : decode cX4_casts 59 = .ok (.aload_n 0, 1) := dk_42 (dk_at dksX4_casts_2 12 rfl rfl)
theorem dX4_casts_60 : decode cX4_casts 60 = .ok (.getfield 7, 3) := dk_180 0 7 (dk_at dksX4_casts_2 13 rfl rfl)
theorem dX4_casts_63 : decode cX4_casts 63 = .ok (.bipush 8, 2) := dk_16 8 (dk_at dksX4_casts_2 16 rfl rfl)
theorem dX4_casts_65 : decode cX4_casts 65 = .ok (.iload_n 1, 1) := dk_27 (dk_at dksX4_casts_2 18 rfl rfl)
theorem dX4_casts_66 : decode cX4_casts 66 = .ok (.iadd, 1) := dk_96 (dk_at dksX4_casts_2 19 rfl rfl)
theorem dX4_casts_67 : decode cX4_casts 67 = .ok (.iaload, 1) := dk_46 (dk_at dksX4_casts_2 20 rfl rfl)
theorem dX4_casts_68 : decode cX4_casts 68 = .ok (.bipush 6, 2) := dk_16 6 (dk_at dksX4_casts_2 21 rfl rfl)
theorem dX4_casts_70 : decode cX4_casts 70 = .ok (.if_icmp .lt 18, 3) := dk_161 0 18 (dk_at dksX4_casts_3 0 rfl rfl)
theorem dX4_casts_73 : decode cX4_casts 73 = .ok (.aload_n 0, 1) := dk_42 (dk_at dksX4_casts_3 3 rfl rfl)
theorem dX4_casts_74 : decode cX4_casts 74 = .ok (.iconst 3, 1) := dk_6 (dk_at dksX4_casts_3 4 rfl rfl)
theorem dX4_casts_75 : decode cX4_casts 75 = .ok (.aload_n 0, 1) := dk_42 (dk_at dksX4_casts_3 5 rfl rfl)
theorem dX4_casts_76 : decode cX4_casts 76 = .ok (.getfield 7, 3) := dk_180 0 7 (dk_at dksX4_casts_3 6 rfl rfl)
theorem dX4_casts_79 : decode cX4_casts 79 = .ok (.bipush 8, 2) := dk_16 8 (dk_at dksX4_casts_3 9 rfl rfl)
theorem dX4_casts_81 : decode cX4_casts 81 = .ok (.iload_n 1, 1) := dk_27 (dk_at dksX4_casts_3 11 rfl rfl)
theorem dX4_casts_82 : decode cX4_casts 82 = .ok (.iadd, 1) := dk_96 (dk_at dksX4_casts_3 12 rfl rfl)
theorem dX4_casts_83 : decode cX4_casts 83 = .ok (.iaload, 1) := dk_46 (dk_at dksX4_casts_3 13 rfl rfl)
theorem dX4_casts_84 : decode cX4_casts 84 = .ok (.invokevirtual 65, 3) := dk_182 0 65 (dk_at dksX4_casts_3 14 rfl rfl)
theorem dX4_casts_87 : decode cX4_casts 87 = .ok (.ireturn, 1) := dk_172 (dk_at dksX4_casts_3 17 rfl rfl)
theorem dX4_casts_88 : decode cX4_casts 88 = .ok (.aload_n 0, 1) := dk_42 (dk_at dksX4_casts_3 18 rfl rfl)
theorem dX4_casts_89 : decode cX4_casts 89 = .ok (.getfield 7, 3) := dk_180 0 7 (dk_at dksX4_casts_3 19 rfl rfl)
theorem dX4_casts_92 : decode cX4_casts 92 = .ok (.iconst 3, 1) := dk_6 (dk_at dksX4_casts_3 22 rfl rfl)
theorem dX4_casts_93 : decode cX4_casts 93 = .ok (.iaload, 1) := dk_46 (dk_at dksX4_casts_3 23 rfl rfl)
theorem dX4_casts_94 : decode cX4_casts 94 = .ok (.iconst 3, 1) := dk_6 (dk_at dksX4_casts_4 0 rfl rfl)
theorem dX4_casts_95 : decode cX4_casts 95 = .ok (.if_icmp .ge 17, 3) := dk_162 0 17 (dk_at dksX4_casts_4 1 rfl rfl)
theorem dX4_casts_98 : decode cX4_casts 98 = .ok (.aload_n 0, 1) := dk_42 (dk_at dksX4_casts_4 4 rfl rfl)
theorem dX4_casts_99 : decode cX4_casts 99 = .ok (.iconst 4, 1) := dk_7 (dk_at dksX4_casts_4 5 rfl rfl)
theorem dX4_casts_100 : decode cX4_casts 100 = .ok (.iconst 3, 1) := dk_6 (dk_at dksX4_casts_4 6 rfl rfl)
theorem dX4_casts_101 : decode cX4_casts 101 = .ok (.aload_n 0, 1) := dk_42 (dk_at dksX4_casts_4 7 rfl rfl)
theorem dX4_casts_102 : decode cX4_casts 102 = .ok (.getfield 7, 3) := dk_180 0 7 (dk_at dksX4_casts_4 8 rfl rfl)
theorem dX4_casts_105 : decode cX4_casts 105 = .ok (.iconst 3, 1) := dk_6 (dk_at dksX4_casts_4 11 rfl rfl)
theorem dX4_casts_106 : decode cX4_casts 106 = .ok (.iaload, 1) := dk_46 (dk_at dksX4_casts_4 12 rfl rfl)
theorem dX4_casts_107 : decode cX4_casts 107 = .ok (.isub, 1) := dk_100 (dk_at dksX4_casts_4 13 rfl rfl)
theorem dX4_casts_108 : decode cX4_casts 108 = .ok (.invokevirtual 65, 3) := dk_182 0 65 (dk_at dksX4_casts_4 14 rfl rfl)
theorem dX4_casts_111 : decode cX4_casts 111 = .ok (.ireturn, 1) := dk_172 (dk_at dksX4_casts_4 17 rfl rfl)
theorem dX4_casts_112 : decode cX4_casts 112 = .ok (.aload_n 0, 1) := dk_42 (dk_at dksX4_casts_4 18 rfl rfl)
theorem dX4_casts_113 : decode cX4_casts 113 = .ok (.getfield 7, 3) := dk_180 0 7 (dk_at dksX4_casts_4 19 rfl rfl)
theorem dX4_casts_116 : decode cX4_casts 116 = .ok (.iconst 3, 1) := dk_6 (dk_at dksX4_casts_4 22 rfl rfl)
theorem dX4_casts_117 : decode cX4_casts 117 = .ok (.dup2, 1) := dk_92 (dk_at dksX4_casts_4 23 rfl rfl)
theorem dX4_casts_118 : decode cX4_casts 118 = .ok (.iaload, 1) := dk_46 (dk_at dksX4_casts_5 0 rfl rfl)
theorem dX4_casts_119 : decode cX4_casts 119 = .ok (.iconst 3, 1) := dk_6 (dk_at dksX4_casts_5 1 rfl rfl)
theorem dX4_casts_120 : decode cX4_casts 120 = .ok (.isub, 1) := dk_100 (dk_at dksX4_casts_5 2 rfl rfl)
theorem dX4_casts_121 : decode cX4_casts 121 = .ok (.iastore, 1) := dk_79 (dk_at dksX4_casts_5 3 rfl rfl)
theorem dX4_casts_122 : decode cX4_casts 122 = .ok (.aload_n 0, 1) := dk_42 (dk_at dksX4_casts_5 4 rfl rfl)
theorem dX4_casts_123 : decode cX4_casts 123 = .ok (.getfield 7, 3) := dk_180 0 7 (dk_at dksX4_casts_5 5 rfl rfl)
theorem dX4_casts_126 : decode cX4_casts 126 = .ok (.bipush 51, 2) := dk_16 51 (dk_at dksX4_casts_5 8 rfl rfl)
theorem dX4_casts_128 : decode cX4_casts 128 = .ok (.iload_n 2, 1) := dk_28 (dk_at dksX4_casts_5 10 rfl rfl)
theorem dX4_casts_129 : decode cX4_casts 129 = .ok (.iadd, 1) := dk_96 (dk_at dksX4_casts_5 11 rfl rfl)
theorem dX4_casts_130 : decode cX4_casts 130 = .ok (.iload_n 1, 1) := dk_27 (dk_at dksX4_casts_5 12 rfl rfl)
theorem dX4_casts_131 : decode cX4_casts 131 = .ok (.iastore, 1) := dk_79 (dk_at dksX4_casts_5 13 rfl rfl)
theorem dX4_casts_132 : decode cX4_casts 132 = .ok (.iconst 0, 1) := dk_3 (dk_at dksX4_casts_5 14 rfl rfl)
theorem dX4_casts_133 : decode cX4_casts 133 = .ok (.istore_n 3, 1) := dk_62 (dk_at dksX4_casts_5 15 rfl rfl)
theorem dX4_casts_134 : decode cX4_casts 134 = .ok (.iload_n 3, 1) := dk_29 (dk_at dksX4_casts_5 16 rfl rfl)
theorem dX4_casts_135 : decode cX4_casts 135 = .ok (.bipush 10, 2) := dk_16 10 (dk_at dksX4_casts_5 17 rfl rfl)
theorem dX4_casts_137 : decode cX4_casts 137 = .ok (.if_icmp .ge 29, 3) := dk_162 0 29 (dk_at dksX4_casts_5 19 rfl rfl)
theorem dX4_casts_140 : decode cX4_casts 140 = .ok (.aload_n 0, 1) := dk_42 (dk_at dksX4_casts_5 22 rfl rfl)
theorem dX4_casts_141 : decode cX4_casts 141 = .ok (.getfield 7, 3) := dk_180 0 7 (dk_at dksX4_casts_6 0 rfl rfl)
theorem dX4_casts_144 : decode cX4_casts 144 = .ok (.bipush 91, 2) := dk_16 91 (dk_at dksX4_casts_6 3 rfl rfl)
theorem dX4_casts_146 : decode cX4_casts 146 = .ok (.bipush 10, 2) := dk_16 10 (dk_at dksX4_casts_6 5 rfl rfl)
theorem dX4_casts_148 : decode cX4_casts 148 = .ok (.iload_n 2, 1) := dk_28 (dk_at dksX4_casts_6 7 rfl rfl)
theorem dX4_casts_149 : decode cX4_casts 149 = .ok (.imul, 1) := dk_104 (dk_at dksX4_casts_6 8 rfl rfl)
theorem dX4_casts_150 : decode cX4_casts 150 = .ok (.iadd, 1) := dk_96 (dk_at dksX4_casts_6 9 rfl rfl)
theorem dX4_casts_151 : decode cX4_casts 151 = .ok (.iload_n 3, 1) := dk_29 (dk_at dksX4_casts_6 10 rfl rfl)
theorem dX4_casts_152 : decode cX4_casts 152 = .ok (.iadd, 1) := dk_96 (dk_at dksX4_casts_6 11 rfl rfl)
theorem dX4_casts_153 : decode cX4_casts 153 = .ok (.aload_n 0, 1) := dk_42 (dk_at dksX4_casts_6 12 rfl rfl)
theorem dX4_casts_154 : decode cX4_casts 154 = .ok (.iload_n 1, 1) := dk_27 (dk_at dksX4_casts_6 13 rfl rfl)
theorem dX4_casts_155 : decode cX4_casts 155 = .ok (.iload_n 3, 1) := dk_29 (dk_at dksX4_casts_6 14 rfl rfl)
theorem dX4_casts_156 : decode cX4_casts 156 = .ok (.invokevirtual 61, 3) := dk_182 0 61 (dk_at dksX4_casts_6 15 rfl rfl)
theorem dX4_casts_159 : decode cX4_casts 159 = .ok (.iastore, 1) := dk_79 (dk_at dksX4_casts_6 18 rfl rfl)
theorem dX4_casts_160 : decode cX4_casts 160 = .ok (.iinc 3 1, 3) := dk_132 3 1 (dk_at dksX4_casts_6 19 rfl rfl)
theorem dX4_casts_163 : decode cX4_casts 163 = .ok (.goto (-29), 3) := dk_167 255 227 (dk_at dksX4_casts_7 0 rfl rfl)
theorem dX4_casts_166 : decode cX4_casts 166 = .ok (.aload_n 0, 1) := dk_42 (dk_at dksX4_casts_7 3 rfl rfl)
theorem dX4_casts_167 : decode cX4_casts 167 = .ok (.getfield 7, 3) := dk_180 0 7 (dk_at dksX4_casts_7 4 rfl rfl)
theorem dX4_casts_170 : decode cX4_casts 170 = .ok (.bipush 50, 2) := dk_16 50 (dk_at dksX4_casts_7 7 rfl rfl)
theorem dX4_casts_172 : decode cX4_casts 172 = .ok (.dup2, 1) := dk_92 (dk_at dksX4_casts_7 9 rfl rfl)
theorem dX4_casts_173 : decode cX4_casts 173 = .ok (.iaload, 1) := dk_46 (dk_at dksX4_casts_7 10 rfl rfl)
theorem dX4_casts_174 : decode cX4_casts 174 = .ok (.iconst 1, 1) := dk_4 (dk_at dksX4_casts_7 11 rfl rfl)
theorem dX4_casts_175 : decode cX4_casts 175 = .ok (.iadd, 1) := dk_96 (dk_at dksX4_casts_7 12 rfl rfl)
theorem dX4_casts_176 : decode cX4_casts 176 = .ok (.iastore, 1) := dk_79 (dk_at dksX4_casts_7 13 rfl rfl)
theorem dX4_casts_177 : decode cX4_casts 177 = .ok (.iload_n 2, 1) := dk_28 (dk_at dksX4_casts_7 14 rfl rfl)
theorem dX4_casts_178 : decode cX4_casts 178 = .ok (.ireturn, 1) := dk_172 (dk_at dksX4_casts_7 15 rfl rfl)
abbrev cX4_castOf : ByteArray := prog_17_method_22_code
def yX4_castOf : MethodName := ⟨RX4, "castOf", "(II)I"⟩
def dkwX4_castOf_3 : List UInt8 := [16, 61, 27, 96, 46, 172, 42, 180, 0, 7, 16, 81, 27, 96, 46, 172, 16, 244, 172]
abbrev dktX4_castOf_3 : List UInt8 := dkwX4_castOf_3 ++ []
def dkwX4_castOf_2 : List UInt8 := [42, 180, 0, 7, 16, 51, 27, 96, 46, 172, 42, 180, 0, 7, 16, 71, 27, 96, 46, 172, 42, 180, 0, 7]
abbrev dktX4_castOf_2 : List UInt8 := dkwX4_castOf_2 ++ dktX4_castOf_3
def dkwX4_castOf_1 : List UInt8 := [170, 0, 0, 0, 0, 0, 0, 72, 0, 0, 0, 0, 0, 0, 0, 3, 0, 0, 0, 32, 0, 0, 0, 42, 0, 0, 0, 52, 0, 0, 0, 62]
abbrev dktX4_castOf_1 : List UInt8 := dkwX4_castOf_1 ++ dktX4_castOf_2
def dkwX4_castOf_0 : List UInt8 := [42, 27, 182, 0, 83, 154, 0, 6, 16, 245, 172, 28]
abbrev dktX4_castOf_0 : List UInt8 := dkwX4_castOf_0 ++ dktX4_castOf_1
theorem dksX4_castOf_0 : cX4_castOf.data.toList.drop 0 = dktX4_castOf_0 := by decide +kernel
theorem dksX4_castOf_1 : cX4_castOf.data.toList.drop 12 = dktX4_castOf_1 := dk_seg dksX4_castOf_0 12 rfl rfl
theorem dksX4_castOf_2 : cX4_castOf.data.toList.drop 44 = dktX4_castOf_2 := dk_seg dksX4_castOf_1 32 rfl rfl
theorem dksX4_castOf_3 : cX4_castOf.data.toList.drop 68 = dktX4_castOf_3 := dk_seg dksX4_castOf_2 24 rfl rfl
theorem dX4_castOf_0 : decode cX4_castOf 0 = .ok (.aload_n 0, 1) := dk_42 (dk_at dksX4_castOf_0 0 rfl rfl)
theorem dX4_castOf_1 : decode cX4_castOf 1 = .ok (.iload_n 1, 1) := dk_27 (dk_at dksX4_castOf_0 1 rfl rfl)
theorem dX4_castOf_2 : decode cX4_castOf 2 = .ok (.invokevirtual 83, 3) := dk_182 0 83 (dk_at dksX4_castOf_0 2 rfl rfl)
theorem dX4_castOf_5 : decode cX4_castOf 5 = .ok (.ifCond .ne 6, 3) := dk_154 0 6 (dk_at dksX4_castOf_0 5 rfl rfl)
theorem dX4_castOf_8 : decode cX4_castOf 8 = .ok (.bipush (-11), 2) := dk_16 245 (dk_at dksX4_castOf_0 8 rfl rfl)
theorem dX4_castOf_10 : decode cX4_castOf 10 = .ok (.ireturn, 1) := dk_172 (dk_at dksX4_castOf_0 10 rfl rfl)
theorem dX4_castOf_11 : decode cX4_castOf 11 = .ok (.iload_n 2, 1) := dk_28 (dk_at dksX4_castOf_0 11 rfl rfl)
theorem dX4_castOf_12 : decode cX4_castOf 12 = .ok (.tableswitch 72 0 3 #[32, 42, 52, 62], 32) := by decide +kernel
theorem dX4_castOf_44 : decode cX4_castOf 44 = .ok (.aload_n 0, 1) := dk_42 (dk_at dksX4_castOf_2 0 rfl rfl)
theorem dX4_castOf_45 : decode cX4_castOf 45 = .ok (.getfield 7, 3) := dk_180 0 7 (dk_at dksX4_castOf_2 1 rfl rfl)
theorem dX4_castOf_48 : decode cX4_castOf 48 = .ok (.bipush 51, 2) := dk_16 51 (dk_at dksX4_castOf_2 4 rfl rfl)
theorem dX4_castOf_50 : decode cX4_castOf 50 = .ok (.iload_n 1, 1) := dk_27 (dk_at dksX4_castOf_2 6 rfl rfl)
theorem dX4_castOf_51 : decode cX4_castOf 51 = .ok (.iadd, 1) := dk_96 (dk_at dksX4_castOf_2 7 rfl rfl)
theorem dX4_castOf_52 : decode cX4_castOf 52 = .ok (.iaload, 1) := dk_46 (dk_at dksX4_castOf_2 8 rfl rfl)
theorem dX4_castOf_53 : decode cX4_castOf 53 = .ok (.ireturn, 1) := dk_172 (dk_at dksX4_castOf_2 9 rfl rfl)
theorem dX4_castOf_54 : decode cX4_castOf 54 = .ok (.aload_n 0, 1) := dk_42 (dk_at dksX4_castOf_2 10 rfl rfl)
theorem dX4_castOf_55 : decode cX4_castOf 55 = .ok (.getfield 7, 3) := dk_180 0 7 (dk_at dksX4_castOf_2 11 rfl rfl)
theorem dX4_castOf_58 : decode cX4_castOf 58 = .ok (.bipush 71, 2) := dk_16 71 (dk_at dksX4_castOf_2 14 rfl rfl)
theorem dX4_castOf_60 : decode cX4_castOf 60 = .ok (.iload_n 1, 1) := dk_27 (dk_at dksX4_castOf_2 16 rfl rfl)
theorem dX4_castOf_61 : decode cX4_castOf 61 = .ok (.iadd, 1) := dk_96 (dk_at dksX4_castOf_2 17 rfl rfl)
theorem dX4_castOf_62 : decode cX4_castOf 62 = .ok (.iaload, 1) := dk_46 (dk_at dksX4_castOf_2 18 rfl rfl)
theorem dX4_castOf_63 : decode cX4_castOf 63 = .ok (.ireturn, 1) := dk_172 (dk_at dksX4_castOf_2 19 rfl rfl)
theorem dX4_castOf_64 : decode cX4_castOf 64 = .ok (.aload_n 0, 1) := dk_42 (dk_at dksX4_castOf_2 20 rfl rfl)
theorem dX4_castOf_65 : decode cX4_castOf 65 = .ok (.getfield 7, 3) := dk_180 0 7 (dk_at dksX4_castOf_2 21 rfl rfl)
theorem dX4_castOf_68 : decode cX4_castOf 68 = .ok (.bipush 61, 2) := dk_16 61 (dk_at dksX4_castOf_3 0 rfl rfl)
theorem dX4_castOf_70 : decode cX4_castOf 70 = .ok (.iload_n 1, 1) := dk_27 (dk_at dksX4_castOf_3 2 rfl rfl)
theorem dX4_castOf_71 : decode cX4_castOf 71 = .ok (.iadd, 1) := dk_96 (dk_at dksX4_castOf_3 3 rfl rfl)
theorem dX4_castOf_72 : decode cX4_castOf 72 = .ok (.iaload, 1) := dk_46 (dk_at dksX4_castOf_3 4 rfl rfl)
theorem dX4_castOf_73 : decode cX4_castOf 73 = .ok (.ireturn, 1) := dk_172 (dk_at dksX4_castOf_3 5 rfl rfl)
theorem dX4_castOf_74 : decode cX4_castOf 74 = .ok (.aload_n 0, 1) := dk_42 (dk_at dksX4_castOf_3 6 rfl rfl)
theorem dX4_castOf_75 : decode cX4_castOf 75 = .ok (.getfield 7, 3) := dk_180 0 7 (dk_at dksX4_castOf_3 7 rfl rfl)
theorem dX4_castOf_78 : decode cX4_castOf 78 = .ok (.bipush 81, 2) := dk_16 81 (dk_at dksX4_castOf_3 10 rfl rfl)
theorem dX4_castOf_80 : decode cX4_castOf 80 = .ok (.iload_n 1, 1) := dk_27 (dk_at dksX4_castOf_3 12 rfl rfl)
theorem dX4_castOf_81 : decode cX4_castOf 81 = .ok (.iadd, 1) := dk_96 (dk_at dksX4_castOf_3 13 rfl rfl)
theorem dX4_castOf_82 : decode cX4_castOf 82 = .ok (.iaload, 1) := dk_46 (dk_at dksX4_castOf_3 14 rfl rfl)
theorem dX4_castOf_83 : decode cX4_castOf 83 = .ok (.ireturn, 1) := dk_172 (dk_at dksX4_castOf_3 15 rfl rfl)
theorem dX4_castOf_84 : decode cX4_castOf 84 = .ok (.bipush (-12), 2) := dk_16 244 (dk_at dksX4_castOf_3 16 rfl rfl)
theorem dX4_castOf_86 : decode cX4_castOf 86 = .ok (.ireturn, 1) := dk_172 (dk_at dksX4_castOf_3 18 rfl rfl)
abbrev cX4_isCast : ByteArray := prog_17_method_10_code
def yX4_isCast : MethodName := ⟨RX4, "isCast", "(I)Z"⟩
def dkwX4_isCast_0 : List UInt8 := [27, 3, 42, 180, 0, 7, 16, 50, 46, 4, 100, 184, 0, 46, 172]
abbrev dktX4_isCast_0 : List UInt8 := dkwX4_isCast_0 ++ []
theorem dksX4_isCast_0 : cX4_isCast.data.toList.drop 0 = dktX4_isCast_0 := by decide +kernel
theorem dX4_isCast_0 : decode cX4_isCast 0 = .ok (.iload_n 1, 1) := dk_27 (dk_at dksX4_isCast_0 0 rfl rfl)
theorem dX4_isCast_1 : decode cX4_isCast 1 = .ok (.iconst 0, 1) := dk_3 (dk_at dksX4_isCast_0 1 rfl rfl)
theorem dX4_isCast_2 : decode cX4_isCast 2 = .ok (.aload_n 0, 1) := dk_42 (dk_at dksX4_isCast_0 2 rfl rfl)
theorem dX4_isCast_3 : decode cX4_isCast 3 = .ok (.getfield 7, 3) := dk_180 0 7 (dk_at dksX4_isCast_0 3 rfl rfl)
theorem dX4_isCast_6 : decode cX4_isCast 6 = .ok (.bipush 50, 2) := dk_16 50 (dk_at dksX4_isCast_0 6 rfl rfl)
theorem dX4_isCast_8 : decode cX4_isCast 8 = .ok (.iaload, 1) := dk_46 (dk_at dksX4_isCast_0 8 rfl rfl)
theorem dX4_isCast_9 : decode cX4_isCast 9 = .ok (.iconst 1, 1) := dk_4 (dk_at dksX4_isCast_0 9 rfl rfl)
theorem dX4_isCast_10 : decode cX4_isCast 10 = .ok (.isub, 1) := dk_100 (dk_at dksX4_isCast_0 10 rfl rfl)
theorem dX4_isCast_11 : decode cX4_isCast 11 = .ok (.invokestatic 46, 3) := dk_184 0 46 (dk_at dksX4_isCast_0 11 rfl rfl)
theorem dX4_isCast_14 : decode cX4_isCast 14 = .ok (.ireturn, 1) := dk_172 (dk_at dksX4_isCast_0 14 rfl rfl)
abbrev cX4_castDepth : ByteArray := prog_17_method_23_code
def yX4_castDepth : MethodName := ⟨RX4, "castDepth", "(II)I"⟩
def dkwX4_castDepth_1 : List UInt8 := [104, 96, 28, 96, 46, 167, 0, 5, 16, 245, 172]
abbrev dktX4_castDepth_1 : List UInt8 := dkwX4_castDepth_1 ++ []
def dkwX4_castDepth_0 : List UInt8 := [42, 27, 182, 0, 83, 153, 0, 27, 28, 184, 0, 58, 153, 0, 20, 42, 180, 0, 7, 16, 91, 16, 10, 27]
abbrev dktX4_castDepth_0 : List UInt8 := dkwX4_castDepth_0 ++ dktX4_castDepth_1
theorem dksX4_castDepth_0 : cX4_castDepth.data.toList.drop 0 = dktX4_castDepth_0 := by decide +kernel
theorem dksX4_castDepth_1 : cX4_castDepth.data.toList.drop 24 = dktX4_castDepth_1 := dk_seg dksX4_castDepth_0 24 rfl rfl
theorem dX4_castDepth_0 : decode cX4_castDepth 0 = .ok (.aload_n 0, 1) := dk_42 (dk_at dksX4_castDepth_0 0 rfl rfl)
theorem dX4_castDepth_1 : decode cX4_castDepth 1 = .ok (.iload_n 1, 1) := dk_27 (dk_at dksX4_castDepth_0 1 rfl rfl)
theorem dX4_castDepth_2 : decode cX4_castDepth 2 = .ok (.invokevirtual 83, 3) := dk_182 0 83 (dk_at dksX4_castDepth_0 2 rfl rfl)
theorem dX4_castDepth_5 : decode cX4_castDepth 5 = .ok (.ifCond .eq 27, 3) := dk_153 0 27 (dk_at dksX4_castDepth_0 5 rfl rfl)
theorem dX4_castDepth_8 : decode cX4_castDepth 8 = .ok (.iload_n 2, 1) := dk_28 (dk_at dksX4_castDepth_0 8 rfl rfl)
theorem dX4_castDepth_9 : decode cX4_castDepth 9 = .ok (.invokestatic 58, 3) := dk_184 0 58 (dk_at dksX4_castDepth_0 9 rfl rfl)
theorem dX4_castDepth_12 : decode cX4_castDepth 12 = .ok (.ifCond .eq 20, 3) := dk_153 0 20 (dk_at dksX4_castDepth_0 12 rfl rfl)
theorem dX4_castDepth_15 : decode cX4_castDepth 15 = .ok (.aload_n 0, 1) := dk_42 (dk_at dksX4_castDepth_0 15 rfl rfl)
theorem dX4_castDepth_16 : decode cX4_castDepth 16 = .ok (.getfield 7, 3) := dk_180 0 7 (dk_at dksX4_castDepth_0 16 rfl rfl)
theorem dX4_castDepth_19 : decode cX4_castDepth 19 = .ok (.bipush 91, 2) := dk_16 91 (dk_at dksX4_castDepth_0 19 rfl rfl)
theorem dX4_castDepth_21 : decode cX4_castDepth 21 = .ok (.bipush 10, 2) := dk_16 10 (dk_at dksX4_castDepth_0 21 rfl rfl)
theorem dX4_castDepth_23 : decode cX4_castDepth 23 = .ok (.iload_n 1, 1) := dk_27 (dk_at dksX4_castDepth_0 23 rfl rfl)
theorem dX4_castDepth_24 : decode cX4_castDepth 24 = .ok (.imul, 1) := dk_104 (dk_at dksX4_castDepth_1 0 rfl rfl)
theorem dX4_castDepth_25 : decode cX4_castDepth 25 = .ok (.iadd, 1) := dk_96 (dk_at dksX4_castDepth_1 1 rfl rfl)
theorem dX4_castDepth_26 : decode cX4_castDepth 26 = .ok (.iload_n 2, 1) := dk_28 (dk_at dksX4_castDepth_1 2 rfl rfl)
theorem dX4_castDepth_27 : decode cX4_castDepth 27 = .ok (.iadd, 1) := dk_96 (dk_at dksX4_castDepth_1 3 rfl rfl)
theorem dX4_castDepth_28 : decode cX4_castDepth 28 = .ok (.iaload, 1) := dk_46 (dk_at dksX4_castDepth_1 4 rfl rfl)
theorem dX4_castDepth_29 : decode cX4_castDepth 29 = .ok (.goto 5, 3) := dk_167 0 5 (dk_at dksX4_castDepth_1 5 rfl rfl)
theorem dX4_castDepth_32 : decode cX4_castDepth 32 = .ok (.bipush (-11), 2) := dk_16 245 (dk_at dksX4_castDepth_1 8 rfl rfl)
theorem dX4_castDepth_34 : decode cX4_castDepth 34 = .ok (.ireturn, 1) := dk_172 (dk_at dksX4_castDepth_1 10 rfl rfl)
abbrev cX4_copyist : ByteArray := prog_17_method_24_code
def yX4_copyist : MethodName := ⟨RX4, "copyist", "(I)I"⟩
def dkwX4_copyist_3 : List UInt8 := [79, 42, 180, 0, 7, 17, 0, 191, 92, 46, 4, 96, 79, 42, 28, 182, 0, 77, 172]
abbrev dktX4_copyist_3 : List UInt8 := dkwX4_copyist_3 ++ []
def dkwX4_copyist_2 : List UInt8 := [79, 42, 180, 0, 7, 17, 0, 200, 28, 96, 17, 2, 88, 79, 42, 180, 0, 7, 17, 0, 208, 28, 96, 4]
abbrev dktX4_copyist_2 : List UInt8 := dkwX4_copyist_2 ++ dktX4_copyist_3
def dkwX4_copyist_1 : List UInt8 := [160, 0, 10, 42, 4, 7, 182, 0, 65, 172, 42, 182, 0, 68, 42, 180, 0, 7, 17, 0, 192, 28, 96, 27]
abbrev dktX4_copyist_1 : List UInt8 := dkwX4_copyist_1 ++ dktX4_copyist_2
def dkwX4_copyist_0 : List UInt8 := [27, 3, 5, 184, 0, 46, 154, 0, 6, 16, 244, 172, 42, 180, 0, 7, 17, 0, 191, 46, 61, 28, 7]
abbrev dktX4_copyist_0 : List UInt8 := dkwX4_copyist_0 ++ dktX4_copyist_1
theorem dksX4_copyist_0 : cX4_copyist.data.toList.drop 0 = dktX4_copyist_0 := by decide +kernel
theorem dksX4_copyist_1 : cX4_copyist.data.toList.drop 23 = dktX4_copyist_1 := dk_seg dksX4_copyist_0 23 rfl rfl
theorem dksX4_copyist_2 : cX4_copyist.data.toList.drop 47 = dktX4_copyist_2 := dk_seg dksX4_copyist_1 24 rfl rfl
theorem dksX4_copyist_3 : cX4_copyist.data.toList.drop 71 = dktX4_copyist_3 := dk_seg dksX4_copyist_2 24 rfl rfl
theorem dX4_copyist_0 : decode cX4_copyist 0 = .ok (.iload_n 1, 1) := dk_27 (dk_at dksX4_copyist_0 0 rfl rfl)
theorem dX4_copyist_1 : decode cX4_copyist 1 = .ok (.iconst 0, 1) := dk_3 (dk_at dksX4_copyist_0 1 rfl rfl)
theorem dX4_copyist_2 : decode cX4_copyist 2 = .ok (.iconst 2, 1) := dk_5 (dk_at dksX4_copyist_0 2 rfl rfl)
theorem dX4_copyist_3 : decode cX4_copyist 3 = .ok (.invokestatic 46, 3) := dk_184 0 46 (dk_at dksX4_copyist_0 3 rfl rfl)
theorem dX4_copyist_6 : decode cX4_copyist 6 = .ok (.ifCond .ne 6, 3) := dk_154 0 6 (dk_at dksX4_copyist_0 6 rfl rfl)
theorem dX4_copyist_9 : decode cX4_copyist 9 = .ok (.bipush (-12), 2) := dk_16 244 (dk_at dksX4_copyist_0 9 rfl rfl)
theorem dX4_copyist_11 : decode cX4_copyist 11 = .ok (.ireturn, 1) := dk_172 (dk_at dksX4_copyist_0 11 rfl rfl)
theorem dX4_copyist_12 : decode cX4_copyist 12 = .ok (.aload_n 0, 1) := dk_42 (dk_at dksX4_copyist_0 12 rfl rfl)
theorem dX4_copyist_13 : decode cX4_copyist 13 = .ok (.getfield 7, 3) := dk_180 0 7 (dk_at dksX4_copyist_0 13 rfl rfl)
theorem dX4_copyist_16 : decode cX4_copyist 16 = .ok (.sipush 191, 3) := dk_17 0 191 (dk_at dksX4_copyist_0 16 rfl rfl)
theorem dX4_copyist_19 : decode cX4_copyist 19 = .ok (.iaload, 1) := dk_46 (dk_at dksX4_copyist_0 19 rfl rfl)
theorem dX4_copyist_20 : decode cX4_copyist 20 = .ok (.istore_n 2, 1) := dk_61 (dk_at dksX4_copyist_0 20 rfl rfl)
theorem dX4_copyist_21 : decode cX4_copyist 21 = .ok (.iload_n 2, 1) := dk_28 (dk_at dksX4_copyist_0 21 rfl rfl)
theorem dX4_copyist_22 : decode cX4_copyist 22 = .ok (.iconst 4, 1) := dk_7 (dk_at dksX4_copyist_0 22 rfl rfl)
theorem dX4_copyist_23 : decode cX4_copyist 23 = .ok (.if_icmp .ne 10, 3) := dk_160 0 10 (dk_at dksX4_copyist_1 0 rfl rfl)
theorem dX4_copyist_26 : decode cX4_copyist 26 = .ok (.aload_n 0, 1) := dk_42 (dk_at dksX4_copyist_1 3 rfl rfl)
theorem dX4_copyist_27 : decode cX4_copyist 27 = .ok (.iconst 1, 1) := dk_4 (dk_at dksX4_copyist_1 4 rfl rfl)
theorem dX4_copyist_28 : decode cX4_copyist 28 = .ok (.iconst 4, 1) := dk_7 (dk_at dksX4_copyist_1 5 rfl rfl)
theorem dX4_copyist_29 : decode cX4_copyist 29 = .ok (.invokevirtual 65, 3) := dk_182 0 65 (dk_at dksX4_copyist_1 6 rfl rfl)
theorem dX4_copyist_32 : decode cX4_copyist 32 = .ok (.ireturn, 1) := dk_172 (dk_at dksX4_copyist_1 9 rfl rfl)
theorem dX4_copyist_33 : decode cX4_copyist 33 = .ok (.aload_n 0, 1) := dk_42 (dk_at dksX4_copyist_1 10 rfl rfl)
theorem dX4_copyist_34 : decode cX4_copyist 34 = .ok (.invokevirtual 68, 3) := dk_182 0 68 (dk_at dksX4_copyist_1 11 rfl rfl)
theorem dX4_copyist_37 : decode cX4_copyist 37 = .ok (.aload_n 0, 1) := dk_42 (dk_at dksX4_copyist_1 14 rfl rfl)
theorem dX4_copyist_38 : decode cX4_copyist 38 = .ok (.getfield 7, 3) := dk_180 0 7 (dk_at dksX4_copyist_1 15 rfl rfl)
theorem dX4_copyist_41 : decode cX4_copyist 41 = .ok (.sipush 192, 3) := dk_17 0 192 (dk_at dksX4_copyist_1 18 rfl rfl)
theorem dX4_copyist_44 : decode cX4_copyist 44 = .ok (.iload_n 2, 1) := dk_28 (dk_at dksX4_copyist_1 21 rfl rfl)
theorem dX4_copyist_45 : decode cX4_copyist 45 = .ok (.iadd, 1) := dk_96 (dk_at dksX4_copyist_1 22 rfl rfl)
theorem dX4_copyist_46 : decode cX4_copyist 46 = .ok (.iload_n 1, 1) := dk_27 (dk_at dksX4_copyist_1 23 rfl rfl)
theorem dX4_copyist_47 : decode cX4_copyist 47 = .ok (.iastore, 1) := dk_79 (dk_at dksX4_copyist_2 0 rfl rfl)
theorem dX4_copyist_48 : decode cX4_copyist 48 = .ok (.aload_n 0, 1) := dk_42 (dk_at dksX4_copyist_2 1 rfl rfl)
theorem dX4_copyist_49 : decode cX4_copyist 49 = .ok (.getfield 7, 3) := dk_180 0 7 (dk_at dksX4_copyist_2 2 rfl rfl)
theorem dX4_copyist_52 : decode cX4_copyist 52 = .ok (.sipush 200, 3) := dk_17 0 200 (dk_at dksX4_copyist_2 5 rfl rfl)
theorem dX4_copyist_55 : decode cX4_copyist 55 = .ok (.iload_n 2, 1) := dk_28 (dk_at dksX4_copyist_2 8 rfl rfl)
theorem dX4_copyist_56 : decode cX4_copyist 56 = .ok (.iadd, 1) := dk_96 (dk_at dksX4_copyist_2 9 rfl rfl)
theorem dX4_copyist_57 : decode cX4_copyist 57 = .ok (.sipush 600, 3) := dk_17 2 88 (dk_at dksX4_copyist_2 10 rfl rfl)
theorem dX4_copyist_60 : decode cX4_copyist 60 = .ok (.iastore, 1) := dk_79 (dk_at dksX4_copyist_2 13 rfl rfl)
theorem dX4_copyist_61 : decode cX4_copyist 61 = .ok (.aload_n 0, 1) := dk_42 (dk_at dksX4_copyist_2 14 rfl rfl)
theorem dX4_copyist_62 : decode cX4_copyist 62 = .ok (.getfield 7, 3) := dk_180 0 7 (dk_at dksX4_copyist_2 15 rfl rfl)
theorem dX4_copyist_65 : decode cX4_copyist 65 = .ok (.sipush 208, 3) := dk_17 0 208 (dk_at dksX4_copyist_2 18 rfl rfl)
theorem dX4_copyist_68 : decode cX4_copyist 68 = .ok (.iload_n 2, 1) := dk_28 (dk_at dksX4_copyist_2 21 rfl rfl)
theorem dX4_copyist_69 : decode cX4_copyist 69 = .ok (.iadd, 1) := dk_96 (dk_at dksX4_copyist_2 22 rfl rfl)
theorem dX4_copyist_70 : decode cX4_copyist 70 = .ok (.iconst 1, 1) := dk_4 (dk_at dksX4_copyist_2 23 rfl rfl)
theorem dX4_copyist_71 : decode cX4_copyist 71 = .ok (.iastore, 1) := dk_79 (dk_at dksX4_copyist_3 0 rfl rfl)
theorem dX4_copyist_72 : decode cX4_copyist 72 = .ok (.aload_n 0, 1) := dk_42 (dk_at dksX4_copyist_3 1 rfl rfl)
theorem dX4_copyist_73 : decode cX4_copyist 73 = .ok (.getfield 7, 3) := dk_180 0 7 (dk_at dksX4_copyist_3 2 rfl rfl)
theorem dX4_copyist_76 : decode cX4_copyist 76 = .ok (.sipush 191, 3) := dk_17 0 191 (dk_at dksX4_copyist_3 5 rfl rfl)
theorem dX4_copyist_79 : decode cX4_copyist 79 = .ok (.dup2, 1) := dk_92 (dk_at dksX4_copyist_3 8 rfl rfl)
theorem dX4_copyist_80 : decode cX4_copyist 80 = .ok (.iaload, 1) := dk_46 (dk_at dksX4_copyist_3 9 rfl rfl)
theorem dX4_copyist_81 : decode cX4_copyist 81 = .ok (.iconst 1, 1) := dk_4 (dk_at dksX4_copyist_3 10 rfl rfl)
theorem dX4_copyist_82 : decode cX4_copyist 82 = .ok (.iadd, 1) := dk_96 (dk_at dksX4_copyist_3 11 rfl rfl)
theorem dX4_copyist_83 : decode cX4_copyist 83 = .ok (.iastore, 1) := dk_79 (dk_at dksX4_copyist_3 12 rfl rfl)
theorem dX4_copyist_84 : decode cX4_copyist 84 = .ok (.aload_n 0, 1) := dk_42 (dk_at dksX4_copyist_3 13 rfl rfl)
theorem dX4_copyist_85 : decode cX4_copyist 85 = .ok (.iload_n 2, 1) := dk_28 (dk_at dksX4_copyist_3 14 rfl rfl)
theorem dX4_copyist_86 : decode cX4_copyist 86 = .ok (.invokevirtual 77, 3) := dk_182 0 77 (dk_at dksX4_copyist_3 15 rfl rfl)
theorem dX4_copyist_89 : decode cX4_copyist 89 = .ok (.ireturn, 1) := dk_172 (dk_at dksX4_copyist_3 18 rfl rfl)
abbrev cX4_begin : ByteArray := prog_17_method_26_code
def yX4_begin : MethodName := ⟨RX4, "begin", "(I)I"⟩
def dkwX4_begin_0 : List UInt8 := [42, 182, 0, 68, 42, 42, 27, 182, 0, 86, 182, 0, 77, 172]
abbrev dktX4_begin_0 : List UInt8 := dkwX4_begin_0 ++ []
theorem dksX4_begin_0 : cX4_begin.data.toList.drop 0 = dktX4_begin_0 := by decide +kernel
theorem dX4_begin_0 : decode cX4_begin 0 = .ok (.aload_n 0, 1) := dk_42 (dk_at dksX4_begin_0 0 rfl rfl)
theorem dX4_begin_1 : decode cX4_begin 1 = .ok (.invokevirtual 68, 3) := dk_182 0 68 (dk_at dksX4_begin_0 1 rfl rfl)
theorem dX4_begin_4 : decode cX4_begin 4 = .ok (.aload_n 0, 1) := dk_42 (dk_at dksX4_begin_0 4 rfl rfl)
theorem dX4_begin_5 : decode cX4_begin 5 = .ok (.aload_n 0, 1) := dk_42 (dk_at dksX4_begin_0 5 rfl rfl)
theorem dX4_begin_6 : decode cX4_begin 6 = .ok (.iload_n 1, 1) := dk_27 (dk_at dksX4_begin_0 6 rfl rfl)
theorem dX4_begin_7 : decode cX4_begin 7 = .ok (.invokevirtual 86, 3) := dk_182 0 86 (dk_at dksX4_begin_0 7 rfl rfl)
theorem dX4_begin_10 : decode cX4_begin 10 = .ok (.invokevirtual 77, 3) := dk_182 0 77 (dk_at dksX4_begin_0 10 rfl rfl)
theorem dX4_begin_13 : decode cX4_begin 13 = .ok (.ireturn, 1) := dk_172 (dk_at dksX4_begin_0 13 rfl rfl)
abbrev cX4_begins : ByteArray := prog_17_method_25_code
def yX4_begins : MethodName := ⟨RX4, "begins", "(I)I"⟩
def dkwX4_begins_5 : List UInt8 := [17, 0, 212, 92, 46, 4, 96, 79, 28, 172]
abbrev dktX4_begins_5 : List UInt8 := dkwX4_begins_5 ++ []
def dkwX4_begins_4 : List UInt8 := [79, 132, 3, 1, 167, 255, 231, 42, 180, 0, 7, 16, 81, 27, 96, 92, 46, 4, 96, 79, 42, 180, 0, 7]
abbrev dktX4_begins_4 : List UInt8 := dkwX4_begins_4 ++ dktX4_begins_5
def dkwX4_begins_3 : List UInt8 := [79, 3, 62, 29, 16, 10, 162, 0, 25, 42, 180, 0, 7, 17, 0, 229, 16, 10, 28, 104, 96, 29, 96, 2]
abbrev dktX4_begins_3 : List UInt8 := dkwX4_begins_3 ++ dktX4_begins_4
def dkwX4_begins_2 : List UInt8 := [8, 42, 180, 0, 7, 16, 61, 27, 96, 46, 182, 0, 65, 172, 42, 180, 0, 7, 17, 0, 213, 28, 96, 27]
abbrev dktX4_begins_2 : List UInt8 := dkwX4_begins_2 ++ dktX4_begins_3
def dkwX4_begins_1 : List UInt8 := [160, 0, 11, 42, 4, 16, 8, 182, 0, 65, 172, 42, 180, 0, 7, 16, 71, 27, 96, 46, 154, 0, 18, 42]
abbrev dktX4_begins_1 : List UInt8 := dkwX4_begins_1 ++ dktX4_begins_2
def dkwX4_begins_0 : List UInt8 := [42, 27, 182, 0, 83, 154, 0, 6, 16, 245, 172, 42, 180, 0, 7, 17, 0, 212, 46, 61, 28, 16, 8]
abbrev dktX4_begins_0 : List UInt8 := dkwX4_begins_0 ++ dktX4_begins_1
theorem dksX4_begins_0 : cX4_begins.data.toList.drop 0 = dktX4_begins_0 := by decide +kernel
theorem dksX4_begins_1 : cX4_begins.data.toList.drop 23 = dktX4_begins_1 := dk_seg dksX4_begins_0 23 rfl rfl
theorem dksX4_begins_2 : cX4_begins.data.toList.drop 47 = dktX4_begins_2 := dk_seg dksX4_begins_1 24 rfl rfl
theorem dksX4_begins_3 : cX4_begins.data.toList.drop 71 = dktX4_begins_3 := dk_seg dksX4_begins_2 24 rfl rfl
theorem dksX4_begins_4 : cX4_begins.data.toList.drop 95 = dktX4_begins_4 := dk_seg dksX4_begins_3 24 rfl rfl
theorem dksX4_begins_5 : cX4_begins.data.toList.drop 119 = dktX4_begins_5 := dk_seg dksX4_begins_4 24 rfl rfl
theorem dX4_begins_0 : decode cX4_begins 0 = .ok (.aload_n 0, 1) := dk_42 (dk_at dksX4_begins_0 0 rfl rfl)
theorem dX4_begins_1 : decode cX4_begins 1 = .ok (.iload_n 1, 1) := dk_27 (dk_at dksX4_begins_0 1 rfl rfl)
theorem dX4_begins_2 : decode cX4_begins 2 = .ok (.invokevirtual 83, 3) := dk_182 0 83 (dk_at dksX4_begins_0 2 rfl rfl)
theorem dX4_begins_5 : decode cX4_begins 5 = .ok (.ifCond .ne 6, 3) := dk_154 0 6 (dk_at dksX4_begins_0 5 rfl rfl)
theorem dX4_begins_8 : decode cX4_begins 8 = .ok (.bipush (-11), 2) := dk_16 245 (dk_at dksX4_begins_0 8 rfl rfl)
theorem dX4_begins_10 : decode cX4_begins 10 = .ok (.ireturn, 1) := dk_172 (dk_at dksX4_begins_0 10 rfl rfl)
theorem dX4_begins_11 : decode cX4_begins 11 = .ok (.aload_n 0, 1) := dk_42 (dk_at dksX4_begins_0 11 rfl rfl)
theorem dX4_begins_12 : decode cX4_begins 12 = .ok (.getfield 7, 3) := dk_180 0 7 (dk_at dksX4_begins_0 12 rfl rfl)
theorem dX4_begins_15 : decode cX4_begins 15 = .ok (.sipush 212, 3) := dk_17 0 212 (dk_at dksX4_begins_0 15 rfl rfl)
theorem dX4_begins_18 : decode cX4_begins 18 = .ok (.iaload, 1) := dk_46 (dk_at dksX4_begins_0 18 rfl rfl)
theorem dX4_begins_19 : decode cX4_begins 19 = .ok (.istore_n 2, 1) := dk_61 (dk_at dksX4_begins_0 19 rfl rfl)
theorem dX4_begins_20 : decode cX4_begins 20 = .ok (.iload_n 2, 1) := dk_28 (dk_at dksX4_begins_0 20 rfl rfl)
theorem dX4_begins_21 : decode cX4_begins 21 = .ok (.bipush 8, 2) := dk_16 8 (dk_at dksX4_begins_0 21 rfl rfl)
theorem dX4_begins_23 : decode cX4_begins 23 = .ok (.if_icmp .ne 11, 3) := dk_160 0 11 (dk_at dksX4_begins_1 0 rfl rfl)
theorem dX4_begins_26 : decode cX4_begins 26 = .ok (.aload_n 0, 1) := dk_42 (dk_at dksX4_begins_1 3 rfl rfl)
theorem dX4_begins_27 : decode cX4_begins 27 = .ok (.iconst 1, 1) := dk_4 (dk_at dksX4_begins_1 4 rfl rfl)
theorem dX4_begins_28 : decode cX4_begins 28 = .ok (.bipush 8, 2) := dk_16 8 (dk_at dksX4_begins_1 5 rfl rfl)
theorem dX4_begins_30 : decode cX4_begins 30 = .ok (.invokevirtual 65, 3) := dk_182 0 65 (dk_at dksX4_begins_1 7 rfl rfl)
theorem dX4_begins_33 : decode cX4_begins 33 = .ok (.ireturn, 1) := dk_172 (dk_at dksX4_begins_1 10 rfl rfl)
theorem dX4_begins_34 : decode cX4_begins 34 = .ok (.aload_n 0, 1) := dk_42 (dk_at dksX4_begins_1 11 rfl rfl)
theorem dX4_begins_35 : decode cX4_begins 35 = .ok (.getfield 7, 3) := dk_180 0 7 (dk_at dksX4_begins_1 12 rfl rfl)
theorem dX4_begins_38 : decode cX4_begins 38 = .ok (.bipush 71, 2) := dk_16 71 (dk_at dksX4_begins_1 15 rfl rfl)
theorem dX4_begins_40 : decode cX4_begins 40 = .ok (.iload_n 1, 1) := dk_27 (dk_at dksX4_begins_1 17 rfl rfl)
theorem dX4_begins_41 : decode cX4_begins 41 = .ok (.iadd, 1) := dk_96 (dk_at dksX4_begins_1 18 rfl rfl)
theorem dX4_begins_42 : decode cX4_begins 42 = .ok (.iaload, 1) := dk_46 (dk_at dksX4_begins_1 19 rfl rfl)
theorem dX4_begins_43 : decode cX4_begins 43 = .ok (.ifCond .ne 18, 3) := dk_154 0 18 (dk_at dksX4_begins_1 20 rfl rfl)
theorem dX4_begins_46 : decode cX4_begins 46 = .ok (.aload_n 0, 1) := dk_42 (dk_at dksX4_begins_1 23 rfl rfl)
theorem dX4_begins_47 : decode cX4_begins 47 = .ok (.iconst 5, 1) := dk_8 (dk_at dksX4_begins_2 0 rfl rfl)
theorem dX4_begins_48 : decode cX4_begins 48 = .ok (.aload_n 0, 1) := dk_42 (dk_at dksX4_begins_2 1 rfl rfl)
theorem dX4_begins_49 : decode cX4_begins 49 = .ok (.getfield 7, 3) := dk_180 0 7 (dk_at dksX4_begins_2 2 rfl rfl)
theorem dX4_begins_52 : decode cX4_begins 52 = .ok (.bipush 61, 2) := dk_16 61 (dk_at dksX4_begins_2 5 rfl rfl)
theorem dX4_begins_54 : decode cX4_begins 54 = .ok (.iload_n 1, 1) := dk_27 (dk_at dksX4_begins_2 7 rfl rfl)
theorem dX4_begins_55 : decode cX4_begins 55 = .ok (.iadd, 1) := dk_96 (dk_at dksX4_begins_2 8 rfl rfl)
theorem dX4_begins_56 : decode cX4_begins 56 = .ok (.iaload, 1) := dk_46 (dk_at dksX4_begins_2 9 rfl rfl)
theorem dX4_begins_57 : decode cX4_begins 57 = .ok (.invokevirtual 65, 3) := dk_182 0 65 (dk_at dksX4_begins_2 10 rfl rfl)
theorem dX4_begins_60 : decode cX4_begins 60 = .ok (.ireturn, 1) := dk_172 (dk_at dksX4_begins_2 13 rfl rfl)
theorem dX4_begins_61 : decode cX4_begins 61 = .ok (.aload_n 0, 1) := dk_42 (dk_at dksX4_begins_2 14 rfl rfl)
theorem dX4_begins_62 : decode cX4_begins 62 = .ok (.getfield 7, 3) := dk_180 0 7 (dk_at dksX4_begins_2 15 rfl rfl)
theorem dX4_begins_65 : decode cX4_begins 65 = .ok (.sipush 213, 3) := dk_17 0 213 (dk_at dksX4_begins_2 18 rfl rfl)
theorem dX4_begins_68 : decode cX4_begins 68 = .ok (.iload_n 2, 1) := dk_28 (dk_at dksX4_begins_2 21 rfl rfl)
theorem dX4_begins_69 : decode cX4_begins 69 = .ok (.iadd, 1) := dk_96 (dk_at dksX4_begins_2 22 rfl rfl)
theorem dX4_begins_70 : decode cX4_begins 70 = .ok (.iload_n 1, 1) := dk_27 (dk_at dksX4_begins_2 23 rfl rfl)
theorem dX4_begins_71 : decode cX4_begins 71 = .ok (.iastore, 1) := dk_79 (dk_at dksX4_begins_3 0 rfl rfl)
theorem dX4_begins_72 : decode cX4_begins 72 = .ok (.iconst 0, 1) := dk_3 (dk_at dksX4_begins_3 1 rfl rfl)
theorem dX4_begins_73 : decode cX4_begins 73 = .ok (.istore_n 3, 1) := dk_62 (dk_at dksX4_begins_3 2 rfl rfl)
theorem dX4_begins_74 : decode cX4_begins 74 = .ok (.iload_n 3, 1) := dk_29 (dk_at dksX4_begins_3 3 rfl rfl)
theorem dX4_begins_75 : decode cX4_begins 75 = .ok (.bipush 10, 2) := dk_16 10 (dk_at dksX4_begins_3 4 rfl rfl)
theorem dX4_begins_77 : decode cX4_begins 77 = .ok (.if_icmp .ge 25, 3) := dk_162 0 25 (dk_at dksX4_begins_3 6 rfl rfl)
theorem dX4_begins_80 : decode cX4_begins 80 = .ok (.aload_n 0, 1) := dk_42 (dk_at dksX4_begins_3 9 rfl rfl)
theorem dX4_begins_81 : decode cX4_begins 81 = .ok (.getfield 7, 3) := dk_180 0 7 (dk_at dksX4_begins_3 10 rfl rfl)
theorem dX4_begins_84 : decode cX4_begins 84 = .ok (.sipush 229, 3) := dk_17 0 229 (dk_at dksX4_begins_3 13 rfl rfl)
theorem dX4_begins_87 : decode cX4_begins 87 = .ok (.bipush 10, 2) := dk_16 10 (dk_at dksX4_begins_3 16 rfl rfl)
theorem dX4_begins_89 : decode cX4_begins 89 = .ok (.iload_n 2, 1) := dk_28 (dk_at dksX4_begins_3 18 rfl rfl)
theorem dX4_begins_90 : decode cX4_begins 90 = .ok (.imul, 1) := dk_104 (dk_at dksX4_begins_3 19 rfl rfl)
theorem dX4_begins_91 : decode cX4_begins 91 = .ok (.iadd, 1) := dk_96 (dk_at dksX4_begins_3 20 rfl rfl)
theorem dX4_begins_92 : decode cX4_begins 92 = .ok (.iload_n 3, 1) := dk_29 (dk_at dksX4_begins_3 21 rfl rfl)
theorem dX4_begins_93 : decode cX4_begins 93 = .ok (.iadd, 1) := dk_96 (dk_at dksX4_begins_3 22 rfl rfl)
theorem dX4_begins_94 : decode cX4_begins 94 = .ok (.iconst (-1), 1) := dk_2 (dk_at dksX4_begins_3 23 rfl rfl)
theorem dX4_begins_95 : decode cX4_begins 95 = .ok (.iastore, 1) := dk_79 (dk_at dksX4_begins_4 0 rfl rfl)
theorem dX4_begins_96 : decode cX4_begins 96 = .ok (.iinc 3 1, 3) := dk_132 3 1 (dk_at dksX4_begins_4 1 rfl rfl)
theorem dX4_begins_99 : decode cX4_begins 99 = .ok (.goto (-25), 3) := dk_167 255 231 (dk_at dksX4_begins_4 4 rfl rfl)
theorem dX4_begins_102 : decode cX4_begins 102 = .ok (.aload_n 0, 1) := dk_42 (dk_at dksX4_begins_4 7 rfl rfl)
theorem dX4_begins_103 : decode cX4_begins 103 = .ok (.getfield 7, 3) := dk_180 0 7 (dk_at dksX4_begins_4 8 rfl rfl)
theorem dX4_begins_106 : decode cX4_begins 106 = .ok (.bipush 81, 2) := dk_16 81 (dk_at dksX4_begins_4 11 rfl rfl)
theorem dX4_begins_108 : decode cX4_begins 108 = .ok (.iload_n 1, 1) := dk_27 (dk_at dksX4_begins_4 13 rfl rfl)
theorem dX4_begins_109 : decode cX4_begins 109 = .ok (.iadd, 1) := dk_96 (dk_at dksX4_begins_4 14 rfl rfl)
theorem dX4_begins_110 : decode cX4_begins 110 = .ok (.dup2, 1) := dk_92 (dk_at dksX4_begins_4 15 rfl rfl)
theorem dX4_begins_111 : decode cX4_begins 111 = .ok (.iaload, 1) := dk_46 (dk_at dksX4_begins_4 16 rfl rfl)
theorem dX4_begins_112 : decode cX4_begins 112 = .ok (.iconst 1, 1) := dk_4 (dk_at dksX4_begins_4 17 rfl rfl)
theorem dX4_begins_113 : decode cX4_begins 113 = .ok (.iadd, 1) := dk_96 (dk_at dksX4_begins_4 18 rfl rfl)
theorem dX4_begins_114 : decode cX4_begins 114 = .ok (.iastore, 1) := dk_79 (dk_at dksX4_begins_4 19 rfl rfl)
theorem dX4_begins_115 : decode cX4_begins 115 = .ok (.aload_n 0, 1) := dk_42 (dk_at dksX4_begins_4 20 rfl rfl)
theorem dX4_begins_116 : decode cX4_begins 116 = .ok (.getfield 7, 3) := dk_180 0 7 (dk_at dksX4_begins_4 21 rfl rfl)
theorem dX4_begins_119 : decode cX4_begins 119 = .ok (.sipush 212, 3) := dk_17 0 212 (dk_at dksX4_begins_5 0 rfl rfl)
theorem dX4_begins_122 : decode cX4_begins 122 = .ok (.dup2, 1) := dk_92 (dk_at dksX4_begins_5 3 rfl rfl)
theorem dX4_begins_123 : decode cX4_begins 123 = .ok (.iaload, 1) := dk_46 (dk_at dksX4_begins_5 4 rfl rfl)
theorem dX4_begins_124 : decode cX4_begins 124 = .ok (.iconst 1, 1) := dk_4 (dk_at dksX4_begins_5 5 rfl rfl)
theorem dX4_begins_125 : decode cX4_begins 125 = .ok (.iadd, 1) := dk_96 (dk_at dksX4_begins_5 6 rfl rfl)
theorem dX4_begins_126 : decode cX4_begins 126 = .ok (.iastore, 1) := dk_79 (dk_at dksX4_begins_5 7 rfl rfl)
theorem dX4_begins_127 : decode cX4_begins 127 = .ok (.iload_n 2, 1) := dk_28 (dk_at dksX4_begins_5 8 rfl rfl)
theorem dX4_begins_128 : decode cX4_begins 128 = .ok (.ireturn, 1) := dk_172 (dk_at dksX4_begins_5 9 rfl rfl)
abbrev cX4_would : ByteArray := prog_17_method_28_code
def yX4_would : MethodName := ⟨RX4, "would", "(III)I"⟩
def dkwX4_would_1 : List UInt8 := [27, 28, 29, 182, 0, 92, 167, 0, 5, 16, 245, 172]
abbrev dktX4_would_1 : List UInt8 := dkwX4_would_1 ++ []
def dkwX4_would_0 : List UInt8 := [42, 27, 182, 0, 89, 153, 0, 28, 42, 28, 182, 0, 83, 153, 0, 20, 29, 184, 0, 58, 153, 0, 13, 42]
abbrev dktX4_would_0 : List UInt8 := dkwX4_would_0 ++ dktX4_would_1
theorem dksX4_would_0 : cX4_would.data.toList.drop 0 = dktX4_would_0 := by decide +kernel
theorem dksX4_would_1 : cX4_would.data.toList.drop 24 = dktX4_would_1 := dk_seg dksX4_would_0 24 rfl rfl
theorem dX4_would_0 : decode cX4_would 0 = .ok (.aload_n 0, 1) := dk_42 (dk_at dksX4_would_0 0 rfl rfl)
theorem dX4_would_1 : decode cX4_would 1 = .ok (.iload_n 1, 1) := dk_27 (dk_at dksX4_would_0 1 rfl rfl)
theorem dX4_would_2 : decode cX4_would 2 = .ok (.invokevirtual 89, 3) := dk_182 0 89 (dk_at dksX4_would_0 2 rfl rfl)
theorem dX4_would_5 : decode cX4_would 5 = .ok (.ifCond .eq 28, 3) := dk_153 0 28 (dk_at dksX4_would_0 5 rfl rfl)
theorem dX4_would_8 : decode cX4_would 8 = .ok (.aload_n 0, 1) := dk_42 (dk_at dksX4_would_0 8 rfl rfl)
theorem dX4_would_9 : decode cX4_would 9 = .ok (.iload_n 2, 1) := dk_28 (dk_at dksX4_would_0 9 rfl rfl)
theorem dX4_would_10 : decode cX4_would 10 = .ok (.invokevirtual 83, 3) := dk_182 0 83 (dk_at dksX4_would_0 10 rfl rfl)
theorem dX4_would_13 : decode cX4_would 13 = .ok (.ifCond .eq 20, 3) := dk_153 0 20 (dk_at dksX4_would_0 13 rfl rfl)
theorem dX4_would_16 : decode cX4_would 16 = .ok (.iload_n 3, 1) := dk_29 (dk_at dksX4_would_0 16 rfl rfl)
theorem dX4_would_17 : decode cX4_would 17 = .ok (.invokestatic 58, 3) := dk_184 0 58 (dk_at dksX4_would_0 17 rfl rfl)
theorem dX4_would_20 : decode cX4_would 20 = .ok (.ifCond .eq 13, 3) := dk_153 0 13 (dk_at dksX4_would_0 20 rfl rfl)
theorem dX4_would_23 : decode cX4_would 23 = .ok (.aload_n 0, 1) := dk_42 (dk_at dksX4_would_0 23 rfl rfl)
theorem dX4_would_24 : decode cX4_would 24 = .ok (.iload_n 1, 1) := dk_27 (dk_at dksX4_would_1 0 rfl rfl)
theorem dX4_would_25 : decode cX4_would 25 = .ok (.iload_n 2, 1) := dk_28 (dk_at dksX4_would_1 1 rfl rfl)
theorem dX4_would_26 : decode cX4_would 26 = .ok (.iload_n 3, 1) := dk_29 (dk_at dksX4_would_1 2 rfl rfl)
theorem dX4_would_27 : decode cX4_would 27 = .ok (.invokevirtual 92, 3) := dk_182 0 92 (dk_at dksX4_would_1 3 rfl rfl)
theorem dX4_would_30 : decode cX4_would 30 = .ok (.goto 5, 3) := dk_167 0 5 (dk_at dksX4_would_1 6 rfl rfl)
theorem dX4_would_33 : decode cX4_would 33 = .ok (.bipush (-11), 2) := dk_16 245 (dk_at dksX4_would_1 9 rfl rfl)
theorem dX4_would_35 : decode cX4_would 35 = .ok (.ireturn, 1) := dk_172 (dk_at dksX4_would_1 11 rfl rfl)
abbrev cX4_isCopyist : ByteArray := prog_17_method_11_code
def yX4_isCopyist : MethodName := ⟨RX4, "isCopyist", "(I)Z"⟩
def dkwX4_isCopyist_0 : List UInt8 := [27, 3, 42, 180, 0, 7, 17, 0, 191, 46, 4, 100, 184, 0, 46, 172]
abbrev dktX4_isCopyist_0 : List UInt8 := dkwX4_isCopyist_0 ++ []
theorem dksX4_isCopyist_0 : cX4_isCopyist.data.toList.drop 0 = dktX4_isCopyist_0 := by decide +kernel
theorem dX4_isCopyist_0 : decode cX4_isCopyist 0 = .ok (.iload_n 1, 1) := dk_27 (dk_at dksX4_isCopyist_0 0 rfl rfl)
theorem dX4_isCopyist_1 : decode cX4_isCopyist 1 = .ok (.iconst 0, 1) := dk_3 (dk_at dksX4_isCopyist_0 1 rfl rfl)
theorem dX4_isCopyist_2 : decode cX4_isCopyist 2 = .ok (.aload_n 0, 1) := dk_42 (dk_at dksX4_isCopyist_0 2 rfl rfl)
theorem dX4_isCopyist_3 : decode cX4_isCopyist 3 = .ok (.getfield 7, 3) := dk_180 0 7 (dk_at dksX4_isCopyist_0 3 rfl rfl)
theorem dX4_isCopyist_6 : decode cX4_isCopyist 6 = .ok (.sipush 191, 3) := dk_17 0 191 (dk_at dksX4_isCopyist_0 6 rfl rfl)
theorem dX4_isCopyist_9 : decode cX4_isCopyist 9 = .ok (.iaload, 1) := dk_46 (dk_at dksX4_isCopyist_0 9 rfl rfl)
theorem dX4_isCopyist_10 : decode cX4_isCopyist 10 = .ok (.iconst 1, 1) := dk_4 (dk_at dksX4_isCopyist_0 10 rfl rfl)
theorem dX4_isCopyist_11 : decode cX4_isCopyist 11 = .ok (.isub, 1) := dk_100 (dk_at dksX4_isCopyist_0 11 rfl rfl)
theorem dX4_isCopyist_12 : decode cX4_isCopyist 12 = .ok (.invokestatic 46, 3) := dk_184 0 46 (dk_at dksX4_isCopyist_0 12 rfl rfl)
theorem dX4_isCopyist_15 : decode cX4_isCopyist 15 = .ok (.ireturn, 1) := dk_172 (dk_at dksX4_isCopyist_0 15 rfl rfl)
abbrev cX4_wouldBe : ByteArray := prog_17_method_27_code
def yX4_wouldBe : MethodName := ⟨RX4, "wouldBe", "(III)I"⟩
def dkwX4_wouldBe_4 : List UInt8 := [172]
abbrev dktX4_wouldBe_4 : List UInt8 := dkwX4_wouldBe_4 ++ []
def dkwX4_wouldBe_3 : List UInt8 := [16, 10, 28, 104, 96, 29, 96, 46, 21, 5, 96, 54, 6, 21, 6, 156, 0, 7, 3, 167, 0, 5, 21, 6]
abbrev dktX4_wouldBe_3 : List UInt8 := dkwX4_wouldBe_3 ++ dktX4_wouldBe_4
def dkwX4_wouldBe_2 : List UInt8 := [21, 4, 7, 108, 4, 100, 167, 0, 9, 21, 4, 6, 108, 4, 96, 54, 5, 42, 180, 0, 7, 16, 91]
abbrev dktX4_wouldBe_2 : List UInt8 := dkwX4_wouldBe_2 ++ dktX4_wouldBe_3
def dkwX4_wouldBe_1 : List UInt8 := [154, 0, 10, 21, 4, 8, 108, 167, 0, 32, 42, 180, 0, 7, 17, 0, 192, 27, 96, 46, 4, 160, 0, 12]
abbrev dktX4_wouldBe_1 : List UInt8 := dkwX4_wouldBe_1 ++ dktX4_wouldBe_2
def dkwX4_wouldBe_0 : List UInt8 := [42, 180, 0, 7, 17, 0, 196, 27, 96, 46, 54, 4, 42, 180, 0, 7, 17, 0, 192, 27, 96, 46]
abbrev dktX4_wouldBe_0 : List UInt8 := dkwX4_wouldBe_0 ++ dktX4_wouldBe_1
theorem dksX4_wouldBe_0 : cX4_wouldBe.data.toList.drop 0 = dktX4_wouldBe_0 := by decide +kernel
theorem dksX4_wouldBe_1 : cX4_wouldBe.data.toList.drop 22 = dktX4_wouldBe_1 := dk_seg dksX4_wouldBe_0 22 rfl rfl
theorem dksX4_wouldBe_2 : cX4_wouldBe.data.toList.drop 46 = dktX4_wouldBe_2 := dk_seg dksX4_wouldBe_1 24 rfl rfl
theorem dksX4_wouldBe_3 : cX4_wouldBe.data.toList.drop 69 = dktX4_wouldBe_3 := dk_seg dksX4_wouldBe_2 23 rfl rfl
theorem dksX4_wouldBe_4 : cX4_wouldBe.data.toList.drop 93 = dktX4_wouldBe_4 := dk_seg dksX4_wouldBe_3 24 rfl rfl
theorem dX4_wouldBe_0 : decode cX4_wouldBe 0 = .ok (.aload_n 0, 1) := dk_42 (dk_at dksX4_wouldBe_0 0 rfl rfl)
theorem dX4_wouldBe_1 : decode cX4_wouldBe 1 = .ok (.getfield 7, 3) := dk_180 0 7 (dk_at dksX4_wouldBe_0 1 rfl rfl)
theorem dX4_wouldBe_4 : decode cX4_wouldBe 4 = .ok (.sipush 196, 3) := dk_17 0 196 (dk_at dksX4_wouldBe_0 4 rfl rfl)
theorem dX4_wouldBe_7 : decode cX4_wouldBe 7 = .ok (.iload_n 1, 1) := dk_27 (dk_at dksX4_wouldBe_0 7 rfl rfl)
theorem dX4_wouldBe_8 : decode cX4_wouldBe 8 = .ok (.iadd, 1) := dk_96 (dk_at dksX4_wouldBe_0 8 rfl rfl)
theorem dX4_wouldBe_9 : decode cX4_wouldBe 9 = .ok (.iaload, 1) := dk_46 (dk_at dksX4_wouldBe_0 9 rfl rfl)
theorem dX4_wouldBe_10 : decode cX4_wouldBe 10 = .ok (.istore 4, 2) := dk_54 4 (dk_at dksX4_wouldBe_0 10 rfl rfl)
theorem dX4_wouldBe_12 : decode cX4_wouldBe 12 = .ok (.aload_n 0, 1) := dk_42 (dk_at dksX4_wouldBe_0 12 rfl rfl)
theorem dX4_wouldBe_13 : decode cX4_wouldBe 13 = .ok (.getfield 7, 3) := dk_180 0 7 (dk_at dksX4_wouldBe_0 13 rfl rfl)
theorem dX4_wouldBe_16 : decode cX4_wouldBe 16 = .ok (.sipush 192, 3) := dk_17 0 192 (dk_at dksX4_wouldBe_0 16 rfl rfl)
theorem dX4_wouldBe_19 : decode cX4_wouldBe 19 = .ok (.iload_n 1, 1) := dk_27 (dk_at dksX4_wouldBe_0 19 rfl rfl)
theorem dX4_wouldBe_20 : decode cX4_wouldBe 20 = .ok (.iadd, 1) := dk_96 (dk_at dksX4_wouldBe_0 20 rfl rfl)
theorem dX4_wouldBe_21 : decode cX4_wouldBe 21 = .ok (.iaload, 1) := dk_46 (dk_at dksX4_wouldBe_0 21 rfl rfl)
theorem dX4_wouldBe_22 : decode cX4_wouldBe 22 = .ok (.ifCond .ne 10, 3) := dk_154 0 10 (dk_at dksX4_wouldBe_1 0 rfl rfl)
theorem dX4_wouldBe_25 : decode cX4_wouldBe 25 = .ok (.iload 4, 2) := dk_21 4 (dk_at dksX4_wouldBe_1 3 rfl rfl)
theorem dX4_wouldBe_27 : decode cX4_wouldBe 27 = .ok (.iconst 5, 1) := dk_8 (dk_at dksX4_wouldBe_1 5 rfl rfl)
theorem dX4_wouldBe_28 : decode cX4_wouldBe 28 = .ok (.idiv, 1) := dk_108 (dk_at dksX4_wouldBe_1 6 rfl rfl)
theorem dX4_wouldBe_29 : decode cX4_wouldBe 29 = .ok (.goto 32, 3) := dk_167 0 32 (dk_at dksX4_wouldBe_1 7 rfl rfl)
theorem dX4_wouldBe_32 : decode cX4_wouldBe 32 = .ok (.aload_n 0, 1) := dk_42 (dk_at dksX4_wouldBe_1 10 rfl rfl)
theorem dX4_wouldBe_33 : decode cX4_wouldBe 33 = .ok (.getfield 7, 3) := dk_180 0 7 (dk_at dksX4_wouldBe_1 11 rfl rfl)
theorem dX4_wouldBe_36 : decode cX4_wouldBe 36 = .ok (.sipush 192, 3) := dk_17 0 192 (dk_at dksX4_wouldBe_1 14 rfl rfl)
theorem dX4_wouldBe_39 : decode cX4_wouldBe 39 = .ok (.iload_n 1, 1) := dk_27 (dk_at dksX4_wouldBe_1 17 rfl rfl)
theorem dX4_wouldBe_40 : decode cX4_wouldBe 40 = .ok (.iadd, 1) := dk_96 (dk_at dksX4_wouldBe_1 18 rfl rfl)
theorem dX4_wouldBe_41 : decode cX4_wouldBe 41 = .ok (.iaload, 1) := dk_46 (dk_at dksX4_wouldBe_1 19 rfl rfl)
theorem dX4_wouldBe_42 : decode cX4_wouldBe 42 = .ok (.iconst 1, 1) := dk_4 (dk_at dksX4_wouldBe_1 20 rfl rfl)
theorem dX4_wouldBe_43 : decode cX4_wouldBe 43 = .ok (.if_icmp .ne 12, 3) := dk_160 0 12 (dk_at dksX4_wouldBe_1 21 rfl rfl)
theorem dX4_wouldBe_46 : decode cX4_wouldBe 46 = .ok (.iload 4, 2) := dk_21 4 (dk_at dksX4_wouldBe_2 0 rfl rfl)
theorem dX4_wouldBe_48 : decode cX4_wouldBe 48 = .ok (.iconst 4, 1) := dk_7 (dk_at dksX4_wouldBe_2 2 rfl rfl)
theorem dX4_wouldBe_49 : decode cX4_wouldBe 49 = .ok (.idiv, 1) := dk_108 (dk_at dksX4_wouldBe_2 3 rfl rfl)
theorem dX4_wouldBe_50 : decode cX4_wouldBe 50 = .ok (.iconst 1, 1) := dk_4 (dk_at dksX4_wouldBe_2 4 rfl rfl)
theorem dX4_wouldBe_51 : decode cX4_wouldBe 51 = .ok (.isub, 1) := dk_100 (dk_at dksX4_wouldBe_2 5 rfl rfl)
theorem dX4_wouldBe_52 : decode cX4_wouldBe 52 = .ok (.goto 9, 3) := dk_167 0 9 (dk_at dksX4_wouldBe_2 6 rfl rfl)
theorem dX4_wouldBe_55 : decode cX4_wouldBe 55 = .ok (.iload 4, 2) := dk_21 4 (dk_at dksX4_wouldBe_2 9 rfl rfl)
theorem dX4_wouldBe_57 : decode cX4_wouldBe 57 = .ok (.iconst 3, 1) := dk_6 (dk_at dksX4_wouldBe_2 11 rfl rfl)
theorem dX4_wouldBe_58 : decode cX4_wouldBe 58 = .ok (.idiv, 1) := dk_108 (dk_at dksX4_wouldBe_2 12 rfl rfl)
theorem dX4_wouldBe_59 : decode cX4_wouldBe 59 = .ok (.iconst 1, 1) := dk_4 (dk_at dksX4_wouldBe_2 13 rfl rfl)
theorem dX4_wouldBe_60 : decode cX4_wouldBe 60 = .ok (.iadd, 1) := dk_96 (dk_at dksX4_wouldBe_2 14 rfl rfl)
theorem dX4_wouldBe_61 : decode cX4_wouldBe 61 = .ok (.istore 5, 2) := dk_54 5 (dk_at dksX4_wouldBe_2 15 rfl rfl)
theorem dX4_wouldBe_63 : decode cX4_wouldBe 63 = .ok (.aload_n 0, 1) := dk_42 (dk_at dksX4_wouldBe_2 17 rfl rfl)
theorem dX4_wouldBe_64 : decode cX4_wouldBe 64 = .ok (.getfield 7, 3) := dk_180 0 7 (dk_at dksX4_wouldBe_2 18 rfl rfl)
theorem dX4_wouldBe_67 : decode cX4_wouldBe 67 = .ok (.bipush 91, 2) := dk_16 91 (dk_at dksX4_wouldBe_2 21 rfl rfl)
theorem dX4_wouldBe_69 : decode cX4_wouldBe 69 = .ok (.bipush 10, 2) := dk_16 10 (dk_at dksX4_wouldBe_3 0 rfl rfl)
theorem dX4_wouldBe_71 : decode cX4_wouldBe 71 = .ok (.iload_n 2, 1) := dk_28 (dk_at dksX4_wouldBe_3 2 rfl rfl)
theorem dX4_wouldBe_72 : decode cX4_wouldBe 72 = .ok (.imul, 1) := dk_104 (dk_at dksX4_wouldBe_3 3 rfl rfl)
theorem dX4_wouldBe_73 : decode cX4_wouldBe 73 = .ok (.iadd, 1) := dk_96 (dk_at dksX4_wouldBe_3 4 rfl rfl)
theorem dX4_wouldBe_74 : decode cX4_wouldBe 74 = .ok (.iload_n 3, 1) := dk_29 (dk_at dksX4_wouldBe_3 5 rfl rfl)
theorem dX4_wouldBe_75 : decode cX4_wouldBe 75 = .ok (.iadd, 1) := dk_96 (dk_at dksX4_wouldBe_3 6 rfl rfl)
theorem dX4_wouldBe_76 : decode cX4_wouldBe 76 = .ok (.iaload, 1) := dk_46 (dk_at dksX4_wouldBe_3 7 rfl rfl)
theorem dX4_wouldBe_77 : decode cX4_wouldBe 77 = .ok (.iload 5, 2) := dk_21 5 (dk_at dksX4_wouldBe_3 8 rfl rfl)
theorem dX4_wouldBe_79 : decode cX4_wouldBe 79 = .ok (.iadd, 1) := dk_96 (dk_at dksX4_wouldBe_3 10 rfl rfl)
theorem dX4_wouldBe_80 : decode cX4_wouldBe 80 = .ok (.istore 6, 2) := dk_54 6 (dk_at dksX4_wouldBe_3 11 rfl rfl)
theorem dX4_wouldBe_82 : decode cX4_wouldBe 82 = .ok (.iload 6, 2) := dk_21 6 (dk_at dksX4_wouldBe_3 13 rfl rfl)
theorem dX4_wouldBe_84 : decode cX4_wouldBe 84 = .ok (.ifCond .ge 7, 3) := dk_156 0 7 (dk_at dksX4_wouldBe_3 15 rfl rfl)
theorem dX4_wouldBe_87 : decode cX4_wouldBe 87 = .ok (.iconst 0, 1) := dk_3 (dk_at dksX4_wouldBe_3 18 rfl rfl)
theorem dX4_wouldBe_88 : decode cX4_wouldBe 88 = .ok (.goto 5, 3) := dk_167 0 5 (dk_at dksX4_wouldBe_3 19 rfl rfl)
theorem dX4_wouldBe_91 : decode cX4_wouldBe 91 = .ok (.iload 6, 2) := dk_21 6 (dk_at dksX4_wouldBe_3 22 rfl rfl)
theorem dX4_wouldBe_93 : decode cX4_wouldBe 93 = .ok (.ireturn, 1) := dk_172 (dk_at dksX4_wouldBe_4 0 rfl rfl)
abbrev cX4_cut : ByteArray := prog_17_method_32_code
def yX4_cut : MethodName := ⟨RX4, "cut", "(III)I"⟩
def dkwX4_cut_0 : List UInt8 := [42, 182, 0, 68, 42, 42, 27, 28, 29, 182, 0, 105, 182, 0, 77, 172]
abbrev dktX4_cut_0 : List UInt8 := dkwX4_cut_0 ++ []
theorem dksX4_cut_0 : cX4_cut.data.toList.drop 0 = dktX4_cut_0 := by decide +kernel
theorem dX4_cut_0 : decode cX4_cut 0 = .ok (.aload_n 0, 1) := dk_42 (dk_at dksX4_cut_0 0 rfl rfl)
theorem dX4_cut_1 : decode cX4_cut 1 = .ok (.invokevirtual 68, 3) := dk_182 0 68 (dk_at dksX4_cut_0 1 rfl rfl)
theorem dX4_cut_4 : decode cX4_cut 4 = .ok (.aload_n 0, 1) := dk_42 (dk_at dksX4_cut_0 4 rfl rfl)
theorem dX4_cut_5 : decode cX4_cut 5 = .ok (.aload_n 0, 1) := dk_42 (dk_at dksX4_cut_0 5 rfl rfl)
theorem dX4_cut_6 : decode cX4_cut 6 = .ok (.iload_n 1, 1) := dk_27 (dk_at dksX4_cut_0 6 rfl rfl)
theorem dX4_cut_7 : decode cX4_cut 7 = .ok (.iload_n 2, 1) := dk_28 (dk_at dksX4_cut_0 7 rfl rfl)
theorem dX4_cut_8 : decode cX4_cut 8 = .ok (.iload_n 3, 1) := dk_29 (dk_at dksX4_cut_0 8 rfl rfl)
theorem dX4_cut_9 : decode cX4_cut 9 = .ok (.invokevirtual 105, 3) := dk_182 0 105 (dk_at dksX4_cut_0 9 rfl rfl)
theorem dX4_cut_12 : decode cX4_cut 12 = .ok (.invokevirtual 77, 3) := dk_182 0 77 (dk_at dksX4_cut_0 12 rfl rfl)
theorem dX4_cut_15 : decode cX4_cut 15 = .ok (.ireturn, 1) := dk_172 (dk_at dksX4_cut_0 15 rfl rfl)
abbrev cX4_cuts : ByteArray := prog_17_method_31_code
def yX4_cuts : MethodName := ⟨RX4, "cuts", "(III)I"⟩
def dkwX4_cuts_13 : List UInt8 := [79, 21, 5, 172]
abbrev dktX4_cuts_13 : List UInt8 := dkwX4_cuts_13 ++ []
def dkwX4_cuts_12 : List UInt8 := [180, 0, 7, 17, 0, 204, 27, 96, 92, 46, 4, 96, 79, 42, 180, 0, 7, 17, 1, 53, 92, 46, 4, 96]
abbrev dktX4_cuts_12 : List UInt8 := dkwX4_cuts_12 ++ dktX4_cuts_13
def dkwX4_cuts_11 : List UInt8 := [180, 0, 7, 17, 0, 196, 27, 96, 21, 7, 16, 20, 164, 0, 8, 16, 20, 167, 0, 5, 21, 7, 79, 42]
abbrev dktX4_cuts_11 : List UInt8 := dkwX4_cuts_11 ++ dktX4_cuts_12
def dkwX4_cuts_10 : List UInt8 := [17, 0, 196, 27, 96, 46, 21, 5, 16, 30, 164, 0, 7, 5, 167, 0, 4, 4, 96, 54, 7, 42]
abbrev dktX4_cuts_10 : List UInt8 := dkwX4_cuts_10 ++ dktX4_cuts_11
def dkwX4_cuts_9 : List UInt8 := [21, 4, 21, 5, 79, 42, 180, 0, 7, 17, 0, 200, 27, 96, 92, 46, 21, 6, 100, 79, 42, 180, 0, 7]
abbrev dktX4_cuts_9 : List UInt8 := dkwX4_cuts_9 ++ dktX4_cuts_10
def dkwX4_cuts_8 : List UInt8 := [162, 0, 20, 42, 16, 8, 42, 180, 0, 7, 17, 0, 200, 27, 96, 46, 182, 0, 65, 172, 42, 180, 0, 7]
abbrev dktX4_cuts_8 : List UInt8 := dkwX4_cuts_8 ++ dktX4_cuts_9
def dkwX4_cuts_7 : List UInt8 := [96, 5, 108, 167, 0, 5, 21, 5, 54, 6, 42, 180, 0, 7, 17, 0, 200, 27, 96, 46, 21, 6]
abbrev dktX4_cuts_7 : List UInt8 := dkwX4_cuts_7 ++ dktX4_cuts_8
def dkwX4_cuts_6 : List UInt8 := [46, 29, 182, 0, 92, 54, 5, 42, 180, 0, 7, 17, 0, 192, 27, 96, 46, 4, 160, 0, 12, 21, 5, 4]
abbrev dktX4_cuts_6 : List UInt8 := dkwX4_cuts_6 ++ dktX4_cuts_7
def dkwX4_cuts_5 : List UInt8 := [16, 20, 160, 0, 11, 42, 16, 6, 27, 182, 0, 65, 172, 42, 27, 42, 180, 0, 7, 17, 0, 213, 28, 96]
abbrev dktX4_cuts_5 : List UInt8 := dkwX4_cuts_5 ++ dktX4_cuts_6
def dkwX4_cuts_4 : List UInt8 := [16, 7, 42, 180, 0, 7, 21, 4, 46, 182, 0, 65, 172, 42, 180, 0, 7, 17, 0, 196, 27, 96, 46]
abbrev dktX4_cuts_4 : List UInt8 := dkwX4_cuts_4 ++ dktX4_cuts_5
def dkwX4_cuts_3 : List UInt8 := [21, 4, 46, 155, 0, 33, 42, 180, 0, 7, 21, 4, 46, 42, 28, 29, 182, 0, 102, 161, 0, 17, 42]
abbrev dktX4_cuts_3 : List UInt8 := dkwX4_cuts_3 ++ dktX4_cuts_4
def dkwX4_cuts_2 : List UInt8 := [182, 0, 99, 182, 0, 65, 172, 17, 0, 229, 16, 10, 28, 104, 96, 29, 96, 54, 4, 42, 180, 0, 7]
abbrev dktX4_cuts_2 : List UInt8 := dkwX4_cuts_2 ++ dktX4_cuts_3
def dkwX4_cuts_1 : List UInt8 := [16, 245, 172, 42, 180, 0, 7, 17, 0, 221, 28, 96, 46, 4, 160, 0, 15, 42, 16, 9, 42, 28]
abbrev dktX4_cuts_1 : List UInt8 := dkwX4_cuts_1 ++ dktX4_cuts_2
def dkwX4_cuts_0 : List UInt8 := [42, 27, 182, 0, 89, 153, 0, 18, 42, 28, 182, 0, 96, 153, 0, 10, 29, 184, 0, 58, 154, 0, 6]
abbrev dktX4_cuts_0 : List UInt8 := dkwX4_cuts_0 ++ dktX4_cuts_1
theorem dksX4_cuts_0 : cX4_cuts.data.toList.drop 0 = dktX4_cuts_0 := by decide +kernel
theorem dksX4_cuts_1 : cX4_cuts.data.toList.drop 23 = dktX4_cuts_1 := dk_seg dksX4_cuts_0 23 rfl rfl
theorem dksX4_cuts_2 : cX4_cuts.data.toList.drop 45 = dktX4_cuts_2 := dk_seg dksX4_cuts_1 22 rfl rfl
theorem dksX4_cuts_3 : cX4_cuts.data.toList.drop 68 = dktX4_cuts_3 := dk_seg dksX4_cuts_2 23 rfl rfl
theorem dksX4_cuts_4 : cX4_cuts.data.toList.drop 91 = dktX4_cuts_4 := dk_seg dksX4_cuts_3 23 rfl rfl
theorem dksX4_cuts_5 : cX4_cuts.data.toList.drop 114 = dktX4_cuts_5 := dk_seg dksX4_cuts_4 23 rfl rfl
theorem dksX4_cuts_6 : cX4_cuts.data.toList.drop 138 = dktX4_cuts_6 := dk_seg dksX4_cuts_5 24 rfl rfl
theorem dksX4_cuts_7 : cX4_cuts.data.toList.drop 162 = dktX4_cuts_7 := dk_seg dksX4_cuts_6 24 rfl rfl
theorem dksX4_cuts_8 : cX4_cuts.data.toList.drop 184 = dktX4_cuts_8 := dk_seg dksX4_cuts_7 22 rfl rfl
theorem dksX4_cuts_9 : cX4_cuts.data.toList.drop 208 = dktX4_cuts_9 := dk_seg dksX4_cuts_8 24 rfl rfl
theorem dksX4_cuts_10 : cX4_cuts.data.toList.drop 232 = dktX4_cuts_10 := dk_seg dksX4_cuts_9 24 rfl rfl
theorem dksX4_cuts_11 : cX4_cuts.data.toList.drop 254 = dktX4_cuts_11 := dk_seg dksX4_cuts_10 22 rfl rfl
theorem dksX4_cuts_12 : cX4_cuts.data.toList.drop 278 = dktX4_cuts_12 := dk_seg dksX4_cuts_11 24 rfl rfl
theorem dksX4_cuts_13 : cX4_cuts.data.toList.drop 302 = dktX4_cuts_13 := dk_seg dksX4_cuts_12 24 rfl rfl
theorem dX4_cuts_0 : decode cX4_cuts 0 = .ok (.aload_n 0, 1) := dk_42 (dk_at dksX4_cuts_0 0 rfl rfl)
theorem dX4_cuts_1 : decode cX4_cuts 1 = .ok (.iload_n 1, 1) := dk_27 (dk_at dksX4_cuts_0 1 rfl rfl)
theorem dX4_cuts_2 : decode cX4_cuts 2 = .ok (.invokevirtual 89, 3) := dk_182 0 89 (dk_at dksX4_cuts_0 2 rfl rfl)
theorem dX4_cuts_5 : decode cX4_cuts 5 = .ok (.ifCond .eq 18, 3) := dk_153 0 18 (dk_at dksX4_cuts_0 5 rfl rfl)
theorem dX4_cuts_8 : decode cX4_cuts 8 = .ok (.aload_n 0, 1) := dk_42 (dk_at dksX4_cuts_0 8 rfl rfl)
theorem dX4_cuts_9 : decode cX4_cuts 9 = .ok (.iload_n 2, 1) := dk_28 (dk_at dksX4_cuts_0 9 rfl rfl)
theorem dX4_cuts_10 : decode cX4_cuts 10 = .ok (.invokevirtual 96, 3) := dk_182 0 96 (dk_at dksX4_cuts_0 10 rfl rfl)
theorem dX4_cuts_13 : decode cX4_cuts 13 = .ok (.ifCond .eq 10, 3) := dk_153 0 10 (dk_at dksX4_cuts_0 13 rfl rfl)
theorem dX4_cuts_16 : decode cX4_cuts 16 = .ok (.iload_n 3, 1) := dk_29 (dk_at dksX4_cuts_0 16 rfl rfl)
theorem dX4_cuts_17 : decode cX4_cuts 17 = .ok (.invokestatic 58, 3) := dk_184 0 58 (dk_at dksX4_cuts_0 17 rfl rfl)
theorem dX4_cuts_20 : decode cX4_cuts 20 = .ok (.ifCond .ne 6, 3) := dk_154 0 6 (dk_at dksX4_cuts_0 20 rfl rfl)
theorem dX4_cuts_23 : decode cX4_cuts 23 = .ok (.bipush (-11), 2) := dk_16 245 (dk_at dksX4_cuts_1 0 rfl rfl)
theorem dX4_cuts_25 : decode cX4_cuts 25 = .ok (.ireturn, 1) := dk_172 (dk_at dksX4_cuts_1 2 rfl rfl)
theorem dX4_cuts_26 : decode cX4_cuts 26 = .ok (.aload_n 0, 1) := dk_42 (dk_at dksX4_cuts_1 3 rfl rfl)
theorem dX4_cuts_27 : decode cX4_cuts 27 = .ok (.getfield 7, 3) := dk_180 0 7 (dk_at dksX4_cuts_1 4 rfl rfl)
theorem dX4_cuts_30 : decode cX4_cuts 30 = .ok (.sipush 221, 3) := dk_17 0 221 (dk_at dksX4_cuts_1 7 rfl rfl)
theorem dX4_cuts_33 : decode cX4_cuts 33 = .ok (.iload_n 2, 1) := dk_28 (dk_at dksX4_cuts_1 10 rfl rfl)
theorem dX4_cuts_34 : decode cX4_cuts 34 = .ok (.iadd, 1) := dk_96 (dk_at dksX4_cuts_1 11 rfl rfl)
theorem dX4_cuts_35 : decode cX4_cuts 35 = .ok (.iaload, 1) := dk_46 (dk_at dksX4_cuts_1 12 rfl rfl)
theorem dX4_cuts_36 : decode cX4_cuts 36 = .ok (.iconst 1, 1) := dk_4 (dk_at dksX4_cuts_1 13 rfl rfl)
theorem dX4_cuts_37 : decode cX4_cuts 37 = .ok (.if_icmp .ne 15, 3) := dk_160 0 15 (dk_at dksX4_cuts_1 14 rfl rfl)
theorem dX4_cuts_40 : decode cX4_cuts 40 = .ok (.aload_n 0, 1) := dk_42 (dk_at dksX4_cuts_1 17 rfl rfl)
theorem dX4_cuts_41 : decode cX4_cuts 41 = .ok (.bipush 9, 2) := dk_16 9 (dk_at dksX4_cuts_1 18 rfl rfl)
theorem dX4_cuts_43 : decode cX4_cuts 43 = .ok (.aload_n 0, 1) := dk_42 (dk_at dksX4_cuts_1 20 rfl rfl)
theorem dX4_cuts_44 : decode cX4_cuts 44 = .ok (.iload_n 2, 1) := dk_28 (dk_at dksX4_cuts_1 21 rfl rfl)
theorem dX4_cuts_45 : decode cX4_cuts 45 = .ok (.invokevirtual 99, 3) := dk_182 0 99 (dk_at dksX4_cuts_2 0 rfl rfl)
theorem dX4_cuts_48 : decode cX4_cuts 48 = .ok (.invokevirtual 65, 3) := dk_182 0 65 (dk_at dksX4_cuts_2 3 rfl rfl)
theorem dX4_cuts_51 : decode cX4_cuts 51 = .ok (.ireturn, 1) := dk_172 (dk_at dksX4_cuts_2 6 rfl rfl)
theorem dX4_cuts_52 : decode cX4_cuts 52 = .ok (.sipush 229, 3) := dk_17 0 229 (dk_at dksX4_cuts_2 7 rfl rfl)
theorem dX4_cuts_55 : decode cX4_cuts 55 = .ok (.bipush 10, 2) := dk_16 10 (dk_at dksX4_cuts_2 10 rfl rfl)
theorem dX4_cuts_57 : decode cX4_cuts 57 = .ok (.iload_n 2, 1) := dk_28 (dk_at dksX4_cuts_2 12 rfl rfl)
theorem dX4_cuts_58 : decode cX4_cuts 58 = .ok (.imul, 1) := dk_104 (dk_at dksX4_cuts_2 13 rfl rfl)
theorem dX4_cuts_59 : decode cX4_cuts 59 = .ok (.iadd, 1) := dk_96 (dk_at dksX4_cuts_2 14 rfl rfl)
theorem dX4_cuts_60 : decode cX4_cuts 60 = .ok (.iload_n 3, 1) := dk_29 (dk_at dksX4_cuts_2 15 rfl rfl)
theorem dX4_cuts_61 : decode cX4_cuts 61 = .ok (.iadd, 1) := dk_96 (dk_at dksX4_cuts_2 16 rfl rfl)
theorem dX4_cuts_62 : decode cX4_cuts 62 = .ok (.istore 4, 2) := dk_54 4 (dk_at dksX4_cuts_2 17 rfl rfl)
theorem dX4_cuts_64 : decode cX4_cuts 64 = .ok (.aload_n 0, 1) := dk_42 (dk_at dksX4_cuts_2 19 rfl rfl)
theorem dX4_cuts_65 : decode cX4_cuts 65 = .ok (.getfield 7, 3) := dk_180 0 7 (dk_at dksX4_cuts_2 20 rfl rfl)
theorem dX4_cuts_68 : decode cX4_cuts 68 = .ok (.iload 4, 2) := dk_21 4 (dk_at dksX4_cuts_3 0 rfl rfl)
theorem dX4_cuts_70 : decode cX4_cuts 70 = .ok (.iaload, 1) := dk_46 (dk_at dksX4_cuts_3 2 rfl rfl)
theorem dX4_cuts_71 : decode cX4_cuts 71 = .ok (.ifCond .lt 33, 3) := dk_155 0 33 (dk_at dksX4_cuts_3 3 rfl rfl)
theorem dX4_cuts_74 : decode cX4_cuts 74 = .ok (.aload_n 0, 1) := dk_42 (dk_at dksX4_cuts_3 6 rfl rfl)
theorem dX4_cuts_75 : decode cX4_cuts 75 = .ok (.getfield 7, 3) := dk_180 0 7 (dk_at dksX4_cuts_3 7 rfl rfl)
theorem dX4_cuts_78 : decode cX4_cuts 78 = .ok (.iload 4, 2) := dk_21 4 (dk_at dksX4_cuts_3 10 rfl rfl)
theorem dX4_cuts_80 : decode cX4_cuts 80 = .ok (.iaload, 1) := dk_46 (dk_at dksX4_cuts_3 12 rfl rfl)
theorem dX4_cuts_81 : decode cX4_cuts 81 = .ok (.aload_n 0, 1) := dk_42 (dk_at dksX4_cuts_3 13 rfl rfl)
theorem dX4_cuts_82 : decode cX4_cuts 82 = .ok (.iload_n 2, 1) := dk_28 (dk_at dksX4_cuts_3 14 rfl rfl)
theorem dX4_cuts_83 : decode cX4_cuts 83 = .ok (.iload_n 3, 1) := dk_29 (dk_at dksX4_cuts_3 15 rfl rfl)
theorem dX4_cuts_84 : decode cX4_cuts 84 = .ok (.invokevirtual 102, 3) := dk_182 0 102 (dk_at dksX4_cuts_3 16 rfl rfl)
theorem dX4_cuts_87 : decode cX4_cuts 87 = .ok (.if_icmp .lt 17, 3) := dk_161 0 17 (dk_at dksX4_cuts_3 19 rfl rfl)
theorem dX4_cuts_90 : decode cX4_cuts 90 = .ok (.aload_n 0, 1) := dk_42 (dk_at dksX4_cuts_3 22 rfl rfl)
theorem dX4_cuts_91 : decode cX4_cuts 91 = .ok (.bipush 7, 2) := dk_16 7 (dk_at dksX4_cuts_4 0 rfl rfl)
theorem dX4_cuts_93 : decode cX4_cuts 93 = .ok (.aload_n 0, 1) := dk_42 (dk_at dksX4_cuts_4 2 rfl rfl)
theorem dX4_cuts_94 : decode cX4_cuts 94 = .ok (.getfield 7, 3) := dk_180 0 7 (dk_at dksX4_cuts_4 3 rfl rfl)
theorem dX4_cuts_97 : decode cX4_cuts 97 = .ok (.iload 4, 2) := dk_21 4 (dk_at dksX4_cuts_4 6 rfl rfl)
theorem dX4_cuts_99 : decode cX4_cuts 99 = .ok (.iaload, 1) := dk_46 (dk_at dksX4_cuts_4 8 rfl rfl)
theorem dX4_cuts_100 : decode cX4_cuts 100 = .ok (.invokevirtual 65, 3) := dk_182 0 65 (dk_at dksX4_cuts_4 9 rfl rfl)
theorem dX4_cuts_103 : decode cX4_cuts 103 = .ok (.ireturn, 1) := dk_172 (dk_at dksX4_cuts_4 12 rfl rfl)
theorem dX4_cuts_104 : decode cX4_cuts 104 = .ok (.aload_n 0, 1) := dk_42 (dk_at dksX4_cuts_4 13 rfl rfl)
theorem dX4_cuts_105 : decode cX4_cuts 105 = .ok (.getfield 7, 3) := dk_180 0 7 (dk_at dksX4_cuts_4 14 rfl rfl)
theorem dX4_cuts_108 : decode cX4_cuts 108 = .ok (.sipush 196, 3) := dk_17 0 196 (dk_at dksX4_cuts_4 17 rfl rfl)
theorem dX4_cuts_111 : decode cX4_cuts 111 = .ok (.iload_n 1, 1) := dk_27 (dk_at dksX4_cuts_4 20 rfl rfl)
theorem dX4_cuts_112 : decode cX4_cuts 112 = .ok (.iadd, 1) := dk_96 (dk_at dksX4_cuts_4 21 rfl rfl)
theorem dX4_cuts_113 : decode cX4_cuts 113 = .ok (.iaload, 1) := dk_46 (dk_at dksX4_cuts_4 22 rfl rfl)
theorem dX4_cuts_114 : decode cX4_cuts 114 = .ok (.bipush 20, 2) := dk_16 20 (dk_at dksX4_cuts_5 0 rfl rfl)
theorem dX4_cuts_116 : decode cX4_cuts 116 = .ok (.if_icmp .ne 11, 3) := dk_160 0 11 (dk_at dksX4_cuts_5 2 rfl rfl)
theorem dX4_cuts_119 : decode cX4_cuts 119 = .ok (.aload_n 0, 1) := dk_42 (dk_at dksX4_cuts_5 5 rfl rfl)
theorem dX4_cuts_120 : decode cX4_cuts 120 = .ok (.bipush 6, 2) := dk_16 6 (dk_at dksX4_cuts_5 6 rfl rfl)
theorem dX4_cuts_122 : decode cX4_cuts 122 = .ok (.iload_n 1, 1) := dk_27 (dk_at dksX4_cuts_5 8 rfl rfl)
theorem dX4_cuts_123 : decode cX4_cuts 123 = .ok (.invokevirtual 65, 3) := dk_182 0 65 (dk_at dksX4_cuts_5 9 rfl rfl)
theorem dX4_cuts_126 : decode cX4_cuts 126 = .ok (.ireturn, 1) := dk_172 (dk_at dksX4_cuts_5 12 rfl rfl)
theorem dX4_cuts_127 : decode cX4_cuts 127 = .ok (.aload_n 0, 1) := dk_42 (dk_at dksX4_cuts_5 13 rfl rfl)
theorem dX4_cuts_128 : decode cX4_cuts 128 = .ok (.iload_n 1, 1) := dk_27 (dk_at dksX4_cuts_5 14 rfl rfl)
theorem dX4_cuts_129 : decode cX4_cuts 129 = .ok (.aload_n 0, 1) := dk_42 (dk_at dksX4_cuts_5 15 rfl rfl)
theorem dX4_cuts_130 : decode cX4_cuts 130 = .ok (.getfield 7, 3) := dk_180 0 7 (dk_at dksX4_cuts_5 16 rfl rfl)
theorem dX4_cuts_133 : decode cX4_cuts 133 = .ok (.sipush 213, 3) := dk_17 0 213 (dk_at dksX4_cuts_5 19 rfl rfl)
theorem dX4_cuts_136 : decode cX4_cuts 136 = .ok (.iload_n 2, 1) := dk_28 (dk_at dksX4_cuts_5 22 rfl rfl)
theorem dX4_cuts_137 : decode cX4_cuts 137 = .ok (.iadd, 1) := dk_96 (dk_at dksX4_cuts_5 23 rfl rfl)
theorem dX4_cuts_138 : decode cX4_cuts 138 = .ok (.iaload, 1) := dk_46 (dk_at dksX4_cuts_6 0 rfl rfl)
theorem dX4_cuts_139 : decode cX4_cuts 139 = .ok (.iload_n 3, 1) := dk_29 (dk_at dksX4_cuts_6 1 rfl rfl)
theorem dX4_cuts_140 : decode cX4_cuts 140 = .ok (.invokevirtual 92, 3) := dk_182 0 92 (dk_at dksX4_cuts_6 2 rfl rfl)
theorem dX4_cuts_143 : decode cX4_cuts 143 = .ok (.istore 5, 2) := dk_54 5 (dk_at dksX4_cuts_6 5 rfl rfl)
theorem dX4_cuts_145 : decode cX4_cuts 145 = .ok (.aload_n 0, 1) := dk_42 (dk_at dksX4_cuts_6 7 rfl rfl)
theorem dX4_cuts_146 : decode cX4_cuts 146 = .ok (.getfield 7, 3) := dk_180 0 7 (dk_at dksX4_cuts_6 8 rfl rfl)
theorem dX4_cuts_149 : decode cX4_cuts 149 = .ok (.sipush 192, 3) := dk_17 0 192 (dk_at dksX4_cuts_6 11 rfl rfl)
theorem dX4_cuts_152 : decode cX4_cuts 152 = .ok (.iload_n 1, 1) := dk_27 (dk_at dksX4_cuts_6 14 rfl rfl)
theorem dX4_cuts_153 : decode cX4_cuts 153 = .ok (.iadd, 1) := dk_96 (dk_at dksX4_cuts_6 15 rfl rfl)
theorem dX4_cuts_154 : decode cX4_cuts 154 = .ok (.iaload, 1) := dk_46 (dk_at dksX4_cuts_6 16 rfl rfl)
theorem dX4_cuts_155 : decode cX4_cuts 155 = .ok (.iconst 1, 1) := dk_4 (dk_at dksX4_cuts_6 17 rfl rfl)
theorem dX4_cuts_156 : decode cX4_cuts 156 = .ok (.if_icmp .ne 12, 3) := dk_160 0 12 (dk_at dksX4_cuts_6 18 rfl rfl)
theorem dX4_cuts_159 : decode cX4_cuts 159 = .ok (.iload 5, 2) := dk_21 5 (dk_at dksX4_cuts_6 21 rfl rfl)
theorem dX4_cuts_161 : decode cX4_cuts 161 = .ok (.iconst 1, 1) := dk_4 (dk_at dksX4_cuts_6 23 rfl rfl)
theorem dX4_cuts_162 : decode cX4_cuts 162 = .ok (.iadd, 1) := dk_96 (dk_at dksX4_cuts_7 0 rfl rfl)
theorem dX4_cuts_163 : decode cX4_cuts 163 = .ok (.iconst 2, 1) := dk_5 (dk_at dksX4_cuts_7 1 rfl rfl)
theorem dX4_cuts_164 : decode cX4_cuts 164 = .ok (.idiv, 1) := dk_108 (dk_at dksX4_cuts_7 2 rfl rfl)
theorem dX4_cuts_165 : decode cX4_cuts 165 = .ok (.goto 5, 3) := dk_167 0 5 (dk_at dksX4_cuts_7 3 rfl rfl)
theorem dX4_cuts_168 : decode cX4_cuts 168 = .ok (.iload 5, 2) := dk_21 5 (dk_at dksX4_cuts_7 6 rfl rfl)
theorem dX4_cuts_170 : decode cX4_cuts 170 = .ok (.istore 6, 2) := dk_54 6 (dk_at dksX4_cuts_7 8 rfl rfl)
theorem dX4_cuts_172 : decode cX4_cuts 172 = .ok (.aload_n 0, 1) := dk_42 (dk_at dksX4_cuts_7 10 rfl rfl)
theorem dX4_cuts_173 : decode cX4_cuts 173 = .ok (.getfield 7, 3) := dk_180 0 7 (dk_at dksX4_cuts_7 11 rfl rfl)
theorem dX4_cuts_176 : decode cX4_cuts 176 = .ok (.sipush 200, 3) := dk_17 0 200 (dk_at dksX4_cuts_7 14 rfl rfl)
theorem dX4_cuts_179 : decode cX4_cuts 179 = .ok (.iload_n 1, 1) := dk_27 (dk_at dksX4_cuts_7 17 rfl rfl)
theorem dX4_cuts_180 : decode cX4_cuts 180 = .ok (.iadd, 1) := dk_96 (dk_at dksX4_cuts_7 18 rfl rfl)
theorem dX4_cuts_181 : decode cX4_cuts 181 = .ok (.iaload, 1) := dk_46 (dk_at dksX4_cuts_7 19 rfl rfl)
theorem dX4_cuts_182 : decode cX4_cuts 182 = .ok (.iload 6, 2) := dk_21 6 (dk_at dksX4_cuts_7 20 rfl rfl)
theorem dX4_cuts_184 : decode cX4_cuts 184 = .ok (.if_icmp .ge 20, 3) := dk_162 0 20 (dk_at dksX4_cuts_8 0 rfl rfl)
theorem dX4_cuts_187 : decode cX4_cuts 187 = .ok (.aload_n 0, 1) := dk_42 (dk_at dksX4_cuts_8 3 rfl rfl)
theorem dX4_cuts_188 : decode cX4_cuts 188 = .ok (.bipush 8, 2) := dk_16 8 (dk_at dksX4_cuts_8 4 rfl rfl)
theorem dX4_cuts_190 : decode cX4_cuts 190 = .ok (.aload_n 0, 1) := dk_42 (dk_at dksX4_cuts_8 6 rfl rfl)
theorem dX4_cuts_191 : decode cX4_cuts 191 = .ok (.getfield 7, 3) := dk_180 0 7 (dk_at dksX4_cuts_8 7 rfl rfl)
theorem dX4_cuts_194 : decode cX4_cuts 194 = .ok (.sipush 200, 3) := dk_17 0 200 (dk_at dksX4_cuts_8 10 rfl rfl)
theorem dX4_cuts_197 : decode cX4_cuts 197 = .ok (.iload_n 1, 1) := dk_27 (dk_at dksX4_cuts_8 13 rfl rfl)
theorem dX4_cuts_198 : decode cX4_cuts 198 = .ok (.iadd, 1) := dk_96 (dk_at dksX4_cuts_8 14 rfl rfl)
theorem dX4_cuts_199 : decode cX4_cuts 199 = .ok (.iaload, 1) := dk_46 (dk_at dksX4_cuts_8 15 rfl rfl)
theorem dX4_cuts_200 : decode cX4_cuts 200 = .ok (.invokevirtual 65, 3) := dk_182 0 65 (dk_at dksX4_cuts_8 16 rfl rfl)
theorem dX4_cuts_203 : decode cX4_cuts 203 = .ok (.ireturn, 1) := dk_172 (dk_at dksX4_cuts_8 19 rfl rfl)
theorem dX4_cuts_204 : decode cX4_cuts 204 = .ok (.aload_n 0, 1) := dk_42 (dk_at dksX4_cuts_8 20 rfl rfl)
theorem dX4_cuts_205 : decode cX4_cuts 205 = .ok (.getfield 7, 3) := dk_180 0 7 (dk_at dksX4_cuts_8 21 rfl rfl)
theorem dX4_cuts_208 : decode cX4_cuts 208 = .ok (.iload 4, 2) := dk_21 4 (dk_at dksX4_cuts_9 0 rfl rfl)
theorem dX4_cuts_210 : decode cX4_cuts 210 = .ok (.iload 5, 2) := dk_21 5 (dk_at dksX4_cuts_9 2 rfl rfl)
theorem dX4_cuts_212 : decode cX4_cuts 212 = .ok (.iastore, 1) := dk_79 (dk_at dksX4_cuts_9 4 rfl rfl)
theorem dX4_cuts_213 : decode cX4_cuts 213 = .ok (.aload_n 0, 1) := dk_42 (dk_at dksX4_cuts_9 5 rfl rfl)
theorem dX4_cuts_214 : decode cX4_cuts 214 = .ok (.getfield 7, 3) := dk_180 0 7 (dk_at dksX4_cuts_9 6 rfl rfl)
theorem dX4_cuts_217 : decode cX4_cuts 217 = .ok (.sipush 200, 3) := dk_17 0 200 (dk_at dksX4_cuts_9 9 rfl rfl)
theorem dX4_cuts_220 : decode cX4_cuts 220 = .ok (.iload_n 1, 1) := dk_27 (dk_at dksX4_cuts_9 12 rfl rfl)
theorem dX4_cuts_221 : decode cX4_cuts 221 = .ok (.iadd, 1) := dk_96 (dk_at dksX4_cuts_9 13 rfl rfl)
theorem dX4_cuts_222 : decode cX4_cuts 222 = .ok (.dup2, 1) := dk_92 (dk_at dksX4_cuts_9 14 rfl rfl)
theorem dX4_cuts_223 : decode cX4_cuts 223 = .ok (.iaload, 1) := dk_46 (dk_at dksX4_cuts_9 15 rfl rfl)
theorem dX4_cuts_224 : decode cX4_cuts 224 = .ok (.iload 6, 2) := dk_21 6 (dk_at dksX4_cuts_9 16 rfl rfl)
theorem dX4_cuts_226 : decode cX4_cuts 226 = .ok (.isub, 1) := dk_100 (dk_at dksX4_cuts_9 18 rfl rfl)
theorem dX4_cuts_227 : decode cX4_cuts 227 = .ok (.iastore, 1) := dk_79 (dk_at dksX4_cuts_9 19 rfl rfl)
theorem dX4_cuts_228 : decode cX4_cuts 228 = .ok (.aload_n 0, 1) := dk_42 (dk_at dksX4_cuts_9 20 rfl rfl)
theorem dX4_cuts_229 : decode cX4_cuts 229 = .ok (.getfield 7, 3) := dk_180 0 7 (dk_at dksX4_cuts_9 21 rfl rfl)
theorem dX4_cuts_232 : decode cX4_cuts 232 = .ok (.sipush 196, 3) := dk_17 0 196 (dk_at dksX4_cuts_10 0 rfl rfl)
theorem dX4_cuts_235 : decode cX4_cuts 235 = .ok (.iload_n 1, 1) := dk_27 (dk_at dksX4_cuts_10 3 rfl rfl)
theorem dX4_cuts_236 : decode cX4_cuts 236 = .ok (.iadd, 1) := dk_96 (dk_at dksX4_cuts_10 4 rfl rfl)
theorem dX4_cuts_237 : decode cX4_cuts 237 = .ok (.iaload, 1) := dk_46 (dk_at dksX4_cuts_10 5 rfl rfl)
theorem dX4_cuts_238 : decode cX4_cuts 238 = .ok (.iload 5, 2) := dk_21 5 (dk_at dksX4_cuts_10 6 rfl rfl)
theorem dX4_cuts_240 : decode cX4_cuts 240 = .ok (.bipush 30, 2) := dk_16 30 (dk_at dksX4_cuts_10 8 rfl rfl)
theorem dX4_cuts_242 : decode cX4_cuts 242 = .ok (.if_icmp .le 7, 3) := dk_164 0 7 (dk_at dksX4_cuts_10 10 rfl rfl)
theorem dX4_cuts_245 : decode cX4_cuts 245 = .ok (.iconst 2, 1) := dk_5 (dk_at dksX4_cuts_10 13 rfl rfl)
theorem dX4_cuts_246 : decode cX4_cuts 246 = .ok (.goto 4, 3) := dk_167 0 4 (dk_at dksX4_cuts_10 14 rfl rfl)
theorem dX4_cuts_249 : decode cX4_cuts 249 = .ok (.iconst 1, 1) := dk_4 (dk_at dksX4_cuts_10 17 rfl rfl)
theorem dX4_cuts_250 : decode cX4_cuts 250 = .ok (.iadd, 1) := dk_96 (dk_at dksX4_cuts_10 18 rfl rfl)
theorem dX4_cuts_251 : decode cX4_cuts 251 = .ok (.istore 7, 2) := dk_54 7 (dk_at dksX4_cuts_10 19 rfl rfl)
theorem dX4_cuts_253 : decode cX4_cuts 253 = .ok (.aload_n 0, 1) := dk_42 (dk_at dksX4_cuts_10 21 rfl rfl)
theorem dX4_cuts_254 : decode cX4_cuts 254 = .ok (.getfield 7, 3) := dk_180 0 7 (dk_at dksX4_cuts_11 0 rfl rfl)
theorem dX4_cuts_257 : decode cX4_cuts 257 = .ok (.sipush 196, 3) := dk_17 0 196 (dk_at dksX4_cuts_11 3 rfl rfl)
theorem dX4_cuts_260 : decode cX4_cuts 260 = .ok (.iload_n 1, 1) := dk_27 (dk_at dksX4_cuts_11 6 rfl rfl)
theorem dX4_cuts_261 : decode cX4_cuts 261 = .ok (.iadd, 1) := dk_96 (dk_at dksX4_cuts_11 7 rfl rfl)
theorem dX4_cuts_262 : decode cX4_cuts 262 = .ok (.iload 7, 2) := dk_21 7 (dk_at dksX4_cuts_11 8 rfl rfl)
theorem dX4_cuts_264 : decode cX4_cuts 264 = .ok (.bipush 20, 2) := dk_16 20 (dk_at dksX4_cuts_11 10 rfl rfl)
theorem dX4_cuts_266 : decode cX4_cuts 266 = .ok (.if_icmp .le 8, 3) := dk_164 0 8 (dk_at dksX4_cuts_11 12 rfl rfl)
theorem dX4_cuts_269 : decode cX4_cuts 269 = .ok (.bipush 20, 2) := dk_16 20 (dk_at dksX4_cuts_11 15 rfl rfl)
theorem dX4_cuts_271 : decode cX4_cuts 271 = .ok (.goto 5, 3) := dk_167 0 5 (dk_at dksX4_cuts_11 17 rfl rfl)
theorem dX4_cuts_274 : decode cX4_cuts 274 = .ok (.iload 7, 2) := dk_21 7 (dk_at dksX4_cuts_11 20 rfl rfl)
theorem dX4_cuts_276 : decode cX4_cuts 276 = .ok (.iastore, 1) := dk_79 (dk_at dksX4_cuts_11 22 rfl rfl)
theorem dX4_cuts_277 : decode cX4_cuts 277 = .ok (.aload_n 0, 1) := dk_42 (dk_at dksX4_cuts_11 23 rfl rfl)
theorem dX4_cuts_278 : decode cX4_cuts 278 = .ok (.getfield 7, 3) := dk_180 0 7 (dk_at dksX4_cuts_12 0 rfl rfl)
theorem dX4_cuts_281 : decode cX4_cuts 281 = .ok (.sipush 204, 3) := dk_17 0 204 (dk_at dksX4_cuts_12 3 rfl rfl)
theorem dX4_cuts_284 : decode cX4_cuts 284 = .ok (.iload_n 1, 1) := dk_27 (dk_at dksX4_cuts_12 6 rfl rfl)
theorem dX4_cuts_285 : decode cX4_cuts 285 = .ok (.iadd, 1) := dk_96 (dk_at dksX4_cuts_12 7 rfl rfl)
theorem dX4_cuts_286 : decode cX4_cuts 286 = .ok (.dup2, 1) := dk_92 (dk_at dksX4_cuts_12 8 rfl rfl)
theorem dX4_cuts_287 : decode cX4_cuts 287 = .ok (.iaload, 1) := dk_46 (dk_at dksX4_cuts_12 9 rfl rfl)
theorem dX4_cuts_288 : decode cX4_cuts 288 = .ok (.iconst 1, 1) := dk_4 (dk_at dksX4_cuts_12 10 rfl rfl)
theorem dX4_cuts_289 : decode cX4_cuts 289 = .ok (.iadd, 1) := dk_96 (dk_at dksX4_cuts_12 11 rfl rfl)
theorem dX4_cuts_290 : decode cX4_cuts 290 = .ok (.iastore, 1) := dk_79 (dk_at dksX4_cuts_12 12 rfl rfl)
theorem dX4_cuts_291 : decode cX4_cuts 291 = .ok (.aload_n 0, 1) := dk_42 (dk_at dksX4_cuts_12 13 rfl rfl)
theorem dX4_cuts_292 : decode cX4_cuts 292 = .ok (.getfield 7, 3) := dk_180 0 7 (dk_at dksX4_cuts_12 14 rfl rfl)
theorem dX4_cuts_295 : decode cX4_cuts 295 = .ok (.sipush 309, 3) := dk_17 1 53 (dk_at dksX4_cuts_12 17 rfl rfl)
theorem dX4_cuts_298 : decode cX4_cuts 298 = .ok (.dup2, 1) := dk_92 (dk_at dksX4_cuts_12 20 rfl rfl)
theorem dX4_cuts_299 : decode cX4_cuts 299 = .ok (.iaload, 1) := dk_46 (dk_at dksX4_cuts_12 21 rfl rfl)
theorem dX4_cuts_300 : decode cX4_cuts 300 = .ok (.iconst 1, 1) := dk_4 (dk_at dksX4_cuts_12 22 rfl rfl)
theorem dX4_cuts_301 : decode cX4_cuts 301 = .ok (.iadd, 1) := dk_96 (dk_at dksX4_cuts_12 23 rfl rfl)
theorem dX4_cuts_302 : decode cX4_cuts 302 = .ok (.iastore, 1) := dk_79 (dk_at dksX4_cuts_13 0 rfl rfl)
theorem dX4_cuts_303 : decode cX4_cuts 303 = .ok (.iload 5, 2) := dk_21 5 (dk_at dksX4_cuts_13 1 rfl rfl)
theorem dX4_cuts_305 : decode cX4_cuts 305 = .ok (.ireturn, 1) := dk_172 (dk_at dksX4_cuts_13 3 rfl rfl)
abbrev cX4_isCopy : ByteArray := prog_17_method_12_code
def yX4_isCopy : MethodName := ⟨RX4, "isCopy", "(I)Z"⟩
def dkwX4_isCopy_0 : List UInt8 := [27, 3, 42, 180, 0, 7, 17, 0, 212, 46, 4, 100, 184, 0, 46, 172]
abbrev dktX4_isCopy_0 : List UInt8 := dkwX4_isCopy_0 ++ []
theorem dksX4_isCopy_0 : cX4_isCopy.data.toList.drop 0 = dktX4_isCopy_0 := by decide +kernel
theorem dX4_isCopy_0 : decode cX4_isCopy 0 = .ok (.iload_n 1, 1) := dk_27 (dk_at dksX4_isCopy_0 0 rfl rfl)
theorem dX4_isCopy_1 : decode cX4_isCopy 1 = .ok (.iconst 0, 1) := dk_3 (dk_at dksX4_isCopy_0 1 rfl rfl)
theorem dX4_isCopy_2 : decode cX4_isCopy 2 = .ok (.aload_n 0, 1) := dk_42 (dk_at dksX4_isCopy_0 2 rfl rfl)
theorem dX4_isCopy_3 : decode cX4_isCopy 3 = .ok (.getfield 7, 3) := dk_180 0 7 (dk_at dksX4_isCopy_0 3 rfl rfl)
theorem dX4_isCopy_6 : decode cX4_isCopy 6 = .ok (.sipush 212, 3) := dk_17 0 212 (dk_at dksX4_isCopy_0 6 rfl rfl)
theorem dX4_isCopy_9 : decode cX4_isCopy 9 = .ok (.iaload, 1) := dk_46 (dk_at dksX4_isCopy_0 9 rfl rfl)
theorem dX4_isCopy_10 : decode cX4_isCopy 10 = .ok (.iconst 1, 1) := dk_4 (dk_at dksX4_isCopy_0 10 rfl rfl)
theorem dX4_isCopy_11 : decode cX4_isCopy 11 = .ok (.isub, 1) := dk_100 (dk_at dksX4_isCopy_0 11 rfl rfl)
theorem dX4_isCopy_12 : decode cX4_isCopy 12 = .ok (.invokestatic 46, 3) := dk_184 0 46 (dk_at dksX4_isCopy_0 12 rfl rfl)
theorem dX4_isCopy_15 : decode cX4_isCopy 15 = .ok (.ireturn, 1) := dk_172 (dk_at dksX4_isCopy_0 15 rfl rfl)
abbrev cX4_ledgeFor : ByteArray := prog_17_method_29_code
def yX4_ledgeFor : MethodName := ⟨RX4, "ledgeFor", "(I)I"⟩
def dkwX4_ledgeFor_0 : List UInt8 := [42, 180, 0, 7, 16, 51, 42, 180, 0, 7, 17, 0, 213, 27, 96, 46, 96, 46, 172]
abbrev dktX4_ledgeFor_0 : List UInt8 := dkwX4_ledgeFor_0 ++ []
theorem dksX4_ledgeFor_0 : cX4_ledgeFor.data.toList.drop 0 = dktX4_ledgeFor_0 := by decide +kernel
theorem dX4_ledgeFor_0 : decode cX4_ledgeFor 0 = .ok (.aload_n 0, 1) := dk_42 (dk_at dksX4_ledgeFor_0 0 rfl rfl)
theorem dX4_ledgeFor_1 : decode cX4_ledgeFor 1 = .ok (.getfield 7, 3) := dk_180 0 7 (dk_at dksX4_ledgeFor_0 1 rfl rfl)
theorem dX4_ledgeFor_4 : decode cX4_ledgeFor 4 = .ok (.bipush 51, 2) := dk_16 51 (dk_at dksX4_ledgeFor_0 4 rfl rfl)
theorem dX4_ledgeFor_6 : decode cX4_ledgeFor 6 = .ok (.aload_n 0, 1) := dk_42 (dk_at dksX4_ledgeFor_0 6 rfl rfl)
theorem dX4_ledgeFor_7 : decode cX4_ledgeFor 7 = .ok (.getfield 7, 3) := dk_180 0 7 (dk_at dksX4_ledgeFor_0 7 rfl rfl)
theorem dX4_ledgeFor_10 : decode cX4_ledgeFor 10 = .ok (.sipush 213, 3) := dk_17 0 213 (dk_at dksX4_ledgeFor_0 10 rfl rfl)
theorem dX4_ledgeFor_13 : decode cX4_ledgeFor 13 = .ok (.iload_n 1, 1) := dk_27 (dk_at dksX4_ledgeFor_0 13 rfl rfl)
theorem dX4_ledgeFor_14 : decode cX4_ledgeFor 14 = .ok (.iadd, 1) := dk_96 (dk_at dksX4_ledgeFor_0 14 rfl rfl)
theorem dX4_ledgeFor_15 : decode cX4_ledgeFor 15 = .ok (.iaload, 1) := dk_46 (dk_at dksX4_ledgeFor_0 15 rfl rfl)
theorem dX4_ledgeFor_16 : decode cX4_ledgeFor 16 = .ok (.iadd, 1) := dk_96 (dk_at dksX4_ledgeFor_0 16 rfl rfl)
theorem dX4_ledgeFor_17 : decode cX4_ledgeFor 17 = .ok (.iaload, 1) := dk_46 (dk_at dksX4_ledgeFor_0 17 rfl rfl)
theorem dX4_ledgeFor_18 : decode cX4_ledgeFor 18 = .ok (.ireturn, 1) := dk_172 (dk_at dksX4_ledgeFor_0 18 rfl rfl)
abbrev cX4_dueAt : ByteArray := prog_17_method_30_code
def yX4_dueAt : MethodName := ⟨RX4, "dueAt", "(II)I"⟩
def dkwX4_dueAt_0 : List UInt8 := [42, 180, 0, 7, 16, 91, 16, 10, 42, 180, 0, 7, 17, 0, 213, 27, 96, 46, 104, 96, 28, 96, 46, 172]
abbrev dktX4_dueAt_0 : List UInt8 := dkwX4_dueAt_0 ++ []
theorem dksX4_dueAt_0 : cX4_dueAt.data.toList.drop 0 = dktX4_dueAt_0 := by decide +kernel
theorem dX4_dueAt_0 : decode cX4_dueAt 0 = .ok (.aload_n 0, 1) := dk_42 (dk_at dksX4_dueAt_0 0 rfl rfl)
theorem dX4_dueAt_1 : decode cX4_dueAt 1 = .ok (.getfield 7, 3) := dk_180 0 7 (dk_at dksX4_dueAt_0 1 rfl rfl)
theorem dX4_dueAt_4 : decode cX4_dueAt 4 = .ok (.bipush 91, 2) := dk_16 91 (dk_at dksX4_dueAt_0 4 rfl rfl)
theorem dX4_dueAt_6 : decode cX4_dueAt 6 = .ok (.bipush 10, 2) := dk_16 10 (dk_at dksX4_dueAt_0 6 rfl rfl)
theorem dX4_dueAt_8 : decode cX4_dueAt 8 = .ok (.aload_n 0, 1) := dk_42 (dk_at dksX4_dueAt_0 8 rfl rfl)
theorem dX4_dueAt_9 : decode cX4_dueAt 9 = .ok (.getfield 7, 3) := dk_180 0 7 (dk_at dksX4_dueAt_0 9 rfl rfl)
theorem dX4_dueAt_12 : decode cX4_dueAt 12 = .ok (.sipush 213, 3) := dk_17 0 213 (dk_at dksX4_dueAt_0 12 rfl rfl)
theorem dX4_dueAt_15 : decode cX4_dueAt 15 = .ok (.iload_n 1, 1) := dk_27 (dk_at dksX4_dueAt_0 15 rfl rfl)
theorem dX4_dueAt_16 : decode cX4_dueAt 16 = .ok (.iadd, 1) := dk_96 (dk_at dksX4_dueAt_0 16 rfl rfl)
theorem dX4_dueAt_17 : decode cX4_dueAt 17 = .ok (.iaload, 1) := dk_46 (dk_at dksX4_dueAt_0 17 rfl rfl)
theorem dX4_dueAt_18 : decode cX4_dueAt 18 = .ok (.imul, 1) := dk_104 (dk_at dksX4_dueAt_0 18 rfl rfl)
theorem dX4_dueAt_19 : decode cX4_dueAt 19 = .ok (.iadd, 1) := dk_96 (dk_at dksX4_dueAt_0 19 rfl rfl)
theorem dX4_dueAt_20 : decode cX4_dueAt 20 = .ok (.iload_n 2, 1) := dk_28 (dk_at dksX4_dueAt_0 20 rfl rfl)
theorem dX4_dueAt_21 : decode cX4_dueAt 21 = .ok (.iadd, 1) := dk_96 (dk_at dksX4_dueAt_0 21 rfl rfl)
theorem dX4_dueAt_22 : decode cX4_dueAt 22 = .ok (.iaload, 1) := dk_46 (dk_at dksX4_dueAt_0 22 rfl rfl)
theorem dX4_dueAt_23 : decode cX4_dueAt 23 = .ok (.ireturn, 1) := dk_172 (dk_at dksX4_dueAt_0 23 rfl rfl)
abbrev cX4_bestCopyist : ByteArray := prog_17_method_34_code
def yX4_bestCopyist : MethodName := ⟨RX4, "bestCopyist", "(II)I"⟩
def dkwX4_bestCopyist_6 : List UInt8 := [153, 0, 8, 21, 7, 167, 0, 5, 21, 5, 54, 5, 132, 6, 1, 167, 255, 145, 21, 4, 172]
abbrev dktX4_bestCopyist_6 : List UInt8 := dkwX4_bestCopyist_6 ++ []
def dkwX4_bestCopyist_5 : List UInt8 := [4, 167, 0, 4, 3, 54, 8, 21, 8, 153, 0, 8, 21, 6, 167, 0, 5, 21, 4, 54, 4, 21, 8]
abbrev dktX4_bestCopyist_5 : List UInt8 := dkwX4_bestCopyist_5 ++ dktX4_bestCopyist_6
def dkwX4_bestCopyist_4 : List UInt8 := [180, 0, 7, 17, 0, 200, 21, 6, 96, 46, 42, 180, 0, 7, 17, 0, 200, 21, 4, 96, 46, 164, 0, 7]
abbrev dktX4_bestCopyist_4 : List UInt8 := dkwX4_bestCopyist_4 ++ dktX4_bestCopyist_5
def dkwX4_bestCopyist_3 : List UInt8 := [21, 4, 16, 241, 159, 0, 42, 21, 7, 21, 5, 161, 0, 35, 21, 7, 21, 5, 160, 0, 32, 42]
abbrev dktX4_bestCopyist_3 : List UInt8 := dkwX4_bestCopyist_3 ++ dktX4_bestCopyist_4
def dkwX4_bestCopyist_2 : List UInt8 := [180, 0, 7, 17, 0, 191, 46, 162, 0, 104, 42, 21, 6, 27, 28, 182, 0, 92, 29, 184, 0, 108, 54, 7]
abbrev dktX4_bestCopyist_2 : List UInt8 := dkwX4_bestCopyist_2 ++ dktX4_bestCopyist_3
def dkwX4_bestCopyist_1 : List UInt8 := [16, 10, 27, 104, 96, 28, 96, 46, 62, 16, 241, 54, 4, 3, 54, 5, 3, 54, 6, 21, 6, 42]
abbrev dktX4_bestCopyist_1 : List UInt8 := dkwX4_bestCopyist_1 ++ dktX4_bestCopyist_2
def dkwX4_bestCopyist_0 : List UInt8 := [42, 27, 182, 0, 83, 153, 0, 10, 28, 184, 0, 58, 154, 0, 6, 16, 245, 172, 42, 180, 0, 7, 16, 91]
abbrev dktX4_bestCopyist_0 : List UInt8 := dkwX4_bestCopyist_0 ++ dktX4_bestCopyist_1
theorem dksX4_bestCopyist_0 : cX4_bestCopyist.data.toList.drop 0 = dktX4_bestCopyist_0 := by decide +kernel
theorem dksX4_bestCopyist_1 : cX4_bestCopyist.data.toList.drop 24 = dktX4_bestCopyist_1 := dk_seg dksX4_bestCopyist_0 24 rfl rfl
theorem dksX4_bestCopyist_2 : cX4_bestCopyist.data.toList.drop 46 = dktX4_bestCopyist_2 := dk_seg dksX4_bestCopyist_1 22 rfl rfl
theorem dksX4_bestCopyist_3 : cX4_bestCopyist.data.toList.drop 70 = dktX4_bestCopyist_3 := dk_seg dksX4_bestCopyist_2 24 rfl rfl
theorem dksX4_bestCopyist_4 : cX4_bestCopyist.data.toList.drop 92 = dktX4_bestCopyist_4 := dk_seg dksX4_bestCopyist_3 22 rfl rfl
theorem dksX4_bestCopyist_5 : cX4_bestCopyist.data.toList.drop 116 = dktX4_bestCopyist_5 := dk_seg dksX4_bestCopyist_4 24 rfl rfl
theorem dksX4_bestCopyist_6 : cX4_bestCopyist.data.toList.drop 139 = dktX4_bestCopyist_6 := dk_seg dksX4_bestCopyist_5 23 rfl rfl
theorem dX4_bestCopyist_0 : decode cX4_bestCopyist 0 = .ok (.aload_n 0, 1) := dk_42 (dk_at dksX4_bestCopyist_0 0 rfl rfl)
theorem dX4_bestCopyist_1 : decode cX4_bestCopyist 1 = .ok (.iload_n 1, 1) := dk_27 (dk_at dksX4_bestCopyist_0 1 rfl rfl)
theorem dX4_bestCopyist_2 : decode cX4_bestCopyist 2 = .ok (.invokevirtual 83, 3) := dk_182 0 83 (dk_at dksX4_bestCopyist_0 2 rfl rfl)
theorem dX4_bestCopyist_5 : decode cX4_bestCopyist 5 = .ok (.ifCond .eq 10, 3) := dk_153 0 10 (dk_at dksX4_bestCopyist_0 5 rfl rfl)
theorem dX4_bestCopyist_8 : decode cX4_bestCopyist 8 = .ok (.iload_n 2, 1) := dk_28 (dk_at dksX4_bestCopyist_0 8 rfl rfl)
theorem dX4_bestCopyist_9 : decode cX4_bestCopyist 9 = .ok (.invokestatic 58, 3) := dk_184 0 58 (dk_at dksX4_bestCopyist_0 9 rfl rfl)
theorem dX4_bestCopyist_12 : decode cX4_bestCopyist 12 = .ok (.ifCond .ne 6, 3) := dk_154 0 6 (dk_at dksX4_bestCopyist_0 12 rfl rfl)
theorem dX4_bestCopyist_15 : decode cX4_bestCopyist 15 = .ok (.bipush (-11), 2) := dk_16 245 (dk_at dksX4_bestCopyist_0 15 rfl rfl)
theorem dX4_bestCopyist_17 : decode cX4_bestCopyist 17 = .ok (.ireturn, 1) := dk_172 (dk_at dksX4_bestCopyist_0 17 rfl rfl)
theorem dX4_bestCopyist_18 : decode cX4_bestCopyist 18 = .ok (.aload_n 0, 1) := dk_42 (dk_at dksX4_bestCopyist_0 18 rfl rfl)
theorem dX4_bestCopyist_19 : decode cX4_bestCopyist 19 = .ok (.getfield 7, 3) := dk_180 0 7 (dk_at dksX4_bestCopyist_0 19 rfl rfl)
theorem dX4_bestCopyist_22 : decode cX4_bestCopyist 22 = .ok (.bipush 91, 2) := dk_16 91 (dk_at dksX4_bestCopyist_0 22 rfl rfl)
theorem dX4_bestCopyist_24 : decode cX4_bestCopyist 24 = .ok (.bipush 10, 2) := dk_16 10 (dk_at dksX4_bestCopyist_1 0 rfl rfl)
theorem dX4_bestCopyist_26 : decode cX4_bestCopyist 26 = .ok (.iload_n 1, 1) := dk_27 (dk_at dksX4_bestCopyist_1 2 rfl rfl)
theorem dX4_bestCopyist_27 : decode cX4_bestCopyist 27 = .ok (.imul, 1) := dk_104 (dk_at dksX4_bestCopyist_1 3 rfl rfl)
theorem dX4_bestCopyist_28 : decode cX4_bestCopyist 28 = .ok (.iadd, 1) := dk_96 (dk_at dksX4_bestCopyist_1 4 rfl rfl)
theorem dX4_bestCopyist_29 : decode cX4_bestCopyist 29 = .ok (.iload_n 2, 1) := dk_28 (dk_at dksX4_bestCopyist_1 5 rfl rfl)
theorem dX4_bestCopyist_30 : decode cX4_bestCopyist 30 = .ok (.iadd, 1) := dk_96 (dk_at dksX4_bestCopyist_1 6 rfl rfl)
theorem dX4_bestCopyist_31 : decode cX4_bestCopyist 31 = .ok (.iaload, 1) := dk_46 (dk_at dksX4_bestCopyist_1 7 rfl rfl)
theorem dX4_bestCopyist_32 : decode cX4_bestCopyist 32 = .ok (.istore_n 3, 1) := dk_62 (dk_at dksX4_bestCopyist_1 8 rfl rfl)
theorem dX4_bestCopyist_33 : decode cX4_bestCopyist 33 = .ok (.bipush (-15), 2) := dk_16 241 (dk_at dksX4_bestCopyist_1 9 rfl rfl)
theorem dX4_bestCopyist_35 : decode cX4_bestCopyist 35 = .ok (.istore 4, 2) := dk_54 4 (dk_at dksX4_bestCopyist_1 11 rfl rfl)
theorem dX4_bestCopyist_37 : decode cX4_bestCopyist 37 = .ok (.iconst 0, 1) := dk_3 (dk_at dksX4_bestCopyist_1 13 rfl rfl)
theorem dX4_bestCopyist_38 : decode cX4_bestCopyist 38 = .ok (.istore 5, 2) := dk_54 5 (dk_at dksX4_bestCopyist_1 14 rfl rfl)
theorem dX4_bestCopyist_40 : decode cX4_bestCopyist 40 = .ok (.iconst 0, 1) := dk_3 (dk_at dksX4_bestCopyist_1 16 rfl rfl)
theorem dX4_bestCopyist_41 : decode cX4_bestCopyist 41 = .ok (.istore 6, 2) := dk_54 6 (dk_at dksX4_bestCopyist_1 17 rfl rfl)
theorem dX4_bestCopyist_43 : decode cX4_bestCopyist 43 = .ok (.iload 6, 2) := dk_21 6 (dk_at dksX4_bestCopyist_1 19 rfl rfl)
theorem dX4_bestCopyist_45 : decode cX4_bestCopyist 45 = .ok (.aload_n 0, 1) := dk_42 (dk_at dksX4_bestCopyist_1 21 rfl rfl)
theorem dX4_bestCopyist_46 : decode cX4_bestCopyist 46 = .ok (.getfield 7, 3) := dk_180 0 7 (dk_at dksX4_bestCopyist_2 0 rfl rfl)
theorem dX4_bestCopyist_49 : decode cX4_bestCopyist 49 = .ok (.sipush 191, 3) := dk_17 0 191 (dk_at dksX4_bestCopyist_2 3 rfl rfl)
theorem dX4_bestCopyist_52 : decode cX4_bestCopyist 52 = .ok (.iaload, 1) := dk_46 (dk_at dksX4_bestCopyist_2 6 rfl rfl)
theorem dX4_bestCopyist_53 : decode cX4_bestCopyist 53 = .ok (.if_icmp .ge 104, 3) := dk_162 0 104 (dk_at dksX4_bestCopyist_2 7 rfl rfl)
theorem dX4_bestCopyist_56 : decode cX4_bestCopyist 56 = .ok (.aload_n 0, 1) := dk_42 (dk_at dksX4_bestCopyist_2 10 rfl rfl)
theorem dX4_bestCopyist_57 : decode cX4_bestCopyist 57 = .ok (.iload 6, 2) := dk_21 6 (dk_at dksX4_bestCopyist_2 11 rfl rfl)
theorem dX4_bestCopyist_59 : decode cX4_bestCopyist 59 = .ok (.iload_n 1, 1) := dk_27 (dk_at dksX4_bestCopyist_2 13 rfl rfl)
theorem dX4_bestCopyist_60 : decode cX4_bestCopyist 60 = .ok (.iload_n 2, 1) := dk_28 (dk_at dksX4_bestCopyist_2 14 rfl rfl)
theorem dX4_bestCopyist_61 : decode cX4_bestCopyist 61 = .ok (.invokevirtual 92, 3) := dk_182 0 92 (dk_at dksX4_bestCopyist_2 15 rfl rfl)
theorem dX4_bestCopyist_64 : decode cX4_bestCopyist 64 = .ok (.iload_n 3, 1) := dk_29 (dk_at dksX4_bestCopyist_2 18 rfl rfl)
theorem dX4_bestCopyist_65 : decode cX4_bestCopyist 65 = .ok (.invokestatic 108, 3) := dk_184 0 108 (dk_at dksX4_bestCopyist_2 19 rfl rfl)
theorem dX4_bestCopyist_68 : decode cX4_bestCopyist 68 = .ok (.istore 7, 2) := dk_54 7 (dk_at dksX4_bestCopyist_2 22 rfl rfl)
theorem dX4_bestCopyist_70 : decode cX4_bestCopyist 70 = .ok (.iload 4, 2) := dk_21 4 (dk_at dksX4_bestCopyist_3 0 rfl rfl)
theorem dX4_bestCopyist_72 : decode cX4_bestCopyist 72 = .ok (.bipush (-15), 2) := dk_16 241 (dk_at dksX4_bestCopyist_3 2 rfl rfl)
theorem dX4_bestCopyist_74 : decode cX4_bestCopyist 74 = .ok (.if_icmp .eq 42, 3) := dk_159 0 42 (dk_at dksX4_bestCopyist_3 4 rfl rfl)
theorem dX4_bestCopyist_77 : decode cX4_bestCopyist 77 = .ok (.iload 7, 2) := dk_21 7 (dk_at dksX4_bestCopyist_3 7 rfl rfl)
theorem dX4_bestCopyist_79 : decode cX4_bestCopyist 79 = .ok (.iload 5, 2) := dk_21 5 (dk_at dksX4_bestCopyist_3 9 rfl rfl)
theorem dX4_bestCopyist_81 : decode cX4_bestCopyist 81 = .ok (.if_icmp .lt 35, 3) := dk_161 0 35 (dk_at dksX4_bestCopyist_3 11 rfl rfl)
theorem dX4_bestCopyist_84 : decode cX4_bestCopyist 84 = .ok (.iload 7, 2) := dk_21 7 (dk_at dksX4_bestCopyist_3 14 rfl rfl)
theorem dX4_bestCopyist_86 : decode cX4_bestCopyist 86 = .ok (.iload 5, 2) := dk_21 5 (dk_at dksX4_bestCopyist_3 16 rfl rfl)
theorem dX4_bestCopyist_88 : decode cX4_bestCopyist 88 = .ok (.if_icmp .ne 32, 3) := dk_160 0 32 (dk_at dksX4_bestCopyist_3 18 rfl rfl)
theorem dX4_bestCopyist_91 : decode cX4_bestCopyist 91 = .ok (.aload_n 0, 1) := dk_42 (dk_at dksX4_bestCopyist_3 21 rfl rfl)
theorem dX4_bestCopyist_92 : decode cX4_bestCopyist 92 = .ok (.getfield 7, 3) := dk_180 0 7 (dk_at dksX4_bestCopyist_4 0 rfl rfl)
theorem dX4_bestCopyist_95 : decode cX4_bestCopyist 95 = .ok (.sipush 200, 3) := dk_17 0 200 (dk_at dksX4_bestCopyist_4 3 rfl rfl)
theorem dX4_bestCopyist_98 : decode cX4_bestCopyist 98 = .ok (.iload 6, 2) := dk_21 6 (dk_at dksX4_bestCopyist_4 6 rfl rfl)
theorem dX4_bestCopyist_100 : decode cX4_bestCopyist 100 = .ok (.iadd, 1) := dk_96 (dk_at dksX4_bestCopyist_4 8 rfl rfl)
theorem dX4_bestCopyist_101 : decode cX4_bestCopyist 101 = .ok (.iaload, 1) := dk_46 (dk_at dksX4_bestCopyist_4 9 rfl rfl)
theorem dX4_bestCopyist_102 : decode cX4_bestCopyist 102 = .ok (.aload_n 0, 1) := dk_42 (dk_at dksX4_bestCopyist_4 10 rfl rfl)
theorem dX4_bestCopyist_103 : decode cX4_bestCopyist 103 = .ok (.getfield 7, 3) := dk_180 0 7 (dk_at dksX4_bestCopyist_4 11 rfl rfl)
theorem dX4_bestCopyist_106 : decode cX4_bestCopyist 106 = .ok (.sipush 200, 3) := dk_17 0 200 (dk_at dksX4_bestCopyist_4 14 rfl rfl)
theorem dX4_bestCopyist_109 : decode cX4_bestCopyist 109 = .ok (.iload 4, 2) := dk_21 4 (dk_at dksX4_bestCopyist_4 17 rfl rfl)
theorem dX4_bestCopyist_111 : decode cX4_bestCopyist 111 = .ok (.iadd, 1) := dk_96 (dk_at dksX4_bestCopyist_4 19 rfl rfl)
theorem dX4_bestCopyist_112 : decode cX4_bestCopyist 112 = .ok (.iaload, 1) := dk_46 (dk_at dksX4_bestCopyist_4 20 rfl rfl)
theorem dX4_bestCopyist_113 : decode cX4_bestCopyist 113 = .ok (.if_icmp .le 7, 3) := dk_164 0 7 (dk_at dksX4_bestCopyist_4 21 rfl rfl)
theorem dX4_bestCopyist_116 : decode cX4_bestCopyist 116 = .ok (.iconst 1, 1) := dk_4 (dk_at dksX4_bestCopyist_5 0 rfl rfl)
theorem dX4_bestCopyist_117 : decode cX4_bestCopyist 117 = .ok (.goto 4, 3) := dk_167 0 4 (dk_at dksX4_bestCopyist_5 1 rfl rfl)
theorem dX4_bestCopyist_120 : decode cX4_bestCopyist 120 = .ok (.iconst 0, 1) := dk_3 (dk_at dksX4_bestCopyist_5 4 rfl rfl)
theorem dX4_bestCopyist_121 : decode cX4_bestCopyist 121 = .ok (.istore 8, 2) := dk_54 8 (dk_at dksX4_bestCopyist_5 5 rfl rfl)
theorem dX4_bestCopyist_123 : decode cX4_bestCopyist 123 = .ok (.iload 8, 2) := dk_21 8 (dk_at dksX4_bestCopyist_5 7 rfl rfl)
theorem dX4_bestCopyist_125 : decode cX4_bestCopyist 125 = .ok (.ifCond .eq 8, 3) := dk_153 0 8 (dk_at dksX4_bestCopyist_5 9 rfl rfl)
theorem dX4_bestCopyist_128 : decode cX4_bestCopyist 128 = .ok (.iload 6, 2) := dk_21 6 (dk_at dksX4_bestCopyist_5 12 rfl rfl)
theorem dX4_bestCopyist_130 : decode cX4_bestCopyist 130 = .ok (.goto 5, 3) := dk_167 0 5 (dk_at dksX4_bestCopyist_5 14 rfl rfl)
theorem dX4_bestCopyist_133 : decode cX4_bestCopyist 133 = .ok (.iload 4, 2) := dk_21 4 (dk_at dksX4_bestCopyist_5 17 rfl rfl)
theorem dX4_bestCopyist_135 : decode cX4_bestCopyist 135 = .ok (.istore 4, 2) := dk_54 4 (dk_at dksX4_bestCopyist_5 19 rfl rfl)
theorem dX4_bestCopyist_137 : decode cX4_bestCopyist 137 = .ok (.iload 8, 2) := dk_21 8 (dk_at dksX4_bestCopyist_5 21 rfl rfl)
theorem dX4_bestCopyist_139 : decode cX4_bestCopyist 139 = .ok (.ifCond .eq 8, 3) := dk_153 0 8 (dk_at dksX4_bestCopyist_6 0 rfl rfl)
theorem dX4_bestCopyist_142 : decode cX4_bestCopyist 142 = .ok (.iload 7, 2) := dk_21 7 (dk_at dksX4_bestCopyist_6 3 rfl rfl)
theorem dX4_bestCopyist_144 : decode cX4_bestCopyist 144 = .ok (.goto 5, 3) := dk_167 0 5 (dk_at dksX4_bestCopyist_6 5 rfl rfl)
theorem dX4_bestCopyist_147 : decode cX4_bestCopyist 147 = .ok (.iload 5, 2) := dk_21 5 (dk_at dksX4_bestCopyist_6 8 rfl rfl)
theorem dX4_bestCopyist_149 : decode cX4_bestCopyist 149 = .ok (.istore 5, 2) := dk_54 5 (dk_at dksX4_bestCopyist_6 10 rfl rfl)
theorem dX4_bestCopyist_151 : decode cX4_bestCopyist 151 = .ok (.iinc 6 1, 3) := dk_132 6 1 (dk_at dksX4_bestCopyist_6 12 rfl rfl)
theorem dX4_bestCopyist_154 : decode cX4_bestCopyist 154 = .ok (.goto (-111), 3) := dk_167 255 145 (dk_at dksX4_bestCopyist_6 15 rfl rfl)
theorem dX4_bestCopyist_157 : decode cX4_bestCopyist 157 = .ok (.iload 4, 2) := dk_21 4 (dk_at dksX4_bestCopyist_6 18 rfl rfl)
theorem dX4_bestCopyist_159 : decode cX4_bestCopyist 159 = .ok (.ireturn, 1) := dk_172 (dk_at dksX4_bestCopyist_6 20 rfl rfl)
abbrev cX4_apart : ByteArray := prog_17_method_33_code
def yX4_apart : MethodName := ⟨RX4, "apart", "(II)I"⟩
def dkwX4_apart_0 : List UInt8 := [26, 27, 162, 0, 9, 27, 26, 100, 167, 0, 6, 26, 27, 100, 172]
abbrev dktX4_apart_0 : List UInt8 := dkwX4_apart_0 ++ []
theorem dksX4_apart_0 : cX4_apart.data.toList.drop 0 = dktX4_apart_0 := by decide +kernel
theorem dX4_apart_0 : decode cX4_apart 0 = .ok (.iload_n 0, 1) := dk_26 (dk_at dksX4_apart_0 0 rfl rfl)
theorem dX4_apart_1 : decode cX4_apart 1 = .ok (.iload_n 1, 1) := dk_27 (dk_at dksX4_apart_0 1 rfl rfl)
theorem dX4_apart_2 : decode cX4_apart 2 = .ok (.if_icmp .ge 9, 3) := dk_162 0 9 (dk_at dksX4_apart_0 2 rfl rfl)
theorem dX4_apart_5 : decode cX4_apart 5 = .ok (.iload_n 1, 1) := dk_27 (dk_at dksX4_apart_0 5 rfl rfl)
theorem dX4_apart_6 : decode cX4_apart 6 = .ok (.iload_n 0, 1) := dk_26 (dk_at dksX4_apart_0 6 rfl rfl)
theorem dX4_apart_7 : decode cX4_apart 7 = .ok (.isub, 1) := dk_100 (dk_at dksX4_apart_0 7 rfl rfl)
theorem dX4_apart_8 : decode cX4_apart 8 = .ok (.goto 6, 3) := dk_167 0 6 (dk_at dksX4_apart_0 8 rfl rfl)
theorem dX4_apart_11 : decode cX4_apart 11 = .ok (.iload_n 0, 1) := dk_26 (dk_at dksX4_apart_0 11 rfl rfl)
theorem dX4_apart_12 : decode cX4_apart 12 = .ok (.iload_n 1, 1) := dk_27 (dk_at dksX4_apart_0 12 rfl rfl)
theorem dX4_apart_13 : decode cX4_apart 13 = .ok (.isub, 1) := dk_100 (dk_at dksX4_apart_0 13 rfl rfl)
theorem dX4_apart_14 : decode cX4_apart 14 = .ok (.ireturn, 1) := dk_172 (dk_at dksX4_apart_0 14 rfl rfl)
abbrev cX4_copyistOf : ByteArray := prog_17_method_35_code
def yX4_copyistOf : MethodName := ⟨RX4, "copyistOf", "(II)I"⟩
def dkwX4_copyistOf_1 : List UInt8 := [17, 0, 192, 7, 28, 104, 96, 27, 96, 46, 167, 0, 5, 16, 244, 172]
abbrev dktX4_copyistOf_1 : List UInt8 := dkwX4_copyistOf_1 ++ []
def dkwX4_copyistOf_0 : List UInt8 := [42, 27, 182, 0, 89, 154, 0, 6, 16, 245, 172, 28, 3, 7, 184, 0, 46, 153, 0, 20, 42, 180, 0, 7]
abbrev dktX4_copyistOf_0 : List UInt8 := dkwX4_copyistOf_0 ++ dktX4_copyistOf_1
theorem dksX4_copyistOf_0 : cX4_copyistOf.data.toList.drop 0 = dktX4_copyistOf_0 := by decide +kernel
theorem dksX4_copyistOf_1 : cX4_copyistOf.data.toList.drop 24 = dktX4_copyistOf_1 := dk_seg dksX4_copyistOf_0 24 rfl rfl
theorem dX4_copyistOf_0 : decode cX4_copyistOf 0 = .ok (.aload_n 0, 1) := dk_42 (dk_at dksX4_copyistOf_0 0 rfl rfl)
theorem dX4_copyistOf_1 : decode cX4_copyistOf 1 = .ok (.iload_n 1, 1) := dk_27 (dk_at dksX4_copyistOf_0 1 rfl rfl)
theorem dX4_copyistOf_2 : decode cX4_copyistOf 2 = .ok (.invokevirtual 89, 3) := dk_182 0 89 (dk_at dksX4_copyistOf_0 2 rfl rfl)
theorem dX4_copyistOf_5 : decode cX4_copyistOf 5 = .ok (.ifCond .ne 6, 3) := dk_154 0 6 (dk_at dksX4_copyistOf_0 5 rfl rfl)
theorem dX4_copyistOf_8 : decode cX4_copyistOf 8 = .ok (.bipush (-11), 2) := dk_16 245 (dk_at dksX4_copyistOf_0 8 rfl rfl)
theorem dX4_copyistOf_10 : decode cX4_copyistOf 10 = .ok (.ireturn, 1) := dk_172 (dk_at dksX4_copyistOf_0 10 rfl rfl)
theorem dX4_copyistOf_11 : decode cX4_copyistOf 11 = .ok (.iload_n 2, 1) := dk_28 (dk_at dksX4_copyistOf_0 11 rfl rfl)
theorem dX4_copyistOf_12 : decode cX4_copyistOf 12 = .ok (.iconst 0, 1) := dk_3 (dk_at dksX4_copyistOf_0 12 rfl rfl)
theorem dX4_copyistOf_13 : decode cX4_copyistOf 13 = .ok (.iconst 4, 1) := dk_7 (dk_at dksX4_copyistOf_0 13 rfl rfl)
theorem dX4_copyistOf_14 : decode cX4_copyistOf 14 = .ok (.invokestatic 46, 3) := dk_184 0 46 (dk_at dksX4_copyistOf_0 14 rfl rfl)
theorem dX4_copyistOf_17 : decode cX4_copyistOf 17 = .ok (.ifCond .eq 20, 3) := dk_153 0 20 (dk_at dksX4_copyistOf_0 17 rfl rfl)
theorem dX4_copyistOf_20 : decode cX4_copyistOf 20 = .ok (.aload_n 0, 1) := dk_42 (dk_at dksX4_copyistOf_0 20 rfl rfl)
theorem dX4_copyistOf_21 : decode cX4_copyistOf 21 = .ok (.getfield 7, 3) := dk_180 0 7 (dk_at dksX4_copyistOf_0 21 rfl rfl)
theorem dX4_copyistOf_24 : decode cX4_copyistOf 24 = .ok (.sipush 192, 3) := dk_17 0 192 (dk_at dksX4_copyistOf_1 0 rfl rfl)
theorem dX4_copyistOf_27 : decode cX4_copyistOf 27 = .ok (.iconst 4, 1) := dk_7 (dk_at dksX4_copyistOf_1 3 rfl rfl)
theorem dX4_copyistOf_28 : decode cX4_copyistOf 28 = .ok (.iload_n 2, 1) := dk_28 (dk_at dksX4_copyistOf_1 4 rfl rfl)
theorem dX4_copyistOf_29 : decode cX4_copyistOf 29 = .ok (.imul, 1) := dk_104 (dk_at dksX4_copyistOf_1 5 rfl rfl)
theorem dX4_copyistOf_30 : decode cX4_copyistOf 30 = .ok (.iadd, 1) := dk_96 (dk_at dksX4_copyistOf_1 6 rfl rfl)
theorem dX4_copyistOf_31 : decode cX4_copyistOf 31 = .ok (.iload_n 1, 1) := dk_27 (dk_at dksX4_copyistOf_1 7 rfl rfl)
theorem dX4_copyistOf_32 : decode cX4_copyistOf 32 = .ok (.iadd, 1) := dk_96 (dk_at dksX4_copyistOf_1 8 rfl rfl)
theorem dX4_copyistOf_33 : decode cX4_copyistOf 33 = .ok (.iaload, 1) := dk_46 (dk_at dksX4_copyistOf_1 9 rfl rfl)
theorem dX4_copyistOf_34 : decode cX4_copyistOf 34 = .ok (.goto 5, 3) := dk_167 0 5 (dk_at dksX4_copyistOf_1 10 rfl rfl)
theorem dX4_copyistOf_37 : decode cX4_copyistOf 37 = .ok (.bipush (-12), 2) := dk_16 244 (dk_at dksX4_copyistOf_1 13 rfl rfl)
theorem dX4_copyistOf_39 : decode cX4_copyistOf 39 = .ok (.ireturn, 1) := dk_172 (dk_at dksX4_copyistOf_1 15 rfl rfl)
abbrev cX4_needle : ByteArray := prog_17_method_37_code
def yX4_needle : MethodName := ⟨RX4, "needle", "(I)I"⟩
def dkwX4_needle_0 : List UInt8 := [42, 182, 0, 68, 42, 42, 27, 182, 0, 111, 182, 0, 77, 172]
abbrev dktX4_needle_0 : List UInt8 := dkwX4_needle_0 ++ []
theorem dksX4_needle_0 : cX4_needle.data.toList.drop 0 = dktX4_needle_0 := by decide +kernel
theorem dX4_needle_0 : decode cX4_needle 0 = .ok (.aload_n 0, 1) := dk_42 (dk_at dksX4_needle_0 0 rfl rfl)
theorem dX4_needle_1 : decode cX4_needle 1 = .ok (.invokevirtual 68, 3) := dk_182 0 68 (dk_at dksX4_needle_0 1 rfl rfl)
theorem dX4_needle_4 : decode cX4_needle 4 = .ok (.aload_n 0, 1) := dk_42 (dk_at dksX4_needle_0 4 rfl rfl)
theorem dX4_needle_5 : decode cX4_needle 5 = .ok (.aload_n 0, 1) := dk_42 (dk_at dksX4_needle_0 5 rfl rfl)
theorem dX4_needle_6 : decode cX4_needle 6 = .ok (.iload_n 1, 1) := dk_27 (dk_at dksX4_needle_0 6 rfl rfl)
theorem dX4_needle_7 : decode cX4_needle 7 = .ok (.invokevirtual 111, 3) := dk_182 0 111 (dk_at dksX4_needle_0 7 rfl rfl)
theorem dX4_needle_10 : decode cX4_needle 10 = .ok (.invokevirtual 77, 3) := dk_182 0 77 (dk_at dksX4_needle_0 10 rfl rfl)
theorem dX4_needle_13 : decode cX4_needle 13 = .ok (.ireturn, 1) := dk_172 (dk_at dksX4_needle_0 13 rfl rfl)
abbrev cX4_renews : ByteArray := prog_17_method_36_code
def yX4_renews : MethodName := ⟨RX4, "renews", "(I)I"⟩
def dkwX4_renews_2 : List UInt8 := [180, 0, 7, 17, 0, 208, 27, 96, 92, 46, 4, 96, 79, 28, 172]
abbrev dktX4_renews_2 : List UInt8 := dkwX4_renews_2 ++ []
def dkwX4_renews_1 : List UInt8 := [172, 42, 180, 0, 7, 17, 0, 196, 27, 96, 46, 61, 42, 180, 0, 7, 17, 0, 196, 27, 96, 3, 79, 42]
abbrev dktX4_renews_1 : List UInt8 := dkwX4_renews_1 ++ dktX4_renews_2
def dkwX4_renews_0 : List UInt8 := [42, 27, 182, 0, 89, 154, 0, 6, 16, 245, 172, 42, 4, 182, 0, 71, 154, 0, 9, 42, 4, 182, 0, 74]
abbrev dktX4_renews_0 : List UInt8 := dkwX4_renews_0 ++ dktX4_renews_1
theorem dksX4_renews_0 : cX4_renews.data.toList.drop 0 = dktX4_renews_0 := by decide +kernel
theorem dksX4_renews_1 : cX4_renews.data.toList.drop 24 = dktX4_renews_1 := dk_seg dksX4_renews_0 24 rfl rfl
theorem dksX4_renews_2 : cX4_renews.data.toList.drop 48 = dktX4_renews_2 := dk_seg dksX4_renews_1 24 rfl rfl
theorem dX4_renews_0 : decode cX4_renews 0 = .ok (.aload_n 0, 1) := dk_42 (dk_at dksX4_renews_0 0 rfl rfl)
theorem dX4_renews_1 : decode cX4_renews 1 = .ok (.iload_n 1, 1) := dk_27 (dk_at dksX4_renews_0 1 rfl rfl)
theorem dX4_renews_2 : decode cX4_renews 2 = .ok (.invokevirtual 89, 3) := dk_182 0 89 (dk_at dksX4_renews_0 2 rfl rfl)
theorem dX4_renews_5 : decode cX4_renews 5 = .ok (.ifCond .ne 6, 3) := dk_154 0 6 (dk_at dksX4_renews_0 5 rfl rfl)
theorem dX4_renews_8 : decode cX4_renews 8 = .ok (.bipush (-11), 2) := dk_16 245 (dk_at dksX4_renews_0 8 rfl rfl)
theorem dX4_renews_10 : decode cX4_renews 10 = .ok (.ireturn, 1) := dk_172 (dk_at dksX4_renews_0 10 rfl rfl)
theorem dX4_renews_11 : decode cX4_renews 11 = .ok (.aload_n 0, 1) := dk_42 (dk_at dksX4_renews_0 11 rfl rfl)
theorem dX4_renews_12 : decode cX4_renews 12 = .ok (.iconst 1, 1) := dk_4 (dk_at dksX4_renews_0 12 rfl rfl)
theorem dX4_renews_13 : decode cX4_renews 13 = .ok (.invokevirtual 71, 3) := dk_182 0 71 (dk_at dksX4_renews_0 13 rfl rfl)
theorem dX4_renews_16 : decode cX4_renews 16 = .ok (.ifCond .ne 9, 3) := dk_154 0 9 (dk_at dksX4_renews_0 16 rfl rfl)
theorem dX4_renews_19 : decode cX4_renews 19 = .ok (.aload_n 0, 1) := dk_42 (dk_at dksX4_renews_0 19 rfl rfl)
theorem dX4_renews_20 : decode cX4_renews 20 = .ok (.iconst 1, 1) := dk_4 (dk_at dksX4_renews_0 20 rfl rfl)
theorem dX4_renews_21 : decode cX4_renews 21 = .ok (.invokevirtual 74, 3) := dk_182 0 74 (dk_at dksX4_renews_0 21 rfl rfl)
theorem dX4_renews_24 : decode cX4_renews 24 = .ok (.ireturn, 1) := dk_172 (dk_at dksX4_renews_1 0 rfl rfl)
theorem dX4_renews_25 : decode cX4_renews 25 = .ok (.aload_n 0, 1) := dk_42 (dk_at dksX4_renews_1 1 rfl rfl)
theorem dX4_renews_26 : decode cX4_renews 26 = .ok (.getfield 7, 3) := dk_180 0 7 (dk_at dksX4_renews_1 2 rfl rfl)
theorem dX4_renews_29 : decode cX4_renews 29 = .ok (.sipush 196, 3) := dk_17 0 196 (dk_at dksX4_renews_1 5 rfl rfl)
theorem dX4_renews_32 : decode cX4_renews 32 = .ok (.iload_n 1, 1) := dk_27 (dk_at dksX4_renews_1 8 rfl rfl)
theorem dX4_renews_33 : decode cX4_renews 33 = .ok (.iadd, 1) := dk_96 (dk_at dksX4_renews_1 9 rfl rfl)
theorem dX4_renews_34 : decode cX4_renews 34 = .ok (.iaload, 1) := dk_46 (dk_at dksX4_renews_1 10 rfl rfl)
theorem dX4_renews_35 : decode cX4_renews 35 = .ok (.istore_n 2, 1) := dk_61 (dk_at dksX4_renews_1 11 rfl rfl)
theorem dX4_renews_36 : decode cX4_renews 36 = .ok (.aload_n 0, 1) := dk_42 (dk_at dksX4_renews_1 12 rfl rfl)
theorem dX4_renews_37 : decode cX4_renews 37 = .ok (.getfield 7, 3) := dk_180 0 7 (dk_at dksX4_renews_1 13 rfl rfl)
theorem dX4_renews_40 : decode cX4_renews 40 = .ok (.sipush 196, 3) := dk_17 0 196 (dk_at dksX4_renews_1 16 rfl rfl)
theorem dX4_renews_43 : decode cX4_renews 43 = .ok (.iload_n 1, 1) := dk_27 (dk_at dksX4_renews_1 19 rfl rfl)
theorem dX4_renews_44 : decode cX4_renews 44 = .ok (.iadd, 1) := dk_96 (dk_at dksX4_renews_1 20 rfl rfl)
theorem dX4_renews_45 : decode cX4_renews 45 = .ok (.iconst 0, 1) := dk_3 (dk_at dksX4_renews_1 21 rfl rfl)
theorem dX4_renews_46 : decode cX4_renews 46 = .ok (.iastore, 1) := dk_79 (dk_at dksX4_renews_1 22 rfl rfl)
theorem dX4_renews_47 : decode cX4_renews 47 = .ok (.aload_n 0, 1) := dk_42 (dk_at dksX4_renews_1 23 rfl rfl)
theorem dX4_renews_48 : decode cX4_renews 48 = .ok (.getfield 7, 3) := dk_180 0 7 (dk_at dksX4_renews_2 0 rfl rfl)
theorem dX4_renews_51 : decode cX4_renews 51 = .ok (.sipush 208, 3) := dk_17 0 208 (dk_at dksX4_renews_2 3 rfl rfl)
theorem dX4_renews_54 : decode cX4_renews 54 = .ok (.iload_n 1, 1) := dk_27 (dk_at dksX4_renews_2 6 rfl rfl)
theorem dX4_renews_55 : decode cX4_renews 55 = .ok (.iadd, 1) := dk_96 (dk_at dksX4_renews_2 7 rfl rfl)
theorem dX4_renews_56 : decode cX4_renews 56 = .ok (.dup2, 1) := dk_92 (dk_at dksX4_renews_2 8 rfl rfl)
theorem dX4_renews_57 : decode cX4_renews 57 = .ok (.iaload, 1) := dk_46 (dk_at dksX4_renews_2 9 rfl rfl)
theorem dX4_renews_58 : decode cX4_renews 58 = .ok (.iconst 1, 1) := dk_4 (dk_at dksX4_renews_2 10 rfl rfl)
theorem dX4_renews_59 : decode cX4_renews 59 = .ok (.iadd, 1) := dk_96 (dk_at dksX4_renews_2 11 rfl rfl)
theorem dX4_renews_60 : decode cX4_renews 60 = .ok (.iastore, 1) := dk_79 (dk_at dksX4_renews_2 12 rfl rfl)
theorem dX4_renews_61 : decode cX4_renews 61 = .ok (.iload_n 2, 1) := dk_28 (dk_at dksX4_renews_2 13 rfl rfl)
theorem dX4_renews_62 : decode cX4_renews 62 = .ok (.ireturn, 1) := dk_172 (dk_at dksX4_renews_2 14 rfl rfl)
abbrev cX4_copyOf : ByteArray := prog_17_method_40_code
def yX4_copyOf : MethodName := ⟨RX4, "copyOf", "(II)I"⟩
def dkwX4_copyOf_3 : List UInt8 := [172, 42, 27, 182, 0, 117, 172, 16, 244, 172]
abbrev dktX4_copyOf_3 : List UInt8 := dkwX4_copyOf_3 ++ []
def dkwX4_copyOf_2 : List UInt8 := [42, 180, 0, 7, 17, 0, 213, 16, 8, 28, 104, 96, 27, 96, 46, 172, 42, 27, 28, 5, 100, 182, 0, 114]
abbrev dktX4_copyOf_2 : List UInt8 := dkwX4_copyOf_2 ++ dktX4_copyOf_3
def dkwX4_copyOf_1 : List UInt8 := [170, 0, 0, 0, 0, 0, 0, 67, 0, 0, 0, 0, 0, 0, 0, 4, 0, 0, 0, 36, 0, 0, 0, 36, 0, 0, 0, 52, 0, 0, 0, 52, 0, 0, 0, 61]
abbrev dktX4_copyOf_1 : List UInt8 := dkwX4_copyOf_1 ++ dktX4_copyOf_2
def dkwX4_copyOf_0 : List UInt8 := [42, 27, 182, 0, 96, 154, 0, 6, 16, 245, 172, 28]
abbrev dktX4_copyOf_0 : List UInt8 := dkwX4_copyOf_0 ++ dktX4_copyOf_1
theorem dksX4_copyOf_0 : cX4_copyOf.data.toList.drop 0 = dktX4_copyOf_0 := by decide +kernel
theorem dksX4_copyOf_1 : cX4_copyOf.data.toList.drop 12 = dktX4_copyOf_1 := dk_seg dksX4_copyOf_0 12 rfl rfl
theorem dksX4_copyOf_2 : cX4_copyOf.data.toList.drop 48 = dktX4_copyOf_2 := dk_seg dksX4_copyOf_1 36 rfl rfl
theorem dksX4_copyOf_3 : cX4_copyOf.data.toList.drop 72 = dktX4_copyOf_3 := dk_seg dksX4_copyOf_2 24 rfl rfl
theorem dX4_copyOf_0 : decode cX4_copyOf 0 = .ok (.aload_n 0, 1) := dk_42 (dk_at dksX4_copyOf_0 0 rfl rfl)
theorem dX4_copyOf_1 : decode cX4_copyOf 1 = .ok (.iload_n 1, 1) := dk_27 (dk_at dksX4_copyOf_0 1 rfl rfl)
theorem dX4_copyOf_2 : decode cX4_copyOf 2 = .ok (.invokevirtual 96, 3) := dk_182 0 96 (dk_at dksX4_copyOf_0 2 rfl rfl)
theorem dX4_copyOf_5 : decode cX4_copyOf 5 = .ok (.ifCond .ne 6, 3) := dk_154 0 6 (dk_at dksX4_copyOf_0 5 rfl rfl)
theorem dX4_copyOf_8 : decode cX4_copyOf 8 = .ok (.bipush (-11), 2) := dk_16 245 (dk_at dksX4_copyOf_0 8 rfl rfl)
theorem dX4_copyOf_10 : decode cX4_copyOf 10 = .ok (.ireturn, 1) := dk_172 (dk_at dksX4_copyOf_0 10 rfl rfl)
theorem dX4_copyOf_11 : decode cX4_copyOf 11 = .ok (.iload_n 2, 1) := dk_28 (dk_at dksX4_copyOf_0 11 rfl rfl)
theorem dX4_copyOf_12 : decode cX4_copyOf 12 = .ok (.tableswitch 67 0 4 #[36, 36, 52, 52, 61], 36) := by decide +kernel
theorem dX4_copyOf_48 : decode cX4_copyOf 48 = .ok (.aload_n 0, 1) := dk_42 (dk_at dksX4_copyOf_2 0 rfl rfl)
theorem dX4_copyOf_49 : decode cX4_copyOf 49 = .ok (.getfield 7, 3) := dk_180 0 7 (dk_at dksX4_copyOf_2 1 rfl rfl)
theorem dX4_copyOf_52 : decode cX4_copyOf 52 = .ok (.sipush 213, 3) := dk_17 0 213 (dk_at dksX4_copyOf_2 4 rfl rfl)
theorem dX4_copyOf_55 : decode cX4_copyOf 55 = .ok (.bipush 8, 2) := dk_16 8 (dk_at dksX4_copyOf_2 7 rfl rfl)
theorem dX4_copyOf_57 : decode cX4_copyOf 57 = .ok (.iload_n 2, 1) := dk_28 (dk_at dksX4_copyOf_2 9 rfl rfl)
theorem dX4_copyOf_58 : decode cX4_copyOf 58 = .ok (.imul, 1) := dk_104 (dk_at dksX4_copyOf_2 10 rfl rfl)
theorem dX4_copyOf_59 : decode cX4_copyOf 59 = .ok (.iadd, 1) := dk_96 (dk_at dksX4_copyOf_2 11 rfl rfl)
theorem dX4_copyOf_60 : decode cX4_copyOf 60 = .ok (.iload_n 1, 1) := dk_27 (dk_at dksX4_copyOf_2 12 rfl rfl)
theorem dX4_copyOf_61 : decode cX4_copyOf 61 = .ok (.iadd, 1) := dk_96 (dk_at dksX4_copyOf_2 13 rfl rfl)
theorem dX4_copyOf_62 : decode cX4_copyOf 62 = .ok (.iaload, 1) := dk_46 (dk_at dksX4_copyOf_2 14 rfl rfl)
theorem dX4_copyOf_63 : decode cX4_copyOf 63 = .ok (.ireturn, 1) := dk_172 (dk_at dksX4_copyOf_2 15 rfl rfl)
theorem dX4_copyOf_64 : decode cX4_copyOf 64 = .ok (.aload_n 0, 1) := dk_42 (dk_at dksX4_copyOf_2 16 rfl rfl)
theorem dX4_copyOf_65 : decode cX4_copyOf 65 = .ok (.iload_n 1, 1) := dk_27 (dk_at dksX4_copyOf_2 17 rfl rfl)
theorem dX4_copyOf_66 : decode cX4_copyOf 66 = .ok (.iload_n 2, 1) := dk_28 (dk_at dksX4_copyOf_2 18 rfl rfl)
theorem dX4_copyOf_67 : decode cX4_copyOf 67 = .ok (.iconst 2, 1) := dk_5 (dk_at dksX4_copyOf_2 19 rfl rfl)
theorem dX4_copyOf_68 : decode cX4_copyOf 68 = .ok (.isub, 1) := dk_100 (dk_at dksX4_copyOf_2 20 rfl rfl)
theorem dX4_copyOf_69 : decode cX4_copyOf 69 = .ok (.invokevirtual 114, 3) := dk_182 0 114 (dk_at dksX4_copyOf_2 21 rfl rfl)
theorem dX4_copyOf_72 : decode cX4_copyOf 72 = .ok (.ireturn, 1) := dk_172 (dk_at dksX4_copyOf_3 0 rfl rfl)
theorem dX4_copyOf_73 : decode cX4_copyOf 73 = .ok (.aload_n 0, 1) := dk_42 (dk_at dksX4_copyOf_3 1 rfl rfl)
theorem dX4_copyOf_74 : decode cX4_copyOf 74 = .ok (.iload_n 1, 1) := dk_27 (dk_at dksX4_copyOf_3 2 rfl rfl)
theorem dX4_copyOf_75 : decode cX4_copyOf 75 = .ok (.invokevirtual 117, 3) := dk_182 0 117 (dk_at dksX4_copyOf_3 3 rfl rfl)
theorem dX4_copyOf_78 : decode cX4_copyOf 78 = .ok (.ireturn, 1) := dk_172 (dk_at dksX4_copyOf_3 6 rfl rfl)
theorem dX4_copyOf_79 : decode cX4_copyOf 79 = .ok (.bipush (-12), 2) := dk_16 244 (dk_at dksX4_copyOf_3 7 rfl rfl)
theorem dX4_copyOf_81 : decode cX4_copyOf 81 = .ok (.ireturn, 1) := dk_172 (dk_at dksX4_copyOf_3 9 rfl rfl)
abbrev cX4_ofPoints : ByteArray := prog_17_method_38_code
def yX4_ofPoints : MethodName := ⟨RX4, "ofPoints", "(II)I"⟩
def dkwX4_ofPoints_5 : List UInt8 := [132, 4, 1, 167, 255, 141, 29, 172]
abbrev dktX4_ofPoints_5 : List UInt8 := dkwX4_ofPoints_5 ++ []
def dkwX4_ofPoints_4 : List UInt8 := [21, 6, 167, 0, 19, 3, 167, 0, 15, 21, 6, 156, 0, 9, 21, 6, 116, 167, 0, 4, 3, 96, 62]
abbrev dktX4_ofPoints_4 : List UInt8 := dkwX4_ofPoints_4 ++ dktX4_ofPoints_5
def dkwX4_ofPoints_3 : List UInt8 := [167, 0, 44, 28, 5, 160, 0, 8, 21, 5, 167, 0, 34, 28, 6, 160, 0, 17, 21, 6, 158, 0, 8]
abbrev dktX4_ofPoints_3 : List UInt8 := dkwX4_ofPoints_3 ++ dktX4_ofPoints_4
def dkwX4_ofPoints_2 : List UInt8 := [28, 154, 0, 7, 4, 167, 0, 62, 28, 4, 160, 0, 16, 21, 6, 154, 0, 7, 4, 167, 0, 48, 3]
abbrev dktX4_ofPoints_2 : List UInt8 := dkwX4_ofPoints_2 ++ dktX4_ofPoints_3
def dkwX4_ofPoints_1 : List UInt8 := [21, 4, 96, 46, 54, 5, 21, 5, 42, 27, 21, 4, 182, 0, 102, 100, 54, 6, 21, 5, 155, 0, 73, 29]
abbrev dktX4_ofPoints_1 : List UInt8 := dkwX4_ofPoints_1 ++ dktX4_ofPoints_2
def dkwX4_ofPoints_0 : List UInt8 := [3, 62, 3, 54, 4, 21, 4, 16, 10, 162, 0, 114, 42, 180, 0, 7, 17, 0, 229, 16, 10, 27, 104, 96]
abbrev dktX4_ofPoints_0 : List UInt8 := dkwX4_ofPoints_0 ++ dktX4_ofPoints_1
theorem dksX4_ofPoints_0 : cX4_ofPoints.data.toList.drop 0 = dktX4_ofPoints_0 := by decide +kernel
theorem dksX4_ofPoints_1 : cX4_ofPoints.data.toList.drop 24 = dktX4_ofPoints_1 := dk_seg dksX4_ofPoints_0 24 rfl rfl
theorem dksX4_ofPoints_2 : cX4_ofPoints.data.toList.drop 48 = dktX4_ofPoints_2 := dk_seg dksX4_ofPoints_1 24 rfl rfl
theorem dksX4_ofPoints_3 : cX4_ofPoints.data.toList.drop 71 = dktX4_ofPoints_3 := dk_seg dksX4_ofPoints_2 23 rfl rfl
theorem dksX4_ofPoints_4 : cX4_ofPoints.data.toList.drop 94 = dktX4_ofPoints_4 := dk_seg dksX4_ofPoints_3 23 rfl rfl
theorem dksX4_ofPoints_5 : cX4_ofPoints.data.toList.drop 117 = dktX4_ofPoints_5 := dk_seg dksX4_ofPoints_4 23 rfl rfl
theorem dX4_ofPoints_0 : decode cX4_ofPoints 0 = .ok (.iconst 0, 1) := dk_3 (dk_at dksX4_ofPoints_0 0 rfl rfl)
theorem dX4_ofPoints_1 : decode cX4_ofPoints 1 = .ok (.istore_n 3, 1) := dk_62 (dk_at dksX4_ofPoints_0 1 rfl rfl)
theorem dX4_ofPoints_2 : decode cX4_ofPoints 2 = .ok (.iconst 0, 1) := dk_3 (dk_at dksX4_ofPoints_0 2 rfl rfl)
theorem dX4_ofPoints_3 : decode cX4_ofPoints 3 = .ok (.istore 4, 2) := dk_54 4 (dk_at dksX4_ofPoints_0 3 rfl rfl)
theorem dX4_ofPoints_5 : decode cX4_ofPoints 5 = .ok (.iload 4, 2) := dk_21 4 (dk_at dksX4_ofPoints_0 5 rfl rfl)
theorem dX4_ofPoints_7 : decode cX4_ofPoints 7 = .ok (.bipush 10, 2) := dk_16 10 (dk_at dksX4_ofPoints_0 7 rfl rfl)
theorem dX4_ofPoints_9 : decode cX4_ofPoints 9 = .ok (.if_icmp .ge 114, 3) := dk_162 0 114 (dk_at dksX4_ofPoints_0 9 rfl rfl)
theorem dX4_ofPoints_12 : decode cX4_ofPoints 12 = .ok (.aload_n 0, 1) := dk_42 (dk_at dksX4_ofPoints_0 12 rfl rfl)
theorem dX4_ofPoints_13 : decode cX4_ofPoints 13 = .ok (.getfield 7, 3) := dk_180 0 7 (dk_at dksX4_ofPoints_0 13 rfl rfl)
theorem dX4_ofPoints_16 : decode cX4_ofPoints 16 = .ok (.sipush 229, 3) := dk_17 0 229 (dk_at dksX4_ofPoints_0 16 rfl rfl)
theorem dX4_ofPoints_19 : decode cX4_ofPoints 19 = .ok (.bipush 10, 2) := dk_16 10 (dk_at dksX4_ofPoints_0 19 rfl rfl)
theorem dX4_ofPoints_21 : decode cX4_ofPoints 21 = .ok (.iload_n 1, 1) := dk_27 (dk_at dksX4_ofPoints_0 21 rfl rfl)
theorem dX4_ofPoints_22 : decode cX4_ofPoints 22 = .ok (.imul, 1) := dk_104 (dk_at dksX4_ofPoints_0 22 rfl rfl)
theorem dX4_ofPoints_23 : decode cX4_ofPoints 23 = .ok (.iadd, 1) := dk_96 (dk_at dksX4_ofPoints_0 23 rfl rfl)
theorem dX4_ofPoints_24 : decode cX4_ofPoints 24 = .ok (.iload 4, 2) := dk_21 4 (dk_at dksX4_ofPoints_1 0 rfl rfl)
theorem dX4_ofPoints_26 : decode cX4_ofPoints 26 = .ok (.iadd, 1) := dk_96 (dk_at dksX4_ofPoints_1 2 rfl rfl)
theorem dX4_ofPoints_27 : decode cX4_ofPoints 27 = .ok (.iaload, 1) := dk_46 (dk_at dksX4_ofPoints_1 3 rfl rfl)
theorem dX4_ofPoints_28 : decode cX4_ofPoints 28 = .ok (.istore 5, 2) := dk_54 5 (dk_at dksX4_ofPoints_1 4 rfl rfl)
theorem dX4_ofPoints_30 : decode cX4_ofPoints 30 = .ok (.iload 5, 2) := dk_21 5 (dk_at dksX4_ofPoints_1 6 rfl rfl)
theorem dX4_ofPoints_32 : decode cX4_ofPoints 32 = .ok (.aload_n 0, 1) := dk_42 (dk_at dksX4_ofPoints_1 8 rfl rfl)
theorem dX4_ofPoints_33 : decode cX4_ofPoints 33 = .ok (.iload_n 1, 1) := dk_27 (dk_at dksX4_ofPoints_1 9 rfl rfl)
theorem dX4_ofPoints_34 : decode cX4_ofPoints 34 = .ok (.iload 4, 2) := dk_21 4 (dk_at dksX4_ofPoints_1 10 rfl rfl)
theorem dX4_ofPoints_36 : decode cX4_ofPoints 36 = .ok (.invokevirtual 102, 3) := dk_182 0 102 (dk_at dksX4_ofPoints_1 12 rfl rfl)
theorem dX4_ofPoints_39 : decode cX4_ofPoints 39 = .ok (.isub, 1) := dk_100 (dk_at dksX4_ofPoints_1 15 rfl rfl)
theorem dX4_ofPoints_40 : decode cX4_ofPoints 40 = .ok (.istore 6, 2) := dk_54 6 (dk_at dksX4_ofPoints_1 16 rfl rfl)
theorem dX4_ofPoints_42 : decode cX4_ofPoints 42 = .ok (.iload 5, 2) := dk_21 5 (dk_at dksX4_ofPoints_1 18 rfl rfl)
theorem dX4_ofPoints_44 : decode cX4_ofPoints 44 = .ok (.ifCond .lt 73, 3) := dk_155 0 73 (dk_at dksX4_ofPoints_1 20 rfl rfl)
theorem dX4_ofPoints_47 : decode cX4_ofPoints 47 = .ok (.iload_n 3, 1) := dk_29 (dk_at dksX4_ofPoints_1 23 rfl rfl)
theorem dX4_ofPoints_48 : decode cX4_ofPoints 48 = .ok (.iload_n 2, 1) := dk_28 (dk_at dksX4_ofPoints_2 0 rfl rfl)
theorem dX4_ofPoints_49 : decode cX4_ofPoints 49 = .ok (.ifCond .ne 7, 3) := dk_154 0 7 (dk_at dksX4_ofPoints_2 1 rfl rfl)
theorem dX4_ofPoints_52 : decode cX4_ofPoints 52 = .ok (.iconst 1, 1) := dk_4 (dk_at dksX4_ofPoints_2 4 rfl rfl)
theorem dX4_ofPoints_53 : decode cX4_ofPoints 53 = .ok (.goto 62, 3) := dk_167 0 62 (dk_at dksX4_ofPoints_2 5 rfl rfl)
theorem dX4_ofPoints_56 : decode cX4_ofPoints 56 = .ok (.iload_n 2, 1) := dk_28 (dk_at dksX4_ofPoints_2 8 rfl rfl)
theorem dX4_ofPoints_57 : decode cX4_ofPoints 57 = .ok (.iconst 1, 1) := dk_4 (dk_at dksX4_ofPoints_2 9 rfl rfl)
theorem dX4_ofPoints_58 : decode cX4_ofPoints 58 = .ok (.if_icmp .ne 16, 3) := dk_160 0 16 (dk_at dksX4_ofPoints_2 10 rfl rfl)
theorem dX4_ofPoints_61 : decode cX4_ofPoints 61 = .ok (.iload 6, 2) := dk_21 6 (dk_at dksX4_ofPoints_2 13 rfl rfl)
theorem dX4_ofPoints_63 : decode cX4_ofPoints 63 = .ok (.ifCond .ne 7, 3) := dk_154 0 7 (dk_at dksX4_ofPoints_2 15 rfl rfl)
theorem dX4_ofPoints_66 : decode cX4_ofPoints 66 = .ok (.iconst 1, 1) := dk_4 (dk_at dksX4_ofPoints_2 18 rfl rfl)
theorem dX4_ofPoints_67 : decode cX4_ofPoints 67 = .ok (.goto 48, 3) := dk_167 0 48 (dk_at dksX4_ofPoints_2 19 rfl rfl)
theorem dX4_ofPoints_70 : decode cX4_ofPoints 70 = .ok (.iconst 0, 1) := dk_3 (dk_at dksX4_ofPoints_2 22 rfl rfl)
theorem dX4_ofPoints_71 : decode cX4_ofPoints 71 = .ok (.goto 44, 3) := dk_167 0 44 (dk_at dksX4_ofPoints_3 0 rfl rfl)
theorem dX4_ofPoints_74 : decode cX4_ofPoints 74 = .ok (.iload_n 2, 1) := dk_28 (dk_at dksX4_ofPoints_3 3 rfl rfl)
theorem dX4_ofPoints_75 : decode cX4_ofPoints 75 = .ok (.iconst 2, 1) := dk_5 (dk_at dksX4_ofPoints_3 4 rfl rfl)
theorem dX4_ofPoints_76 : decode cX4_ofPoints 76 = .ok (.if_icmp .ne 8, 3) := dk_160 0 8 (dk_at dksX4_ofPoints_3 5 rfl rfl)
theorem dX4_ofPoints_79 : decode cX4_ofPoints 79 = .ok (.iload 5, 2) := dk_21 5 (dk_at dksX4_ofPoints_3 8 rfl rfl)
theorem dX4_ofPoints_81 : decode cX4_ofPoints 81 = .ok (.goto 34, 3) := dk_167 0 34 (dk_at dksX4_ofPoints_3 10 rfl rfl)
theorem dX4_ofPoints_84 : decode cX4_ofPoints 84 = .ok (.iload_n 2, 1) := dk_28 (dk_at dksX4_ofPoints_3 13 rfl rfl)
theorem dX4_ofPoints_85 : decode cX4_ofPoints 85 = .ok (.iconst 3, 1) := dk_6 (dk_at dksX4_ofPoints_3 14 rfl rfl)
theorem dX4_ofPoints_86 : decode cX4_ofPoints 86 = .ok (.if_icmp .ne 17, 3) := dk_160 0 17 (dk_at dksX4_ofPoints_3 15 rfl rfl)
theorem dX4_ofPoints_89 : decode cX4_ofPoints 89 = .ok (.iload 6, 2) := dk_21 6 (dk_at dksX4_ofPoints_3 18 rfl rfl)
theorem dX4_ofPoints_91 : decode cX4_ofPoints 91 = .ok (.ifCond .le 8, 3) := dk_158 0 8 (dk_at dksX4_ofPoints_3 20 rfl rfl)
theorem dX4_ofPoints_94 : decode cX4_ofPoints 94 = .ok (.iload 6, 2) := dk_21 6 (dk_at dksX4_ofPoints_4 0 rfl rfl)
theorem dX4_ofPoints_96 : decode cX4_ofPoints 96 = .ok (.goto 19, 3) := dk_167 0 19 (dk_at dksX4_ofPoints_4 2 rfl rfl)
theorem dX4_ofPoints_99 : decode cX4_ofPoints 99 = .ok (.iconst 0, 1) := dk_3 (dk_at dksX4_ofPoints_4 5 rfl rfl)
theorem dX4_ofPoints_100 : decode cX4_ofPoints 100 = .ok (.goto 15, 3) := dk_167 0 15 (dk_at dksX4_ofPoints_4 6 rfl rfl)
theorem dX4_ofPoints_103 : decode cX4_ofPoints 103 = .ok (.iload 6, 2) := dk_21 6 (dk_at dksX4_ofPoints_4 9 rfl rfl)
theorem dX4_ofPoints_105 : decode cX4_ofPoints 105 = .ok (.ifCond .ge 9, 3) := dk_156 0 9 (dk_at dksX4_ofPoints_4 11 rfl rfl)
theorem dX4_ofPoints_108 : decode cX4_ofPoints 108 = .ok (.iload 6, 2) := dk_21 6 (dk_at dksX4_ofPoints_4 14 rfl rfl)
theorem dX4_ofPoints_110 : decode cX4_ofPoints 110 = .ok (.ineg, 1) := dk_116 (dk_at dksX4_ofPoints_4 16 rfl rfl)
theorem dX4_ofPoints_111 : decode cX4_ofPoints 111 = .ok (.goto 4, 3) := dk_167 0 4 (dk_at dksX4_ofPoints_4 17 rfl rfl)
theorem dX4_ofPoints_114 : decode cX4_ofPoints 114 = .ok (.iconst 0, 1) := dk_3 (dk_at dksX4_ofPoints_4 20 rfl rfl)
theorem dX4_ofPoints_115 : decode cX4_ofPoints 115 = .ok (.iadd, 1) := dk_96 (dk_at dksX4_ofPoints_4 21 rfl rfl)
theorem dX4_ofPoints_116 : decode cX4_ofPoints 116 = .ok (.istore_n 3, 1) := dk_62 (dk_at dksX4_ofPoints_4 22 rfl rfl)
theorem dX4_ofPoints_117 : decode cX4_ofPoints 117 = .ok (.iinc 4 1, 3) := dk_132 4 1 (dk_at dksX4_ofPoints_5 0 rfl rfl)
theorem dX4_ofPoints_120 : decode cX4_ofPoints 120 = .ok (.goto (-115), 3) := dk_167 255 141 (dk_at dksX4_ofPoints_5 3 rfl rfl)
theorem dX4_ofPoints_123 : decode cX4_ofPoints 123 = .ok (.iload_n 3, 1) := dk_29 (dk_at dksX4_ofPoints_5 6 rfl rfl)
theorem dX4_ofPoints_124 : decode cX4_ofPoints 124 = .ok (.ireturn, 1) := dk_172 (dk_at dksX4_ofPoints_5 7 rfl rfl)
abbrev cX4_weightOf : ByteArray := prog_17_method_39_code
def yX4_weightOf : MethodName := ⟨RX4, "weightOf", "(I)I"⟩
def dkwX4_weightOf_0 : List UInt8 := [16, 120, 42, 27, 5, 182, 0, 114, 16, 10, 108, 100, 172]
abbrev dktX4_weightOf_0 : List UInt8 := dkwX4_weightOf_0 ++ []
theorem dksX4_weightOf_0 : cX4_weightOf.data.toList.drop 0 = dktX4_weightOf_0 := by decide +kernel
theorem dX4_weightOf_0 : decode cX4_weightOf 0 = .ok (.bipush 120, 2) := dk_16 120 (dk_at dksX4_weightOf_0 0 rfl rfl)
theorem dX4_weightOf_2 : decode cX4_weightOf 2 = .ok (.aload_n 0, 1) := dk_42 (dk_at dksX4_weightOf_0 2 rfl rfl)
theorem dX4_weightOf_3 : decode cX4_weightOf 3 = .ok (.iload_n 1, 1) := dk_27 (dk_at dksX4_weightOf_0 3 rfl rfl)
theorem dX4_weightOf_4 : decode cX4_weightOf 4 = .ok (.iconst 2, 1) := dk_5 (dk_at dksX4_weightOf_0 4 rfl rfl)
theorem dX4_weightOf_5 : decode cX4_weightOf 5 = .ok (.invokevirtual 114, 3) := dk_182 0 114 (dk_at dksX4_weightOf_0 5 rfl rfl)
theorem dX4_weightOf_8 : decode cX4_weightOf 8 = .ok (.bipush 10, 2) := dk_16 10 (dk_at dksX4_weightOf_0 8 rfl rfl)
theorem dX4_weightOf_10 : decode cX4_weightOf 10 = .ok (.idiv, 1) := dk_108 (dk_at dksX4_weightOf_0 10 rfl rfl)
theorem dX4_weightOf_11 : decode cX4_weightOf 11 = .ok (.isub, 1) := dk_100 (dk_at dksX4_weightOf_0 11 rfl rfl)
theorem dX4_weightOf_12 : decode cX4_weightOf 12 = .ok (.ireturn, 1) := dk_172 (dk_at dksX4_weightOf_0 12 rfl rfl)
abbrev cX4_copyDepth : ByteArray := prog_17_method_41_code
def yX4_copyDepth : MethodName := ⟨RX4, "copyDepth", "(II)I"⟩
def dkwX4_copyDepth_1 : List UInt8 := [17, 0, 229, 16, 10, 27, 104, 96, 28, 96, 46, 62, 29, 156, 0, 8, 16, 241, 167, 0, 4, 29, 172]
abbrev dktX4_copyDepth_1 : List UInt8 := dkwX4_copyDepth_1 ++ []
def dkwX4_copyDepth_0 : List UInt8 := [42, 27, 182, 0, 96, 153, 0, 10, 28, 184, 0, 58, 154, 0, 6, 16, 245, 172, 42, 180, 0, 7]
abbrev dktX4_copyDepth_0 : List UInt8 := dkwX4_copyDepth_0 ++ dktX4_copyDepth_1
theorem dksX4_copyDepth_0 : cX4_copyDepth.data.toList.drop 0 = dktX4_copyDepth_0 := by decide +kernel
theorem dksX4_copyDepth_1 : cX4_copyDepth.data.toList.drop 22 = dktX4_copyDepth_1 := dk_seg dksX4_copyDepth_0 22 rfl rfl
theorem dX4_copyDepth_0 : decode cX4_copyDepth 0 = .ok (.aload_n 0, 1) := dk_42 (dk_at dksX4_copyDepth_0 0 rfl rfl)
theorem dX4_copyDepth_1 : decode cX4_copyDepth 1 = .ok (.iload_n 1, 1) := dk_27 (dk_at dksX4_copyDepth_0 1 rfl rfl)
theorem dX4_copyDepth_2 : decode cX4_copyDepth 2 = .ok (.invokevirtual 96, 3) := dk_182 0 96 (dk_at dksX4_copyDepth_0 2 rfl rfl)
theorem dX4_copyDepth_5 : decode cX4_copyDepth 5 = .ok (.ifCond .eq 10, 3) := dk_153 0 10 (dk_at dksX4_copyDepth_0 5 rfl rfl)
theorem dX4_copyDepth_8 : decode cX4_copyDepth 8 = .ok (.iload_n 2, 1) := dk_28 (dk_at dksX4_copyDepth_0 8 rfl rfl)
theorem dX4_copyDepth_9 : decode cX4_copyDepth 9 = .ok (.invokestatic 58, 3) := dk_184 0 58 (dk_at dksX4_copyDepth_0 9 rfl rfl)
theorem dX4_copyDepth_12 : decode cX4_copyDepth 12 = .ok (.ifCond .ne 6, 3) := dk_154 0 6 (dk_at dksX4_copyDepth_0 12 rfl rfl)
theorem dX4_copyDepth_15 : decode cX4_copyDepth 15 = .ok (.bipush (-11), 2) := dk_16 245 (dk_at dksX4_copyDepth_0 15 rfl rfl)
theorem dX4_copyDepth_17 : decode cX4_copyDepth 17 = .ok (.ireturn, 1) := dk_172 (dk_at dksX4_copyDepth_0 17 rfl rfl)
theorem dX4_copyDepth_18 : decode cX4_copyDepth 18 = .ok (.aload_n 0, 1) := dk_42 (dk_at dksX4_copyDepth_0 18 rfl rfl)
theorem dX4_copyDepth_19 : decode cX4_copyDepth 19 = .ok (.getfield 7, 3) := dk_180 0 7 (dk_at dksX4_copyDepth_0 19 rfl rfl)
theorem dX4_copyDepth_22 : decode cX4_copyDepth 22 = .ok (.sipush 229, 3) := dk_17 0 229 (dk_at dksX4_copyDepth_1 0 rfl rfl)
theorem dX4_copyDepth_25 : decode cX4_copyDepth 25 = .ok (.bipush 10, 2) := dk_16 10 (dk_at dksX4_copyDepth_1 3 rfl rfl)
theorem dX4_copyDepth_27 : decode cX4_copyDepth 27 = .ok (.iload_n 1, 1) := dk_27 (dk_at dksX4_copyDepth_1 5 rfl rfl)
theorem dX4_copyDepth_28 : decode cX4_copyDepth 28 = .ok (.imul, 1) := dk_104 (dk_at dksX4_copyDepth_1 6 rfl rfl)
theorem dX4_copyDepth_29 : decode cX4_copyDepth 29 = .ok (.iadd, 1) := dk_96 (dk_at dksX4_copyDepth_1 7 rfl rfl)
theorem dX4_copyDepth_30 : decode cX4_copyDepth 30 = .ok (.iload_n 2, 1) := dk_28 (dk_at dksX4_copyDepth_1 8 rfl rfl)
theorem dX4_copyDepth_31 : decode cX4_copyDepth 31 = .ok (.iadd, 1) := dk_96 (dk_at dksX4_copyDepth_1 9 rfl rfl)
theorem dX4_copyDepth_32 : decode cX4_copyDepth 32 = .ok (.iaload, 1) := dk_46 (dk_at dksX4_copyDepth_1 10 rfl rfl)
theorem dX4_copyDepth_33 : decode cX4_copyDepth 33 = .ok (.istore_n 3, 1) := dk_62 (dk_at dksX4_copyDepth_1 11 rfl rfl)
theorem dX4_copyDepth_34 : decode cX4_copyDepth 34 = .ok (.iload_n 3, 1) := dk_29 (dk_at dksX4_copyDepth_1 12 rfl rfl)
theorem dX4_copyDepth_35 : decode cX4_copyDepth 35 = .ok (.ifCond .ge 8, 3) := dk_156 0 8 (dk_at dksX4_copyDepth_1 13 rfl rfl)
theorem dX4_copyDepth_38 : decode cX4_copyDepth 38 = .ok (.bipush (-15), 2) := dk_16 241 (dk_at dksX4_copyDepth_1 16 rfl rfl)
theorem dX4_copyDepth_40 : decode cX4_copyDepth 40 = .ok (.goto 4, 3) := dk_167 0 4 (dk_at dksX4_copyDepth_1 18 rfl rfl)
theorem dX4_copyDepth_43 : decode cX4_copyDepth 43 = .ok (.iload_n 3, 1) := dk_29 (dk_at dksX4_copyDepth_1 21 rfl rfl)
theorem dX4_copyDepth_44 : decode cX4_copyDepth 44 = .ok (.ireturn, 1) := dk_172 (dk_at dksX4_copyDepth_1 22 rfl rfl)
abbrev cX4_wrong : ByteArray := prog_17_method_42_code
def yX4_wrong : MethodName := ⟨RX4, "wrong", "(I)I"⟩
def dkwX4_wrong_2 : List UInt8 := [167, 0, 14, 21, 4, 42, 27, 29, 182, 0, 102, 184, 0, 108, 96, 61, 132, 3, 1, 167, 255, 207, 28, 172]
abbrev dktX4_wrong_2 : List UInt8 := dkwX4_wrong_2 ++ []
def dkwX4_wrong_1 : List UInt8 := [180, 0, 7, 17, 0, 229, 16, 10, 27, 104, 96, 29, 96, 46, 54, 4, 28, 21, 4, 156, 0, 7, 3]
abbrev dktX4_wrong_1 : List UInt8 := dkwX4_wrong_1 ++ dktX4_wrong_2
def dkwX4_wrong_0 : List UInt8 := [42, 27, 182, 0, 96, 154, 0, 6, 16, 245, 172, 3, 61, 3, 62, 29, 16, 10, 162, 0, 49, 42]
abbrev dktX4_wrong_0 : List UInt8 := dkwX4_wrong_0 ++ dktX4_wrong_1
theorem dksX4_wrong_0 : cX4_wrong.data.toList.drop 0 = dktX4_wrong_0 := by decide +kernel
theorem dksX4_wrong_1 : cX4_wrong.data.toList.drop 22 = dktX4_wrong_1 := dk_seg dksX4_wrong_0 22 rfl rfl
theorem dksX4_wrong_2 : cX4_wrong.data.toList.drop 45 = dktX4_wrong_2 := dk_seg dksX4_wrong_1 23 rfl rfl
theorem dX4_wrong_0 : decode cX4_wrong 0 = .ok (.aload_n 0, 1) := dk_42 (dk_at dksX4_wrong_0 0 rfl rfl)
theorem dX4_wrong_1 : decode cX4_wrong 1 = .ok (.iload_n 1, 1) := dk_27 (dk_at dksX4_wrong_0 1 rfl rfl)
theorem dX4_wrong_2 : decode cX4_wrong 2 = .ok (.invokevirtual 96, 3) := dk_182 0 96 (dk_at dksX4_wrong_0 2 rfl rfl)
theorem dX4_wrong_5 : decode cX4_wrong 5 = .ok (.ifCond .ne 6, 3) := dk_154 0 6 (dk_at dksX4_wrong_0 5 rfl rfl)
theorem dX4_wrong_8 : decode cX4_wrong 8 = .ok (.bipush (-11), 2) := dk_16 245 (dk_at dksX4_wrong_0 8 rfl rfl)
theorem dX4_wrong_10 : decode cX4_wrong 10 = .ok (.ireturn, 1) := dk_172 (dk_at dksX4_wrong_0 10 rfl rfl)
theorem dX4_wrong_11 : decode cX4_wrong 11 = .ok (.iconst 0, 1) := dk_3 (dk_at dksX4_wrong_0 11 rfl rfl)
theorem dX4_wrong_12 : decode cX4_wrong 12 = .ok (.istore_n 2, 1) := dk_61 (dk_at dksX4_wrong_0 12 rfl rfl)
theorem dX4_wrong_13 : decode cX4_wrong 13 = .ok (.iconst 0, 1) := dk_3 (dk_at dksX4_wrong_0 13 rfl rfl)
theorem dX4_wrong_14 : decode cX4_wrong 14 = .ok (.istore_n 3, 1) := dk_62 (dk_at dksX4_wrong_0 14 rfl rfl)
theorem dX4_wrong_15 : decode cX4_wrong 15 = .ok (.iload_n 3, 1) := dk_29 (dk_at dksX4_wrong_0 15 rfl rfl)
theorem dX4_wrong_16 : decode cX4_wrong 16 = .ok (.bipush 10, 2) := dk_16 10 (dk_at dksX4_wrong_0 16 rfl rfl)
theorem dX4_wrong_18 : decode cX4_wrong 18 = .ok (.if_icmp .ge 49, 3) := dk_162 0 49 (dk_at dksX4_wrong_0 18 rfl rfl)
theorem dX4_wrong_21 : decode cX4_wrong 21 = .ok (.aload_n 0, 1) := dk_42 (dk_at dksX4_wrong_0 21 rfl rfl)
theorem dX4_wrong_22 : decode cX4_wrong 22 = .ok (.getfield 7, 3) := dk_180 0 7 (dk_at dksX4_wrong_1 0 rfl rfl)
theorem dX4_wrong_25 : decode cX4_wrong 25 = .ok (.sipush 229, 3) := dk_17 0 229 (dk_at dksX4_wrong_1 3 rfl rfl)
theorem dX4_wrong_28 : decode cX4_wrong 28 = .ok (.bipush 10, 2) := dk_16 10 (dk_at dksX4_wrong_1 6 rfl rfl)
theorem dX4_wrong_30 : decode cX4_wrong 30 = .ok (.iload_n 1, 1) := dk_27 (dk_at dksX4_wrong_1 8 rfl rfl)
theorem dX4_wrong_31 : decode cX4_wrong 31 = .ok (.imul, 1) := dk_104 (dk_at dksX4_wrong_1 9 rfl rfl)
theorem dX4_wrong_32 : decode cX4_wrong 32 = .ok (.iadd, 1) := dk_96 (dk_at dksX4_wrong_1 10 rfl rfl)
theorem dX4_wrong_33 : decode cX4_wrong 33 = .ok (.iload_n 3, 1) := dk_29 (dk_at dksX4_wrong_1 11 rfl rfl)
theorem dX4_wrong_34 : decode cX4_wrong 34 = .ok (.iadd, 1) := dk_96 (dk_at dksX4_wrong_1 12 rfl rfl)
theorem dX4_wrong_35 : decode cX4_wrong 35 = .ok (.iaload, 1) := dk_46 (dk_at dksX4_wrong_1 13 rfl rfl)
theorem dX4_wrong_36 : decode cX4_wrong 36 = .ok (.istore 4, 2) := dk_54 4 (dk_at dksX4_wrong_1 14 rfl rfl)
theorem dX4_wrong_38 : decode cX4_wrong 38 = .ok (.iload_n 2, 1) := dk_28 (dk_at dksX4_wrong_1 16 rfl rfl)
theorem dX4_wrong_39 : decode cX4_wrong 39 = .ok (.iload 4, 2) := dk_21 4 (dk_at dksX4_wrong_1 17 rfl rfl)
theorem dX4_wrong_41 : decode cX4_wrong 41 = .ok (.ifCond .ge 7, 3) := dk_156 0 7 (dk_at dksX4_wrong_1 19 rfl rfl)
theorem dX4_wrong_44 : decode cX4_wrong 44 = .ok (.iconst 0, 1) := dk_3 (dk_at dksX4_wrong_1 22 rfl rfl)
theorem dX4_wrong_45 : decode cX4_wrong 45 = .ok (.goto 14, 3) := dk_167 0 14 (dk_at dksX4_wrong_2 0 rfl rfl)
theorem dX4_wrong_48 : decode cX4_wrong 48 = .ok (.iload 4, 2) := dk_21 4 (dk_at dksX4_wrong_2 3 rfl rfl)
theorem dX4_wrong_50 : decode cX4_wrong 50 = .ok (.aload_n 0, 1) := dk_42 (dk_at dksX4_wrong_2 5 rfl rfl)
theorem dX4_wrong_51 : decode cX4_wrong 51 = .ok (.iload_n 1, 1) := dk_27 (dk_at dksX4_wrong_2 6 rfl rfl)
theorem dX4_wrong_52 : decode cX4_wrong 52 = .ok (.iload_n 3, 1) := dk_29 (dk_at dksX4_wrong_2 7 rfl rfl)
theorem dX4_wrong_53 : decode cX4_wrong 53 = .ok (.invokevirtual 102, 3) := dk_182 0 102 (dk_at dksX4_wrong_2 8 rfl rfl)
theorem dX4_wrong_56 : decode cX4_wrong 56 = .ok (.invokestatic 108, 3) := dk_184 0 108 (dk_at dksX4_wrong_2 11 rfl rfl)
theorem dX4_wrong_59 : decode cX4_wrong 59 = .ok (.iadd, 1) := dk_96 (dk_at dksX4_wrong_2 14 rfl rfl)
theorem dX4_wrong_60 : decode cX4_wrong 60 = .ok (.istore_n 2, 1) := dk_61 (dk_at dksX4_wrong_2 15 rfl rfl)
theorem dX4_wrong_61 : decode cX4_wrong 61 = .ok (.iinc 3 1, 3) := dk_132 3 1 (dk_at dksX4_wrong_2 16 rfl rfl)
theorem dX4_wrong_64 : decode cX4_wrong 64 = .ok (.goto (-49), 3) := dk_167 255 207 (dk_at dksX4_wrong_2 19 rfl rfl)
theorem dX4_wrong_67 : decode cX4_wrong 67 = .ok (.iload_n 2, 1) := dk_28 (dk_at dksX4_wrong_2 22 rfl rfl)
theorem dX4_wrong_68 : decode cX4_wrong 68 = .ok (.ireturn, 1) := dk_172 (dk_at dksX4_wrong_2 23 rfl rfl)
abbrev cX4_wrongAgain : ByteArray := prog_17_method_43_code
def yX4_wrongAgain : MethodName := ⟨RX4, "wrongAgain", "(I)I"⟩
def dkwX4_wrongAgain_1 : List UInt8 := [16, 245, 172]
abbrev dktX4_wrongAgain_1 : List UInt8 := dkwX4_wrongAgain_1 ++ []
def dkwX4_wrongAgain_0 : List UInt8 := [42, 27, 182, 0, 96, 153, 0, 19, 42, 27, 6, 182, 0, 114, 42, 27, 7, 182, 0, 114, 96, 167, 0, 5]
abbrev dktX4_wrongAgain_0 : List UInt8 := dkwX4_wrongAgain_0 ++ dktX4_wrongAgain_1
theorem dksX4_wrongAgain_0 : cX4_wrongAgain.data.toList.drop 0 = dktX4_wrongAgain_0 := by decide +kernel
theorem dksX4_wrongAgain_1 : cX4_wrongAgain.data.toList.drop 24 = dktX4_wrongAgain_1 := dk_seg dksX4_wrongAgain_0 24 rfl rfl
theorem dX4_wrongAgain_0 : decode cX4_wrongAgain 0 = .ok (.aload_n 0, 1) := dk_42 (dk_at dksX4_wrongAgain_0 0 rfl rfl)
theorem dX4_wrongAgain_1 : decode cX4_wrongAgain 1 = .ok (.iload_n 1, 1) := dk_27 (dk_at dksX4_wrongAgain_0 1 rfl rfl)
theorem dX4_wrongAgain_2 : decode cX4_wrongAgain 2 = .ok (.invokevirtual 96, 3) := dk_182 0 96 (dk_at dksX4_wrongAgain_0 2 rfl rfl)
theorem dX4_wrongAgain_5 : decode cX4_wrongAgain 5 = .ok (.ifCond .eq 19, 3) := dk_153 0 19 (dk_at dksX4_wrongAgain_0 5 rfl rfl)
theorem dX4_wrongAgain_8 : decode cX4_wrongAgain 8 = .ok (.aload_n 0, 1) := dk_42 (dk_at dksX4_wrongAgain_0 8 rfl rfl)
theorem dX4_wrongAgain_9 : decode cX4_wrongAgain 9 = .ok (.iload_n 1, 1) := dk_27 (dk_at dksX4_wrongAgain_0 9 rfl rfl)
theorem dX4_wrongAgain_10 : decode cX4_wrongAgain 10 = .ok (.iconst 3, 1) := dk_6 (dk_at dksX4_wrongAgain_0 10 rfl rfl)
theorem dX4_wrongAgain_11 : decode cX4_wrongAgain 11 = .ok (.invokevirtual 114, 3) := dk_182 0 114 (dk_at dksX4_wrongAgain_0 11 rfl rfl)
theorem dX4_wrongAgain_14 : decode cX4_wrongAgain 14 = .ok (.aload_n 0, 1) := dk_42 (dk_at dksX4_wrongAgain_0 14 rfl rfl)
theorem dX4_wrongAgain_15 : decode cX4_wrongAgain 15 = .ok (.iload_n 1, 1) := dk_27 (dk_at dksX4_wrongAgain_0 15 rfl rfl)
theorem dX4_wrongAgain_16 : decode cX4_wrongAgain 16 = .ok (.iconst 4, 1) := dk_7 (dk_at dksX4_wrongAgain_0 16 rfl rfl)
theorem dX4_wrongAgain_17 : decode cX4_wrongAgain 17 = .ok (.invokevirtual 114, 3) := dk_182 0 114 (dk_at dksX4_wrongAgain_0 17 rfl rfl)
theorem dX4_wrongAgain_20 : decode cX4_wrongAgain 20 = .ok (.iadd, 1) := dk_96 (dk_at dksX4_wrongAgain_0 20 rfl rfl)
theorem dX4_wrongAgain_21 : decode cX4_wrongAgain 21 = .ok (.goto 5, 3) := dk_167 0 5 (dk_at dksX4_wrongAgain_0 21 rfl rfl)
theorem dX4_wrongAgain_24 : decode cX4_wrongAgain 24 = .ok (.bipush (-11), 2) := dk_16 245 (dk_at dksX4_wrongAgain_1 0 rfl rfl)
theorem dX4_wrongAgain_26 : decode cX4_wrongAgain 26 = .ok (.ireturn, 1) := dk_172 (dk_at dksX4_wrongAgain_1 2 rfl rfl)
abbrev cX4_down : ByteArray := prog_17_method_45_code
def yX4_down : MethodName := ⟨RX4, "down", "(I)I"⟩
def dkwX4_down_0 : List UInt8 := [42, 182, 0, 68, 42, 42, 27, 182, 0, 120, 182, 0, 77, 172]
abbrev dktX4_down_0 : List UInt8 := dkwX4_down_0 ++ []
theorem dksX4_down_0 : cX4_down.data.toList.drop 0 = dktX4_down_0 := by decide +kernel
theorem dX4_down_0 : decode cX4_down 0 = .ok (.aload_n 0, 1) := dk_42 (dk_at dksX4_down_0 0 rfl rfl)
theorem dX4_down_1 : decode cX4_down 1 = .ok (.invokevirtual 68, 3) := dk_182 0 68 (dk_at dksX4_down_0 1 rfl rfl)
theorem dX4_down_4 : decode cX4_down 4 = .ok (.aload_n 0, 1) := dk_42 (dk_at dksX4_down_0 4 rfl rfl)
theorem dX4_down_5 : decode cX4_down 5 = .ok (.aload_n 0, 1) := dk_42 (dk_at dksX4_down_0 5 rfl rfl)
theorem dX4_down_6 : decode cX4_down 6 = .ok (.iload_n 1, 1) := dk_27 (dk_at dksX4_down_0 6 rfl rfl)
theorem dX4_down_7 : decode cX4_down 7 = .ok (.invokevirtual 120, 3) := dk_182 0 120 (dk_at dksX4_down_0 7 rfl rfl)
theorem dX4_down_10 : decode cX4_down 10 = .ok (.invokevirtual 77, 3) := dk_182 0 77 (dk_at dksX4_down_0 10 rfl rfl)
theorem dX4_down_13 : decode cX4_down 13 = .ok (.ireturn, 1) := dk_172 (dk_at dksX4_down_0 13 rfl rfl)
abbrev cX4_takesDown : ByteArray := prog_17_method_44_code
def yX4_takesDown : MethodName := ⟨RX4, "takesDown", "(I)I"⟩
def dkwX4_takesDown_3 : List UInt8 := [180, 0, 7, 16, 20, 27, 96, 46, 172]
abbrev dktX4_takesDown_3 : List UInt8 := dkwX4_takesDown_3 ++ []
def dkwX4_takesDown_2 : List UInt8 := [42, 16, 12, 42, 180, 0, 7, 5, 46, 182, 0, 65, 172, 42, 180, 0, 7, 16, 14, 27, 96, 4, 79, 42]
abbrev dktX4_takesDown_2 : List UInt8 := dkwX4_takesDown_2 ++ dktX4_takesDown_3
def dkwX4_takesDown_1 : List UInt8 := [42, 180, 0, 7, 16, 14, 27, 96, 46, 182, 0, 65, 172, 42, 180, 0, 7, 5, 46, 16, 7, 161, 0, 16]
abbrev dktX4_takesDown_1 : List UInt8 := dkwX4_takesDown_1 ++ dktX4_takesDown_2
def dkwX4_takesDown_0 : List UInt8 := [27, 184, 0, 50, 154, 0, 6, 16, 245, 172, 42, 180, 0, 7, 16, 14, 27, 96, 46, 153, 0, 18, 42, 5]
abbrev dktX4_takesDown_0 : List UInt8 := dkwX4_takesDown_0 ++ dktX4_takesDown_1
theorem dksX4_takesDown_0 : cX4_takesDown.data.toList.drop 0 = dktX4_takesDown_0 := by decide +kernel
theorem dksX4_takesDown_1 : cX4_takesDown.data.toList.drop 24 = dktX4_takesDown_1 := dk_seg dksX4_takesDown_0 24 rfl rfl
theorem dksX4_takesDown_2 : cX4_takesDown.data.toList.drop 48 = dktX4_takesDown_2 := dk_seg dksX4_takesDown_1 24 rfl rfl
theorem dksX4_takesDown_3 : cX4_takesDown.data.toList.drop 72 = dktX4_takesDown_3 := dk_seg dksX4_takesDown_2 24 rfl rfl
theorem dX4_takesDown_0 : decode cX4_takesDown 0 = .ok (.iload_n 1, 1) := dk_27 (dk_at dksX4_takesDown_0 0 rfl rfl)
theorem dX4_takesDown_1 : decode cX4_takesDown 1 = .ok (.invokestatic 50, 3) := dk_184 0 50 (dk_at dksX4_takesDown_0 1 rfl rfl)
theorem dX4_takesDown_4 : decode cX4_takesDown 4 = .ok (.ifCond .ne 6, 3) := dk_154 0 6 (dk_at dksX4_takesDown_0 4 rfl rfl)
theorem dX4_takesDown_7 : decode cX4_takesDown 7 = .ok (.bipush (-11), 2) := dk_16 245 (dk_at dksX4_takesDown_0 7 rfl rfl)
theorem dX4_takesDown_9 : decode cX4_takesDown 9 = .ok (.ireturn, 1) := dk_172 (dk_at dksX4_takesDown_0 9 rfl rfl)
theorem dX4_takesDown_10 : decode cX4_takesDown 10 = .ok (.aload_n 0, 1) := dk_42 (dk_at dksX4_takesDown_0 10 rfl rfl)
theorem dX4_takesDown_11 : decode cX4_takesDown 11 = .ok (.getfield 7, 3) := dk_180 0 7 (dk_at dksX4_takesDown_0 11 rfl rfl)
theorem dX4_takesDown_14 : decode cX4_takesDown 14 = .ok (.bipush 14, 2) := dk_16 14 (dk_at dksX4_takesDown_0 14 rfl rfl)
theorem dX4_takesDown_16 : decode cX4_takesDown 16 = .ok (.iload_n 1, 1) := dk_27 (dk_at dksX4_takesDown_0 16 rfl rfl)
theorem dX4_takesDown_17 : decode cX4_takesDown 17 = .ok (.iadd, 1) := dk_96 (dk_at dksX4_takesDown_0 17 rfl rfl)
theorem dX4_takesDown_18 : decode cX4_takesDown 18 = .ok (.iaload, 1) := dk_46 (dk_at dksX4_takesDown_0 18 rfl rfl)
theorem dX4_takesDown_19 : decode cX4_takesDown 19 = .ok (.ifCond .eq 18, 3) := dk_153 0 18 (dk_at dksX4_takesDown_0 19 rfl rfl)
theorem dX4_takesDown_22 : decode cX4_takesDown 22 = .ok (.aload_n 0, 1) := dk_42 (dk_at dksX4_takesDown_0 22 rfl rfl)
theorem dX4_takesDown_23 : decode cX4_takesDown 23 = .ok (.iconst 2, 1) := dk_5 (dk_at dksX4_takesDown_0 23 rfl rfl)
theorem dX4_takesDown_24 : decode cX4_takesDown 24 = .ok (.aload_n 0, 1) := dk_42 (dk_at dksX4_takesDown_1 0 rfl rfl)
theorem dX4_takesDown_25 : decode cX4_takesDown 25 = .ok (.getfield 7, 3) := dk_180 0 7 (dk_at dksX4_takesDown_1 1 rfl rfl)
theorem dX4_takesDown_28 : decode cX4_takesDown 28 = .ok (.bipush 14, 2) := dk_16 14 (dk_at dksX4_takesDown_1 4 rfl rfl)
theorem dX4_takesDown_30 : decode cX4_takesDown 30 = .ok (.iload_n 1, 1) := dk_27 (dk_at dksX4_takesDown_1 6 rfl rfl)
theorem dX4_takesDown_31 : decode cX4_takesDown 31 = .ok (.iadd, 1) := dk_96 (dk_at dksX4_takesDown_1 7 rfl rfl)
theorem dX4_takesDown_32 : decode cX4_takesDown 32 = .ok (.iaload, 1) := dk_46 (dk_at dksX4_takesDown_1 8 rfl rfl)
theorem dX4_takesDown_33 : decode cX4_takesDown 33 = .ok (.invokevirtual 65, 3) := dk_182 0 65 (dk_at dksX4_takesDown_1 9 rfl rfl)
theorem dX4_takesDown_36 : decode cX4_takesDown 36 = .ok (.ireturn, 1) := dk_172 (dk_at dksX4_takesDown_1 12 rfl rfl)
theorem dX4_takesDown_37 : decode cX4_takesDown 37 = .ok (.aload_n 0, 1) := dk_42 (dk_at dksX4_takesDown_1 13 rfl rfl)
theorem dX4_takesDown_38 : decode cX4_takesDown 38 = .ok (.getfield 7, 3) := dk_180 0 7 (dk_at dksX4_takesDown_1 14 rfl rfl)
theorem dX4_takesDown_41 : decode cX4_takesDown 41 = .ok (.iconst 2, 1) := dk_5 (dk_at dksX4_takesDown_1 17 rfl rfl)
theorem dX4_takesDown_42 : decode cX4_takesDown 42 = .ok (.iaload, 1) := dk_46 (dk_at dksX4_takesDown_1 18 rfl rfl)
theorem dX4_takesDown_43 : decode cX4_takesDown 43 = .ok (.bipush 7, 2) := dk_16 7 (dk_at dksX4_takesDown_1 19 rfl rfl)
theorem dX4_takesDown_45 : decode cX4_takesDown 45 = .ok (.if_icmp .lt 16, 3) := dk_161 0 16 (dk_at dksX4_takesDown_1 21 rfl rfl)
theorem dX4_takesDown_48 : decode cX4_takesDown 48 = .ok (.aload_n 0, 1) := dk_42 (dk_at dksX4_takesDown_2 0 rfl rfl)
theorem dX4_takesDown_49 : decode cX4_takesDown 49 = .ok (.bipush 12, 2) := dk_16 12 (dk_at dksX4_takesDown_2 1 rfl rfl)
theorem dX4_takesDown_51 : decode cX4_takesDown 51 = .ok (.aload_n 0, 1) := dk_42 (dk_at dksX4_takesDown_2 3 rfl rfl)
theorem dX4_takesDown_52 : decode cX4_takesDown 52 = .ok (.getfield 7, 3) := dk_180 0 7 (dk_at dksX4_takesDown_2 4 rfl rfl)
theorem dX4_takesDown_55 : decode cX4_takesDown 55 = .ok (.iconst 2, 1) := dk_5 (dk_at dksX4_takesDown_2 7 rfl rfl)
theorem dX4_takesDown_56 : decode cX4_takesDown 56 = .ok (.iaload, 1) := dk_46 (dk_at dksX4_takesDown_2 8 rfl rfl)
theorem dX4_takesDown_57 : decode cX4_takesDown 57 = .ok (.invokevirtual 65, 3) := dk_182 0 65 (dk_at dksX4_takesDown_2 9 rfl rfl)
theorem dX4_takesDown_60 : decode cX4_takesDown 60 = .ok (.ireturn, 1) := dk_172 (dk_at dksX4_takesDown_2 12 rfl rfl)
theorem dX4_takesDown_61 : decode cX4_takesDown 61 = .ok (.aload_n 0, 1) := dk_42 (dk_at dksX4_takesDown_2 13 rfl rfl)
theorem dX4_takesDown_62 : decode cX4_takesDown 62 = .ok (.getfield 7, 3) := dk_180 0 7 (dk_at dksX4_takesDown_2 14 rfl rfl)
theorem dX4_takesDown_65 : decode cX4_takesDown 65 = .ok (.bipush 14, 2) := dk_16 14 (dk_at dksX4_takesDown_2 17 rfl rfl)
theorem dX4_takesDown_67 : decode cX4_takesDown 67 = .ok (.iload_n 1, 1) := dk_27 (dk_at dksX4_takesDown_2 19 rfl rfl)
theorem dX4_takesDown_68 : decode cX4_takesDown 68 = .ok (.iadd, 1) := dk_96 (dk_at dksX4_takesDown_2 20 rfl rfl)
theorem dX4_takesDown_69 : decode cX4_takesDown 69 = .ok (.iconst 1, 1) := dk_4 (dk_at dksX4_takesDown_2 21 rfl rfl)
theorem dX4_takesDown_70 : decode cX4_takesDown 70 = .ok (.iastore, 1) := dk_79 (dk_at dksX4_takesDown_2 22 rfl rfl)
theorem dX4_takesDown_71 : decode cX4_takesDown 71 = .ok (.aload_n 0, 1) := dk_42 (dk_at dksX4_takesDown_2 23 rfl rfl)
theorem dX4_takesDown_72 : decode cX4_takesDown 72 = .ok (.getfield 7, 3) := dk_180 0 7 (dk_at dksX4_takesDown_3 0 rfl rfl)
theorem dX4_takesDown_75 : decode cX4_takesDown 75 = .ok (.bipush 20, 2) := dk_16 20 (dk_at dksX4_takesDown_3 3 rfl rfl)
theorem dX4_takesDown_77 : decode cX4_takesDown 77 = .ok (.iload_n 1, 1) := dk_27 (dk_at dksX4_takesDown_3 5 rfl rfl)
theorem dX4_takesDown_78 : decode cX4_takesDown 78 = .ok (.iadd, 1) := dk_96 (dk_at dksX4_takesDown_3 6 rfl rfl)
theorem dX4_takesDown_79 : decode cX4_takesDown 79 = .ok (.iaload, 1) := dk_46 (dk_at dksX4_takesDown_3 7 rfl rfl)
theorem dX4_takesDown_80 : decode cX4_takesDown 80 = .ok (.ireturn, 1) := dk_172 (dk_at dksX4_takesDown_3 8 rfl rfl)
abbrev cX4_lift : ByteArray := prog_17_method_48_code
def yX4_lift : MethodName := ⟨RX4, "lift", "(I)I"⟩
def dkwX4_lift_0 : List UInt8 := [42, 182, 0, 68, 42, 42, 27, 182, 0, 126, 182, 0, 77, 172]
abbrev dktX4_lift_0 : List UInt8 := dkwX4_lift_0 ++ []
theorem dksX4_lift_0 : cX4_lift.data.toList.drop 0 = dktX4_lift_0 := by decide +kernel
theorem dX4_lift_0 : decode cX4_lift 0 = .ok (.aload_n 0, 1) := dk_42 (dk_at dksX4_lift_0 0 rfl rfl)
theorem dX4_lift_1 : decode cX4_lift 1 = .ok (.invokevirtual 68, 3) := dk_182 0 68 (dk_at dksX4_lift_0 1 rfl rfl)
theorem dX4_lift_4 : decode cX4_lift 4 = .ok (.aload_n 0, 1) := dk_42 (dk_at dksX4_lift_0 4 rfl rfl)
theorem dX4_lift_5 : decode cX4_lift 5 = .ok (.aload_n 0, 1) := dk_42 (dk_at dksX4_lift_0 5 rfl rfl)
theorem dX4_lift_6 : decode cX4_lift 6 = .ok (.iload_n 1, 1) := dk_27 (dk_at dksX4_lift_0 6 rfl rfl)
theorem dX4_lift_7 : decode cX4_lift 7 = .ok (.invokevirtual 126, 3) := dk_182 0 126 (dk_at dksX4_lift_0 7 rfl rfl)
theorem dX4_lift_10 : decode cX4_lift 10 = .ok (.invokevirtual 77, 3) := dk_182 0 77 (dk_at dksX4_lift_0 10 rfl rfl)
theorem dX4_lift_13 : decode cX4_lift 13 = .ok (.ireturn, 1) := dk_172 (dk_at dksX4_lift_0 13 rfl rfl)
abbrev cX4_lifts : ByteArray := prog_17_method_47_code
def yX4_lifts : MethodName := ⟨RX4, "lifts", "(I)I"⟩
def dkwX4_lifts_9 : List UInt8 := [172]
abbrev dktX4_lifts_9 : List UInt8 := dkwX4_lifts_9 ++ []
def dkwX4_lifts_8 : List UInt8 := [42, 180, 0, 7, 7, 92, 46, 21, 4, 96, 79, 42, 180, 0, 7, 8, 92, 46, 21, 4, 96, 79, 21, 4]
abbrev dktX4_lifts_8 : List UInt8 := dkwX4_lifts_8 ++ dktX4_lifts_9
def dkwX4_lifts_7 : List UInt8 := [27, 96, 4, 79, 42, 180, 0, 7, 16, 14, 28, 96, 5, 79, 42, 180, 0, 7, 16, 44, 28, 96, 27, 79]
abbrev dktX4_lifts_7 : List UInt8 := dkwX4_lifts_7 ++ dktX4_lifts_8
def dkwX4_lifts_6 : List UInt8 := [182, 0, 65, 172, 16, 10, 5, 42, 27, 4, 182, 0, 114, 104, 96, 54, 4, 42, 180, 0, 7, 17, 0, 221]
abbrev dktX4_lifts_6 : List UInt8 := dkwX4_lifts_6 ++ dktX4_lifts_7
def dkwX4_lifts_5 : List UInt8 := [182, 0, 117, 16, 120, 100, 6, 28, 184, 0, 54, 104, 5, 108, 96, 62, 29, 158, 0, 11, 42, 16, 13, 29]
abbrev dktX4_lifts_5 : List UInt8 := dkwX4_lifts_5 ++ dktX4_lifts_6
def dkwX4_lifts_4 : List UInt8 := [5, 46, 16, 7, 161, 0, 16, 42, 16, 12, 42, 180, 0, 7, 5, 46, 182, 0, 65, 172, 42, 27]
abbrev dktX4_lifts_4 : List UInt8 := dkwX4_lifts_4 ++ dktX4_lifts_5
def dkwX4_lifts_3 : List UInt8 := [4, 159, 0, 19, 42, 16, 11, 42, 180, 0, 7, 16, 14, 28, 96, 46, 182, 0, 65, 172, 42, 180, 0, 7]
abbrev dktX4_lifts_3 : List UInt8 := dkwX4_lifts_3 ++ dktX4_lifts_4
def dkwX4_lifts_2 : List UInt8 := [162, 0, 15, 42, 16, 10, 42, 27, 182, 0, 123, 182, 0, 65, 172, 42, 180, 0, 7, 16, 14, 28, 96, 46]
abbrev dktX4_lifts_2 : List UInt8 := dkwX4_lifts_2 ++ dktX4_lifts_3
def dkwX4_lifts_1 : List UInt8 := [27, 96, 46, 4, 160, 0, 11, 42, 16, 9, 28, 182, 0, 65, 172, 42, 27, 182, 0, 123, 16, 10]
abbrev dktX4_lifts_1 : List UInt8 := dkwX4_lifts_1 ++ dktX4_lifts_2
def dkwX4_lifts_0 : List UInt8 := [42, 27, 182, 0, 96, 154, 0, 6, 16, 245, 172, 42, 27, 182, 0, 99, 61, 42, 180, 0, 7, 17, 0, 221]
abbrev dktX4_lifts_0 : List UInt8 := dkwX4_lifts_0 ++ dktX4_lifts_1
theorem dksX4_lifts_0 : cX4_lifts.data.toList.drop 0 = dktX4_lifts_0 := by decide +kernel
theorem dksX4_lifts_1 : cX4_lifts.data.toList.drop 24 = dktX4_lifts_1 := dk_seg dksX4_lifts_0 24 rfl rfl
theorem dksX4_lifts_2 : cX4_lifts.data.toList.drop 46 = dktX4_lifts_2 := dk_seg dksX4_lifts_1 22 rfl rfl
theorem dksX4_lifts_3 : cX4_lifts.data.toList.drop 70 = dktX4_lifts_3 := dk_seg dksX4_lifts_2 24 rfl rfl
theorem dksX4_lifts_4 : cX4_lifts.data.toList.drop 94 = dktX4_lifts_4 := dk_seg dksX4_lifts_3 24 rfl rfl
theorem dksX4_lifts_5 : cX4_lifts.data.toList.drop 116 = dktX4_lifts_5 := dk_seg dksX4_lifts_4 22 rfl rfl
theorem dksX4_lifts_6 : cX4_lifts.data.toList.drop 140 = dktX4_lifts_6 := dk_seg dksX4_lifts_5 24 rfl rfl
theorem dksX4_lifts_7 : cX4_lifts.data.toList.drop 164 = dktX4_lifts_7 := dk_seg dksX4_lifts_6 24 rfl rfl
theorem dksX4_lifts_8 : cX4_lifts.data.toList.drop 188 = dktX4_lifts_8 := dk_seg dksX4_lifts_7 24 rfl rfl
theorem dksX4_lifts_9 : cX4_lifts.data.toList.drop 212 = dktX4_lifts_9 := dk_seg dksX4_lifts_8 24 rfl rfl
theorem dX4_lifts_0 : decode cX4_lifts 0 = .ok (.aload_n 0, 1) := dk_42 (dk_at dksX4_lifts_0 0 rfl rfl)
theorem dX4_lifts_1 : decode cX4_lifts 1 = .ok (.iload_n 1, 1) := dk_27 (dk_at dksX4_lifts_0 1 rfl rfl)
theorem dX4_lifts_2 : decode cX4_lifts 2 = .ok (.invokevirtual 96, 3) := dk_182 0 96 (dk_at dksX4_lifts_0 2 rfl rfl)
theorem dX4_lifts_5 : decode cX4_lifts 5 = .ok (.ifCond .ne 6, 3) := dk_154 0 6 (dk_at dksX4_lifts_0 5 rfl rfl)
theorem dX4_lifts_8 : decode cX4_lifts 8 = .ok (.bipush (-11), 2) := dk_16 245 (dk_at dksX4_lifts_0 8 rfl rfl)
theorem dX4_lifts_10 : decode cX4_lifts 10 = .ok (.ireturn, 1) := dk_172 (dk_at dksX4_lifts_0 10 rfl rfl)
theorem dX4_lifts_11 : decode cX4_lifts 11 = .ok (.aload_n 0, 1) := dk_42 (dk_at dksX4_lifts_0 11 rfl rfl)
theorem dX4_lifts_12 : decode cX4_lifts 12 = .ok (.iload_n 1, 1) := dk_27 (dk_at dksX4_lifts_0 12 rfl rfl)
theorem dX4_lifts_13 : decode cX4_lifts 13 = .ok (.invokevirtual 99, 3) := dk_182 0 99 (dk_at dksX4_lifts_0 13 rfl rfl)
theorem dX4_lifts_16 : decode cX4_lifts 16 = .ok (.istore_n 2, 1) := dk_61 (dk_at dksX4_lifts_0 16 rfl rfl)
theorem dX4_lifts_17 : decode cX4_lifts 17 = .ok (.aload_n 0, 1) := dk_42 (dk_at dksX4_lifts_0 17 rfl rfl)
theorem dX4_lifts_18 : decode cX4_lifts 18 = .ok (.getfield 7, 3) := dk_180 0 7 (dk_at dksX4_lifts_0 18 rfl rfl)
theorem dX4_lifts_21 : decode cX4_lifts 21 = .ok (.sipush 221, 3) := dk_17 0 221 (dk_at dksX4_lifts_0 21 rfl rfl)
theorem dX4_lifts_24 : decode cX4_lifts 24 = .ok (.iload_n 1, 1) := dk_27 (dk_at dksX4_lifts_1 0 rfl rfl)
theorem dX4_lifts_25 : decode cX4_lifts 25 = .ok (.iadd, 1) := dk_96 (dk_at dksX4_lifts_1 1 rfl rfl)
theorem dX4_lifts_26 : decode cX4_lifts 26 = .ok (.iaload, 1) := dk_46 (dk_at dksX4_lifts_1 2 rfl rfl)
theorem dX4_lifts_27 : decode cX4_lifts 27 = .ok (.iconst 1, 1) := dk_4 (dk_at dksX4_lifts_1 3 rfl rfl)
theorem dX4_lifts_28 : decode cX4_lifts 28 = .ok (.if_icmp .ne 11, 3) := dk_160 0 11 (dk_at dksX4_lifts_1 4 rfl rfl)
theorem dX4_lifts_31 : decode cX4_lifts 31 = .ok (.aload_n 0, 1) := dk_42 (dk_at dksX4_lifts_1 7 rfl rfl)
theorem dX4_lifts_32 : decode cX4_lifts 32 = .ok (.bipush 9, 2) := dk_16 9 (dk_at dksX4_lifts_1 8 rfl rfl)
theorem dX4_lifts_34 : decode cX4_lifts 34 = .ok (.iload_n 2, 1) := dk_28 (dk_at dksX4_lifts_1 10 rfl rfl)
theorem dX4_lifts_35 : decode cX4_lifts 35 = .ok (.invokevirtual 65, 3) := dk_182 0 65 (dk_at dksX4_lifts_1 11 rfl rfl)
theorem dX4_lifts_38 : decode cX4_lifts 38 = .ok (.ireturn, 1) := dk_172 (dk_at dksX4_lifts_1 14 rfl rfl)
theorem dX4_lifts_39 : decode cX4_lifts 39 = .ok (.aload_n 0, 1) := dk_42 (dk_at dksX4_lifts_1 15 rfl rfl)
theorem dX4_lifts_40 : decode cX4_lifts 40 = .ok (.iload_n 1, 1) := dk_27 (dk_at dksX4_lifts_1 16 rfl rfl)
theorem dX4_lifts_41 : decode cX4_lifts 41 = .ok (.invokevirtual 123, 3) := dk_182 0 123 (dk_at dksX4_lifts_1 17 rfl rfl)
theorem dX4_lifts_44 : decode cX4_lifts 44 = .ok (.bipush 10, 2) := dk_16 10 (dk_at dksX4_lifts_1 20 rfl rfl)
theorem dX4_lifts_46 : decode cX4_lifts 46 = .ok (.if_icmp .ge 15, 3) := dk_162 0 15 (dk_at dksX4_lifts_2 0 rfl rfl)
theorem dX4_lifts_49 : decode cX4_lifts 49 = .ok (.aload_n 0, 1) := dk_42 (dk_at dksX4_lifts_2 3 rfl rfl)
theorem dX4_lifts_50 : decode cX4_lifts 50 = .ok (.bipush 10, 2) := dk_16 10 (dk_at dksX4_lifts_2 4 rfl rfl)
theorem dX4_lifts_52 : decode cX4_lifts 52 = .ok (.aload_n 0, 1) := dk_42 (dk_at dksX4_lifts_2 6 rfl rfl)
theorem dX4_lifts_53 : decode cX4_lifts 53 = .ok (.iload_n 1, 1) := dk_27 (dk_at dksX4_lifts_2 7 rfl rfl)
theorem dX4_lifts_54 : decode cX4_lifts 54 = .ok (.invokevirtual 123, 3) := dk_182 0 123 (dk_at dksX4_lifts_2 8 rfl rfl)
theorem dX4_lifts_57 : decode cX4_lifts 57 = .ok (.invokevirtual 65, 3) := dk_182 0 65 (dk_at dksX4_lifts_2 11 rfl rfl)
theorem dX4_lifts_60 : decode cX4_lifts 60 = .ok (.ireturn, 1) := dk_172 (dk_at dksX4_lifts_2 14 rfl rfl)
theorem dX4_lifts_61 : decode cX4_lifts 61 = .ok (.aload_n 0, 1) := dk_42 (dk_at dksX4_lifts_2 15 rfl rfl)
theorem dX4_lifts_62 : decode cX4_lifts 62 = .ok (.getfield 7, 3) := dk_180 0 7 (dk_at dksX4_lifts_2 16 rfl rfl)
theorem dX4_lifts_65 : decode cX4_lifts 65 = .ok (.bipush 14, 2) := dk_16 14 (dk_at dksX4_lifts_2 19 rfl rfl)
theorem dX4_lifts_67 : decode cX4_lifts 67 = .ok (.iload_n 2, 1) := dk_28 (dk_at dksX4_lifts_2 21 rfl rfl)
theorem dX4_lifts_68 : decode cX4_lifts 68 = .ok (.iadd, 1) := dk_96 (dk_at dksX4_lifts_2 22 rfl rfl)
theorem dX4_lifts_69 : decode cX4_lifts 69 = .ok (.iaload, 1) := dk_46 (dk_at dksX4_lifts_2 23 rfl rfl)
theorem dX4_lifts_70 : decode cX4_lifts 70 = .ok (.iconst 1, 1) := dk_4 (dk_at dksX4_lifts_3 0 rfl rfl)
theorem dX4_lifts_71 : decode cX4_lifts 71 = .ok (.if_icmp .eq 19, 3) := dk_159 0 19 (dk_at dksX4_lifts_3 1 rfl rfl)
theorem dX4_lifts_74 : decode cX4_lifts 74 = .ok (.aload_n 0, 1) := dk_42 (dk_at dksX4_lifts_3 4 rfl rfl)
theorem dX4_lifts_75 : decode cX4_lifts 75 = .ok (.bipush 11, 2) := dk_16 11 (dk_at dksX4_lifts_3 5 rfl rfl)
theorem dX4_lifts_77 : decode cX4_lifts 77 = .ok (.aload_n 0, 1) := dk_42 (dk_at dksX4_lifts_3 7 rfl rfl)
theorem dX4_lifts_78 : decode cX4_lifts 78 = .ok (.getfield 7, 3) := dk_180 0 7 (dk_at dksX4_lifts_3 8 rfl rfl)
theorem dX4_lifts_81 : decode cX4_lifts 81 = .ok (.bipush 14, 2) := dk_16 14 (dk_at dksX4_lifts_3 11 rfl rfl)
theorem dX4_lifts_83 : decode cX4_lifts 83 = .ok (.iload_n 2, 1) := dk_28 (dk_at dksX4_lifts_3 13 rfl rfl)
theorem dX4_lifts_84 : decode cX4_lifts 84 = .ok (.iadd, 1) := dk_96 (dk_at dksX4_lifts_3 14 rfl rfl)
theorem dX4_lifts_85 : decode cX4_lifts 85 = .ok (.iaload, 1) := dk_46 (dk_at dksX4_lifts_3 15 rfl rfl)
theorem dX4_lifts_86 : decode cX4_lifts 86 = .ok (.invokevirtual 65, 3) := dk_182 0 65 (dk_at dksX4_lifts_3 16 rfl rfl)
theorem dX4_lifts_89 : decode cX4_lifts 89 = .ok (.ireturn, 1) := dk_172 (dk_at dksX4_lifts_3 19 rfl rfl)
theorem dX4_lifts_90 : decode cX4_lifts 90 = .ok (.aload_n 0, 1) := dk_42 (dk_at dksX4_lifts_3 20 rfl rfl)
theorem dX4_lifts_91 : decode cX4_lifts 91 = .ok (.getfield 7, 3) := dk_180 0 7 (dk_at dksX4_lifts_3 21 rfl rfl)
theorem dX4_lifts_94 : decode cX4_lifts 94 = .ok (.iconst 2, 1) := dk_5 (dk_at dksX4_lifts_4 0 rfl rfl)
theorem dX4_lifts_95 : decode cX4_lifts 95 = .ok (.iaload, 1) := dk_46 (dk_at dksX4_lifts_4 1 rfl rfl)
theorem dX4_lifts_96 : decode cX4_lifts 96 = .ok (.bipush 7, 2) := dk_16 7 (dk_at dksX4_lifts_4 2 rfl rfl)
theorem dX4_lifts_98 : decode cX4_lifts 98 = .ok (.if_icmp .lt 16, 3) := dk_161 0 16 (dk_at dksX4_lifts_4 4 rfl rfl)
theorem dX4_lifts_101 : decode cX4_lifts 101 = .ok (.aload_n 0, 1) := dk_42 (dk_at dksX4_lifts_4 7 rfl rfl)
theorem dX4_lifts_102 : decode cX4_lifts 102 = .ok (.bipush 12, 2) := dk_16 12 (dk_at dksX4_lifts_4 8 rfl rfl)
theorem dX4_lifts_104 : decode cX4_lifts 104 = .ok (.aload_n 0, 1) := dk_42 (dk_at dksX4_lifts_4 10 rfl rfl)
theorem dX4_lifts_105 : decode cX4_lifts 105 = .ok (.getfield 7, 3) := dk_180 0 7 (dk_at dksX4_lifts_4 11 rfl rfl)
theorem dX4_lifts_108 : decode cX4_lifts 108 = .ok (.iconst 2, 1) := dk_5 (dk_at dksX4_lifts_4 14 rfl rfl)
theorem dX4_lifts_109 : decode cX4_lifts 109 = .ok (.iaload, 1) := dk_46 (dk_at dksX4_lifts_4 15 rfl rfl)
theorem dX4_lifts_110 : decode cX4_lifts 110 = .ok (.invokevirtual 65, 3) := dk_182 0 65 (dk_at dksX4_lifts_4 16 rfl rfl)
theorem dX4_lifts_113 : decode cX4_lifts 113 = .ok (.ireturn, 1) := dk_172 (dk_at dksX4_lifts_4 19 rfl rfl)
theorem dX4_lifts_114 : decode cX4_lifts 114 = .ok (.aload_n 0, 1) := dk_42 (dk_at dksX4_lifts_4 20 rfl rfl)
theorem dX4_lifts_115 : decode cX4_lifts 115 = .ok (.iload_n 1, 1) := dk_27 (dk_at dksX4_lifts_4 21 rfl rfl)
theorem dX4_lifts_116 : decode cX4_lifts 116 = .ok (.invokevirtual 117, 3) := dk_182 0 117 (dk_at dksX4_lifts_5 0 rfl rfl)
theorem dX4_lifts_119 : decode cX4_lifts 119 = .ok (.bipush 120, 2) := dk_16 120 (dk_at dksX4_lifts_5 3 rfl rfl)
theorem dX4_lifts_121 : decode cX4_lifts 121 = .ok (.isub, 1) := dk_100 (dk_at dksX4_lifts_5 5 rfl rfl)
theorem dX4_lifts_122 : decode cX4_lifts 122 = .ok (.iconst 3, 1) := dk_6 (dk_at dksX4_lifts_5 6 rfl rfl)
theorem dX4_lifts_123 : decode cX4_lifts 123 = .ok (.iload_n 2, 1) := dk_28 (dk_at dksX4_lifts_5 7 rfl rfl)
theorem dX4_lifts_124 : decode cX4_lifts 124 = .ok (.invokestatic 54, 3) := dk_184 0 54 (dk_at dksX4_lifts_5 8 rfl rfl)
theorem dX4_lifts_127 : decode cX4_lifts 127 = .ok (.imul, 1) := dk_104 (dk_at dksX4_lifts_5 11 rfl rfl)
theorem dX4_lifts_128 : decode cX4_lifts 128 = .ok (.iconst 2, 1) := dk_5 (dk_at dksX4_lifts_5 12 rfl rfl)
theorem dX4_lifts_129 : decode cX4_lifts 129 = .ok (.idiv, 1) := dk_108 (dk_at dksX4_lifts_5 13 rfl rfl)
theorem dX4_lifts_130 : decode cX4_lifts 130 = .ok (.iadd, 1) := dk_96 (dk_at dksX4_lifts_5 14 rfl rfl)
theorem dX4_lifts_131 : decode cX4_lifts 131 = .ok (.istore_n 3, 1) := dk_62 (dk_at dksX4_lifts_5 15 rfl rfl)
theorem dX4_lifts_132 : decode cX4_lifts 132 = .ok (.iload_n 3, 1) := dk_29 (dk_at dksX4_lifts_5 16 rfl rfl)
theorem dX4_lifts_133 : decode cX4_lifts 133 = .ok (.ifCond .le 11, 3) := dk_158 0 11 (dk_at dksX4_lifts_5 17 rfl rfl)
theorem dX4_lifts_136 : decode cX4_lifts 136 = .ok (.aload_n 0, 1) := dk_42 (dk_at dksX4_lifts_5 20 rfl rfl)
theorem dX4_lifts_137 : decode cX4_lifts 137 = .ok (.bipush 13, 2) := dk_16 13 (dk_at dksX4_lifts_5 21 rfl rfl)
theorem dX4_lifts_139 : decode cX4_lifts 139 = .ok (.iload_n 3, 1) := dk_29 (dk_at dksX4_lifts_5 23 rfl rfl)
theorem dX4_lifts_140 : decode cX4_lifts 140 = .ok (.invokevirtual 65, 3) := dk_182 0 65 (dk_at dksX4_lifts_6 0 rfl rfl)
theorem dX4_lifts_143 : decode cX4_lifts 143 = .ok (.ireturn, 1) := dk_172 (dk_at dksX4_lifts_6 3 rfl rfl)
theorem dX4_lifts_144 : decode cX4_lifts 144 = .ok (.bipush 10, 2) := dk_16 10 (dk_at dksX4_lifts_6 4 rfl rfl)
theorem dX4_lifts_146 : decode cX4_lifts 146 = .ok (.iconst 2, 1) := dk_5 (dk_at dksX4_lifts_6 6 rfl rfl)
theorem dX4_lifts_147 : decode cX4_lifts 147 = .ok (.aload_n 0, 1) := dk_42 (dk_at dksX4_lifts_6 7 rfl rfl)
theorem dX4_lifts_148 : decode cX4_lifts 148 = .ok (.iload_n 1, 1) := dk_27 (dk_at dksX4_lifts_6 8 rfl rfl)
theorem dX4_lifts_149 : decode cX4_lifts 149 = .ok (.iconst 1, 1) := dk_4 (dk_at dksX4_lifts_6 9 rfl rfl)
theorem dX4_lifts_150 : decode cX4_lifts 150 = .ok (.invokevirtual 114, 3) := dk_182 0 114 (dk_at dksX4_lifts_6 10 rfl rfl)
theorem dX4_lifts_153 : decode cX4_lifts 153 = .ok (.imul, 1) := dk_104 (dk_at dksX4_lifts_6 13 rfl rfl)
theorem dX4_lifts_154 : decode cX4_lifts 154 = .ok (.iadd, 1) := dk_96 (dk_at dksX4_lifts_6 14 rfl rfl)
theorem dX4_lifts_155 : decode cX4_lifts 155 = .ok (.istore 4, 2) := dk_54 4 (dk_at dksX4_lifts_6 15 rfl rfl)
theorem dX4_lifts_157 : decode cX4_lifts 157 = .ok (.aload_n 0, 1) := dk_42 (dk_at dksX4_lifts_6 17 rfl rfl)
theorem dX4_lifts_158 : decode cX4_lifts 158 = .ok (.getfield 7, 3) := dk_180 0 7 (dk_at dksX4_lifts_6 18 rfl rfl)
theorem dX4_lifts_161 : decode cX4_lifts 161 = .ok (.sipush 221, 3) := dk_17 0 221 (dk_at dksX4_lifts_6 21 rfl rfl)
theorem dX4_lifts_164 : decode cX4_lifts 164 = .ok (.iload_n 1, 1) := dk_27 (dk_at dksX4_lifts_7 0 rfl rfl)
theorem dX4_lifts_165 : decode cX4_lifts 165 = .ok (.iadd, 1) := dk_96 (dk_at dksX4_lifts_7 1 rfl rfl)
theorem dX4_lifts_166 : decode cX4_lifts 166 = .ok (.iconst 1, 1) := dk_4 (dk_at dksX4_lifts_7 2 rfl rfl)
theorem dX4_lifts_167 : decode cX4_lifts 167 = .ok (.iastore, 1) := dk_79 (dk_at dksX4_lifts_7 3 rfl rfl)
theorem dX4_lifts_168 : decode cX4_lifts 168 = .ok (.aload_n 0, 1) := dk_42 (dk_at dksX4_lifts_7 4 rfl rfl)
theorem dX4_lifts_169 : decode cX4_lifts 169 = .ok (.getfield 7, 3) := dk_180 0 7 (dk_at dksX4_lifts_7 5 rfl rfl)
theorem dX4_lifts_172 : decode cX4_lifts 172 = .ok (.bipush 14, 2) := dk_16 14 (dk_at dksX4_lifts_7 8 rfl rfl)
theorem dX4_lifts_174 : decode cX4_lifts 174 = .ok (.iload_n 2, 1) := dk_28 (dk_at dksX4_lifts_7 10 rfl rfl)
theorem dX4_lifts_175 : decode cX4_lifts 175 = .ok (.iadd, 1) := dk_96 (dk_at dksX4_lifts_7 11 rfl rfl)
theorem dX4_lifts_176 : decode cX4_lifts 176 = .ok (.iconst 2, 1) := dk_5 (dk_at dksX4_lifts_7 12 rfl rfl)
theorem dX4_lifts_177 : decode cX4_lifts 177 = .ok (.iastore, 1) := dk_79 (dk_at dksX4_lifts_7 13 rfl rfl)
theorem dX4_lifts_178 : decode cX4_lifts 178 = .ok (.aload_n 0, 1) := dk_42 (dk_at dksX4_lifts_7 14 rfl rfl)
theorem dX4_lifts_179 : decode cX4_lifts 179 = .ok (.getfield 7, 3) := dk_180 0 7 (dk_at dksX4_lifts_7 15 rfl rfl)
theorem dX4_lifts_182 : decode cX4_lifts 182 = .ok (.bipush 44, 2) := dk_16 44 (dk_at dksX4_lifts_7 18 rfl rfl)
theorem dX4_lifts_184 : decode cX4_lifts 184 = .ok (.iload_n 2, 1) := dk_28 (dk_at dksX4_lifts_7 20 rfl rfl)
theorem dX4_lifts_185 : decode cX4_lifts 185 = .ok (.iadd, 1) := dk_96 (dk_at dksX4_lifts_7 21 rfl rfl)
theorem dX4_lifts_186 : decode cX4_lifts 186 = .ok (.iload_n 1, 1) := dk_27 (dk_at dksX4_lifts_7 22 rfl rfl)
theorem dX4_lifts_187 : decode cX4_lifts 187 = .ok (.iastore, 1) := dk_79 (dk_at dksX4_lifts_7 23 rfl rfl)
theorem dX4_lifts_188 : decode cX4_lifts 188 = .ok (.aload_n 0, 1) := dk_42 (dk_at dksX4_lifts_8 0 rfl rfl)
theorem dX4_lifts_189 : decode cX4_lifts 189 = .ok (.getfield 7, 3) := dk_180 0 7 (dk_at dksX4_lifts_8 1 rfl rfl)
theorem dX4_lifts_192 : decode cX4_lifts 192 = .ok (.iconst 4, 1) := dk_7 (dk_at dksX4_lifts_8 4 rfl rfl)
theorem dX4_lifts_193 : decode cX4_lifts 193 = .ok (.dup2, 1) := dk_92 (dk_at dksX4_lifts_8 5 rfl rfl)
theorem dX4_lifts_194 : decode cX4_lifts 194 = .ok (.iaload, 1) := dk_46 (dk_at dksX4_lifts_8 6 rfl rfl)
theorem dX4_lifts_195 : decode cX4_lifts 195 = .ok (.iload 4, 2) := dk_21 4 (dk_at dksX4_lifts_8 7 rfl rfl)
theorem dX4_lifts_197 : decode cX4_lifts 197 = .ok (.iadd, 1) := dk_96 (dk_at dksX4_lifts_8 9 rfl rfl)
theorem dX4_lifts_198 : decode cX4_lifts 198 = .ok (.iastore, 1) := dk_79 (dk_at dksX4_lifts_8 10 rfl rfl)
theorem dX4_lifts_199 : decode cX4_lifts 199 = .ok (.aload_n 0, 1) := dk_42 (dk_at dksX4_lifts_8 11 rfl rfl)
theorem dX4_lifts_200 : decode cX4_lifts 200 = .ok (.getfield 7, 3) := dk_180 0 7 (dk_at dksX4_lifts_8 12 rfl rfl)
theorem dX4_lifts_203 : decode cX4_lifts 203 = .ok (.iconst 5, 1) := dk_8 (dk_at dksX4_lifts_8 15 rfl rfl)
theorem dX4_lifts_204 : decode cX4_lifts 204 = .ok (.dup2, 1) := dk_92 (dk_at dksX4_lifts_8 16 rfl rfl)
theorem dX4_lifts_205 : decode cX4_lifts 205 = .ok (.iaload, 1) := dk_46 (dk_at dksX4_lifts_8 17 rfl rfl)
theorem dX4_lifts_206 : decode cX4_lifts 206 = .ok (.iload 4, 2) := dk_21 4 (dk_at dksX4_lifts_8 18 rfl rfl)
theorem dX4_lifts_208 : decode cX4_lifts 208 = .ok (.iadd, 1) := dk_96 (dk_at dksX4_lifts_8 20 rfl rfl)
theorem dX4_lifts_209 : decode cX4_lifts 209 = .ok (.iastore, 1) := dk_79 (dk_at dksX4_lifts_8 21 rfl rfl)
theorem dX4_lifts_210 : decode cX4_lifts 210 = .ok (.iload 4, 2) := dk_21 4 (dk_at dksX4_lifts_8 22 rfl rfl)
theorem dX4_lifts_212 : decode cX4_lifts 212 = .ok (.ireturn, 1) := dk_172 (dk_at dksX4_lifts_9 0 rfl rfl)
abbrev cX4_uncut : ByteArray := prog_17_method_46_code
def yX4_uncut : MethodName := ⟨RX4, "uncut", "(I)I"⟩
def dkwX4_uncut_1 : List UInt8 := [155, 0, 9, 132, 2, 1, 167, 255, 229, 28, 172]
abbrev dktX4_uncut_1 : List UInt8 := dkwX4_uncut_1 ++ []
def dkwX4_uncut_0 : List UInt8 := [3, 61, 28, 16, 10, 162, 0, 27, 42, 180, 0, 7, 17, 0, 229, 16, 10, 27, 104, 96, 28, 96, 46]
abbrev dktX4_uncut_0 : List UInt8 := dkwX4_uncut_0 ++ dktX4_uncut_1
theorem dksX4_uncut_0 : cX4_uncut.data.toList.drop 0 = dktX4_uncut_0 := by decide +kernel
theorem dksX4_uncut_1 : cX4_uncut.data.toList.drop 23 = dktX4_uncut_1 := dk_seg dksX4_uncut_0 23 rfl rfl
theorem dX4_uncut_0 : decode cX4_uncut 0 = .ok (.iconst 0, 1) := dk_3 (dk_at dksX4_uncut_0 0 rfl rfl)
theorem dX4_uncut_1 : decode cX4_uncut 1 = .ok (.istore_n 2, 1) := dk_61 (dk_at dksX4_uncut_0 1 rfl rfl)
theorem dX4_uncut_2 : decode cX4_uncut 2 = .ok (.iload_n 2, 1) := dk_28 (dk_at dksX4_uncut_0 2 rfl rfl)
theorem dX4_uncut_3 : decode cX4_uncut 3 = .ok (.bipush 10, 2) := dk_16 10 (dk_at dksX4_uncut_0 3 rfl rfl)
theorem dX4_uncut_5 : decode cX4_uncut 5 = .ok (.if_icmp .ge 27, 3) := dk_162 0 27 (dk_at dksX4_uncut_0 5 rfl rfl)
theorem dX4_uncut_8 : decode cX4_uncut 8 = .ok (.aload_n 0, 1) := dk_42 (dk_at dksX4_uncut_0 8 rfl rfl)
theorem dX4_uncut_9 : decode cX4_uncut 9 = .ok (.getfield 7, 3) := dk_180 0 7 (dk_at dksX4_uncut_0 9 rfl rfl)
theorem dX4_uncut_12 : decode cX4_uncut 12 = .ok (.sipush 229, 3) := dk_17 0 229 (dk_at dksX4_uncut_0 12 rfl rfl)
theorem dX4_uncut_15 : decode cX4_uncut 15 = .ok (.bipush 10, 2) := dk_16 10 (dk_at dksX4_uncut_0 15 rfl rfl)
theorem dX4_uncut_17 : decode cX4_uncut 17 = .ok (.iload_n 1, 1) := dk_27 (dk_at dksX4_uncut_0 17 rfl rfl)
theorem dX4_uncut_18 : decode cX4_uncut 18 = .ok (.imul, 1) := dk_104 (dk_at dksX4_uncut_0 18 rfl rfl)
theorem dX4_uncut_19 : decode cX4_uncut 19 = .ok (.iadd, 1) := dk_96 (dk_at dksX4_uncut_0 19 rfl rfl)
theorem dX4_uncut_20 : decode cX4_uncut 20 = .ok (.iload_n 2, 1) := dk_28 (dk_at dksX4_uncut_0 20 rfl rfl)
theorem dX4_uncut_21 : decode cX4_uncut 21 = .ok (.iadd, 1) := dk_96 (dk_at dksX4_uncut_0 21 rfl rfl)
theorem dX4_uncut_22 : decode cX4_uncut 22 = .ok (.iaload, 1) := dk_46 (dk_at dksX4_uncut_0 22 rfl rfl)
theorem dX4_uncut_23 : decode cX4_uncut 23 = .ok (.ifCond .lt 9, 3) := dk_155 0 9 (dk_at dksX4_uncut_1 0 rfl rfl)
theorem dX4_uncut_26 : decode cX4_uncut 26 = .ok (.iinc 2 1, 3) := dk_132 2 1 (dk_at dksX4_uncut_1 3 rfl rfl)
theorem dX4_uncut_29 : decode cX4_uncut 29 = .ok (.goto (-27), 3) := dk_167 255 229 (dk_at dksX4_uncut_1 6 rfl rfl)
theorem dX4_uncut_32 : decode cX4_uncut 32 = .ok (.iload_n 2, 1) := dk_28 (dk_at dksX4_uncut_1 9 rfl rfl)
theorem dX4_uncut_33 : decode cX4_uncut 33 = .ok (.ireturn, 1) := dk_172 (dk_at dksX4_uncut_1 10 rfl rfl)
abbrev cX4_drive : ByteArray := prog_17_method_50_code
def yX4_drive : MethodName := ⟨RX4, "drive", "(I)I"⟩
def dkwX4_drive_0 : List UInt8 := [42, 182, 0, 68, 42, 42, 27, 182, 0, 129, 182, 0, 77, 172]
abbrev dktX4_drive_0 : List UInt8 := dkwX4_drive_0 ++ []
theorem dksX4_drive_0 : cX4_drive.data.toList.drop 0 = dktX4_drive_0 := by decide +kernel
theorem dX4_drive_0 : decode cX4_drive 0 = .ok (.aload_n 0, 1) := dk_42 (dk_at dksX4_drive_0 0 rfl rfl)
theorem dX4_drive_1 : decode cX4_drive 1 = .ok (.invokevirtual 68, 3) := dk_182 0 68 (dk_at dksX4_drive_0 1 rfl rfl)
theorem dX4_drive_4 : decode cX4_drive 4 = .ok (.aload_n 0, 1) := dk_42 (dk_at dksX4_drive_0 4 rfl rfl)
theorem dX4_drive_5 : decode cX4_drive 5 = .ok (.aload_n 0, 1) := dk_42 (dk_at dksX4_drive_0 5 rfl rfl)
theorem dX4_drive_6 : decode cX4_drive 6 = .ok (.iload_n 1, 1) := dk_27 (dk_at dksX4_drive_0 6 rfl rfl)
theorem dX4_drive_7 : decode cX4_drive 7 = .ok (.invokevirtual 129, 3) := dk_182 0 129 (dk_at dksX4_drive_0 7 rfl rfl)
theorem dX4_drive_10 : decode cX4_drive 10 = .ok (.invokevirtual 77, 3) := dk_182 0 77 (dk_at dksX4_drive_0 10 rfl rfl)
theorem dX4_drive_13 : decode cX4_drive 13 = .ok (.ireturn, 1) := dk_172 (dk_at dksX4_drive_0 13 rfl rfl)
abbrev cX4_drives : ByteArray := prog_17_method_49_code
def yX4_drives : MethodName := ⟨RX4, "drives", "(I)I"⟩
def dkwX4_drives_1 : List UInt8 := [42, 180, 0, 7, 16, 8, 27, 96, 46, 61, 42, 180, 0, 7, 16, 8, 27, 96, 3, 79, 28, 172]
abbrev dktX4_drives_1 : List UInt8 := dkwX4_drives_1 ++ []
def dkwX4_drives_0 : List UInt8 := [27, 184, 0, 50, 154, 0, 6, 16, 245, 172, 42, 4, 182, 0, 71, 154, 0, 9, 42, 4, 182, 0, 74, 172]
abbrev dktX4_drives_0 : List UInt8 := dkwX4_drives_0 ++ dktX4_drives_1
theorem dksX4_drives_0 : cX4_drives.data.toList.drop 0 = dktX4_drives_0 := by decide +kernel
theorem dksX4_drives_1 : cX4_drives.data.toList.drop 24 = dktX4_drives_1 := dk_seg dksX4_drives_0 24 rfl rfl
theorem dX4_drives_0 : decode cX4_drives 0 = .ok (.iload_n 1, 1) := dk_27 (dk_at dksX4_drives_0 0 rfl rfl)
theorem dX4_drives_1 : decode cX4_drives 1 = .ok (.invokestatic 50, 3) := dk_184 0 50 (dk_at dksX4_drives_0 1 rfl rfl)
theorem dX4_drives_4 : decode cX4_drives 4 = .ok (.ifCond .ne 6, 3) := dk_154 0 6 (dk_at dksX4_drives_0 4 rfl rfl)
theorem dX4_drives_7 : decode cX4_drives 7 = .ok (.bipush (-11), 2) := dk_16 245 (dk_at dksX4_drives_0 7 rfl rfl)
theorem dX4_drives_9 : decode cX4_drives 9 = .ok (.ireturn, 1) := dk_172 (dk_at dksX4_drives_0 9 rfl rfl)
theorem dX4_drives_10 : decode cX4_drives 10 = .ok (.aload_n 0, 1) := dk_42 (dk_at dksX4_drives_0 10 rfl rfl)
theorem dX4_drives_11 : decode cX4_drives 11 = .ok (.iconst 1, 1) := dk_4 (dk_at dksX4_drives_0 11 rfl rfl)
theorem dX4_drives_12 : decode cX4_drives 12 = .ok (.invokevirtual 71, 3) := dk_182 0 71 (dk_at dksX4_drives_0 12 rfl rfl)
theorem dX4_drives_15 : decode cX4_drives 15 = .ok (.ifCond .ne 9, 3) := dk_154 0 9 (dk_at dksX4_drives_0 15 rfl rfl)
theorem dX4_drives_18 : decode cX4_drives 18 = .ok (.aload_n 0, 1) := dk_42 (dk_at dksX4_drives_0 18 rfl rfl)
theorem dX4_drives_19 : decode cX4_drives 19 = .ok (.iconst 1, 1) := dk_4 (dk_at dksX4_drives_0 19 rfl rfl)
theorem dX4_drives_20 : decode cX4_drives 20 = .ok (.invokevirtual 74, 3) := dk_182 0 74 (dk_at dksX4_drives_0 20 rfl rfl)
theorem dX4_drives_23 : decode cX4_drives 23 = .ok (.ireturn, 1) := dk_172 (dk_at dksX4_drives_0 23 rfl rfl)
theorem dX4_drives_24 : decode cX4_drives 24 = .ok (.aload_n 0, 1) := dk_42 (dk_at dksX4_drives_1 0 rfl rfl)
theorem dX4_drives_25 : decode cX4_drives 25 = .ok (.getfield 7, 3) := dk_180 0 7 (dk_at dksX4_drives_1 1 rfl rfl)
theorem dX4_drives_28 : decode cX4_drives 28 = .ok (.bipush 8, 2) := dk_16 8 (dk_at dksX4_drives_1 4 rfl rfl)
theorem dX4_drives_30 : decode cX4_drives 30 = .ok (.iload_n 1, 1) := dk_27 (dk_at dksX4_drives_1 6 rfl rfl)
theorem dX4_drives_31 : decode cX4_drives 31 = .ok (.iadd, 1) := dk_96 (dk_at dksX4_drives_1 7 rfl rfl)
theorem dX4_drives_32 : decode cX4_drives 32 = .ok (.iaload, 1) := dk_46 (dk_at dksX4_drives_1 8 rfl rfl)
theorem dX4_drives_33 : decode cX4_drives 33 = .ok (.istore_n 2, 1) := dk_61 (dk_at dksX4_drives_1 9 rfl rfl)
theorem dX4_drives_34 : decode cX4_drives 34 = .ok (.aload_n 0, 1) := dk_42 (dk_at dksX4_drives_1 10 rfl rfl)
theorem dX4_drives_35 : decode cX4_drives 35 = .ok (.getfield 7, 3) := dk_180 0 7 (dk_at dksX4_drives_1 11 rfl rfl)
theorem dX4_drives_38 : decode cX4_drives 38 = .ok (.bipush 8, 2) := dk_16 8 (dk_at dksX4_drives_1 14 rfl rfl)
theorem dX4_drives_40 : decode cX4_drives 40 = .ok (.iload_n 1, 1) := dk_27 (dk_at dksX4_drives_1 16 rfl rfl)
theorem dX4_drives_41 : decode cX4_drives 41 = .ok (.iadd, 1) := dk_96 (dk_at dksX4_drives_1 17 rfl rfl)
theorem dX4_drives_42 : decode cX4_drives 42 = .ok (.iconst 0, 1) := dk_3 (dk_at dksX4_drives_1 18 rfl rfl)
theorem dX4_drives_43 : decode cX4_drives 43 = .ok (.iastore, 1) := dk_79 (dk_at dksX4_drives_1 19 rfl rfl)
theorem dX4_drives_44 : decode cX4_drives 44 = .ok (.iload_n 2, 1) := dk_28 (dk_at dksX4_drives_1 20 rfl rfl)
theorem dX4_drives_45 : decode cX4_drives 45 = .ok (.ireturn, 1) := dk_172 (dk_at dksX4_drives_1 21 rfl rfl)
abbrev cX4_sky : ByteArray := prog_17_method_52_code
def yX4_sky : MethodName := ⟨RX4, "sky", "(II)I"⟩
def dkwX4_sky_0 : List UInt8 := [42, 182, 0, 68, 42, 42, 27, 28, 182, 0, 132, 182, 0, 77, 172]
abbrev dktX4_sky_0 : List UInt8 := dkwX4_sky_0 ++ []
theorem dksX4_sky_0 : cX4_sky.data.toList.drop 0 = dktX4_sky_0 := by decide +kernel
theorem dX4_sky_0 : decode cX4_sky 0 = .ok (.aload_n 0, 1) := dk_42 (dk_at dksX4_sky_0 0 rfl rfl)
theorem dX4_sky_1 : decode cX4_sky 1 = .ok (.invokevirtual 68, 3) := dk_182 0 68 (dk_at dksX4_sky_0 1 rfl rfl)
theorem dX4_sky_4 : decode cX4_sky 4 = .ok (.aload_n 0, 1) := dk_42 (dk_at dksX4_sky_0 4 rfl rfl)
theorem dX4_sky_5 : decode cX4_sky 5 = .ok (.aload_n 0, 1) := dk_42 (dk_at dksX4_sky_0 5 rfl rfl)
theorem dX4_sky_6 : decode cX4_sky 6 = .ok (.iload_n 1, 1) := dk_27 (dk_at dksX4_sky_0 6 rfl rfl)
theorem dX4_sky_7 : decode cX4_sky 7 = .ok (.iload_n 2, 1) := dk_28 (dk_at dksX4_sky_0 7 rfl rfl)
theorem dX4_sky_8 : decode cX4_sky 8 = .ok (.invokevirtual 132, 3) := dk_182 0 132 (dk_at dksX4_sky_0 8 rfl rfl)
theorem dX4_sky_11 : decode cX4_sky 11 = .ok (.invokevirtual 77, 3) := dk_182 0 77 (dk_at dksX4_sky_0 11 rfl rfl)
theorem dX4_sky_14 : decode cX4_sky 14 = .ok (.ireturn, 1) := dk_172 (dk_at dksX4_sky_0 14 rfl rfl)
abbrev cX4_tells : ByteArray := prog_17_method_51_code
def yX4_tells : MethodName := ⟨RX4, "tells", "(II)I"⟩
def dkwX4_tells_2 : List UInt8 := [42, 180, 0, 7, 5, 28, 79, 29, 172]
abbrev dktX4_tells_2 : List UInt8 := dkwX4_tells_2 ++ []
def dkwX4_tells_1 : List UInt8 := [16, 10, 42, 180, 0, 7, 4, 46, 104, 42, 180, 0, 7, 5, 46, 96, 62, 42, 180, 0, 7, 4, 27, 79]
abbrev dktX4_tells_1 : List UInt8 := dkwX4_tells_1 ++ dktX4_tells_2
def dkwX4_tells_0 : List UInt8 := [27, 3, 16, 9, 184, 0, 46, 153, 0, 13, 28, 3, 16, 9, 184, 0, 46, 154, 0, 6, 16, 244, 172]
abbrev dktX4_tells_0 : List UInt8 := dkwX4_tells_0 ++ dktX4_tells_1
theorem dksX4_tells_0 : cX4_tells.data.toList.drop 0 = dktX4_tells_0 := by decide +kernel
theorem dksX4_tells_1 : cX4_tells.data.toList.drop 23 = dktX4_tells_1 := dk_seg dksX4_tells_0 23 rfl rfl
theorem dksX4_tells_2 : cX4_tells.data.toList.drop 47 = dktX4_tells_2 := dk_seg dksX4_tells_1 24 rfl rfl
theorem dX4_tells_0 : decode cX4_tells 0 = .ok (.iload_n 1, 1) := dk_27 (dk_at dksX4_tells_0 0 rfl rfl)
theorem dX4_tells_1 : decode cX4_tells 1 = .ok (.iconst 0, 1) := dk_3 (dk_at dksX4_tells_0 1 rfl rfl)
theorem dX4_tells_2 : decode cX4_tells 2 = .ok (.bipush 9, 2) := dk_16 9 (dk_at dksX4_tells_0 2 rfl rfl)
theorem dX4_tells_4 : decode cX4_tells 4 = .ok (.invokestatic 46, 3) := dk_184 0 46 (dk_at dksX4_tells_0 4 rfl rfl)
theorem dX4_tells_7 : decode cX4_tells 7 = .ok (.ifCond .eq 13, 3) := dk_153 0 13 (dk_at dksX4_tells_0 7 rfl rfl)
theorem dX4_tells_10 : decode cX4_tells 10 = .ok (.iload_n 2, 1) := dk_28 (dk_at dksX4_tells_0 10 rfl rfl)
theorem dX4_tells_11 : decode cX4_tells 11 = .ok (.iconst 0, 1) := dk_3 (dk_at dksX4_tells_0 11 rfl rfl)
theorem dX4_tells_12 : decode cX4_tells 12 = .ok (.bipush 9, 2) := dk_16 9 (dk_at dksX4_tells_0 12 rfl rfl)
theorem dX4_tells_14 : decode cX4_tells 14 = .ok (.invokestatic 46, 3) := dk_184 0 46 (dk_at dksX4_tells_0 14 rfl rfl)
theorem dX4_tells_17 : decode cX4_tells 17 = .ok (.ifCond .ne 6, 3) := dk_154 0 6 (dk_at dksX4_tells_0 17 rfl rfl)
theorem dX4_tells_20 : decode cX4_tells 20 = .ok (.bipush (-12), 2) := dk_16 244 (dk_at dksX4_tells_0 20 rfl rfl)
theorem dX4_tells_22 : decode cX4_tells 22 = .ok (.ireturn, 1) := dk_172 (dk_at dksX4_tells_0 22 rfl rfl)
theorem dX4_tells_23 : decode cX4_tells 23 = .ok (.bipush 10, 2) := dk_16 10 (dk_at dksX4_tells_1 0 rfl rfl)
theorem dX4_tells_25 : decode cX4_tells 25 = .ok (.aload_n 0, 1) := dk_42 (dk_at dksX4_tells_1 2 rfl rfl)
theorem dX4_tells_26 : decode cX4_tells 26 = .ok (.getfield 7, 3) := dk_180 0 7 (dk_at dksX4_tells_1 3 rfl rfl)
theorem dX4_tells_29 : decode cX4_tells 29 = .ok (.iconst 1, 1) := dk_4 (dk_at dksX4_tells_1 6 rfl rfl)
theorem dX4_tells_30 : decode cX4_tells 30 = .ok (.iaload, 1) := dk_46 (dk_at dksX4_tells_1 7 rfl rfl)
theorem dX4_tells_31 : decode cX4_tells 31 = .ok (.imul, 1) := dk_104 (dk_at dksX4_tells_1 8 rfl rfl)
theorem dX4_tells_32 : decode cX4_tells 32 = .ok (.aload_n 0, 1) := dk_42 (dk_at dksX4_tells_1 9 rfl rfl)
theorem dX4_tells_33 : decode cX4_tells 33 = .ok (.getfield 7, 3) := dk_180 0 7 (dk_at dksX4_tells_1 10 rfl rfl)
theorem dX4_tells_36 : decode cX4_tells 36 = .ok (.iconst 2, 1) := dk_5 (dk_at dksX4_tells_1 13 rfl rfl)
theorem dX4_tells_37 : decode cX4_tells 37 = .ok (.iaload, 1) := dk_46 (dk_at dksX4_tells_1 14 rfl rfl)
theorem dX4_tells_38 : decode cX4_tells 38 = .ok (.iadd, 1) := dk_96 (dk_at dksX4_tells_1 15 rfl rfl)
theorem dX4_tells_39 : decode cX4_tells 39 = .ok (.istore_n 3, 1) := dk_62 (dk_at dksX4_tells_1 16 rfl rfl)
theorem dX4_tells_40 : decode cX4_tells 40 = .ok (.aload_n 0, 1) := dk_42 (dk_at dksX4_tells_1 17 rfl rfl)
theorem dX4_tells_41 : decode cX4_tells 41 = .ok (.getfield 7, 3) := dk_180 0 7 (dk_at dksX4_tells_1 18 rfl rfl)
theorem dX4_tells_44 : decode cX4_tells 44 = .ok (.iconst 1, 1) := dk_4 (dk_at dksX4_tells_1 21 rfl rfl)
theorem dX4_tells_45 : decode cX4_tells 45 = .ok (.iload_n 1, 1) := dk_27 (dk_at dksX4_tells_1 22 rfl rfl)
theorem dX4_tells_46 : decode cX4_tells 46 = .ok (.iastore, 1) := dk_79 (dk_at dksX4_tells_1 23 rfl rfl)
theorem dX4_tells_47 : decode cX4_tells 47 = .ok (.aload_n 0, 1) := dk_42 (dk_at dksX4_tells_2 0 rfl rfl)
theorem dX4_tells_48 : decode cX4_tells 48 = .ok (.getfield 7, 3) := dk_180 0 7 (dk_at dksX4_tells_2 1 rfl rfl)
theorem dX4_tells_51 : decode cX4_tells 51 = .ok (.iconst 2, 1) := dk_5 (dk_at dksX4_tells_2 4 rfl rfl)
theorem dX4_tells_52 : decode cX4_tells 52 = .ok (.iload_n 2, 1) := dk_28 (dk_at dksX4_tells_2 5 rfl rfl)
theorem dX4_tells_53 : decode cX4_tells 53 = .ok (.iastore, 1) := dk_79 (dk_at dksX4_tells_2 6 rfl rfl)
theorem dX4_tells_54 : decode cX4_tells 54 = .ok (.iload_n 3, 1) := dk_29 (dk_at dksX4_tells_2 7 rfl rfl)
theorem dX4_tells_55 : decode cX4_tells 55 = .ok (.ireturn, 1) := dk_172 (dk_at dksX4_tells_2 8 rfl rfl)
abbrev cX4_hours : ByteArray := prog_17_method_57_code
def yX4_hours : MethodName := ⟨RX4, "hours", "(I)I"⟩
def dkwX4_hours_0 : List UInt8 := [42, 182, 0, 68, 42, 42, 27, 182, 0, 145, 182, 0, 77, 172]
abbrev dktX4_hours_0 : List UInt8 := dkwX4_hours_0 ++ []
theorem dksX4_hours_0 : cX4_hours.data.toList.drop 0 = dktX4_hours_0 := by decide +kernel
theorem dX4_hours_0 : decode cX4_hours 0 = .ok (.aload_n 0, 1) := dk_42 (dk_at dksX4_hours_0 0 rfl rfl)
theorem dX4_hours_1 : decode cX4_hours 1 = .ok (.invokevirtual 68, 3) := dk_182 0 68 (dk_at dksX4_hours_0 1 rfl rfl)
theorem dX4_hours_4 : decode cX4_hours 4 = .ok (.aload_n 0, 1) := dk_42 (dk_at dksX4_hours_0 4 rfl rfl)
theorem dX4_hours_5 : decode cX4_hours 5 = .ok (.aload_n 0, 1) := dk_42 (dk_at dksX4_hours_0 5 rfl rfl)
theorem dX4_hours_6 : decode cX4_hours 6 = .ok (.iload_n 1, 1) := dk_27 (dk_at dksX4_hours_0 6 rfl rfl)
theorem dX4_hours_7 : decode cX4_hours 7 = .ok (.invokevirtual 145, 3) := dk_182 0 145 (dk_at dksX4_hours_0 7 rfl rfl)
theorem dX4_hours_10 : decode cX4_hours 10 = .ok (.invokevirtual 77, 3) := dk_182 0 77 (dk_at dksX4_hours_0 10 rfl rfl)
theorem dX4_hours_13 : decode cX4_hours 13 = .ok (.ireturn, 1) := dk_172 (dk_at dksX4_hours_0 13 rfl rfl)
abbrev cX4_passes : ByteArray := prog_17_method_56_code
def yX4_passes : MethodName := ⟨RX4, "passes", "(I)I"⟩
def dkwX4_passes_5 : List UInt8 := [172]
abbrev dktX4_passes_5 : List UInt8 := dkwX4_passes_5 ++ []
def dkwX4_passes_4 : List UInt8 := [79, 42, 180, 0, 7, 3, 46, 16, 24, 112, 154, 0, 7, 42, 182, 0, 142, 132, 3, 1, 167, 255, 161, 28]
abbrev dktX4_passes_4 : List UInt8 := dkwX4_passes_4 ++ dktX4_passes_5
def dkwX4_passes_3 : List UInt8 := [162, 0, 15, 42, 21, 4, 182, 0, 138, 132, 4, 1, 167, 255, 235, 42, 180, 0, 7, 3, 92, 46, 4, 96]
abbrev dktX4_passes_3 : List UInt8 := dkwX4_passes_3 ++ dktX4_passes_4
def dkwX4_passes_2 : List UInt8 := [182, 0, 135, 96, 61, 132, 4, 1, 167, 255, 228, 3, 54, 4, 21, 4, 42, 180, 0, 7, 16, 50, 46]
abbrev dktX4_passes_2 : List UInt8 := dkwX4_passes_2 ++ dktX4_passes_3
def dkwX4_passes_1 : List UInt8 := [54, 4, 21, 4, 16, 6, 162, 0, 27, 42, 180, 0, 7, 4, 46, 158, 0, 18, 28, 42, 21, 4]
abbrev dktX4_passes_1 : List UInt8 := dkwX4_passes_1 ++ dktX4_passes_2
def dkwX4_passes_0 : List UInt8 := [27, 4, 16, 72, 184, 0, 46, 154, 0, 6, 16, 244, 172, 3, 61, 3, 62, 29, 27, 162, 0, 96, 3]
abbrev dktX4_passes_0 : List UInt8 := dkwX4_passes_0 ++ dktX4_passes_1
theorem dksX4_passes_0 : cX4_passes.data.toList.drop 0 = dktX4_passes_0 := by decide +kernel
theorem dksX4_passes_1 : cX4_passes.data.toList.drop 23 = dktX4_passes_1 := dk_seg dksX4_passes_0 23 rfl rfl
theorem dksX4_passes_2 : cX4_passes.data.toList.drop 45 = dktX4_passes_2 := dk_seg dksX4_passes_1 22 rfl rfl
theorem dksX4_passes_3 : cX4_passes.data.toList.drop 68 = dktX4_passes_3 := dk_seg dksX4_passes_2 23 rfl rfl
theorem dksX4_passes_4 : cX4_passes.data.toList.drop 92 = dktX4_passes_4 := dk_seg dksX4_passes_3 24 rfl rfl
theorem dksX4_passes_5 : cX4_passes.data.toList.drop 116 = dktX4_passes_5 := dk_seg dksX4_passes_4 24 rfl rfl
theorem dX4_passes_0 : decode cX4_passes 0 = .ok (.iload_n 1, 1) := dk_27 (dk_at dksX4_passes_0 0 rfl rfl)
theorem dX4_passes_1 : decode cX4_passes 1 = .ok (.iconst 1, 1) := dk_4 (dk_at dksX4_passes_0 1 rfl rfl)
theorem dX4_passes_2 : decode cX4_passes 2 = .ok (.bipush 72, 2) := dk_16 72 (dk_at dksX4_passes_0 2 rfl rfl)
theorem dX4_passes_4 : decode cX4_passes 4 = .ok (.invokestatic 46, 3) := dk_184 0 46 (dk_at dksX4_passes_0 4 rfl rfl)
theorem dX4_passes_7 : decode cX4_passes 7 = .ok (.ifCond .ne 6, 3) := dk_154 0 6 (dk_at dksX4_passes_0 7 rfl rfl)
theorem dX4_passes_10 : decode cX4_passes 10 = .ok (.bipush (-12), 2) := dk_16 244 (dk_at dksX4_passes_0 10 rfl rfl)
theorem dX4_passes_12 : decode cX4_passes 12 = .ok (.ireturn, 1) := dk_172 (dk_at dksX4_passes_0 12 rfl rfl)
theorem dX4_passes_13 : decode cX4_passes 13 = .ok (.iconst 0, 1) := dk_3 (dk_at dksX4_passes_0 13 rfl rfl)
theorem dX4_passes_14 : decode cX4_passes 14 = .ok (.istore_n 2, 1) := dk_61 (dk_at dksX4_passes_0 14 rfl rfl)
theorem dX4_passes_15 : decode cX4_passes 15 = .ok (.iconst 0, 1) := dk_3 (dk_at dksX4_passes_0 15 rfl rfl)
theorem dX4_passes_16 : decode cX4_passes 16 = .ok (.istore_n 3, 1) := dk_62 (dk_at dksX4_passes_0 16 rfl rfl)
theorem dX4_passes_17 : decode cX4_passes 17 = .ok (.iload_n 3, 1) := dk_29 (dk_at dksX4_passes_0 17 rfl rfl)
theorem dX4_passes_18 : decode cX4_passes 18 = .ok (.iload_n 1, 1) := dk_27 (dk_at dksX4_passes_0 18 rfl rfl)
theorem dX4_passes_19 : decode cX4_passes 19 = .ok (.if_icmp .ge 96, 3) := dk_162 0 96 (dk_at dksX4_passes_0 19 rfl rfl)
theorem dX4_passes_22 : decode cX4_passes 22 = .ok (.iconst 0, 1) := dk_3 (dk_at dksX4_passes_0 22 rfl rfl)
theorem dX4_passes_23 : decode cX4_passes 23 = .ok (.istore 4, 2) := dk_54 4 (dk_at dksX4_passes_1 0 rfl rfl)
theorem dX4_passes_25 : decode cX4_passes 25 = .ok (.iload 4, 2) := dk_21 4 (dk_at dksX4_passes_1 2 rfl rfl)
theorem dX4_passes_27 : decode cX4_passes 27 = .ok (.bipush 6, 2) := dk_16 6 (dk_at dksX4_passes_1 4 rfl rfl)
theorem dX4_passes_29 : decode cX4_passes 29 = .ok (.if_icmp .ge 27, 3) := dk_162 0 27 (dk_at dksX4_passes_1 6 rfl rfl)
theorem dX4_passes_32 : decode cX4_passes 32 = .ok (.aload_n 0, 1) := dk_42 (dk_at dksX4_passes_1 9 rfl rfl)
theorem dX4_passes_33 : decode cX4_passes 33 = .ok (.getfield 7, 3) := dk_180 0 7 (dk_at dksX4_passes_1 10 rfl rfl)
theorem dX4_passes_36 : decode cX4_passes 36 = .ok (.iconst 1, 1) := dk_4 (dk_at dksX4_passes_1 13 rfl rfl)
theorem dX4_passes_37 : decode cX4_passes 37 = .ok (.iaload, 1) := dk_46 (dk_at dksX4_passes_1 14 rfl rfl)
theorem dX4_passes_38 : decode cX4_passes 38 = .ok (.ifCond .le 18, 3) := dk_158 0 18 (dk_at dksX4_passes_1 15 rfl rfl)
theorem dX4_passes_41 : decode cX4_passes 41 = .ok (.iload_n 2, 1) := dk_28 (dk_at dksX4_passes_1 18 rfl rfl)
theorem dX4_passes_42 : decode cX4_passes 42 = .ok (.aload_n 0, 1) := dk_42 (dk_at dksX4_passes_1 19 rfl rfl)
theorem dX4_passes_43 : decode cX4_passes 43 = .ok (.iload 4, 2) := dk_21 4 (dk_at dksX4_passes_1 20 rfl rfl)
theorem dX4_passes_45 : decode cX4_passes 45 = .ok (.invokevirtual 135, 3) := dk_182 0 135 (dk_at dksX4_passes_2 0 rfl rfl)
theorem dX4_passes_48 : decode cX4_passes 48 = .ok (.iadd, 1) := dk_96 (dk_at dksX4_passes_2 3 rfl rfl)
theorem dX4_passes_49 : decode cX4_passes 49 = .ok (.istore_n 2, 1) := dk_61 (dk_at dksX4_passes_2 4 rfl rfl)
theorem dX4_passes_50 : decode cX4_passes 50 = .ok (.iinc 4 1, 3) := dk_132 4 1 (dk_at dksX4_passes_2 5 rfl rfl)
theorem dX4_passes_53 : decode cX4_passes 53 = .ok (.goto (-28), 3) := dk_167 255 228 (dk_at dksX4_passes_2 8 rfl rfl)
theorem dX4_passes_56 : decode cX4_passes 56 = .ok (.iconst 0, 1) := dk_3 (dk_at dksX4_passes_2 11 rfl rfl)
theorem dX4_passes_57 : decode cX4_passes 57 = .ok (.istore 4, 2) := dk_54 4 (dk_at dksX4_passes_2 12 rfl rfl)
theorem dX4_passes_59 : decode cX4_passes 59 = .ok (.iload 4, 2) := dk_21 4 (dk_at dksX4_passes_2 14 rfl rfl)
theorem dX4_passes_61 : decode cX4_passes 61 = .ok (.aload_n 0, 1) := dk_42 (dk_at dksX4_passes_2 16 rfl rfl)
theorem dX4_passes_62 : decode cX4_passes 62 = .ok (.getfield 7, 3) := dk_180 0 7 (dk_at dksX4_passes_2 17 rfl rfl)
theorem dX4_passes_65 : decode cX4_passes 65 = .ok (.bipush 50, 2) := dk_16 50 (dk_at dksX4_passes_2 20 rfl rfl)
theorem dX4_passes_67 : decode cX4_passes 67 = .ok (.iaload, 1) := dk_46 (dk_at dksX4_passes_2 22 rfl rfl)
theorem dX4_passes_68 : decode cX4_passes 68 = .ok (.if_icmp .ge 15, 3) := dk_162 0 15 (dk_at dksX4_passes_3 0 rfl rfl)
theorem dX4_passes_71 : decode cX4_passes 71 = .ok (.aload_n 0, 1) := dk_42 (dk_at dksX4_passes_3 3 rfl rfl)
theorem dX4_passes_72 : decode cX4_passes 72 = .ok (.iload 4, 2) := dk_21 4 (dk_at dksX4_passes_3 4 rfl rfl)
theorem dX4_passes_74 : decode cX4_passes 74 = .ok (.invokevirtual 138, 3) := dk_182 0 138 (dk_at dksX4_passes_3 6 rfl rfl)
theorem dX4_passes_77 : decode cX4_passes 77 = .ok (.iinc 4 1, 3) := dk_132 4 1 (dk_at dksX4_passes_3 9 rfl rfl)
theorem dX4_passes_80 : decode cX4_passes 80 = .ok (.goto (-21), 3) := dk_167 255 235 (dk_at dksX4_passes_3 12 rfl rfl)
theorem dX4_passes_83 : decode cX4_passes 83 = .ok (.aload_n 0, 1) := dk_42 (dk_at dksX4_passes_3 15 rfl rfl)
theorem dX4_passes_84 : decode cX4_passes 84 = .ok (.getfield 7, 3) := dk_180 0 7 (dk_at dksX4_passes_3 16 rfl rfl)
theorem dX4_passes_87 : decode cX4_passes 87 = .ok (.iconst 0, 1) := dk_3 (dk_at dksX4_passes_3 19 rfl rfl)
theorem dX4_passes_88 : decode cX4_passes 88 = .ok (.dup2, 1) := dk_92 (dk_at dksX4_passes_3 20 rfl rfl)
theorem dX4_passes_89 : decode cX4_passes 89 = .ok (.iaload, 1) := dk_46 (dk_at dksX4_passes_3 21 rfl rfl)
theorem dX4_passes_90 : decode cX4_passes 90 = .ok (.iconst 1, 1) := dk_4 (dk_at dksX4_passes_3 22 rfl rfl)
theorem dX4_passes_91 : decode cX4_passes 91 = .ok (.iadd, 1) := dk_96 (dk_at dksX4_passes_3 23 rfl rfl)
theorem dX4_passes_92 : decode cX4_passes 92 = .ok (.iastore, 1) := dk_79 (dk_at dksX4_passes_4 0 rfl rfl)
theorem dX4_passes_93 : decode cX4_passes 93 = .ok (.aload_n 0, 1) := dk_42 (dk_at dksX4_passes_4 1 rfl rfl)
theorem dX4_passes_94 : decode cX4_passes 94 = .ok (.getfield 7, 3) := dk_180 0 7 (dk_at dksX4_passes_4 2 rfl rfl)
theorem dX4_passes_97 : decode cX4_passes 97 = .ok (.iconst 0, 1) := dk_3 (dk_at dksX4_passes_4 5 rfl rfl)
theorem dX4_passes_98 : decode cX4_passes 98 = .ok (.iaload, 1) := dk_46 (dk_at dksX4_passes_4 6 rfl rfl)
theorem dX4_passes_99 : decode cX4_passes 99 = .ok (.bipush 24, 2) := dk_16 24 (dk_at dksX4_passes_4 7 rfl rfl)
theorem dX4_passes_101 : decode cX4_passes 101 = .ok (.irem, 1) := dk_112 (dk_at dksX4_passes_4 9 rfl rfl)
theorem dX4_passes_102 : decode cX4_passes 102 = .ok (.ifCond .ne 7, 3) := dk_154 0 7 (dk_at dksX4_passes_4 10 rfl rfl)
theorem dX4_passes_105 : decode cX4_passes 105 = .ok (.aload_n 0, 1) := dk_42 (dk_at dksX4_passes_4 13 rfl rfl)
theorem dX4_passes_106 : decode cX4_passes 106 = .ok (.invokevirtual 142, 3) := dk_182 0 142 (dk_at dksX4_passes_4 14 rfl rfl)
theorem dX4_passes_109 : decode cX4_passes 109 = .ok (.iinc 3 1, 3) := dk_132 3 1 (dk_at dksX4_passes_4 17 rfl rfl)
theorem dX4_passes_112 : decode cX4_passes 112 = .ok (.goto (-95), 3) := dk_167 255 161 (dk_at dksX4_passes_4 20 rfl rfl)
theorem dX4_passes_115 : decode cX4_passes 115 = .ok (.iload_n 2, 1) := dk_28 (dk_at dksX4_passes_4 23 rfl rfl)
theorem dX4_passes_116 : decode cX4_passes 116 = .ok (.ireturn, 1) := dk_172 (dk_at dksX4_passes_5 0 rfl rfl)
abbrev cX4_rainsOn : ByteArray := prog_17_method_53_code
def yX4_rainsOn : MethodName := ⟨RX4, "rainsOn", "(I)I"⟩
def dkwX4_rainsOn_9 : List UInt8 := [79, 28, 21, 4, 100, 172]
abbrev dktX4_rainsOn_9 : List UInt8 := dkwX4_rainsOn_9 ++ []
def dkwX4_rainsOn_8 : List UInt8 := [27, 96, 92, 46, 42, 180, 0, 7, 16, 20, 27, 96, 46, 16, 9, 162, 0, 7, 4, 167, 0, 4, 3, 96]
abbrev dktX4_rainsOn_8 : List UInt8 := dkwX4_rainsOn_8 ++ dktX4_rainsOn_9
def dkwX4_rainsOn_7 : List UInt8 := [27, 96, 46, 16, 8, 160, 0, 44, 42, 180, 0, 7, 16, 26, 27, 96, 3, 79, 42, 180, 0, 7, 16, 20]
abbrev dktX4_rainsOn_7 : List UInt8 := dkwX4_rainsOn_7 ++ dktX4_rainsOn_8
def dkwX4_rainsOn_6 : List UInt8 := [96, 46, 154, 0, 71, 42, 180, 0, 7, 16, 26, 27, 96, 92, 46, 4, 96, 79, 42, 180, 0, 7, 16, 26]
abbrev dktX4_rainsOn_6 : List UInt8 := dkwX4_rainsOn_6 ++ dktX4_rainsOn_7
def dkwX4_rainsOn_5 : List UInt8 := [46, 28, 21, 4, 100, 96, 79, 42, 180, 0, 7, 4, 46, 8, 161, 0, 83, 42, 180, 0, 7, 16, 14, 27]
abbrev dktX4_rainsOn_5 : List UInt8 := dkwX4_rainsOn_5 ++ dktX4_rainsOn_6
def dkwX4_rainsOn_4 : List UInt8 := [79, 42, 180, 0, 7, 16, 32, 27, 96, 92, 46, 21, 4, 96, 79, 42, 180, 0, 7, 16, 38, 27, 96, 92]
abbrev dktX4_rainsOn_4 : List UInt8 := dkwX4_rainsOn_4 ++ dktX4_rainsOn_5
def dkwX4_rainsOn_3 : List UInt8 := [104, 28, 162, 0, 9, 6, 29, 104, 167, 0, 4, 28, 54, 4, 42, 180, 0, 7, 16, 7, 92, 46, 28, 96]
abbrev dktX4_rainsOn_3 : List UInt8 := dkwX4_rainsOn_3 ++ dktX4_rainsOn_4
def dkwX4_rainsOn_2 : List UInt8 := [42, 180, 0, 7, 17, 0, 229, 16, 10, 42, 180, 0, 7, 16, 44, 27, 96, 46, 104, 96, 46, 62, 6, 29]
abbrev dktX4_rainsOn_2 : List UInt8 := dkwX4_rainsOn_2 ++ dktX4_rainsOn_3
def dkwX4_rainsOn_1 : List UInt8 := [3, 182, 0, 61, 167, 0, 41, 42, 180, 0, 7, 16, 14, 27, 96, 46, 4, 160, 0, 7, 3, 167, 0, 24]
abbrev dktX4_rainsOn_1 : List UInt8 := dkwX4_rainsOn_1 ++ dktX4_rainsOn_2
def dkwX4_rainsOn_0 : List UInt8 := [16, 10, 42, 180, 0, 7, 4, 46, 104, 61, 42, 180, 0, 7, 16, 14, 27, 96, 46, 154, 0, 12, 42, 27]
abbrev dktX4_rainsOn_0 : List UInt8 := dkwX4_rainsOn_0 ++ dktX4_rainsOn_1
theorem dksX4_rainsOn_0 : cX4_rainsOn.data.toList.drop 0 = dktX4_rainsOn_0 := by decide +kernel
theorem dksX4_rainsOn_1 : cX4_rainsOn.data.toList.drop 24 = dktX4_rainsOn_1 := dk_seg dksX4_rainsOn_0 24 rfl rfl
theorem dksX4_rainsOn_2 : cX4_rainsOn.data.toList.drop 48 = dktX4_rainsOn_2 := dk_seg dksX4_rainsOn_1 24 rfl rfl
theorem dksX4_rainsOn_3 : cX4_rainsOn.data.toList.drop 72 = dktX4_rainsOn_3 := dk_seg dksX4_rainsOn_2 24 rfl rfl
theorem dksX4_rainsOn_4 : cX4_rainsOn.data.toList.drop 96 = dktX4_rainsOn_4 := dk_seg dksX4_rainsOn_3 24 rfl rfl
theorem dksX4_rainsOn_5 : cX4_rainsOn.data.toList.drop 120 = dktX4_rainsOn_5 := dk_seg dksX4_rainsOn_4 24 rfl rfl
theorem dksX4_rainsOn_6 : cX4_rainsOn.data.toList.drop 144 = dktX4_rainsOn_6 := dk_seg dksX4_rainsOn_5 24 rfl rfl
theorem dksX4_rainsOn_7 : cX4_rainsOn.data.toList.drop 168 = dktX4_rainsOn_7 := dk_seg dksX4_rainsOn_6 24 rfl rfl
theorem dksX4_rainsOn_8 : cX4_rainsOn.data.toList.drop 192 = dktX4_rainsOn_8 := dk_seg dksX4_rainsOn_7 24 rfl rfl
theorem dksX4_rainsOn_9 : cX4_rainsOn.data.toList.drop 216 = dktX4_rainsOn_9 := dk_seg dksX4_rainsOn_8 24 rfl rfl
theorem dX4_rainsOn_0 : decode cX4_rainsOn 0 = .ok (.bipush 10, 2) := dk_16 10 (dk_at dksX4_rainsOn_0 0 rfl rfl)
theorem dX4_rainsOn_2 : decode cX4_rainsOn 2 = .ok (.aload_n 0, 1) := dk_42 (dk_at dksX4_rainsOn_0 2 rfl rfl)
theorem dX4_rainsOn_3 : decode cX4_rainsOn 3 = .ok (.getfield 7, 3) := dk_180 0 7 (dk_at dksX4_rainsOn_0 3 rfl rfl)
theorem dX4_rainsOn_6 : decode cX4_rainsOn 6 = .ok (.iconst 1, 1) := dk_4 (dk_at dksX4_rainsOn_0 6 rfl rfl)
theorem dX4_rainsOn_7 : decode cX4_rainsOn 7 = .ok (.iaload, 1) := dk_46 (dk_at dksX4_rainsOn_0 7 rfl rfl)
theorem dX4_rainsOn_8 : decode cX4_rainsOn 8 = .ok (.imul, 1) := dk_104 (dk_at dksX4_rainsOn_0 8 rfl rfl)
theorem dX4_rainsOn_9 : decode cX4_rainsOn 9 = .ok (.istore_n 2, 1) := dk_61 (dk_at dksX4_rainsOn_0 9 rfl rfl)
theorem dX4_rainsOn_10 : decode cX4_rainsOn 10 = .ok (.aload_n 0, 1) := dk_42 (dk_at dksX4_rainsOn_0 10 rfl rfl)
theorem dX4_rainsOn_11 : decode cX4_rainsOn 11 = .ok (.getfield 7, 3) := dk_180 0 7 (dk_at dksX4_rainsOn_0 11 rfl rfl)
theorem dX4_rainsOn_14 : decode cX4_rainsOn 14 = .ok (.bipush 14, 2) := dk_16 14 (dk_at dksX4_rainsOn_0 14 rfl rfl)
theorem dX4_rainsOn_16 : decode cX4_rainsOn 16 = .ok (.iload_n 1, 1) := dk_27 (dk_at dksX4_rainsOn_0 16 rfl rfl)
theorem dX4_rainsOn_17 : decode cX4_rainsOn 17 = .ok (.iadd, 1) := dk_96 (dk_at dksX4_rainsOn_0 17 rfl rfl)
theorem dX4_rainsOn_18 : decode cX4_rainsOn 18 = .ok (.iaload, 1) := dk_46 (dk_at dksX4_rainsOn_0 18 rfl rfl)
theorem dX4_rainsOn_19 : decode cX4_rainsOn 19 = .ok (.ifCond .ne 12, 3) := dk_154 0 12 (dk_at dksX4_rainsOn_0 19 rfl rfl)
theorem dX4_rainsOn_22 : decode cX4_rainsOn 22 = .ok (.aload_n 0, 1) := dk_42 (dk_at dksX4_rainsOn_0 22 rfl rfl)
theorem dX4_rainsOn_23 : decode cX4_rainsOn 23 = .ok (.iload_n 1, 1) := dk_27 (dk_at dksX4_rainsOn_0 23 rfl rfl)
theorem dX4_rainsOn_24 : decode cX4_rainsOn 24 = .ok (.iconst 0, 1) := dk_3 (dk_at dksX4_rainsOn_1 0 rfl rfl)
theorem dX4_rainsOn_25 : decode cX4_rainsOn 25 = .ok (.invokevirtual 61, 3) := dk_182 0 61 (dk_at dksX4_rainsOn_1 1 rfl rfl)
theorem dX4_rainsOn_28 : decode cX4_rainsOn 28 = .ok (.goto 41, 3) := dk_167 0 41 (dk_at dksX4_rainsOn_1 4 rfl rfl)
theorem dX4_rainsOn_31 : decode cX4_rainsOn 31 = .ok (.aload_n 0, 1) := dk_42 (dk_at dksX4_rainsOn_1 7 rfl rfl)
theorem dX4_rainsOn_32 : decode cX4_rainsOn 32 = .ok (.getfield 7, 3) := dk_180 0 7 (dk_at dksX4_rainsOn_1 8 rfl rfl)
theorem dX4_rainsOn_35 : decode cX4_rainsOn 35 = .ok (.bipush 14, 2) := dk_16 14 (dk_at dksX4_rainsOn_1 11 rfl rfl)
theorem dX4_rainsOn_37 : decode cX4_rainsOn 37 = .ok (.iload_n 1, 1) := dk_27 (dk_at dksX4_rainsOn_1 13 rfl rfl)
theorem dX4_rainsOn_38 : decode cX4_rainsOn 38 = .ok (.iadd, 1) := dk_96 (dk_at dksX4_rainsOn_1 14 rfl rfl)
theorem dX4_rainsOn_39 : decode cX4_rainsOn 39 = .ok (.iaload, 1) := dk_46 (dk_at dksX4_rainsOn_1 15 rfl rfl)
theorem dX4_rainsOn_40 : decode cX4_rainsOn 40 = .ok (.iconst 1, 1) := dk_4 (dk_at dksX4_rainsOn_1 16 rfl rfl)
theorem dX4_rainsOn_41 : decode cX4_rainsOn 41 = .ok (.if_icmp .ne 7, 3) := dk_160 0 7 (dk_at dksX4_rainsOn_1 17 rfl rfl)
theorem dX4_rainsOn_44 : decode cX4_rainsOn 44 = .ok (.iconst 0, 1) := dk_3 (dk_at dksX4_rainsOn_1 20 rfl rfl)
theorem dX4_rainsOn_45 : decode cX4_rainsOn 45 = .ok (.goto 24, 3) := dk_167 0 24 (dk_at dksX4_rainsOn_1 21 rfl rfl)
theorem dX4_rainsOn_48 : decode cX4_rainsOn 48 = .ok (.aload_n 0, 1) := dk_42 (dk_at dksX4_rainsOn_2 0 rfl rfl)
theorem dX4_rainsOn_49 : decode cX4_rainsOn 49 = .ok (.getfield 7, 3) := dk_180 0 7 (dk_at dksX4_rainsOn_2 1 rfl rfl)
theorem dX4_rainsOn_52 : decode cX4_rainsOn 52 = .ok (.sipush 229, 3) := dk_17 0 229 (dk_at dksX4_rainsOn_2 4 rfl rfl)
theorem dX4_rainsOn_55 : decode cX4_rainsOn 55 = .ok (.bipush 10, 2) := dk_16 10 (dk_at dksX4_rainsOn_2 7 rfl rfl)
theorem dX4_rainsOn_57 : decode cX4_rainsOn 57 = .ok (.aload_n 0, 1) := dk_42 (dk_at dksX4_rainsOn_2 9 rfl rfl)
theorem dX4_rainsOn_58 : decode cX4_rainsOn 58 = .ok (.getfield 7, 3) := dk_180 0 7 (dk_at dksX4_rainsOn_2 10 rfl rfl)
theorem dX4_rainsOn_61 : decode cX4_rainsOn 61 = .ok (.bipush 44, 2) := dk_16 44 (dk_at dksX4_rainsOn_2 13 rfl rfl)
theorem dX4_rainsOn_63 : decode cX4_rainsOn 63 = .ok (.iload_n 1, 1) := dk_27 (dk_at dksX4_rainsOn_2 15 rfl rfl)
theorem dX4_rainsOn_64 : decode cX4_rainsOn 64 = .ok (.iadd, 1) := dk_96 (dk_at dksX4_rainsOn_2 16 rfl rfl)
theorem dX4_rainsOn_65 : decode cX4_rainsOn 65 = .ok (.iaload, 1) := dk_46 (dk_at dksX4_rainsOn_2 17 rfl rfl)
theorem dX4_rainsOn_66 : decode cX4_rainsOn 66 = .ok (.imul, 1) := dk_104 (dk_at dksX4_rainsOn_2 18 rfl rfl)
theorem dX4_rainsOn_67 : decode cX4_rainsOn 67 = .ok (.iadd, 1) := dk_96 (dk_at dksX4_rainsOn_2 19 rfl rfl)
theorem dX4_rainsOn_68 : decode cX4_rainsOn 68 = .ok (.iaload, 1) := dk_46 (dk_at dksX4_rainsOn_2 20 rfl rfl)
theorem dX4_rainsOn_69 : decode cX4_rainsOn 69 = .ok (.istore_n 3, 1) := dk_62 (dk_at dksX4_rainsOn_2 21 rfl rfl)
theorem dX4_rainsOn_70 : decode cX4_rainsOn 70 = .ok (.iconst 3, 1) := dk_6 (dk_at dksX4_rainsOn_2 22 rfl rfl)
theorem dX4_rainsOn_71 : decode cX4_rainsOn 71 = .ok (.iload_n 3, 1) := dk_29 (dk_at dksX4_rainsOn_2 23 rfl rfl)
theorem dX4_rainsOn_72 : decode cX4_rainsOn 72 = .ok (.imul, 1) := dk_104 (dk_at dksX4_rainsOn_3 0 rfl rfl)
theorem dX4_rainsOn_73 : decode cX4_rainsOn 73 = .ok (.iload_n 2, 1) := dk_28 (dk_at dksX4_rainsOn_3 1 rfl rfl)
theorem dX4_rainsOn_74 : decode cX4_rainsOn 74 = .ok (.if_icmp .ge 9, 3) := dk_162 0 9 (dk_at dksX4_rainsOn_3 2 rfl rfl)
theorem dX4_rainsOn_77 : decode cX4_rainsOn 77 = .ok (.iconst 3, 1) := dk_6 (dk_at dksX4_rainsOn_3 5 rfl rfl)
theorem dX4_rainsOn_78 : decode cX4_rainsOn 78 = .ok (.iload_n 3, 1) := dk_29 (dk_at dksX4_rainsOn_3 6 rfl rfl)
theorem dX4_rainsOn_79 : decode cX4_rainsOn 79 = .ok (.imul, 1) := dk_104 (dk_at dksX4_rainsOn_3 7 rfl rfl)
theorem dX4_rainsOn_80 : decode cX4_rainsOn 80 = .ok (.goto 4, 3) := dk_167 0 4 (dk_at dksX4_rainsOn_3 8 rfl rfl)
theorem dX4_rainsOn_83 : decode cX4_rainsOn 83 = .ok (.iload_n 2, 1) := dk_28 (dk_at dksX4_rainsOn_3 11 rfl rfl)
theorem dX4_rainsOn_84 : decode cX4_rainsOn 84 = .ok (.istore 4, 2) := dk_54 4 (dk_at dksX4_rainsOn_3 12 rfl rfl)
theorem dX4_rainsOn_86 : decode cX4_rainsOn 86 = .ok (.aload_n 0, 1) := dk_42 (dk_at dksX4_rainsOn_3 14 rfl rfl)
theorem dX4_rainsOn_87 : decode cX4_rainsOn 87 = .ok (.getfield 7, 3) := dk_180 0 7 (dk_at dksX4_rainsOn_3 15 rfl rfl)
theorem dX4_rainsOn_90 : decode cX4_rainsOn 90 = .ok (.bipush 7, 2) := dk_16 7 (dk_at dksX4_rainsOn_3 18 rfl rfl)
theorem dX4_rainsOn_92 : decode cX4_rainsOn 92 = .ok (.dup2, 1) := dk_92 (dk_at dksX4_rainsOn_3 20 rfl rfl)
theorem dX4_rainsOn_93 : decode cX4_rainsOn 93 = .ok (.iaload, 1) := dk_46 (dk_at dksX4_rainsOn_3 21 rfl rfl)
theorem dX4_rainsOn_94 : decode cX4_rainsOn 94 = .ok (.iload_n 2, 1) := dk_28 (dk_at dksX4_rainsOn_3 22 rfl rfl)
theorem dX4_rainsOn_95 : decode cX4_rainsOn 95 = .ok (.iadd, 1) := dk_96 (dk_at dksX4_rainsOn_3 23 rfl rfl)
theorem dX4_rainsOn_96 : decode cX4_rainsOn 96 = .ok (.iastore, 1) := dk_79 (dk_at dksX4_rainsOn_4 0 rfl rfl)
theorem dX4_rainsOn_97 : decode cX4_rainsOn 97 = .ok (.aload_n 0, 1) := dk_42 (dk_at dksX4_rainsOn_4 1 rfl rfl)
theorem dX4_rainsOn_98 : decode cX4_rainsOn 98 = .ok (.getfield 7, 3) := dk_180 0 7 (dk_at dksX4_rainsOn_4 2 rfl rfl)
theorem dX4_rainsOn_101 : decode cX4_rainsOn 101 = .ok (.bipush 32, 2) := dk_16 32 (dk_at dksX4_rainsOn_4 5 rfl rfl)
theorem dX4_rainsOn_103 : decode cX4_rainsOn 103 = .ok (.iload_n 1, 1) := dk_27 (dk_at dksX4_rainsOn_4 7 rfl rfl)
theorem dX4_rainsOn_104 : decode cX4_rainsOn 104 = .ok (.iadd, 1) := dk_96 (dk_at dksX4_rainsOn_4 8 rfl rfl)
theorem dX4_rainsOn_105 : decode cX4_rainsOn 105 = .ok (.dup2, 1) := dk_92 (dk_at dksX4_rainsOn_4 9 rfl rfl)
theorem dX4_rainsOn_106 : decode cX4_rainsOn 106 = .ok (.iaload, 1) := dk_46 (dk_at dksX4_rainsOn_4 10 rfl rfl)
theorem dX4_rainsOn_107 : decode cX4_rainsOn 107 = .ok (.iload 4, 2) := dk_21 4 (dk_at dksX4_rainsOn_4 11 rfl rfl)
theorem dX4_rainsOn_109 : decode cX4_rainsOn 109 = .ok (.iadd, 1) := dk_96 (dk_at dksX4_rainsOn_4 13 rfl rfl)
theorem dX4_rainsOn_110 : decode cX4_rainsOn 110 = .ok (.iastore, 1) := dk_79 (dk_at dksX4_rainsOn_4 14 rfl rfl)
theorem dX4_rainsOn_111 : decode cX4_rainsOn 111 = .ok (.aload_n 0, 1) := dk_42 (dk_at dksX4_rainsOn_4 15 rfl rfl)
theorem dX4_rainsOn_112 : decode cX4_rainsOn 112 = .ok (.getfield 7, 3) := dk_180 0 7 (dk_at dksX4_rainsOn_4 16 rfl rfl)
theorem dX4_rainsOn_115 : decode cX4_rainsOn 115 = .ok (.bipush 38, 2) := dk_16 38 (dk_at dksX4_rainsOn_4 19 rfl rfl)
theorem dX4_rainsOn_117 : decode cX4_rainsOn 117 = .ok (.iload_n 1, 1) := dk_27 (dk_at dksX4_rainsOn_4 21 rfl rfl)
theorem dX4_rainsOn_118 : decode cX4_rainsOn 118 = .ok (.iadd, 1) := dk_96 (dk_at dksX4_rainsOn_4 22 rfl rfl)
theorem dX4_rainsOn_119 : decode cX4_rainsOn 119 = .ok (.dup2, 1) := dk_92 (dk_at dksX4_rainsOn_4 23 rfl rfl)
theorem dX4_rainsOn_120 : decode cX4_rainsOn 120 = .ok (.iaload, 1) := dk_46 (dk_at dksX4_rainsOn_5 0 rfl rfl)
theorem dX4_rainsOn_121 : decode cX4_rainsOn 121 = .ok (.iload_n 2, 1) := dk_28 (dk_at dksX4_rainsOn_5 1 rfl rfl)
theorem dX4_rainsOn_122 : decode cX4_rainsOn 122 = .ok (.iload 4, 2) := dk_21 4 (dk_at dksX4_rainsOn_5 2 rfl rfl)
theorem dX4_rainsOn_124 : decode cX4_rainsOn 124 = .ok (.isub, 1) := dk_100 (dk_at dksX4_rainsOn_5 4 rfl rfl)
theorem dX4_rainsOn_125 : decode cX4_rainsOn 125 = .ok (.iadd, 1) := dk_96 (dk_at dksX4_rainsOn_5 5 rfl rfl)
theorem dX4_rainsOn_126 : decode cX4_rainsOn 126 = .ok (.iastore, 1) := dk_79 (dk_at dksX4_rainsOn_5 6 rfl rfl)
theorem dX4_rainsOn_127 : decode cX4_rainsOn 127 = .ok (.aload_n 0, 1) := dk_42 (dk_at dksX4_rainsOn_5 7 rfl rfl)
theorem dX4_rainsOn_128 : decode cX4_rainsOn 128 = .ok (.getfield 7, 3) := dk_180 0 7 (dk_at dksX4_rainsOn_5 8 rfl rfl)
theorem dX4_rainsOn_131 : decode cX4_rainsOn 131 = .ok (.iconst 1, 1) := dk_4 (dk_at dksX4_rainsOn_5 11 rfl rfl)
theorem dX4_rainsOn_132 : decode cX4_rainsOn 132 = .ok (.iaload, 1) := dk_46 (dk_at dksX4_rainsOn_5 12 rfl rfl)
theorem dX4_rainsOn_133 : decode cX4_rainsOn 133 = .ok (.iconst 5, 1) := dk_8 (dk_at dksX4_rainsOn_5 13 rfl rfl)
theorem dX4_rainsOn_134 : decode cX4_rainsOn 134 = .ok (.if_icmp .lt 83, 3) := dk_161 0 83 (dk_at dksX4_rainsOn_5 14 rfl rfl)
theorem dX4_rainsOn_137 : decode cX4_rainsOn 137 = .ok (.aload_n 0, 1) := dk_42 (dk_at dksX4_rainsOn_5 17 rfl rfl)
theorem dX4_rainsOn_138 : decode cX4_rainsOn 138 = .ok (.getfield 7, 3) := dk_180 0 7 (dk_at dksX4_rainsOn_5 18 rfl rfl)
theorem dX4_rainsOn_141 : decode cX4_rainsOn 141 = .ok (.bipush 14, 2) := dk_16 14 (dk_at dksX4_rainsOn_5 21 rfl rfl)
theorem dX4_rainsOn_143 : decode cX4_rainsOn 143 = .ok (.iload_n 1, 1) := dk_27 (dk_at dksX4_rainsOn_5 23 rfl rfl)
theorem dX4_rainsOn_144 : decode cX4_rainsOn 144 = .ok (.iadd, 1) := dk_96 (dk_at dksX4_rainsOn_6 0 rfl rfl)
theorem dX4_rainsOn_145 : decode cX4_rainsOn 145 = .ok (.iaload, 1) := dk_46 (dk_at dksX4_rainsOn_6 1 rfl rfl)
theorem dX4_rainsOn_146 : decode cX4_rainsOn 146 = .ok (.ifCond .ne 71, 3) := dk_154 0 71 (dk_at dksX4_rainsOn_6 2 rfl rfl)
theorem dX4_rainsOn_149 : decode cX4_rainsOn 149 = .ok (.aload_n 0, 1) := dk_42 (dk_at dksX4_rainsOn_6 5 rfl rfl)
theorem dX4_rainsOn_150 : decode cX4_rainsOn 150 = .ok (.getfield 7, 3) := dk_180 0 7 (dk_at dksX4_rainsOn_6 6 rfl rfl)
theorem dX4_rainsOn_153 : decode cX4_rainsOn 153 = .ok (.bipush 26, 2) := dk_16 26 (dk_at dksX4_rainsOn_6 9 rfl rfl)
theorem dX4_rainsOn_155 : decode cX4_rainsOn 155 = .ok (.iload_n 1, 1) := dk_27 (dk_at dksX4_rainsOn_6 11 rfl rfl)
theorem dX4_rainsOn_156 : decode cX4_rainsOn 156 = .ok (.iadd, 1) := dk_96 (dk_at dksX4_rainsOn_6 12 rfl rfl)
theorem dX4_rainsOn_157 : decode cX4_rainsOn 157 = .ok (.dup2, 1) := dk_92 (dk_at dksX4_rainsOn_6 13 rfl rfl)
theorem dX4_rainsOn_158 : decode cX4_rainsOn 158 = .ok (.iaload, 1) := dk_46 (dk_at dksX4_rainsOn_6 14 rfl rfl)
theorem dX4_rainsOn_159 : decode cX4_rainsOn 159 = .ok (.iconst 1, 1) := dk_4 (dk_at dksX4_rainsOn_6 15 rfl rfl)
theorem dX4_rainsOn_160 : decode cX4_rainsOn 160 = .ok (.iadd, 1) := dk_96 (dk_at dksX4_rainsOn_6 16 rfl rfl)
theorem dX4_rainsOn_161 : decode cX4_rainsOn 161 = .ok (.iastore, 1) := dk_79 (dk_at dksX4_rainsOn_6 17 rfl rfl)
theorem dX4_rainsOn_162 : decode cX4_rainsOn 162 = .ok (.aload_n 0, 1) := dk_42 (dk_at dksX4_rainsOn_6 18 rfl rfl)
theorem dX4_rainsOn_163 : decode cX4_rainsOn 163 = .ok (.getfield 7, 3) := dk_180 0 7 (dk_at dksX4_rainsOn_6 19 rfl rfl)
theorem dX4_rainsOn_166 : decode cX4_rainsOn 166 = .ok (.bipush 26, 2) := dk_16 26 (dk_at dksX4_rainsOn_6 22 rfl rfl)
theorem dX4_rainsOn_168 : decode cX4_rainsOn 168 = .ok (.iload_n 1, 1) := dk_27 (dk_at dksX4_rainsOn_7 0 rfl rfl)
theorem dX4_rainsOn_169 : decode cX4_rainsOn 169 = .ok (.iadd, 1) := dk_96 (dk_at dksX4_rainsOn_7 1 rfl rfl)
theorem dX4_rainsOn_170 : decode cX4_rainsOn 170 = .ok (.iaload, 1) := dk_46 (dk_at dksX4_rainsOn_7 2 rfl rfl)
theorem dX4_rainsOn_171 : decode cX4_rainsOn 171 = .ok (.bipush 8, 2) := dk_16 8 (dk_at dksX4_rainsOn_7 3 rfl rfl)
theorem dX4_rainsOn_173 : decode cX4_rainsOn 173 = .ok (.if_icmp .ne 44, 3) := dk_160 0 44 (dk_at dksX4_rainsOn_7 5 rfl rfl)
theorem dX4_rainsOn_176 : decode cX4_rainsOn 176 = .ok (.aload_n 0, 1) := dk_42 (dk_at dksX4_rainsOn_7 8 rfl rfl)
theorem dX4_rainsOn_177 : decode cX4_rainsOn 177 = .ok (.getfield 7, 3) := dk_180 0 7 (dk_at dksX4_rainsOn_7 9 rfl rfl)
theorem dX4_rainsOn_180 : decode cX4_rainsOn 180 = .ok (.bipush 26, 2) := dk_16 26 (dk_at dksX4_rainsOn_7 12 rfl rfl)
theorem dX4_rainsOn_182 : decode cX4_rainsOn 182 = .ok (.iload_n 1, 1) := dk_27 (dk_at dksX4_rainsOn_7 14 rfl rfl)
theorem dX4_rainsOn_183 : decode cX4_rainsOn 183 = .ok (.iadd, 1) := dk_96 (dk_at dksX4_rainsOn_7 15 rfl rfl)
theorem dX4_rainsOn_184 : decode cX4_rainsOn 184 = .ok (.iconst 0, 1) := dk_3 (dk_at dksX4_rainsOn_7 16 rfl rfl)
theorem dX4_rainsOn_185 : decode cX4_rainsOn 185 = .ok (.iastore, 1) := dk_79 (dk_at dksX4_rainsOn_7 17 rfl rfl)
theorem dX4_rainsOn_186 : decode cX4_rainsOn 186 = .ok (.aload_n 0, 1) := dk_42 (dk_at dksX4_rainsOn_7 18 rfl rfl)
theorem dX4_rainsOn_187 : decode cX4_rainsOn 187 = .ok (.getfield 7, 3) := dk_180 0 7 (dk_at dksX4_rainsOn_7 19 rfl rfl)
theorem dX4_rainsOn_190 : decode cX4_rainsOn 190 = .ok (.bipush 20, 2) := dk_16 20 (dk_at dksX4_rainsOn_7 22 rfl rfl)
theorem dX4_rainsOn_192 : decode cX4_rainsOn 192 = .ok (.iload_n 1, 1) := dk_27 (dk_at dksX4_rainsOn_8 0 rfl rfl)
theorem dX4_rainsOn_193 : decode cX4_rainsOn 193 = .ok (.iadd, 1) := dk_96 (dk_at dksX4_rainsOn_8 1 rfl rfl)
theorem dX4_rainsOn_194 : decode cX4_rainsOn 194 = .ok (.dup2, 1) := dk_92 (dk_at dksX4_rainsOn_8 2 rfl rfl)
theorem dX4_rainsOn_195 : decode cX4_rainsOn 195 = .ok (.iaload, 1) := dk_46 (dk_at dksX4_rainsOn_8 3 rfl rfl)
theorem dX4_rainsOn_196 : decode cX4_rainsOn 196 = .ok (.aload_n 0, 1) := dk_42 (dk_at dksX4_rainsOn_8 4 rfl rfl)
theorem dX4_rainsOn_197 : decode cX4_rainsOn 197 = .ok (.getfield 7, 3) := dk_180 0 7 (dk_at dksX4_rainsOn_8 5 rfl rfl)
theorem dX4_rainsOn_200 : decode cX4_rainsOn 200 = .ok (.bipush 20, 2) := dk_16 20 (dk_at dksX4_rainsOn_8 8 rfl rfl)
theorem dX4_rainsOn_202 : decode cX4_rainsOn 202 = .ok (.iload_n 1, 1) := dk_27 (dk_at dksX4_rainsOn_8 10 rfl rfl)
theorem dX4_rainsOn_203 : decode cX4_rainsOn 203 = .ok (.iadd, 1) := dk_96 (dk_at dksX4_rainsOn_8 11 rfl rfl)
theorem dX4_rainsOn_204 : decode cX4_rainsOn 204 = .ok (.iaload, 1) := dk_46 (dk_at dksX4_rainsOn_8 12 rfl rfl)
theorem dX4_rainsOn_205 : decode cX4_rainsOn 205 = .ok (.bipush 9, 2) := dk_16 9 (dk_at dksX4_rainsOn_8 13 rfl rfl)
theorem dX4_rainsOn_207 : decode cX4_rainsOn 207 = .ok (.if_icmp .ge 7, 3) := dk_162 0 7 (dk_at dksX4_rainsOn_8 15 rfl rfl)
theorem dX4_rainsOn_210 : decode cX4_rainsOn 210 = .ok (.iconst 1, 1) := dk_4 (dk_at dksX4_rainsOn_8 18 rfl rfl)
theorem dX4_rainsOn_211 : decode cX4_rainsOn 211 = .ok (.goto 4, 3) := dk_167 0 4 (dk_at dksX4_rainsOn_8 19 rfl rfl)
theorem dX4_rainsOn_214 : decode cX4_rainsOn 214 = .ok (.iconst 0, 1) := dk_3 (dk_at dksX4_rainsOn_8 22 rfl rfl)
theorem dX4_rainsOn_215 : decode cX4_rainsOn 215 = .ok (.iadd, 1) := dk_96 (dk_at dksX4_rainsOn_8 23 rfl rfl)
theorem dX4_rainsOn_216 : decode cX4_rainsOn 216 = .ok (.iastore, 1) := dk_79 (dk_at dksX4_rainsOn_9 0 rfl rfl)
theorem dX4_rainsOn_217 : decode cX4_rainsOn 217 = .ok (.iload_n 2, 1) := dk_28 (dk_at dksX4_rainsOn_9 1 rfl rfl)
theorem dX4_rainsOn_218 : decode cX4_rainsOn 218 = .ok (.iload 4, 2) := dk_21 4 (dk_at dksX4_rainsOn_9 2 rfl rfl)
theorem dX4_rainsOn_220 : decode cX4_rainsOn 220 = .ok (.isub, 1) := dk_100 (dk_at dksX4_rainsOn_9 4 rfl rfl)
theorem dX4_rainsOn_221 : decode cX4_rainsOn 221 = .ok (.ireturn, 1) := dk_172 (dk_at dksX4_rainsOn_9 5 rfl rfl)
abbrev cX4_sets : ByteArray := prog_17_method_54_code
def yX4_sets : MethodName := ⟨RX4, "sets", "(I)V"⟩
def dkwX4_sets_3 : List UInt8 := [3, 79, 177]
abbrev dktX4_sets_3 : List UInt8 := dkwX4_sets_3 ++ []
def dkwX4_sets_2 : List UInt8 := [180, 0, 7, 16, 71, 27, 96, 42, 180, 0, 7, 16, 61, 27, 96, 46, 7, 160, 0, 7, 4, 167, 0, 4]
abbrev dktX4_sets_2 : List UInt8 := dkwX4_sets_2 ++ dktX4_sets_3
def dkwX4_sets_1 : List UInt8 := [4, 46, 158, 0, 7, 3, 167, 0, 14, 42, 180, 0, 7, 16, 61, 27, 96, 46, 4, 96, 79, 42]
abbrev dktX4_sets_1 : List UInt8 := dkwX4_sets_1 ++ dktX4_sets_2
def dkwX4_sets_0 : List UInt8 := [42, 180, 0, 7, 16, 71, 27, 96, 46, 154, 0, 63, 42, 180, 0, 7, 16, 61, 27, 96, 42, 180, 0, 7]
abbrev dktX4_sets_0 : List UInt8 := dkwX4_sets_0 ++ dktX4_sets_1
theorem dksX4_sets_0 : cX4_sets.data.toList.drop 0 = dktX4_sets_0 := by decide +kernel
theorem dksX4_sets_1 : cX4_sets.data.toList.drop 24 = dktX4_sets_1 := dk_seg dksX4_sets_0 24 rfl rfl
theorem dksX4_sets_2 : cX4_sets.data.toList.drop 46 = dktX4_sets_2 := dk_seg dksX4_sets_1 22 rfl rfl
theorem dksX4_sets_3 : cX4_sets.data.toList.drop 70 = dktX4_sets_3 := dk_seg dksX4_sets_2 24 rfl rfl
theorem dX4_sets_0 : decode cX4_sets 0 = .ok (.aload_n 0, 1) := dk_42 (dk_at dksX4_sets_0 0 rfl rfl)
theorem dX4_sets_1 : decode cX4_sets 1 = .ok (.getfield 7, 3) := dk_180 0 7 (dk_at dksX4_sets_0 1 rfl rfl)
theorem dX4_sets_4 : decode cX4_sets 4 = .ok (.bipush 71, 2) := dk_16 71 (dk_at dksX4_sets_0 4 rfl rfl)
theorem dX4_sets_6 : decode cX4_sets 6 = .ok (.iload_n 1, 1) := dk_27 (dk_at dksX4_sets_0 6 rfl rfl)
theorem dX4_sets_7 : decode cX4_sets 7 = .ok (.iadd, 1) := dk_96 (dk_at dksX4_sets_0 7 rfl rfl)
theorem dX4_sets_8 : decode cX4_sets 8 = .ok (.iaload, 1) := dk_46 (dk_at dksX4_sets_0 8 rfl rfl)
theorem dX4_sets_9 : decode cX4_sets 9 = .ok (.ifCond .ne 63, 3) := dk_154 0 63 (dk_at dksX4_sets_0 9 rfl rfl)
theorem dX4_sets_12 : decode cX4_sets 12 = .ok (.aload_n 0, 1) := dk_42 (dk_at dksX4_sets_0 12 rfl rfl)
theorem dX4_sets_13 : decode cX4_sets 13 = .ok (.getfield 7, 3) := dk_180 0 7 (dk_at dksX4_sets_0 13 rfl rfl)
theorem dX4_sets_16 : decode cX4_sets 16 = .ok (.bipush 61, 2) := dk_16 61 (dk_at dksX4_sets_0 16 rfl rfl)
theorem dX4_sets_18 : decode cX4_sets 18 = .ok (.iload_n 1, 1) := dk_27 (dk_at dksX4_sets_0 18 rfl rfl)
theorem dX4_sets_19 : decode cX4_sets 19 = .ok (.iadd, 1) := dk_96 (dk_at dksX4_sets_0 19 rfl rfl)
theorem dX4_sets_20 : decode cX4_sets 20 = .ok (.aload_n 0, 1) := dk_42 (dk_at dksX4_sets_0 20 rfl rfl)
theorem dX4_sets_21 : decode cX4_sets 21 = .ok (.getfield 7, 3) := dk_180 0 7 (dk_at dksX4_sets_0 21 rfl rfl)
theorem dX4_sets_24 : decode cX4_sets 24 = .ok (.iconst 1, 1) := dk_4 (dk_at dksX4_sets_1 0 rfl rfl)
theorem dX4_sets_25 : decode cX4_sets 25 = .ok (.iaload, 1) := dk_46 (dk_at dksX4_sets_1 1 rfl rfl)
theorem dX4_sets_26 : decode cX4_sets 26 = .ok (.ifCond .le 7, 3) := dk_158 0 7 (dk_at dksX4_sets_1 2 rfl rfl)
theorem dX4_sets_29 : decode cX4_sets 29 = .ok (.iconst 0, 1) := dk_3 (dk_at dksX4_sets_1 5 rfl rfl)
theorem dX4_sets_30 : decode cX4_sets 30 = .ok (.goto 14, 3) := dk_167 0 14 (dk_at dksX4_sets_1 6 rfl rfl)
theorem dX4_sets_33 : decode cX4_sets 33 = .ok (.aload_n 0, 1) := dk_42 (dk_at dksX4_sets_1 9 rfl rfl)
theorem dX4_sets_34 : decode cX4_sets 34 = .ok (.getfield 7, 3) := dk_180 0 7 (dk_at dksX4_sets_1 10 rfl rfl)
theorem dX4_sets_37 : decode cX4_sets 37 = .ok (.bipush 61, 2) := dk_16 61 (dk_at dksX4_sets_1 13 rfl rfl)
theorem dX4_sets_39 : decode cX4_sets 39 = .ok (.iload_n 1, 1) := dk_27 (dk_at dksX4_sets_1 15 rfl rfl)
theorem dX4_sets_40 : decode cX4_sets 40 = .ok (.iadd, 1) := dk_96 (dk_at dksX4_sets_1 16 rfl rfl)
theorem dX4_sets_41 : decode cX4_sets 41 = .ok (.iaload, 1) := dk_46 (dk_at dksX4_sets_1 17 rfl rfl)
theorem dX4_sets_42 : decode cX4_sets 42 = .ok (.iconst 1, 1) := dk_4 (dk_at dksX4_sets_1 18 rfl rfl)
theorem dX4_sets_43 : decode cX4_sets 43 = .ok (.iadd, 1) := dk_96 (dk_at dksX4_sets_1 19 rfl rfl)
theorem dX4_sets_44 : decode cX4_sets 44 = .ok (.iastore, 1) := dk_79 (dk_at dksX4_sets_1 20 rfl rfl)
theorem dX4_sets_45 : decode cX4_sets 45 = .ok (.aload_n 0, 1) := dk_42 (dk_at dksX4_sets_1 21 rfl rfl)
theorem dX4_sets_46 : decode cX4_sets 46 = .ok (.getfield 7, 3) := dk_180 0 7 (dk_at dksX4_sets_2 0 rfl rfl)
theorem dX4_sets_49 : decode cX4_sets 49 = .ok (.bipush 71, 2) := dk_16 71 (dk_at dksX4_sets_2 3 rfl rfl)
theorem dX4_sets_51 : decode cX4_sets 51 = .ok (.iload_n 1, 1) := dk_27 (dk_at dksX4_sets_2 5 rfl rfl)
theorem dX4_sets_52 : decode cX4_sets 52 = .ok (.iadd, 1) := dk_96 (dk_at dksX4_sets_2 6 rfl rfl)
theorem dX4_sets_53 : decode cX4_sets 53 = .ok (.aload_n 0, 1) := dk_42 (dk_at dksX4_sets_2 7 rfl rfl)
theorem dX4_sets_54 : decode cX4_sets 54 = .ok (.getfield 7, 3) := dk_180 0 7 (dk_at dksX4_sets_2 8 rfl rfl)
theorem dX4_sets_57 : decode cX4_sets 57 = .ok (.bipush 61, 2) := dk_16 61 (dk_at dksX4_sets_2 11 rfl rfl)
theorem dX4_sets_59 : decode cX4_sets 59 = .ok (.iload_n 1, 1) := dk_27 (dk_at dksX4_sets_2 13 rfl rfl)
theorem dX4_sets_60 : decode cX4_sets 60 = .ok (.iadd, 1) := dk_96 (dk_at dksX4_sets_2 14 rfl rfl)
theorem dX4_sets_61 : decode cX4_sets 61 = .ok (.iaload, 1) := dk_46 (dk_at dksX4_sets_2 15 rfl rfl)
theorem dX4_sets_62 : decode cX4_sets 62 = .ok (.iconst 4, 1) := dk_7 (dk_at dksX4_sets_2 16 rfl rfl)
theorem dX4_sets_63 : decode cX4_sets 63 = .ok (.if_icmp .ne 7, 3) := dk_160 0 7 (dk_at dksX4_sets_2 17 rfl rfl)
theorem dX4_sets_66 : decode cX4_sets 66 = .ok (.iconst 1, 1) := dk_4 (dk_at dksX4_sets_2 20 rfl rfl)
theorem dX4_sets_67 : decode cX4_sets 67 = .ok (.goto 4, 3) := dk_167 0 4 (dk_at dksX4_sets_2 21 rfl rfl)
theorem dX4_sets_70 : decode cX4_sets 70 = .ok (.iconst 0, 1) := dk_3 (dk_at dksX4_sets_3 0 rfl rfl)
theorem dX4_sets_71 : decode cX4_sets 71 = .ok (.iastore, 1) := dk_79 (dk_at dksX4_sets_3 1 rfl rfl)
theorem dX4_sets_72 : decode cX4_sets 72 = .ok (.return_, 1) := dk_177 (dk_at dksX4_sets_3 2 rfl rfl)
abbrev cX4_endsDay : ByteArray := prog_17_method_55_code
def yX4_endsDay : MethodName := ⟨RX4, "endsDay", "()V"⟩
def dkwX4_endsDay_4 : List UInt8 := [167, 255, 228, 177]
abbrev dktX4_endsDay_4 : List UInt8 := dkwX4_endsDay_4 ++ []
def dkwX4_endsDay_3 : List UInt8 := [17, 0, 191, 46, 162, 0, 22, 42, 180, 0, 7, 17, 0, 200, 27, 96, 17, 2, 88, 79, 132, 1, 1]
abbrev dktX4_endsDay_3 : List UInt8 := dkwX4_endsDay_3 ++ dktX4_endsDay_4
def dkwX4_endsDay_2 : List UInt8 := [164, 0, 8, 16, 9, 167, 0, 4, 28, 79, 132, 1, 1, 167, 255, 197, 3, 60, 27, 42, 180, 0, 7]
abbrev dktX4_endsDay_2 : List UInt8 := dkwX4_endsDay_2 ++ dktX4_endsDay_3
def dkwX4_endsDay_1 : List UInt8 := [96, 46, 4, 160, 0, 7, 5, 167, 0, 4, 4, 96, 61, 42, 180, 0, 7, 16, 8, 27, 96, 28, 16, 9]
abbrev dktX4_endsDay_1 : List UInt8 := dkwX4_endsDay_1 ++ dktX4_endsDay_2
def dkwX4_endsDay_0 : List UInt8 := [3, 60, 27, 16, 6, 162, 0, 59, 42, 180, 0, 7, 16, 8, 27, 96, 46, 42, 180, 0, 7, 16, 14, 27]
abbrev dktX4_endsDay_0 : List UInt8 := dkwX4_endsDay_0 ++ dktX4_endsDay_1
theorem dksX4_endsDay_0 : cX4_endsDay.data.toList.drop 0 = dktX4_endsDay_0 := by decide +kernel
theorem dksX4_endsDay_1 : cX4_endsDay.data.toList.drop 24 = dktX4_endsDay_1 := dk_seg dksX4_endsDay_0 24 rfl rfl
theorem dksX4_endsDay_2 : cX4_endsDay.data.toList.drop 48 = dktX4_endsDay_2 := dk_seg dksX4_endsDay_1 24 rfl rfl
theorem dksX4_endsDay_3 : cX4_endsDay.data.toList.drop 71 = dktX4_endsDay_3 := dk_seg dksX4_endsDay_2 23 rfl rfl
theorem dksX4_endsDay_4 : cX4_endsDay.data.toList.drop 94 = dktX4_endsDay_4 := dk_seg dksX4_endsDay_3 23 rfl rfl
theorem dX4_endsDay_0 : decode cX4_endsDay 0 = .ok (.iconst 0, 1) := dk_3 (dk_at dksX4_endsDay_0 0 rfl rfl)
theorem dX4_endsDay_1 : decode cX4_endsDay 1 = .ok (.istore_n 1, 1) := dk_60 (dk_at dksX4_endsDay_0 1 rfl rfl)
theorem dX4_endsDay_2 : decode cX4_endsDay 2 = .ok (.iload_n 1, 1) := dk_27 (dk_at dksX4_endsDay_0 2 rfl rfl)
theorem dX4_endsDay_3 : decode cX4_endsDay 3 = .ok (.bipush 6, 2) := dk_16 6 (dk_at dksX4_endsDay_0 3 rfl rfl)
theorem dX4_endsDay_5 : decode cX4_endsDay 5 = .ok (.if_icmp .ge 59, 3) := dk_162 0 59 (dk_at dksX4_endsDay_0 5 rfl rfl)
theorem dX4_endsDay_8 : decode cX4_endsDay 8 = .ok (.aload_n 0, 1) := dk_42 (dk_at dksX4_endsDay_0 8 rfl rfl)
theorem dX4_endsDay_9 : decode cX4_endsDay 9 = .ok (.getfield 7, 3) := dk_180 0 7 (dk_at dksX4_endsDay_0 9 rfl rfl)
theorem dX4_endsDay_12 : decode cX4_endsDay 12 = .ok (.bipush 8, 2) := dk_16 8 (dk_at dksX4_endsDay_0 12 rfl rfl)
theorem dX4_endsDay_14 : decode cX4_endsDay 14 = .ok (.iload_n 1, 1) := dk_27 (dk_at dksX4_endsDay_0 14 rfl rfl)
theorem dX4_endsDay_15 : decode cX4_endsDay 15 = .ok (.iadd, 1) := dk_96 (dk_at dksX4_endsDay_0 15 rfl rfl)
theorem dX4_endsDay_16 : decode cX4_endsDay 16 = .ok (.iaload, 1) := dk_46 (dk_at dksX4_endsDay_0 16 rfl rfl)
theorem dX4_endsDay_17 : decode cX4_endsDay 17 = .ok (.aload_n 0, 1) := dk_42 (dk_at dksX4_endsDay_0 17 rfl rfl)
theorem dX4_endsDay_18 : decode cX4_endsDay 18 = .ok (.getfield 7, 3) := dk_180 0 7 (dk_at dksX4_endsDay_0 18 rfl rfl)
theorem dX4_endsDay_21 : decode cX4_endsDay 21 = .ok (.bipush 14, 2) := dk_16 14 (dk_at dksX4_endsDay_0 21 rfl rfl)
theorem dX4_endsDay_23 : decode cX4_endsDay 23 = .ok (.iload_n 1, 1) := dk_27 (dk_at dksX4_endsDay_0 23 rfl rfl)
theorem dX4_endsDay_24 : decode cX4_endsDay 24 = .ok (.iadd, 1) := dk_96 (dk_at dksX4_endsDay_1 0 rfl rfl)
theorem dX4_endsDay_25 : decode cX4_endsDay 25 = .ok (.iaload, 1) := dk_46 (dk_at dksX4_endsDay_1 1 rfl rfl)
theorem dX4_endsDay_26 : decode cX4_endsDay 26 = .ok (.iconst 1, 1) := dk_4 (dk_at dksX4_endsDay_1 2 rfl rfl)
theorem dX4_endsDay_27 : decode cX4_endsDay 27 = .ok (.if_icmp .ne 7, 3) := dk_160 0 7 (dk_at dksX4_endsDay_1 3 rfl rfl)
theorem dX4_endsDay_30 : decode cX4_endsDay 30 = .ok (.iconst 2, 1) := dk_5 (dk_at dksX4_endsDay_1 6 rfl rfl)
theorem dX4_endsDay_31 : decode cX4_endsDay 31 = .ok (.goto 4, 3) := dk_167 0 4 (dk_at dksX4_endsDay_1 7 rfl rfl)
theorem dX4_endsDay_34 : decode cX4_endsDay 34 = .ok (.iconst 1, 1) := dk_4 (dk_at dksX4_endsDay_1 10 rfl rfl)
theorem dX4_endsDay_35 : decode cX4_endsDay 35 = .ok (.iadd, 1) := dk_96 (dk_at dksX4_endsDay_1 11 rfl rfl)
theorem dX4_endsDay_36 : decode cX4_endsDay 36 = .ok (.istore_n 2, 1) := dk_61 (dk_at dksX4_endsDay_1 12 rfl rfl)
theorem dX4_endsDay_37 : decode cX4_endsDay 37 = .ok (.aload_n 0, 1) := dk_42 (dk_at dksX4_endsDay_1 13 rfl rfl)
theorem dX4_endsDay_38 : decode cX4_endsDay 38 = .ok (.getfield 7, 3) := dk_180 0 7 (dk_at dksX4_endsDay_1 14 rfl rfl)
theorem dX4_endsDay_41 : decode cX4_endsDay 41 = .ok (.bipush 8, 2) := dk_16 8 (dk_at dksX4_endsDay_1 17 rfl rfl)
theorem dX4_endsDay_43 : decode cX4_endsDay 43 = .ok (.iload_n 1, 1) := dk_27 (dk_at dksX4_endsDay_1 19 rfl rfl)
theorem dX4_endsDay_44 : decode cX4_endsDay 44 = .ok (.iadd, 1) := dk_96 (dk_at dksX4_endsDay_1 20 rfl rfl)
theorem dX4_endsDay_45 : decode cX4_endsDay 45 = .ok (.iload_n 2, 1) := dk_28 (dk_at dksX4_endsDay_1 21 rfl rfl)
theorem dX4_endsDay_46 : decode cX4_endsDay 46 = .ok (.bipush 9, 2) := dk_16 9 (dk_at dksX4_endsDay_1 22 rfl rfl)
theorem dX4_endsDay_48 : decode cX4_endsDay 48 = .ok (.if_icmp .le 8, 3) := dk_164 0 8 (dk_at dksX4_endsDay_2 0 rfl rfl)
theorem dX4_endsDay_51 : decode cX4_endsDay 51 = .ok (.bipush 9, 2) := dk_16 9 (dk_at dksX4_endsDay_2 3 rfl rfl)
theorem dX4_endsDay_53 : decode cX4_endsDay 53 = .ok (.goto 4, 3) := dk_167 0 4 (dk_at dksX4_endsDay_2 5 rfl rfl)
theorem dX4_endsDay_56 : decode cX4_endsDay 56 = .ok (.iload_n 2, 1) := dk_28 (dk_at dksX4_endsDay_2 8 rfl rfl)
theorem dX4_endsDay_57 : decode cX4_endsDay 57 = .ok (.iastore, 1) := dk_79 (dk_at dksX4_endsDay_2 9 rfl rfl)
theorem dX4_endsDay_58 : decode cX4_endsDay 58 = .ok (.iinc 1 1, 3) := dk_132 1 1 (dk_at dksX4_endsDay_2 10 rfl rfl)
theorem dX4_endsDay_61 : decode cX4_endsDay 61 = .ok (.goto (-59), 3) := dk_167 255 197 (dk_at dksX4_endsDay_2 13 rfl rfl)
theorem dX4_endsDay_64 : decode cX4_endsDay 64 = .ok (.iconst 0, 1) := dk_3 (dk_at dksX4_endsDay_2 16 rfl rfl)
theorem dX4_endsDay_65 : decode cX4_endsDay 65 = .ok (.istore_n 1, 1) := dk_60 (dk_at dksX4_endsDay_2 17 rfl rfl)
theorem dX4_endsDay_66 : decode cX4_endsDay 66 = .ok (.iload_n 1, 1) := dk_27 (dk_at dksX4_endsDay_2 18 rfl rfl)
theorem dX4_endsDay_67 : decode cX4_endsDay 67 = .ok (.aload_n 0, 1) := dk_42 (dk_at dksX4_endsDay_2 19 rfl rfl)
theorem dX4_endsDay_68 : decode cX4_endsDay 68 = .ok (.getfield 7, 3) := dk_180 0 7 (dk_at dksX4_endsDay_2 20 rfl rfl)
theorem dX4_endsDay_71 : decode cX4_endsDay 71 = .ok (.sipush 191, 3) := dk_17 0 191 (dk_at dksX4_endsDay_3 0 rfl rfl)
theorem dX4_endsDay_74 : decode cX4_endsDay 74 = .ok (.iaload, 1) := dk_46 (dk_at dksX4_endsDay_3 3 rfl rfl)
theorem dX4_endsDay_75 : decode cX4_endsDay 75 = .ok (.if_icmp .ge 22, 3) := dk_162 0 22 (dk_at dksX4_endsDay_3 4 rfl rfl)
theorem dX4_endsDay_78 : decode cX4_endsDay 78 = .ok (.aload_n 0, 1) := dk_42 (dk_at dksX4_endsDay_3 7 rfl rfl)
theorem dX4_endsDay_79 : decode cX4_endsDay 79 = .ok (.getfield 7, 3) := dk_180 0 7 (dk_at dksX4_endsDay_3 8 rfl rfl)
theorem dX4_endsDay_82 : decode cX4_endsDay 82 = .ok (.sipush 200, 3) := dk_17 0 200 (dk_at dksX4_endsDay_3 11 rfl rfl)
theorem dX4_endsDay_85 : decode cX4_endsDay 85 = .ok (.iload_n 1, 1) := dk_27 (dk_at dksX4_endsDay_3 14 rfl rfl)
theorem dX4_endsDay_86 : decode cX4_endsDay 86 = .ok (.iadd, 1) := dk_96 (dk_at dksX4_endsDay_3 15 rfl rfl)
theorem dX4_endsDay_87 : decode cX4_endsDay 87 = .ok (.sipush 600, 3) := dk_17 2 88 (dk_at dksX4_endsDay_3 16 rfl rfl)
theorem dX4_endsDay_90 : decode cX4_endsDay 90 = .ok (.iastore, 1) := dk_79 (dk_at dksX4_endsDay_3 19 rfl rfl)
theorem dX4_endsDay_91 : decode cX4_endsDay 91 = .ok (.iinc 1 1, 3) := dk_132 1 1 (dk_at dksX4_endsDay_3 20 rfl rfl)
theorem dX4_endsDay_94 : decode cX4_endsDay 94 = .ok (.goto (-28), 3) := dk_167 255 228 (dk_at dksX4_endsDay_4 0 rfl rfl)
theorem dX4_endsDay_97 : decode cX4_endsDay 97 = .ok (.return_, 1) := dk_177 (dk_at dksX4_endsDay_4 3 rfl rfl)
abbrev cX4_wornIn : ByteArray := prog_17_method_58_code
def yX4_wornIn : MethodName := ⟨RX4, "wornIn", "(I)I"⟩
def dkwX4_wornIn_3 : List UInt8 := [16, 241, 172]
abbrev dktX4_wornIn_3 : List UInt8 := dkwX4_wornIn_3 ++ []
def dkwX4_wornIn_2 : List UInt8 := [167, 0, 4, 3, 61, 28, 153, 0, 18, 16, 8, 42, 180, 0, 7, 16, 26, 27, 96, 46, 100, 167, 0, 5]
abbrev dktX4_wornIn_2 : List UInt8 := dkwX4_wornIn_2 ++ dktX4_wornIn_3
def dkwX4_wornIn_1 : List UInt8 := [180, 0, 7, 4, 46, 8, 161, 0, 21, 42, 180, 0, 7, 16, 20, 27, 96, 46, 16, 9, 162, 0, 7, 4]
abbrev dktX4_wornIn_1 : List UInt8 := dkwX4_wornIn_1 ++ dktX4_wornIn_2
def dkwX4_wornIn_0 : List UInt8 := [27, 184, 0, 50, 154, 0, 6, 16, 245, 172, 42, 180, 0, 7, 16, 14, 27, 96, 46, 154, 0, 31, 42]
abbrev dktX4_wornIn_0 : List UInt8 := dkwX4_wornIn_0 ++ dktX4_wornIn_1
theorem dksX4_wornIn_0 : cX4_wornIn.data.toList.drop 0 = dktX4_wornIn_0 := by decide +kernel
theorem dksX4_wornIn_1 : cX4_wornIn.data.toList.drop 23 = dktX4_wornIn_1 := dk_seg dksX4_wornIn_0 23 rfl rfl
theorem dksX4_wornIn_2 : cX4_wornIn.data.toList.drop 47 = dktX4_wornIn_2 := dk_seg dksX4_wornIn_1 24 rfl rfl
theorem dksX4_wornIn_3 : cX4_wornIn.data.toList.drop 71 = dktX4_wornIn_3 := dk_seg dksX4_wornIn_2 24 rfl rfl
theorem dX4_wornIn_0 : decode cX4_wornIn 0 = .ok (.iload_n 1, 1) := dk_27 (dk_at dksX4_wornIn_0 0 rfl rfl)
theorem dX4_wornIn_1 : decode cX4_wornIn 1 = .ok (.invokestatic 50, 3) := dk_184 0 50 (dk_at dksX4_wornIn_0 1 rfl rfl)
theorem dX4_wornIn_4 : decode cX4_wornIn 4 = .ok (.ifCond .ne 6, 3) := dk_154 0 6 (dk_at dksX4_wornIn_0 4 rfl rfl)
theorem dX4_wornIn_7 : decode cX4_wornIn 7 = .ok (.bipush (-11), 2) := dk_16 245 (dk_at dksX4_wornIn_0 7 rfl rfl)
theorem dX4_wornIn_9 : decode cX4_wornIn 9 = .ok (.ireturn, 1) := dk_172 (dk_at dksX4_wornIn_0 9 rfl rfl)
theorem dX4_wornIn_10 : decode cX4_wornIn 10 = .ok (.aload_n 0, 1) := dk_42 (dk_at dksX4_wornIn_0 10 rfl rfl)
theorem dX4_wornIn_11 : decode cX4_wornIn 11 = .ok (.getfield 7, 3) := dk_180 0 7 (dk_at dksX4_wornIn_0 11 rfl rfl)
theorem dX4_wornIn_14 : decode cX4_wornIn 14 = .ok (.bipush 14, 2) := dk_16 14 (dk_at dksX4_wornIn_0 14 rfl rfl)
theorem dX4_wornIn_16 : decode cX4_wornIn 16 = .ok (.iload_n 1, 1) := dk_27 (dk_at dksX4_wornIn_0 16 rfl rfl)
theorem dX4_wornIn_17 : decode cX4_wornIn 17 = .ok (.iadd, 1) := dk_96 (dk_at dksX4_wornIn_0 17 rfl rfl)
theorem dX4_wornIn_18 : decode cX4_wornIn 18 = .ok (.iaload, 1) := dk_46 (dk_at dksX4_wornIn_0 18 rfl rfl)
theorem dX4_wornIn_19 : decode cX4_wornIn 19 = .ok (.ifCond .ne 31, 3) := dk_154 0 31 (dk_at dksX4_wornIn_0 19 rfl rfl)
theorem dX4_wornIn_22 : decode cX4_wornIn 22 = .ok (.aload_n 0, 1) := dk_42 (dk_at dksX4_wornIn_0 22 rfl rfl)
theorem dX4_wornIn_23 : decode cX4_wornIn 23 = .ok (.getfield 7, 3) := dk_180 0 7 (dk_at dksX4_wornIn_1 0 rfl rfl)
theorem dX4_wornIn_26 : decode cX4_wornIn 26 = .ok (.iconst 1, 1) := dk_4 (dk_at dksX4_wornIn_1 3 rfl rfl)
theorem dX4_wornIn_27 : decode cX4_wornIn 27 = .ok (.iaload, 1) := dk_46 (dk_at dksX4_wornIn_1 4 rfl rfl)
theorem dX4_wornIn_28 : decode cX4_wornIn 28 = .ok (.iconst 5, 1) := dk_8 (dk_at dksX4_wornIn_1 5 rfl rfl)
theorem dX4_wornIn_29 : decode cX4_wornIn 29 = .ok (.if_icmp .lt 21, 3) := dk_161 0 21 (dk_at dksX4_wornIn_1 6 rfl rfl)
theorem dX4_wornIn_32 : decode cX4_wornIn 32 = .ok (.aload_n 0, 1) := dk_42 (dk_at dksX4_wornIn_1 9 rfl rfl)
theorem dX4_wornIn_33 : decode cX4_wornIn 33 = .ok (.getfield 7, 3) := dk_180 0 7 (dk_at dksX4_wornIn_1 10 rfl rfl)
theorem dX4_wornIn_36 : decode cX4_wornIn 36 = .ok (.bipush 20, 2) := dk_16 20 (dk_at dksX4_wornIn_1 13 rfl rfl)
theorem dX4_wornIn_38 : decode cX4_wornIn 38 = .ok (.iload_n 1, 1) := dk_27 (dk_at dksX4_wornIn_1 15 rfl rfl)
theorem dX4_wornIn_39 : decode cX4_wornIn 39 = .ok (.iadd, 1) := dk_96 (dk_at dksX4_wornIn_1 16 rfl rfl)
theorem dX4_wornIn_40 : decode cX4_wornIn 40 = .ok (.iaload, 1) := dk_46 (dk_at dksX4_wornIn_1 17 rfl rfl)
theorem dX4_wornIn_41 : decode cX4_wornIn 41 = .ok (.bipush 9, 2) := dk_16 9 (dk_at dksX4_wornIn_1 18 rfl rfl)
theorem dX4_wornIn_43 : decode cX4_wornIn 43 = .ok (.if_icmp .ge 7, 3) := dk_162 0 7 (dk_at dksX4_wornIn_1 20 rfl rfl)
theorem dX4_wornIn_46 : decode cX4_wornIn 46 = .ok (.iconst 1, 1) := dk_4 (dk_at dksX4_wornIn_1 23 rfl rfl)
theorem dX4_wornIn_47 : decode cX4_wornIn 47 = .ok (.goto 4, 3) := dk_167 0 4 (dk_at dksX4_wornIn_2 0 rfl rfl)
theorem dX4_wornIn_50 : decode cX4_wornIn 50 = .ok (.iconst 0, 1) := dk_3 (dk_at dksX4_wornIn_2 3 rfl rfl)
theorem dX4_wornIn_51 : decode cX4_wornIn 51 = .ok (.istore_n 2, 1) := dk_61 (dk_at dksX4_wornIn_2 4 rfl rfl)
theorem dX4_wornIn_52 : decode cX4_wornIn 52 = .ok (.iload_n 2, 1) := dk_28 (dk_at dksX4_wornIn_2 5 rfl rfl)
theorem dX4_wornIn_53 : decode cX4_wornIn 53 = .ok (.ifCond .eq 18, 3) := dk_153 0 18 (dk_at dksX4_wornIn_2 6 rfl rfl)
theorem dX4_wornIn_56 : decode cX4_wornIn 56 = .ok (.bipush 8, 2) := dk_16 8 (dk_at dksX4_wornIn_2 9 rfl rfl)
theorem dX4_wornIn_58 : decode cX4_wornIn 58 = .ok (.aload_n 0, 1) := dk_42 (dk_at dksX4_wornIn_2 11 rfl rfl)
theorem dX4_wornIn_59 : decode cX4_wornIn 59 = .ok (.getfield 7, 3) := dk_180 0 7 (dk_at dksX4_wornIn_2 12 rfl rfl)
theorem dX4_wornIn_62 : decode cX4_wornIn 62 = .ok (.bipush 26, 2) := dk_16 26 (dk_at dksX4_wornIn_2 15 rfl rfl)
theorem dX4_wornIn_64 : decode cX4_wornIn 64 = .ok (.iload_n 1, 1) := dk_27 (dk_at dksX4_wornIn_2 17 rfl rfl)
theorem dX4_wornIn_65 : decode cX4_wornIn 65 = .ok (.iadd, 1) := dk_96 (dk_at dksX4_wornIn_2 18 rfl rfl)
theorem dX4_wornIn_66 : decode cX4_wornIn 66 = .ok (.iaload, 1) := dk_46 (dk_at dksX4_wornIn_2 19 rfl rfl)
theorem dX4_wornIn_67 : decode cX4_wornIn 67 = .ok (.isub, 1) := dk_100 (dk_at dksX4_wornIn_2 20 rfl rfl)
theorem dX4_wornIn_68 : decode cX4_wornIn 68 = .ok (.goto 5, 3) := dk_167 0 5 (dk_at dksX4_wornIn_2 21 rfl rfl)
theorem dX4_wornIn_71 : decode cX4_wornIn 71 = .ok (.bipush (-15), 2) := dk_16 241 (dk_at dksX4_wornIn_3 0 rfl rfl)
theorem dX4_wornIn_73 : decode cX4_wornIn 73 = .ok (.ireturn, 1) := dk_172 (dk_at dksX4_wornIn_3 2 rfl rfl)
abbrev cX4_append : ByteArray := prog_17_method_59_code
def yX4_append : MethodName := ⟨RX4, "append", "(I)I"⟩
def dkwX4_append_2 : List UInt8 := [42, 180, 0, 148, 172]
abbrev dktX4_append_2 : List UInt8 := dkwX4_append_2 ++ []
def dkwX4_append_1 : List UInt8 := [16, 243, 172, 42, 180, 0, 22, 42, 180, 0, 148, 27, 146, 85, 42, 89, 180, 0, 148, 4, 96, 181, 0, 148]
abbrev dktX4_append_1 : List UInt8 := dkwX4_append_1 ++ dktX4_append_2
def dkwX4_append_0 : List UInt8 := [27, 16, 32, 16, 126, 184, 0, 46, 154, 0, 6, 16, 244, 172, 42, 180, 0, 148, 16, 60, 160, 0, 6]
abbrev dktX4_append_0 : List UInt8 := dkwX4_append_0 ++ dktX4_append_1
theorem dksX4_append_0 : cX4_append.data.toList.drop 0 = dktX4_append_0 := by decide +kernel
theorem dksX4_append_1 : cX4_append.data.toList.drop 23 = dktX4_append_1 := dk_seg dksX4_append_0 23 rfl rfl
theorem dksX4_append_2 : cX4_append.data.toList.drop 47 = dktX4_append_2 := dk_seg dksX4_append_1 24 rfl rfl
theorem dX4_append_0 : decode cX4_append 0 = .ok (.iload_n 1, 1) := dk_27 (dk_at dksX4_append_0 0 rfl rfl)
theorem dX4_append_1 : decode cX4_append 1 = .ok (.bipush 32, 2) := dk_16 32 (dk_at dksX4_append_0 1 rfl rfl)
theorem dX4_append_3 : decode cX4_append 3 = .ok (.bipush 126, 2) := dk_16 126 (dk_at dksX4_append_0 3 rfl rfl)
theorem dX4_append_5 : decode cX4_append 5 = .ok (.invokestatic 46, 3) := dk_184 0 46 (dk_at dksX4_append_0 5 rfl rfl)
theorem dX4_append_8 : decode cX4_append 8 = .ok (.ifCond .ne 6, 3) := dk_154 0 6 (dk_at dksX4_append_0 8 rfl rfl)
theorem dX4_append_11 : decode cX4_append 11 = .ok (.bipush (-12), 2) := dk_16 244 (dk_at dksX4_append_0 11 rfl rfl)
theorem dX4_append_13 : decode cX4_append 13 = .ok (.ireturn, 1) := dk_172 (dk_at dksX4_append_0 13 rfl rfl)
theorem dX4_append_14 : decode cX4_append 14 = .ok (.aload_n 0, 1) := dk_42 (dk_at dksX4_append_0 14 rfl rfl)
theorem dX4_append_15 : decode cX4_append 15 = .ok (.getfield 148, 3) := dk_180 0 148 (dk_at dksX4_append_0 15 rfl rfl)
theorem dX4_append_18 : decode cX4_append 18 = .ok (.bipush 60, 2) := dk_16 60 (dk_at dksX4_append_0 18 rfl rfl)
theorem dX4_append_20 : decode cX4_append 20 = .ok (.if_icmp .ne 6, 3) := dk_160 0 6 (dk_at dksX4_append_0 20 rfl rfl)
theorem dX4_append_23 : decode cX4_append 23 = .ok (.bipush (-13), 2) := dk_16 243 (dk_at dksX4_append_1 0 rfl rfl)
theorem dX4_append_25 : decode cX4_append 25 = .ok (.ireturn, 1) := dk_172 (dk_at dksX4_append_1 2 rfl rfl)
theorem dX4_append_26 : decode cX4_append 26 = .ok (.aload_n 0, 1) := dk_42 (dk_at dksX4_append_1 3 rfl rfl)
theorem dX4_append_27 : decode cX4_append 27 = .ok (.getfield 22, 3) := dk_180 0 22 (dk_at dksX4_append_1 4 rfl rfl)
theorem dX4_append_30 : decode cX4_append 30 = .ok (.aload_n 0, 1) := dk_42 (dk_at dksX4_append_1 7 rfl rfl)
theorem dX4_append_31 : decode cX4_append 31 = .ok (.getfield 148, 3) := dk_180 0 148 (dk_at dksX4_append_1 8 rfl rfl)
theorem dX4_append_34 : decode cX4_append 34 = .ok (.iload_n 1, 1) := dk_27 (dk_at dksX4_append_1 11 rfl rfl)
theorem dX4_append_35 : decode cX4_append 35 = .ok (.i2c, 1) := dk_146 (dk_at dksX4_append_1 12 rfl rfl)
theorem dX4_append_36 : decode cX4_append 36 = .ok (.castore, 1) := dk_85 (dk_at dksX4_append_1 13 rfl rfl)
theorem dX4_append_37 : decode cX4_append 37 = .ok (.aload_n 0, 1) := dk_42 (dk_at dksX4_append_1 14 rfl rfl)
theorem dX4_append_38 : decode cX4_append 38 = .ok (.dup, 1) := dk_89 (dk_at dksX4_append_1 15 rfl rfl)
theorem dX4_append_39 : decode cX4_append 39 = .ok (.getfield 148, 3) := dk_180 0 148 (dk_at dksX4_append_1 16 rfl rfl)
theorem dX4_append_42 : decode cX4_append 42 = .ok (.iconst 1, 1) := dk_4 (dk_at dksX4_append_1 19 rfl rfl)
theorem dX4_append_43 : decode cX4_append 43 = .ok (.iadd, 1) := dk_96 (dk_at dksX4_append_1 20 rfl rfl)
theorem dX4_append_44 : decode cX4_append 44 = .ok (.putfield 148, 3) := dk_181 0 148 (dk_at dksX4_append_1 21 rfl rfl)
theorem dX4_append_47 : decode cX4_append 47 = .ok (.aload_n 0, 1) := dk_42 (dk_at dksX4_append_2 0 rfl rfl)
theorem dX4_append_48 : decode cX4_append 48 = .ok (.getfield 148, 3) := dk_180 0 148 (dk_at dksX4_append_2 1 rfl rfl)
theorem dX4_append_51 : decode cX4_append 51 = .ok (.ireturn, 1) := dk_172 (dk_at dksX4_append_2 4 rfl rfl)
abbrev cX4_run : ByteArray := prog_17_method_70_code
def yX4_run : MethodName := ⟨RX4, "run", "()I"⟩
def dkwX4_run_2 : List UInt8 := [28, 182, 0, 65, 182, 0, 77, 172, 132, 2, 1, 167, 255, 226, 42, 27, 182, 0, 77, 172]
abbrev dktX4_run_2 : List UInt8 := dkwX4_run_2 ++ []
def dkwX4_run_1 : List UInt8 := [182, 0, 68, 3, 61, 28, 27, 162, 0, 31, 42, 7, 28, 104, 182, 0, 214, 156, 0, 15, 42, 42, 16, 15]
abbrev dktX4_run_1 : List UInt8 := dkwX4_run_1 ++ dktX4_run_2
def dkwX4_run_0 : List UInt8 := [42, 182, 0, 211, 60, 42, 180, 0, 172, 153, 0, 12, 17, 252, 24, 42, 180, 0, 169, 100, 172, 42]
abbrev dktX4_run_0 : List UInt8 := dkwX4_run_0 ++ dktX4_run_1
theorem dksX4_run_0 : cX4_run.data.toList.drop 0 = dktX4_run_0 := by decide +kernel
theorem dksX4_run_1 : cX4_run.data.toList.drop 22 = dktX4_run_1 := dk_seg dksX4_run_0 22 rfl rfl
theorem dksX4_run_2 : cX4_run.data.toList.drop 46 = dktX4_run_2 := dk_seg dksX4_run_1 24 rfl rfl
theorem dX4_run_0 : decode cX4_run 0 = .ok (.aload_n 0, 1) := dk_42 (dk_at dksX4_run_0 0 rfl rfl)
theorem dX4_run_1 : decode cX4_run 1 = .ok (.invokevirtual 211, 3) := dk_182 0 211 (dk_at dksX4_run_0 1 rfl rfl)
theorem dX4_run_4 : decode cX4_run 4 = .ok (.istore_n 1, 1) := dk_60 (dk_at dksX4_run_0 4 rfl rfl)
theorem dX4_run_5 : decode cX4_run 5 = .ok (.aload_n 0, 1) := dk_42 (dk_at dksX4_run_0 5 rfl rfl)
theorem dX4_run_6 : decode cX4_run 6 = .ok (.getfield 172, 3) := dk_180 0 172 (dk_at dksX4_run_0 6 rfl rfl)
theorem dX4_run_9 : decode cX4_run 9 = .ok (.ifCond .eq 12, 3) := dk_153 0 12 (dk_at dksX4_run_0 9 rfl rfl)
theorem dX4_run_12 : decode cX4_run 12 = .ok (.sipush (-1000), 3) := dk_17 252 24 (dk_at dksX4_run_0 12 rfl rfl)
theorem dX4_run_15 : decode cX4_run 15 = .ok (.aload_n 0, 1) := dk_42 (dk_at dksX4_run_0 15 rfl rfl)
theorem dX4_run_16 : decode cX4_run 16 = .ok (.getfield 169, 3) := dk_180 0 169 (dk_at dksX4_run_0 16 rfl rfl)
theorem dX4_run_19 : decode cX4_run 19 = .ok (.isub, 1) := dk_100 (dk_at dksX4_run_0 19 rfl rfl)
theorem dX4_run_20 : decode cX4_run 20 = .ok (.ireturn, 1) := dk_172 (dk_at dksX4_run_0 20 rfl rfl)
theorem dX4_run_21 : decode cX4_run 21 = .ok (.aload_n 0, 1) := dk_42 (dk_at dksX4_run_0 21 rfl rfl)
theorem dX4_run_22 : decode cX4_run 22 = .ok (.invokevirtual 68, 3) := dk_182 0 68 (dk_at dksX4_run_1 0 rfl rfl)
theorem dX4_run_25 : decode cX4_run 25 = .ok (.iconst 0, 1) := dk_3 (dk_at dksX4_run_1 3 rfl rfl)
theorem dX4_run_26 : decode cX4_run 26 = .ok (.istore_n 2, 1) := dk_61 (dk_at dksX4_run_1 4 rfl rfl)
theorem dX4_run_27 : decode cX4_run 27 = .ok (.iload_n 2, 1) := dk_28 (dk_at dksX4_run_1 5 rfl rfl)
theorem dX4_run_28 : decode cX4_run 28 = .ok (.iload_n 1, 1) := dk_27 (dk_at dksX4_run_1 6 rfl rfl)
theorem dX4_run_29 : decode cX4_run 29 = .ok (.if_icmp .ge 31, 3) := dk_162 0 31 (dk_at dksX4_run_1 7 rfl rfl)
theorem dX4_run_32 : decode cX4_run 32 = .ok (.aload_n 0, 1) := dk_42 (dk_at dksX4_run_1 10 rfl rfl)
theorem dX4_run_33 : decode cX4_run 33 = .ok (.iconst 4, 1) := dk_7 (dk_at dksX4_run_1 11 rfl rfl)
theorem dX4_run_34 : decode cX4_run 34 = .ok (.iload_n 2, 1) := dk_28 (dk_at dksX4_run_1 12 rfl rfl)
theorem dX4_run_35 : decode cX4_run 35 = .ok (.imul, 1) := dk_104 (dk_at dksX4_run_1 13 rfl rfl)
theorem dX4_run_36 : decode cX4_run 36 = .ok (.invokevirtual 214, 3) := dk_182 0 214 (dk_at dksX4_run_1 14 rfl rfl)
theorem dX4_run_39 : decode cX4_run 39 = .ok (.ifCond .ge 15, 3) := dk_156 0 15 (dk_at dksX4_run_1 17 rfl rfl)
theorem dX4_run_42 : decode cX4_run 42 = .ok (.aload_n 0, 1) := dk_42 (dk_at dksX4_run_1 20 rfl rfl)
theorem dX4_run_43 : decode cX4_run 43 = .ok (.aload_n 0, 1) := dk_42 (dk_at dksX4_run_1 21 rfl rfl)
theorem dX4_run_44 : decode cX4_run 44 = .ok (.bipush 15, 2) := dk_16 15 (dk_at dksX4_run_1 22 rfl rfl)
theorem dX4_run_46 : decode cX4_run 46 = .ok (.iload_n 2, 1) := dk_28 (dk_at dksX4_run_2 0 rfl rfl)
theorem dX4_run_47 : decode cX4_run 47 = .ok (.invokevirtual 65, 3) := dk_182 0 65 (dk_at dksX4_run_2 1 rfl rfl)
theorem dX4_run_50 : decode cX4_run 50 = .ok (.invokevirtual 77, 3) := dk_182 0 77 (dk_at dksX4_run_2 4 rfl rfl)
theorem dX4_run_53 : decode cX4_run 53 = .ok (.ireturn, 1) := dk_172 (dk_at dksX4_run_2 7 rfl rfl)
theorem dX4_run_54 : decode cX4_run 54 = .ok (.iinc 2 1, 3) := dk_132 2 1 (dk_at dksX4_run_2 8 rfl rfl)
theorem dX4_run_57 : decode cX4_run 57 = .ok (.goto (-30), 3) := dk_167 255 226 (dk_at dksX4_run_2 11 rfl rfl)
theorem dX4_run_60 : decode cX4_run 60 = .ok (.aload_n 0, 1) := dk_42 (dk_at dksX4_run_2 14 rfl rfl)
theorem dX4_run_61 : decode cX4_run 61 = .ok (.iload_n 1, 1) := dk_27 (dk_at dksX4_run_2 15 rfl rfl)
theorem dX4_run_62 : decode cX4_run 62 = .ok (.invokevirtual 77, 3) := dk_182 0 77 (dk_at dksX4_run_2 16 rfl rfl)
theorem dX4_run_65 : decode cX4_run 65 = .ok (.ireturn, 1) := dk_172 (dk_at dksX4_run_2 19 rfl rfl)
abbrev cX4_readsText : ByteArray := prog_17_method_68_code
def yX4_readsText : MethodName := ⟨RX4, "readsText", "()I"⟩
def dkwX4_readsText_4 : List UInt8 := [167, 0, 4, 3, 181, 0, 172, 42, 3, 181, 0, 148, 27, 172]
abbrev dktX4_readsText_4 : List UInt8 := dkwX4_readsText_4 ++ []
def dkwX4_readsText_3 : List UInt8 := [167, 255, 202, 42, 42, 180, 0, 172, 154, 0, 14, 42, 180, 0, 169, 42, 180, 0, 148, 162, 0, 7, 4]
abbrev dktX4_readsText_3 : List UInt8 := dkwX4_readsText_3 ++ dktX4_readsText_4
def dkwX4_readsText_2 : List UInt8 := [167, 0, 4, 3, 61, 42, 89, 180, 0, 169, 28, 153, 0, 7, 4, 167, 0, 4, 3, 96, 181, 0, 169]
abbrev dktX4_readsText_2 : List UInt8 := dkwX4_readsText_2 ++ dktX4_readsText_3
def dkwX4_readsText_1 : List UInt8 := [182, 0, 208, 132, 1, 1, 42, 180, 0, 172, 154, 0, 16, 42, 182, 0, 176, 16, 59, 160, 0, 7, 4]
abbrev dktX4_readsText_1 : List UInt8 := dkwX4_readsText_1 ++ dktX4_readsText_2
def dkwX4_readsText_0 : List UInt8 := [42, 3, 181, 0, 169, 42, 3, 181, 0, 172, 3, 60, 4, 61, 28, 153, 0, 56, 42, 7, 27, 104]
abbrev dktX4_readsText_0 : List UInt8 := dkwX4_readsText_0 ++ dktX4_readsText_1
theorem dksX4_readsText_0 : cX4_readsText.data.toList.drop 0 = dktX4_readsText_0 := by decide +kernel
theorem dksX4_readsText_1 : cX4_readsText.data.toList.drop 22 = dktX4_readsText_1 := dk_seg dksX4_readsText_0 22 rfl rfl
theorem dksX4_readsText_2 : cX4_readsText.data.toList.drop 45 = dktX4_readsText_2 := dk_seg dksX4_readsText_1 23 rfl rfl
theorem dksX4_readsText_3 : cX4_readsText.data.toList.drop 68 = dktX4_readsText_3 := dk_seg dksX4_readsText_2 23 rfl rfl
theorem dksX4_readsText_4 : cX4_readsText.data.toList.drop 91 = dktX4_readsText_4 := dk_seg dksX4_readsText_3 23 rfl rfl
theorem dX4_readsText_0 : decode cX4_readsText 0 = .ok (.aload_n 0, 1) := dk_42 (dk_at dksX4_readsText_0 0 rfl rfl)
theorem dX4_readsText_1 : decode cX4_readsText 1 = .ok (.iconst 0, 1) := dk_3 (dk_at dksX4_readsText_0 1 rfl rfl)
theorem dX4_readsText_2 : decode cX4_readsText 2 = .ok (.putfield 169, 3) := dk_181 0 169 (dk_at dksX4_readsText_0 2 rfl rfl)
theorem dX4_readsText_5 : decode cX4_readsText 5 = .ok (.aload_n 0, 1) := dk_42 (dk_at dksX4_readsText_0 5 rfl rfl)
theorem dX4_readsText_6 : decode cX4_readsText 6 = .ok (.iconst 0, 1) := dk_3 (dk_at dksX4_readsText_0 6 rfl rfl)
theorem dX4_readsText_7 : decode cX4_readsText 7 = .ok (.putfield 172, 3) := dk_181 0 172 (dk_at dksX4_readsText_0 7 rfl rfl)
theorem dX4_readsText_10 : decode cX4_readsText 10 = .ok (.iconst 0, 1) := dk_3 (dk_at dksX4_readsText_0 10 rfl rfl)
theorem dX4_readsText_11 : decode cX4_readsText 11 = .ok (.istore_n 1, 1) := dk_60 (dk_at dksX4_readsText_0 11 rfl rfl)
theorem dX4_readsText_12 : decode cX4_readsText 12 = .ok (.iconst 1, 1) := dk_4 (dk_at dksX4_readsText_0 12 rfl rfl)
theorem dX4_readsText_13 : decode cX4_readsText 13 = .ok (.istore_n 2, 1) := dk_61 (dk_at dksX4_readsText_0 13 rfl rfl)
theorem dX4_readsText_14 : decode cX4_readsText 14 = .ok (.iload_n 2, 1) := dk_28 (dk_at dksX4_readsText_0 14 rfl rfl)
theorem dX4_readsText_15 : decode cX4_readsText 15 = .ok (.ifCond .eq 56, 3) := dk_153 0 56 (dk_at dksX4_readsText_0 15 rfl rfl)
theorem dX4_readsText_18 : decode cX4_readsText 18 = .ok (.aload_n 0, 1) := dk_42 (dk_at dksX4_readsText_0 18 rfl rfl)
theorem dX4_readsText_19 : decode cX4_readsText 19 = .ok (.iconst 4, 1) := dk_7 (dk_at dksX4_readsText_0 19 rfl rfl)
theorem dX4_readsText_20 : decode cX4_readsText 20 = .ok (.iload_n 1, 1) := dk_27 (dk_at dksX4_readsText_0 20 rfl rfl)
theorem dX4_readsText_21 : decode cX4_readsText 21 = .ok (.imul, 1) := dk_104 (dk_at dksX4_readsText_0 21 rfl rfl)
theorem dX4_readsText_22 : decode cX4_readsText 22 = .ok (.invokevirtual 208, 3) := dk_182 0 208 (dk_at dksX4_readsText_1 0 rfl rfl)
theorem dX4_readsText_25 : decode cX4_readsText 25 = .ok (.iinc 1 1, 3) := dk_132 1 1 (dk_at dksX4_readsText_1 3 rfl rfl)
theorem dX4_readsText_28 : decode cX4_readsText 28 = .ok (.aload_n 0, 1) := dk_42 (dk_at dksX4_readsText_1 6 rfl rfl)
theorem dX4_readsText_29 : decode cX4_readsText 29 = .ok (.getfield 172, 3) := dk_180 0 172 (dk_at dksX4_readsText_1 7 rfl rfl)
theorem dX4_readsText_32 : decode cX4_readsText 32 = .ok (.ifCond .ne 16, 3) := dk_154 0 16 (dk_at dksX4_readsText_1 10 rfl rfl)
theorem dX4_readsText_35 : decode cX4_readsText 35 = .ok (.aload_n 0, 1) := dk_42 (dk_at dksX4_readsText_1 13 rfl rfl)
theorem dX4_readsText_36 : decode cX4_readsText 36 = .ok (.invokevirtual 176, 3) := dk_182 0 176 (dk_at dksX4_readsText_1 14 rfl rfl)
theorem dX4_readsText_39 : decode cX4_readsText 39 = .ok (.bipush 59, 2) := dk_16 59 (dk_at dksX4_readsText_1 17 rfl rfl)
theorem dX4_readsText_41 : decode cX4_readsText 41 = .ok (.if_icmp .ne 7, 3) := dk_160 0 7 (dk_at dksX4_readsText_1 19 rfl rfl)
theorem dX4_readsText_44 : decode cX4_readsText 44 = .ok (.iconst 1, 1) := dk_4 (dk_at dksX4_readsText_1 22 rfl rfl)
theorem dX4_readsText_45 : decode cX4_readsText 45 = .ok (.goto 4, 3) := dk_167 0 4 (dk_at dksX4_readsText_2 0 rfl rfl)
theorem dX4_readsText_48 : decode cX4_readsText 48 = .ok (.iconst 0, 1) := dk_3 (dk_at dksX4_readsText_2 3 rfl rfl)
theorem dX4_readsText_49 : decode cX4_readsText 49 = .ok (.istore_n 2, 1) := dk_61 (dk_at dksX4_readsText_2 4 rfl rfl)
theorem dX4_readsText_50 : decode cX4_readsText 50 = .ok (.aload_n 0, 1) := dk_42 (dk_at dksX4_readsText_2 5 rfl rfl)
theorem dX4_readsText_51 : decode cX4_readsText 51 = .ok (.dup, 1) := dk_89 (dk_at dksX4_readsText_2 6 rfl rfl)
theorem dX4_readsText_52 : decode cX4_readsText 52 = .ok (.getfield 169, 3) := dk_180 0 169 (dk_at dksX4_readsText_2 7 rfl rfl)
theorem dX4_readsText_55 : decode cX4_readsText 55 = .ok (.iload_n 2, 1) := dk_28 (dk_at dksX4_readsText_2 10 rfl rfl)
theorem dX4_readsText_56 : decode cX4_readsText 56 = .ok (.ifCond .eq 7, 3) := dk_153 0 7 (dk_at dksX4_readsText_2 11 rfl rfl)
theorem dX4_readsText_59 : decode cX4_readsText 59 = .ok (.iconst 1, 1) := dk_4 (dk_at dksX4_readsText_2 14 rfl rfl)
theorem dX4_readsText_60 : decode cX4_readsText 60 = .ok (.goto 4, 3) := dk_167 0 4 (dk_at dksX4_readsText_2 15 rfl rfl)
theorem dX4_readsText_63 : decode cX4_readsText 63 = .ok (.iconst 0, 1) := dk_3 (dk_at dksX4_readsText_2 18 rfl rfl)
theorem dX4_readsText_64 : decode cX4_readsText 64 = .ok (.iadd, 1) := dk_96 (dk_at dksX4_readsText_2 19 rfl rfl)
theorem dX4_readsText_65 : decode cX4_readsText 65 = .ok (.putfield 169, 3) := dk_181 0 169 (dk_at dksX4_readsText_2 20 rfl rfl)
theorem dX4_readsText_68 : decode cX4_readsText 68 = .ok (.goto (-54), 3) := dk_167 255 202 (dk_at dksX4_readsText_3 0 rfl rfl)
theorem dX4_readsText_71 : decode cX4_readsText 71 = .ok (.aload_n 0, 1) := dk_42 (dk_at dksX4_readsText_3 3 rfl rfl)
theorem dX4_readsText_72 : decode cX4_readsText 72 = .ok (.aload_n 0, 1) := dk_42 (dk_at dksX4_readsText_3 4 rfl rfl)
theorem dX4_readsText_73 : decode cX4_readsText 73 = .ok (.getfield 172, 3) := dk_180 0 172 (dk_at dksX4_readsText_3 5 rfl rfl)
theorem dX4_readsText_76 : decode cX4_readsText 76 = .ok (.ifCond .ne 14, 3) := dk_154 0 14 (dk_at dksX4_readsText_3 8 rfl rfl)
theorem dX4_readsText_79 : decode cX4_readsText 79 = .ok (.aload_n 0, 1) := dk_42 (dk_at dksX4_readsText_3 11 rfl rfl)
theorem dX4_readsText_80 : decode cX4_readsText 80 = .ok (.getfield 169, 3) := dk_180 0 169 (dk_at dksX4_readsText_3 12 rfl rfl)
theorem dX4_readsText_83 : decode cX4_readsText 83 = .ok (.aload_n 0, 1) := dk_42 (dk_at dksX4_readsText_3 15 rfl rfl)
theorem dX4_readsText_84 : decode cX4_readsText 84 = .ok (.getfield 148, 3) := dk_180 0 148 (dk_at dksX4_readsText_3 16 rfl rfl)
theorem dX4_readsText_87 : decode cX4_readsText 87 = .ok (.if_icmp .ge 7, 3) := dk_162 0 7 (dk_at dksX4_readsText_3 19 rfl rfl)
theorem dX4_readsText_90 : decode cX4_readsText 90 = .ok (.iconst 1, 1) := dk_4 (dk_at dksX4_readsText_3 22 rfl rfl)
theorem dX4_readsText_91 : decode cX4_readsText 91 = .ok (.goto 4, 3) := dk_167 0 4 (dk_at dksX4_readsText_4 0 rfl rfl)
theorem dX4_readsText_94 : decode cX4_readsText 94 = .ok (.iconst 0, 1) := dk_3 (dk_at dksX4_readsText_4 3 rfl rfl)
theorem dX4_readsText_95 : decode cX4_readsText 95 = .ok (.putfield 172, 3) := dk_181 0 172 (dk_at dksX4_readsText_4 4 rfl rfl)
theorem dX4_readsText_98 : decode cX4_readsText 98 = .ok (.aload_n 0, 1) := dk_42 (dk_at dksX4_readsText_4 7 rfl rfl)
theorem dX4_readsText_99 : decode cX4_readsText 99 = .ok (.iconst 0, 1) := dk_3 (dk_at dksX4_readsText_4 8 rfl rfl)
theorem dX4_readsText_100 : decode cX4_readsText 100 = .ok (.putfield 148, 3) := dk_181 0 148 (dk_at dksX4_readsText_4 9 rfl rfl)
theorem dX4_readsText_103 : decode cX4_readsText 103 = .ok (.iload_n 1, 1) := dk_27 (dk_at dksX4_readsText_4 12 rfl rfl)
theorem dX4_readsText_104 : decode cX4_readsText 104 = .ok (.ireturn, 1) := dk_172 (dk_at dksX4_readsText_4 13 rfl rfl)
abbrev cX4_readsOrder : ByteArray := prog_17_method_67_code
def yX4_readsOrder : MethodName := ⟨RX4, "readsOrder", "(I)V"⟩
def dkwX4_readsOrder_4 : List UInt8 := [27, 5, 96, 42, 182, 0, 199, 79, 177]
abbrev dktX4_readsOrder_4 : List UInt8 := dkwX4_readsOrder_4 ++ []
def dkwX4_readsOrder_3 : List UInt8 := [180, 0, 29, 27, 6, 96, 42, 182, 0, 199, 79, 167, 0, 21, 28, 16, 7, 160, 0, 15, 42, 180, 0, 29]
abbrev dktX4_readsOrder_3 : List UInt8 := dkwX4_readsOrder_3 ++ dktX4_readsOrder_4
def dkwX4_readsOrder_2 : List UInt8 := [182, 0, 196, 42, 180, 0, 29, 27, 5, 96, 42, 182, 0, 199, 79, 42, 16, 46, 182, 0, 196, 42]
abbrev dktX4_readsOrder_2 : List UInt8 := dkwX4_readsOrder_2 ++ dktX4_readsOrder_3
def dkwX4_readsOrder_1 : List UInt8 := [160, 0, 10, 42, 182, 0, 205, 167, 0, 7, 42, 182, 0, 199, 79, 28, 5, 160, 0, 42, 42, 16, 58]
abbrev dktX4_readsOrder_1 : List UInt8 := dkwX4_readsOrder_1 ++ dktX4_readsOrder_2
def dkwX4_readsOrder_0 : List UInt8 := [42, 182, 0, 202, 61, 42, 180, 0, 29, 27, 28, 79, 42, 180, 0, 29, 27, 4, 96, 28, 16, 8]
abbrev dktX4_readsOrder_0 : List UInt8 := dkwX4_readsOrder_0 ++ dktX4_readsOrder_1
theorem dksX4_readsOrder_0 : cX4_readsOrder.data.toList.drop 0 = dktX4_readsOrder_0 := by decide +kernel
theorem dksX4_readsOrder_1 : cX4_readsOrder.data.toList.drop 22 = dktX4_readsOrder_1 := dk_seg dksX4_readsOrder_0 22 rfl rfl
theorem dksX4_readsOrder_2 : cX4_readsOrder.data.toList.drop 45 = dktX4_readsOrder_2 := dk_seg dksX4_readsOrder_1 23 rfl rfl
theorem dksX4_readsOrder_3 : cX4_readsOrder.data.toList.drop 67 = dktX4_readsOrder_3 := dk_seg dksX4_readsOrder_2 22 rfl rfl
theorem dksX4_readsOrder_4 : cX4_readsOrder.data.toList.drop 91 = dktX4_readsOrder_4 := dk_seg dksX4_readsOrder_3 24 rfl rfl
theorem dX4_readsOrder_0 : decode cX4_readsOrder 0 = .ok (.aload_n 0, 1) := dk_42 (dk_at dksX4_readsOrder_0 0 rfl rfl)
theorem dX4_readsOrder_1 : decode cX4_readsOrder 1 = .ok (.invokevirtual 202, 3) := dk_182 0 202 (dk_at dksX4_readsOrder_0 1 rfl rfl)
theorem dX4_readsOrder_4 : decode cX4_readsOrder 4 = .ok (.istore_n 2, 1) := dk_61 (dk_at dksX4_readsOrder_0 4 rfl rfl)
theorem dX4_readsOrder_5 : decode cX4_readsOrder 5 = .ok (.aload_n 0, 1) := dk_42 (dk_at dksX4_readsOrder_0 5 rfl rfl)
theorem dX4_readsOrder_6 : decode cX4_readsOrder 6 = .ok (.getfield 29, 3) := dk_180 0 29 (dk_at dksX4_readsOrder_0 6 rfl rfl)
theorem dX4_readsOrder_9 : decode cX4_readsOrder 9 = .ok (.iload_n 1, 1) := dk_27 (dk_at dksX4_readsOrder_0 9 rfl rfl)
theorem dX4_readsOrder_10 : decode cX4_readsOrder 10 = .ok (.iload_n 2, 1) := dk_28 (dk_at dksX4_readsOrder_0 10 rfl rfl)
theorem dX4_readsOrder_11 : decode cX4_readsOrder 11 = .ok (.iastore, 1) := dk_79 (dk_at dksX4_readsOrder_0 11 rfl rfl)
theorem dX4_readsOrder_12 : decode cX4_readsOrder 12 = .ok (.aload_n 0, 1) := dk_42 (dk_at dksX4_readsOrder_0 12 rfl rfl)
theorem dX4_readsOrder_13 : decode cX4_readsOrder 13 = .ok (.getfield 29, 3) := dk_180 0 29 (dk_at dksX4_readsOrder_0 13 rfl rfl)
theorem dX4_readsOrder_16 : decode cX4_readsOrder 16 = .ok (.iload_n 1, 1) := dk_27 (dk_at dksX4_readsOrder_0 16 rfl rfl)
theorem dX4_readsOrder_17 : decode cX4_readsOrder 17 = .ok (.iconst 1, 1) := dk_4 (dk_at dksX4_readsOrder_0 17 rfl rfl)
theorem dX4_readsOrder_18 : decode cX4_readsOrder 18 = .ok (.iadd, 1) := dk_96 (dk_at dksX4_readsOrder_0 18 rfl rfl)
theorem dX4_readsOrder_19 : decode cX4_readsOrder 19 = .ok (.iload_n 2, 1) := dk_28 (dk_at dksX4_readsOrder_0 19 rfl rfl)
theorem dX4_readsOrder_20 : decode cX4_readsOrder 20 = .ok (.bipush 8, 2) := dk_16 8 (dk_at dksX4_readsOrder_0 20 rfl rfl)
theorem dX4_readsOrder_22 : decode cX4_readsOrder 22 = .ok (.if_icmp .ne 10, 3) := dk_160 0 10 (dk_at dksX4_readsOrder_1 0 rfl rfl)
theorem dX4_readsOrder_25 : decode cX4_readsOrder 25 = .ok (.aload_n 0, 1) := dk_42 (dk_at dksX4_readsOrder_1 3 rfl rfl)
theorem dX4_readsOrder_26 : decode cX4_readsOrder 26 = .ok (.invokevirtual 205, 3) := dk_182 0 205 (dk_at dksX4_readsOrder_1 4 rfl rfl)
theorem dX4_readsOrder_29 : decode cX4_readsOrder 29 = .ok (.goto 7, 3) := dk_167 0 7 (dk_at dksX4_readsOrder_1 7 rfl rfl)
theorem dX4_readsOrder_32 : decode cX4_readsOrder 32 = .ok (.aload_n 0, 1) := dk_42 (dk_at dksX4_readsOrder_1 10 rfl rfl)
theorem dX4_readsOrder_33 : decode cX4_readsOrder 33 = .ok (.invokevirtual 199, 3) := dk_182 0 199 (dk_at dksX4_readsOrder_1 11 rfl rfl)
theorem dX4_readsOrder_36 : decode cX4_readsOrder 36 = .ok (.iastore, 1) := dk_79 (dk_at dksX4_readsOrder_1 14 rfl rfl)
theorem dX4_readsOrder_37 : decode cX4_readsOrder 37 = .ok (.iload_n 2, 1) := dk_28 (dk_at dksX4_readsOrder_1 15 rfl rfl)
theorem dX4_readsOrder_38 : decode cX4_readsOrder 38 = .ok (.iconst 2, 1) := dk_5 (dk_at dksX4_readsOrder_1 16 rfl rfl)
theorem dX4_readsOrder_39 : decode cX4_readsOrder 39 = .ok (.if_icmp .ne 42, 3) := dk_160 0 42 (dk_at dksX4_readsOrder_1 17 rfl rfl)
theorem dX4_readsOrder_42 : decode cX4_readsOrder 42 = .ok (.aload_n 0, 1) := dk_42 (dk_at dksX4_readsOrder_1 20 rfl rfl)
theorem dX4_readsOrder_43 : decode cX4_readsOrder 43 = .ok (.bipush 58, 2) := dk_16 58 (dk_at dksX4_readsOrder_1 21 rfl rfl)
theorem dX4_readsOrder_45 : decode cX4_readsOrder 45 = .ok (.invokevirtual 196, 3) := dk_182 0 196 (dk_at dksX4_readsOrder_2 0 rfl rfl)
theorem dX4_readsOrder_48 : decode cX4_readsOrder 48 = .ok (.aload_n 0, 1) := dk_42 (dk_at dksX4_readsOrder_2 3 rfl rfl)
theorem dX4_readsOrder_49 : decode cX4_readsOrder 49 = .ok (.getfield 29, 3) := dk_180 0 29 (dk_at dksX4_readsOrder_2 4 rfl rfl)
theorem dX4_readsOrder_52 : decode cX4_readsOrder 52 = .ok (.iload_n 1, 1) := dk_27 (dk_at dksX4_readsOrder_2 7 rfl rfl)
theorem dX4_readsOrder_53 : decode cX4_readsOrder 53 = .ok (.iconst 2, 1) := dk_5 (dk_at dksX4_readsOrder_2 8 rfl rfl)
theorem dX4_readsOrder_54 : decode cX4_readsOrder 54 = .ok (.iadd, 1) := dk_96 (dk_at dksX4_readsOrder_2 9 rfl rfl)
theorem dX4_readsOrder_55 : decode cX4_readsOrder 55 = .ok (.aload_n 0, 1) := dk_42 (dk_at dksX4_readsOrder_2 10 rfl rfl)
theorem dX4_readsOrder_56 : decode cX4_readsOrder 56 = .ok (.invokevirtual 199, 3) := dk_182 0 199 (dk_at dksX4_readsOrder_2 11 rfl rfl)
theorem dX4_readsOrder_59 : decode cX4_readsOrder 59 = .ok (.iastore, 1) := dk_79 (dk_at dksX4_readsOrder_2 14 rfl rfl)
theorem dX4_readsOrder_60 : decode cX4_readsOrder 60 = .ok (.aload_n 0, 1) := dk_42 (dk_at dksX4_readsOrder_2 15 rfl rfl)
theorem dX4_readsOrder_61 : decode cX4_readsOrder 61 = .ok (.bipush 46, 2) := dk_16 46 (dk_at dksX4_readsOrder_2 16 rfl rfl)
theorem dX4_readsOrder_63 : decode cX4_readsOrder 63 = .ok (.invokevirtual 196, 3) := dk_182 0 196 (dk_at dksX4_readsOrder_2 18 rfl rfl)
theorem dX4_readsOrder_66 : decode cX4_readsOrder 66 = .ok (.aload_n 0, 1) := dk_42 (dk_at dksX4_readsOrder_2 21 rfl rfl)
theorem dX4_readsOrder_67 : decode cX4_readsOrder 67 = .ok (.getfield 29, 3) := dk_180 0 29 (dk_at dksX4_readsOrder_3 0 rfl rfl)
theorem dX4_readsOrder_70 : decode cX4_readsOrder 70 = .ok (.iload_n 1, 1) := dk_27 (dk_at dksX4_readsOrder_3 3 rfl rfl)
theorem dX4_readsOrder_71 : decode cX4_readsOrder 71 = .ok (.iconst 3, 1) := dk_6 (dk_at dksX4_readsOrder_3 4 rfl rfl)
theorem dX4_readsOrder_72 : decode cX4_readsOrder 72 = .ok (.iadd, 1) := dk_96 (dk_at dksX4_readsOrder_3 5 rfl rfl)
theorem dX4_readsOrder_73 : decode cX4_readsOrder 73 = .ok (.aload_n 0, 1) := dk_42 (dk_at dksX4_readsOrder_3 6 rfl rfl)
theorem dX4_readsOrder_74 : decode cX4_readsOrder 74 = .ok (.invokevirtual 199, 3) := dk_182 0 199 (dk_at dksX4_readsOrder_3 7 rfl rfl)
theorem dX4_readsOrder_77 : decode cX4_readsOrder 77 = .ok (.iastore, 1) := dk_79 (dk_at dksX4_readsOrder_3 10 rfl rfl)
theorem dX4_readsOrder_78 : decode cX4_readsOrder 78 = .ok (.goto 21, 3) := dk_167 0 21 (dk_at dksX4_readsOrder_3 11 rfl rfl)
theorem dX4_readsOrder_81 : decode cX4_readsOrder 81 = .ok (.iload_n 2, 1) := dk_28 (dk_at dksX4_readsOrder_3 14 rfl rfl)
theorem dX4_readsOrder_82 : decode cX4_readsOrder 82 = .ok (.bipush 7, 2) := dk_16 7 (dk_at dksX4_readsOrder_3 15 rfl rfl)
theorem dX4_readsOrder_84 : decode cX4_readsOrder 84 = .ok (.if_icmp .ne 15, 3) := dk_160 0 15 (dk_at dksX4_readsOrder_3 17 rfl rfl)
theorem dX4_readsOrder_87 : decode cX4_readsOrder 87 = .ok (.aload_n 0, 1) := dk_42 (dk_at dksX4_readsOrder_3 20 rfl rfl)
theorem dX4_readsOrder_88 : decode cX4_readsOrder 88 = .ok (.getfield 29, 3) := dk_180 0 29 (dk_at dksX4_readsOrder_3 21 rfl rfl)
theorem dX4_readsOrder_91 : decode cX4_readsOrder 91 = .ok (.iload_n 1, 1) := dk_27 (dk_at dksX4_readsOrder_4 0 rfl rfl)
theorem dX4_readsOrder_92 : decode cX4_readsOrder 92 = .ok (.iconst 2, 1) := dk_5 (dk_at dksX4_readsOrder_4 1 rfl rfl)
theorem dX4_readsOrder_93 : decode cX4_readsOrder 93 = .ok (.iadd, 1) := dk_96 (dk_at dksX4_readsOrder_4 2 rfl rfl)
theorem dX4_readsOrder_94 : decode cX4_readsOrder 94 = .ok (.aload_n 0, 1) := dk_42 (dk_at dksX4_readsOrder_4 3 rfl rfl)
theorem dX4_readsOrder_95 : decode cX4_readsOrder 95 = .ok (.invokevirtual 199, 3) := dk_182 0 199 (dk_at dksX4_readsOrder_4 4 rfl rfl)
theorem dX4_readsOrder_98 : decode cX4_readsOrder 98 = .ok (.iastore, 1) := dk_79 (dk_at dksX4_readsOrder_4 7 rfl rfl)
theorem dX4_readsOrder_99 : decode cX4_readsOrder 99 = .ok (.return_, 1) := dk_177 (dk_at dksX4_readsOrder_4 8 rfl rfl)
abbrev cX4_readsWord : ByteArray := prog_17_method_64_code
def yX4_readsWord : MethodName := ⟨RX4, "readsWord", "()I"⟩
def dkwX4_readsWord_2 : List UInt8 := [132, 2, 1, 167, 255, 230, 27, 172]
abbrev dktX4_readsWord_2 : List UInt8 := dkwX4_readsWord_2 ++ []
def dkwX4_readsWord_1 : List UInt8 := [28, 27, 184, 0, 180, 182, 0, 193, 162, 0, 21, 42, 27, 184, 0, 180, 28, 182, 0, 184, 182, 0, 196]
abbrev dktX4_readsWord_1 : List UInt8 := dkwX4_readsWord_1 ++ dktX4_readsWord_2
def dkwX4_readsWord_0 : List UInt8 := [3, 60, 27, 16, 8, 162, 0, 17, 42, 27, 182, 0, 190, 154, 0, 9, 132, 1, 1, 167, 255, 239, 3, 61]
abbrev dktX4_readsWord_0 : List UInt8 := dkwX4_readsWord_0 ++ dktX4_readsWord_1
theorem dksX4_readsWord_0 : cX4_readsWord.data.toList.drop 0 = dktX4_readsWord_0 := by decide +kernel
theorem dksX4_readsWord_1 : cX4_readsWord.data.toList.drop 24 = dktX4_readsWord_1 := dk_seg dksX4_readsWord_0 24 rfl rfl
theorem dksX4_readsWord_2 : cX4_readsWord.data.toList.drop 47 = dktX4_readsWord_2 := dk_seg dksX4_readsWord_1 23 rfl rfl
theorem dX4_readsWord_0 : decode cX4_readsWord 0 = .ok (.iconst 0, 1) := dk_3 (dk_at dksX4_readsWord_0 0 rfl rfl)
theorem dX4_readsWord_1 : decode cX4_readsWord 1 = .ok (.istore_n 1, 1) := dk_60 (dk_at dksX4_readsWord_0 1 rfl rfl)
theorem dX4_readsWord_2 : decode cX4_readsWord 2 = .ok (.iload_n 1, 1) := dk_27 (dk_at dksX4_readsWord_0 2 rfl rfl)
theorem dX4_readsWord_3 : decode cX4_readsWord 3 = .ok (.bipush 8, 2) := dk_16 8 (dk_at dksX4_readsWord_0 3 rfl rfl)
theorem dX4_readsWord_5 : decode cX4_readsWord 5 = .ok (.if_icmp .ge 17, 3) := dk_162 0 17 (dk_at dksX4_readsWord_0 5 rfl rfl)
theorem dX4_readsWord_8 : decode cX4_readsWord 8 = .ok (.aload_n 0, 1) := dk_42 (dk_at dksX4_readsWord_0 8 rfl rfl)
theorem dX4_readsWord_9 : decode cX4_readsWord 9 = .ok (.iload_n 1, 1) := dk_27 (dk_at dksX4_readsWord_0 9 rfl rfl)
theorem dX4_readsWord_10 : decode cX4_readsWord 10 = .ok (.invokevirtual 190, 3) := dk_182 0 190 (dk_at dksX4_readsWord_0 10 rfl rfl)
theorem dX4_readsWord_13 : decode cX4_readsWord 13 = .ok (.ifCond .ne 9, 3) := dk_154 0 9 (dk_at dksX4_readsWord_0 13 rfl rfl)
theorem dX4_readsWord_16 : decode cX4_readsWord 16 = .ok (.iinc 1 1, 3) := dk_132 1 1 (dk_at dksX4_readsWord_0 16 rfl rfl)
theorem dX4_readsWord_19 : decode cX4_readsWord 19 = .ok (.goto (-17), 3) := dk_167 255 239 (dk_at dksX4_readsWord_0 19 rfl rfl)
theorem dX4_readsWord_22 : decode cX4_readsWord 22 = .ok (.iconst 0, 1) := dk_3 (dk_at dksX4_readsWord_0 22 rfl rfl)
theorem dX4_readsWord_23 : decode cX4_readsWord 23 = .ok (.istore_n 2, 1) := dk_61 (dk_at dksX4_readsWord_0 23 rfl rfl)
theorem dX4_readsWord_24 : decode cX4_readsWord 24 = .ok (.iload_n 2, 1) := dk_28 (dk_at dksX4_readsWord_1 0 rfl rfl)
theorem dX4_readsWord_25 : decode cX4_readsWord 25 = .ok (.iload_n 1, 1) := dk_27 (dk_at dksX4_readsWord_1 1 rfl rfl)
theorem dX4_readsWord_26 : decode cX4_readsWord 26 = .ok (.invokestatic 180, 3) := dk_184 0 180 (dk_at dksX4_readsWord_1 2 rfl rfl)
theorem dX4_readsWord_29 : decode cX4_readsWord 29 = .ok (.invokevirtual 193, 3) := dk_182 0 193 (dk_at dksX4_readsWord_1 5 rfl rfl)
theorem dX4_readsWord_32 : decode cX4_readsWord 32 = .ok (.if_icmp .ge 21, 3) := dk_162 0 21 (dk_at dksX4_readsWord_1 8 rfl rfl)
theorem dX4_readsWord_35 : decode cX4_readsWord 35 = .ok (.aload_n 0, 1) := dk_42 (dk_at dksX4_readsWord_1 11 rfl rfl)
theorem dX4_readsWord_36 : decode cX4_readsWord 36 = .ok (.iload_n 1, 1) := dk_27 (dk_at dksX4_readsWord_1 12 rfl rfl)
theorem dX4_readsWord_37 : decode cX4_readsWord 37 = .ok (.invokestatic 180, 3) := dk_184 0 180 (dk_at dksX4_readsWord_1 13 rfl rfl)
theorem dX4_readsWord_40 : decode cX4_readsWord 40 = .ok (.iload_n 2, 1) := dk_28 (dk_at dksX4_readsWord_1 16 rfl rfl)
theorem dX4_readsWord_41 : decode cX4_readsWord 41 = .ok (.invokevirtual 184, 3) := dk_182 0 184 (dk_at dksX4_readsWord_1 17 rfl rfl)
theorem dX4_readsWord_44 : decode cX4_readsWord 44 = .ok (.invokevirtual 196, 3) := dk_182 0 196 (dk_at dksX4_readsWord_1 20 rfl rfl)
theorem dX4_readsWord_47 : decode cX4_readsWord 47 = .ok (.iinc 2 1, 3) := dk_132 2 1 (dk_at dksX4_readsWord_2 0 rfl rfl)
theorem dX4_readsWord_50 : decode cX4_readsWord 50 = .ok (.goto (-26), 3) := dk_167 255 230 (dk_at dksX4_readsWord_2 3 rfl rfl)
theorem dX4_readsWord_53 : decode cX4_readsWord 53 = .ok (.iload_n 1, 1) := dk_27 (dk_at dksX4_readsWord_2 6 rfl rfl)
theorem dX4_readsWord_54 : decode cX4_readsWord 54 = .ok (.ireturn, 1) := dk_172 (dk_at dksX4_readsWord_2 7 rfl rfl)
abbrev cX4_isWord : ByteArray := prog_17_method_63_code
def yX4_isWord : MethodName := ⟨RX4, "isWord", "(I)Z"⟩
def dkwX4_isWord_2 : List UInt8 := [27, 6, 160, 0, 15, 27, 184, 0, 180, 4, 182, 0, 184, 28, 160, 0, 7, 4, 167, 0, 4, 3, 172]
abbrev dktX4_isWord_2 : List UInt8 := dkwX4_isWord_2 ++ []
def dkwX4_isWord_1 : List UInt8 := [167, 0, 4, 2, 61, 27, 184, 0, 180, 3, 182, 0, 184, 42, 182, 0, 176, 160, 0, 28, 27, 153, 0, 8]
abbrev dktX4_isWord_1 : List UInt8 := dkwX4_isWord_1 ++ dktX4_isWord_2
def dkwX4_isWord_0 : List UInt8 := [42, 180, 0, 169, 4, 96, 42, 180, 0, 148, 162, 0, 17, 42, 180, 0, 22, 42, 180, 0, 169, 4, 96, 52]
abbrev dktX4_isWord_0 : List UInt8 := dkwX4_isWord_0 ++ dktX4_isWord_1
theorem dksX4_isWord_0 : cX4_isWord.data.toList.drop 0 = dktX4_isWord_0 := by decide +kernel
theorem dksX4_isWord_1 : cX4_isWord.data.toList.drop 24 = dktX4_isWord_1 := dk_seg dksX4_isWord_0 24 rfl rfl
theorem dksX4_isWord_2 : cX4_isWord.data.toList.drop 48 = dktX4_isWord_2 := dk_seg dksX4_isWord_1 24 rfl rfl
theorem dX4_isWord_0 : decode cX4_isWord 0 = .ok (.aload_n 0, 1) := dk_42 (dk_at dksX4_isWord_0 0 rfl rfl)
theorem dX4_isWord_1 : decode cX4_isWord 1 = .ok (.getfield 169, 3) := dk_180 0 169 (dk_at dksX4_isWord_0 1 rfl rfl)
theorem dX4_isWord_4 : decode cX4_isWord 4 = .ok (.iconst 1, 1) := dk_4 (dk_at dksX4_isWord_0 4 rfl rfl)
theorem dX4_isWord_5 : decode cX4_isWord 5 = .ok (.iadd, 1) := dk_96 (dk_at dksX4_isWord_0 5 rfl rfl)
theorem dX4_isWord_6 : decode cX4_isWord 6 = .ok (.aload_n 0, 1) := dk_42 (dk_at dksX4_isWord_0 6 rfl rfl)
theorem dX4_isWord_7 : decode cX4_isWord 7 = .ok (.getfield 148, 3) := dk_180 0 148 (dk_at dksX4_isWord_0 7 rfl rfl)
theorem dX4_isWord_10 : decode cX4_isWord 10 = .ok (.if_icmp .ge 17, 3) := dk_162 0 17 (dk_at dksX4_isWord_0 10 rfl rfl)
theorem dX4_isWord_13 : decode cX4_isWord 13 = .ok (.aload_n 0, 1) := dk_42 (dk_at dksX4_isWord_0 13 rfl rfl)
theorem dX4_isWord_14 : decode cX4_isWord 14 = .ok (.getfield 22, 3) := dk_180 0 22 (dk_at dksX4_isWord_0 14 rfl rfl)
theorem dX4_isWord_17 : decode cX4_isWord 17 = .ok (.aload_n 0, 1) := dk_42 (dk_at dksX4_isWord_0 17 rfl rfl)
theorem dX4_isWord_18 : decode cX4_isWord 18 = .ok (.getfield 169, 3) := dk_180 0 169 (dk_at dksX4_isWord_0 18 rfl rfl)
theorem dX4_isWord_21 : decode cX4_isWord 21 = .ok (.iconst 1, 1) := dk_4 (dk_at dksX4_isWord_0 21 rfl rfl)
theorem dX4_isWord_22 : decode cX4_isWord 22 = .ok (.iadd, 1) := dk_96 (dk_at dksX4_isWord_0 22 rfl rfl)
theorem dX4_isWord_23 : decode cX4_isWord 23 = .ok (.caload, 1) := dk_52 (dk_at dksX4_isWord_0 23 rfl rfl)
theorem dX4_isWord_24 : decode cX4_isWord 24 = .ok (.goto 4, 3) := dk_167 0 4 (dk_at dksX4_isWord_1 0 rfl rfl)
theorem dX4_isWord_27 : decode cX4_isWord 27 = .ok (.iconst (-1), 1) := dk_2 (dk_at dksX4_isWord_1 3 rfl rfl)
theorem dX4_isWord_28 : decode cX4_isWord 28 = .ok (.istore_n 2, 1) := dk_61 (dk_at dksX4_isWord_1 4 rfl rfl)
theorem dX4_isWord_29 : decode cX4_isWord 29 = .ok (.iload_n 1, 1) := dk_27 (dk_at dksX4_isWord_1 5 rfl rfl)
theorem dX4_isWord_30 : decode cX4_isWord 30 = .ok (.invokestatic 180, 3) := dk_184 0 180 (dk_at dksX4_isWord_1 6 rfl rfl)
theorem dX4_isWord_33 : decode cX4_isWord 33 = .ok (.iconst 0, 1) := dk_3 (dk_at dksX4_isWord_1 9 rfl rfl)
theorem dX4_isWord_34 : decode cX4_isWord 34 = .ok (.invokevirtual 184, 3) := dk_182 0 184 (dk_at dksX4_isWord_1 10 rfl rfl)
theorem dX4_isWord_37 : decode cX4_isWord 37 = .ok (.aload_n 0, 1) := dk_42 (dk_at dksX4_isWord_1 13 rfl rfl)
theorem dX4_isWord_38 : decode cX4_isWord 38 = .ok (.invokevirtual 176, 3) := dk_182 0 176 (dk_at dksX4_isWord_1 14 rfl rfl)
theorem dX4_isWord_41 : decode cX4_isWord 41 = .ok (.if_icmp .ne 28, 3) := dk_160 0 28 (dk_at dksX4_isWord_1 17 rfl rfl)
theorem dX4_isWord_44 : decode cX4_isWord 44 = .ok (.iload_n 1, 1) := dk_27 (dk_at dksX4_isWord_1 20 rfl rfl)
theorem dX4_isWord_45 : decode cX4_isWord 45 = .ok (.ifCond .eq 8, 3) := dk_153 0 8 (dk_at dksX4_isWord_1 21 rfl rfl)
theorem dX4_isWord_48 : decode cX4_isWord 48 = .ok (.iload_n 1, 1) := dk_27 (dk_at dksX4_isWord_2 0 rfl rfl)
theorem dX4_isWord_49 : decode cX4_isWord 49 = .ok (.iconst 3, 1) := dk_6 (dk_at dksX4_isWord_2 1 rfl rfl)
theorem dX4_isWord_50 : decode cX4_isWord 50 = .ok (.if_icmp .ne 15, 3) := dk_160 0 15 (dk_at dksX4_isWord_2 2 rfl rfl)
theorem dX4_isWord_53 : decode cX4_isWord 53 = .ok (.iload_n 1, 1) := dk_27 (dk_at dksX4_isWord_2 5 rfl rfl)
theorem dX4_isWord_54 : decode cX4_isWord 54 = .ok (.invokestatic 180, 3) := dk_184 0 180 (dk_at dksX4_isWord_2 6 rfl rfl)
theorem dX4_isWord_57 : decode cX4_isWord 57 = .ok (.iconst 1, 1) := dk_4 (dk_at dksX4_isWord_2 9 rfl rfl)
theorem dX4_isWord_58 : decode cX4_isWord 58 = .ok (.invokevirtual 184, 3) := dk_182 0 184 (dk_at dksX4_isWord_2 10 rfl rfl)
theorem dX4_isWord_61 : decode cX4_isWord 61 = .ok (.iload_n 2, 1) := dk_28 (dk_at dksX4_isWord_2 13 rfl rfl)
theorem dX4_isWord_62 : decode cX4_isWord 62 = .ok (.if_icmp .ne 7, 3) := dk_160 0 7 (dk_at dksX4_isWord_2 14 rfl rfl)
theorem dX4_isWord_65 : decode cX4_isWord 65 = .ok (.iconst 1, 1) := dk_4 (dk_at dksX4_isWord_2 17 rfl rfl)
theorem dX4_isWord_66 : decode cX4_isWord 66 = .ok (.goto 4, 3) := dk_167 0 4 (dk_at dksX4_isWord_2 18 rfl rfl)
theorem dX4_isWord_69 : decode cX4_isWord 69 = .ok (.iconst 0, 1) := dk_3 (dk_at dksX4_isWord_2 21 rfl rfl)
theorem dX4_isWord_70 : decode cX4_isWord 70 = .ok (.ireturn, 1) := dk_172 (dk_at dksX4_isWord_2 22 rfl rfl)
abbrev cX4_word : ByteArray := prog_17_method_60_code
def yX4_word : MethodName := ⟨RX4, "word", "(I)Ljava/lang/String;"⟩
def dkwX4_word_3 : List UInt8 := [18, 167, 176]
abbrev dktX4_word_3 : List UInt8 := dkwX4_word_3 ++ []
def dkwX4_word_2 : List UInt8 := [18, 151, 176, 18, 153, 176, 18, 155, 176, 18, 157, 176, 18, 159, 176, 18, 161, 176, 18, 163, 176, 18, 165, 176]
abbrev dktX4_word_2 : List UInt8 := dkwX4_word_2 ++ dktX4_word_3
def dkwX4_word_1 : List UInt8 := [170, 0, 0, 0, 0, 0, 71, 0, 0, 0, 0, 0, 0, 0, 7, 0, 0, 0, 47, 0, 0, 0, 50, 0, 0, 0, 53, 0, 0, 0, 56, 0, 0, 0, 59, 0, 0, 0, 62, 0, 0, 0, 65, 0, 0, 0, 68]
abbrev dktX4_word_1 : List UInt8 := dkwX4_word_1 ++ dktX4_word_2
def dkwX4_word_0 : List UInt8 := [26]
abbrev dktX4_word_0 : List UInt8 := dkwX4_word_0 ++ dktX4_word_1
theorem dksX4_word_0 : cX4_word.data.toList.drop 0 = dktX4_word_0 := by decide +kernel
theorem dksX4_word_1 : cX4_word.data.toList.drop 1 = dktX4_word_1 := dk_seg dksX4_word_0 1 rfl rfl
theorem dksX4_word_2 : cX4_word.data.toList.drop 48 = dktX4_word_2 := dk_seg dksX4_word_1 47 rfl rfl
theorem dksX4_word_3 : cX4_word.data.toList.drop 72 = dktX4_word_3 := dk_seg dksX4_word_2 24 rfl rfl
theorem dX4_word_0 : decode cX4_word 0 = .ok (.iload_n 0, 1) := dk_26 (dk_at dksX4_word_0 0 rfl rfl)
theorem dX4_word_1 : decode cX4_word 1 = .ok (.tableswitch 71 0 7 #[47, 50, 53, 56, 59, 62, 65, 68], 47) := by decide +kernel
theorem dX4_word_48 : decode cX4_word 48 = .ok (.ldc 151, 2) := dk_18 151 (dk_at dksX4_word_2 0 rfl rfl)
theorem dX4_word_50 : decode cX4_word 50 = .ok (.areturn, 1) := dk_176 (dk_at dksX4_word_2 2 rfl rfl)
theorem dX4_word_51 : decode cX4_word 51 = .ok (.ldc 153, 2) := dk_18 153 (dk_at dksX4_word_2 3 rfl rfl)
theorem dX4_word_53 : decode cX4_word 53 = .ok (.areturn, 1) := dk_176 (dk_at dksX4_word_2 5 rfl rfl)
theorem dX4_word_54 : decode cX4_word 54 = .ok (.ldc 155, 2) := dk_18 155 (dk_at dksX4_word_2 6 rfl rfl)
theorem dX4_word_56 : decode cX4_word 56 = .ok (.areturn, 1) := dk_176 (dk_at dksX4_word_2 8 rfl rfl)
theorem dX4_word_57 : decode cX4_word 57 = .ok (.ldc 157, 2) := dk_18 157 (dk_at dksX4_word_2 9 rfl rfl)
theorem dX4_word_59 : decode cX4_word 59 = .ok (.areturn, 1) := dk_176 (dk_at dksX4_word_2 11 rfl rfl)
theorem dX4_word_60 : decode cX4_word 60 = .ok (.ldc 159, 2) := dk_18 159 (dk_at dksX4_word_2 12 rfl rfl)
theorem dX4_word_62 : decode cX4_word 62 = .ok (.areturn, 1) := dk_176 (dk_at dksX4_word_2 14 rfl rfl)
theorem dX4_word_63 : decode cX4_word 63 = .ok (.ldc 161, 2) := dk_18 161 (dk_at dksX4_word_2 15 rfl rfl)
theorem dX4_word_65 : decode cX4_word 65 = .ok (.areturn, 1) := dk_176 (dk_at dksX4_word_2 17 rfl rfl)
theorem dX4_word_66 : decode cX4_word 66 = .ok (.ldc 163, 2) := dk_18 163 (dk_at dksX4_word_2 18 rfl rfl)
theorem dX4_word_68 : decode cX4_word 68 = .ok (.areturn, 1) := dk_176 (dk_at dksX4_word_2 20 rfl rfl)
theorem dX4_word_69 : decode cX4_word 69 = .ok (.ldc 165, 2) := dk_18 165 (dk_at dksX4_word_2 21 rfl rfl)
theorem dX4_word_71 : decode cX4_word 71 = .ok (.areturn, 1) := dk_176 (dk_at dksX4_word_2 23 rfl rfl)
theorem dX4_word_72 : decode cX4_word 72 = .ok (.ldc 167, 2) := dk_18 167 (dk_at dksX4_word_3 0 rfl rfl)
theorem dX4_word_74 : decode cX4_word 74 = .ok (.areturn, 1) := dk_176 (dk_at dksX4_word_3 2 rfl rfl)
abbrev cX4_here : ByteArray := prog_17_method_61_code
def yX4_here : MethodName := ⟨RX4, "here", "()I"⟩
def dkwX4_here_1 : List UInt8 := [172]
abbrev dktX4_here_1 : List UInt8 := dkwX4_here_1 ++ []
def dkwX4_here_0 : List UInt8 := [42, 180, 0, 169, 42, 180, 0, 148, 162, 0, 15, 42, 180, 0, 22, 42, 180, 0, 169, 52, 167, 0, 4, 2]
abbrev dktX4_here_0 : List UInt8 := dkwX4_here_0 ++ dktX4_here_1
theorem dksX4_here_0 : cX4_here.data.toList.drop 0 = dktX4_here_0 := by decide +kernel
theorem dksX4_here_1 : cX4_here.data.toList.drop 24 = dktX4_here_1 := dk_seg dksX4_here_0 24 rfl rfl
theorem dX4_here_0 : decode cX4_here 0 = .ok (.aload_n 0, 1) := dk_42 (dk_at dksX4_here_0 0 rfl rfl)
theorem dX4_here_1 : decode cX4_here 1 = .ok (.getfield 169, 3) := dk_180 0 169 (dk_at dksX4_here_0 1 rfl rfl)
theorem dX4_here_4 : decode cX4_here 4 = .ok (.aload_n 0, 1) := dk_42 (dk_at dksX4_here_0 4 rfl rfl)
theorem dX4_here_5 : decode cX4_here 5 = .ok (.getfield 148, 3) := dk_180 0 148 (dk_at dksX4_here_0 5 rfl rfl)
theorem dX4_here_8 : decode cX4_here 8 = .ok (.if_icmp .ge 15, 3) := dk_162 0 15 (dk_at dksX4_here_0 8 rfl rfl)
theorem dX4_here_11 : decode cX4_here 11 = .ok (.aload_n 0, 1) := dk_42 (dk_at dksX4_here_0 11 rfl rfl)
theorem dX4_here_12 : decode cX4_here 12 = .ok (.getfield 22, 3) := dk_180 0 22 (dk_at dksX4_here_0 12 rfl rfl)
theorem dX4_here_15 : decode cX4_here 15 = .ok (.aload_n 0, 1) := dk_42 (dk_at dksX4_here_0 15 rfl rfl)
theorem dX4_here_16 : decode cX4_here 16 = .ok (.getfield 169, 3) := dk_180 0 169 (dk_at dksX4_here_0 16 rfl rfl)
theorem dX4_here_19 : decode cX4_here 19 = .ok (.caload, 1) := dk_52 (dk_at dksX4_here_0 19 rfl rfl)
theorem dX4_here_20 : decode cX4_here 20 = .ok (.goto 4, 3) := dk_167 0 4 (dk_at dksX4_here_0 20 rfl rfl)
theorem dX4_here_23 : decode cX4_here 23 = .ok (.iconst (-1), 1) := dk_2 (dk_at dksX4_here_0 23 rfl rfl)
theorem dX4_here_24 : decode cX4_here 24 = .ok (.ireturn, 1) := dk_172 (dk_at dksX4_here_1 0 rfl rfl)
abbrev cX4_needs : ByteArray := prog_17_method_62_code
def yX4_needs : MethodName := ⟨RX4, "needs", "(I)V"⟩
def dkwX4_needs_1 : List UInt8 := [42, 89, 180, 0, 169, 42, 180, 0, 172, 153, 0, 7, 3, 167, 0, 4, 4, 96, 181, 0, 169, 177]
abbrev dktX4_needs_1 : List UInt8 := dkwX4_needs_1 ++ []
def dkwX4_needs_0 : List UInt8 := [42, 42, 180, 0, 172, 154, 0, 11, 42, 182, 0, 176, 27, 159, 0, 7, 4, 167, 0, 4, 3, 181, 0, 172]
abbrev dktX4_needs_0 : List UInt8 := dkwX4_needs_0 ++ dktX4_needs_1
theorem dksX4_needs_0 : cX4_needs.data.toList.drop 0 = dktX4_needs_0 := by decide +kernel
theorem dksX4_needs_1 : cX4_needs.data.toList.drop 24 = dktX4_needs_1 := dk_seg dksX4_needs_0 24 rfl rfl
theorem dX4_needs_0 : decode cX4_needs 0 = .ok (.aload_n 0, 1) := dk_42 (dk_at dksX4_needs_0 0 rfl rfl)
theorem dX4_needs_1 : decode cX4_needs 1 = .ok (.aload_n 0, 1) := dk_42 (dk_at dksX4_needs_0 1 rfl rfl)
theorem dX4_needs_2 : decode cX4_needs 2 = .ok (.getfield 172, 3) := dk_180 0 172 (dk_at dksX4_needs_0 2 rfl rfl)
theorem dX4_needs_5 : decode cX4_needs 5 = .ok (.ifCond .ne 11, 3) := dk_154 0 11 (dk_at dksX4_needs_0 5 rfl rfl)
theorem dX4_needs_8 : decode cX4_needs 8 = .ok (.aload_n 0, 1) := dk_42 (dk_at dksX4_needs_0 8 rfl rfl)
theorem dX4_needs_9 : decode cX4_needs 9 = .ok (.invokevirtual 176, 3) := dk_182 0 176 (dk_at dksX4_needs_0 9 rfl rfl)
theorem dX4_needs_12 : decode cX4_needs 12 = .ok (.iload_n 1, 1) := dk_27 (dk_at dksX4_needs_0 12 rfl rfl)
theorem dX4_needs_13 : decode cX4_needs 13 = .ok (.if_icmp .eq 7, 3) := dk_159 0 7 (dk_at dksX4_needs_0 13 rfl rfl)
theorem dX4_needs_16 : decode cX4_needs 16 = .ok (.iconst 1, 1) := dk_4 (dk_at dksX4_needs_0 16 rfl rfl)
theorem dX4_needs_17 : decode cX4_needs 17 = .ok (.goto 4, 3) := dk_167 0 4 (dk_at dksX4_needs_0 17 rfl rfl)
theorem dX4_needs_20 : decode cX4_needs 20 = .ok (.iconst 0, 1) := dk_3 (dk_at dksX4_needs_0 20 rfl rfl)
theorem dX4_needs_21 : decode cX4_needs 21 = .ok (.putfield 172, 3) := dk_181 0 172 (dk_at dksX4_needs_0 21 rfl rfl)
theorem dX4_needs_24 : decode cX4_needs 24 = .ok (.aload_n 0, 1) := dk_42 (dk_at dksX4_needs_1 0 rfl rfl)
theorem dX4_needs_25 : decode cX4_needs 25 = .ok (.dup, 1) := dk_89 (dk_at dksX4_needs_1 1 rfl rfl)
theorem dX4_needs_26 : decode cX4_needs 26 = .ok (.getfield 169, 3) := dk_180 0 169 (dk_at dksX4_needs_1 2 rfl rfl)
theorem dX4_needs_29 : decode cX4_needs 29 = .ok (.aload_n 0, 1) := dk_42 (dk_at dksX4_needs_1 5 rfl rfl)
theorem dX4_needs_30 : decode cX4_needs 30 = .ok (.getfield 172, 3) := dk_180 0 172 (dk_at dksX4_needs_1 6 rfl rfl)
theorem dX4_needs_33 : decode cX4_needs 33 = .ok (.ifCond .eq 7, 3) := dk_153 0 7 (dk_at dksX4_needs_1 9 rfl rfl)
theorem dX4_needs_36 : decode cX4_needs 36 = .ok (.iconst 0, 1) := dk_3 (dk_at dksX4_needs_1 12 rfl rfl)
theorem dX4_needs_37 : decode cX4_needs 37 = .ok (.goto 4, 3) := dk_167 0 4 (dk_at dksX4_needs_1 13 rfl rfl)
theorem dX4_needs_40 : decode cX4_needs 40 = .ok (.iconst 1, 1) := dk_4 (dk_at dksX4_needs_1 16 rfl rfl)
theorem dX4_needs_41 : decode cX4_needs 41 = .ok (.iadd, 1) := dk_96 (dk_at dksX4_needs_1 17 rfl rfl)
theorem dX4_needs_42 : decode cX4_needs 42 = .ok (.putfield 169, 3) := dk_181 0 169 (dk_at dksX4_needs_1 18 rfl rfl)
theorem dX4_needs_45 : decode cX4_needs 45 = .ok (.return_, 1) := dk_177 (dk_at dksX4_needs_1 21 rfl rfl)
abbrev cX4_number : ByteArray := prog_17_method_66_code
def yX4_number : MethodName := ⟨RX4, "number", "()I"⟩
def dkwX4_number_1 : List UInt8 := [153, 0, 15, 16, 10, 27, 104, 42, 182, 0, 199, 96, 167, 0, 4, 27, 172]
abbrev dktX4_number_1 : List UInt8 := dkwX4_number_1 ++ []
def dkwX4_number_0 : List UInt8 := [42, 182, 0, 199, 60, 42, 180, 0, 172, 154, 0, 29, 42, 182, 0, 176, 16, 48, 16, 57, 184, 0, 46]
abbrev dktX4_number_0 : List UInt8 := dkwX4_number_0 ++ dktX4_number_1
theorem dksX4_number_0 : cX4_number.data.toList.drop 0 = dktX4_number_0 := by decide +kernel
theorem dksX4_number_1 : cX4_number.data.toList.drop 23 = dktX4_number_1 := dk_seg dksX4_number_0 23 rfl rfl
theorem dX4_number_0 : decode cX4_number 0 = .ok (.aload_n 0, 1) := dk_42 (dk_at dksX4_number_0 0 rfl rfl)
theorem dX4_number_1 : decode cX4_number 1 = .ok (.invokevirtual 199, 3) := dk_182 0 199 (dk_at dksX4_number_0 1 rfl rfl)
theorem dX4_number_4 : decode cX4_number 4 = .ok (.istore_n 1, 1) := dk_60 (dk_at dksX4_number_0 4 rfl rfl)
theorem dX4_number_5 : decode cX4_number 5 = .ok (.aload_n 0, 1) := dk_42 (dk_at dksX4_number_0 5 rfl rfl)
theorem dX4_number_6 : decode cX4_number 6 = .ok (.getfield 172, 3) := dk_180 0 172 (dk_at dksX4_number_0 6 rfl rfl)
theorem dX4_number_9 : decode cX4_number 9 = .ok (.ifCond .ne 29, 3) := dk_154 0 29 (dk_at dksX4_number_0 9 rfl rfl)
theorem dX4_number_12 : decode cX4_number 12 = .ok (.aload_n 0, 1) := dk_42 (dk_at dksX4_number_0 12 rfl rfl)
theorem dX4_number_13 : decode cX4_number 13 = .ok (.invokevirtual 176, 3) := dk_182 0 176 (dk_at dksX4_number_0 13 rfl rfl)
theorem dX4_number_16 : decode cX4_number 16 = .ok (.bipush 48, 2) := dk_16 48 (dk_at dksX4_number_0 16 rfl rfl)
theorem dX4_number_18 : decode cX4_number 18 = .ok (.bipush 57, 2) := dk_16 57 (dk_at dksX4_number_0 18 rfl rfl)
theorem dX4_number_20 : decode cX4_number 20 = .ok (.invokestatic 46, 3) := dk_184 0 46 (dk_at dksX4_number_0 20 rfl rfl)
theorem dX4_number_23 : decode cX4_number 23 = .ok (.ifCond .eq 15, 3) := dk_153 0 15 (dk_at dksX4_number_1 0 rfl rfl)
theorem dX4_number_26 : decode cX4_number 26 = .ok (.bipush 10, 2) := dk_16 10 (dk_at dksX4_number_1 3 rfl rfl)
theorem dX4_number_28 : decode cX4_number 28 = .ok (.iload_n 1, 1) := dk_27 (dk_at dksX4_number_1 5 rfl rfl)
theorem dX4_number_29 : decode cX4_number 29 = .ok (.imul, 1) := dk_104 (dk_at dksX4_number_1 6 rfl rfl)
theorem dX4_number_30 : decode cX4_number 30 = .ok (.aload_n 0, 1) := dk_42 (dk_at dksX4_number_1 7 rfl rfl)
theorem dX4_number_31 : decode cX4_number 31 = .ok (.invokevirtual 199, 3) := dk_182 0 199 (dk_at dksX4_number_1 8 rfl rfl)
theorem dX4_number_34 : decode cX4_number 34 = .ok (.iadd, 1) := dk_96 (dk_at dksX4_number_1 11 rfl rfl)
theorem dX4_number_35 : decode cX4_number 35 = .ok (.goto 4, 3) := dk_167 0 4 (dk_at dksX4_number_1 12 rfl rfl)
theorem dX4_number_38 : decode cX4_number 38 = .ok (.iload_n 1, 1) := dk_27 (dk_at dksX4_number_1 15 rfl rfl)
theorem dX4_number_39 : decode cX4_number 39 = .ok (.ireturn, 1) := dk_172 (dk_at dksX4_number_1 16 rfl rfl)
abbrev cX4_digit : ByteArray := prog_17_method_65_code
def yX4_digit : MethodName := ⟨RX4, "digit", "()I"⟩
def dkwX4_digit_3 : List UInt8 := [172]
abbrev dktX4_digit_3 : List UInt8 := dkwX4_digit_3 ++ []
def dkwX4_digit_2 : List UInt8 := [100, 60, 42, 89, 180, 0, 169, 42, 180, 0, 172, 153, 0, 7, 3, 167, 0, 4, 4, 96, 181, 0, 169, 27]
abbrev dktX4_digit_2 : List UInt8 := dkwX4_digit_2 ++ dktX4_digit_3
def dkwX4_digit_1 : List UInt8 := [167, 0, 4, 3, 181, 0, 172, 42, 180, 0, 172, 153, 0, 7, 3, 167, 0, 10, 42, 182, 0, 176, 16, 48]
abbrev dktX4_digit_1 : List UInt8 := dkwX4_digit_1 ++ dktX4_digit_2
def dkwX4_digit_0 : List UInt8 := [42, 42, 180, 0, 172, 154, 0, 17, 42, 182, 0, 176, 16, 48, 16, 57, 184, 0, 46, 154, 0, 7, 4]
abbrev dktX4_digit_0 : List UInt8 := dkwX4_digit_0 ++ dktX4_digit_1
theorem dksX4_digit_0 : cX4_digit.data.toList.drop 0 = dktX4_digit_0 := by decide +kernel
theorem dksX4_digit_1 : cX4_digit.data.toList.drop 23 = dktX4_digit_1 := dk_seg dksX4_digit_0 23 rfl rfl
theorem dksX4_digit_2 : cX4_digit.data.toList.drop 47 = dktX4_digit_2 := dk_seg dksX4_digit_1 24 rfl rfl
theorem dksX4_digit_3 : cX4_digit.data.toList.drop 71 = dktX4_digit_3 := dk_seg dksX4_digit_2 24 rfl rfl
theorem dX4_digit_0 : decode cX4_digit 0 = .ok (.aload_n 0, 1) := dk_42 (dk_at dksX4_digit_0 0 rfl rfl)
theorem dX4_digit_1 : decode cX4_digit 1 = .ok (.aload_n 0, 1) := dk_42 (dk_at dksX4_digit_0 1 rfl rfl)
theorem dX4_digit_2 : decode cX4_digit 2 = .ok (.getfield 172, 3) := dk_180 0 172 (dk_at dksX4_digit_0 2 rfl rfl)
theorem dX4_digit_5 : decode cX4_digit 5 = .ok (.ifCond .ne 17, 3) := dk_154 0 17 (dk_at dksX4_digit_0 5 rfl rfl)
theorem dX4_digit_8 : decode cX4_digit 8 = .ok (.aload_n 0, 1) := dk_42 (dk_at dksX4_digit_0 8 rfl rfl)
theorem dX4_digit_9 : decode cX4_digit 9 = .ok (.invokevirtual 176, 3) := dk_182 0 176 (dk_at dksX4_digit_0 9 rfl rfl)
theorem dX4_digit_12 : decode cX4_digit 12 = .ok (.bipush 48, 2) := dk_16 48 (dk_at dksX4_digit_0 12 rfl rfl)
theorem dX4_digit_14 : decode cX4_digit 14 = .ok (.bipush 57, 2) := dk_16 57 (dk_at dksX4_digit_0 14 rfl rfl)
theorem dX4_digit_16 : decode cX4_digit 16 = .ok (.invokestatic 46, 3) := dk_184 0 46 (dk_at dksX4_digit_0 16 rfl rfl)
theorem dX4_digit_19 : decode cX4_digit 19 = .ok (.ifCond .ne 7, 3) := dk_154 0 7 (dk_at dksX4_digit_0 19 rfl rfl)
theorem dX4_digit_22 : decode cX4_digit 22 = .ok (.iconst 1, 1) := dk_4 (dk_at dksX4_digit_0 22 rfl rfl)
theorem dX4_digit_23 : decode cX4_digit 23 = .ok (.goto 4, 3) := dk_167 0 4 (dk_at dksX4_digit_1 0 rfl rfl)
theorem dX4_digit_26 : decode cX4_digit 26 = .ok (.iconst 0, 1) := dk_3 (dk_at dksX4_digit_1 3 rfl rfl)
theorem dX4_digit_27 : decode cX4_digit 27 = .ok (.putfield 172, 3) := dk_181 0 172 (dk_at dksX4_digit_1 4 rfl rfl)
theorem dX4_digit_30 : decode cX4_digit 30 = .ok (.aload_n 0, 1) := dk_42 (dk_at dksX4_digit_1 7 rfl rfl)
theorem dX4_digit_31 : decode cX4_digit 31 = .ok (.getfield 172, 3) := dk_180 0 172 (dk_at dksX4_digit_1 8 rfl rfl)
theorem dX4_digit_34 : decode cX4_digit 34 = .ok (.ifCond .eq 7, 3) := dk_153 0 7 (dk_at dksX4_digit_1 11 rfl rfl)
theorem dX4_digit_37 : decode cX4_digit 37 = .ok (.iconst 0, 1) := dk_3 (dk_at dksX4_digit_1 14 rfl rfl)
theorem dX4_digit_38 : decode cX4_digit 38 = .ok (.goto 10, 3) := dk_167 0 10 (dk_at dksX4_digit_1 15 rfl rfl)
theorem dX4_digit_41 : decode cX4_digit 41 = .ok (.aload_n 0, 1) := dk_42 (dk_at dksX4_digit_1 18 rfl rfl)
theorem dX4_digit_42 : decode cX4_digit 42 = .ok (.invokevirtual 176, 3) := dk_182 0 176 (dk_at dksX4_digit_1 19 rfl rfl)
theorem dX4_digit_45 : decode cX4_digit 45 = .ok (.bipush 48, 2) := dk_16 48 (dk_at dksX4_digit_1 22 rfl rfl)
theorem dX4_digit_47 : decode cX4_digit 47 = .ok (.isub, 1) := dk_100 (dk_at dksX4_digit_2 0 rfl rfl)
theorem dX4_digit_48 : decode cX4_digit 48 = .ok (.istore_n 1, 1) := dk_60 (dk_at dksX4_digit_2 1 rfl rfl)
theorem dX4_digit_49 : decode cX4_digit 49 = .ok (.aload_n 0, 1) := dk_42 (dk_at dksX4_digit_2 2 rfl rfl)
theorem dX4_digit_50 : decode cX4_digit 50 = .ok (.dup, 1) := dk_89 (dk_at dksX4_digit_2 3 rfl rfl)
theorem dX4_digit_51 : decode cX4_digit 51 = .ok (.getfield 169, 3) := dk_180 0 169 (dk_at dksX4_digit_2 4 rfl rfl)
theorem dX4_digit_54 : decode cX4_digit 54 = .ok (.aload_n 0, 1) := dk_42 (dk_at dksX4_digit_2 7 rfl rfl)
theorem dX4_digit_55 : decode cX4_digit 55 = .ok (.getfield 172, 3) := dk_180 0 172 (dk_at dksX4_digit_2 8 rfl rfl)
theorem dX4_digit_58 : decode cX4_digit 58 = .ok (.ifCond .eq 7, 3) := dk_153 0 7 (dk_at dksX4_digit_2 11 rfl rfl)
theorem dX4_digit_61 : decode cX4_digit 61 = .ok (.iconst 0, 1) := dk_3 (dk_at dksX4_digit_2 14 rfl rfl)
theorem dX4_digit_62 : decode cX4_digit 62 = .ok (.goto 4, 3) := dk_167 0 4 (dk_at dksX4_digit_2 15 rfl rfl)
theorem dX4_digit_65 : decode cX4_digit 65 = .ok (.iconst 1, 1) := dk_4 (dk_at dksX4_digit_2 18 rfl rfl)
theorem dX4_digit_66 : decode cX4_digit 66 = .ok (.iadd, 1) := dk_96 (dk_at dksX4_digit_2 19 rfl rfl)
theorem dX4_digit_67 : decode cX4_digit 67 = .ok (.putfield 169, 3) := dk_181 0 169 (dk_at dksX4_digit_2 20 rfl rfl)
theorem dX4_digit_70 : decode cX4_digit 70 = .ok (.iload_n 1, 1) := dk_27 (dk_at dksX4_digit_2 23 rfl rfl)
theorem dX4_digit_71 : decode cX4_digit 71 = .ok (.ireturn, 1) := dk_172 (dk_at dksX4_digit_3 0 rfl rfl)
abbrev cX4_does : ByteArray := prog_17_method_69_code
def yX4_does : MethodName := ⟨RX4, "does", "(I)I"⟩
def dkwX4_does_5 : List UInt8 := [172, 42, 28, 182, 0, 145, 172]
abbrev dktX4_does_5 : List UInt8 := dkwX4_does_5 ++ []
def dkwX4_does_4 : List UInt8 := [28, 182, 0, 111, 172, 42, 28, 182, 0, 129, 172, 42, 28, 42, 180, 0, 29, 27, 5, 96, 46, 182, 0, 132]
abbrev dktX4_does_4 : List UInt8 := dkwX4_does_4 ++ dktX4_does_5
def dkwX4_does_3 : List UInt8 := [180, 0, 29, 27, 6, 96, 46, 182, 0, 105, 172, 42, 28, 182, 0, 120, 172, 42, 28, 182, 0, 126, 172, 42]
abbrev dktX4_does_3 : List UInt8 := dkwX4_does_3 ++ dktX4_does_4
def dkwX4_does_2 : List UInt8 := [42, 28, 182, 0, 80, 172, 42, 28, 182, 0, 86, 172, 42, 28, 42, 180, 0, 29, 27, 5, 96, 46, 42]
abbrev dktX4_does_2 : List UInt8 := dkwX4_does_2 ++ dktX4_does_3
def dkwX4_does_1 : List UInt8 := [170, 0, 0, 0, 117, 0, 0, 0, 0, 0, 0, 0, 7, 0, 0, 0, 45, 0, 0, 0, 51, 0, 0, 0, 57, 0, 0, 0, 79, 0, 0, 0, 85, 0, 0, 0, 91, 0, 0, 0, 97, 0, 0, 0, 103]
abbrev dktX4_does_1 : List UInt8 := dkwX4_does_1 ++ dktX4_does_2
def dkwX4_does_0 : List UInt8 := [42, 180, 0, 29, 27, 4, 96, 46, 61, 42, 180, 0, 29, 27, 46]
abbrev dktX4_does_0 : List UInt8 := dkwX4_does_0 ++ dktX4_does_1
theorem dksX4_does_0 : cX4_does.data.toList.drop 0 = dktX4_does_0 := by decide +kernel
theorem dksX4_does_1 : cX4_does.data.toList.drop 15 = dktX4_does_1 := dk_seg dksX4_does_0 15 rfl rfl
theorem dksX4_does_2 : cX4_does.data.toList.drop 60 = dktX4_does_2 := dk_seg dksX4_does_1 45 rfl rfl
theorem dksX4_does_3 : cX4_does.data.toList.drop 83 = dktX4_does_3 := dk_seg dksX4_does_2 23 rfl rfl
theorem dksX4_does_4 : cX4_does.data.toList.drop 107 = dktX4_does_4 := dk_seg dksX4_does_3 24 rfl rfl
theorem dksX4_does_5 : cX4_does.data.toList.drop 131 = dktX4_does_5 := dk_seg dksX4_does_4 24 rfl rfl
theorem dX4_does_0 : decode cX4_does 0 = .ok (.aload_n 0, 1) := dk_42 (dk_at dksX4_does_0 0 rfl rfl)
theorem dX4_does_1 : decode cX4_does 1 = .ok (.getfield 29, 3) := dk_180 0 29 (dk_at dksX4_does_0 1 rfl rfl)
theorem dX4_does_4 : decode cX4_does 4 = .ok (.iload_n 1, 1) := dk_27 (dk_at dksX4_does_0 4 rfl rfl)
theorem dX4_does_5 : decode cX4_does 5 = .ok (.iconst 1, 1) := dk_4 (dk_at dksX4_does_0 5 rfl rfl)
theorem dX4_does_6 : decode cX4_does 6 = .ok (.iadd, 1) := dk_96 (dk_at dksX4_does_0 6 rfl rfl)
theorem dX4_does_7 : decode cX4_does 7 = .ok (.iaload, 1) := dk_46 (dk_at dksX4_does_0 7 rfl rfl)
theorem dX4_does_8 : decode cX4_does 8 = .ok (.istore_n 2, 1) := dk_61 (dk_at dksX4_does_0 8 rfl rfl)
theorem dX4_does_9 : decode cX4_does 9 = .ok (.aload_n 0, 1) := dk_42 (dk_at dksX4_does_0 9 rfl rfl)
theorem dX4_does_10 : decode cX4_does 10 = .ok (.getfield 29, 3) := dk_180 0 29 (dk_at dksX4_does_0 10 rfl rfl)
theorem dX4_does_13 : decode cX4_does 13 = .ok (.iload_n 1, 1) := dk_27 (dk_at dksX4_does_0 13 rfl rfl)
theorem dX4_does_14 : decode cX4_does 14 = .ok (.iaload, 1) := dk_46 (dk_at dksX4_does_0 14 rfl rfl)
theorem dX4_does_15 : decode cX4_does 15 = .ok (.tableswitch 117 0 7 #[45, 51, 57, 79, 85, 91, 97, 103], 45) := by decide +kernel
theorem dX4_does_60 : decode cX4_does 60 = .ok (.aload_n 0, 1) := dk_42 (dk_at dksX4_does_2 0 rfl rfl)
theorem dX4_does_61 : decode cX4_does 61 = .ok (.iload_n 2, 1) := dk_28 (dk_at dksX4_does_2 1 rfl rfl)
theorem dX4_does_62 : decode cX4_does 62 = .ok (.invokevirtual 80, 3) := dk_182 0 80 (dk_at dksX4_does_2 2 rfl rfl)
theorem dX4_does_65 : decode cX4_does 65 = .ok (.ireturn, 1) := dk_172 (dk_at dksX4_does_2 5 rfl rfl)
theorem dX4_does_66 : decode cX4_does 66 = .ok (.aload_n 0, 1) := dk_42 (dk_at dksX4_does_2 6 rfl rfl)
theorem dX4_does_67 : decode cX4_does 67 = .ok (.iload_n 2, 1) := dk_28 (dk_at dksX4_does_2 7 rfl rfl)
theorem dX4_does_68 : decode cX4_does 68 = .ok (.invokevirtual 86, 3) := dk_182 0 86 (dk_at dksX4_does_2 8 rfl rfl)
theorem dX4_does_71 : decode cX4_does 71 = .ok (.ireturn, 1) := dk_172 (dk_at dksX4_does_2 11 rfl rfl)
theorem dX4_does_72 : decode cX4_does 72 = .ok (.aload_n 0, 1) := dk_42 (dk_at dksX4_does_2 12 rfl rfl)
theorem dX4_does_73 : decode cX4_does 73 = .ok (.iload_n 2, 1) := dk_28 (dk_at dksX4_does_2 13 rfl rfl)
theorem dX4_does_74 : decode cX4_does 74 = .ok (.aload_n 0, 1) := dk_42 (dk_at dksX4_does_2 14 rfl rfl)
theorem dX4_does_75 : decode cX4_does 75 = .ok (.getfield 29, 3) := dk_180 0 29 (dk_at dksX4_does_2 15 rfl rfl)
theorem dX4_does_78 : decode cX4_does 78 = .ok (.iload_n 1, 1) := dk_27 (dk_at dksX4_does_2 18 rfl rfl)
theorem dX4_does_79 : decode cX4_does 79 = .ok (.iconst 2, 1) := dk_5 (dk_at dksX4_does_2 19 rfl rfl)
theorem dX4_does_80 : decode cX4_does 80 = .ok (.iadd, 1) := dk_96 (dk_at dksX4_does_2 20 rfl rfl)
theorem dX4_does_81 : decode cX4_does 81 = .ok (.iaload, 1) := dk_46 (dk_at dksX4_does_2 21 rfl rfl)
theorem dX4_does_82 : decode cX4_does 82 = .ok (.aload_n 0, 1) := dk_42 (dk_at dksX4_does_2 22 rfl rfl)
theorem dX4_does_83 : decode cX4_does 83 = .ok (.getfield 29, 3) := dk_180 0 29 (dk_at dksX4_does_3 0 rfl rfl)
theorem dX4_does_86 : decode cX4_does 86 = .ok (.iload_n 1, 1) := dk_27 (dk_at dksX4_does_3 3 rfl rfl)
theorem dX4_does_87 : decode cX4_does 87 = .ok (.iconst 3, 1) := dk_6 (dk_at dksX4_does_3 4 rfl rfl)
theorem dX4_does_88 : decode cX4_does 88 = .ok (.iadd, 1) := dk_96 (dk_at dksX4_does_3 5 rfl rfl)
theorem dX4_does_89 : decode cX4_does 89 = .ok (.iaload, 1) := dk_46 (dk_at dksX4_does_3 6 rfl rfl)
theorem dX4_does_90 : decode cX4_does 90 = .ok (.invokevirtual 105, 3) := dk_182 0 105 (dk_at dksX4_does_3 7 rfl rfl)
theorem dX4_does_93 : decode cX4_does 93 = .ok (.ireturn, 1) := dk_172 (dk_at dksX4_does_3 10 rfl rfl)
theorem dX4_does_94 : decode cX4_does 94 = .ok (.aload_n 0, 1) := dk_42 (dk_at dksX4_does_3 11 rfl rfl)
theorem dX4_does_95 : decode cX4_does 95 = .ok (.iload_n 2, 1) := dk_28 (dk_at dksX4_does_3 12 rfl rfl)
theorem dX4_does_96 : decode cX4_does 96 = .ok (.invokevirtual 120, 3) := dk_182 0 120 (dk_at dksX4_does_3 13 rfl rfl)
theorem dX4_does_99 : decode cX4_does 99 = .ok (.ireturn, 1) := dk_172 (dk_at dksX4_does_3 16 rfl rfl)
theorem dX4_does_100 : decode cX4_does 100 = .ok (.aload_n 0, 1) := dk_42 (dk_at dksX4_does_3 17 rfl rfl)
theorem dX4_does_101 : decode cX4_does 101 = .ok (.iload_n 2, 1) := dk_28 (dk_at dksX4_does_3 18 rfl rfl)
theorem dX4_does_102 : decode cX4_does 102 = .ok (.invokevirtual 126, 3) := dk_182 0 126 (dk_at dksX4_does_3 19 rfl rfl)
theorem dX4_does_105 : decode cX4_does 105 = .ok (.ireturn, 1) := dk_172 (dk_at dksX4_does_3 22 rfl rfl)
theorem dX4_does_106 : decode cX4_does 106 = .ok (.aload_n 0, 1) := dk_42 (dk_at dksX4_does_3 23 rfl rfl)
theorem dX4_does_107 : decode cX4_does 107 = .ok (.iload_n 2, 1) := dk_28 (dk_at dksX4_does_4 0 rfl rfl)
theorem dX4_does_108 : decode cX4_does 108 = .ok (.invokevirtual 111, 3) := dk_182 0 111 (dk_at dksX4_does_4 1 rfl rfl)
theorem dX4_does_111 : decode cX4_does 111 = .ok (.ireturn, 1) := dk_172 (dk_at dksX4_does_4 4 rfl rfl)
theorem dX4_does_112 : decode cX4_does 112 = .ok (.aload_n 0, 1) := dk_42 (dk_at dksX4_does_4 5 rfl rfl)
theorem dX4_does_113 : decode cX4_does 113 = .ok (.iload_n 2, 1) := dk_28 (dk_at dksX4_does_4 6 rfl rfl)
theorem dX4_does_114 : decode cX4_does 114 = .ok (.invokevirtual 129, 3) := dk_182 0 129 (dk_at dksX4_does_4 7 rfl rfl)
theorem dX4_does_117 : decode cX4_does 117 = .ok (.ireturn, 1) := dk_172 (dk_at dksX4_does_4 10 rfl rfl)
theorem dX4_does_118 : decode cX4_does 118 = .ok (.aload_n 0, 1) := dk_42 (dk_at dksX4_does_4 11 rfl rfl)
theorem dX4_does_119 : decode cX4_does 119 = .ok (.iload_n 2, 1) := dk_28 (dk_at dksX4_does_4 12 rfl rfl)
theorem dX4_does_120 : decode cX4_does 120 = .ok (.aload_n 0, 1) := dk_42 (dk_at dksX4_does_4 13 rfl rfl)
theorem dX4_does_121 : decode cX4_does 121 = .ok (.getfield 29, 3) := dk_180 0 29 (dk_at dksX4_does_4 14 rfl rfl)
theorem dX4_does_124 : decode cX4_does 124 = .ok (.iload_n 1, 1) := dk_27 (dk_at dksX4_does_4 17 rfl rfl)
theorem dX4_does_125 : decode cX4_does 125 = .ok (.iconst 2, 1) := dk_5 (dk_at dksX4_does_4 18 rfl rfl)
theorem dX4_does_126 : decode cX4_does 126 = .ok (.iadd, 1) := dk_96 (dk_at dksX4_does_4 19 rfl rfl)
theorem dX4_does_127 : decode cX4_does 127 = .ok (.iaload, 1) := dk_46 (dk_at dksX4_does_4 20 rfl rfl)
theorem dX4_does_128 : decode cX4_does 128 = .ok (.invokevirtual 132, 3) := dk_182 0 132 (dk_at dksX4_does_4 21 rfl rfl)
theorem dX4_does_131 : decode cX4_does 131 = .ok (.ireturn, 1) := dk_172 (dk_at dksX4_does_5 0 rfl rfl)
theorem dX4_does_132 : decode cX4_does 132 = .ok (.aload_n 0, 1) := dk_42 (dk_at dksX4_does_5 1 rfl rfl)
theorem dX4_does_133 : decode cX4_does 133 = .ok (.iload_n 2, 1) := dk_28 (dk_at dksX4_does_5 2 rfl rfl)
theorem dX4_does_134 : decode cX4_does 134 = .ok (.invokevirtual 145, 3) := dk_182 0 145 (dk_at dksX4_does_5 3 rfl rfl)
theorem dX4_does_137 : decode cX4_does 137 = .ok (.ireturn, 1) := dk_172 (dk_at dksX4_does_5 6 rfl rfl)
abbrev cX4_tell : ByteArray := prog_17_method_73_code
def yX4_tell : MethodName := ⟨RX4, "tell", "(I)I"⟩
def dkwX4_tell_7 : List UInt8 := [172]
abbrev dktX4_tell_7 : List UInt8 := dkwX4_tell_7 ++ []
def dkwX4_tell_6 : List UInt8 := [17, 0, 221, 27, 96, 46, 4, 160, 0, 8, 18, 231, 167, 0, 5, 18, 233, 182, 0, 225, 42, 180, 0, 217]
abbrev dktX4_tell_6 : List UInt8 := dkwX4_tell_6 ++ dktX4_tell_7
def dkwX4_tell_5 : List UInt8 := [164, 0, 8, 16, 43, 167, 0, 5, 16, 45, 182, 0, 220, 132, 2, 1, 167, 255, 186, 42, 42, 180, 0, 7]
abbrev dktX4_tell_5 : List UInt8 := dkwX4_tell_5 ++ dktX4_tell_6
def dkwX4_tell_4 : List UInt8 := [156, 0, 8, 16, 46, 167, 0, 27, 29, 21, 4, 160, 0, 8, 16, 61, 167, 0, 16, 29, 21, 4]
abbrev dktX4_tell_4 : List UInt8 := dkwX4_tell_4 ++ dktX4_tell_5
def dkwX4_tell_3 : List UInt8 := [17, 0, 229, 16, 10, 27, 104, 96, 28, 96, 46, 62, 42, 27, 28, 182, 0, 102, 54, 4, 42, 29]
abbrev dktX4_tell_3 : List UInt8 := dkwX4_tell_3 ++ dktX4_tell_4
def dkwX4_tell_2 : List UInt8 := [96, 46, 96, 182, 0, 220, 42, 18, 229, 182, 0, 225, 3, 61, 28, 16, 10, 162, 0, 70, 42, 180, 0, 7]
abbrev dktX4_tell_2 : List UInt8 := dkwX4_tell_2 ++ dktX4_tell_3
def dkwX4_tell_1 : List UInt8 := [16, 48, 27, 96, 182, 0, 220, 42, 16, 47, 182, 0, 220, 42, 16, 48, 42, 180, 0, 7, 17, 0, 213, 27]
abbrev dktX4_tell_1 : List UInt8 := dkwX4_tell_1 ++ dktX4_tell_2
def dkwX4_tell_0 : List UInt8 := [42, 27, 182, 0, 96, 154, 0, 6, 16, 245, 172, 42, 3, 181, 0, 217, 42, 18, 223, 182, 0, 225, 42]
abbrev dktX4_tell_0 : List UInt8 := dkwX4_tell_0 ++ dktX4_tell_1
theorem dksX4_tell_0 : cX4_tell.data.toList.drop 0 = dktX4_tell_0 := by decide +kernel
theorem dksX4_tell_1 : cX4_tell.data.toList.drop 23 = dktX4_tell_1 := dk_seg dksX4_tell_0 23 rfl rfl
theorem dksX4_tell_2 : cX4_tell.data.toList.drop 47 = dktX4_tell_2 := dk_seg dksX4_tell_1 24 rfl rfl
theorem dksX4_tell_3 : cX4_tell.data.toList.drop 71 = dktX4_tell_3 := dk_seg dksX4_tell_2 24 rfl rfl
theorem dksX4_tell_4 : cX4_tell.data.toList.drop 93 = dktX4_tell_4 := dk_seg dksX4_tell_3 22 rfl rfl
theorem dksX4_tell_5 : cX4_tell.data.toList.drop 115 = dktX4_tell_5 := dk_seg dksX4_tell_4 22 rfl rfl
theorem dksX4_tell_6 : cX4_tell.data.toList.drop 139 = dktX4_tell_6 := dk_seg dksX4_tell_5 24 rfl rfl
theorem dksX4_tell_7 : cX4_tell.data.toList.drop 163 = dktX4_tell_7 := dk_seg dksX4_tell_6 24 rfl rfl
theorem dX4_tell_0 : decode cX4_tell 0 = .ok (.aload_n 0, 1) := dk_42 (dk_at dksX4_tell_0 0 rfl rfl)
theorem dX4_tell_1 : decode cX4_tell 1 = .ok (.iload_n 1, 1) := dk_27 (dk_at dksX4_tell_0 1 rfl rfl)
theorem dX4_tell_2 : decode cX4_tell 2 = .ok (.invokevirtual 96, 3) := dk_182 0 96 (dk_at dksX4_tell_0 2 rfl rfl)
theorem dX4_tell_5 : decode cX4_tell 5 = .ok (.ifCond .ne 6, 3) := dk_154 0 6 (dk_at dksX4_tell_0 5 rfl rfl)
theorem dX4_tell_8 : decode cX4_tell 8 = .ok (.bipush (-11), 2) := dk_16 245 (dk_at dksX4_tell_0 8 rfl rfl)
theorem dX4_tell_10 : decode cX4_tell 10 = .ok (.ireturn, 1) := dk_172 (dk_at dksX4_tell_0 10 rfl rfl)
theorem dX4_tell_11 : decode cX4_tell 11 = .ok (.aload_n 0, 1) := dk_42 (dk_at dksX4_tell_0 11 rfl rfl)
theorem dX4_tell_12 : decode cX4_tell 12 = .ok (.iconst 0, 1) := dk_3 (dk_at dksX4_tell_0 12 rfl rfl)
theorem dX4_tell_13 : decode cX4_tell 13 = .ok (.putfield 217, 3) := dk_181 0 217 (dk_at dksX4_tell_0 13 rfl rfl)
theorem dX4_tell_16 : decode cX4_tell 16 = .ok (.aload_n 0, 1) := dk_42 (dk_at dksX4_tell_0 16 rfl rfl)
theorem dX4_tell_17 : decode cX4_tell 17 = .ok (.ldc 223, 2) := dk_18 223 (dk_at dksX4_tell_0 17 rfl rfl)
theorem dX4_tell_19 : decode cX4_tell 19 = .ok (.invokevirtual 225, 3) := dk_182 0 225 (dk_at dksX4_tell_0 19 rfl rfl)
theorem dX4_tell_22 : decode cX4_tell 22 = .ok (.aload_n 0, 1) := dk_42 (dk_at dksX4_tell_0 22 rfl rfl)
theorem dX4_tell_23 : decode cX4_tell 23 = .ok (.bipush 48, 2) := dk_16 48 (dk_at dksX4_tell_1 0 rfl rfl)
theorem dX4_tell_25 : decode cX4_tell 25 = .ok (.iload_n 1, 1) := dk_27 (dk_at dksX4_tell_1 2 rfl rfl)
theorem dX4_tell_26 : decode cX4_tell 26 = .ok (.iadd, 1) := dk_96 (dk_at dksX4_tell_1 3 rfl rfl)
theorem dX4_tell_27 : decode cX4_tell 27 = .ok (.invokevirtual 220, 3) := dk_182 0 220 (dk_at dksX4_tell_1 4 rfl rfl)
theorem dX4_tell_30 : decode cX4_tell 30 = .ok (.aload_n 0, 1) := dk_42 (dk_at dksX4_tell_1 7 rfl rfl)
theorem dX4_tell_31 : decode cX4_tell 31 = .ok (.bipush 47, 2) := dk_16 47 (dk_at dksX4_tell_1 8 rfl rfl)
theorem dX4_tell_33 : decode cX4_tell 33 = .ok (.invokevirtual 220, 3) := dk_182 0 220 (dk_at dksX4_tell_1 10 rfl rfl)
theorem dX4_tell_36 : decode cX4_tell 36 = .ok (.aload_n 0, 1) := dk_42 (dk_at dksX4_tell_1 13 rfl rfl)
theorem dX4_tell_37 : decode cX4_tell 37 = .ok (.bipush 48, 2) := dk_16 48 (dk_at dksX4_tell_1 14 rfl rfl)
theorem dX4_tell_39 : decode cX4_tell 39 = .ok (.aload_n 0, 1) := dk_42 (dk_at dksX4_tell_1 16 rfl rfl)
theorem dX4_tell_40 : decode cX4_tell 40 = .ok (.getfield 7, 3) := dk_180 0 7 (dk_at dksX4_tell_1 17 rfl rfl)
theorem dX4_tell_43 : decode cX4_tell 43 = .ok (.sipush 213, 3) := dk_17 0 213 (dk_at dksX4_tell_1 20 rfl rfl)
theorem dX4_tell_46 : decode cX4_tell 46 = .ok (.iload_n 1, 1) := dk_27 (dk_at dksX4_tell_1 23 rfl rfl)
theorem dX4_tell_47 : decode cX4_tell 47 = .ok (.iadd, 1) := dk_96 (dk_at dksX4_tell_2 0 rfl rfl)
theorem dX4_tell_48 : decode cX4_tell 48 = .ok (.iaload, 1) := dk_46 (dk_at dksX4_tell_2 1 rfl rfl)
theorem dX4_tell_49 : decode cX4_tell 49 = .ok (.iadd, 1) := dk_96 (dk_at dksX4_tell_2 2 rfl rfl)
theorem dX4_tell_50 : decode cX4_tell 50 = .ok (.invokevirtual 220, 3) := dk_182 0 220 (dk_at dksX4_tell_2 3 rfl rfl)
theorem dX4_tell_53 : decode cX4_tell 53 = .ok (.aload_n 0, 1) := dk_42 (dk_at dksX4_tell_2 6 rfl rfl)
theorem dX4_tell_54 : decode cX4_tell 54 = .ok (.ldc 229, 2) := dk_18 229 (dk_at dksX4_tell_2 7 rfl rfl)
theorem dX4_tell_56 : decode cX4_tell 56 = .ok (.invokevirtual 225, 3) := dk_182 0 225 (dk_at dksX4_tell_2 9 rfl rfl)
theorem dX4_tell_59 : decode cX4_tell 59 = .ok (.iconst 0, 1) := dk_3 (dk_at dksX4_tell_2 12 rfl rfl)
theorem dX4_tell_60 : decode cX4_tell 60 = .ok (.istore_n 2, 1) := dk_61 (dk_at dksX4_tell_2 13 rfl rfl)
theorem dX4_tell_61 : decode cX4_tell 61 = .ok (.iload_n 2, 1) := dk_28 (dk_at dksX4_tell_2 14 rfl rfl)
theorem dX4_tell_62 : decode cX4_tell 62 = .ok (.bipush 10, 2) := dk_16 10 (dk_at dksX4_tell_2 15 rfl rfl)
theorem dX4_tell_64 : decode cX4_tell 64 = .ok (.if_icmp .ge 70, 3) := dk_162 0 70 (dk_at dksX4_tell_2 17 rfl rfl)
theorem dX4_tell_67 : decode cX4_tell 67 = .ok (.aload_n 0, 1) := dk_42 (dk_at dksX4_tell_2 20 rfl rfl)
theorem dX4_tell_68 : decode cX4_tell 68 = .ok (.getfield 7, 3) := dk_180 0 7 (dk_at dksX4_tell_2 21 rfl rfl)
theorem dX4_tell_71 : decode cX4_tell 71 = .ok (.sipush 229, 3) := dk_17 0 229 (dk_at dksX4_tell_3 0 rfl rfl)
theorem dX4_tell_74 : decode cX4_tell 74 = .ok (.bipush 10, 2) := dk_16 10 (dk_at dksX4_tell_3 3 rfl rfl)
theorem dX4_tell_76 : decode cX4_tell 76 = .ok (.iload_n 1, 1) := dk_27 (dk_at dksX4_tell_3 5 rfl rfl)
theorem dX4_tell_77 : decode cX4_tell 77 = .ok (.imul, 1) := dk_104 (dk_at dksX4_tell_3 6 rfl rfl)
theorem dX4_tell_78 : decode cX4_tell 78 = .ok (.iadd, 1) := dk_96 (dk_at dksX4_tell_3 7 rfl rfl)
theorem dX4_tell_79 : decode cX4_tell 79 = .ok (.iload_n 2, 1) := dk_28 (dk_at dksX4_tell_3 8 rfl rfl)
theorem dX4_tell_80 : decode cX4_tell 80 = .ok (.iadd, 1) := dk_96 (dk_at dksX4_tell_3 9 rfl rfl)
theorem dX4_tell_81 : decode cX4_tell 81 = .ok (.iaload, 1) := dk_46 (dk_at dksX4_tell_3 10 rfl rfl)
theorem dX4_tell_82 : decode cX4_tell 82 = .ok (.istore_n 3, 1) := dk_62 (dk_at dksX4_tell_3 11 rfl rfl)
theorem dX4_tell_83 : decode cX4_tell 83 = .ok (.aload_n 0, 1) := dk_42 (dk_at dksX4_tell_3 12 rfl rfl)
theorem dX4_tell_84 : decode cX4_tell 84 = .ok (.iload_n 1, 1) := dk_27 (dk_at dksX4_tell_3 13 rfl rfl)
theorem dX4_tell_85 : decode cX4_tell 85 = .ok (.iload_n 2, 1) := dk_28 (dk_at dksX4_tell_3 14 rfl rfl)
theorem dX4_tell_86 : decode cX4_tell 86 = .ok (.invokevirtual 102, 3) := dk_182 0 102 (dk_at dksX4_tell_3 15 rfl rfl)
theorem dX4_tell_89 : decode cX4_tell 89 = .ok (.istore 4, 2) := dk_54 4 (dk_at dksX4_tell_3 18 rfl rfl)
theorem dX4_tell_91 : decode cX4_tell 91 = .ok (.aload_n 0, 1) := dk_42 (dk_at dksX4_tell_3 20 rfl rfl)
theorem dX4_tell_92 : decode cX4_tell 92 = .ok (.iload_n 3, 1) := dk_29 (dk_at dksX4_tell_3 21 rfl rfl)
theorem dX4_tell_93 : decode cX4_tell 93 = .ok (.ifCond .ge 8, 3) := dk_156 0 8 (dk_at dksX4_tell_4 0 rfl rfl)
theorem dX4_tell_96 : decode cX4_tell 96 = .ok (.bipush 46, 2) := dk_16 46 (dk_at dksX4_tell_4 3 rfl rfl)
theorem dX4_tell_98 : decode cX4_tell 98 = .ok (.goto 27, 3) := dk_167 0 27 (dk_at dksX4_tell_4 5 rfl rfl)
theorem dX4_tell_101 : decode cX4_tell 101 = .ok (.iload_n 3, 1) := dk_29 (dk_at dksX4_tell_4 8 rfl rfl)
theorem dX4_tell_102 : decode cX4_tell 102 = .ok (.iload 4, 2) := dk_21 4 (dk_at dksX4_tell_4 9 rfl rfl)
theorem dX4_tell_104 : decode cX4_tell 104 = .ok (.if_icmp .ne 8, 3) := dk_160 0 8 (dk_at dksX4_tell_4 11 rfl rfl)
theorem dX4_tell_107 : decode cX4_tell 107 = .ok (.bipush 61, 2) := dk_16 61 (dk_at dksX4_tell_4 14 rfl rfl)
theorem dX4_tell_109 : decode cX4_tell 109 = .ok (.goto 16, 3) := dk_167 0 16 (dk_at dksX4_tell_4 16 rfl rfl)
theorem dX4_tell_112 : decode cX4_tell 112 = .ok (.iload_n 3, 1) := dk_29 (dk_at dksX4_tell_4 19 rfl rfl)
theorem dX4_tell_113 : decode cX4_tell 113 = .ok (.iload 4, 2) := dk_21 4 (dk_at dksX4_tell_4 20 rfl rfl)
theorem dX4_tell_115 : decode cX4_tell 115 = .ok (.if_icmp .le 8, 3) := dk_164 0 8 (dk_at dksX4_tell_5 0 rfl rfl)
theorem dX4_tell_118 : decode cX4_tell 118 = .ok (.bipush 43, 2) := dk_16 43 (dk_at dksX4_tell_5 3 rfl rfl)
theorem dX4_tell_120 : decode cX4_tell 120 = .ok (.goto 5, 3) := dk_167 0 5 (dk_at dksX4_tell_5 5 rfl rfl)
theorem dX4_tell_123 : decode cX4_tell 123 = .ok (.bipush 45, 2) := dk_16 45 (dk_at dksX4_tell_5 8 rfl rfl)
theorem dX4_tell_125 : decode cX4_tell 125 = .ok (.invokevirtual 220, 3) := dk_182 0 220 (dk_at dksX4_tell_5 10 rfl rfl)
theorem dX4_tell_128 : decode cX4_tell 128 = .ok (.iinc 2 1, 3) := dk_132 2 1 (dk_at dksX4_tell_5 13 rfl rfl)
theorem dX4_tell_131 : decode cX4_tell 131 = .ok (.goto (-70), 3) := dk_167 255 186 (dk_at dksX4_tell_5 16 rfl rfl)
theorem dX4_tell_134 : decode cX4_tell 134 = .ok (.aload_n 0, 1) := dk_42 (dk_at dksX4_tell_5 19 rfl rfl)
theorem dX4_tell_135 : decode cX4_tell 135 = .ok (.aload_n 0, 1) := dk_42 (dk_at dksX4_tell_5 20 rfl rfl)
theorem dX4_tell_136 : decode cX4_tell 136 = .ok (.getfield 7, 3) := dk_180 0 7 (dk_at dksX4_tell_5 21 rfl rfl)
theorem dX4_tell_139 : decode cX4_tell 139 = .ok (.sipush 221, 3) := dk_17 0 221 (dk_at dksX4_tell_6 0 rfl rfl)
theorem dX4_tell_142 : decode cX4_tell 142 = .ok (.iload_n 1, 1) := dk_27 (dk_at dksX4_tell_6 3 rfl rfl)
theorem dX4_tell_143 : decode cX4_tell 143 = .ok (.iadd, 1) := dk_96 (dk_at dksX4_tell_6 4 rfl rfl)
theorem dX4_tell_144 : decode cX4_tell 144 = .ok (.iaload, 1) := dk_46 (dk_at dksX4_tell_6 5 rfl rfl)
theorem dX4_tell_145 : decode cX4_tell 145 = .ok (.iconst 1, 1) := dk_4 (dk_at dksX4_tell_6 6 rfl rfl)
theorem dX4_tell_146 : decode cX4_tell 146 = .ok (.if_icmp .ne 8, 3) := dk_160 0 8 (dk_at dksX4_tell_6 7 rfl rfl)
theorem dX4_tell_149 : decode cX4_tell 149 = .ok (.ldc 231, 2) := dk_18 231 (dk_at dksX4_tell_6 10 rfl rfl)
theorem dX4_tell_151 : decode cX4_tell 151 = .ok (.goto 5, 3) := dk_167 0 5 (dk_at dksX4_tell_6 12 rfl rfl)
theorem dX4_tell_154 : decode cX4_tell 154 = .ok (.ldc 233, 2) := dk_18 233 (dk_at dksX4_tell_6 15 rfl rfl)
theorem dX4_tell_156 : decode cX4_tell 156 = .ok (.invokevirtual 225, 3) := dk_182 0 225 (dk_at dksX4_tell_6 17 rfl rfl)
theorem dX4_tell_159 : decode cX4_tell 159 = .ok (.aload_n 0, 1) := dk_42 (dk_at dksX4_tell_6 20 rfl rfl)
theorem dX4_tell_160 : decode cX4_tell 160 = .ok (.getfield 217, 3) := dk_180 0 217 (dk_at dksX4_tell_6 21 rfl rfl)
theorem dX4_tell_163 : decode cX4_tell 163 = .ok (.ireturn, 1) := dk_172 (dk_at dksX4_tell_7 0 rfl rfl)
abbrev cX4_putsText : ByteArray := prog_17_method_72_code
def yX4_putsText : MethodName := ⟨RX4, "putsText", "(Ljava/lang/String;)V"⟩
def dkwX4_putsText_1 : List UInt8 := [167, 255, 236, 177]
abbrev dktX4_putsText_1 : List UInt8 := dkwX4_putsText_1 ++ []
def dkwX4_putsText_0 : List UInt8 := [3, 61, 28, 43, 182, 0, 193, 162, 0, 18, 42, 43, 28, 182, 0, 184, 182, 0, 220, 132, 2, 1]
abbrev dktX4_putsText_0 : List UInt8 := dkwX4_putsText_0 ++ dktX4_putsText_1
theorem dksX4_putsText_0 : cX4_putsText.data.toList.drop 0 = dktX4_putsText_0 := by decide +kernel
theorem dksX4_putsText_1 : cX4_putsText.data.toList.drop 22 = dktX4_putsText_1 := dk_seg dksX4_putsText_0 22 rfl rfl
theorem dX4_putsText_0 : decode cX4_putsText 0 = .ok (.iconst 0, 1) := dk_3 (dk_at dksX4_putsText_0 0 rfl rfl)
theorem dX4_putsText_1 : decode cX4_putsText 1 = .ok (.istore_n 2, 1) := dk_61 (dk_at dksX4_putsText_0 1 rfl rfl)
theorem dX4_putsText_2 : decode cX4_putsText 2 = .ok (.iload_n 2, 1) := dk_28 (dk_at dksX4_putsText_0 2 rfl rfl)
theorem dX4_putsText_3 : decode cX4_putsText 3 = .ok (.aload_n 1, 1) := dk_43 (dk_at dksX4_putsText_0 3 rfl rfl)
theorem dX4_putsText_4 : decode cX4_putsText 4 = .ok (.invokevirtual 193, 3) := dk_182 0 193 (dk_at dksX4_putsText_0 4 rfl rfl)
theorem dX4_putsText_7 : decode cX4_putsText 7 = .ok (.if_icmp .ge 18, 3) := dk_162 0 18 (dk_at dksX4_putsText_0 7 rfl rfl)
theorem dX4_putsText_10 : decode cX4_putsText 10 = .ok (.aload_n 0, 1) := dk_42 (dk_at dksX4_putsText_0 10 rfl rfl)
theorem dX4_putsText_11 : decode cX4_putsText 11 = .ok (.aload_n 1, 1) := dk_43 (dk_at dksX4_putsText_0 11 rfl rfl)
theorem dX4_putsText_12 : decode cX4_putsText 12 = .ok (.iload_n 2, 1) := dk_28 (dk_at dksX4_putsText_0 12 rfl rfl)
theorem dX4_putsText_13 : decode cX4_putsText 13 = .ok (.invokevirtual 184, 3) := dk_182 0 184 (dk_at dksX4_putsText_0 13 rfl rfl)
theorem dX4_putsText_16 : decode cX4_putsText 16 = .ok (.invokevirtual 220, 3) := dk_182 0 220 (dk_at dksX4_putsText_0 16 rfl rfl)
theorem dX4_putsText_19 : decode cX4_putsText 19 = .ok (.iinc 2 1, 3) := dk_132 2 1 (dk_at dksX4_putsText_0 19 rfl rfl)
theorem dX4_putsText_22 : decode cX4_putsText 22 = .ok (.goto (-20), 3) := dk_167 255 236 (dk_at dksX4_putsText_1 0 rfl rfl)
theorem dX4_putsText_25 : decode cX4_putsText 25 = .ok (.return_, 1) := dk_177 (dk_at dksX4_putsText_1 3 rfl rfl)
abbrev cX4_puts : ByteArray := prog_17_method_71_code
def yX4_puts : MethodName := ⟨RX4, "puts", "(I)V"⟩
def dkwX4_puts_0 : List UInt8 := [42, 180, 0, 26, 42, 180, 0, 217, 27, 146, 85, 42, 89, 180, 0, 217, 4, 96, 181, 0, 217, 177]
abbrev dktX4_puts_0 : List UInt8 := dkwX4_puts_0 ++ []
theorem dksX4_puts_0 : cX4_puts.data.toList.drop 0 = dktX4_puts_0 := by decide +kernel
theorem dX4_puts_0 : decode cX4_puts 0 = .ok (.aload_n 0, 1) := dk_42 (dk_at dksX4_puts_0 0 rfl rfl)
theorem dX4_puts_1 : decode cX4_puts 1 = .ok (.getfield 26, 3) := dk_180 0 26 (dk_at dksX4_puts_0 1 rfl rfl)
theorem dX4_puts_4 : decode cX4_puts 4 = .ok (.aload_n 0, 1) := dk_42 (dk_at dksX4_puts_0 4 rfl rfl)
theorem dX4_puts_5 : decode cX4_puts 5 = .ok (.getfield 217, 3) := dk_180 0 217 (dk_at dksX4_puts_0 5 rfl rfl)
theorem dX4_puts_8 : decode cX4_puts 8 = .ok (.iload_n 1, 1) := dk_27 (dk_at dksX4_puts_0 8 rfl rfl)
theorem dX4_puts_9 : decode cX4_puts 9 = .ok (.i2c, 1) := dk_146 (dk_at dksX4_puts_0 9 rfl rfl)
theorem dX4_puts_10 : decode cX4_puts 10 = .ok (.castore, 1) := dk_85 (dk_at dksX4_puts_0 10 rfl rfl)
theorem dX4_puts_11 : decode cX4_puts 11 = .ok (.aload_n 0, 1) := dk_42 (dk_at dksX4_puts_0 11 rfl rfl)
theorem dX4_puts_12 : decode cX4_puts 12 = .ok (.dup, 1) := dk_89 (dk_at dksX4_puts_0 12 rfl rfl)
theorem dX4_puts_13 : decode cX4_puts 13 = .ok (.getfield 217, 3) := dk_180 0 217 (dk_at dksX4_puts_0 13 rfl rfl)
theorem dX4_puts_16 : decode cX4_puts 16 = .ok (.iconst 1, 1) := dk_4 (dk_at dksX4_puts_0 16 rfl rfl)
theorem dX4_puts_17 : decode cX4_puts 17 = .ok (.iadd, 1) := dk_96 (dk_at dksX4_puts_0 17 rfl rfl)
theorem dX4_puts_18 : decode cX4_puts 18 = .ok (.putfield 217, 3) := dk_181 0 217 (dk_at dksX4_puts_0 18 rfl rfl)
theorem dX4_puts_21 : decode cX4_puts 21 = .ok (.return_, 1) := dk_177 (dk_at dksX4_puts_0 21 rfl rfl)
abbrev cX4_tellLedges : ByteArray := prog_17_method_74_code
def yX4_tellLedges : MethodName := ⟨RX4, "tellLedges", "()I"⟩
def dkwX4_tellLedges_3 : List UInt8 := [132, 1, 1, 167, 255, 190, 42, 180, 0, 217, 172]
abbrev dktX4_tellLedges_3 : List UInt8 := dkwX4_tellLedges_3 ++ []
def dkwX4_tellLedges_2 : List UInt8 := [167, 0, 5, 16, 99, 182, 0, 220, 42, 16, 48, 42, 180, 0, 7, 16, 8, 27, 96, 46, 96, 182, 0, 220]
abbrev dktX4_tellLedges_2 : List UInt8 := dkwX4_tellLedges_2 ++ dktX4_tellLedges_3
def dkwX4_tellLedges_1 : List UInt8 := [154, 0, 8, 16, 111, 167, 0, 23, 42, 180, 0, 7, 16, 14, 27, 96, 46, 4, 160, 0, 8, 16, 46]
abbrev dktX4_tellLedges_1 : List UInt8 := dkwX4_tellLedges_1 ++ dktX4_tellLedges_2
def dkwX4_tellLedges_0 : List UInt8 := [42, 3, 181, 0, 217, 3, 60, 27, 16, 6, 162, 0, 66, 42, 42, 180, 0, 7, 16, 14, 27, 96, 46]
abbrev dktX4_tellLedges_0 : List UInt8 := dkwX4_tellLedges_0 ++ dktX4_tellLedges_1
theorem dksX4_tellLedges_0 : cX4_tellLedges.data.toList.drop 0 = dktX4_tellLedges_0 := by decide +kernel
theorem dksX4_tellLedges_1 : cX4_tellLedges.data.toList.drop 23 = dktX4_tellLedges_1 := dk_seg dksX4_tellLedges_0 23 rfl rfl
theorem dksX4_tellLedges_2 : cX4_tellLedges.data.toList.drop 46 = dktX4_tellLedges_2 := dk_seg dksX4_tellLedges_1 23 rfl rfl
theorem dksX4_tellLedges_3 : cX4_tellLedges.data.toList.drop 70 = dktX4_tellLedges_3 := dk_seg dksX4_tellLedges_2 24 rfl rfl
theorem dX4_tellLedges_0 : decode cX4_tellLedges 0 = .ok (.aload_n 0, 1) := dk_42 (dk_at dksX4_tellLedges_0 0 rfl rfl)
theorem dX4_tellLedges_1 : decode cX4_tellLedges 1 = .ok (.iconst 0, 1) := dk_3 (dk_at dksX4_tellLedges_0 1 rfl rfl)
theorem dX4_tellLedges_2 : decode cX4_tellLedges 2 = .ok (.putfield 217, 3) := dk_181 0 217 (dk_at dksX4_tellLedges_0 2 rfl rfl)
theorem dX4_tellLedges_5 : decode cX4_tellLedges 5 = .ok (.iconst 0, 1) := dk_3 (dk_at dksX4_tellLedges_0 5 rfl rfl)
theorem dX4_tellLedges_6 : decode cX4_tellLedges 6 = .ok (.istore_n 1, 1) := dk_60 (dk_at dksX4_tellLedges_0 6 rfl rfl)
theorem dX4_tellLedges_7 : decode cX4_tellLedges 7 = .ok (.iload_n 1, 1) := dk_27 (dk_at dksX4_tellLedges_0 7 rfl rfl)
theorem dX4_tellLedges_8 : decode cX4_tellLedges 8 = .ok (.bipush 6, 2) := dk_16 6 (dk_at dksX4_tellLedges_0 8 rfl rfl)
theorem dX4_tellLedges_10 : decode cX4_tellLedges 10 = .ok (.if_icmp .ge 66, 3) := dk_162 0 66 (dk_at dksX4_tellLedges_0 10 rfl rfl)
theorem dX4_tellLedges_13 : decode cX4_tellLedges 13 = .ok (.aload_n 0, 1) := dk_42 (dk_at dksX4_tellLedges_0 13 rfl rfl)
theorem dX4_tellLedges_14 : decode cX4_tellLedges 14 = .ok (.aload_n 0, 1) := dk_42 (dk_at dksX4_tellLedges_0 14 rfl rfl)
theorem dX4_tellLedges_15 : decode cX4_tellLedges 15 = .ok (.getfield 7, 3) := dk_180 0 7 (dk_at dksX4_tellLedges_0 15 rfl rfl)
theorem dX4_tellLedges_18 : decode cX4_tellLedges 18 = .ok (.bipush 14, 2) := dk_16 14 (dk_at dksX4_tellLedges_0 18 rfl rfl)
theorem dX4_tellLedges_20 : decode cX4_tellLedges 20 = .ok (.iload_n 1, 1) := dk_27 (dk_at dksX4_tellLedges_0 20 rfl rfl)
theorem dX4_tellLedges_21 : decode cX4_tellLedges 21 = .ok (.iadd, 1) := dk_96 (dk_at dksX4_tellLedges_0 21 rfl rfl)
theorem dX4_tellLedges_22 : decode cX4_tellLedges 22 = .ok (.iaload, 1) := dk_46 (dk_at dksX4_tellLedges_0 22 rfl rfl)
theorem dX4_tellLedges_23 : decode cX4_tellLedges 23 = .ok (.ifCond .ne 8, 3) := dk_154 0 8 (dk_at dksX4_tellLedges_1 0 rfl rfl)
theorem dX4_tellLedges_26 : decode cX4_tellLedges 26 = .ok (.bipush 111, 2) := dk_16 111 (dk_at dksX4_tellLedges_1 3 rfl rfl)
theorem dX4_tellLedges_28 : decode cX4_tellLedges 28 = .ok (.goto 23, 3) := dk_167 0 23 (dk_at dksX4_tellLedges_1 5 rfl rfl)
theorem dX4_tellLedges_31 : decode cX4_tellLedges 31 = .ok (.aload_n 0, 1) := dk_42 (dk_at dksX4_tellLedges_1 8 rfl rfl)
theorem dX4_tellLedges_32 : decode cX4_tellLedges 32 = .ok (.getfield 7, 3) := dk_180 0 7 (dk_at dksX4_tellLedges_1 9 rfl rfl)
theorem dX4_tellLedges_35 : decode cX4_tellLedges 35 = .ok (.bipush 14, 2) := dk_16 14 (dk_at dksX4_tellLedges_1 12 rfl rfl)
theorem dX4_tellLedges_37 : decode cX4_tellLedges 37 = .ok (.iload_n 1, 1) := dk_27 (dk_at dksX4_tellLedges_1 14 rfl rfl)
theorem dX4_tellLedges_38 : decode cX4_tellLedges 38 = .ok (.iadd, 1) := dk_96 (dk_at dksX4_tellLedges_1 15 rfl rfl)
theorem dX4_tellLedges_39 : decode cX4_tellLedges 39 = .ok (.iaload, 1) := dk_46 (dk_at dksX4_tellLedges_1 16 rfl rfl)
theorem dX4_tellLedges_40 : decode cX4_tellLedges 40 = .ok (.iconst 1, 1) := dk_4 (dk_at dksX4_tellLedges_1 17 rfl rfl)
theorem dX4_tellLedges_41 : decode cX4_tellLedges 41 = .ok (.if_icmp .ne 8, 3) := dk_160 0 8 (dk_at dksX4_tellLedges_1 18 rfl rfl)
theorem dX4_tellLedges_44 : decode cX4_tellLedges 44 = .ok (.bipush 46, 2) := dk_16 46 (dk_at dksX4_tellLedges_1 21 rfl rfl)
theorem dX4_tellLedges_46 : decode cX4_tellLedges 46 = .ok (.goto 5, 3) := dk_167 0 5 (dk_at dksX4_tellLedges_2 0 rfl rfl)
theorem dX4_tellLedges_49 : decode cX4_tellLedges 49 = .ok (.bipush 99, 2) := dk_16 99 (dk_at dksX4_tellLedges_2 3 rfl rfl)
theorem dX4_tellLedges_51 : decode cX4_tellLedges 51 = .ok (.invokevirtual 220, 3) := dk_182 0 220 (dk_at dksX4_tellLedges_2 5 rfl rfl)
theorem dX4_tellLedges_54 : decode cX4_tellLedges 54 = .ok (.aload_n 0, 1) := dk_42 (dk_at dksX4_tellLedges_2 8 rfl rfl)
theorem dX4_tellLedges_55 : decode cX4_tellLedges 55 = .ok (.bipush 48, 2) := dk_16 48 (dk_at dksX4_tellLedges_2 9 rfl rfl)
theorem dX4_tellLedges_57 : decode cX4_tellLedges 57 = .ok (.aload_n 0, 1) := dk_42 (dk_at dksX4_tellLedges_2 11 rfl rfl)
theorem dX4_tellLedges_58 : decode cX4_tellLedges 58 = .ok (.getfield 7, 3) := dk_180 0 7 (dk_at dksX4_tellLedges_2 12 rfl rfl)
theorem dX4_tellLedges_61 : decode cX4_tellLedges 61 = .ok (.bipush 8, 2) := dk_16 8 (dk_at dksX4_tellLedges_2 15 rfl rfl)
theorem dX4_tellLedges_63 : decode cX4_tellLedges 63 = .ok (.iload_n 1, 1) := dk_27 (dk_at dksX4_tellLedges_2 17 rfl rfl)
theorem dX4_tellLedges_64 : decode cX4_tellLedges 64 = .ok (.iadd, 1) := dk_96 (dk_at dksX4_tellLedges_2 18 rfl rfl)
theorem dX4_tellLedges_65 : decode cX4_tellLedges 65 = .ok (.iaload, 1) := dk_46 (dk_at dksX4_tellLedges_2 19 rfl rfl)
theorem dX4_tellLedges_66 : decode cX4_tellLedges 66 = .ok (.iadd, 1) := dk_96 (dk_at dksX4_tellLedges_2 20 rfl rfl)
theorem dX4_tellLedges_67 : decode cX4_tellLedges 67 = .ok (.invokevirtual 220, 3) := dk_182 0 220 (dk_at dksX4_tellLedges_2 21 rfl rfl)
theorem dX4_tellLedges_70 : decode cX4_tellLedges 70 = .ok (.iinc 1 1, 3) := dk_132 1 1 (dk_at dksX4_tellLedges_3 0 rfl rfl)
theorem dX4_tellLedges_73 : decode cX4_tellLedges 73 = .ok (.goto (-66), 3) := dk_167 255 190 (dk_at dksX4_tellLedges_3 3 rfl rfl)
theorem dX4_tellLedges_76 : decode cX4_tellLedges 76 = .ok (.aload_n 0, 1) := dk_42 (dk_at dksX4_tellLedges_3 6 rfl rfl)
theorem dX4_tellLedges_77 : decode cX4_tellLedges 77 = .ok (.getfield 217, 3) := dk_180 0 217 (dk_at dksX4_tellLedges_3 7 rfl rfl)
theorem dX4_tellLedges_80 : decode cX4_tellLedges 80 = .ok (.ireturn, 1) := dk_172 (dk_at dksX4_tellLedges_3 10 rfl rfl)
abbrev cX4_character : ByteArray := prog_17_method_75_code
def yX4_character : MethodName := ⟨RX4, "character", "(I)I"⟩
def dkwX4_character_1 : List UInt8 := [16, 245, 172]
abbrev dktX4_character_1 : List UInt8 := dkwX4_character_1 ++ []
def dkwX4_character_0 : List UInt8 := [27, 3, 42, 180, 0, 217, 4, 100, 184, 0, 46, 153, 0, 12, 42, 180, 0, 26, 27, 52, 167, 0, 5]
abbrev dktX4_character_0 : List UInt8 := dkwX4_character_0 ++ dktX4_character_1
theorem dksX4_character_0 : cX4_character.data.toList.drop 0 = dktX4_character_0 := by decide +kernel
theorem dksX4_character_1 : cX4_character.data.toList.drop 23 = dktX4_character_1 := dk_seg dksX4_character_0 23 rfl rfl
theorem dX4_character_0 : decode cX4_character 0 = .ok (.iload_n 1, 1) := dk_27 (dk_at dksX4_character_0 0 rfl rfl)
theorem dX4_character_1 : decode cX4_character 1 = .ok (.iconst 0, 1) := dk_3 (dk_at dksX4_character_0 1 rfl rfl)
theorem dX4_character_2 : decode cX4_character 2 = .ok (.aload_n 0, 1) := dk_42 (dk_at dksX4_character_0 2 rfl rfl)
theorem dX4_character_3 : decode cX4_character 3 = .ok (.getfield 217, 3) := dk_180 0 217 (dk_at dksX4_character_0 3 rfl rfl)
theorem dX4_character_6 : decode cX4_character 6 = .ok (.iconst 1, 1) := dk_4 (dk_at dksX4_character_0 6 rfl rfl)
theorem dX4_character_7 : decode cX4_character 7 = .ok (.isub, 1) := dk_100 (dk_at dksX4_character_0 7 rfl rfl)
theorem dX4_character_8 : decode cX4_character 8 = .ok (.invokestatic 46, 3) := dk_184 0 46 (dk_at dksX4_character_0 8 rfl rfl)
theorem dX4_character_11 : decode cX4_character 11 = .ok (.ifCond .eq 12, 3) := dk_153 0 12 (dk_at dksX4_character_0 11 rfl rfl)
theorem dX4_character_14 : decode cX4_character 14 = .ok (.aload_n 0, 1) := dk_42 (dk_at dksX4_character_0 14 rfl rfl)
theorem dX4_character_15 : decode cX4_character 15 = .ok (.getfield 26, 3) := dk_180 0 26 (dk_at dksX4_character_0 15 rfl rfl)
theorem dX4_character_18 : decode cX4_character 18 = .ok (.iload_n 1, 1) := dk_27 (dk_at dksX4_character_0 18 rfl rfl)
theorem dX4_character_19 : decode cX4_character 19 = .ok (.caload, 1) := dk_52 (dk_at dksX4_character_0 19 rfl rfl)
theorem dX4_character_20 : decode cX4_character 20 = .ok (.goto 5, 3) := dk_167 0 5 (dk_at dksX4_character_0 20 rfl rfl)
theorem dX4_character_23 : decode cX4_character 23 = .ok (.bipush (-11), 2) := dk_16 245 (dk_at dksX4_character_1 0 rfl rfl)
theorem dX4_character_25 : decode cX4_character 25 = .ok (.ireturn, 1) := dk_172 (dk_at dksX4_character_1 2 rfl rfl)
abbrev cX4_reason : ByteArray := prog_17_method_76_code
def yX4_reason : MethodName := ⟨RX4, "reason", "(Z)I"⟩
def dkwX4_reason_1 : List UInt8 := [180, 0, 32, 172]
abbrev dktX4_reason_1 : List UInt8 := dkwX4_reason_1 ++ []
def dkwX4_reason_0 : List UInt8 := [42, 180, 0, 32, 154, 0, 8, 16, 241, 167, 0, 18, 27, 153, 0, 10, 42, 180, 0, 36, 167, 0, 7, 42]
abbrev dktX4_reason_0 : List UInt8 := dkwX4_reason_0 ++ dktX4_reason_1
theorem dksX4_reason_0 : cX4_reason.data.toList.drop 0 = dktX4_reason_0 := by decide +kernel
theorem dksX4_reason_1 : cX4_reason.data.toList.drop 24 = dktX4_reason_1 := dk_seg dksX4_reason_0 24 rfl rfl
theorem dX4_reason_0 : decode cX4_reason 0 = .ok (.aload_n 0, 1) := dk_42 (dk_at dksX4_reason_0 0 rfl rfl)
theorem dX4_reason_1 : decode cX4_reason 1 = .ok (.getfield 32, 3) := dk_180 0 32 (dk_at dksX4_reason_0 1 rfl rfl)
theorem dX4_reason_4 : decode cX4_reason 4 = .ok (.ifCond .ne 8, 3) := dk_154 0 8 (dk_at dksX4_reason_0 4 rfl rfl)
theorem dX4_reason_7 : decode cX4_reason 7 = .ok (.bipush (-15), 2) := dk_16 241 (dk_at dksX4_reason_0 7 rfl rfl)
theorem dX4_reason_9 : decode cX4_reason 9 = .ok (.goto 18, 3) := dk_167 0 18 (dk_at dksX4_reason_0 9 rfl rfl)
theorem dX4_reason_12 : decode cX4_reason 12 = .ok (.iload_n 1, 1) := dk_27 (dk_at dksX4_reason_0 12 rfl rfl)
theorem dX4_reason_13 : decode cX4_reason 13 = .ok (.ifCond .eq 10, 3) := dk_153 0 10 (dk_at dksX4_reason_0 13 rfl rfl)
theorem dX4_reason_16 : decode cX4_reason 16 = .ok (.aload_n 0, 1) := dk_42 (dk_at dksX4_reason_0 16 rfl rfl)
theorem dX4_reason_17 : decode cX4_reason 17 = .ok (.getfield 36, 3) := dk_180 0 36 (dk_at dksX4_reason_0 17 rfl rfl)
theorem dX4_reason_20 : decode cX4_reason 20 = .ok (.goto 7, 3) := dk_167 0 7 (dk_at dksX4_reason_0 20 rfl rfl)
theorem dX4_reason_23 : decode cX4_reason 23 = .ok (.aload_n 0, 1) := dk_42 (dk_at dksX4_reason_0 23 rfl rfl)
theorem dX4_reason_24 : decode cX4_reason 24 = .ok (.getfield 32, 3) := dk_180 0 32 (dk_at dksX4_reason_1 0 rfl rfl)
theorem dX4_reason_27 : decode cX4_reason 27 = .ok (.ireturn, 1) := dk_172 (dk_at dksX4_reason_1 3 rfl rfl)
abbrev cX4_account : ByteArray := prog_17_method_77_code
def yX4_account : MethodName := ⟨RX4, "account", "(I)I"⟩
def dkwX4_account_7 : List UInt8 := [172, 16, 244, 172]
abbrev dktX4_account_7 : List UInt8 := dkwX4_account_7 ++ []
def dkwX4_account_6 : List UInt8 := [16, 6, 182, 0, 235, 172, 42, 16, 8, 16, 6, 182, 0, 235, 172, 42, 180, 0, 148, 172, 42, 180, 0, 43]
abbrev dktX4_account_6 : List UInt8 := dkwX4_account_6 ++ dktX4_account_7
def dkwX4_account_5 : List UInt8 := [42, 180, 0, 7, 7, 27, 96, 16, 10, 100, 46, 172, 42, 16, 32, 16, 6, 27, 16, 14, 100, 104, 96]
abbrev dktX4_account_5 : List UInt8 := dkwX4_account_5 ++ dktX4_account_6
def dkwX4_account_4 : List UInt8 := [17, 0, 221, 42, 180, 0, 7, 17, 0, 212, 46, 182, 0, 235, 172, 42, 180, 0, 7, 17, 1, 53, 46, 172]
abbrev dktX4_account_4 : List UInt8 := dkwX4_account_4 ++ dktX4_account_5
def dkwX4_account_3 : List UInt8 := [46, 182, 0, 235, 172, 42, 180, 0, 7, 17, 0, 191, 46, 172, 42, 180, 0, 7, 17, 0, 212, 46, 172, 42]
abbrev dktX4_account_3 : List UInt8 := dkwX4_account_3 ++ dktX4_account_4
def dkwX4_account_2 : List UInt8 := [42, 180, 0, 7, 27, 46, 172, 42, 180, 0, 7, 16, 50, 46, 172, 42, 16, 71, 42, 180, 0, 7, 16, 50]
abbrev dktX4_account_2 : List UInt8 := dkwX4_account_2 ++ dktX4_account_3
def dkwX4_account_1 : List UInt8 := [170, 0, 0, 0, 0, 0, 211, 0, 0, 0, 0, 0, 0, 0, 18, 0, 0, 0, 91, 0, 0, 0, 91, 0, 0, 0, 91, 0, 0, 0, 91, 0, 0, 0, 98, 0, 0, 0, 106, 0, 0, 0, 120, 0, 0, 0, 129, 0, 0, 0, 138, 0, 0, 0, 154, 0, 0, 0, 163, 0, 0, 0, 163, 0, 0, 0, 163, 0, 0, 0, 163, 0, 0, 0, 175, 0, 0, 0, 175, 0, 0, 0, 192, 0, 0, 0, 201, 0, 0, 0, 206]
abbrev dktX4_account_1 : List UInt8 := dkwX4_account_1 ++ dktX4_account_2
def dkwX4_account_0 : List UInt8 := [27]
abbrev dktX4_account_0 : List UInt8 := dkwX4_account_0 ++ dktX4_account_1
theorem dksX4_account_0 : cX4_account.data.toList.drop 0 = dktX4_account_0 := by decide +kernel
theorem dksX4_account_1 : cX4_account.data.toList.drop 1 = dktX4_account_1 := dk_seg dksX4_account_0 1 rfl rfl
theorem dksX4_account_2 : cX4_account.data.toList.drop 92 = dktX4_account_2 := dk_seg dksX4_account_1 91 rfl rfl
theorem dksX4_account_3 : cX4_account.data.toList.drop 116 = dktX4_account_3 := dk_seg dksX4_account_2 24 rfl rfl
theorem dksX4_account_4 : cX4_account.data.toList.drop 140 = dktX4_account_4 := dk_seg dksX4_account_3 24 rfl rfl
theorem dksX4_account_5 : cX4_account.data.toList.drop 164 = dktX4_account_5 := dk_seg dksX4_account_4 24 rfl rfl
theorem dksX4_account_6 : cX4_account.data.toList.drop 187 = dktX4_account_6 := dk_seg dksX4_account_5 23 rfl rfl
theorem dksX4_account_7 : cX4_account.data.toList.drop 211 = dktX4_account_7 := dk_seg dksX4_account_6 24 rfl rfl
theorem dX4_account_0 : decode cX4_account 0 = .ok (.iload_n 1, 1) := dk_27 (dk_at dksX4_account_0 0 rfl rfl)
theorem dX4_account_1 : decode cX4_account 1 = .ok (.tableswitch 211 0 18 #[91, 91, 91, 91, 98, 106, 120, 129, 138, 154, 163, 163, 163, 163, 175, 175, 192, 201, 206], 91) := by decide +kernel
theorem dX4_account_92 : decode cX4_account 92 = .ok (.aload_n 0, 1) := dk_42 (dk_at dksX4_account_2 0 rfl rfl)
theorem dX4_account_93 : decode cX4_account 93 = .ok (.getfield 7, 3) := dk_180 0 7 (dk_at dksX4_account_2 1 rfl rfl)
theorem dX4_account_96 : decode cX4_account 96 = .ok (.iload_n 1, 1) := dk_27 (dk_at dksX4_account_2 4 rfl rfl)
theorem dX4_account_97 : decode cX4_account 97 = .ok (.iaload, 1) := dk_46 (dk_at dksX4_account_2 5 rfl rfl)
theorem dX4_account_98 : decode cX4_account 98 = .ok (.ireturn, 1) := dk_172 (dk_at dksX4_account_2 6 rfl rfl)
theorem dX4_account_99 : decode cX4_account 99 = .ok (.aload_n 0, 1) := dk_42 (dk_at dksX4_account_2 7 rfl rfl)
theorem dX4_account_100 : decode cX4_account 100 = .ok (.getfield 7, 3) := dk_180 0 7 (dk_at dksX4_account_2 8 rfl rfl)
theorem dX4_account_103 : decode cX4_account 103 = .ok (.bipush 50, 2) := dk_16 50 (dk_at dksX4_account_2 11 rfl rfl)
theorem dX4_account_105 : decode cX4_account 105 = .ok (.iaload, 1) := dk_46 (dk_at dksX4_account_2 13 rfl rfl)
theorem dX4_account_106 : decode cX4_account 106 = .ok (.ireturn, 1) := dk_172 (dk_at dksX4_account_2 14 rfl rfl)
theorem dX4_account_107 : decode cX4_account 107 = .ok (.aload_n 0, 1) := dk_42 (dk_at dksX4_account_2 15 rfl rfl)
theorem dX4_account_108 : decode cX4_account 108 = .ok (.bipush 71, 2) := dk_16 71 (dk_at dksX4_account_2 16 rfl rfl)
theorem dX4_account_110 : decode cX4_account 110 = .ok (.aload_n 0, 1) := dk_42 (dk_at dksX4_account_2 18 rfl rfl)
theorem dX4_account_111 : decode cX4_account 111 = .ok (.getfield 7, 3) := dk_180 0 7 (dk_at dksX4_account_2 19 rfl rfl)
theorem dX4_account_114 : decode cX4_account 114 = .ok (.bipush 50, 2) := dk_16 50 (dk_at dksX4_account_2 22 rfl rfl)
theorem dX4_account_116 : decode cX4_account 116 = .ok (.iaload, 1) := dk_46 (dk_at dksX4_account_3 0 rfl rfl)
theorem dX4_account_117 : decode cX4_account 117 = .ok (.invokevirtual 235, 3) := dk_182 0 235 (dk_at dksX4_account_3 1 rfl rfl)
theorem dX4_account_120 : decode cX4_account 120 = .ok (.ireturn, 1) := dk_172 (dk_at dksX4_account_3 4 rfl rfl)
theorem dX4_account_121 : decode cX4_account 121 = .ok (.aload_n 0, 1) := dk_42 (dk_at dksX4_account_3 5 rfl rfl)
theorem dX4_account_122 : decode cX4_account 122 = .ok (.getfield 7, 3) := dk_180 0 7 (dk_at dksX4_account_3 6 rfl rfl)
theorem dX4_account_125 : decode cX4_account 125 = .ok (.sipush 191, 3) := dk_17 0 191 (dk_at dksX4_account_3 9 rfl rfl)
theorem dX4_account_128 : decode cX4_account 128 = .ok (.iaload, 1) := dk_46 (dk_at dksX4_account_3 12 rfl rfl)
theorem dX4_account_129 : decode cX4_account 129 = .ok (.ireturn, 1) := dk_172 (dk_at dksX4_account_3 13 rfl rfl)
theorem dX4_account_130 : decode cX4_account 130 = .ok (.aload_n 0, 1) := dk_42 (dk_at dksX4_account_3 14 rfl rfl)
theorem dX4_account_131 : decode cX4_account 131 = .ok (.getfield 7, 3) := dk_180 0 7 (dk_at dksX4_account_3 15 rfl rfl)
theorem dX4_account_134 : decode cX4_account 134 = .ok (.sipush 212, 3) := dk_17 0 212 (dk_at dksX4_account_3 18 rfl rfl)
theorem dX4_account_137 : decode cX4_account 137 = .ok (.iaload, 1) := dk_46 (dk_at dksX4_account_3 21 rfl rfl)
theorem dX4_account_138 : decode cX4_account 138 = .ok (.ireturn, 1) := dk_172 (dk_at dksX4_account_3 22 rfl rfl)
theorem dX4_account_139 : decode cX4_account 139 = .ok (.aload_n 0, 1) := dk_42 (dk_at dksX4_account_3 23 rfl rfl)
theorem dX4_account_140 : decode cX4_account 140 = .ok (.sipush 221, 3) := dk_17 0 221 (dk_at dksX4_account_4 0 rfl rfl)
theorem dX4_account_143 : decode cX4_account 143 = .ok (.aload_n 0, 1) := dk_42 (dk_at dksX4_account_4 3 rfl rfl)
theorem dX4_account_144 : decode cX4_account 144 = .ok (.getfield 7, 3) := dk_180 0 7 (dk_at dksX4_account_4 4 rfl rfl)
theorem dX4_account_147 : decode cX4_account 147 = .ok (.sipush 212, 3) := dk_17 0 212 (dk_at dksX4_account_4 7 rfl rfl)
theorem dX4_account_150 : decode cX4_account 150 = .ok (.iaload, 1) := dk_46 (dk_at dksX4_account_4 10 rfl rfl)
theorem dX4_account_151 : decode cX4_account 151 = .ok (.invokevirtual 235, 3) := dk_182 0 235 (dk_at dksX4_account_4 11 rfl rfl)
theorem dX4_account_154 : decode cX4_account 154 = .ok (.ireturn, 1) := dk_172 (dk_at dksX4_account_4 14 rfl rfl)
theorem dX4_account_155 : decode cX4_account 155 = .ok (.aload_n 0, 1) := dk_42 (dk_at dksX4_account_4 15 rfl rfl)
theorem dX4_account_156 : decode cX4_account 156 = .ok (.getfield 7, 3) := dk_180 0 7 (dk_at dksX4_account_4 16 rfl rfl)
theorem dX4_account_159 : decode cX4_account 159 = .ok (.sipush 309, 3) := dk_17 1 53 (dk_at dksX4_account_4 19 rfl rfl)
theorem dX4_account_162 : decode cX4_account 162 = .ok (.iaload, 1) := dk_46 (dk_at dksX4_account_4 22 rfl rfl)
theorem dX4_account_163 : decode cX4_account 163 = .ok (.ireturn, 1) := dk_172 (dk_at dksX4_account_4 23 rfl rfl)
theorem dX4_account_164 : decode cX4_account 164 = .ok (.aload_n 0, 1) := dk_42 (dk_at dksX4_account_5 0 rfl rfl)
theorem dX4_account_165 : decode cX4_account 165 = .ok (.getfield 7, 3) := dk_180 0 7 (dk_at dksX4_account_5 1 rfl rfl)
theorem dX4_account_168 : decode cX4_account 168 = .ok (.iconst 4, 1) := dk_7 (dk_at dksX4_account_5 4 rfl rfl)
theorem dX4_account_169 : decode cX4_account 169 = .ok (.iload_n 1, 1) := dk_27 (dk_at dksX4_account_5 5 rfl rfl)
theorem dX4_account_170 : decode cX4_account 170 = .ok (.iadd, 1) := dk_96 (dk_at dksX4_account_5 6 rfl rfl)
theorem dX4_account_171 : decode cX4_account 171 = .ok (.bipush 10, 2) := dk_16 10 (dk_at dksX4_account_5 7 rfl rfl)
theorem dX4_account_173 : decode cX4_account 173 = .ok (.isub, 1) := dk_100 (dk_at dksX4_account_5 9 rfl rfl)
theorem dX4_account_174 : decode cX4_account 174 = .ok (.iaload, 1) := dk_46 (dk_at dksX4_account_5 10 rfl rfl)
theorem dX4_account_175 : decode cX4_account 175 = .ok (.ireturn, 1) := dk_172 (dk_at dksX4_account_5 11 rfl rfl)
theorem dX4_account_176 : decode cX4_account 176 = .ok (.aload_n 0, 1) := dk_42 (dk_at dksX4_account_5 12 rfl rfl)
theorem dX4_account_177 : decode cX4_account 177 = .ok (.bipush 32, 2) := dk_16 32 (dk_at dksX4_account_5 13 rfl rfl)
theorem dX4_account_179 : decode cX4_account 179 = .ok (.bipush 6, 2) := dk_16 6 (dk_at dksX4_account_5 15 rfl rfl)
theorem dX4_account_181 : decode cX4_account 181 = .ok (.iload_n 1, 1) := dk_27 (dk_at dksX4_account_5 17 rfl rfl)
theorem dX4_account_182 : decode cX4_account 182 = .ok (.bipush 14, 2) := dk_16 14 (dk_at dksX4_account_5 18 rfl rfl)
theorem dX4_account_184 : decode cX4_account 184 = .ok (.isub, 1) := dk_100 (dk_at dksX4_account_5 20 rfl rfl)
theorem dX4_account_185 : decode cX4_account 185 = .ok (.imul, 1) := dk_104 (dk_at dksX4_account_5 21 rfl rfl)
theorem dX4_account_186 : decode cX4_account 186 = .ok (.iadd, 1) := dk_96 (dk_at dksX4_account_5 22 rfl rfl)
theorem dX4_account_187 : decode cX4_account 187 = .ok (.bipush 6, 2) := dk_16 6 (dk_at dksX4_account_6 0 rfl rfl)
theorem dX4_account_189 : decode cX4_account 189 = .ok (.invokevirtual 235, 3) := dk_182 0 235 (dk_at dksX4_account_6 2 rfl rfl)
theorem dX4_account_192 : decode cX4_account 192 = .ok (.ireturn, 1) := dk_172 (dk_at dksX4_account_6 5 rfl rfl)
theorem dX4_account_193 : decode cX4_account 193 = .ok (.aload_n 0, 1) := dk_42 (dk_at dksX4_account_6 6 rfl rfl)
theorem dX4_account_194 : decode cX4_account 194 = .ok (.bipush 8, 2) := dk_16 8 (dk_at dksX4_account_6 7 rfl rfl)
theorem dX4_account_196 : decode cX4_account 196 = .ok (.bipush 6, 2) := dk_16 6 (dk_at dksX4_account_6 9 rfl rfl)
theorem dX4_account_198 : decode cX4_account 198 = .ok (.invokevirtual 235, 3) := dk_182 0 235 (dk_at dksX4_account_6 11 rfl rfl)
theorem dX4_account_201 : decode cX4_account 201 = .ok (.ireturn, 1) := dk_172 (dk_at dksX4_account_6 14 rfl rfl)
theorem dX4_account_202 : decode cX4_account 202 = .ok (.aload_n 0, 1) := dk_42 (dk_at dksX4_account_6 15 rfl rfl)
theorem dX4_account_203 : decode cX4_account 203 = .ok (.getfield 148, 3) := dk_180 0 148 (dk_at dksX4_account_6 16 rfl rfl)
theorem dX4_account_206 : decode cX4_account 206 = .ok (.ireturn, 1) := dk_172 (dk_at dksX4_account_6 19 rfl rfl)
theorem dX4_account_207 : decode cX4_account 207 = .ok (.aload_n 0, 1) := dk_42 (dk_at dksX4_account_6 20 rfl rfl)
theorem dX4_account_208 : decode cX4_account 208 = .ok (.getfield 43, 3) := dk_180 0 43 (dk_at dksX4_account_6 21 rfl rfl)
theorem dX4_account_211 : decode cX4_account 211 = .ok (.ireturn, 1) := dk_172 (dk_at dksX4_account_7 0 rfl rfl)
theorem dX4_account_212 : decode cX4_account 212 = .ok (.bipush (-12), 2) := dk_16 244 (dk_at dksX4_account_7 1 rfl rfl)
theorem dX4_account_214 : decode cX4_account 214 = .ok (.ireturn, 1) := dk_172 (dk_at dksX4_account_7 3 rfl rfl)
abbrev cX4_sum : ByteArray := prog_17_method_7_code
def yX4_sum : MethodName := ⟨RX4, "sum", "(II)I"⟩
def dkwX4_sum_1 : List UInt8 := [132, 4, 1, 167, 255, 235, 29, 172]
abbrev dktX4_sum_1 : List UInt8 := dkwX4_sum_1 ++ []
def dkwX4_sum_0 : List UInt8 := [3, 62, 3, 54, 4, 21, 4, 28, 162, 0, 21, 29, 42, 180, 0, 7, 27, 21, 4, 96, 46, 96, 62]
abbrev dktX4_sum_0 : List UInt8 := dkwX4_sum_0 ++ dktX4_sum_1
theorem dksX4_sum_0 : cX4_sum.data.toList.drop 0 = dktX4_sum_0 := by decide +kernel
theorem dksX4_sum_1 : cX4_sum.data.toList.drop 23 = dktX4_sum_1 := dk_seg dksX4_sum_0 23 rfl rfl
theorem dX4_sum_0 : decode cX4_sum 0 = .ok (.iconst 0, 1) := dk_3 (dk_at dksX4_sum_0 0 rfl rfl)
theorem dX4_sum_1 : decode cX4_sum 1 = .ok (.istore_n 3, 1) := dk_62 (dk_at dksX4_sum_0 1 rfl rfl)
theorem dX4_sum_2 : decode cX4_sum 2 = .ok (.iconst 0, 1) := dk_3 (dk_at dksX4_sum_0 2 rfl rfl)
theorem dX4_sum_3 : decode cX4_sum 3 = .ok (.istore 4, 2) := dk_54 4 (dk_at dksX4_sum_0 3 rfl rfl)
theorem dX4_sum_5 : decode cX4_sum 5 = .ok (.iload 4, 2) := dk_21 4 (dk_at dksX4_sum_0 5 rfl rfl)
theorem dX4_sum_7 : decode cX4_sum 7 = .ok (.iload_n 2, 1) := dk_28 (dk_at dksX4_sum_0 7 rfl rfl)
theorem dX4_sum_8 : decode cX4_sum 8 = .ok (.if_icmp .ge 21, 3) := dk_162 0 21 (dk_at dksX4_sum_0 8 rfl rfl)
theorem dX4_sum_11 : decode cX4_sum 11 = .ok (.iload_n 3, 1) := dk_29 (dk_at dksX4_sum_0 11 rfl rfl)
theorem dX4_sum_12 : decode cX4_sum 12 = .ok (.aload_n 0, 1) := dk_42 (dk_at dksX4_sum_0 12 rfl rfl)
theorem dX4_sum_13 : decode cX4_sum 13 = .ok (.getfield 7, 3) := dk_180 0 7 (dk_at dksX4_sum_0 13 rfl rfl)
theorem dX4_sum_16 : decode cX4_sum 16 = .ok (.iload_n 1, 1) := dk_27 (dk_at dksX4_sum_0 16 rfl rfl)
theorem dX4_sum_17 : decode cX4_sum 17 = .ok (.iload 4, 2) := dk_21 4 (dk_at dksX4_sum_0 17 rfl rfl)
theorem dX4_sum_19 : decode cX4_sum 19 = .ok (.iadd, 1) := dk_96 (dk_at dksX4_sum_0 19 rfl rfl)
theorem dX4_sum_20 : decode cX4_sum 20 = .ok (.iaload, 1) := dk_46 (dk_at dksX4_sum_0 20 rfl rfl)
theorem dX4_sum_21 : decode cX4_sum 21 = .ok (.iadd, 1) := dk_96 (dk_at dksX4_sum_0 21 rfl rfl)
theorem dX4_sum_22 : decode cX4_sum 22 = .ok (.istore_n 3, 1) := dk_62 (dk_at dksX4_sum_0 22 rfl rfl)
theorem dX4_sum_23 : decode cX4_sum 23 = .ok (.iinc 4 1, 3) := dk_132 4 1 (dk_at dksX4_sum_1 0 rfl rfl)
theorem dX4_sum_26 : decode cX4_sum 26 = .ok (.goto (-21), 3) := dk_167 255 235 (dk_at dksX4_sum_1 3 rfl rfl)
theorem dX4_sum_29 : decode cX4_sum 29 = .ok (.iload_n 3, 1) := dk_29 (dk_at dksX4_sum_1 6 rfl rfl)
theorem dX4_sum_30 : decode cX4_sum 30 = .ok (.ireturn, 1) := dk_172 (dk_at dksX4_sum_1 7 rfl rfl)
abbrev cX4_isBalanced : ByteArray := prog_17_method_78_code
def yX4_isBalanced : MethodName := ⟨RX4, "isBalanced", "()I"⟩
def dkwX4_isBalanced_2 : List UInt8 := [3, 172]
abbrev dktX4_isBalanced_2 : List UInt8 := dkwX4_isBalanced_2 ++ []
def dkwX4_isBalanced_1 : List UInt8 := [16, 20, 42, 180, 0, 7, 8, 46, 96, 42, 180, 0, 7, 16, 6, 46, 100, 160, 0, 7, 4, 167, 0, 4]
abbrev dktX4_isBalanced_1 : List UInt8 := dkwX4_isBalanced_1 ++ dktX4_isBalanced_2
def dkwX4_isBalanced_0 : List UInt8 := [42, 180, 0, 7, 16, 7, 46, 42, 16, 32, 16, 12, 182, 0, 235, 160, 0, 33, 42, 180, 0, 7, 7, 46]
abbrev dktX4_isBalanced_0 : List UInt8 := dkwX4_isBalanced_0 ++ dktX4_isBalanced_1
theorem dksX4_isBalanced_0 : cX4_isBalanced.data.toList.drop 0 = dktX4_isBalanced_0 := by decide +kernel
theorem dksX4_isBalanced_1 : cX4_isBalanced.data.toList.drop 24 = dktX4_isBalanced_1 := dk_seg dksX4_isBalanced_0 24 rfl rfl
theorem dksX4_isBalanced_2 : cX4_isBalanced.data.toList.drop 48 = dktX4_isBalanced_2 := dk_seg dksX4_isBalanced_1 24 rfl rfl
theorem dX4_isBalanced_0 : decode cX4_isBalanced 0 = .ok (.aload_n 0, 1) := dk_42 (dk_at dksX4_isBalanced_0 0 rfl rfl)
theorem dX4_isBalanced_1 : decode cX4_isBalanced 1 = .ok (.getfield 7, 3) := dk_180 0 7 (dk_at dksX4_isBalanced_0 1 rfl rfl)
theorem dX4_isBalanced_4 : decode cX4_isBalanced 4 = .ok (.bipush 7, 2) := dk_16 7 (dk_at dksX4_isBalanced_0 4 rfl rfl)
theorem dX4_isBalanced_6 : decode cX4_isBalanced 6 = .ok (.iaload, 1) := dk_46 (dk_at dksX4_isBalanced_0 6 rfl rfl)
theorem dX4_isBalanced_7 : decode cX4_isBalanced 7 = .ok (.aload_n 0, 1) := dk_42 (dk_at dksX4_isBalanced_0 7 rfl rfl)
theorem dX4_isBalanced_8 : decode cX4_isBalanced 8 = .ok (.bipush 32, 2) := dk_16 32 (dk_at dksX4_isBalanced_0 8 rfl rfl)
theorem dX4_isBalanced_10 : decode cX4_isBalanced 10 = .ok (.bipush 12, 2) := dk_16 12 (dk_at dksX4_isBalanced_0 10 rfl rfl)
theorem dX4_isBalanced_12 : decode cX4_isBalanced 12 = .ok (.invokevirtual 235, 3) := dk_182 0 235 (dk_at dksX4_isBalanced_0 12 rfl rfl)
theorem dX4_isBalanced_15 : decode cX4_isBalanced 15 = .ok (.if_icmp .ne 33, 3) := dk_160 0 33 (dk_at dksX4_isBalanced_0 15 rfl rfl)
theorem dX4_isBalanced_18 : decode cX4_isBalanced 18 = .ok (.aload_n 0, 1) := dk_42 (dk_at dksX4_isBalanced_0 18 rfl rfl)
theorem dX4_isBalanced_19 : decode cX4_isBalanced 19 = .ok (.getfield 7, 3) := dk_180 0 7 (dk_at dksX4_isBalanced_0 19 rfl rfl)
theorem dX4_isBalanced_22 : decode cX4_isBalanced 22 = .ok (.iconst 4, 1) := dk_7 (dk_at dksX4_isBalanced_0 22 rfl rfl)
theorem dX4_isBalanced_23 : decode cX4_isBalanced 23 = .ok (.iaload, 1) := dk_46 (dk_at dksX4_isBalanced_0 23 rfl rfl)
theorem dX4_isBalanced_24 : decode cX4_isBalanced 24 = .ok (.bipush 20, 2) := dk_16 20 (dk_at dksX4_isBalanced_1 0 rfl rfl)
theorem dX4_isBalanced_26 : decode cX4_isBalanced 26 = .ok (.aload_n 0, 1) := dk_42 (dk_at dksX4_isBalanced_1 2 rfl rfl)
theorem dX4_isBalanced_27 : decode cX4_isBalanced 27 = .ok (.getfield 7, 3) := dk_180 0 7 (dk_at dksX4_isBalanced_1 3 rfl rfl)
theorem dX4_isBalanced_30 : decode cX4_isBalanced 30 = .ok (.iconst 5, 1) := dk_8 (dk_at dksX4_isBalanced_1 6 rfl rfl)
theorem dX4_isBalanced_31 : decode cX4_isBalanced 31 = .ok (.iaload, 1) := dk_46 (dk_at dksX4_isBalanced_1 7 rfl rfl)
theorem dX4_isBalanced_32 : decode cX4_isBalanced 32 = .ok (.iadd, 1) := dk_96 (dk_at dksX4_isBalanced_1 8 rfl rfl)
theorem dX4_isBalanced_33 : decode cX4_isBalanced 33 = .ok (.aload_n 0, 1) := dk_42 (dk_at dksX4_isBalanced_1 9 rfl rfl)
theorem dX4_isBalanced_34 : decode cX4_isBalanced 34 = .ok (.getfield 7, 3) := dk_180 0 7 (dk_at dksX4_isBalanced_1 10 rfl rfl)
theorem dX4_isBalanced_37 : decode cX4_isBalanced 37 = .ok (.bipush 6, 2) := dk_16 6 (dk_at dksX4_isBalanced_1 13 rfl rfl)
theorem dX4_isBalanced_39 : decode cX4_isBalanced 39 = .ok (.iaload, 1) := dk_46 (dk_at dksX4_isBalanced_1 15 rfl rfl)
theorem dX4_isBalanced_40 : decode cX4_isBalanced 40 = .ok (.isub, 1) := dk_100 (dk_at dksX4_isBalanced_1 16 rfl rfl)
theorem dX4_isBalanced_41 : decode cX4_isBalanced 41 = .ok (.if_icmp .ne 7, 3) := dk_160 0 7 (dk_at dksX4_isBalanced_1 17 rfl rfl)
theorem dX4_isBalanced_44 : decode cX4_isBalanced 44 = .ok (.iconst 1, 1) := dk_4 (dk_at dksX4_isBalanced_1 20 rfl rfl)
theorem dX4_isBalanced_45 : decode cX4_isBalanced 45 = .ok (.goto 4, 3) := dk_167 0 4 (dk_at dksX4_isBalanced_1 21 rfl rfl)
theorem dX4_isBalanced_48 : decode cX4_isBalanced 48 = .ok (.iconst 0, 1) := dk_3 (dk_at dksX4_isBalanced_2 0 rfl rfl)
theorem dX4_isBalanced_49 : decode cX4_isBalanced 49 = .ok (.ireturn, 1) := dk_172 (dk_at dksX4_isBalanced_2 1 rfl rfl)
abbrev cX4_meanDepth : ByteArray := prog_17_method_79_code
def yX4_meanDepth : MethodName := ⟨RX4, "meanDepth", "(I)D"⟩
def dkwX4_meanDepth_1 : List UInt8 := [167, 0, 13, 42, 27, 5, 182, 0, 114, 135, 28, 135, 111, 175]
abbrev dktX4_meanDepth_1 : List UInt8 := dkwX4_meanDepth_1 ++ []
def dkwX4_meanDepth_0 : List UInt8 := [42, 27, 182, 0, 96, 153, 0, 12, 42, 27, 3, 182, 0, 114, 167, 0, 4, 3, 61, 28, 154, 0, 7, 14]
abbrev dktX4_meanDepth_0 : List UInt8 := dkwX4_meanDepth_0 ++ dktX4_meanDepth_1
theorem dksX4_meanDepth_0 : cX4_meanDepth.data.toList.drop 0 = dktX4_meanDepth_0 := by decide +kernel
theorem dksX4_meanDepth_1 : cX4_meanDepth.data.toList.drop 24 = dktX4_meanDepth_1 := dk_seg dksX4_meanDepth_0 24 rfl rfl
theorem dX4_meanDepth_0 : decode cX4_meanDepth 0 = .ok (.aload_n 0, 1) := dk_42 (dk_at dksX4_meanDepth_0 0 rfl rfl)
theorem dX4_meanDepth_1 : decode cX4_meanDepth 1 = .ok (.iload_n 1, 1) := dk_27 (dk_at dksX4_meanDepth_0 1 rfl rfl)
theorem dX4_meanDepth_2 : decode cX4_meanDepth 2 = .ok (.invokevirtual 96, 3) := dk_182 0 96 (dk_at dksX4_meanDepth_0 2 rfl rfl)
theorem dX4_meanDepth_5 : decode cX4_meanDepth 5 = .ok (.ifCond .eq 12, 3) := dk_153 0 12 (dk_at dksX4_meanDepth_0 5 rfl rfl)
theorem dX4_meanDepth_8 : decode cX4_meanDepth 8 = .ok (.aload_n 0, 1) := dk_42 (dk_at dksX4_meanDepth_0 8 rfl rfl)
theorem dX4_meanDepth_9 : decode cX4_meanDepth 9 = .ok (.iload_n 1, 1) := dk_27 (dk_at dksX4_meanDepth_0 9 rfl rfl)
theorem dX4_meanDepth_10 : decode cX4_meanDepth 10 = .ok (.iconst 0, 1) := dk_3 (dk_at dksX4_meanDepth_0 10 rfl rfl)
theorem dX4_meanDepth_11 : decode cX4_meanDepth 11 = .ok (.invokevirtual 114, 3) := dk_182 0 114 (dk_at dksX4_meanDepth_0 11 rfl rfl)
theorem dX4_meanDepth_14 : decode cX4_meanDepth 14 = .ok (.goto 4, 3) := dk_167 0 4 (dk_at dksX4_meanDepth_0 14 rfl rfl)
theorem dX4_meanDepth_17 : decode cX4_meanDepth 17 = .ok (.iconst 0, 1) := dk_3 (dk_at dksX4_meanDepth_0 17 rfl rfl)
theorem dX4_meanDepth_18 : decode cX4_meanDepth 18 = .ok (.istore_n 2, 1) := dk_61 (dk_at dksX4_meanDepth_0 18 rfl rfl)
theorem dX4_meanDepth_19 : decode cX4_meanDepth 19 = .ok (.iload_n 2, 1) := dk_28 (dk_at dksX4_meanDepth_0 19 rfl rfl)
theorem dX4_meanDepth_20 : decode cX4_meanDepth 20 = .ok (.ifCond .ne 7, 3) := dk_154 0 7 (dk_at dksX4_meanDepth_0 20 rfl rfl)
theorem dX4_meanDepth_23 : decode cX4_meanDepth 23 = .ok (.dconst 0, 1) := dk_14 (dk_at dksX4_meanDepth_0 23 rfl rfl)
theorem dX4_meanDepth_24 : decode cX4_meanDepth 24 = .ok (.goto 13, 3) := dk_167 0 13 (dk_at dksX4_meanDepth_1 0 rfl rfl)
theorem dX4_meanDepth_27 : decode cX4_meanDepth 27 = .ok (.aload_n 0, 1) := dk_42 (dk_at dksX4_meanDepth_1 3 rfl rfl)
theorem dX4_meanDepth_28 : decode cX4_meanDepth 28 = .ok (.iload_n 1, 1) := dk_27 (dk_at dksX4_meanDepth_1 4 rfl rfl)
theorem dX4_meanDepth_29 : decode cX4_meanDepth 29 = .ok (.iconst 2, 1) := dk_5 (dk_at dksX4_meanDepth_1 5 rfl rfl)
theorem dX4_meanDepth_30 : decode cX4_meanDepth 30 = .ok (.invokevirtual 114, 3) := dk_182 0 114 (dk_at dksX4_meanDepth_1 6 rfl rfl)
theorem dX4_meanDepth_33 : decode cX4_meanDepth 33 = .ok (.i2d, 1) := dk_135 (dk_at dksX4_meanDepth_1 9 rfl rfl)
theorem dX4_meanDepth_34 : decode cX4_meanDepth 34 = .ok (.iload_n 2, 1) := dk_28 (dk_at dksX4_meanDepth_1 10 rfl rfl)
theorem dX4_meanDepth_35 : decode cX4_meanDepth 35 = .ok (.i2d, 1) := dk_135 (dk_at dksX4_meanDepth_1 11 rfl rfl)
theorem dX4_meanDepth_36 : decode cX4_meanDepth 36 = .ok (.ddiv, 1) := dk_111 (dk_at dksX4_meanDepth_1 12 rfl rfl)
theorem dX4_meanDepth_37 : decode cX4_meanDepth 37 = .ok (.dreturn, 1) := dk_175 (dk_at dksX4_meanDepth_1 13 rfl rfl)
abbrev cX4_spoutShare : ByteArray := prog_17_method_80_code
def yX4_spoutShare : MethodName := ⟨RX4, "spoutShare", "()F"⟩
def dkwX4_spoutShare_1 : List UInt8 := [180, 0, 7, 16, 7, 46, 134, 110, 174]
abbrev dktX4_spoutShare_1 : List UInt8 := dkwX4_spoutShare_1 ++ []
def dkwX4_spoutShare_0 : List UInt8 := [42, 180, 0, 7, 16, 7, 46, 154, 0, 7, 11, 167, 0, 21, 42, 16, 32, 16, 6, 182, 0, 235, 134, 42]
abbrev dktX4_spoutShare_0 : List UInt8 := dkwX4_spoutShare_0 ++ dktX4_spoutShare_1
theorem dksX4_spoutShare_0 : cX4_spoutShare.data.toList.drop 0 = dktX4_spoutShare_0 := by decide +kernel
theorem dksX4_spoutShare_1 : cX4_spoutShare.data.toList.drop 24 = dktX4_spoutShare_1 := dk_seg dksX4_spoutShare_0 24 rfl rfl
theorem dX4_spoutShare_0 : decode cX4_spoutShare 0 = .ok (.aload_n 0, 1) := dk_42 (dk_at dksX4_spoutShare_0 0 rfl rfl)
theorem dX4_spoutShare_1 : decode cX4_spoutShare 1 = .ok (.getfield 7, 3) := dk_180 0 7 (dk_at dksX4_spoutShare_0 1 rfl rfl)
theorem dX4_spoutShare_4 : decode cX4_spoutShare 4 = .ok (.bipush 7, 2) := dk_16 7 (dk_at dksX4_spoutShare_0 4 rfl rfl)
theorem dX4_spoutShare_6 : decode cX4_spoutShare 6 = .ok (.iaload, 1) := dk_46 (dk_at dksX4_spoutShare_0 6 rfl rfl)
theorem dX4_spoutShare_7 : decode cX4_spoutShare 7 = .ok (.ifCond .ne 7, 3) := dk_154 0 7 (dk_at dksX4_spoutShare_0 7 rfl rfl)
theorem dX4_spoutShare_10 : decode cX4_spoutShare 10 = .ok (.fconst 0, 1) := dk_11 (dk_at dksX4_spoutShare_0 10 rfl rfl)
theorem dX4_spoutShare_11 : decode cX4_spoutShare 11 = .ok (.goto 21, 3) := dk_167 0 21 (dk_at dksX4_spoutShare_0 11 rfl rfl)
theorem dX4_spoutShare_14 : decode cX4_spoutShare 14 = .ok (.aload_n 0, 1) := dk_42 (dk_at dksX4_spoutShare_0 14 rfl rfl)
theorem dX4_spoutShare_15 : decode cX4_spoutShare 15 = .ok (.bipush 32, 2) := dk_16 32 (dk_at dksX4_spoutShare_0 15 rfl rfl)
theorem dX4_spoutShare_17 : decode cX4_spoutShare 17 = .ok (.bipush 6, 2) := dk_16 6 (dk_at dksX4_spoutShare_0 17 rfl rfl)
theorem dX4_spoutShare_19 : decode cX4_spoutShare 19 = .ok (.invokevirtual 235, 3) := dk_182 0 235 (dk_at dksX4_spoutShare_0 19 rfl rfl)
theorem dX4_spoutShare_22 : decode cX4_spoutShare 22 = .ok (.i2f, 1) := dk_134 (dk_at dksX4_spoutShare_0 22 rfl rfl)
theorem dX4_spoutShare_23 : decode cX4_spoutShare 23 = .ok (.aload_n 0, 1) := dk_42 (dk_at dksX4_spoutShare_0 23 rfl rfl)
theorem dX4_spoutShare_24 : decode cX4_spoutShare 24 = .ok (.getfield 7, 3) := dk_180 0 7 (dk_at dksX4_spoutShare_1 0 rfl rfl)
theorem dX4_spoutShare_27 : decode cX4_spoutShare 27 = .ok (.bipush 7, 2) := dk_16 7 (dk_at dksX4_spoutShare_1 3 rfl rfl)
theorem dX4_spoutShare_29 : decode cX4_spoutShare 29 = .ok (.iaload, 1) := dk_46 (dk_at dksX4_spoutShare_1 5 rfl rfl)
theorem dX4_spoutShare_30 : decode cX4_spoutShare 30 = .ok (.i2f, 1) := dk_134 (dk_at dksX4_spoutShare_1 6 rfl rfl)
theorem dX4_spoutShare_31 : decode cX4_spoutShare 31 = .ok (.fdiv, 1) := dk_110 (dk_at dksX4_spoutShare_1 7 rfl rfl)
theorem dX4_spoutShare_32 : decode cX4_spoutShare 32 = .ok (.freturn, 1) := dk_174 (dk_at dksX4_spoutShare_1 8 rfl rfl)
abbrev cX4_undo : ByteArray := prog_17_method_81_code
def yX4_undo : MethodName := ⟨RX4, "undo", "()I"⟩
def dkwX4_undo_1 : List UInt8 := [42, 180, 0, 43, 17, 1, 54, 104, 42, 180, 0, 7, 3, 184, 0, 39, 42, 180, 0, 43, 172]
abbrev dktX4_undo_1 : List UInt8 := dkwX4_undo_1 ++ []
def dkwX4_undo_0 : List UInt8 := [42, 180, 0, 43, 154, 0, 6, 16, 241, 172, 42, 89, 180, 0, 43, 4, 100, 181, 0, 43, 42, 180, 0, 16]
abbrev dktX4_undo_0 : List UInt8 := dkwX4_undo_0 ++ dktX4_undo_1
theorem dksX4_undo_0 : cX4_undo.data.toList.drop 0 = dktX4_undo_0 := by decide +kernel
theorem dksX4_undo_1 : cX4_undo.data.toList.drop 24 = dktX4_undo_1 := dk_seg dksX4_undo_0 24 rfl rfl
theorem dX4_undo_0 : decode cX4_undo 0 = .ok (.aload_n 0, 1) := dk_42 (dk_at dksX4_undo_0 0 rfl rfl)
theorem dX4_undo_1 : decode cX4_undo 1 = .ok (.getfield 43, 3) := dk_180 0 43 (dk_at dksX4_undo_0 1 rfl rfl)
theorem dX4_undo_4 : decode cX4_undo 4 = .ok (.ifCond .ne 6, 3) := dk_154 0 6 (dk_at dksX4_undo_0 4 rfl rfl)
theorem dX4_undo_7 : decode cX4_undo 7 = .ok (.bipush (-15), 2) := dk_16 241 (dk_at dksX4_undo_0 7 rfl rfl)
theorem dX4_undo_9 : decode cX4_undo 9 = .ok (.ireturn, 1) := dk_172 (dk_at dksX4_undo_0 9 rfl rfl)
theorem dX4_undo_10 : decode cX4_undo 10 = .ok (.aload_n 0, 1) := dk_42 (dk_at dksX4_undo_0 10 rfl rfl)
theorem dX4_undo_11 : decode cX4_undo 11 = .ok (.dup, 1) := dk_89 (dk_at dksX4_undo_0 11 rfl rfl)
theorem dX4_undo_12 : decode cX4_undo 12 = .ok (.getfield 43, 3) := dk_180 0 43 (dk_at dksX4_undo_0 12 rfl rfl)
theorem dX4_undo_15 : decode cX4_undo 15 = .ok (.iconst 1, 1) := dk_4 (dk_at dksX4_undo_0 15 rfl rfl)
theorem dX4_undo_16 : decode cX4_undo 16 = .ok (.isub, 1) := dk_100 (dk_at dksX4_undo_0 16 rfl rfl)
theorem dX4_undo_17 : decode cX4_undo 17 = .ok (.putfield 43, 3) := dk_181 0 43 (dk_at dksX4_undo_0 17 rfl rfl)
theorem dX4_undo_20 : decode cX4_undo 20 = .ok (.aload_n 0, 1) := dk_42 (dk_at dksX4_undo_0 20 rfl rfl)
theorem dX4_undo_21 : decode cX4_undo 21 = .ok (.getfield 16, 3) := dk_180 0 16 (dk_at dksX4_undo_0 21 rfl rfl)
theorem dX4_undo_24 : decode cX4_undo 24 = .ok (.aload_n 0, 1) := dk_42 (dk_at dksX4_undo_1 0 rfl rfl)
theorem dX4_undo_25 : decode cX4_undo 25 = .ok (.getfield 43, 3) := dk_180 0 43 (dk_at dksX4_undo_1 1 rfl rfl)
theorem dX4_undo_28 : decode cX4_undo 28 = .ok (.sipush 310, 3) := dk_17 1 54 (dk_at dksX4_undo_1 4 rfl rfl)
theorem dX4_undo_31 : decode cX4_undo 31 = .ok (.imul, 1) := dk_104 (dk_at dksX4_undo_1 7 rfl rfl)
theorem dX4_undo_32 : decode cX4_undo 32 = .ok (.aload_n 0, 1) := dk_42 (dk_at dksX4_undo_1 8 rfl rfl)
theorem dX4_undo_33 : decode cX4_undo 33 = .ok (.getfield 7, 3) := dk_180 0 7 (dk_at dksX4_undo_1 9 rfl rfl)
theorem dX4_undo_36 : decode cX4_undo 36 = .ok (.iconst 0, 1) := dk_3 (dk_at dksX4_undo_1 12 rfl rfl)
theorem dX4_undo_37 : decode cX4_undo 37 = .ok (.invokestatic 39, 3) := dk_184 0 39 (dk_at dksX4_undo_1 13 rfl rfl)
theorem dX4_undo_40 : decode cX4_undo 40 = .ok (.aload_n 0, 1) := dk_42 (dk_at dksX4_undo_1 16 rfl rfl)
theorem dX4_undo_41 : decode cX4_undo 41 = .ok (.getfield 43, 3) := dk_180 0 43 (dk_at dksX4_undo_1 17 rfl rfl)
theorem dX4_undo_44 : decode cX4_undo 44 = .ok (.ireturn, 1) := dk_172 (dk_at dksX4_undo_1 20 rfl rfl)
abbrev cX4_save : ByteArray := prog_17_method_82_code
def yX4_save : MethodName := ⟨RX4, "save", "()I"⟩
def dkwX4_save_1 : List UInt8 := [46, 172]
abbrev dktX4_save_1 : List UInt8 := dkwX4_save_1 ++ []
def dkwX4_save_0 : List UInt8 := [42, 180, 0, 7, 3, 42, 180, 0, 19, 3, 184, 0, 39, 42, 4, 181, 0, 238, 42, 180, 0, 7, 16, 50]
abbrev dktX4_save_0 : List UInt8 := dkwX4_save_0 ++ dktX4_save_1
theorem dksX4_save_0 : cX4_save.data.toList.drop 0 = dktX4_save_0 := by decide +kernel
theorem dksX4_save_1 : cX4_save.data.toList.drop 24 = dktX4_save_1 := dk_seg dksX4_save_0 24 rfl rfl
theorem dX4_save_0 : decode cX4_save 0 = .ok (.aload_n 0, 1) := dk_42 (dk_at dksX4_save_0 0 rfl rfl)
theorem dX4_save_1 : decode cX4_save 1 = .ok (.getfield 7, 3) := dk_180 0 7 (dk_at dksX4_save_0 1 rfl rfl)
theorem dX4_save_4 : decode cX4_save 4 = .ok (.iconst 0, 1) := dk_3 (dk_at dksX4_save_0 4 rfl rfl)
theorem dX4_save_5 : decode cX4_save 5 = .ok (.aload_n 0, 1) := dk_42 (dk_at dksX4_save_0 5 rfl rfl)
theorem dX4_save_6 : decode cX4_save 6 = .ok (.getfield 19, 3) := dk_180 0 19 (dk_at dksX4_save_0 6 rfl rfl)
theorem dX4_save_9 : decode cX4_save 9 = .ok (.iconst 0, 1) := dk_3 (dk_at dksX4_save_0 9 rfl rfl)
theorem dX4_save_10 : decode cX4_save 10 = .ok (.invokestatic 39, 3) := dk_184 0 39 (dk_at dksX4_save_0 10 rfl rfl)
theorem dX4_save_13 : decode cX4_save 13 = .ok (.aload_n 0, 1) := dk_42 (dk_at dksX4_save_0 13 rfl rfl)
theorem dX4_save_14 : decode cX4_save 14 = .ok (.iconst 1, 1) := dk_4 (dk_at dksX4_save_0 14 rfl rfl)
theorem dX4_save_15 : decode cX4_save 15 = .ok (.putfield 238, 3) := dk_181 0 238 (dk_at dksX4_save_0 15 rfl rfl)
theorem dX4_save_18 : decode cX4_save 18 = .ok (.aload_n 0, 1) := dk_42 (dk_at dksX4_save_0 18 rfl rfl)
theorem dX4_save_19 : decode cX4_save 19 = .ok (.getfield 7, 3) := dk_180 0 7 (dk_at dksX4_save_0 19 rfl rfl)
theorem dX4_save_22 : decode cX4_save 22 = .ok (.bipush 50, 2) := dk_16 50 (dk_at dksX4_save_0 22 rfl rfl)
theorem dX4_save_24 : decode cX4_save 24 = .ok (.iaload, 1) := dk_46 (dk_at dksX4_save_1 0 rfl rfl)
theorem dX4_save_25 : decode cX4_save 25 = .ok (.ireturn, 1) := dk_172 (dk_at dksX4_save_1 1 rfl rfl)
abbrev cX4_restore : ByteArray := prog_17_method_83_code
def yX4_restore : MethodName := ⟨RX4, "restore", "()I"⟩
def dkwX4_restore_1 : List UInt8 := [3, 181, 0, 43, 42, 180, 0, 7, 16, 50, 46, 172]
abbrev dktX4_restore_1 : List UInt8 := dkwX4_restore_1 ++ []
def dkwX4_restore_0 : List UInt8 := [42, 180, 0, 238, 154, 0, 6, 16, 241, 172, 42, 180, 0, 19, 3, 42, 180, 0, 7, 3, 184, 0, 39, 42]
abbrev dktX4_restore_0 : List UInt8 := dkwX4_restore_0 ++ dktX4_restore_1
theorem dksX4_restore_0 : cX4_restore.data.toList.drop 0 = dktX4_restore_0 := by decide +kernel
theorem dksX4_restore_1 : cX4_restore.data.toList.drop 24 = dktX4_restore_1 := dk_seg dksX4_restore_0 24 rfl rfl
theorem dX4_restore_0 : decode cX4_restore 0 = .ok (.aload_n 0, 1) := dk_42 (dk_at dksX4_restore_0 0 rfl rfl)
theorem dX4_restore_1 : decode cX4_restore 1 = .ok (.getfield 238, 3) := dk_180 0 238 (dk_at dksX4_restore_0 1 rfl rfl)
theorem dX4_restore_4 : decode cX4_restore 4 = .ok (.ifCond .ne 6, 3) := dk_154 0 6 (dk_at dksX4_restore_0 4 rfl rfl)
theorem dX4_restore_7 : decode cX4_restore 7 = .ok (.bipush (-15), 2) := dk_16 241 (dk_at dksX4_restore_0 7 rfl rfl)
theorem dX4_restore_9 : decode cX4_restore 9 = .ok (.ireturn, 1) := dk_172 (dk_at dksX4_restore_0 9 rfl rfl)
theorem dX4_restore_10 : decode cX4_restore 10 = .ok (.aload_n 0, 1) := dk_42 (dk_at dksX4_restore_0 10 rfl rfl)
theorem dX4_restore_11 : decode cX4_restore 11 = .ok (.getfield 19, 3) := dk_180 0 19 (dk_at dksX4_restore_0 11 rfl rfl)
theorem dX4_restore_14 : decode cX4_restore 14 = .ok (.iconst 0, 1) := dk_3 (dk_at dksX4_restore_0 14 rfl rfl)
theorem dX4_restore_15 : decode cX4_restore 15 = .ok (.aload_n 0, 1) := dk_42 (dk_at dksX4_restore_0 15 rfl rfl)
theorem dX4_restore_16 : decode cX4_restore 16 = .ok (.getfield 7, 3) := dk_180 0 7 (dk_at dksX4_restore_0 16 rfl rfl)
theorem dX4_restore_19 : decode cX4_restore 19 = .ok (.iconst 0, 1) := dk_3 (dk_at dksX4_restore_0 19 rfl rfl)
theorem dX4_restore_20 : decode cX4_restore 20 = .ok (.invokestatic 39, 3) := dk_184 0 39 (dk_at dksX4_restore_0 20 rfl rfl)
theorem dX4_restore_23 : decode cX4_restore 23 = .ok (.aload_n 0, 1) := dk_42 (dk_at dksX4_restore_0 23 rfl rfl)
theorem dX4_restore_24 : decode cX4_restore 24 = .ok (.iconst 0, 1) := dk_3 (dk_at dksX4_restore_1 0 rfl rfl)
theorem dX4_restore_25 : decode cX4_restore 25 = .ok (.putfield 43, 3) := dk_181 0 43 (dk_at dksX4_restore_1 1 rfl rfl)
theorem dX4_restore_28 : decode cX4_restore 28 = .ok (.aload_n 0, 1) := dk_42 (dk_at dksX4_restore_1 4 rfl rfl)
theorem dX4_restore_29 : decode cX4_restore 29 = .ok (.getfield 7, 3) := dk_180 0 7 (dk_at dksX4_restore_1 5 rfl rfl)
theorem dX4_restore_32 : decode cX4_restore 32 = .ok (.bipush 50, 2) := dk_16 50 (dk_at dksX4_restore_1 8 rfl rfl)
theorem dX4_restore_34 : decode cX4_restore 34 = .ok (.iaload, 1) := dk_46 (dk_at dksX4_restore_1 10 rfl rfl)
theorem dX4_restore_35 : decode cX4_restore 35 = .ok (.ireturn, 1) := dk_172 (dk_at dksX4_restore_1 11 rfl rfl)
theorem q80 : (Jvm.Cond.initialized "GargoyleCopyistsModel") ∈ lw_all := lw_g (lw_at lw_m1 17 rfl) rfl
theorem q249 : (Jvm.Cond.selects "GargoyleCopyistsModel" ({ cls := "java/lang/Object", name := "getClass", desc := "()Ljava/lang/Class;" } : Jvm.MethodName) ({ cls := "java/lang/Object", name := "getClass", desc := "()Ljava/lang/Class;" } : Jvm.MethodName)) ∈ lw_all := lw_g (lw_at lw_m1 186 rfl) rfl
theorem q1829 : (Jvm.Cond.instantiable "GargoyleCopyistsModel" (15 : Nat)) ∈ lw_all := lw_g (lw_at lw_m8 86 rfl) rfl
theorem q1831 : (Jvm.Cond.instanceMethod ({ cls := "GargoyleCopyistsModel", name := "<init>", desc := "()V" } : Jvm.MethodName)) ∈ lw_all := lw_g (lw_at lw_m8 88 rfl) rfl
theorem q1832 : (Jvm.Cond.code ({ cls := "GargoyleCopyistsModel", name := "<init>", desc := "()V" } : Jvm.MethodName) prog_17_method_1_code (2 : Nat) (Option.none : Option Jvm.ClassFile.FieldType)) ∈ lw_all := lw_g (lw_at lw_m8 89 rfl) rfl
theorem q1833 : (Jvm.Cond.methodLink "GargoyleCopyistsModel" (1 : Nat) ({ cls := "java/lang/Object", name := "<init>", desc := "()V" } : Jvm.MethodName)) ∈ lw_all := lw_g (lw_at lw_m8 90 rfl) rfl
theorem q1834 : (Jvm.Cond.fieldLink "GargoyleCopyistsModel" (7 : Nat) "GargoyleCopyistsModel" "g" "[I") ∈ lw_all := lw_g (lw_at lw_m8 91 rfl) rfl
theorem q1835 : (Jvm.Cond.fieldLink "GargoyleCopyistsModel" (13 : Nat) "GargoyleCopyistsModel" "before" "[I") ∈ lw_all := lw_g (lw_at lw_m8 92 rfl) rfl
theorem q1836 : (Jvm.Cond.fieldLink "GargoyleCopyistsModel" (16 : Nat) "GargoyleCopyistsModel" "history" "[I") ∈ lw_all := lw_g (lw_at lw_m8 93 rfl) rfl
theorem q1837 : (Jvm.Cond.fieldLink "GargoyleCopyistsModel" (43 : Nat) "GargoyleCopyistsModel" "changes" "I") ∈ lw_all := lw_g (lw_at lw_m8 94 rfl) rfl
theorem q1838 : (Jvm.Cond.fieldLink "GargoyleCopyistsModel" (19 : Nat) "GargoyleCopyistsModel" "saved" "[I") ∈ lw_all := lw_g (lw_at lw_m8 95 rfl) rfl
theorem q1839 : (Jvm.Cond.fieldLink "GargoyleCopyistsModel" (238 : Nat) "GargoyleCopyistsModel" "hasSaved" "Z") ∈ lw_all := lw_g (lw_at lw_m8 96 rfl) rfl
theorem q1840 : (Jvm.Cond.fieldLink "GargoyleCopyistsModel" (22 : Nat) "GargoyleCopyistsModel" "input" "[C") ∈ lw_all := lw_g (lw_at lw_m8 97 rfl) rfl
theorem q1841 : (Jvm.Cond.fieldLink "GargoyleCopyistsModel" (148 : Nat) "GargoyleCopyistsModel" "typed" "I") ∈ lw_all := lw_g (lw_at lw_m8 98 rfl) rfl
theorem q1842 : (Jvm.Cond.fieldLink "GargoyleCopyistsModel" (32 : Nat) "GargoyleCopyistsModel" "why" "I") ∈ lw_all := lw_g (lw_at lw_m8 99 rfl) rfl
theorem q1843 : (Jvm.Cond.fieldLink "GargoyleCopyistsModel" (36 : Nat) "GargoyleCopyistsModel" "whyDetail" "I") ∈ lw_all := lw_g (lw_at lw_m8 100 rfl) rfl
theorem q1844 : (Jvm.Cond.fieldLink "GargoyleCopyistsModel" (26 : Nat) "GargoyleCopyistsModel" "line" "[C") ∈ lw_all := lw_g (lw_at lw_m8 101 rfl) rfl
theorem q1845 : (Jvm.Cond.fieldLink "GargoyleCopyistsModel" (217 : Nat) "GargoyleCopyistsModel" "lined" "I") ∈ lw_all := lw_g (lw_at lw_m8 102 rfl) rfl
theorem q1846 : (Jvm.Cond.fieldLink "GargoyleCopyistsModel" (169 : Nat) "GargoyleCopyistsModel" "place" "I") ∈ lw_all := lw_g (lw_at lw_m8 103 rfl) rfl
theorem q1847 : (Jvm.Cond.fieldLink "GargoyleCopyistsModel" (172 : Nat) "GargoyleCopyistsModel" "isWrong" "Z") ∈ lw_all := lw_g (lw_at lw_m8 104 rfl) rfl
theorem q1848 : (Jvm.Cond.fieldLink "GargoyleCopyistsModel" (29 : Nat) "GargoyleCopyistsModel" "told" "[I") ∈ lw_all := lw_g (lw_at lw_m8 105 rfl) rfl
theorem q1849 : (Jvm.Cond.laysFinal "GargoyleCopyistsModel" "GargoyleCopyistsModel" "g" "[I") ∈ lw_all := lw_g (lw_at lw_m8 106 rfl) rfl
theorem q1850 : (Jvm.Cond.soleField "GargoyleCopyistsModel" "g") ∈ lw_all := lw_g (lw_at lw_m8 107 rfl) rfl
theorem q1851 : (Jvm.Cond.laysFinal "GargoyleCopyistsModel" "GargoyleCopyistsModel" "before" "[I") ∈ lw_all := lw_g (lw_at lw_m8 108 rfl) rfl
theorem q1852 : (Jvm.Cond.soleField "GargoyleCopyistsModel" "before") ∈ lw_all := lw_g (lw_at lw_m8 109 rfl) rfl
theorem q1853 : (Jvm.Cond.laysFinal "GargoyleCopyistsModel" "GargoyleCopyistsModel" "history" "[I") ∈ lw_all := lw_g (lw_at lw_m8 110 rfl) rfl
theorem q1854 : (Jvm.Cond.soleField "GargoyleCopyistsModel" "history") ∈ lw_all := lw_g (lw_at lw_m8 111 rfl) rfl
theorem q1855 : (Jvm.Cond.lays "GargoyleCopyistsModel" "GargoyleCopyistsModel" "changes" "I") ∈ lw_all := lw_g (lw_at lw_m8 112 rfl) rfl
theorem q1856 : (Jvm.Cond.soleField "GargoyleCopyistsModel" "changes") ∈ lw_all := lw_g (lw_at lw_m8 113 rfl) rfl
theorem q1857 : (Jvm.Cond.laysFinal "GargoyleCopyistsModel" "GargoyleCopyistsModel" "saved" "[I") ∈ lw_all := lw_g (lw_at lw_m8 114 rfl) rfl
theorem q1858 : (Jvm.Cond.soleField "GargoyleCopyistsModel" "saved") ∈ lw_all := lw_g (lw_at lw_m8 115 rfl) rfl
theorem q1859 : (Jvm.Cond.lays "GargoyleCopyistsModel" "GargoyleCopyistsModel" "hasSaved" "Z") ∈ lw_all := lw_g (lw_at lw_m8 116 rfl) rfl
theorem q1860 : (Jvm.Cond.soleField "GargoyleCopyistsModel" "hasSaved") ∈ lw_all := lw_g (lw_at lw_m8 117 rfl) rfl
theorem q1861 : (Jvm.Cond.laysFinal "GargoyleCopyistsModel" "GargoyleCopyistsModel" "input" "[C") ∈ lw_all := lw_g (lw_at lw_m8 118 rfl) rfl
theorem q1862 : (Jvm.Cond.soleField "GargoyleCopyistsModel" "input") ∈ lw_all := lw_g (lw_at lw_m8 119 rfl) rfl
theorem q1863 : (Jvm.Cond.lays "GargoyleCopyistsModel" "GargoyleCopyistsModel" "typed" "I") ∈ lw_all := lw_g (lw_at lw_m8 120 rfl) rfl
theorem q1864 : (Jvm.Cond.soleField "GargoyleCopyistsModel" "typed") ∈ lw_all := lw_g (lw_at lw_m8 121 rfl) rfl
theorem q1865 : (Jvm.Cond.lays "GargoyleCopyistsModel" "GargoyleCopyistsModel" "why" "I") ∈ lw_all := lw_g (lw_at lw_m8 122 rfl) rfl
theorem q1866 : (Jvm.Cond.soleField "GargoyleCopyistsModel" "why") ∈ lw_all := lw_g (lw_at lw_m8 123 rfl) rfl
theorem q1867 : (Jvm.Cond.lays "GargoyleCopyistsModel" "GargoyleCopyistsModel" "whyDetail" "I") ∈ lw_all := lw_g (lw_at lw_m8 124 rfl) rfl
theorem q1868 : (Jvm.Cond.soleField "GargoyleCopyistsModel" "whyDetail") ∈ lw_all := lw_g (lw_at lw_m8 125 rfl) rfl
theorem q1869 : (Jvm.Cond.laysFinal "GargoyleCopyistsModel" "GargoyleCopyistsModel" "line" "[C") ∈ lw_all := lw_g (lw_at lw_m8 126 rfl) rfl
theorem q1870 : (Jvm.Cond.soleField "GargoyleCopyistsModel" "line") ∈ lw_all := lw_g (lw_at lw_m8 127 rfl) rfl
theorem q1871 : (Jvm.Cond.lays "GargoyleCopyistsModel" "GargoyleCopyistsModel" "lined" "I") ∈ lw_all := lw_g (lw_at lw_m8 128 rfl) rfl
theorem q1872 : (Jvm.Cond.soleField "GargoyleCopyistsModel" "lined") ∈ lw_all := lw_g (lw_at lw_m8 129 rfl) rfl
theorem q1873 : (Jvm.Cond.lays "GargoyleCopyistsModel" "GargoyleCopyistsModel" "place" "I") ∈ lw_all := lw_g (lw_at lw_m8 130 rfl) rfl
theorem q1874 : (Jvm.Cond.soleField "GargoyleCopyistsModel" "place") ∈ lw_all := lw_g (lw_at lw_m8 131 rfl) rfl
theorem q1875 : (Jvm.Cond.lays "GargoyleCopyistsModel" "GargoyleCopyistsModel" "isWrong" "Z") ∈ lw_all := lw_g (lw_at lw_m8 132 rfl) rfl
theorem q1876 : (Jvm.Cond.soleField "GargoyleCopyistsModel" "isWrong") ∈ lw_all := lw_g (lw_at lw_m8 133 rfl) rfl
theorem q1877 : (Jvm.Cond.laysFinal "GargoyleCopyistsModel" "GargoyleCopyistsModel" "told" "[I") ∈ lw_all := lw_g (lw_at lw_m8 134 rfl) rfl
theorem q1878 : (Jvm.Cond.soleField "GargoyleCopyistsModel" "told") ∈ lw_all := lw_g (lw_at lw_m8 135 rfl) rfl
theorem q1879 : (Jvm.Cond.superclass "GargoyleCopyistsModel" "java/lang/Object") ∈ lw_all := lw_g (lw_at lw_m8 136 rfl) rfl
theorem q1882 : (Jvm.Cond.instanceMethod ({ cls := "GargoyleCopyistsModel", name := "ledgeOf", desc := "(II)I" } : Jvm.MethodName)) ∈ lw_all := lw_g (lw_at lw_m8 139 rfl) rfl
theorem q1883 : (Jvm.Cond.selects "GargoyleCopyistsModel" ({ cls := "GargoyleCopyistsModel", name := "ledgeOf", desc := "(II)I" } : Jvm.MethodName) ({ cls := "GargoyleCopyistsModel", name := "ledgeOf", desc := "(II)I" } : Jvm.MethodName)) ∈ lw_all := lw_g (lw_at lw_m8 140 rfl) rfl
theorem q1884 : (Jvm.Cond.code ({ cls := "GargoyleCopyistsModel", name := "ledgeOf", desc := "(II)I" } : Jvm.MethodName) prog_17_method_14_code (3 : Nat) (Option.some Jvm.ClassFile.FieldType.int)) ∈ lw_all := lw_g (lw_at lw_m8 141 rfl) rfl
theorem q1885 : (Jvm.Cond.methodLink "GargoyleCopyistsModel" (50 : Nat) ({ cls := "GargoyleCopyistsModel", name := "isLedge", desc := "(I)Z" } : Jvm.MethodName)) ∈ lw_all := lw_g (lw_at lw_m8 142 rfl) rfl
theorem q1886 : (Jvm.Cond.static ({ cls := "GargoyleCopyistsModel", name := "isLedge", desc := "(I)Z" } : Jvm.MethodName)) ∈ lw_all := lw_g (lw_at lw_m8 143 rfl) rfl
theorem q1887 : (Jvm.Cond.code ({ cls := "GargoyleCopyistsModel", name := "isLedge", desc := "(I)Z" } : Jvm.MethodName) prog_17_method_8_code (1 : Nat) (Option.some Jvm.ClassFile.FieldType.boolean)) ∈ lw_all := lw_g (lw_at lw_m8 144 rfl) rfl
theorem q1888 : (Jvm.Cond.methodLink "GargoyleCopyistsModel" (46 : Nat) ({ cls := "GargoyleCopyistsModel", name := "in", desc := "(III)Z" } : Jvm.MethodName)) ∈ lw_all := lw_g (lw_at lw_m8 145 rfl) rfl
theorem q1889 : (Jvm.Cond.static ({ cls := "GargoyleCopyistsModel", name := "in", desc := "(III)Z" } : Jvm.MethodName)) ∈ lw_all := lw_g (lw_at lw_m8 146 rfl) rfl
theorem q1890 : (Jvm.Cond.code ({ cls := "GargoyleCopyistsModel", name := "in", desc := "(III)Z" } : Jvm.MethodName) prog_17_method_2_code (3 : Nat) (Option.some Jvm.ClassFile.FieldType.boolean)) ∈ lw_all := lw_g (lw_at lw_m8 147 rfl) rfl
theorem q1891 : (Jvm.Cond.methodLink "GargoyleCopyistsModel" (54 : Nat) ({ cls := "GargoyleCopyistsModel", name := "heightOf", desc := "(I)I" } : Jvm.MethodName)) ∈ lw_all := lw_g (lw_at lw_m8 148 rfl) rfl
theorem q1892 : (Jvm.Cond.static ({ cls := "GargoyleCopyistsModel", name := "heightOf", desc := "(I)I" } : Jvm.MethodName)) ∈ lw_all := lw_g (lw_at lw_m8 149 rfl) rfl
theorem q1893 : (Jvm.Cond.code ({ cls := "GargoyleCopyistsModel", name := "heightOf", desc := "(I)I" } : Jvm.MethodName) prog_17_method_13_code (1 : Nat) (Option.some Jvm.ClassFile.FieldType.int)) ∈ lw_all := lw_g (lw_at lw_m8 150 rfl) rfl
theorem q1895 : (Jvm.Cond.instanceMethod ({ cls := "GargoyleCopyistsModel", name := "depth", desc := "(II)I" } : Jvm.MethodName)) ∈ lw_all := lw_g (lw_at lw_m8 152 rfl) rfl
theorem q1896 : (Jvm.Cond.selects "GargoyleCopyistsModel" ({ cls := "GargoyleCopyistsModel", name := "depth", desc := "(II)I" } : Jvm.MethodName) ({ cls := "GargoyleCopyistsModel", name := "depth", desc := "(II)I" } : Jvm.MethodName)) ∈ lw_all := lw_g (lw_at lw_m8 153 rfl) rfl
theorem q1897 : (Jvm.Cond.code ({ cls := "GargoyleCopyistsModel", name := "depth", desc := "(II)I" } : Jvm.MethodName) prog_17_method_16_code (3 : Nat) (Option.some Jvm.ClassFile.FieldType.int)) ∈ lw_all := lw_g (lw_at lw_m8 154 rfl) rfl
theorem q1898 : (Jvm.Cond.methodLink "GargoyleCopyistsModel" (58 : Nat) ({ cls := "GargoyleCopyistsModel", name := "isPoint", desc := "(I)Z" } : Jvm.MethodName)) ∈ lw_all := lw_g (lw_at lw_m8 155 rfl) rfl
theorem q1899 : (Jvm.Cond.static ({ cls := "GargoyleCopyistsModel", name := "isPoint", desc := "(I)Z" } : Jvm.MethodName)) ∈ lw_all := lw_g (lw_at lw_m8 156 rfl) rfl
theorem q1900 : (Jvm.Cond.code ({ cls := "GargoyleCopyistsModel", name := "isPoint", desc := "(I)Z" } : Jvm.MethodName) prog_17_method_9_code (1 : Nat) (Option.some Jvm.ClassFile.FieldType.boolean)) ∈ lw_all := lw_g (lw_at lw_m8 157 rfl) rfl
theorem q1901 : (Jvm.Cond.methodLink "GargoyleCopyistsModel" (61 : Nat) ({ cls := "GargoyleCopyistsModel", name := "depthOf", desc := "(II)I" } : Jvm.MethodName)) ∈ lw_all := lw_g (lw_at lw_m8 158 rfl) rfl
theorem q1902 : (Jvm.Cond.privateMethod ({ cls := "GargoyleCopyistsModel", name := "depthOf", desc := "(II)I" } : Jvm.MethodName)) ∈ lw_tbl := lw_at lw_m8 159 rfl
theorem q1903 : (Jvm.Cond.instanceMethod ({ cls := "GargoyleCopyistsModel", name := "depthOf", desc := "(II)I" } : Jvm.MethodName)) ∈ lw_all := lw_g (lw_at lw_m8 160 rfl) rfl
theorem q1904 : (Jvm.Cond.code ({ cls := "GargoyleCopyistsModel", name := "depthOf", desc := "(II)I" } : Jvm.MethodName) prog_17_method_15_code (3 : Nat) (Option.some Jvm.ClassFile.FieldType.int)) ∈ lw_all := lw_g (lw_at lw_m8 161 rfl) rfl
theorem q1906 : (Jvm.Cond.instanceMethod ({ cls := "GargoyleCopyistsModel", name := "sacks", desc := "(I)I" } : Jvm.MethodName)) ∈ lw_all := lw_g (lw_at lw_m8 163 rfl) rfl
theorem q1907 : (Jvm.Cond.selects "GargoyleCopyistsModel" ({ cls := "GargoyleCopyistsModel", name := "sacks", desc := "(I)I" } : Jvm.MethodName) ({ cls := "GargoyleCopyistsModel", name := "sacks", desc := "(I)I" } : Jvm.MethodName)) ∈ lw_all := lw_g (lw_at lw_m8 164 rfl) rfl
theorem q1908 : (Jvm.Cond.code ({ cls := "GargoyleCopyistsModel", name := "sacks", desc := "(I)I" } : Jvm.MethodName) prog_17_method_19_code (2 : Nat) (Option.some Jvm.ClassFile.FieldType.int)) ∈ lw_all := lw_g (lw_at lw_m8 165 rfl) rfl
theorem q1909 : (Jvm.Cond.methodLink "GargoyleCopyistsModel" (68 : Nat) ({ cls := "GargoyleCopyistsModel", name := "looksBack", desc := "()V" } : Jvm.MethodName)) ∈ lw_all := lw_g (lw_at lw_m8 166 rfl) rfl
theorem q1910 : (Jvm.Cond.privateMethod ({ cls := "GargoyleCopyistsModel", name := "looksBack", desc := "()V" } : Jvm.MethodName)) ∈ lw_tbl := lw_at lw_m8 167 rfl
theorem q1911 : (Jvm.Cond.instanceMethod ({ cls := "GargoyleCopyistsModel", name := "looksBack", desc := "()V" } : Jvm.MethodName)) ∈ lw_all := lw_g (lw_at lw_m8 168 rfl) rfl
theorem q1912 : (Jvm.Cond.code ({ cls := "GargoyleCopyistsModel", name := "looksBack", desc := "()V" } : Jvm.MethodName) prog_17_method_5_code (1 : Nat) (Option.none : Option Jvm.ClassFile.FieldType)) ∈ lw_all := lw_g (lw_at lw_m8 169 rfl) rfl
theorem q1913 : (Jvm.Cond.methodLink "GargoyleCopyistsModel" (39 : Nat) ({ cls := "GargoyleCopyistsModel", name := "copy", desc := "([II[II)V" } : Jvm.MethodName)) ∈ lw_all := lw_g (lw_at lw_m8 170 rfl) rfl
theorem q1914 : (Jvm.Cond.static ({ cls := "GargoyleCopyistsModel", name := "copy", desc := "([II[II)V" } : Jvm.MethodName)) ∈ lw_all := lw_g (lw_at lw_m8 171 rfl) rfl
theorem q1915 : (Jvm.Cond.code ({ cls := "GargoyleCopyistsModel", name := "copy", desc := "([II[II)V" } : Jvm.MethodName) prog_17_method_4_code (5 : Nat) (Option.none : Option Jvm.ClassFile.FieldType)) ∈ lw_all := lw_g (lw_at lw_m8 172 rfl) rfl
theorem q1916 : (Jvm.Cond.methodLink "GargoyleCopyistsModel" (71 : Nat) ({ cls := "GargoyleCopyistsModel", name := "pays", desc := "(I)Z" } : Jvm.MethodName)) ∈ lw_all := lw_g (lw_at lw_m8 173 rfl) rfl
theorem q1917 : (Jvm.Cond.privateMethod ({ cls := "GargoyleCopyistsModel", name := "pays", desc := "(I)Z" } : Jvm.MethodName)) ∈ lw_tbl := lw_at lw_m8 174 rfl
theorem q1918 : (Jvm.Cond.instanceMethod ({ cls := "GargoyleCopyistsModel", name := "pays", desc := "(I)Z" } : Jvm.MethodName)) ∈ lw_all := lw_g (lw_at lw_m8 175 rfl) rfl
theorem q1919 : (Jvm.Cond.code ({ cls := "GargoyleCopyistsModel", name := "pays", desc := "(I)Z" } : Jvm.MethodName) prog_17_method_17_code (3 : Nat) (Option.some Jvm.ClassFile.FieldType.boolean)) ∈ lw_all := lw_g (lw_at lw_m8 176 rfl) rfl
theorem q1920 : (Jvm.Cond.methodLink "GargoyleCopyistsModel" (74 : Nat) ({ cls := "GargoyleCopyistsModel", name := "tooFew", desc := "(I)I" } : Jvm.MethodName)) ∈ lw_all := lw_g (lw_at lw_m8 177 rfl) rfl
theorem q1921 : (Jvm.Cond.privateMethod ({ cls := "GargoyleCopyistsModel", name := "tooFew", desc := "(I)I" } : Jvm.MethodName)) ∈ lw_tbl := lw_at lw_m8 178 rfl
theorem q1922 : (Jvm.Cond.instanceMethod ({ cls := "GargoyleCopyistsModel", name := "tooFew", desc := "(I)I" } : Jvm.MethodName)) ∈ lw_all := lw_g (lw_at lw_m8 179 rfl) rfl
theorem q1923 : (Jvm.Cond.code ({ cls := "GargoyleCopyistsModel", name := "tooFew", desc := "(I)I" } : Jvm.MethodName) prog_17_method_18_code (2 : Nat) (Option.some Jvm.ClassFile.FieldType.int)) ∈ lw_all := lw_g (lw_at lw_m8 180 rfl) rfl
theorem q1924 : (Jvm.Cond.methodLink "GargoyleCopyistsModel" (65 : Nat) ({ cls := "GargoyleCopyistsModel", name := "refused", desc := "(II)I" } : Jvm.MethodName)) ∈ lw_all := lw_g (lw_at lw_m8 181 rfl) rfl
theorem q1925 : (Jvm.Cond.privateMethod ({ cls := "GargoyleCopyistsModel", name := "refused", desc := "(II)I" } : Jvm.MethodName)) ∈ lw_tbl := lw_at lw_m8 182 rfl
theorem q1926 : (Jvm.Cond.instanceMethod ({ cls := "GargoyleCopyistsModel", name := "refused", desc := "(II)I" } : Jvm.MethodName)) ∈ lw_all := lw_g (lw_at lw_m8 183 rfl) rfl
theorem q1927 : (Jvm.Cond.code ({ cls := "GargoyleCopyistsModel", name := "refused", desc := "(II)I" } : Jvm.MethodName) prog_17_method_3_code (3 : Nat) (Option.some Jvm.ClassFile.FieldType.int)) ∈ lw_all := lw_g (lw_at lw_m8 184 rfl) rfl
theorem q1928 : (Jvm.Cond.methodLink "GargoyleCopyistsModel" (77 : Nat) ({ cls := "GargoyleCopyistsModel", name := "kept", desc := "(I)I" } : Jvm.MethodName)) ∈ lw_all := lw_g (lw_at lw_m8 185 rfl) rfl
theorem q1929 : (Jvm.Cond.privateMethod ({ cls := "GargoyleCopyistsModel", name := "kept", desc := "(I)I" } : Jvm.MethodName)) ∈ lw_tbl := lw_at lw_m8 186 rfl
theorem q1930 : (Jvm.Cond.instanceMethod ({ cls := "GargoyleCopyistsModel", name := "kept", desc := "(I)I" } : Jvm.MethodName)) ∈ lw_all := lw_g (lw_at lw_m8 187 rfl) rfl
theorem q1931 : (Jvm.Cond.code ({ cls := "GargoyleCopyistsModel", name := "kept", desc := "(I)I" } : Jvm.MethodName) prog_17_method_6_code (3 : Nat) (Option.some Jvm.ClassFile.FieldType.int)) ∈ lw_all := lw_g (lw_at lw_m8 188 rfl) rfl
theorem q1933 : (Jvm.Cond.instanceMethod ({ cls := "GargoyleCopyistsModel", name := "cast", desc := "(I)I" } : Jvm.MethodName)) ∈ lw_all := lw_g (lw_at lw_m8 190 rfl) rfl
theorem q1934 : (Jvm.Cond.selects "GargoyleCopyistsModel" ({ cls := "GargoyleCopyistsModel", name := "cast", desc := "(I)I" } : Jvm.MethodName) ({ cls := "GargoyleCopyistsModel", name := "cast", desc := "(I)I" } : Jvm.MethodName)) ∈ lw_all := lw_g (lw_at lw_m8 191 rfl) rfl
theorem q1935 : (Jvm.Cond.code ({ cls := "GargoyleCopyistsModel", name := "cast", desc := "(I)I" } : Jvm.MethodName) prog_17_method_21_code (2 : Nat) (Option.some Jvm.ClassFile.FieldType.int)) ∈ lw_all := lw_g (lw_at lw_m8 192 rfl) rfl
theorem q1936 : (Jvm.Cond.methodLink "GargoyleCopyistsModel" (80 : Nat) ({ cls := "GargoyleCopyistsModel", name := "casts", desc := "(I)I" } : Jvm.MethodName)) ∈ lw_all := lw_g (lw_at lw_m8 193 rfl) rfl
theorem q1937 : (Jvm.Cond.privateMethod ({ cls := "GargoyleCopyistsModel", name := "casts", desc := "(I)I" } : Jvm.MethodName)) ∈ lw_tbl := lw_at lw_m8 194 rfl
theorem q1938 : (Jvm.Cond.instanceMethod ({ cls := "GargoyleCopyistsModel", name := "casts", desc := "(I)I" } : Jvm.MethodName)) ∈ lw_all := lw_g (lw_at lw_m8 195 rfl) rfl
theorem q1939 : (Jvm.Cond.code ({ cls := "GargoyleCopyistsModel", name := "casts", desc := "(I)I" } : Jvm.MethodName) prog_17_method_20_code (4 : Nat) (Option.some Jvm.ClassFile.FieldType.int)) ∈ lw_all := lw_g (lw_at lw_m8 196 rfl) rfl
theorem q1941 : (Jvm.Cond.instanceMethod ({ cls := "GargoyleCopyistsModel", name := "castOf", desc := "(II)I" } : Jvm.MethodName)) ∈ lw_all := lw_g (lw_at lw_m8 198 rfl) rfl
theorem q1942 : (Jvm.Cond.selects "GargoyleCopyistsModel" ({ cls := "GargoyleCopyistsModel", name := "castOf", desc := "(II)I" } : Jvm.MethodName) ({ cls := "GargoyleCopyistsModel", name := "castOf", desc := "(II)I" } : Jvm.MethodName)) ∈ lw_all := lw_g (lw_at lw_m8 199 rfl) rfl
theorem q1943 : (Jvm.Cond.code ({ cls := "GargoyleCopyistsModel", name := "castOf", desc := "(II)I" } : Jvm.MethodName) prog_17_method_22_code (3 : Nat) (Option.some Jvm.ClassFile.FieldType.int)) ∈ lw_all := lw_g (lw_at lw_m8 200 rfl) rfl
theorem q1944 : (Jvm.Cond.methodLink "GargoyleCopyistsModel" (83 : Nat) ({ cls := "GargoyleCopyistsModel", name := "isCast", desc := "(I)Z" } : Jvm.MethodName)) ∈ lw_all := lw_g (lw_at lw_m8 201 rfl) rfl
theorem q1945 : (Jvm.Cond.privateMethod ({ cls := "GargoyleCopyistsModel", name := "isCast", desc := "(I)Z" } : Jvm.MethodName)) ∈ lw_tbl := lw_at lw_m8 202 rfl
theorem q1946 : (Jvm.Cond.instanceMethod ({ cls := "GargoyleCopyistsModel", name := "isCast", desc := "(I)Z" } : Jvm.MethodName)) ∈ lw_all := lw_g (lw_at lw_m8 203 rfl) rfl
theorem q1947 : (Jvm.Cond.code ({ cls := "GargoyleCopyistsModel", name := "isCast", desc := "(I)Z" } : Jvm.MethodName) prog_17_method_10_code (2 : Nat) (Option.some Jvm.ClassFile.FieldType.boolean)) ∈ lw_all := lw_g (lw_at lw_m8 204 rfl) rfl
theorem q1949 : (Jvm.Cond.instanceMethod ({ cls := "GargoyleCopyistsModel", name := "castDepth", desc := "(II)I" } : Jvm.MethodName)) ∈ lw_all := lw_g (lw_at lw_m8 206 rfl) rfl
theorem q1950 : (Jvm.Cond.selects "GargoyleCopyistsModel" ({ cls := "GargoyleCopyistsModel", name := "castDepth", desc := "(II)I" } : Jvm.MethodName) ({ cls := "GargoyleCopyistsModel", name := "castDepth", desc := "(II)I" } : Jvm.MethodName)) ∈ lw_all := lw_g (lw_at lw_m8 207 rfl) rfl
theorem q1951 : (Jvm.Cond.code ({ cls := "GargoyleCopyistsModel", name := "castDepth", desc := "(II)I" } : Jvm.MethodName) prog_17_method_23_code (3 : Nat) (Option.some Jvm.ClassFile.FieldType.int)) ∈ lw_all := lw_g (lw_at lw_m8 208 rfl) rfl
theorem q1953 : (Jvm.Cond.instanceMethod ({ cls := "GargoyleCopyistsModel", name := "copyist", desc := "(I)I" } : Jvm.MethodName)) ∈ lw_all := lw_g (lw_at lw_m8 210 rfl) rfl
theorem q1954 : (Jvm.Cond.selects "GargoyleCopyistsModel" ({ cls := "GargoyleCopyistsModel", name := "copyist", desc := "(I)I" } : Jvm.MethodName) ({ cls := "GargoyleCopyistsModel", name := "copyist", desc := "(I)I" } : Jvm.MethodName)) ∈ lw_all := lw_g (lw_at lw_m8 211 rfl) rfl
theorem q1955 : (Jvm.Cond.code ({ cls := "GargoyleCopyistsModel", name := "copyist", desc := "(I)I" } : Jvm.MethodName) prog_17_method_24_code (3 : Nat) (Option.some Jvm.ClassFile.FieldType.int)) ∈ lw_all := lw_g (lw_at lw_m8 212 rfl) rfl
theorem q1957 : (Jvm.Cond.instanceMethod ({ cls := "GargoyleCopyistsModel", name := "begin", desc := "(I)I" } : Jvm.MethodName)) ∈ lw_all := lw_g (lw_at lw_m8 214 rfl) rfl
theorem q1958 : (Jvm.Cond.selects "GargoyleCopyistsModel" ({ cls := "GargoyleCopyistsModel", name := "begin", desc := "(I)I" } : Jvm.MethodName) ({ cls := "GargoyleCopyistsModel", name := "begin", desc := "(I)I" } : Jvm.MethodName)) ∈ lw_all := lw_g (lw_at lw_m8 215 rfl) rfl
theorem q1959 : (Jvm.Cond.code ({ cls := "GargoyleCopyistsModel", name := "begin", desc := "(I)I" } : Jvm.MethodName) prog_17_method_26_code (2 : Nat) (Option.some Jvm.ClassFile.FieldType.int)) ∈ lw_all := lw_g (lw_at lw_m8 216 rfl) rfl
theorem q1960 : (Jvm.Cond.methodLink "GargoyleCopyistsModel" (86 : Nat) ({ cls := "GargoyleCopyistsModel", name := "begins", desc := "(I)I" } : Jvm.MethodName)) ∈ lw_all := lw_g (lw_at lw_m8 217 rfl) rfl
theorem q1961 : (Jvm.Cond.privateMethod ({ cls := "GargoyleCopyistsModel", name := "begins", desc := "(I)I" } : Jvm.MethodName)) ∈ lw_tbl := lw_at lw_m8 218 rfl
theorem q1962 : (Jvm.Cond.instanceMethod ({ cls := "GargoyleCopyistsModel", name := "begins", desc := "(I)I" } : Jvm.MethodName)) ∈ lw_all := lw_g (lw_at lw_m8 219 rfl) rfl
theorem q1963 : (Jvm.Cond.code ({ cls := "GargoyleCopyistsModel", name := "begins", desc := "(I)I" } : Jvm.MethodName) prog_17_method_25_code (4 : Nat) (Option.some Jvm.ClassFile.FieldType.int)) ∈ lw_all := lw_g (lw_at lw_m8 220 rfl) rfl
theorem q1965 : (Jvm.Cond.instanceMethod ({ cls := "GargoyleCopyistsModel", name := "would", desc := "(III)I" } : Jvm.MethodName)) ∈ lw_all := lw_g (lw_at lw_m8 222 rfl) rfl
theorem q1966 : (Jvm.Cond.selects "GargoyleCopyistsModel" ({ cls := "GargoyleCopyistsModel", name := "would", desc := "(III)I" } : Jvm.MethodName) ({ cls := "GargoyleCopyistsModel", name := "would", desc := "(III)I" } : Jvm.MethodName)) ∈ lw_all := lw_g (lw_at lw_m8 223 rfl) rfl
theorem q1967 : (Jvm.Cond.code ({ cls := "GargoyleCopyistsModel", name := "would", desc := "(III)I" } : Jvm.MethodName) prog_17_method_28_code (4 : Nat) (Option.some Jvm.ClassFile.FieldType.int)) ∈ lw_all := lw_g (lw_at lw_m8 224 rfl) rfl
theorem q1968 : (Jvm.Cond.methodLink "GargoyleCopyistsModel" (89 : Nat) ({ cls := "GargoyleCopyistsModel", name := "isCopyist", desc := "(I)Z" } : Jvm.MethodName)) ∈ lw_all := lw_g (lw_at lw_m8 225 rfl) rfl
theorem q1969 : (Jvm.Cond.privateMethod ({ cls := "GargoyleCopyistsModel", name := "isCopyist", desc := "(I)Z" } : Jvm.MethodName)) ∈ lw_tbl := lw_at lw_m8 226 rfl
theorem q1970 : (Jvm.Cond.instanceMethod ({ cls := "GargoyleCopyistsModel", name := "isCopyist", desc := "(I)Z" } : Jvm.MethodName)) ∈ lw_all := lw_g (lw_at lw_m8 227 rfl) rfl
theorem q1971 : (Jvm.Cond.code ({ cls := "GargoyleCopyistsModel", name := "isCopyist", desc := "(I)Z" } : Jvm.MethodName) prog_17_method_11_code (2 : Nat) (Option.some Jvm.ClassFile.FieldType.boolean)) ∈ lw_all := lw_g (lw_at lw_m8 228 rfl) rfl
theorem q1972 : (Jvm.Cond.methodLink "GargoyleCopyistsModel" (92 : Nat) ({ cls := "GargoyleCopyistsModel", name := "wouldBe", desc := "(III)I" } : Jvm.MethodName)) ∈ lw_all := lw_g (lw_at lw_m8 229 rfl) rfl
theorem q1973 : (Jvm.Cond.privateMethod ({ cls := "GargoyleCopyistsModel", name := "wouldBe", desc := "(III)I" } : Jvm.MethodName)) ∈ lw_tbl := lw_at lw_m8 230 rfl
theorem q1974 : (Jvm.Cond.instanceMethod ({ cls := "GargoyleCopyistsModel", name := "wouldBe", desc := "(III)I" } : Jvm.MethodName)) ∈ lw_all := lw_g (lw_at lw_m8 231 rfl) rfl
theorem q1975 : (Jvm.Cond.code ({ cls := "GargoyleCopyistsModel", name := "wouldBe", desc := "(III)I" } : Jvm.MethodName) prog_17_method_27_code (7 : Nat) (Option.some Jvm.ClassFile.FieldType.int)) ∈ lw_all := lw_g (lw_at lw_m8 232 rfl) rfl
theorem q1977 : (Jvm.Cond.instanceMethod ({ cls := "GargoyleCopyistsModel", name := "cut", desc := "(III)I" } : Jvm.MethodName)) ∈ lw_all := lw_g (lw_at lw_m8 234 rfl) rfl
theorem q1978 : (Jvm.Cond.selects "GargoyleCopyistsModel" ({ cls := "GargoyleCopyistsModel", name := "cut", desc := "(III)I" } : Jvm.MethodName) ({ cls := "GargoyleCopyistsModel", name := "cut", desc := "(III)I" } : Jvm.MethodName)) ∈ lw_all := lw_g (lw_at lw_m8 235 rfl) rfl
theorem q1979 : (Jvm.Cond.code ({ cls := "GargoyleCopyistsModel", name := "cut", desc := "(III)I" } : Jvm.MethodName) prog_17_method_32_code (4 : Nat) (Option.some Jvm.ClassFile.FieldType.int)) ∈ lw_all := lw_g (lw_at lw_m8 236 rfl) rfl
theorem q1980 : (Jvm.Cond.methodLink "GargoyleCopyistsModel" (105 : Nat) ({ cls := "GargoyleCopyistsModel", name := "cuts", desc := "(III)I" } : Jvm.MethodName)) ∈ lw_all := lw_g (lw_at lw_m8 237 rfl) rfl
theorem q1981 : (Jvm.Cond.privateMethod ({ cls := "GargoyleCopyistsModel", name := "cuts", desc := "(III)I" } : Jvm.MethodName)) ∈ lw_tbl := lw_at lw_m8 238 rfl
theorem q1982 : (Jvm.Cond.instanceMethod ({ cls := "GargoyleCopyistsModel", name := "cuts", desc := "(III)I" } : Jvm.MethodName)) ∈ lw_all := lw_g (lw_at lw_m8 239 rfl) rfl
theorem q1983 : (Jvm.Cond.code ({ cls := "GargoyleCopyistsModel", name := "cuts", desc := "(III)I" } : Jvm.MethodName) prog_17_method_31_code (8 : Nat) (Option.some Jvm.ClassFile.FieldType.int)) ∈ lw_all := lw_g (lw_at lw_m9 0 rfl) rfl
theorem q1984 : (Jvm.Cond.methodLink "GargoyleCopyistsModel" (96 : Nat) ({ cls := "GargoyleCopyistsModel", name := "isCopy", desc := "(I)Z" } : Jvm.MethodName)) ∈ lw_all := lw_g (lw_at lw_m9 1 rfl) rfl
theorem q1985 : (Jvm.Cond.privateMethod ({ cls := "GargoyleCopyistsModel", name := "isCopy", desc := "(I)Z" } : Jvm.MethodName)) ∈ lw_tbl := lw_at lw_m9 2 rfl
theorem q1986 : (Jvm.Cond.instanceMethod ({ cls := "GargoyleCopyistsModel", name := "isCopy", desc := "(I)Z" } : Jvm.MethodName)) ∈ lw_all := lw_g (lw_at lw_m9 3 rfl) rfl
theorem q1987 : (Jvm.Cond.code ({ cls := "GargoyleCopyistsModel", name := "isCopy", desc := "(I)Z" } : Jvm.MethodName) prog_17_method_12_code (2 : Nat) (Option.some Jvm.ClassFile.FieldType.boolean)) ∈ lw_all := lw_g (lw_at lw_m9 4 rfl) rfl
theorem q1988 : (Jvm.Cond.methodLink "GargoyleCopyistsModel" (99 : Nat) ({ cls := "GargoyleCopyistsModel", name := "ledgeFor", desc := "(I)I" } : Jvm.MethodName)) ∈ lw_all := lw_g (lw_at lw_m9 5 rfl) rfl
theorem q1989 : (Jvm.Cond.privateMethod ({ cls := "GargoyleCopyistsModel", name := "ledgeFor", desc := "(I)I" } : Jvm.MethodName)) ∈ lw_tbl := lw_at lw_m9 6 rfl
theorem q1990 : (Jvm.Cond.instanceMethod ({ cls := "GargoyleCopyistsModel", name := "ledgeFor", desc := "(I)I" } : Jvm.MethodName)) ∈ lw_all := lw_g (lw_at lw_m9 7 rfl) rfl
theorem q1991 : (Jvm.Cond.code ({ cls := "GargoyleCopyistsModel", name := "ledgeFor", desc := "(I)I" } : Jvm.MethodName) prog_17_method_29_code (2 : Nat) (Option.some Jvm.ClassFile.FieldType.int)) ∈ lw_all := lw_g (lw_at lw_m9 8 rfl) rfl
theorem q1992 : (Jvm.Cond.methodLink "GargoyleCopyistsModel" (102 : Nat) ({ cls := "GargoyleCopyistsModel", name := "dueAt", desc := "(II)I" } : Jvm.MethodName)) ∈ lw_all := lw_g (lw_at lw_m9 9 rfl) rfl
theorem q1993 : (Jvm.Cond.privateMethod ({ cls := "GargoyleCopyistsModel", name := "dueAt", desc := "(II)I" } : Jvm.MethodName)) ∈ lw_tbl := lw_at lw_m9 10 rfl
theorem q1994 : (Jvm.Cond.instanceMethod ({ cls := "GargoyleCopyistsModel", name := "dueAt", desc := "(II)I" } : Jvm.MethodName)) ∈ lw_all := lw_g (lw_at lw_m9 11 rfl) rfl
theorem q1995 : (Jvm.Cond.code ({ cls := "GargoyleCopyistsModel", name := "dueAt", desc := "(II)I" } : Jvm.MethodName) prog_17_method_30_code (3 : Nat) (Option.some Jvm.ClassFile.FieldType.int)) ∈ lw_all := lw_g (lw_at lw_m9 12 rfl) rfl
theorem q1997 : (Jvm.Cond.instanceMethod ({ cls := "GargoyleCopyistsModel", name := "bestCopyist", desc := "(II)I" } : Jvm.MethodName)) ∈ lw_all := lw_g (lw_at lw_m9 14 rfl) rfl
theorem q1998 : (Jvm.Cond.selects "GargoyleCopyistsModel" ({ cls := "GargoyleCopyistsModel", name := "bestCopyist", desc := "(II)I" } : Jvm.MethodName) ({ cls := "GargoyleCopyistsModel", name := "bestCopyist", desc := "(II)I" } : Jvm.MethodName)) ∈ lw_all := lw_g (lw_at lw_m9 15 rfl) rfl
theorem q1999 : (Jvm.Cond.code ({ cls := "GargoyleCopyistsModel", name := "bestCopyist", desc := "(II)I" } : Jvm.MethodName) prog_17_method_34_code (9 : Nat) (Option.some Jvm.ClassFile.FieldType.int)) ∈ lw_all := lw_g (lw_at lw_m9 16 rfl) rfl
theorem q2000 : (Jvm.Cond.methodLink "GargoyleCopyistsModel" (108 : Nat) ({ cls := "GargoyleCopyistsModel", name := "apart", desc := "(II)I" } : Jvm.MethodName)) ∈ lw_all := lw_g (lw_at lw_m9 17 rfl) rfl
theorem q2001 : (Jvm.Cond.static ({ cls := "GargoyleCopyistsModel", name := "apart", desc := "(II)I" } : Jvm.MethodName)) ∈ lw_all := lw_g (lw_at lw_m9 18 rfl) rfl
theorem q2002 : (Jvm.Cond.code ({ cls := "GargoyleCopyistsModel", name := "apart", desc := "(II)I" } : Jvm.MethodName) prog_17_method_33_code (2 : Nat) (Option.some Jvm.ClassFile.FieldType.int)) ∈ lw_all := lw_g (lw_at lw_m9 19 rfl) rfl
theorem q2004 : (Jvm.Cond.instanceMethod ({ cls := "GargoyleCopyistsModel", name := "copyistOf", desc := "(II)I" } : Jvm.MethodName)) ∈ lw_all := lw_g (lw_at lw_m9 21 rfl) rfl
theorem q2005 : (Jvm.Cond.selects "GargoyleCopyistsModel" ({ cls := "GargoyleCopyistsModel", name := "copyistOf", desc := "(II)I" } : Jvm.MethodName) ({ cls := "GargoyleCopyistsModel", name := "copyistOf", desc := "(II)I" } : Jvm.MethodName)) ∈ lw_all := lw_g (lw_at lw_m9 22 rfl) rfl
theorem q2006 : (Jvm.Cond.code ({ cls := "GargoyleCopyistsModel", name := "copyistOf", desc := "(II)I" } : Jvm.MethodName) prog_17_method_35_code (3 : Nat) (Option.some Jvm.ClassFile.FieldType.int)) ∈ lw_all := lw_g (lw_at lw_m9 23 rfl) rfl
theorem q2008 : (Jvm.Cond.instanceMethod ({ cls := "GargoyleCopyistsModel", name := "needle", desc := "(I)I" } : Jvm.MethodName)) ∈ lw_all := lw_g (lw_at lw_m9 25 rfl) rfl
theorem q2009 : (Jvm.Cond.selects "GargoyleCopyistsModel" ({ cls := "GargoyleCopyistsModel", name := "needle", desc := "(I)I" } : Jvm.MethodName) ({ cls := "GargoyleCopyistsModel", name := "needle", desc := "(I)I" } : Jvm.MethodName)) ∈ lw_all := lw_g (lw_at lw_m9 26 rfl) rfl
theorem q2010 : (Jvm.Cond.code ({ cls := "GargoyleCopyistsModel", name := "needle", desc := "(I)I" } : Jvm.MethodName) prog_17_method_37_code (2 : Nat) (Option.some Jvm.ClassFile.FieldType.int)) ∈ lw_all := lw_g (lw_at lw_m9 27 rfl) rfl
theorem q2011 : (Jvm.Cond.methodLink "GargoyleCopyistsModel" (111 : Nat) ({ cls := "GargoyleCopyistsModel", name := "renews", desc := "(I)I" } : Jvm.MethodName)) ∈ lw_all := lw_g (lw_at lw_m9 28 rfl) rfl
theorem q2012 : (Jvm.Cond.privateMethod ({ cls := "GargoyleCopyistsModel", name := "renews", desc := "(I)I" } : Jvm.MethodName)) ∈ lw_tbl := lw_at lw_m9 29 rfl
theorem q2013 : (Jvm.Cond.instanceMethod ({ cls := "GargoyleCopyistsModel", name := "renews", desc := "(I)I" } : Jvm.MethodName)) ∈ lw_all := lw_g (lw_at lw_m9 30 rfl) rfl
theorem q2014 : (Jvm.Cond.code ({ cls := "GargoyleCopyistsModel", name := "renews", desc := "(I)I" } : Jvm.MethodName) prog_17_method_36_code (3 : Nat) (Option.some Jvm.ClassFile.FieldType.int)) ∈ lw_all := lw_g (lw_at lw_m9 31 rfl) rfl
theorem q2016 : (Jvm.Cond.instanceMethod ({ cls := "GargoyleCopyistsModel", name := "copyOf", desc := "(II)I" } : Jvm.MethodName)) ∈ lw_all := lw_g (lw_at lw_m9 33 rfl) rfl
theorem q2017 : (Jvm.Cond.selects "GargoyleCopyistsModel" ({ cls := "GargoyleCopyistsModel", name := "copyOf", desc := "(II)I" } : Jvm.MethodName) ({ cls := "GargoyleCopyistsModel", name := "copyOf", desc := "(II)I" } : Jvm.MethodName)) ∈ lw_all := lw_g (lw_at lw_m9 34 rfl) rfl
theorem q2018 : (Jvm.Cond.code ({ cls := "GargoyleCopyistsModel", name := "copyOf", desc := "(II)I" } : Jvm.MethodName) prog_17_method_40_code (3 : Nat) (Option.some Jvm.ClassFile.FieldType.int)) ∈ lw_all := lw_g (lw_at lw_m9 35 rfl) rfl
theorem q2019 : (Jvm.Cond.methodLink "GargoyleCopyistsModel" (114 : Nat) ({ cls := "GargoyleCopyistsModel", name := "ofPoints", desc := "(II)I" } : Jvm.MethodName)) ∈ lw_all := lw_g (lw_at lw_m9 36 rfl) rfl
theorem q2020 : (Jvm.Cond.privateMethod ({ cls := "GargoyleCopyistsModel", name := "ofPoints", desc := "(II)I" } : Jvm.MethodName)) ∈ lw_tbl := lw_at lw_m9 37 rfl
theorem q2021 : (Jvm.Cond.instanceMethod ({ cls := "GargoyleCopyistsModel", name := "ofPoints", desc := "(II)I" } : Jvm.MethodName)) ∈ lw_all := lw_g (lw_at lw_m9 38 rfl) rfl
theorem q2022 : (Jvm.Cond.code ({ cls := "GargoyleCopyistsModel", name := "ofPoints", desc := "(II)I" } : Jvm.MethodName) prog_17_method_38_code (7 : Nat) (Option.some Jvm.ClassFile.FieldType.int)) ∈ lw_all := lw_g (lw_at lw_m9 39 rfl) rfl
theorem q2023 : (Jvm.Cond.methodLink "GargoyleCopyistsModel" (117 : Nat) ({ cls := "GargoyleCopyistsModel", name := "weightOf", desc := "(I)I" } : Jvm.MethodName)) ∈ lw_all := lw_g (lw_at lw_m9 40 rfl) rfl
theorem q2024 : (Jvm.Cond.privateMethod ({ cls := "GargoyleCopyistsModel", name := "weightOf", desc := "(I)I" } : Jvm.MethodName)) ∈ lw_tbl := lw_at lw_m9 41 rfl
theorem q2025 : (Jvm.Cond.instanceMethod ({ cls := "GargoyleCopyistsModel", name := "weightOf", desc := "(I)I" } : Jvm.MethodName)) ∈ lw_all := lw_g (lw_at lw_m9 42 rfl) rfl
theorem q2026 : (Jvm.Cond.code ({ cls := "GargoyleCopyistsModel", name := "weightOf", desc := "(I)I" } : Jvm.MethodName) prog_17_method_39_code (2 : Nat) (Option.some Jvm.ClassFile.FieldType.int)) ∈ lw_all := lw_g (lw_at lw_m9 43 rfl) rfl
theorem q2028 : (Jvm.Cond.instanceMethod ({ cls := "GargoyleCopyistsModel", name := "copyDepth", desc := "(II)I" } : Jvm.MethodName)) ∈ lw_all := lw_g (lw_at lw_m9 45 rfl) rfl
theorem q2029 : (Jvm.Cond.selects "GargoyleCopyistsModel" ({ cls := "GargoyleCopyistsModel", name := "copyDepth", desc := "(II)I" } : Jvm.MethodName) ({ cls := "GargoyleCopyistsModel", name := "copyDepth", desc := "(II)I" } : Jvm.MethodName)) ∈ lw_all := lw_g (lw_at lw_m9 46 rfl) rfl
theorem q2030 : (Jvm.Cond.code ({ cls := "GargoyleCopyistsModel", name := "copyDepth", desc := "(II)I" } : Jvm.MethodName) prog_17_method_41_code (4 : Nat) (Option.some Jvm.ClassFile.FieldType.int)) ∈ lw_all := lw_g (lw_at lw_m9 47 rfl) rfl
theorem q2032 : (Jvm.Cond.instanceMethod ({ cls := "GargoyleCopyistsModel", name := "wrong", desc := "(I)I" } : Jvm.MethodName)) ∈ lw_all := lw_g (lw_at lw_m9 49 rfl) rfl
theorem q2033 : (Jvm.Cond.selects "GargoyleCopyistsModel" ({ cls := "GargoyleCopyistsModel", name := "wrong", desc := "(I)I" } : Jvm.MethodName) ({ cls := "GargoyleCopyistsModel", name := "wrong", desc := "(I)I" } : Jvm.MethodName)) ∈ lw_all := lw_g (lw_at lw_m9 50 rfl) rfl
theorem q2034 : (Jvm.Cond.code ({ cls := "GargoyleCopyistsModel", name := "wrong", desc := "(I)I" } : Jvm.MethodName) prog_17_method_42_code (5 : Nat) (Option.some Jvm.ClassFile.FieldType.int)) ∈ lw_all := lw_g (lw_at lw_m9 51 rfl) rfl
theorem q2036 : (Jvm.Cond.instanceMethod ({ cls := "GargoyleCopyistsModel", name := "wrongAgain", desc := "(I)I" } : Jvm.MethodName)) ∈ lw_all := lw_g (lw_at lw_m9 53 rfl) rfl
theorem q2037 : (Jvm.Cond.selects "GargoyleCopyistsModel" ({ cls := "GargoyleCopyistsModel", name := "wrongAgain", desc := "(I)I" } : Jvm.MethodName) ({ cls := "GargoyleCopyistsModel", name := "wrongAgain", desc := "(I)I" } : Jvm.MethodName)) ∈ lw_all := lw_g (lw_at lw_m9 54 rfl) rfl
theorem q2038 : (Jvm.Cond.code ({ cls := "GargoyleCopyistsModel", name := "wrongAgain", desc := "(I)I" } : Jvm.MethodName) prog_17_method_43_code (2 : Nat) (Option.some Jvm.ClassFile.FieldType.int)) ∈ lw_all := lw_g (lw_at lw_m9 55 rfl) rfl
theorem q2040 : (Jvm.Cond.instanceMethod ({ cls := "GargoyleCopyistsModel", name := "down", desc := "(I)I" } : Jvm.MethodName)) ∈ lw_all := lw_g (lw_at lw_m9 57 rfl) rfl
theorem q2041 : (Jvm.Cond.selects "GargoyleCopyistsModel" ({ cls := "GargoyleCopyistsModel", name := "down", desc := "(I)I" } : Jvm.MethodName) ({ cls := "GargoyleCopyistsModel", name := "down", desc := "(I)I" } : Jvm.MethodName)) ∈ lw_all := lw_g (lw_at lw_m9 58 rfl) rfl
theorem q2042 : (Jvm.Cond.code ({ cls := "GargoyleCopyistsModel", name := "down", desc := "(I)I" } : Jvm.MethodName) prog_17_method_45_code (2 : Nat) (Option.some Jvm.ClassFile.FieldType.int)) ∈ lw_all := lw_g (lw_at lw_m9 59 rfl) rfl
theorem q2043 : (Jvm.Cond.methodLink "GargoyleCopyistsModel" (120 : Nat) ({ cls := "GargoyleCopyistsModel", name := "takesDown", desc := "(I)I" } : Jvm.MethodName)) ∈ lw_all := lw_g (lw_at lw_m9 60 rfl) rfl
theorem q2044 : (Jvm.Cond.privateMethod ({ cls := "GargoyleCopyistsModel", name := "takesDown", desc := "(I)I" } : Jvm.MethodName)) ∈ lw_tbl := lw_at lw_m9 61 rfl
theorem q2045 : (Jvm.Cond.instanceMethod ({ cls := "GargoyleCopyistsModel", name := "takesDown", desc := "(I)I" } : Jvm.MethodName)) ∈ lw_all := lw_g (lw_at lw_m9 62 rfl) rfl
theorem q2046 : (Jvm.Cond.code ({ cls := "GargoyleCopyistsModel", name := "takesDown", desc := "(I)I" } : Jvm.MethodName) prog_17_method_44_code (2 : Nat) (Option.some Jvm.ClassFile.FieldType.int)) ∈ lw_all := lw_g (lw_at lw_m9 63 rfl) rfl
theorem q2048 : (Jvm.Cond.instanceMethod ({ cls := "GargoyleCopyistsModel", name := "lift", desc := "(I)I" } : Jvm.MethodName)) ∈ lw_all := lw_g (lw_at lw_m9 65 rfl) rfl
theorem q2049 : (Jvm.Cond.selects "GargoyleCopyistsModel" ({ cls := "GargoyleCopyistsModel", name := "lift", desc := "(I)I" } : Jvm.MethodName) ({ cls := "GargoyleCopyistsModel", name := "lift", desc := "(I)I" } : Jvm.MethodName)) ∈ lw_all := lw_g (lw_at lw_m9 66 rfl) rfl
theorem q2050 : (Jvm.Cond.code ({ cls := "GargoyleCopyistsModel", name := "lift", desc := "(I)I" } : Jvm.MethodName) prog_17_method_48_code (2 : Nat) (Option.some Jvm.ClassFile.FieldType.int)) ∈ lw_all := lw_g (lw_at lw_m9 67 rfl) rfl
theorem q2051 : (Jvm.Cond.methodLink "GargoyleCopyistsModel" (126 : Nat) ({ cls := "GargoyleCopyistsModel", name := "lifts", desc := "(I)I" } : Jvm.MethodName)) ∈ lw_all := lw_g (lw_at lw_m9 68 rfl) rfl
theorem q2052 : (Jvm.Cond.privateMethod ({ cls := "GargoyleCopyistsModel", name := "lifts", desc := "(I)I" } : Jvm.MethodName)) ∈ lw_tbl := lw_at lw_m9 69 rfl
theorem q2053 : (Jvm.Cond.instanceMethod ({ cls := "GargoyleCopyistsModel", name := "lifts", desc := "(I)I" } : Jvm.MethodName)) ∈ lw_all := lw_g (lw_at lw_m9 70 rfl) rfl
theorem q2054 : (Jvm.Cond.code ({ cls := "GargoyleCopyistsModel", name := "lifts", desc := "(I)I" } : Jvm.MethodName) prog_17_method_47_code (5 : Nat) (Option.some Jvm.ClassFile.FieldType.int)) ∈ lw_all := lw_g (lw_at lw_m9 71 rfl) rfl
theorem q2055 : (Jvm.Cond.methodLink "GargoyleCopyistsModel" (123 : Nat) ({ cls := "GargoyleCopyistsModel", name := "uncut", desc := "(I)I" } : Jvm.MethodName)) ∈ lw_all := lw_g (lw_at lw_m9 72 rfl) rfl
theorem q2056 : (Jvm.Cond.privateMethod ({ cls := "GargoyleCopyistsModel", name := "uncut", desc := "(I)I" } : Jvm.MethodName)) ∈ lw_tbl := lw_at lw_m9 73 rfl
theorem q2057 : (Jvm.Cond.instanceMethod ({ cls := "GargoyleCopyistsModel", name := "uncut", desc := "(I)I" } : Jvm.MethodName)) ∈ lw_all := lw_g (lw_at lw_m9 74 rfl) rfl
theorem q2058 : (Jvm.Cond.code ({ cls := "GargoyleCopyistsModel", name := "uncut", desc := "(I)I" } : Jvm.MethodName) prog_17_method_46_code (3 : Nat) (Option.some Jvm.ClassFile.FieldType.int)) ∈ lw_all := lw_g (lw_at lw_m9 75 rfl) rfl
theorem q2060 : (Jvm.Cond.instanceMethod ({ cls := "GargoyleCopyistsModel", name := "drive", desc := "(I)I" } : Jvm.MethodName)) ∈ lw_all := lw_g (lw_at lw_m9 77 rfl) rfl
theorem q2061 : (Jvm.Cond.selects "GargoyleCopyistsModel" ({ cls := "GargoyleCopyistsModel", name := "drive", desc := "(I)I" } : Jvm.MethodName) ({ cls := "GargoyleCopyistsModel", name := "drive", desc := "(I)I" } : Jvm.MethodName)) ∈ lw_all := lw_g (lw_at lw_m9 78 rfl) rfl
theorem q2062 : (Jvm.Cond.code ({ cls := "GargoyleCopyistsModel", name := "drive", desc := "(I)I" } : Jvm.MethodName) prog_17_method_50_code (2 : Nat) (Option.some Jvm.ClassFile.FieldType.int)) ∈ lw_all := lw_g (lw_at lw_m9 79 rfl) rfl
theorem q2063 : (Jvm.Cond.methodLink "GargoyleCopyistsModel" (129 : Nat) ({ cls := "GargoyleCopyistsModel", name := "drives", desc := "(I)I" } : Jvm.MethodName)) ∈ lw_all := lw_g (lw_at lw_m9 80 rfl) rfl
theorem q2064 : (Jvm.Cond.privateMethod ({ cls := "GargoyleCopyistsModel", name := "drives", desc := "(I)I" } : Jvm.MethodName)) ∈ lw_tbl := lw_at lw_m9 81 rfl
theorem q2065 : (Jvm.Cond.instanceMethod ({ cls := "GargoyleCopyistsModel", name := "drives", desc := "(I)I" } : Jvm.MethodName)) ∈ lw_all := lw_g (lw_at lw_m9 82 rfl) rfl
theorem q2066 : (Jvm.Cond.code ({ cls := "GargoyleCopyistsModel", name := "drives", desc := "(I)I" } : Jvm.MethodName) prog_17_method_49_code (3 : Nat) (Option.some Jvm.ClassFile.FieldType.int)) ∈ lw_all := lw_g (lw_at lw_m9 83 rfl) rfl
theorem q2068 : (Jvm.Cond.instanceMethod ({ cls := "GargoyleCopyistsModel", name := "sky", desc := "(II)I" } : Jvm.MethodName)) ∈ lw_all := lw_g (lw_at lw_m9 85 rfl) rfl
theorem q2069 : (Jvm.Cond.selects "GargoyleCopyistsModel" ({ cls := "GargoyleCopyistsModel", name := "sky", desc := "(II)I" } : Jvm.MethodName) ({ cls := "GargoyleCopyistsModel", name := "sky", desc := "(II)I" } : Jvm.MethodName)) ∈ lw_all := lw_g (lw_at lw_m9 86 rfl) rfl
theorem q2070 : (Jvm.Cond.code ({ cls := "GargoyleCopyistsModel", name := "sky", desc := "(II)I" } : Jvm.MethodName) prog_17_method_52_code (3 : Nat) (Option.some Jvm.ClassFile.FieldType.int)) ∈ lw_all := lw_g (lw_at lw_m9 87 rfl) rfl
theorem q2071 : (Jvm.Cond.methodLink "GargoyleCopyistsModel" (132 : Nat) ({ cls := "GargoyleCopyistsModel", name := "tells", desc := "(II)I" } : Jvm.MethodName)) ∈ lw_all := lw_g (lw_at lw_m9 88 rfl) rfl
theorem q2072 : (Jvm.Cond.privateMethod ({ cls := "GargoyleCopyistsModel", name := "tells", desc := "(II)I" } : Jvm.MethodName)) ∈ lw_tbl := lw_at lw_m9 89 rfl
theorem q2073 : (Jvm.Cond.instanceMethod ({ cls := "GargoyleCopyistsModel", name := "tells", desc := "(II)I" } : Jvm.MethodName)) ∈ lw_all := lw_g (lw_at lw_m9 90 rfl) rfl
theorem q2074 : (Jvm.Cond.code ({ cls := "GargoyleCopyistsModel", name := "tells", desc := "(II)I" } : Jvm.MethodName) prog_17_method_51_code (4 : Nat) (Option.some Jvm.ClassFile.FieldType.int)) ∈ lw_all := lw_g (lw_at lw_m9 91 rfl) rfl
theorem q2076 : (Jvm.Cond.instanceMethod ({ cls := "GargoyleCopyistsModel", name := "hours", desc := "(I)I" } : Jvm.MethodName)) ∈ lw_all := lw_g (lw_at lw_m9 93 rfl) rfl
theorem q2077 : (Jvm.Cond.selects "GargoyleCopyistsModel" ({ cls := "GargoyleCopyistsModel", name := "hours", desc := "(I)I" } : Jvm.MethodName) ({ cls := "GargoyleCopyistsModel", name := "hours", desc := "(I)I" } : Jvm.MethodName)) ∈ lw_all := lw_g (lw_at lw_m9 94 rfl) rfl
theorem q2078 : (Jvm.Cond.code ({ cls := "GargoyleCopyistsModel", name := "hours", desc := "(I)I" } : Jvm.MethodName) prog_17_method_57_code (2 : Nat) (Option.some Jvm.ClassFile.FieldType.int)) ∈ lw_all := lw_g (lw_at lw_m9 95 rfl) rfl
theorem q2079 : (Jvm.Cond.methodLink "GargoyleCopyistsModel" (145 : Nat) ({ cls := "GargoyleCopyistsModel", name := "passes", desc := "(I)I" } : Jvm.MethodName)) ∈ lw_all := lw_g (lw_at lw_m9 96 rfl) rfl
theorem q2080 : (Jvm.Cond.privateMethod ({ cls := "GargoyleCopyistsModel", name := "passes", desc := "(I)I" } : Jvm.MethodName)) ∈ lw_tbl := lw_at lw_m9 97 rfl
theorem q2081 : (Jvm.Cond.instanceMethod ({ cls := "GargoyleCopyistsModel", name := "passes", desc := "(I)I" } : Jvm.MethodName)) ∈ lw_all := lw_g (lw_at lw_m9 98 rfl) rfl
theorem q2082 : (Jvm.Cond.code ({ cls := "GargoyleCopyistsModel", name := "passes", desc := "(I)I" } : Jvm.MethodName) prog_17_method_56_code (5 : Nat) (Option.some Jvm.ClassFile.FieldType.int)) ∈ lw_all := lw_g (lw_at lw_m9 99 rfl) rfl
theorem q2083 : (Jvm.Cond.methodLink "GargoyleCopyistsModel" (135 : Nat) ({ cls := "GargoyleCopyistsModel", name := "rainsOn", desc := "(I)I" } : Jvm.MethodName)) ∈ lw_all := lw_g (lw_at lw_m9 100 rfl) rfl
theorem q2084 : (Jvm.Cond.privateMethod ({ cls := "GargoyleCopyistsModel", name := "rainsOn", desc := "(I)I" } : Jvm.MethodName)) ∈ lw_tbl := lw_at lw_m9 101 rfl
theorem q2085 : (Jvm.Cond.instanceMethod ({ cls := "GargoyleCopyistsModel", name := "rainsOn", desc := "(I)I" } : Jvm.MethodName)) ∈ lw_all := lw_g (lw_at lw_m9 102 rfl) rfl
theorem q2086 : (Jvm.Cond.code ({ cls := "GargoyleCopyistsModel", name := "rainsOn", desc := "(I)I" } : Jvm.MethodName) prog_17_method_53_code (5 : Nat) (Option.some Jvm.ClassFile.FieldType.int)) ∈ lw_all := lw_g (lw_at lw_m9 103 rfl) rfl
theorem q2087 : (Jvm.Cond.methodLink "GargoyleCopyistsModel" (138 : Nat) ({ cls := "GargoyleCopyistsModel", name := "sets", desc := "(I)V" } : Jvm.MethodName)) ∈ lw_all := lw_g (lw_at lw_m9 104 rfl) rfl
theorem q2088 : (Jvm.Cond.privateMethod ({ cls := "GargoyleCopyistsModel", name := "sets", desc := "(I)V" } : Jvm.MethodName)) ∈ lw_tbl := lw_at lw_m9 105 rfl
theorem q2089 : (Jvm.Cond.instanceMethod ({ cls := "GargoyleCopyistsModel", name := "sets", desc := "(I)V" } : Jvm.MethodName)) ∈ lw_all := lw_g (lw_at lw_m9 106 rfl) rfl
theorem q2090 : (Jvm.Cond.code ({ cls := "GargoyleCopyistsModel", name := "sets", desc := "(I)V" } : Jvm.MethodName) prog_17_method_54_code (2 : Nat) (Option.none : Option Jvm.ClassFile.FieldType)) ∈ lw_all := lw_g (lw_at lw_m9 107 rfl) rfl
theorem q2091 : (Jvm.Cond.methodLink "GargoyleCopyistsModel" (142 : Nat) ({ cls := "GargoyleCopyistsModel", name := "endsDay", desc := "()V" } : Jvm.MethodName)) ∈ lw_all := lw_g (lw_at lw_m9 108 rfl) rfl
theorem q2092 : (Jvm.Cond.privateMethod ({ cls := "GargoyleCopyistsModel", name := "endsDay", desc := "()V" } : Jvm.MethodName)) ∈ lw_tbl := lw_at lw_m9 109 rfl
theorem q2093 : (Jvm.Cond.instanceMethod ({ cls := "GargoyleCopyistsModel", name := "endsDay", desc := "()V" } : Jvm.MethodName)) ∈ lw_all := lw_g (lw_at lw_m9 110 rfl) rfl
theorem q2094 : (Jvm.Cond.code ({ cls := "GargoyleCopyistsModel", name := "endsDay", desc := "()V" } : Jvm.MethodName) prog_17_method_55_code (3 : Nat) (Option.none : Option Jvm.ClassFile.FieldType)) ∈ lw_all := lw_g (lw_at lw_m9 111 rfl) rfl
theorem q2096 : (Jvm.Cond.instanceMethod ({ cls := "GargoyleCopyistsModel", name := "wornIn", desc := "(I)I" } : Jvm.MethodName)) ∈ lw_all := lw_g (lw_at lw_m9 113 rfl) rfl
theorem q2097 : (Jvm.Cond.selects "GargoyleCopyistsModel" ({ cls := "GargoyleCopyistsModel", name := "wornIn", desc := "(I)I" } : Jvm.MethodName) ({ cls := "GargoyleCopyistsModel", name := "wornIn", desc := "(I)I" } : Jvm.MethodName)) ∈ lw_all := lw_g (lw_at lw_m9 114 rfl) rfl
theorem q2098 : (Jvm.Cond.code ({ cls := "GargoyleCopyistsModel", name := "wornIn", desc := "(I)I" } : Jvm.MethodName) prog_17_method_58_code (3 : Nat) (Option.some Jvm.ClassFile.FieldType.int)) ∈ lw_all := lw_g (lw_at lw_m9 115 rfl) rfl
theorem q2100 : (Jvm.Cond.instanceMethod ({ cls := "GargoyleCopyistsModel", name := "append", desc := "(I)I" } : Jvm.MethodName)) ∈ lw_all := lw_g (lw_at lw_m9 117 rfl) rfl
theorem q2101 : (Jvm.Cond.selects "GargoyleCopyistsModel" ({ cls := "GargoyleCopyistsModel", name := "append", desc := "(I)I" } : Jvm.MethodName) ({ cls := "GargoyleCopyistsModel", name := "append", desc := "(I)I" } : Jvm.MethodName)) ∈ lw_all := lw_g (lw_at lw_m9 118 rfl) rfl
theorem q2102 : (Jvm.Cond.code ({ cls := "GargoyleCopyistsModel", name := "append", desc := "(I)I" } : Jvm.MethodName) prog_17_method_59_code (2 : Nat) (Option.some Jvm.ClassFile.FieldType.int)) ∈ lw_all := lw_g (lw_at lw_m9 119 rfl) rfl
theorem q2104 : (Jvm.Cond.instanceMethod ({ cls := "GargoyleCopyistsModel", name := "run", desc := "()I" } : Jvm.MethodName)) ∈ lw_all := lw_g (lw_at lw_m9 121 rfl) rfl
theorem q2105 : (Jvm.Cond.selects "GargoyleCopyistsModel" ({ cls := "GargoyleCopyistsModel", name := "run", desc := "()I" } : Jvm.MethodName) ({ cls := "GargoyleCopyistsModel", name := "run", desc := "()I" } : Jvm.MethodName)) ∈ lw_all := lw_g (lw_at lw_m9 122 rfl) rfl
theorem q2106 : (Jvm.Cond.code ({ cls := "GargoyleCopyistsModel", name := "run", desc := "()I" } : Jvm.MethodName) prog_17_method_70_code (3 : Nat) (Option.some Jvm.ClassFile.FieldType.int)) ∈ lw_all := lw_g (lw_at lw_m9 123 rfl) rfl
theorem q2107 : (Jvm.Cond.methodLink "GargoyleCopyistsModel" (211 : Nat) ({ cls := "GargoyleCopyistsModel", name := "readsText", desc := "()I" } : Jvm.MethodName)) ∈ lw_all := lw_g (lw_at lw_m9 124 rfl) rfl
theorem q2108 : (Jvm.Cond.privateMethod ({ cls := "GargoyleCopyistsModel", name := "readsText", desc := "()I" } : Jvm.MethodName)) ∈ lw_tbl := lw_at lw_m9 125 rfl
theorem q2109 : (Jvm.Cond.instanceMethod ({ cls := "GargoyleCopyistsModel", name := "readsText", desc := "()I" } : Jvm.MethodName)) ∈ lw_all := lw_g (lw_at lw_m9 126 rfl) rfl
theorem q2110 : (Jvm.Cond.code ({ cls := "GargoyleCopyistsModel", name := "readsText", desc := "()I" } : Jvm.MethodName) prog_17_method_68_code (3 : Nat) (Option.some Jvm.ClassFile.FieldType.int)) ∈ lw_all := lw_g (lw_at lw_m9 127 rfl) rfl
theorem q2111 : (Jvm.Cond.methodLink "GargoyleCopyistsModel" (208 : Nat) ({ cls := "GargoyleCopyistsModel", name := "readsOrder", desc := "(I)V" } : Jvm.MethodName)) ∈ lw_all := lw_g (lw_at lw_m9 128 rfl) rfl
theorem q2112 : (Jvm.Cond.privateMethod ({ cls := "GargoyleCopyistsModel", name := "readsOrder", desc := "(I)V" } : Jvm.MethodName)) ∈ lw_tbl := lw_at lw_m9 129 rfl
theorem q2113 : (Jvm.Cond.instanceMethod ({ cls := "GargoyleCopyistsModel", name := "readsOrder", desc := "(I)V" } : Jvm.MethodName)) ∈ lw_all := lw_g (lw_at lw_m9 130 rfl) rfl
theorem q2114 : (Jvm.Cond.code ({ cls := "GargoyleCopyistsModel", name := "readsOrder", desc := "(I)V" } : Jvm.MethodName) prog_17_method_67_code (3 : Nat) (Option.none : Option Jvm.ClassFile.FieldType)) ∈ lw_all := lw_g (lw_at lw_m9 131 rfl) rfl
theorem q2115 : (Jvm.Cond.methodLink "GargoyleCopyistsModel" (202 : Nat) ({ cls := "GargoyleCopyistsModel", name := "readsWord", desc := "()I" } : Jvm.MethodName)) ∈ lw_all := lw_g (lw_at lw_m9 132 rfl) rfl
theorem q2116 : (Jvm.Cond.privateMethod ({ cls := "GargoyleCopyistsModel", name := "readsWord", desc := "()I" } : Jvm.MethodName)) ∈ lw_tbl := lw_at lw_m9 133 rfl
theorem q2117 : (Jvm.Cond.instanceMethod ({ cls := "GargoyleCopyistsModel", name := "readsWord", desc := "()I" } : Jvm.MethodName)) ∈ lw_all := lw_g (lw_at lw_m9 134 rfl) rfl
theorem q2118 : (Jvm.Cond.code ({ cls := "GargoyleCopyistsModel", name := "readsWord", desc := "()I" } : Jvm.MethodName) prog_17_method_64_code (3 : Nat) (Option.some Jvm.ClassFile.FieldType.int)) ∈ lw_all := lw_g (lw_at lw_m9 135 rfl) rfl
theorem q2119 : (Jvm.Cond.methodLink "GargoyleCopyistsModel" (190 : Nat) ({ cls := "GargoyleCopyistsModel", name := "isWord", desc := "(I)Z" } : Jvm.MethodName)) ∈ lw_all := lw_g (lw_at lw_m9 136 rfl) rfl
theorem q2120 : (Jvm.Cond.privateMethod ({ cls := "GargoyleCopyistsModel", name := "isWord", desc := "(I)Z" } : Jvm.MethodName)) ∈ lw_tbl := lw_at lw_m9 137 rfl
theorem q2121 : (Jvm.Cond.instanceMethod ({ cls := "GargoyleCopyistsModel", name := "isWord", desc := "(I)Z" } : Jvm.MethodName)) ∈ lw_all := lw_g (lw_at lw_m9 138 rfl) rfl
theorem q2122 : (Jvm.Cond.code ({ cls := "GargoyleCopyistsModel", name := "isWord", desc := "(I)Z" } : Jvm.MethodName) prog_17_method_63_code (3 : Nat) (Option.some Jvm.ClassFile.FieldType.boolean)) ∈ lw_all := lw_g (lw_at lw_m9 139 rfl) rfl
theorem q2123 : (Jvm.Cond.methodLink "GargoyleCopyistsModel" (180 : Nat) ({ cls := "GargoyleCopyistsModel", name := "word", desc := "(I)Ljava/lang/String;" } : Jvm.MethodName)) ∈ lw_all := lw_g (lw_at lw_m9 140 rfl) rfl
theorem q2124 : (Jvm.Cond.static ({ cls := "GargoyleCopyistsModel", name := "word", desc := "(I)Ljava/lang/String;" } : Jvm.MethodName)) ∈ lw_all := lw_g (lw_at lw_m9 141 rfl) rfl
theorem q2125 : (Jvm.Cond.code ({ cls := "GargoyleCopyistsModel", name := "word", desc := "(I)Ljava/lang/String;" } : Jvm.MethodName) prog_17_method_60_code (1 : Nat) (Option.some (Jvm.ClassFile.FieldType.object "java/lang/String"))) ∈ lw_all := lw_g (lw_at lw_m9 142 rfl) rfl
theorem q2126 : (Jvm.Cond.stringRef "GargoyleCopyistsModel" (151 : Nat) "cast ") ∈ lw_tbl := lw_at lw_m9 143 rfl
theorem q2127 : (Jvm.Cond.stringRef "GargoyleCopyistsModel" (153 : Nat) "begin ") ∈ lw_tbl := lw_at lw_m9 144 rfl
theorem q2128 : (Jvm.Cond.stringRef "GargoyleCopyistsModel" (155 : Nat) "cut ") ∈ lw_tbl := lw_at lw_m9 145 rfl
theorem q2129 : (Jvm.Cond.stringRef "GargoyleCopyistsModel" (157 : Nat) "down ") ∈ lw_tbl := lw_at lw_m9 146 rfl
theorem q2130 : (Jvm.Cond.stringRef "GargoyleCopyistsModel" (159 : Nat) "lift ") ∈ lw_tbl := lw_at lw_m9 147 rfl
theorem q2131 : (Jvm.Cond.stringRef "GargoyleCopyistsModel" (161 : Nat) "needle ") ∈ lw_tbl := lw_at lw_m9 148 rfl
theorem q2132 : (Jvm.Cond.stringRef "GargoyleCopyistsModel" (163 : Nat) "drive ") ∈ lw_tbl := lw_at lw_m9 149 rfl
theorem q2133 : (Jvm.Cond.stringRef "GargoyleCopyistsModel" (165 : Nat) "sky ") ∈ lw_tbl := lw_at lw_m9 150 rfl
theorem q2134 : (Jvm.Cond.stringRef "GargoyleCopyistsModel" (167 : Nat) "wait ") ∈ lw_tbl := lw_at lw_m9 151 rfl
theorem q2135 : (Jvm.Cond.methodLink "GargoyleCopyistsModel" (184 : Nat) ({ cls := "java/lang/String", name := "charAt", desc := "(I)C" } : Jvm.MethodName)) ∈ lw_all := lw_g (lw_at lw_m9 152 rfl) rfl
theorem q2136 : (Jvm.Cond.methodLink "GargoyleCopyistsModel" (176 : Nat) ({ cls := "GargoyleCopyistsModel", name := "here", desc := "()I" } : Jvm.MethodName)) ∈ lw_all := lw_g (lw_at lw_m9 153 rfl) rfl
theorem q2137 : (Jvm.Cond.privateMethod ({ cls := "GargoyleCopyistsModel", name := "here", desc := "()I" } : Jvm.MethodName)) ∈ lw_tbl := lw_at lw_m9 154 rfl
theorem q2138 : (Jvm.Cond.instanceMethod ({ cls := "GargoyleCopyistsModel", name := "here", desc := "()I" } : Jvm.MethodName)) ∈ lw_all := lw_g (lw_at lw_m9 155 rfl) rfl
theorem q2139 : (Jvm.Cond.code ({ cls := "GargoyleCopyistsModel", name := "here", desc := "()I" } : Jvm.MethodName) prog_17_method_61_code (1 : Nat) (Option.some Jvm.ClassFile.FieldType.int)) ∈ lw_all := lw_g (lw_at lw_m9 156 rfl) rfl
theorem q2140 : (Jvm.Cond.methodLink "GargoyleCopyistsModel" (193 : Nat) ({ cls := "java/lang/String", name := "length", desc := "()I" } : Jvm.MethodName)) ∈ lw_all := lw_g (lw_at lw_m9 157 rfl) rfl
theorem q2141 : (Jvm.Cond.methodLink "GargoyleCopyistsModel" (196 : Nat) ({ cls := "GargoyleCopyistsModel", name := "needs", desc := "(I)V" } : Jvm.MethodName)) ∈ lw_all := lw_g (lw_at lw_m9 158 rfl) rfl
theorem q2142 : (Jvm.Cond.privateMethod ({ cls := "GargoyleCopyistsModel", name := "needs", desc := "(I)V" } : Jvm.MethodName)) ∈ lw_tbl := lw_at lw_m9 159 rfl
theorem q2143 : (Jvm.Cond.instanceMethod ({ cls := "GargoyleCopyistsModel", name := "needs", desc := "(I)V" } : Jvm.MethodName)) ∈ lw_all := lw_g (lw_at lw_m9 160 rfl) rfl
theorem q2144 : (Jvm.Cond.code ({ cls := "GargoyleCopyistsModel", name := "needs", desc := "(I)V" } : Jvm.MethodName) prog_17_method_62_code (2 : Nat) (Option.none : Option Jvm.ClassFile.FieldType)) ∈ lw_all := lw_g (lw_at lw_m9 161 rfl) rfl
theorem q2145 : (Jvm.Cond.methodLink "GargoyleCopyistsModel" (205 : Nat) ({ cls := "GargoyleCopyistsModel", name := "number", desc := "()I" } : Jvm.MethodName)) ∈ lw_all := lw_g (lw_at lw_m9 162 rfl) rfl
theorem q2146 : (Jvm.Cond.privateMethod ({ cls := "GargoyleCopyistsModel", name := "number", desc := "()I" } : Jvm.MethodName)) ∈ lw_tbl := lw_at lw_m9 163 rfl
theorem q2147 : (Jvm.Cond.instanceMethod ({ cls := "GargoyleCopyistsModel", name := "number", desc := "()I" } : Jvm.MethodName)) ∈ lw_all := lw_g (lw_at lw_m9 164 rfl) rfl
theorem q2148 : (Jvm.Cond.code ({ cls := "GargoyleCopyistsModel", name := "number", desc := "()I" } : Jvm.MethodName) prog_17_method_66_code (2 : Nat) (Option.some Jvm.ClassFile.FieldType.int)) ∈ lw_all := lw_g (lw_at lw_m9 165 rfl) rfl
theorem q2149 : (Jvm.Cond.methodLink "GargoyleCopyistsModel" (199 : Nat) ({ cls := "GargoyleCopyistsModel", name := "digit", desc := "()I" } : Jvm.MethodName)) ∈ lw_all := lw_g (lw_at lw_m9 166 rfl) rfl
theorem q2150 : (Jvm.Cond.privateMethod ({ cls := "GargoyleCopyistsModel", name := "digit", desc := "()I" } : Jvm.MethodName)) ∈ lw_tbl := lw_at lw_m9 167 rfl
theorem q2151 : (Jvm.Cond.instanceMethod ({ cls := "GargoyleCopyistsModel", name := "digit", desc := "()I" } : Jvm.MethodName)) ∈ lw_all := lw_g (lw_at lw_m9 168 rfl) rfl
theorem q2152 : (Jvm.Cond.code ({ cls := "GargoyleCopyistsModel", name := "digit", desc := "()I" } : Jvm.MethodName) prog_17_method_65_code (2 : Nat) (Option.some Jvm.ClassFile.FieldType.int)) ∈ lw_all := lw_g (lw_at lw_m9 169 rfl) rfl
theorem q2153 : (Jvm.Cond.methodLink "GargoyleCopyistsModel" (214 : Nat) ({ cls := "GargoyleCopyistsModel", name := "does", desc := "(I)I" } : Jvm.MethodName)) ∈ lw_all := lw_g (lw_at lw_m9 170 rfl) rfl
theorem q2154 : (Jvm.Cond.privateMethod ({ cls := "GargoyleCopyistsModel", name := "does", desc := "(I)I" } : Jvm.MethodName)) ∈ lw_tbl := lw_at lw_m9 171 rfl
theorem q2155 : (Jvm.Cond.instanceMethod ({ cls := "GargoyleCopyistsModel", name := "does", desc := "(I)I" } : Jvm.MethodName)) ∈ lw_all := lw_g (lw_at lw_m9 172 rfl) rfl
theorem q2156 : (Jvm.Cond.code ({ cls := "GargoyleCopyistsModel", name := "does", desc := "(I)I" } : Jvm.MethodName) prog_17_method_69_code (3 : Nat) (Option.some Jvm.ClassFile.FieldType.int)) ∈ lw_all := lw_g (lw_at lw_m9 173 rfl) rfl
theorem q2158 : (Jvm.Cond.instanceMethod ({ cls := "GargoyleCopyistsModel", name := "tell", desc := "(I)I" } : Jvm.MethodName)) ∈ lw_all := lw_g (lw_at lw_m9 175 rfl) rfl
theorem q2159 : (Jvm.Cond.selects "GargoyleCopyistsModel" ({ cls := "GargoyleCopyistsModel", name := "tell", desc := "(I)I" } : Jvm.MethodName) ({ cls := "GargoyleCopyistsModel", name := "tell", desc := "(I)I" } : Jvm.MethodName)) ∈ lw_all := lw_g (lw_at lw_m9 176 rfl) rfl
theorem q2160 : (Jvm.Cond.code ({ cls := "GargoyleCopyistsModel", name := "tell", desc := "(I)I" } : Jvm.MethodName) prog_17_method_73_code (5 : Nat) (Option.some Jvm.ClassFile.FieldType.int)) ∈ lw_all := lw_g (lw_at lw_m9 177 rfl) rfl
theorem q2161 : (Jvm.Cond.stringRef "GargoyleCopyistsModel" (223 : Nat) "copy ") ∈ lw_tbl := lw_at lw_m9 178 rfl
theorem q2162 : (Jvm.Cond.methodLink "GargoyleCopyistsModel" (225 : Nat) ({ cls := "GargoyleCopyistsModel", name := "putsText", desc := "(Ljava/lang/String;)V" } : Jvm.MethodName)) ∈ lw_all := lw_g (lw_at lw_m9 179 rfl) rfl
theorem q2163 : (Jvm.Cond.privateMethod ({ cls := "GargoyleCopyistsModel", name := "putsText", desc := "(Ljava/lang/String;)V" } : Jvm.MethodName)) ∈ lw_tbl := lw_at lw_m9 180 rfl
theorem q2164 : (Jvm.Cond.instanceMethod ({ cls := "GargoyleCopyistsModel", name := "putsText", desc := "(Ljava/lang/String;)V" } : Jvm.MethodName)) ∈ lw_all := lw_g (lw_at lw_m9 181 rfl) rfl
theorem q2165 : (Jvm.Cond.code ({ cls := "GargoyleCopyistsModel", name := "putsText", desc := "(Ljava/lang/String;)V" } : Jvm.MethodName) prog_17_method_72_code (3 : Nat) (Option.none : Option Jvm.ClassFile.FieldType)) ∈ lw_all := lw_g (lw_at lw_m9 182 rfl) rfl
theorem q2166 : (Jvm.Cond.methodLink "GargoyleCopyistsModel" (220 : Nat) ({ cls := "GargoyleCopyistsModel", name := "puts", desc := "(I)V" } : Jvm.MethodName)) ∈ lw_all := lw_g (lw_at lw_m9 183 rfl) rfl
theorem q2167 : (Jvm.Cond.privateMethod ({ cls := "GargoyleCopyistsModel", name := "puts", desc := "(I)V" } : Jvm.MethodName)) ∈ lw_tbl := lw_at lw_m9 184 rfl
theorem q2168 : (Jvm.Cond.instanceMethod ({ cls := "GargoyleCopyistsModel", name := "puts", desc := "(I)V" } : Jvm.MethodName)) ∈ lw_all := lw_g (lw_at lw_m9 185 rfl) rfl
theorem q2169 : (Jvm.Cond.code ({ cls := "GargoyleCopyistsModel", name := "puts", desc := "(I)V" } : Jvm.MethodName) prog_17_method_71_code (2 : Nat) (Option.none : Option Jvm.ClassFile.FieldType)) ∈ lw_all := lw_g (lw_at lw_m9 186 rfl) rfl
theorem q2170 : (Jvm.Cond.stringRef "GargoyleCopyistsModel" (229 : Nat) ": ") ∈ lw_tbl := lw_at lw_m9 187 rfl
theorem q2171 : (Jvm.Cond.stringRef "GargoyleCopyistsModel" (231 : Nat) "^") ∈ lw_tbl := lw_at lw_m9 188 rfl
theorem q2172 : (Jvm.Cond.stringRef "GargoyleCopyistsModel" (233 : Nat) "") ∈ lw_tbl := lw_at lw_m9 189 rfl
theorem q2174 : (Jvm.Cond.instanceMethod ({ cls := "GargoyleCopyistsModel", name := "tellLedges", desc := "()I" } : Jvm.MethodName)) ∈ lw_all := lw_g (lw_at lw_m9 191 rfl) rfl
theorem q2175 : (Jvm.Cond.selects "GargoyleCopyistsModel" ({ cls := "GargoyleCopyistsModel", name := "tellLedges", desc := "()I" } : Jvm.MethodName) ({ cls := "GargoyleCopyistsModel", name := "tellLedges", desc := "()I" } : Jvm.MethodName)) ∈ lw_all := lw_g (lw_at lw_m9 192 rfl) rfl
theorem q2176 : (Jvm.Cond.code ({ cls := "GargoyleCopyistsModel", name := "tellLedges", desc := "()I" } : Jvm.MethodName) prog_17_method_74_code (2 : Nat) (Option.some Jvm.ClassFile.FieldType.int)) ∈ lw_all := lw_g (lw_at lw_m9 193 rfl) rfl
theorem q2178 : (Jvm.Cond.instanceMethod ({ cls := "GargoyleCopyistsModel", name := "character", desc := "(I)I" } : Jvm.MethodName)) ∈ lw_all := lw_g (lw_at lw_m9 195 rfl) rfl
theorem q2179 : (Jvm.Cond.selects "GargoyleCopyistsModel" ({ cls := "GargoyleCopyistsModel", name := "character", desc := "(I)I" } : Jvm.MethodName) ({ cls := "GargoyleCopyistsModel", name := "character", desc := "(I)I" } : Jvm.MethodName)) ∈ lw_all := lw_g (lw_at lw_m9 196 rfl) rfl
theorem q2180 : (Jvm.Cond.code ({ cls := "GargoyleCopyistsModel", name := "character", desc := "(I)I" } : Jvm.MethodName) prog_17_method_75_code (2 : Nat) (Option.some Jvm.ClassFile.FieldType.int)) ∈ lw_all := lw_g (lw_at lw_m9 197 rfl) rfl
theorem q2182 : (Jvm.Cond.instanceMethod ({ cls := "GargoyleCopyistsModel", name := "reason", desc := "(Z)I" } : Jvm.MethodName)) ∈ lw_all := lw_g (lw_at lw_m9 199 rfl) rfl
theorem q2183 : (Jvm.Cond.selects "GargoyleCopyistsModel" ({ cls := "GargoyleCopyistsModel", name := "reason", desc := "(Z)I" } : Jvm.MethodName) ({ cls := "GargoyleCopyistsModel", name := "reason", desc := "(Z)I" } : Jvm.MethodName)) ∈ lw_all := lw_g (lw_at lw_m9 200 rfl) rfl
theorem q2184 : (Jvm.Cond.code ({ cls := "GargoyleCopyistsModel", name := "reason", desc := "(Z)I" } : Jvm.MethodName) prog_17_method_76_code (2 : Nat) (Option.some Jvm.ClassFile.FieldType.int)) ∈ lw_all := lw_g (lw_at lw_m9 201 rfl) rfl
theorem q2186 : (Jvm.Cond.instanceMethod ({ cls := "GargoyleCopyistsModel", name := "account", desc := "(I)I" } : Jvm.MethodName)) ∈ lw_all := lw_g (lw_at lw_m9 203 rfl) rfl
theorem q2187 : (Jvm.Cond.selects "GargoyleCopyistsModel" ({ cls := "GargoyleCopyistsModel", name := "account", desc := "(I)I" } : Jvm.MethodName) ({ cls := "GargoyleCopyistsModel", name := "account", desc := "(I)I" } : Jvm.MethodName)) ∈ lw_all := lw_g (lw_at lw_m9 204 rfl) rfl
theorem q2188 : (Jvm.Cond.code ({ cls := "GargoyleCopyistsModel", name := "account", desc := "(I)I" } : Jvm.MethodName) prog_17_method_77_code (2 : Nat) (Option.some Jvm.ClassFile.FieldType.int)) ∈ lw_all := lw_g (lw_at lw_m9 205 rfl) rfl
theorem q2189 : (Jvm.Cond.methodLink "GargoyleCopyistsModel" (235 : Nat) ({ cls := "GargoyleCopyistsModel", name := "sum", desc := "(II)I" } : Jvm.MethodName)) ∈ lw_all := lw_g (lw_at lw_m9 206 rfl) rfl
theorem q2190 : (Jvm.Cond.privateMethod ({ cls := "GargoyleCopyistsModel", name := "sum", desc := "(II)I" } : Jvm.MethodName)) ∈ lw_tbl := lw_at lw_m9 207 rfl
theorem q2191 : (Jvm.Cond.instanceMethod ({ cls := "GargoyleCopyistsModel", name := "sum", desc := "(II)I" } : Jvm.MethodName)) ∈ lw_all := lw_g (lw_at lw_m9 208 rfl) rfl
theorem q2192 : (Jvm.Cond.code ({ cls := "GargoyleCopyistsModel", name := "sum", desc := "(II)I" } : Jvm.MethodName) prog_17_method_7_code (5 : Nat) (Option.some Jvm.ClassFile.FieldType.int)) ∈ lw_all := lw_g (lw_at lw_m9 209 rfl) rfl
theorem q2194 : (Jvm.Cond.instanceMethod ({ cls := "GargoyleCopyistsModel", name := "isBalanced", desc := "()I" } : Jvm.MethodName)) ∈ lw_all := lw_g (lw_at lw_m9 211 rfl) rfl
theorem q2195 : (Jvm.Cond.selects "GargoyleCopyistsModel" ({ cls := "GargoyleCopyistsModel", name := "isBalanced", desc := "()I" } : Jvm.MethodName) ({ cls := "GargoyleCopyistsModel", name := "isBalanced", desc := "()I" } : Jvm.MethodName)) ∈ lw_all := lw_g (lw_at lw_m9 212 rfl) rfl
theorem q2196 : (Jvm.Cond.code ({ cls := "GargoyleCopyistsModel", name := "isBalanced", desc := "()I" } : Jvm.MethodName) prog_17_method_78_code (1 : Nat) (Option.some Jvm.ClassFile.FieldType.int)) ∈ lw_all := lw_g (lw_at lw_m9 213 rfl) rfl
theorem q2198 : (Jvm.Cond.instanceMethod ({ cls := "GargoyleCopyistsModel", name := "meanDepth", desc := "(I)D" } : Jvm.MethodName)) ∈ lw_all := lw_g (lw_at lw_m9 215 rfl) rfl
theorem q2199 : (Jvm.Cond.selects "GargoyleCopyistsModel" ({ cls := "GargoyleCopyistsModel", name := "meanDepth", desc := "(I)D" } : Jvm.MethodName) ({ cls := "GargoyleCopyistsModel", name := "meanDepth", desc := "(I)D" } : Jvm.MethodName)) ∈ lw_all := lw_g (lw_at lw_m9 216 rfl) rfl
theorem q2200 : (Jvm.Cond.code ({ cls := "GargoyleCopyistsModel", name := "meanDepth", desc := "(I)D" } : Jvm.MethodName) prog_17_method_79_code (3 : Nat) (Option.some Jvm.ClassFile.FieldType.double)) ∈ lw_all := lw_g (lw_at lw_m9 217 rfl) rfl
theorem q2202 : (Jvm.Cond.instanceMethod ({ cls := "GargoyleCopyistsModel", name := "spoutShare", desc := "()F" } : Jvm.MethodName)) ∈ lw_all := lw_g (lw_at lw_m9 219 rfl) rfl
theorem q2203 : (Jvm.Cond.selects "GargoyleCopyistsModel" ({ cls := "GargoyleCopyistsModel", name := "spoutShare", desc := "()F" } : Jvm.MethodName) ({ cls := "GargoyleCopyistsModel", name := "spoutShare", desc := "()F" } : Jvm.MethodName)) ∈ lw_all := lw_g (lw_at lw_m9 220 rfl) rfl
theorem q2204 : (Jvm.Cond.code ({ cls := "GargoyleCopyistsModel", name := "spoutShare", desc := "()F" } : Jvm.MethodName) prog_17_method_80_code (1 : Nat) (Option.some Jvm.ClassFile.FieldType.float)) ∈ lw_all := lw_g (lw_at lw_m9 221 rfl) rfl
theorem q2206 : (Jvm.Cond.instanceMethod ({ cls := "GargoyleCopyistsModel", name := "undo", desc := "()I" } : Jvm.MethodName)) ∈ lw_all := lw_g (lw_at lw_m9 223 rfl) rfl
theorem q2207 : (Jvm.Cond.selects "GargoyleCopyistsModel" ({ cls := "GargoyleCopyistsModel", name := "undo", desc := "()I" } : Jvm.MethodName) ({ cls := "GargoyleCopyistsModel", name := "undo", desc := "()I" } : Jvm.MethodName)) ∈ lw_all := lw_g (lw_at lw_m9 224 rfl) rfl
theorem q2208 : (Jvm.Cond.code ({ cls := "GargoyleCopyistsModel", name := "undo", desc := "()I" } : Jvm.MethodName) prog_17_method_81_code (1 : Nat) (Option.some Jvm.ClassFile.FieldType.int)) ∈ lw_all := lw_g (lw_at lw_m9 225 rfl) rfl
theorem q2210 : (Jvm.Cond.instanceMethod ({ cls := "GargoyleCopyistsModel", name := "save", desc := "()I" } : Jvm.MethodName)) ∈ lw_all := lw_g (lw_at lw_m9 227 rfl) rfl
theorem q2211 : (Jvm.Cond.selects "GargoyleCopyistsModel" ({ cls := "GargoyleCopyistsModel", name := "save", desc := "()I" } : Jvm.MethodName) ({ cls := "GargoyleCopyistsModel", name := "save", desc := "()I" } : Jvm.MethodName)) ∈ lw_all := lw_g (lw_at lw_m9 228 rfl) rfl
theorem q2212 : (Jvm.Cond.code ({ cls := "GargoyleCopyistsModel", name := "save", desc := "()I" } : Jvm.MethodName) prog_17_method_82_code (1 : Nat) (Option.some Jvm.ClassFile.FieldType.int)) ∈ lw_all := lw_g (lw_at lw_m9 229 rfl) rfl
theorem q2214 : (Jvm.Cond.instanceMethod ({ cls := "GargoyleCopyistsModel", name := "restore", desc := "()I" } : Jvm.MethodName)) ∈ lw_all := lw_g (lw_at lw_m9 231 rfl) rfl
theorem q2215 : (Jvm.Cond.selects "GargoyleCopyistsModel" ({ cls := "GargoyleCopyistsModel", name := "restore", desc := "()I" } : Jvm.MethodName) ({ cls := "GargoyleCopyistsModel", name := "restore", desc := "()I" } : Jvm.MethodName)) ∈ lw_all := lw_g (lw_at lw_m9 232 rfl) rfl
theorem q2216 : (Jvm.Cond.code ({ cls := "GargoyleCopyistsModel", name := "restore", desc := "()I" } : Jvm.MethodName) prog_17_method_83_code (1 : Nat) (Option.some Jvm.ClassFile.FieldType.int)) ∈ lw_all := lw_g (lw_at lw_m9 233 rfl) rfl
theorem q2246 : (Jvm.Cond.castable "GargoyleCopyistsModel" "java/lang/Object") ∈ lw_tbl := lw_at lw_m10 23 rfl
theorem in_X4 : ∀ w ∈ wsX40, w ∈ lw_all := lw_in wsX40 [1849, 1851, 1853, 1855, 1857, 1859, 1861, 1863, 1865, 1867, 1869, 1871, 1873, 1875, 1877] (by decide +kernel) (by decide +kernel)

