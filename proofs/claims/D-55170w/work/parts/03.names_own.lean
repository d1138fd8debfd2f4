/-! GargoyleCopyists -/
set_option maxRecDepth 100000
def RX0 : String := "GargoyleCopyists"
def TX0 : u_T := fun k => match k with
  | 0 => ("GargoyleCopyists", "church", "LGargoyleCopyists$Church;", false)
  | 1 => ("GargoyleCopyists", "saved", "LGargoyleCopyists$Church;", false)
  | 2 => ("GargoyleCopyists", "past", "Ljava/util/ArrayDeque;", true)
  | 3 => ("GargoyleCopyists", "reason", "I", false)
  | 4 => ("GargoyleCopyists", "detail", "I", false)
  | 5 => ("GargoyleCopyists", "cuts", "[LGargoyleCopyists$Cut;", true)
  | 6 => ("GargoyleCopyists", "text", "Ljava/lang/StringBuilder;", true)
  | _ => ("GargoyleCopyists", "line", "Ljava/lang/String;", false)
def tyX0 : Nat → FieldType := fun k => match k with
  | 0 => .object "GargoyleCopyists$Church"
  | 1 => .object "GargoyleCopyists$Church"
  | 2 => .object "java/util/ArrayDeque"
  | 3 => .int
  | 4 => .int
  | 5 => .array (.object "GargoyleCopyists$Cut")
  | 6 => .object "java/lang/StringBuilder"
  | _ => .object "java/lang/String"
abbrev wsX00 : List Cond := u_ws RX0 TX0 8
theorem nmX0 : ∀ a, a < 8 → ∀ b, b < 8 → a ≠ b → (TX0 a).2.1 ≠ (TX0 b).2.1 := by decide +kernel
theorem tyX0_ok : ∀ k, k < 8 → parseFieldDescriptor (TX0 k).2.2.1 = some (tyX0 k) := by decide +kernel
abbrev cX0_init : ByteArray := prog_1_method_1_code
def yX0_init : MethodName := ⟨RX0, "<init>", "()V"⟩
def dkwX0_init_3 : List UInt8 := [27, 186, 0, 46, 0, 0, 83, 42, 180, 0, 25, 5, 27, 186, 0, 47, 0, 0, 83, 177]
abbrev dktX0_init_3 : List UInt8 := dkwX0_init_3 ++ []
def dkwX0_init_2 : List UInt8 := [18, 36, 181, 0, 38, 6, 60, 42, 180, 0, 25, 3, 27, 186, 0, 42, 0, 0, 83, 42, 180, 0, 25, 4]
abbrev dktX0_init_2 : List UInt8 := dkwX0_init_2 ++ dktX0_init_3
def dkwX0_init_1 : List UInt8 := [181, 0, 19, 42, 6, 189, 0, 23, 181, 0, 25, 42, 187, 0, 29, 89, 183, 0, 31, 181, 0, 32, 42]
abbrev dktX0_init_1 : List UInt8 := dkwX0_init_1 ++ dktX0_init_2
def dkwX0_init_0 : List UInt8 := [42, 183, 0, 1, 42, 187, 0, 7, 89, 183, 0, 9, 181, 0, 10, 42, 187, 0, 16, 89, 183, 0, 18]
abbrev dktX0_init_0 : List UInt8 := dkwX0_init_0 ++ dktX0_init_1
theorem dksX0_init_0 : cX0_init.data.toList.drop 0 = dktX0_init_0 := by decide +kernel
theorem dksX0_init_1 : cX0_init.data.toList.drop 23 = dktX0_init_1 := dk_seg dksX0_init_0 23 rfl rfl
theorem dksX0_init_2 : cX0_init.data.toList.drop 46 = dktX0_init_2 := dk_seg dksX0_init_1 23 rfl rfl
theorem dksX0_init_3 : cX0_init.data.toList.drop 70 = dktX0_init_3 := dk_seg dksX0_init_2 24 rfl rfl
theorem dX0_init_0 : decode cX0_init 0 = .ok (.aload_n 0, 1) := dk_42 (dk_at dksX0_init_0 0 rfl rfl)
theorem dX0_init_1 : decode cX0_init 1 = .ok (.invokespecial 1, 3) := dk_183 0 1 (dk_at dksX0_init_0 1 rfl rfl)
theorem dX0_init_4 : decode cX0_init 4 = .ok (.aload_n 0, 1) := dk_42 (dk_at dksX0_init_0 4 rfl rfl)
theorem dX0_init_5 : decode cX0_init 5 = .ok (.new 7, 3) := dk_187 0 7 (dk_at dksX0_init_0 5 rfl rfl)
theorem dX0_init_8 : decode cX0_init 8 = .ok (.dup, 1) := dk_89 (dk_at dksX0_init_0 8 rfl rfl)
theorem dX0_init_9 : decode cX0_init 9 = .ok (.invokespecial 9, 3) := dk_183 0 9 (dk_at dksX0_init_0 9 rfl rfl)
theorem dX0_init_12 : decode cX0_init 12 = .ok (.putfield 10, 3) := dk_181 0 10 (dk_at dksX0_init_0 12 rfl rfl)
theorem dX0_init_15 : decode cX0_init 15 = .ok (.aload_n 0, 1) := dk_42 (dk_at dksX0_init_0 15 rfl rfl)
theorem dX0_init_16 : decode cX0_init 16 = .ok (.new 16, 3) := dk_187 0 16 (dk_at dksX0_init_0 16 rfl rfl)
theorem dX0_init_19 : decode cX0_init 19 = .ok (.dup, 1) := dk_89 (dk_at dksX0_init_0 19 rfl rfl)
theorem dX0_init_20 : decode cX0_init 20 = .ok (.invokespecial 18, 3) := dk_183 0 18 (dk_at dksX0_init_0 20 rfl rfl)
theorem dX0_init_23 : decode cX0_init 23 = .ok (.putfield 19, 3) := dk_181 0 19 (dk_at dksX0_init_1 0 rfl rfl)
theorem dX0_init_26 : decode cX0_init 26 = .ok (.aload_n 0, 1) := dk_42 (dk_at dksX0_init_1 3 rfl rfl)
theorem dX0_init_27 : decode cX0_init 27 = .ok (.iconst 3, 1) := dk_6 (dk_at dksX0_init_1 4 rfl rfl)
theorem dX0_init_28 : decode cX0_init 28 = .ok (.anewarray 23, 3) := dk_189 0 23 (dk_at dksX0_init_1 5 rfl rfl)
theorem dX0_init_31 : decode cX0_init 31 = .ok (.putfield 25, 3) := dk_181 0 25 (dk_at dksX0_init_1 8 rfl rfl)
theorem dX0_init_34 : decode cX0_init 34 = .ok (.aload_n 0, 1) := dk_42 (dk_at dksX0_init_1 11 rfl rfl)
theorem dX0_init_35 : decode cX0_init 35 = .ok (.new 29, 3) := dk_187 0 29 (dk_at dksX0_init_1 12 rfl rfl)
theorem dX0_init_38 : decode cX0_init 38 = .ok (.dup, 1) := dk_89 (dk_at dksX0_init_1 15 rfl rfl)
theorem dX0_init_39 : decode cX0_init 39 = .ok (.invokespecial 31, 3) := dk_183 0 31 (dk_at dksX0_init_1 16 rfl rfl)
theorem dX0_init_42 : decode cX0_init 42 = .ok (.putfield 32, 3) := dk_181 0 32 (dk_at dksX0_init_1 19 rfl rfl)
theorem dX0_init_45 : decode cX0_init 45 = .ok (.aload_n 0, 1) := dk_42 (dk_at dksX0_init_1 22 rfl rfl)
theorem dX0_init_46 : decode cX0_init 46 = .ok (.ldc 36, 2) := dk_18 36 (dk_at dksX0_init_2 0 rfl rfl)
theorem dX0_init_48 : decode cX0_init 48 = .ok (.putfield 38, 3) := dk_181 0 38 (dk_at dksX0_init_2 2 rfl rfl)
theorem dX0_init_51 : decode cX0_init 51 = .ok (.iconst 3, 1) := dk_6 (dk_at dksX0_init_2 5 rfl rfl)
theorem dX0_init_52 : decode cX0_init 52 = .ok (.istore_n 1, 1) := dk_60 (dk_at dksX0_init_2 6 rfl rfl)
theorem dX0_init_53 : decode cX0_init 53 = .ok (.aload_n 0, 1) := dk_42 (dk_at dksX0_init_2 7 rfl rfl)
theorem dX0_init_54 : decode cX0_init 54 = .ok (.getfield 25, 3) := dk_180 0 25 (dk_at dksX0_init_2 8 rfl rfl)
theorem dX0_init_57 : decode cX0_init 57 = .ok (.iconst 0, 1) := dk_3 (dk_at dksX0_init_2 11 rfl rfl)
theorem dX0_init_58 : decode cX0_init 58 = .ok (.iload_n 1, 1) := dk_27 (dk_at dksX0_init_2 12 rfl rfl)
theorem dX0_init_59 : decode cX0_init 59 = .ok (.invokedynamic 42, 5) := by decide +kernel
theorem dX0_init_64 : decode cX0_init 64 = .ok (.aastore, 1) := dk_83 (dk_at dksX0_init_2 18 rfl rfl)
theorem dX0_init_65 : decode cX0_init 65 = .ok (.aload_n 0, 1) := dk_42 (dk_at dksX0_init_2 19 rfl rfl)
theorem dX0_init_66 : decode cX0_init 66 = .ok (.getfield 25, 3) := dk_180 0 25 (dk_at dksX0_init_2 20 rfl rfl)
theorem dX0_init_69 : decode cX0_init 69 = .ok (.iconst 1, 1) := dk_4 (dk_at dksX0_init_2 23 rfl rfl)
theorem dX0_init_70 : decode cX0_init 70 = .ok (.iload_n 1, 1) := dk_27 (dk_at dksX0_init_3 0 rfl rfl)
theorem dX0_init_71 : decode cX0_init 71 = .ok (.invokedynamic 46, 5) := by decide +kernel
theorem dX0_init_76 : decode cX0_init 76 = .ok (.aastore, 1) := dk_83 (dk_at dksX0_init_3 6 rfl rfl)
theorem dX0_init_77 : decode cX0_init 77 = .ok (.aload_n 0, 1) := dk_42 (dk_at dksX0_init_3 7 rfl rfl)
theorem dX0_init_78 : decode cX0_init 78 = .ok (.getfield 25, 3) := dk_180 0 25 (dk_at dksX0_init_3 8 rfl rfl)
theorem dX0_init_81 : decode cX0_init 81 = .ok (.iconst 2, 1) := dk_5 (dk_at dksX0_init_3 11 rfl rfl)
theorem dX0_init_82 : decode cX0_init 82 = .ok (.iload_n 1, 1) := dk_27 (dk_at dksX0_init_3 12 rfl rfl)
theorem dX0_init_83 : decode cX0_init 83 = .ok (.invokedynamic 47, 5) := by decide +kernel
theorem dX0_init_88 : decode cX0_init 88 = .ok (.aastore, 1) := dk_83 (dk_at dksX0_init_3 18 rfl rfl)
theorem dX0_init_89 : decode cX0_init 89 = .ok (.return_, 1) := dk_177 (dk_at dksX0_init_3 19 rfl rfl)
abbrev cX0_lambda_new_0 : ByteArray := prog_1_method_49_code
def yX0_lambda_new_0 : MethodName := ⟨RX0, "lambda$new$0", "(II)I"⟩
def dkwX0_lambda_new_0_0 : List UInt8 := [27, 26, 5, 96, 108, 172]
abbrev dktX0_lambda_new_0_0 : List UInt8 := dkwX0_lambda_new_0_0 ++ []
theorem dksX0_lambda_new_0_0 : cX0_lambda_new_0.data.toList.drop 0 = dktX0_lambda_new_0_0 := by decide +kernel
theorem dX0_lambda_new_0_0 : decode cX0_lambda_new_0 0 = .ok (.iload_n 1, 1) := dk_27 (dk_at dksX0_lambda_new_0_0 0 rfl rfl)
theorem dX0_lambda_new_0_1 : decode cX0_lambda_new_0 1 = .ok (.iload_n 0, 1) := dk_26 (dk_at dksX0_lambda_new_0_0 1 rfl rfl)
theorem dX0_lambda_new_0_2 : decode cX0_lambda_new_0 2 = .ok (.iconst 2, 1) := dk_5 (dk_at dksX0_lambda_new_0_0 2 rfl rfl)
theorem dX0_lambda_new_0_3 : decode cX0_lambda_new_0 3 = .ok (.iadd, 1) := dk_96 (dk_at dksX0_lambda_new_0_0 3 rfl rfl)
theorem dX0_lambda_new_0_4 : decode cX0_lambda_new_0 4 = .ok (.idiv, 1) := dk_108 (dk_at dksX0_lambda_new_0_0 4 rfl rfl)
theorem dX0_lambda_new_0_5 : decode cX0_lambda_new_0 5 = .ok (.ireturn, 1) := dk_172 (dk_at dksX0_lambda_new_0_0 5 rfl rfl)
abbrev cX0_lambda_new_1 : ByteArray := prog_1_method_48_code
def yX0_lambda_new_1 : MethodName := ⟨RX0, "lambda$new$1", "(II)I"⟩
def dkwX0_lambda_new_1_0 : List UInt8 := [27, 26, 4, 96, 108, 4, 100, 172]
abbrev dktX0_lambda_new_1_0 : List UInt8 := dkwX0_lambda_new_1_0 ++ []
theorem dksX0_lambda_new_1_0 : cX0_lambda_new_1.data.toList.drop 0 = dktX0_lambda_new_1_0 := by decide +kernel
theorem dX0_lambda_new_1_0 : decode cX0_lambda_new_1 0 = .ok (.iload_n 1, 1) := dk_27 (dk_at dksX0_lambda_new_1_0 0 rfl rfl)
theorem dX0_lambda_new_1_1 : decode cX0_lambda_new_1 1 = .ok (.iload_n 0, 1) := dk_26 (dk_at dksX0_lambda_new_1_0 1 rfl rfl)
theorem dX0_lambda_new_1_2 : decode cX0_lambda_new_1 2 = .ok (.iconst 1, 1) := dk_4 (dk_at dksX0_lambda_new_1_0 2 rfl rfl)
theorem dX0_lambda_new_1_3 : decode cX0_lambda_new_1 3 = .ok (.iadd, 1) := dk_96 (dk_at dksX0_lambda_new_1_0 3 rfl rfl)
theorem dX0_lambda_new_1_4 : decode cX0_lambda_new_1 4 = .ok (.idiv, 1) := dk_108 (dk_at dksX0_lambda_new_1_0 4 rfl rfl)
theorem dX0_lambda_new_1_5 : decode cX0_lambda_new_1 5 = .ok (.iconst 1, 1) := dk_4 (dk_at dksX0_lambda_new_1_0 5 rfl rfl)
theorem dX0_lambda_new_1_6 : decode cX0_lambda_new_1 6 = .ok (.isub, 1) := dk_100 (dk_at dksX0_lambda_new_1_0 6 rfl rfl)
theorem dX0_lambda_new_1_7 : decode cX0_lambda_new_1 7 = .ok (.ireturn, 1) := dk_172 (dk_at dksX0_lambda_new_1_0 7 rfl rfl)
abbrev cX0_lambda_new_2 : ByteArray := prog_1_method_47_code
def yX0_lambda_new_2 : MethodName := ⟨RX0, "lambda$new$2", "(II)I"⟩
def dkwX0_lambda_new_2_0 : List UInt8 := [27, 26, 108, 4, 96, 172]
abbrev dktX0_lambda_new_2_0 : List UInt8 := dkwX0_lambda_new_2_0 ++ []
theorem dksX0_lambda_new_2_0 : cX0_lambda_new_2.data.toList.drop 0 = dktX0_lambda_new_2_0 := by decide +kernel
theorem dX0_lambda_new_2_0 : decode cX0_lambda_new_2 0 = .ok (.iload_n 1, 1) := dk_27 (dk_at dksX0_lambda_new_2_0 0 rfl rfl)
theorem dX0_lambda_new_2_1 : decode cX0_lambda_new_2 1 = .ok (.iload_n 0, 1) := dk_26 (dk_at dksX0_lambda_new_2_0 1 rfl rfl)
theorem dX0_lambda_new_2_2 : decode cX0_lambda_new_2 2 = .ok (.idiv, 1) := dk_108 (dk_at dksX0_lambda_new_2_0 2 rfl rfl)
theorem dX0_lambda_new_2_3 : decode cX0_lambda_new_2 3 = .ok (.iconst 1, 1) := dk_4 (dk_at dksX0_lambda_new_2_0 3 rfl rfl)
theorem dX0_lambda_new_2_4 : decode cX0_lambda_new_2 4 = .ok (.iadd, 1) := dk_96 (dk_at dksX0_lambda_new_2_0 4 rfl rfl)
theorem dX0_lambda_new_2_5 : decode cX0_lambda_new_2 5 = .ok (.ireturn, 1) := dk_172 (dk_at dksX0_lambda_new_2_0 5 rfl rfl)
abbrev cX0_ledgeOf : ByteArray := prog_1_method_8_code
def yX0_ledgeOf : MethodName := ⟨RX0, "ledgeOf", "(II)I"⟩
def dkwX0_ledgeOf_1 : List UInt8 := [182, 0, 94, 167, 0, 5, 16, 245, 172]
abbrev dktX0_ledgeOf_1 : List UInt8 := dkwX0_ledgeOf_1 ++ []
def dkwX0_ledgeOf_0 : List UInt8 := [27, 184, 0, 78, 153, 0, 24, 42, 180, 0, 10, 180, 0, 82, 27, 182, 0, 86, 192, 0, 92, 28]
abbrev dktX0_ledgeOf_0 : List UInt8 := dkwX0_ledgeOf_0 ++ dktX0_ledgeOf_1
theorem dksX0_ledgeOf_0 : cX0_ledgeOf.data.toList.drop 0 = dktX0_ledgeOf_0 := by decide +kernel
theorem dksX0_ledgeOf_1 : cX0_ledgeOf.data.toList.drop 22 = dktX0_ledgeOf_1 := dk_seg dksX0_ledgeOf_0 22 rfl rfl
theorem dX0_ledgeOf_0 : decode cX0_ledgeOf 0 = .ok (.iload_n 1, 1) := dk_27 (dk_at dksX0_ledgeOf_0 0 rfl rfl)
theorem dX0_ledgeOf_1 : decode cX0_ledgeOf 1 = .ok (.invokestatic 78, 3) := dk_184 0 78 (dk_at dksX0_ledgeOf_0 1 rfl rfl)
theorem dX0_ledgeOf_4 : decode cX0_ledgeOf 4 = .ok (.ifCond .eq 24, 3) := dk_153 0 24 (dk_at dksX0_ledgeOf_0 4 rfl rfl)
theorem dX0_ledgeOf_7 : decode cX0_ledgeOf 7 = .ok (.aload_n 0, 1) := dk_42 (dk_at dksX0_ledgeOf_0 7 rfl rfl)
theorem dX0_ledgeOf_8 : decode cX0_ledgeOf 8 = .ok (.getfield 10, 3) := dk_180 0 10 (dk_at dksX0_ledgeOf_0 8 rfl rfl)
theorem dX0_ledgeOf_11 : decode cX0_ledgeOf 11 = .ok (.getfield 82, 3) := dk_180 0 82 (dk_at dksX0_ledgeOf_0 11 rfl rfl)
theorem dX0_ledgeOf_14 : decode cX0_ledgeOf 14 = .ok (.iload_n 1, 1) := dk_27 (dk_at dksX0_ledgeOf_0 14 rfl rfl)
theorem dX0_ledgeOf_15 : decode cX0_ledgeOf 15 = .ok (.invokevirtual 86, 3) := dk_182 0 86 (dk_at dksX0_ledgeOf_0 15 rfl rfl)
theorem dX0_ledgeOf_18 : decode cX0_ledgeOf 18 = .ok (.checkcast 92, 3) := dk_192 0 92 (dk_at dksX0_ledgeOf_0 18 rfl rfl)
theorem dX0_ledgeOf_21 : decode cX0_ledgeOf 21 = .ok (.iload_n 2, 1) := dk_28 (dk_at dksX0_ledgeOf_0 21 rfl rfl)
theorem dX0_ledgeOf_22 : decode cX0_ledgeOf 22 = .ok (.invokevirtual 94, 3) := dk_182 0 94 (dk_at dksX0_ledgeOf_1 0 rfl rfl)
theorem dX0_ledgeOf_25 : decode cX0_ledgeOf 25 = .ok (.goto 5, 3) := dk_167 0 5 (dk_at dksX0_ledgeOf_1 3 rfl rfl)
theorem dX0_ledgeOf_28 : decode cX0_ledgeOf 28 = .ok (.bipush (-11), 2) := dk_16 245 (dk_at dksX0_ledgeOf_1 6 rfl rfl)
theorem dX0_ledgeOf_30 : decode cX0_ledgeOf 30 = .ok (.ireturn, 1) := dk_172 (dk_at dksX0_ledgeOf_1 8 rfl rfl)
abbrev cX0_isLedge : ByteArray := prog_1_method_3_code
def yX0_isLedge : MethodName := ⟨RX0, "isLedge", "(I)Z"⟩
def dkwX0_isLedge_0 : List UInt8 := [26, 3, 8, 184, 0, 48, 172]
abbrev dktX0_isLedge_0 : List UInt8 := dkwX0_isLedge_0 ++ []
theorem dksX0_isLedge_0 : cX0_isLedge.data.toList.drop 0 = dktX0_isLedge_0 := by decide +kernel
theorem dX0_isLedge_0 : decode cX0_isLedge 0 = .ok (.iload_n 0, 1) := dk_26 (dk_at dksX0_isLedge_0 0 rfl rfl)
theorem dX0_isLedge_1 : decode cX0_isLedge 1 = .ok (.iconst 0, 1) := dk_3 (dk_at dksX0_isLedge_0 1 rfl rfl)
theorem dX0_isLedge_2 : decode cX0_isLedge 2 = .ok (.iconst 5, 1) := dk_8 (dk_at dksX0_isLedge_0 2 rfl rfl)
theorem dX0_isLedge_3 : decode cX0_isLedge 3 = .ok (.invokestatic 48, 3) := dk_184 0 48 (dk_at dksX0_isLedge_0 3 rfl rfl)
theorem dX0_isLedge_6 : decode cX0_isLedge 6 = .ok (.ireturn, 1) := dk_172 (dk_at dksX0_isLedge_0 6 rfl rfl)
abbrev cX0_isIn : ByteArray := prog_1_method_2_code
def yX0_isIn : MethodName := ⟨RX0, "isIn", "(III)Z"⟩
def dkwX0_isIn_0 : List UInt8 := [26, 27, 161, 0, 12, 26, 28, 163, 0, 7, 4, 167, 0, 4, 3, 172]
abbrev dktX0_isIn_0 : List UInt8 := dkwX0_isIn_0 ++ []
theorem dksX0_isIn_0 : cX0_isIn.data.toList.drop 0 = dktX0_isIn_0 := by decide +kernel
theorem dX0_isIn_0 : decode cX0_isIn 0 = .ok (.iload_n 0, 1) := dk_26 (dk_at dksX0_isIn_0 0 rfl rfl)
theorem dX0_isIn_1 : decode cX0_isIn 1 = .ok (.iload_n 1, 1) := dk_27 (dk_at dksX0_isIn_0 1 rfl rfl)
theorem dX0_isIn_2 : decode cX0_isIn 2 = .ok (.if_icmp .lt 12, 3) := dk_161 0 12 (dk_at dksX0_isIn_0 2 rfl rfl)
theorem dX0_isIn_5 : decode cX0_isIn 5 = .ok (.iload_n 0, 1) := dk_26 (dk_at dksX0_isIn_0 5 rfl rfl)
theorem dX0_isIn_6 : decode cX0_isIn 6 = .ok (.iload_n 2, 1) := dk_28 (dk_at dksX0_isIn_0 6 rfl rfl)
theorem dX0_isIn_7 : decode cX0_isIn 7 = .ok (.if_icmp .gt 7, 3) := dk_163 0 7 (dk_at dksX0_isIn_0 7 rfl rfl)
theorem dX0_isIn_10 : decode cX0_isIn 10 = .ok (.iconst 1, 1) := dk_4 (dk_at dksX0_isIn_0 10 rfl rfl)
theorem dX0_isIn_11 : decode cX0_isIn 11 = .ok (.goto 4, 3) := dk_167 0 4 (dk_at dksX0_isIn_0 11 rfl rfl)
theorem dX0_isIn_14 : decode cX0_isIn 14 = .ok (.iconst 0, 1) := dk_3 (dk_at dksX0_isIn_0 14 rfl rfl)
theorem dX0_isIn_15 : decode cX0_isIn 15 = .ok (.ireturn, 1) := dk_172 (dk_at dksX0_isIn_0 15 rfl rfl)
abbrev cX0_depth : ByteArray := prog_1_method_9_code
def yX0_depth : MethodName := ⟨RX0, "depth", "(II)I"⟩
def dkwX0_depth_1 : List UInt8 := [182, 0, 86, 192, 0, 92, 28, 182, 0, 101, 167, 0, 5, 16, 245, 172]
abbrev dktX0_depth_1 : List UInt8 := dkwX0_depth_1 ++ []
def dkwX0_depth_0 : List UInt8 := [27, 184, 0, 78, 153, 0, 31, 28, 184, 0, 98, 153, 0, 24, 42, 180, 0, 10, 180, 0, 82, 27]
abbrev dktX0_depth_0 : List UInt8 := dkwX0_depth_0 ++ dktX0_depth_1
theorem dksX0_depth_0 : cX0_depth.data.toList.drop 0 = dktX0_depth_0 := by decide +kernel
theorem dksX0_depth_1 : cX0_depth.data.toList.drop 22 = dktX0_depth_1 := dk_seg dksX0_depth_0 22 rfl rfl
theorem dX0_depth_0 : decode cX0_depth 0 = .ok (.iload_n 1, 1) := dk_27 (dk_at dksX0_depth_0 0 rfl rfl)
theorem dX0_depth_1 : decode cX0_depth 1 = .ok (.invokestatic 78, 3) := dk_184 0 78 (dk_at dksX0_depth_0 1 rfl rfl)
theorem dX0_depth_4 : decode cX0_depth 4 = .ok (.ifCond .eq 31, 3) := dk_153 0 31 (dk_at dksX0_depth_0 4 rfl rfl)
theorem dX0_depth_7 : decode cX0_depth 7 = .ok (.iload_n 2, 1) := dk_28 (dk_at dksX0_depth_0 7 rfl rfl)
theorem dX0_depth_8 : decode cX0_depth 8 = .ok (.invokestatic 98, 3) := dk_184 0 98 (dk_at dksX0_depth_0 8 rfl rfl)
theorem dX0_depth_11 : decode cX0_depth 11 = .ok (.ifCond .eq 24, 3) := dk_153 0 24 (dk_at dksX0_depth_0 11 rfl rfl)
theorem dX0_depth_14 : decode cX0_depth 14 = .ok (.aload_n 0, 1) := dk_42 (dk_at dksX0_depth_0 14 rfl rfl)
theorem dX0_depth_15 : decode cX0_depth 15 = .ok (.getfield 10, 3) := dk_180 0 10 (dk_at dksX0_depth_0 15 rfl rfl)
theorem dX0_depth_18 : decode cX0_depth 18 = .ok (.getfield 82, 3) := dk_180 0 82 (dk_at dksX0_depth_0 18 rfl rfl)
theorem dX0_depth_21 : decode cX0_depth 21 = .ok (.iload_n 1, 1) := dk_27 (dk_at dksX0_depth_0 21 rfl rfl)
theorem dX0_depth_22 : decode cX0_depth 22 = .ok (.invokevirtual 86, 3) := dk_182 0 86 (dk_at dksX0_depth_1 0 rfl rfl)
theorem dX0_depth_25 : decode cX0_depth 25 = .ok (.checkcast 92, 3) := dk_192 0 92 (dk_at dksX0_depth_1 3 rfl rfl)
theorem dX0_depth_28 : decode cX0_depth 28 = .ok (.iload_n 2, 1) := dk_28 (dk_at dksX0_depth_1 6 rfl rfl)
theorem dX0_depth_29 : decode cX0_depth 29 = .ok (.invokevirtual 101, 3) := dk_182 0 101 (dk_at dksX0_depth_1 7 rfl rfl)
theorem dX0_depth_32 : decode cX0_depth 32 = .ok (.goto 5, 3) := dk_167 0 5 (dk_at dksX0_depth_1 10 rfl rfl)
theorem dX0_depth_35 : decode cX0_depth 35 = .ok (.bipush (-11), 2) := dk_16 245 (dk_at dksX0_depth_1 13 rfl rfl)
theorem dX0_depth_37 : decode cX0_depth 37 = .ok (.ireturn, 1) := dk_172 (dk_at dksX0_depth_1 15 rfl rfl)
abbrev cX0_isPoint : ByteArray := prog_1_method_4_code
def yX0_isPoint : MethodName := ⟨RX0, "isPoint", "(I)Z"⟩
def dkwX0_isPoint_0 : List UInt8 := [26, 3, 16, 9, 184, 0, 48, 172]
abbrev dktX0_isPoint_0 : List UInt8 := dkwX0_isPoint_0 ++ []
theorem dksX0_isPoint_0 : cX0_isPoint.data.toList.drop 0 = dktX0_isPoint_0 := by decide +kernel
theorem dX0_isPoint_0 : decode cX0_isPoint 0 = .ok (.iload_n 0, 1) := dk_26 (dk_at dksX0_isPoint_0 0 rfl rfl)
theorem dX0_isPoint_1 : decode cX0_isPoint 1 = .ok (.iconst 0, 1) := dk_3 (dk_at dksX0_isPoint_0 1 rfl rfl)
theorem dX0_isPoint_2 : decode cX0_isPoint 2 = .ok (.bipush 9, 2) := dk_16 9 (dk_at dksX0_isPoint_0 2 rfl rfl)
theorem dX0_isPoint_4 : decode cX0_isPoint 4 = .ok (.invokestatic 48, 3) := dk_184 0 48 (dk_at dksX0_isPoint_0 4 rfl rfl)
theorem dX0_isPoint_7 : decode cX0_isPoint 7 = .ok (.ireturn, 1) := dk_172 (dk_at dksX0_isPoint_0 7 rfl rfl)
abbrev cX0_sacks : ByteArray := prog_1_method_10_code
def yX0_sacks : MethodName := ⟨RX0, "sacks", "(I)I"⟩
def dkwX0_sacks_1 : List UInt8 := [180, 0, 10, 27, 182, 0, 108, 182, 0, 111, 172, 78, 42, 45, 182, 0, 115, 172]
abbrev dktX0_sacks_1 : List UInt8 := dkwX0_sacks_1 ++ []
def dkwX0_sacks_0 : List UInt8 := [27, 4, 16, 20, 184, 0, 48, 154, 0, 6, 16, 244, 172, 42, 180, 0, 10, 182, 0, 104, 77, 42, 44, 42]
abbrev dktX0_sacks_0 : List UInt8 := dkwX0_sacks_0 ++ dktX0_sacks_1
theorem dksX0_sacks_0 : cX0_sacks.data.toList.drop 0 = dktX0_sacks_0 := by decide +kernel
theorem dksX0_sacks_1 : cX0_sacks.data.toList.drop 24 = dktX0_sacks_1 := dk_seg dksX0_sacks_0 24 rfl rfl
theorem dX0_sacks_0 : decode cX0_sacks 0 = .ok (.iload_n 1, 1) := dk_27 (dk_at dksX0_sacks_0 0 rfl rfl)
theorem dX0_sacks_1 : decode cX0_sacks 1 = .ok (.iconst 1, 1) := dk_4 (dk_at dksX0_sacks_0 1 rfl rfl)
theorem dX0_sacks_2 : decode cX0_sacks 2 = .ok (.bipush 20, 2) := dk_16 20 (dk_at dksX0_sacks_0 2 rfl rfl)
theorem dX0_sacks_4 : decode cX0_sacks 4 = .ok (.invokestatic 48, 3) := dk_184 0 48 (dk_at dksX0_sacks_0 4 rfl rfl)
theorem dX0_sacks_7 : decode cX0_sacks 7 = .ok (.ifCond .ne 6, 3) := dk_154 0 6 (dk_at dksX0_sacks_0 7 rfl rfl)
theorem dX0_sacks_10 : decode cX0_sacks 10 = .ok (.bipush (-12), 2) := dk_16 244 (dk_at dksX0_sacks_0 10 rfl rfl)
theorem dX0_sacks_12 : decode cX0_sacks 12 = .ok (.ireturn, 1) := dk_172 (dk_at dksX0_sacks_0 12 rfl rfl)
theorem dX0_sacks_13 : decode cX0_sacks 13 = .ok (.aload_n 0, 1) := dk_42 (dk_at dksX0_sacks_0 13 rfl rfl)
theorem dX0_sacks_14 : decode cX0_sacks 14 = .ok (.getfield 10, 3) := dk_180 0 10 (dk_at dksX0_sacks_0 14 rfl rfl)
theorem dX0_sacks_17 : decode cX0_sacks 17 = .ok (.invokevirtual 104, 3) := dk_182 0 104 (dk_at dksX0_sacks_0 17 rfl rfl)
theorem dX0_sacks_20 : decode cX0_sacks 20 = .ok (.astore_n 2, 1) := dk_77 (dk_at dksX0_sacks_0 20 rfl rfl)
theorem dX0_sacks_21 : decode cX0_sacks 21 = .ok (.aload_n 0, 1) := dk_42 (dk_at dksX0_sacks_0 21 rfl rfl)
theorem dX0_sacks_22 : decode cX0_sacks 22 = .ok (.aload_n 2, 1) := dk_44 (dk_at dksX0_sacks_0 22 rfl rfl)
theorem dX0_sacks_23 : decode cX0_sacks 23 = .ok (.aload_n 0, 1) := dk_42 (dk_at dksX0_sacks_0 23 rfl rfl)
theorem dX0_sacks_24 : decode cX0_sacks 24 = .ok (.getfield 10, 3) := dk_180 0 10 (dk_at dksX0_sacks_1 0 rfl rfl)
theorem dX0_sacks_27 : decode cX0_sacks 27 = .ok (.iload_n 1, 1) := dk_27 (dk_at dksX0_sacks_1 3 rfl rfl)
theorem dX0_sacks_28 : decode cX0_sacks 28 = .ok (.invokevirtual 108, 3) := dk_182 0 108 (dk_at dksX0_sacks_1 4 rfl rfl)
theorem dX0_sacks_31 : decode cX0_sacks 31 = .ok (.invokevirtual 111, 3) := dk_182 0 111 (dk_at dksX0_sacks_1 7 rfl rfl)
theorem dX0_sacks_34 : decode cX0_sacks 34 = .ok (.ireturn, 1) := dk_172 (dk_at dksX0_sacks_1 10 rfl rfl)
theorem dX0_sacks_35 : decode cX0_sacks 35 = .ok (.astore_n 3, 1) := dk_78 (dk_at dksX0_sacks_1 11 rfl rfl)
theorem dX0_sacks_36 : decode cX0_sacks 36 = .ok (.aload_n 0, 1) := dk_42 (dk_at dksX0_sacks_1 12 rfl rfl)
theorem dX0_sacks_37 : decode cX0_sacks 37 = .ok (.aload_n 3, 1) := dk_45 (dk_at dksX0_sacks_1 13 rfl rfl)
theorem dX0_sacks_38 : decode cX0_sacks 38 = .ok (.invokevirtual 115, 3) := dk_182 0 115 (dk_at dksX0_sacks_1 14 rfl rfl)
theorem dX0_sacks_41 : decode cX0_sacks 41 = .ok (.ireturn, 1) := dk_172 (dk_at dksX0_sacks_1 17 rfl rfl)
abbrev cX0_refuse : ByteArray := prog_1_method_5_code
def yX0_refuse : MethodName := ⟨RX0, "refuse", "(ZII)V"⟩
def dkwX0_refuse_0 : List UInt8 := [26, 153, 0, 13, 187, 0, 52, 89, 27, 28, 183, 0, 54, 191, 177]
abbrev dktX0_refuse_0 : List UInt8 := dkwX0_refuse_0 ++ []
theorem dksX0_refuse_0 : cX0_refuse.data.toList.drop 0 = dktX0_refuse_0 := by decide +kernel
theorem dX0_refuse_0 : decode cX0_refuse 0 = .ok (.iload_n 0, 1) := dk_26 (dk_at dksX0_refuse_0 0 rfl rfl)
theorem dX0_refuse_1 : decode cX0_refuse 1 = .ok (.ifCond .eq 13, 3) := dk_153 0 13 (dk_at dksX0_refuse_0 1 rfl rfl)
theorem dX0_refuse_4 : decode cX0_refuse 4 = .ok (.new 52, 3) := dk_187 0 52 (dk_at dksX0_refuse_0 4 rfl rfl)
theorem dX0_refuse_7 : decode cX0_refuse 7 = .ok (.dup, 1) := dk_89 (dk_at dksX0_refuse_0 7 rfl rfl)
theorem dX0_refuse_8 : decode cX0_refuse 8 = .ok (.iload_n 1, 1) := dk_27 (dk_at dksX0_refuse_0 8 rfl rfl)
theorem dX0_refuse_9 : decode cX0_refuse 9 = .ok (.iload_n 2, 1) := dk_28 (dk_at dksX0_refuse_0 9 rfl rfl)
theorem dX0_refuse_10 : decode cX0_refuse 10 = .ok (.invokespecial 54, 3) := dk_183 0 54 (dk_at dksX0_refuse_0 10 rfl rfl)
theorem dX0_refuse_13 : decode cX0_refuse 13 = .ok (.athrow, 1) := dk_191 (dk_at dksX0_refuse_0 13 rfl rfl)
theorem dX0_refuse_14 : decode cX0_refuse 14 = .ok (.return_, 1) := dk_177 (dk_at dksX0_refuse_0 14 rfl rfl)
abbrev cX0_changed : ByteArray := prog_1_method_7_code
def yX0_changed : MethodName := ⟨RX0, "changed", "(LGargoyleCopyists$Church;I)I"⟩
def dkwX0_changed_1 : List UInt8 := [182, 0, 74, 87, 28, 172]
abbrev dktX0_changed_1 : List UInt8 := dkwX0_changed_1 ++ []
def dkwX0_changed_0 : List UInt8 := [42, 180, 0, 19, 43, 182, 0, 66, 42, 180, 0, 19, 182, 0, 70, 16, 8, 164, 0, 11, 42, 180, 0, 19]
abbrev dktX0_changed_0 : List UInt8 := dkwX0_changed_0 ++ dktX0_changed_1
theorem dksX0_changed_0 : cX0_changed.data.toList.drop 0 = dktX0_changed_0 := by decide +kernel
theorem dksX0_changed_1 : cX0_changed.data.toList.drop 24 = dktX0_changed_1 := dk_seg dksX0_changed_0 24 rfl rfl
theorem dX0_changed_0 : decode cX0_changed 0 = .ok (.aload_n 0, 1) := dk_42 (dk_at dksX0_changed_0 0 rfl rfl)
theorem dX0_changed_1 : decode cX0_changed 1 = .ok (.getfield 19, 3) := dk_180 0 19 (dk_at dksX0_changed_0 1 rfl rfl)
theorem dX0_changed_4 : decode cX0_changed 4 = .ok (.aload_n 1, 1) := dk_43 (dk_at dksX0_changed_0 4 rfl rfl)
theorem dX0_changed_5 : decode cX0_changed 5 = .ok (.invokevirtual 66, 3) := dk_182 0 66 (dk_at dksX0_changed_0 5 rfl rfl)
theorem dX0_changed_8 : decode cX0_changed 8 = .ok (.aload_n 0, 1) := dk_42 (dk_at dksX0_changed_0 8 rfl rfl)
theorem dX0_changed_9 : decode cX0_changed 9 = .ok (.getfield 19, 3) := dk_180 0 19 (dk_at dksX0_changed_0 9 rfl rfl)
theorem dX0_changed_12 : decode cX0_changed 12 = .ok (.invokevirtual 70, 3) := dk_182 0 70 (dk_at dksX0_changed_0 12 rfl rfl)
theorem dX0_changed_15 : decode cX0_changed 15 = .ok (.bipush 8, 2) := dk_16 8 (dk_at dksX0_changed_0 15 rfl rfl)
theorem dX0_changed_17 : decode cX0_changed 17 = .ok (.if_icmp .le 11, 3) := dk_164 0 11 (dk_at dksX0_changed_0 17 rfl rfl)
theorem dX0_changed_20 : decode cX0_changed 20 = .ok (.aload_n 0, 1) := dk_42 (dk_at dksX0_changed_0 20 rfl rfl)
theorem dX0_changed_21 : decode cX0_changed 21 = .ok (.getfield 19, 3) := dk_180 0 19 (dk_at dksX0_changed_0 21 rfl rfl)
theorem dX0_changed_24 : decode cX0_changed 24 = .ok (.invokevirtual 74, 3) := dk_182 0 74 (dk_at dksX0_changed_1 0 rfl rfl)
theorem dX0_changed_27 : decode cX0_changed 27 = .ok (.pop, 1) := dk_87 (dk_at dksX0_changed_1 3 rfl rfl)
theorem dX0_changed_28 : decode cX0_changed 28 = .ok (.iload_n 2, 1) := dk_28 (dk_at dksX0_changed_1 4 rfl rfl)
theorem dX0_changed_29 : decode cX0_changed 29 = .ok (.ireturn, 1) := dk_172 (dk_at dksX0_changed_1 5 rfl rfl)
abbrev cX0_refused : ByteArray := prog_1_method_6_code
def yX0_refused : MethodName := ⟨RX0, "refused", "(LGargoyleCopyists$Refused;)I"⟩
def dkwX0_refused_0 : List UInt8 := [42, 43, 180, 0, 57, 181, 0, 61, 42, 43, 180, 0, 62, 181, 0, 65, 16, 242, 172]
abbrev dktX0_refused_0 : List UInt8 := dkwX0_refused_0 ++ []
theorem dksX0_refused_0 : cX0_refused.data.toList.drop 0 = dktX0_refused_0 := by decide +kernel
theorem dX0_refused_0 : decode cX0_refused 0 = .ok (.aload_n 0, 1) := dk_42 (dk_at dksX0_refused_0 0 rfl rfl)
theorem dX0_refused_1 : decode cX0_refused 1 = .ok (.aload_n 1, 1) := dk_43 (dk_at dksX0_refused_0 1 rfl rfl)
theorem dX0_refused_2 : decode cX0_refused 2 = .ok (.getfield 57, 3) := dk_180 0 57 (dk_at dksX0_refused_0 2 rfl rfl)
theorem dX0_refused_5 : decode cX0_refused 5 = .ok (.putfield 61, 3) := dk_181 0 61 (dk_at dksX0_refused_0 5 rfl rfl)
theorem dX0_refused_8 : decode cX0_refused 8 = .ok (.aload_n 0, 1) := dk_42 (dk_at dksX0_refused_0 8 rfl rfl)
theorem dX0_refused_9 : decode cX0_refused 9 = .ok (.aload_n 1, 1) := dk_43 (dk_at dksX0_refused_0 9 rfl rfl)
theorem dX0_refused_10 : decode cX0_refused 10 = .ok (.getfield 62, 3) := dk_180 0 62 (dk_at dksX0_refused_0 10 rfl rfl)
theorem dX0_refused_13 : decode cX0_refused 13 = .ok (.putfield 65, 3) := dk_181 0 65 (dk_at dksX0_refused_0 13 rfl rfl)
theorem dX0_refused_16 : decode cX0_refused 16 = .ok (.bipush (-14), 2) := dk_16 242 (dk_at dksX0_refused_0 16 rfl rfl)
theorem dX0_refused_18 : decode cX0_refused 18 = .ok (.ireturn, 1) := dk_172 (dk_at dksX0_refused_0 18 rfl rfl)
abbrev cX0_cast : ByteArray := prog_1_method_11_code
def yX0_cast : MethodName := ⟨RX0, "cast", "(I)I"⟩
def dkwX0_cast_1 : List UInt8 := [27, 182, 0, 119, 182, 0, 111, 172, 78, 42, 45, 182, 0, 115, 172]
abbrev dktX0_cast_1 : List UInt8 := dkwX0_cast_1 ++ []
def dkwX0_cast_0 : List UInt8 := [27, 184, 0, 78, 154, 0, 6, 16, 245, 172, 42, 180, 0, 10, 182, 0, 104, 77, 42, 44, 42, 180, 0, 10]
abbrev dktX0_cast_0 : List UInt8 := dkwX0_cast_0 ++ dktX0_cast_1
theorem dksX0_cast_0 : cX0_cast.data.toList.drop 0 = dktX0_cast_0 := by decide +kernel
theorem dksX0_cast_1 : cX0_cast.data.toList.drop 24 = dktX0_cast_1 := dk_seg dksX0_cast_0 24 rfl rfl
theorem dX0_cast_0 : decode cX0_cast 0 = .ok (.iload_n 1, 1) := dk_27 (dk_at dksX0_cast_0 0 rfl rfl)
theorem dX0_cast_1 : decode cX0_cast 1 = .ok (.invokestatic 78, 3) := dk_184 0 78 (dk_at dksX0_cast_0 1 rfl rfl)
theorem dX0_cast_4 : decode cX0_cast 4 = .ok (.ifCond .ne 6, 3) := dk_154 0 6 (dk_at dksX0_cast_0 4 rfl rfl)
theorem dX0_cast_7 : decode cX0_cast 7 = .ok (.bipush (-11), 2) := dk_16 245 (dk_at dksX0_cast_0 7 rfl rfl)
theorem dX0_cast_9 : decode cX0_cast 9 = .ok (.ireturn, 1) := dk_172 (dk_at dksX0_cast_0 9 rfl rfl)
theorem dX0_cast_10 : decode cX0_cast 10 = .ok (.aload_n 0, 1) := dk_42 (dk_at dksX0_cast_0 10 rfl rfl)
theorem dX0_cast_11 : decode cX0_cast 11 = .ok (.getfield 10, 3) := dk_180 0 10 (dk_at dksX0_cast_0 11 rfl rfl)
theorem dX0_cast_14 : decode cX0_cast 14 = .ok (.invokevirtual 104, 3) := dk_182 0 104 (dk_at dksX0_cast_0 14 rfl rfl)
theorem dX0_cast_17 : decode cX0_cast 17 = .ok (.astore_n 2, 1) := dk_77 (dk_at dksX0_cast_0 17 rfl rfl)
theorem dX0_cast_18 : decode cX0_cast 18 = .ok (.aload_n 0, 1) := dk_42 (dk_at dksX0_cast_0 18 rfl rfl)
theorem dX0_cast_19 : decode cX0_cast 19 = .ok (.aload_n 2, 1) := dk_44 (dk_at dksX0_cast_0 19 rfl rfl)
theorem dX0_cast_20 : decode cX0_cast 20 = .ok (.aload_n 0, 1) := dk_42 (dk_at dksX0_cast_0 20 rfl rfl)
theorem dX0_cast_21 : decode cX0_cast 21 = .ok (.getfield 10, 3) := dk_180 0 10 (dk_at dksX0_cast_0 21 rfl rfl)
theorem dX0_cast_24 : decode cX0_cast 24 = .ok (.iload_n 1, 1) := dk_27 (dk_at dksX0_cast_1 0 rfl rfl)
theorem dX0_cast_25 : decode cX0_cast 25 = .ok (.invokevirtual 119, 3) := dk_182 0 119 (dk_at dksX0_cast_1 1 rfl rfl)
theorem dX0_cast_28 : decode cX0_cast 28 = .ok (.invokevirtual 111, 3) := dk_182 0 111 (dk_at dksX0_cast_1 4 rfl rfl)
theorem dX0_cast_31 : decode cX0_cast 31 = .ok (.ireturn, 1) := dk_172 (dk_at dksX0_cast_1 7 rfl rfl)
theorem dX0_cast_32 : decode cX0_cast 32 = .ok (.astore_n 3, 1) := dk_78 (dk_at dksX0_cast_1 8 rfl rfl)
theorem dX0_cast_33 : decode cX0_cast 33 = .ok (.aload_n 0, 1) := dk_42 (dk_at dksX0_cast_1 9 rfl rfl)
theorem dX0_cast_34 : decode cX0_cast 34 = .ok (.aload_n 3, 1) := dk_45 (dk_at dksX0_cast_1 10 rfl rfl)
theorem dX0_cast_35 : decode cX0_cast 35 = .ok (.invokevirtual 115, 3) := dk_182 0 115 (dk_at dksX0_cast_1 11 rfl rfl)
theorem dX0_cast_38 : decode cX0_cast 38 = .ok (.ireturn, 1) := dk_172 (dk_at dksX0_cast_1 14 rfl rfl)
abbrev cX0_castOf : ByteArray := prog_1_method_12_code
def yX0_castOf : MethodName := ⟨RX0, "castOf", "(II)I"⟩
def dkwX0_castOf_1 : List UInt8 := [182, 0, 86, 192, 0, 128, 28, 182, 0, 130, 167, 0, 5, 16, 245, 172]
abbrev dktX0_castOf_1 : List UInt8 := dkwX0_castOf_1 ++ []
def dkwX0_castOf_0 : List UInt8 := [42, 180, 0, 10, 180, 0, 122, 27, 182, 0, 125, 153, 0, 24, 42, 180, 0, 10, 180, 0, 122, 27]
abbrev dktX0_castOf_0 : List UInt8 := dkwX0_castOf_0 ++ dktX0_castOf_1
theorem dksX0_castOf_0 : cX0_castOf.data.toList.drop 0 = dktX0_castOf_0 := by decide +kernel
theorem dksX0_castOf_1 : cX0_castOf.data.toList.drop 22 = dktX0_castOf_1 := dk_seg dksX0_castOf_0 22 rfl rfl
theorem dX0_castOf_0 : decode cX0_castOf 0 = .ok (.aload_n 0, 1) := dk_42 (dk_at dksX0_castOf_0 0 rfl rfl)
theorem dX0_castOf_1 : decode cX0_castOf 1 = .ok (.getfield 10, 3) := dk_180 0 10 (dk_at dksX0_castOf_0 1 rfl rfl)
theorem dX0_castOf_4 : decode cX0_castOf 4 = .ok (.getfield 122, 3) := dk_180 0 122 (dk_at dksX0_castOf_0 4 rfl rfl)
theorem dX0_castOf_7 : decode cX0_castOf 7 = .ok (.iload_n 1, 1) := dk_27 (dk_at dksX0_castOf_0 7 rfl rfl)
theorem dX0_castOf_8 : decode cX0_castOf 8 = .ok (.invokevirtual 125, 3) := dk_182 0 125 (dk_at dksX0_castOf_0 8 rfl rfl)
theorem dX0_castOf_11 : decode cX0_castOf 11 = .ok (.ifCond .eq 24, 3) := dk_153 0 24 (dk_at dksX0_castOf_0 11 rfl rfl)
theorem dX0_castOf_14 : decode cX0_castOf 14 = .ok (.aload_n 0, 1) := dk_42 (dk_at dksX0_castOf_0 14 rfl rfl)
theorem dX0_castOf_15 : decode cX0_castOf 15 = .ok (.getfield 10, 3) := dk_180 0 10 (dk_at dksX0_castOf_0 15 rfl rfl)
theorem dX0_castOf_18 : decode cX0_castOf 18 = .ok (.getfield 122, 3) := dk_180 0 122 (dk_at dksX0_castOf_0 18 rfl rfl)
theorem dX0_castOf_21 : decode cX0_castOf 21 = .ok (.iload_n 1, 1) := dk_27 (dk_at dksX0_castOf_0 21 rfl rfl)
theorem dX0_castOf_22 : decode cX0_castOf 22 = .ok (.invokevirtual 86, 3) := dk_182 0 86 (dk_at dksX0_castOf_1 0 rfl rfl)
theorem dX0_castOf_25 : decode cX0_castOf 25 = .ok (.checkcast 128, 3) := dk_192 0 128 (dk_at dksX0_castOf_1 3 rfl rfl)
theorem dX0_castOf_28 : decode cX0_castOf 28 = .ok (.iload_n 2, 1) := dk_28 (dk_at dksX0_castOf_1 6 rfl rfl)
theorem dX0_castOf_29 : decode cX0_castOf 29 = .ok (.invokevirtual 130, 3) := dk_182 0 130 (dk_at dksX0_castOf_1 7 rfl rfl)
theorem dX0_castOf_32 : decode cX0_castOf 32 = .ok (.goto 5, 3) := dk_167 0 5 (dk_at dksX0_castOf_1 10 rfl rfl)
theorem dX0_castOf_35 : decode cX0_castOf 35 = .ok (.bipush (-11), 2) := dk_16 245 (dk_at dksX0_castOf_1 13 rfl rfl)
theorem dX0_castOf_37 : decode cX0_castOf 37 = .ok (.ireturn, 1) := dk_172 (dk_at dksX0_castOf_1 15 rfl rfl)
abbrev cX0_castDepth : ByteArray := prog_1_method_13_code
def yX0_castDepth : MethodName := ⟨RX0, "castDepth", "(II)I"⟩
def dkwX0_castDepth_1 : List UInt8 := [180, 0, 10, 180, 0, 122, 27, 182, 0, 86, 192, 0, 128, 28, 182, 0, 131, 167, 0, 5, 16, 245, 172]
abbrev dktX0_castDepth_1 : List UInt8 := dkwX0_castDepth_1 ++ []
def dkwX0_castDepth_0 : List UInt8 := [42, 180, 0, 10, 180, 0, 122, 27, 182, 0, 125, 153, 0, 31, 28, 184, 0, 98, 153, 0, 24, 42]
abbrev dktX0_castDepth_0 : List UInt8 := dkwX0_castDepth_0 ++ dktX0_castDepth_1
theorem dksX0_castDepth_0 : cX0_castDepth.data.toList.drop 0 = dktX0_castDepth_0 := by decide +kernel
theorem dksX0_castDepth_1 : cX0_castDepth.data.toList.drop 22 = dktX0_castDepth_1 := dk_seg dksX0_castDepth_0 22 rfl rfl
theorem dX0_castDepth_0 : decode cX0_castDepth 0 = .ok (.aload_n 0, 1) := dk_42 (dk_at dksX0_castDepth_0 0 rfl rfl)
theorem dX0_castDepth_1 : decode cX0_castDepth 1 = .ok (.getfield 10, 3) := dk_180 0 10 (dk_at dksX0_castDepth_0 1 rfl rfl)
theorem dX0_castDepth_4 : decode cX0_castDepth 4 = .ok (.getfield 122, 3) := dk_180 0 122 (dk_at dksX0_castDepth_0 4 rfl rfl)
theorem dX0_castDepth_7 : decode cX0_castDepth 7 = .ok (.iload_n 1, 1) := dk_27 (dk_at dksX0_castDepth_0 7 rfl rfl)
theorem dX0_castDepth_8 : decode cX0_castDepth 8 = .ok (.invokevirtual 125, 3) := dk_182 0 125 (dk_at dksX0_castDepth_0 8 rfl rfl)
theorem dX0_castDepth_11 : decode cX0_castDepth 11 = .ok (.ifCond .eq 31, 3) := dk_153 0 31 (dk_at dksX0_castDepth_0 11 rfl rfl)
theorem dX0_castDepth_14 : decode cX0_castDepth 14 = .ok (.iload_n 2, 1) := dk_28 (dk_at dksX0_castDepth_0 14 rfl rfl)
theorem dX0_castDepth_15 : decode cX0_castDepth 15 = .ok (.invokestatic 98, 3) := dk_184 0 98 (dk_at dksX0_castDepth_0 15 rfl rfl)
theorem dX0_castDepth_18 : decode cX0_castDepth 18 = .ok (.ifCond .eq 24, 3) := dk_153 0 24 (dk_at dksX0_castDepth_0 18 rfl rfl)
theorem dX0_castDepth_21 : decode cX0_castDepth 21 = .ok (.aload_n 0, 1) := dk_42 (dk_at dksX0_castDepth_0 21 rfl rfl)
theorem dX0_castDepth_22 : decode cX0_castDepth 22 = .ok (.getfield 10, 3) := dk_180 0 10 (dk_at dksX0_castDepth_1 0 rfl rfl)
theorem dX0_castDepth_25 : decode cX0_castDepth 25 = .ok (.getfield 122, 3) := dk_180 0 122 (dk_at dksX0_castDepth_1 3 rfl rfl)
theorem dX0_castDepth_28 : decode cX0_castDepth 28 = .ok (.iload_n 1, 1) := dk_27 (dk_at dksX0_castDepth_1 6 rfl rfl)
theorem dX0_castDepth_29 : decode cX0_castDepth 29 = .ok (.invokevirtual 86, 3) := dk_182 0 86 (dk_at dksX0_castDepth_1 7 rfl rfl)
theorem dX0_castDepth_32 : decode cX0_castDepth 32 = .ok (.checkcast 128, 3) := dk_192 0 128 (dk_at dksX0_castDepth_1 10 rfl rfl)
theorem dX0_castDepth_35 : decode cX0_castDepth 35 = .ok (.iload_n 2, 1) := dk_28 (dk_at dksX0_castDepth_1 13 rfl rfl)
theorem dX0_castDepth_36 : decode cX0_castDepth 36 = .ok (.invokevirtual 131, 3) := dk_182 0 131 (dk_at dksX0_castDepth_1 14 rfl rfl)
theorem dX0_castDepth_39 : decode cX0_castDepth 39 = .ok (.goto 5, 3) := dk_167 0 5 (dk_at dksX0_castDepth_1 17 rfl rfl)
theorem dX0_castDepth_42 : decode cX0_castDepth 42 = .ok (.bipush (-11), 2) := dk_16 245 (dk_at dksX0_castDepth_1 20 rfl rfl)
theorem dX0_castDepth_44 : decode cX0_castDepth 44 = .ok (.ireturn, 1) := dk_172 (dk_at dksX0_castDepth_1 22 rfl rfl)
abbrev cX0_copyist : ByteArray := prog_1_method_14_code
def yX0_copyist : MethodName := ⟨RX0, "copyist", "(I)I"⟩
def dkwX0_copyist_1 : List UInt8 := [180, 0, 10, 27, 182, 0, 132, 182, 0, 111, 172, 78, 42, 45, 182, 0, 115, 172]
abbrev dktX0_copyist_1 : List UInt8 := dkwX0_copyist_1 ++ []
def dkwX0_copyist_0 : List UInt8 := [27, 3, 5, 184, 0, 48, 154, 0, 6, 16, 244, 172, 42, 180, 0, 10, 182, 0, 104, 77, 42, 44, 42]
abbrev dktX0_copyist_0 : List UInt8 := dkwX0_copyist_0 ++ dktX0_copyist_1
theorem dksX0_copyist_0 : cX0_copyist.data.toList.drop 0 = dktX0_copyist_0 := by decide +kernel
theorem dksX0_copyist_1 : cX0_copyist.data.toList.drop 23 = dktX0_copyist_1 := dk_seg dksX0_copyist_0 23 rfl rfl
theorem dX0_copyist_0 : decode cX0_copyist 0 = .ok (.iload_n 1, 1) := dk_27 (dk_at dksX0_copyist_0 0 rfl rfl)
theorem dX0_copyist_1 : decode cX0_copyist 1 = .ok (.iconst 0, 1) := dk_3 (dk_at dksX0_copyist_0 1 rfl rfl)
theorem dX0_copyist_2 : decode cX0_copyist 2 = .ok (.iconst 2, 1) := dk_5 (dk_at dksX0_copyist_0 2 rfl rfl)
theorem dX0_copyist_3 : decode cX0_copyist 3 = .ok (.invokestatic 48, 3) := dk_184 0 48 (dk_at dksX0_copyist_0 3 rfl rfl)
theorem dX0_copyist_6 : decode cX0_copyist 6 = .ok (.ifCond .ne 6, 3) := dk_154 0 6 (dk_at dksX0_copyist_0 6 rfl rfl)
theorem dX0_copyist_9 : decode cX0_copyist 9 = .ok (.bipush (-12), 2) := dk_16 244 (dk_at dksX0_copyist_0 9 rfl rfl)
theorem dX0_copyist_11 : decode cX0_copyist 11 = .ok (.ireturn, 1) := dk_172 (dk_at dksX0_copyist_0 11 rfl rfl)
theorem dX0_copyist_12 : decode cX0_copyist 12 = .ok (.aload_n 0, 1) := dk_42 (dk_at dksX0_copyist_0 12 rfl rfl)
theorem dX0_copyist_13 : decode cX0_copyist 13 = .ok (.getfield 10, 3) := dk_180 0 10 (dk_at dksX0_copyist_0 13 rfl rfl)
theorem dX0_copyist_16 : decode cX0_copyist 16 = .ok (.invokevirtual 104, 3) := dk_182 0 104 (dk_at dksX0_copyist_0 16 rfl rfl)
theorem dX0_copyist_19 : decode cX0_copyist 19 = .ok (.astore_n 2, 1) := dk_77 (dk_at dksX0_copyist_0 19 rfl rfl)
theorem dX0_copyist_20 : decode cX0_copyist 20 = .ok (.aload_n 0, 1) := dk_42 (dk_at dksX0_copyist_0 20 rfl rfl)
theorem dX0_copyist_21 : decode cX0_copyist 21 = .ok (.aload_n 2, 1) := dk_44 (dk_at dksX0_copyist_0 21 rfl rfl)
theorem dX0_copyist_22 : decode cX0_copyist 22 = .ok (.aload_n 0, 1) := dk_42 (dk_at dksX0_copyist_0 22 rfl rfl)
theorem dX0_copyist_23 : decode cX0_copyist 23 = .ok (.getfield 10, 3) := dk_180 0 10 (dk_at dksX0_copyist_1 0 rfl rfl)
theorem dX0_copyist_26 : decode cX0_copyist 26 = .ok (.iload_n 1, 1) := dk_27 (dk_at dksX0_copyist_1 3 rfl rfl)
theorem dX0_copyist_27 : decode cX0_copyist 27 = .ok (.invokevirtual 132, 3) := dk_182 0 132 (dk_at dksX0_copyist_1 4 rfl rfl)
theorem dX0_copyist_30 : decode cX0_copyist 30 = .ok (.invokevirtual 111, 3) := dk_182 0 111 (dk_at dksX0_copyist_1 7 rfl rfl)
theorem dX0_copyist_33 : decode cX0_copyist 33 = .ok (.ireturn, 1) := dk_172 (dk_at dksX0_copyist_1 10 rfl rfl)
theorem dX0_copyist_34 : decode cX0_copyist 34 = .ok (.astore_n 3, 1) := dk_78 (dk_at dksX0_copyist_1 11 rfl rfl)
theorem dX0_copyist_35 : decode cX0_copyist 35 = .ok (.aload_n 0, 1) := dk_42 (dk_at dksX0_copyist_1 12 rfl rfl)
theorem dX0_copyist_36 : decode cX0_copyist 36 = .ok (.aload_n 3, 1) := dk_45 (dk_at dksX0_copyist_1 13 rfl rfl)
theorem dX0_copyist_37 : decode cX0_copyist 37 = .ok (.invokevirtual 115, 3) := dk_182 0 115 (dk_at dksX0_copyist_1 14 rfl rfl)
theorem dX0_copyist_40 : decode cX0_copyist 40 = .ok (.ireturn, 1) := dk_172 (dk_at dksX0_copyist_1 17 rfl rfl)
abbrev cX0_begin : ByteArray := prog_1_method_15_code
def yX0_begin : MethodName := ⟨RX0, "begin", "(I)I"⟩
def dkwX0_begin_1 : List UInt8 := [77, 42, 44, 42, 180, 0, 10, 27, 182, 0, 135, 182, 0, 111, 172, 78, 42, 45, 182, 0, 115, 172]
abbrev dktX0_begin_1 : List UInt8 := dkwX0_begin_1 ++ []
def dkwX0_begin_0 : List UInt8 := [42, 180, 0, 10, 180, 0, 122, 27, 182, 0, 125, 154, 0, 6, 16, 245, 172, 42, 180, 0, 10, 182, 0, 104]
abbrev dktX0_begin_0 : List UInt8 := dkwX0_begin_0 ++ dktX0_begin_1
theorem dksX0_begin_0 : cX0_begin.data.toList.drop 0 = dktX0_begin_0 := by decide +kernel
theorem dksX0_begin_1 : cX0_begin.data.toList.drop 24 = dktX0_begin_1 := dk_seg dksX0_begin_0 24 rfl rfl
theorem dX0_begin_0 : decode cX0_begin 0 = .ok (.aload_n 0, 1) := dk_42 (dk_at dksX0_begin_0 0 rfl rfl)
theorem dX0_begin_1 : decode cX0_begin 1 = .ok (.getfield 10, 3) := dk_180 0 10 (dk_at dksX0_begin_0 1 rfl rfl)
theorem dX0_begin_4 : decode cX0_begin 4 = .ok (.getfield 122, 3) := dk_180 0 122 (dk_at dksX0_begin_0 4 rfl rfl)
theorem dX0_begin_7 : decode cX0_begin 7 = .ok (.iload_n 1, 1) := dk_27 (dk_at dksX0_begin_0 7 rfl rfl)
theorem dX0_begin_8 : decode cX0_begin 8 = .ok (.invokevirtual 125, 3) := dk_182 0 125 (dk_at dksX0_begin_0 8 rfl rfl)
theorem dX0_begin_11 : decode cX0_begin 11 = .ok (.ifCond .ne 6, 3) := dk_154 0 6 (dk_at dksX0_begin_0 11 rfl rfl)
theorem dX0_begin_14 : decode cX0_begin 14 = .ok (.bipush (-11), 2) := dk_16 245 (dk_at dksX0_begin_0 14 rfl rfl)
theorem dX0_begin_16 : decode cX0_begin 16 = .ok (.ireturn, 1) := dk_172 (dk_at dksX0_begin_0 16 rfl rfl)
theorem dX0_begin_17 : decode cX0_begin 17 = .ok (.aload_n 0, 1) := dk_42 (dk_at dksX0_begin_0 17 rfl rfl)
theorem dX0_begin_18 : decode cX0_begin 18 = .ok (.getfield 10, 3) := dk_180 0 10 (dk_at dksX0_begin_0 18 rfl rfl)
theorem dX0_begin_21 : decode cX0_begin 21 = .ok (.invokevirtual 104, 3) := dk_182 0 104 (dk_at dksX0_begin_0 21 rfl rfl)
theorem dX0_begin_24 : decode cX0_begin 24 = .ok (.astore_n 2, 1) := dk_77 (dk_at dksX0_begin_1 0 rfl rfl)
theorem dX0_begin_25 : decode cX0_begin 25 = .ok (.aload_n 0, 1) := dk_42 (dk_at dksX0_begin_1 1 rfl rfl)
theorem dX0_begin_26 : decode cX0_begin 26 = .ok (.aload_n 2, 1) := dk_44 (dk_at dksX0_begin_1 2 rfl rfl)
theorem dX0_begin_27 : decode cX0_begin 27 = .ok (.aload_n 0, 1) := dk_42 (dk_at dksX0_begin_1 3 rfl rfl)
theorem dX0_begin_28 : decode cX0_begin 28 = .ok (.getfield 10, 3) := dk_180 0 10 (dk_at dksX0_begin_1 4 rfl rfl)
theorem dX0_begin_31 : decode cX0_begin 31 = .ok (.iload_n 1, 1) := dk_27 (dk_at dksX0_begin_1 7 rfl rfl)
theorem dX0_begin_32 : decode cX0_begin 32 = .ok (.invokevirtual 135, 3) := dk_182 0 135 (dk_at dksX0_begin_1 8 rfl rfl)
theorem dX0_begin_35 : decode cX0_begin 35 = .ok (.invokevirtual 111, 3) := dk_182 0 111 (dk_at dksX0_begin_1 11 rfl rfl)
theorem dX0_begin_38 : decode cX0_begin 38 = .ok (.ireturn, 1) := dk_172 (dk_at dksX0_begin_1 14 rfl rfl)
theorem dX0_begin_39 : decode cX0_begin 39 = .ok (.astore_n 3, 1) := dk_78 (dk_at dksX0_begin_1 15 rfl rfl)
theorem dX0_begin_40 : decode cX0_begin 40 = .ok (.aload_n 0, 1) := dk_42 (dk_at dksX0_begin_1 16 rfl rfl)
theorem dX0_begin_41 : decode cX0_begin 41 = .ok (.aload_n 3, 1) := dk_45 (dk_at dksX0_begin_1 17 rfl rfl)
theorem dX0_begin_42 : decode cX0_begin 42 = .ok (.invokevirtual 115, 3) := dk_182 0 115 (dk_at dksX0_begin_1 18 rfl rfl)
theorem dX0_begin_45 : decode cX0_begin 45 = .ok (.ireturn, 1) := dk_172 (dk_at dksX0_begin_1 21 rfl rfl)
abbrev cX0_would : ByteArray := prog_1_method_16_code
def yX0_would : MethodName := ⟨RX0, "would", "(III)I"⟩
def dkwX0_would_3 : List UInt8 := [42, 180, 0, 25, 182, 0, 143, 172]
abbrev dktX0_would_3 : List UInt8 := dkwX0_would_3 ++ []
def dkwX0_would_2 : List UInt8 := [182, 0, 86, 192, 0, 141, 42, 180, 0, 10, 180, 0, 122, 28, 182, 0, 86, 192, 0, 128, 29, 182, 0, 131]
abbrev dktX0_would_2 : List UInt8 := dkwX0_would_2 ++ dktX0_would_3
def dkwX0_would_1 : List UInt8 := [182, 0, 125, 153, 0, 10, 29, 184, 0, 98, 154, 0, 6, 16, 245, 172, 42, 180, 0, 10, 180, 0, 138, 27]
abbrev dktX0_would_1 : List UInt8 := dkwX0_would_1 ++ dktX0_would_2
def dkwX0_would_0 : List UInt8 := [42, 180, 0, 10, 180, 0, 138, 27, 182, 0, 125, 153, 0, 24, 42, 180, 0, 10, 180, 0, 122, 28]
abbrev dktX0_would_0 : List UInt8 := dkwX0_would_0 ++ dktX0_would_1
theorem dksX0_would_0 : cX0_would.data.toList.drop 0 = dktX0_would_0 := by decide +kernel
theorem dksX0_would_1 : cX0_would.data.toList.drop 22 = dktX0_would_1 := dk_seg dksX0_would_0 22 rfl rfl
theorem dksX0_would_2 : cX0_would.data.toList.drop 46 = dktX0_would_2 := dk_seg dksX0_would_1 24 rfl rfl
theorem dksX0_would_3 : cX0_would.data.toList.drop 70 = dktX0_would_3 := dk_seg dksX0_would_2 24 rfl rfl
theorem dX0_would_0 : decode cX0_would 0 = .ok (.aload_n 0, 1) := dk_42 (dk_at dksX0_would_0 0 rfl rfl)
theorem dX0_would_1 : decode cX0_would 1 = .ok (.getfield 10, 3) := dk_180 0 10 (dk_at dksX0_would_0 1 rfl rfl)
theorem dX0_would_4 : decode cX0_would 4 = .ok (.getfield 138, 3) := dk_180 0 138 (dk_at dksX0_would_0 4 rfl rfl)
theorem dX0_would_7 : decode cX0_would 7 = .ok (.iload_n 1, 1) := dk_27 (dk_at dksX0_would_0 7 rfl rfl)
theorem dX0_would_8 : decode cX0_would 8 = .ok (.invokevirtual 125, 3) := dk_182 0 125 (dk_at dksX0_would_0 8 rfl rfl)
theorem dX0_would_11 : decode cX0_would 11 = .ok (.ifCond .eq 24, 3) := dk_153 0 24 (dk_at dksX0_would_0 11 rfl rfl)
theorem dX0_would_14 : decode cX0_would 14 = .ok (.aload_n 0, 1) := dk_42 (dk_at dksX0_would_0 14 rfl rfl)
theorem dX0_would_15 : decode cX0_would 15 = .ok (.getfield 10, 3) := dk_180 0 10 (dk_at dksX0_would_0 15 rfl rfl)
theorem dX0_would_18 : decode cX0_would 18 = .ok (.getfield 122, 3) := dk_180 0 122 (dk_at dksX0_would_0 18 rfl rfl)
theorem dX0_would_21 : decode cX0_would 21 = .ok (.iload_n 2, 1) := dk_28 (dk_at dksX0_would_0 21 rfl rfl)
theorem dX0_would_22 : decode cX0_would 22 = .ok (.invokevirtual 125, 3) := dk_182 0 125 (dk_at dksX0_would_1 0 rfl rfl)
theorem dX0_would_25 : decode cX0_would 25 = .ok (.ifCond .eq 10, 3) := dk_153 0 10 (dk_at dksX0_would_1 3 rfl rfl)
theorem dX0_would_28 : decode cX0_would 28 = .ok (.iload_n 3, 1) := dk_29 (dk_at dksX0_would_1 6 rfl rfl)
theorem dX0_would_29 : decode cX0_would 29 = .ok (.invokestatic 98, 3) := dk_184 0 98 (dk_at dksX0_would_1 7 rfl rfl)
theorem dX0_would_32 : decode cX0_would 32 = .ok (.ifCond .ne 6, 3) := dk_154 0 6 (dk_at dksX0_would_1 10 rfl rfl)
theorem dX0_would_35 : decode cX0_would 35 = .ok (.bipush (-11), 2) := dk_16 245 (dk_at dksX0_would_1 13 rfl rfl)
theorem dX0_would_37 : decode cX0_would 37 = .ok (.ireturn, 1) := dk_172 (dk_at dksX0_would_1 15 rfl rfl)
theorem dX0_would_38 : decode cX0_would 38 = .ok (.aload_n 0, 1) := dk_42 (dk_at dksX0_would_1 16 rfl rfl)
theorem dX0_would_39 : decode cX0_would 39 = .ok (.getfield 10, 3) := dk_180 0 10 (dk_at dksX0_would_1 17 rfl rfl)
theorem dX0_would_42 : decode cX0_would 42 = .ok (.getfield 138, 3) := dk_180 0 138 (dk_at dksX0_would_1 20 rfl rfl)
theorem dX0_would_45 : decode cX0_would 45 = .ok (.iload_n 1, 1) := dk_27 (dk_at dksX0_would_1 23 rfl rfl)
theorem dX0_would_46 : decode cX0_would 46 = .ok (.invokevirtual 86, 3) := dk_182 0 86 (dk_at dksX0_would_2 0 rfl rfl)
theorem dX0_would_49 : decode cX0_would 49 = .ok (.checkcast 141, 3) := dk_192 0 141 (dk_at dksX0_would_2 3 rfl rfl)
theorem dX0_would_52 : decode cX0_would 52 = .ok (.aload_n 0, 1) := dk_42 (dk_at dksX0_would_2 6 rfl rfl)
theorem dX0_would_53 : decode cX0_would 53 = .ok (.getfield 10, 3) := dk_180 0 10 (dk_at dksX0_would_2 7 rfl rfl)
theorem dX0_would_56 : decode cX0_would 56 = .ok (.getfield 122, 3) := dk_180 0 122 (dk_at dksX0_would_2 10 rfl rfl)
theorem dX0_would_59 : decode cX0_would 59 = .ok (.iload_n 2, 1) := dk_28 (dk_at dksX0_would_2 13 rfl rfl)
theorem dX0_would_60 : decode cX0_would 60 = .ok (.invokevirtual 86, 3) := dk_182 0 86 (dk_at dksX0_would_2 14 rfl rfl)
theorem dX0_would_63 : decode cX0_would 63 = .ok (.checkcast 128, 3) := dk_192 0 128 (dk_at dksX0_would_2 17 rfl rfl)
theorem dX0_would_66 : decode cX0_would 66 = .ok (.iload_n 3, 1) := dk_29 (dk_at dksX0_would_2 20 rfl rfl)
theorem dX0_would_67 : decode cX0_would 67 = .ok (.invokevirtual 131, 3) := dk_182 0 131 (dk_at dksX0_would_2 21 rfl rfl)
theorem dX0_would_70 : decode cX0_would 70 = .ok (.aload_n 0, 1) := dk_42 (dk_at dksX0_would_3 0 rfl rfl)
theorem dX0_would_71 : decode cX0_would 71 = .ok (.getfield 25, 3) := dk_180 0 25 (dk_at dksX0_would_3 1 rfl rfl)
theorem dX0_would_74 : decode cX0_would 74 = .ok (.invokevirtual 143, 3) := dk_182 0 143 (dk_at dksX0_would_3 4 rfl rfl)
theorem dX0_would_77 : decode cX0_would 77 = .ok (.ireturn, 1) := dk_172 (dk_at dksX0_would_3 7 rfl rfl)
abbrev cX0_cut : ByteArray := prog_1_method_18_code
def yX0_cut : MethodName := ⟨RX0, "cut", "(III)I"⟩
def dkwX0_cut_2 : List UInt8 := [58, 5, 42, 25, 5, 182, 0, 115, 172]
abbrev dktX0_cut_2 : List UInt8 := dkwX0_cut_2 ++ []
def dkwX0_cut_1 : List UInt8 := [58, 4, 42, 25, 4, 42, 180, 0, 10, 27, 28, 29, 42, 180, 0, 25, 182, 0, 154, 182, 0, 111, 172]
abbrev dktX0_cut_1 : List UInt8 := dkwX0_cut_1 ++ dktX0_cut_2
def dkwX0_cut_0 : List UInt8 := [42, 180, 0, 10, 27, 28, 29, 184, 0, 150, 154, 0, 6, 16, 245, 172, 42, 180, 0, 10, 182, 0, 104]
abbrev dktX0_cut_0 : List UInt8 := dkwX0_cut_0 ++ dktX0_cut_1
theorem dksX0_cut_0 : cX0_cut.data.toList.drop 0 = dktX0_cut_0 := by decide +kernel
theorem dksX0_cut_1 : cX0_cut.data.toList.drop 23 = dktX0_cut_1 := dk_seg dksX0_cut_0 23 rfl rfl
theorem dksX0_cut_2 : cX0_cut.data.toList.drop 46 = dktX0_cut_2 := dk_seg dksX0_cut_1 23 rfl rfl
theorem dX0_cut_0 : decode cX0_cut 0 = .ok (.aload_n 0, 1) := dk_42 (dk_at dksX0_cut_0 0 rfl rfl)
theorem dX0_cut_1 : decode cX0_cut 1 = .ok (.getfield 10, 3) := dk_180 0 10 (dk_at dksX0_cut_0 1 rfl rfl)
theorem dX0_cut_4 : decode cX0_cut 4 = .ok (.iload_n 1, 1) := dk_27 (dk_at dksX0_cut_0 4 rfl rfl)
theorem dX0_cut_5 : decode cX0_cut 5 = .ok (.iload_n 2, 1) := dk_28 (dk_at dksX0_cut_0 5 rfl rfl)
theorem dX0_cut_6 : decode cX0_cut 6 = .ok (.iload_n 3, 1) := dk_29 (dk_at dksX0_cut_0 6 rfl rfl)
theorem dX0_cut_7 : decode cX0_cut 7 = .ok (.invokestatic 150, 3) := dk_184 0 150 (dk_at dksX0_cut_0 7 rfl rfl)
theorem dX0_cut_10 : decode cX0_cut 10 = .ok (.ifCond .ne 6, 3) := dk_154 0 6 (dk_at dksX0_cut_0 10 rfl rfl)
theorem dX0_cut_13 : decode cX0_cut 13 = .ok (.bipush (-11), 2) := dk_16 245 (dk_at dksX0_cut_0 13 rfl rfl)
theorem dX0_cut_15 : decode cX0_cut 15 = .ok (.ireturn, 1) := dk_172 (dk_at dksX0_cut_0 15 rfl rfl)
theorem dX0_cut_16 : decode cX0_cut 16 = .ok (.aload_n 0, 1) := dk_42 (dk_at dksX0_cut_0 16 rfl rfl)
theorem dX0_cut_17 : decode cX0_cut 17 = .ok (.getfield 10, 3) := dk_180 0 10 (dk_at dksX0_cut_0 17 rfl rfl)
theorem dX0_cut_20 : decode cX0_cut 20 = .ok (.invokevirtual 104, 3) := dk_182 0 104 (dk_at dksX0_cut_0 20 rfl rfl)
theorem dX0_cut_23 : decode cX0_cut 23 = .ok (.astore 4, 2) := dk_58 4 (dk_at dksX0_cut_1 0 rfl rfl)
theorem dX0_cut_25 : decode cX0_cut 25 = .ok (.aload_n 0, 1) := dk_42 (dk_at dksX0_cut_1 2 rfl rfl)
theorem dX0_cut_26 : decode cX0_cut 26 = .ok (.aload 4, 2) := dk_25 4 (dk_at dksX0_cut_1 3 rfl rfl)
theorem dX0_cut_28 : decode cX0_cut 28 = .ok (.aload_n 0, 1) := dk_42 (dk_at dksX0_cut_1 5 rfl rfl)
theorem dX0_cut_29 : decode cX0_cut 29 = .ok (.getfield 10, 3) := dk_180 0 10 (dk_at dksX0_cut_1 6 rfl rfl)
theorem dX0_cut_32 : decode cX0_cut 32 = .ok (.iload_n 1, 1) := dk_27 (dk_at dksX0_cut_1 9 rfl rfl)
theorem dX0_cut_33 : decode cX0_cut 33 = .ok (.iload_n 2, 1) := dk_28 (dk_at dksX0_cut_1 10 rfl rfl)
theorem dX0_cut_34 : decode cX0_cut 34 = .ok (.iload_n 3, 1) := dk_29 (dk_at dksX0_cut_1 11 rfl rfl)
theorem dX0_cut_35 : decode cX0_cut 35 = .ok (.aload_n 0, 1) := dk_42 (dk_at dksX0_cut_1 12 rfl rfl)
theorem dX0_cut_36 : decode cX0_cut 36 = .ok (.getfield 25, 3) := dk_180 0 25 (dk_at dksX0_cut_1 13 rfl rfl)
theorem dX0_cut_39 : decode cX0_cut 39 = .ok (.invokevirtual 154, 3) := dk_182 0 154 (dk_at dksX0_cut_1 16 rfl rfl)
theorem dX0_cut_42 : decode cX0_cut 42 = .ok (.invokevirtual 111, 3) := dk_182 0 111 (dk_at dksX0_cut_1 19 rfl rfl)
theorem dX0_cut_45 : decode cX0_cut 45 = .ok (.ireturn, 1) := dk_172 (dk_at dksX0_cut_1 22 rfl rfl)
theorem dX0_cut_46 : decode cX0_cut 46 = .ok (.astore 5, 2) := dk_58 5 (dk_at dksX0_cut_2 0 rfl rfl)
theorem dX0_cut_48 : decode cX0_cut 48 = .ok (.aload_n 0, 1) := dk_42 (dk_at dksX0_cut_2 2 rfl rfl)
theorem dX0_cut_49 : decode cX0_cut 49 = .ok (.aload 5, 2) := dk_25 5 (dk_at dksX0_cut_2 3 rfl rfl)
theorem dX0_cut_51 : decode cX0_cut 51 = .ok (.invokevirtual 115, 3) := dk_182 0 115 (dk_at dksX0_cut_2 5 rfl rfl)
theorem dX0_cut_54 : decode cX0_cut 54 = .ok (.ireturn, 1) := dk_172 (dk_at dksX0_cut_2 8 rfl rfl)
abbrev cX0_areThere : ByteArray := prog_1_method_17_code
def yX0_areThere : MethodName := ⟨RX0, "areThere", "(LGargoyleCopyists$Church;III)Z"⟩
def dkwX0_areThere_1 : List UInt8 := [184, 0, 98, 153, 0, 7, 4, 167, 0, 4, 3, 172]
abbrev dktX0_areThere_1 : List UInt8 := dkwX0_areThere_1 ++ []
def dkwX0_areThere_0 : List UInt8 := [42, 180, 0, 138, 27, 182, 0, 125, 153, 0, 25, 42, 180, 0, 147, 28, 182, 0, 125, 153, 0, 14, 29]
abbrev dktX0_areThere_0 : List UInt8 := dkwX0_areThere_0 ++ dktX0_areThere_1
theorem dksX0_areThere_0 : cX0_areThere.data.toList.drop 0 = dktX0_areThere_0 := by decide +kernel
theorem dksX0_areThere_1 : cX0_areThere.data.toList.drop 23 = dktX0_areThere_1 := dk_seg dksX0_areThere_0 23 rfl rfl
theorem dX0_areThere_0 : decode cX0_areThere 0 = .ok (.aload_n 0, 1) := dk_42 (dk_at dksX0_areThere_0 0 rfl rfl)
theorem dX0_areThere_1 : decode cX0_areThere 1 = .ok (.getfield 138, 3) := dk_180 0 138 (dk_at dksX0_areThere_0 1 rfl rfl)
theorem dX0_areThere_4 : decode cX0_areThere 4 = .ok (.iload_n 1, 1) := dk_27 (dk_at dksX0_areThere_0 4 rfl rfl)
theorem dX0_areThere_5 : decode cX0_areThere 5 = .ok (.invokevirtual 125, 3) := dk_182 0 125 (dk_at dksX0_areThere_0 5 rfl rfl)
theorem dX0_areThere_8 : decode cX0_areThere 8 = .ok (.ifCond .eq 25, 3) := dk_153 0 25 (dk_at dksX0_areThere_0 8 rfl rfl)
theorem dX0_areThere_11 : decode cX0_areThere 11 = .ok (.aload_n 0, 1) := dk_42 (dk_at dksX0_areThere_0 11 rfl rfl)
theorem dX0_areThere_12 : decode cX0_areThere 12 = .ok (.getfield 147, 3) := dk_180 0 147 (dk_at dksX0_areThere_0 12 rfl rfl)
theorem dX0_areThere_15 : decode cX0_areThere 15 = .ok (.iload_n 2, 1) := dk_28 (dk_at dksX0_areThere_0 15 rfl rfl)
theorem dX0_areThere_16 : decode cX0_areThere 16 = .ok (.invokevirtual 125, 3) := dk_182 0 125 (dk_at dksX0_areThere_0 16 rfl rfl)
theorem dX0_areThere_19 : decode cX0_areThere 19 = .ok (.ifCond .eq 14, 3) := dk_153 0 14 (dk_at dksX0_areThere_0 19 rfl rfl)
theorem dX0_areThere_22 : decode cX0_areThere 22 = .ok (.iload_n 3, 1) := dk_29 (dk_at dksX0_areThere_0 22 rfl rfl)
theorem dX0_areThere_23 : decode cX0_areThere 23 = .ok (.invokestatic 98, 3) := dk_184 0 98 (dk_at dksX0_areThere_1 0 rfl rfl)
theorem dX0_areThere_26 : decode cX0_areThere 26 = .ok (.ifCond .eq 7, 3) := dk_153 0 7 (dk_at dksX0_areThere_1 3 rfl rfl)
theorem dX0_areThere_29 : decode cX0_areThere 29 = .ok (.iconst 1, 1) := dk_4 (dk_at dksX0_areThere_1 6 rfl rfl)
theorem dX0_areThere_30 : decode cX0_areThere 30 = .ok (.goto 4, 3) := dk_167 0 4 (dk_at dksX0_areThere_1 7 rfl rfl)
theorem dX0_areThere_33 : decode cX0_areThere 33 = .ok (.iconst 0, 1) := dk_3 (dk_at dksX0_areThere_1 10 rfl rfl)
theorem dX0_areThere_34 : decode cX0_areThere 34 = .ok (.ireturn, 1) := dk_172 (dk_at dksX0_areThere_1 11 rfl rfl)
abbrev cX0_bestCopyist : ByteArray := prog_1_method_19_code
def yX0_bestCopyist : MethodName := ⟨RX0, "bestCopyist", "(II)I"⟩
def dkwX0_bestCopyist_2 : List UInt8 := [180, 0, 25, 182, 0, 157, 167, 0, 5, 16, 245, 172]
abbrev dktX0_bestCopyist_2 : List UInt8 := dkwX0_bestCopyist_2 ++ []
def dkwX0_bestCopyist_1 : List UInt8 := [180, 0, 10, 42, 180, 0, 10, 180, 0, 122, 27, 182, 0, 86, 192, 0, 128, 28, 182, 0, 131, 42]
abbrev dktX0_bestCopyist_1 : List UInt8 := dkwX0_bestCopyist_1 ++ dktX0_bestCopyist_2
def dkwX0_bestCopyist_0 : List UInt8 := [42, 180, 0, 10, 180, 0, 122, 27, 182, 0, 125, 153, 0, 42, 28, 184, 0, 98, 153, 0, 35, 42]
abbrev dktX0_bestCopyist_0 : List UInt8 := dkwX0_bestCopyist_0 ++ dktX0_bestCopyist_1
theorem dksX0_bestCopyist_0 : cX0_bestCopyist.data.toList.drop 0 = dktX0_bestCopyist_0 := by decide +kernel
theorem dksX0_bestCopyist_1 : cX0_bestCopyist.data.toList.drop 22 = dktX0_bestCopyist_1 := dk_seg dksX0_bestCopyist_0 22 rfl rfl
theorem dksX0_bestCopyist_2 : cX0_bestCopyist.data.toList.drop 44 = dktX0_bestCopyist_2 := dk_seg dksX0_bestCopyist_1 22 rfl rfl
theorem dX0_bestCopyist_0 : decode cX0_bestCopyist 0 = .ok (.aload_n 0, 1) := dk_42 (dk_at dksX0_bestCopyist_0 0 rfl rfl)
theorem dX0_bestCopyist_1 : decode cX0_bestCopyist 1 = .ok (.getfield 10, 3) := dk_180 0 10 (dk_at dksX0_bestCopyist_0 1 rfl rfl)
theorem dX0_bestCopyist_4 : decode cX0_bestCopyist 4 = .ok (.getfield 122, 3) := dk_180 0 122 (dk_at dksX0_bestCopyist_0 4 rfl rfl)
theorem dX0_bestCopyist_7 : decode cX0_bestCopyist 7 = .ok (.iload_n 1, 1) := dk_27 (dk_at dksX0_bestCopyist_0 7 rfl rfl)
theorem dX0_bestCopyist_8 : decode cX0_bestCopyist 8 = .ok (.invokevirtual 125, 3) := dk_182 0 125 (dk_at dksX0_bestCopyist_0 8 rfl rfl)
theorem dX0_bestCopyist_11 : decode cX0_bestCopyist 11 = .ok (.ifCond .eq 42, 3) := dk_153 0 42 (dk_at dksX0_bestCopyist_0 11 rfl rfl)
theorem dX0_bestCopyist_14 : decode cX0_bestCopyist 14 = .ok (.iload_n 2, 1) := dk_28 (dk_at dksX0_bestCopyist_0 14 rfl rfl)
theorem dX0_bestCopyist_15 : decode cX0_bestCopyist 15 = .ok (.invokestatic 98, 3) := dk_184 0 98 (dk_at dksX0_bestCopyist_0 15 rfl rfl)
theorem dX0_bestCopyist_18 : decode cX0_bestCopyist 18 = .ok (.ifCond .eq 35, 3) := dk_153 0 35 (dk_at dksX0_bestCopyist_0 18 rfl rfl)
theorem dX0_bestCopyist_21 : decode cX0_bestCopyist 21 = .ok (.aload_n 0, 1) := dk_42 (dk_at dksX0_bestCopyist_0 21 rfl rfl)
theorem dX0_bestCopyist_22 : decode cX0_bestCopyist 22 = .ok (.getfield 10, 3) := dk_180 0 10 (dk_at dksX0_bestCopyist_1 0 rfl rfl)
theorem dX0_bestCopyist_25 : decode cX0_bestCopyist 25 = .ok (.aload_n 0, 1) := dk_42 (dk_at dksX0_bestCopyist_1 3 rfl rfl)
theorem dX0_bestCopyist_26 : decode cX0_bestCopyist 26 = .ok (.getfield 10, 3) := dk_180 0 10 (dk_at dksX0_bestCopyist_1 4 rfl rfl)
theorem dX0_bestCopyist_29 : decode cX0_bestCopyist 29 = .ok (.getfield 122, 3) := dk_180 0 122 (dk_at dksX0_bestCopyist_1 7 rfl rfl)
theorem dX0_bestCopyist_32 : decode cX0_bestCopyist 32 = .ok (.iload_n 1, 1) := dk_27 (dk_at dksX0_bestCopyist_1 10 rfl rfl)
theorem dX0_bestCopyist_33 : decode cX0_bestCopyist 33 = .ok (.invokevirtual 86, 3) := dk_182 0 86 (dk_at dksX0_bestCopyist_1 11 rfl rfl)
theorem dX0_bestCopyist_36 : decode cX0_bestCopyist 36 = .ok (.checkcast 128, 3) := dk_192 0 128 (dk_at dksX0_bestCopyist_1 14 rfl rfl)
theorem dX0_bestCopyist_39 : decode cX0_bestCopyist 39 = .ok (.iload_n 2, 1) := dk_28 (dk_at dksX0_bestCopyist_1 17 rfl rfl)
theorem dX0_bestCopyist_40 : decode cX0_bestCopyist 40 = .ok (.invokevirtual 131, 3) := dk_182 0 131 (dk_at dksX0_bestCopyist_1 18 rfl rfl)
theorem dX0_bestCopyist_43 : decode cX0_bestCopyist 43 = .ok (.aload_n 0, 1) := dk_42 (dk_at dksX0_bestCopyist_1 21 rfl rfl)
theorem dX0_bestCopyist_44 : decode cX0_bestCopyist 44 = .ok (.getfield 25, 3) := dk_180 0 25 (dk_at dksX0_bestCopyist_2 0 rfl rfl)
theorem dX0_bestCopyist_47 : decode cX0_bestCopyist 47 = .ok (.invokevirtual 157, 3) := dk_182 0 157 (dk_at dksX0_bestCopyist_2 3 rfl rfl)
theorem dX0_bestCopyist_50 : decode cX0_bestCopyist 50 = .ok (.goto 5, 3) := dk_167 0 5 (dk_at dksX0_bestCopyist_2 6 rfl rfl)
theorem dX0_bestCopyist_53 : decode cX0_bestCopyist 53 = .ok (.bipush (-11), 2) := dk_16 245 (dk_at dksX0_bestCopyist_2 9 rfl rfl)
theorem dX0_bestCopyist_55 : decode cX0_bestCopyist 55 = .ok (.ireturn, 1) := dk_172 (dk_at dksX0_bestCopyist_2 11 rfl rfl)
abbrev cX0_copyistOf : ByteArray := prog_1_method_20_code
def yX0_copyistOf : MethodName := ⟨RX0, "copyistOf", "(II)I"⟩
def dkwX0_copyistOf_1 : List UInt8 := [182, 0, 86, 192, 0, 141, 28, 182, 0, 160, 167, 0, 5, 16, 245, 172]
abbrev dktX0_copyistOf_1 : List UInt8 := dkwX0_copyistOf_1 ++ []
def dkwX0_copyistOf_0 : List UInt8 := [42, 180, 0, 10, 180, 0, 138, 27, 182, 0, 125, 153, 0, 24, 42, 180, 0, 10, 180, 0, 138, 27]
abbrev dktX0_copyistOf_0 : List UInt8 := dkwX0_copyistOf_0 ++ dktX0_copyistOf_1
theorem dksX0_copyistOf_0 : cX0_copyistOf.data.toList.drop 0 = dktX0_copyistOf_0 := by decide +kernel
theorem dksX0_copyistOf_1 : cX0_copyistOf.data.toList.drop 22 = dktX0_copyistOf_1 := dk_seg dksX0_copyistOf_0 22 rfl rfl
theorem dX0_copyistOf_0 : decode cX0_copyistOf 0 = .ok (.aload_n 0, 1) := dk_42 (dk_at dksX0_copyistOf_0 0 rfl rfl)
theorem dX0_copyistOf_1 : decode cX0_copyistOf 1 = .ok (.getfield 10, 3) := dk_180 0 10 (dk_at dksX0_copyistOf_0 1 rfl rfl)
theorem dX0_copyistOf_4 : decode cX0_copyistOf 4 = .ok (.getfield 138, 3) := dk_180 0 138 (dk_at dksX0_copyistOf_0 4 rfl rfl)
theorem dX0_copyistOf_7 : decode cX0_copyistOf 7 = .ok (.iload_n 1, 1) := dk_27 (dk_at dksX0_copyistOf_0 7 rfl rfl)
theorem dX0_copyistOf_8 : decode cX0_copyistOf 8 = .ok (.invokevirtual 125, 3) := dk_182 0 125 (dk_at dksX0_copyistOf_0 8 rfl rfl)
theorem dX0_copyistOf_11 : decode cX0_copyistOf 11 = .ok (.ifCond .eq 24, 3) := dk_153 0 24 (dk_at dksX0_copyistOf_0 11 rfl rfl)
theorem dX0_copyistOf_14 : decode cX0_copyistOf 14 = .ok (.aload_n 0, 1) := dk_42 (dk_at dksX0_copyistOf_0 14 rfl rfl)
theorem dX0_copyistOf_15 : decode cX0_copyistOf 15 = .ok (.getfield 10, 3) := dk_180 0 10 (dk_at dksX0_copyistOf_0 15 rfl rfl)
theorem dX0_copyistOf_18 : decode cX0_copyistOf 18 = .ok (.getfield 138, 3) := dk_180 0 138 (dk_at dksX0_copyistOf_0 18 rfl rfl)
theorem dX0_copyistOf_21 : decode cX0_copyistOf 21 = .ok (.iload_n 1, 1) := dk_27 (dk_at dksX0_copyistOf_0 21 rfl rfl)
theorem dX0_copyistOf_22 : decode cX0_copyistOf 22 = .ok (.invokevirtual 86, 3) := dk_182 0 86 (dk_at dksX0_copyistOf_1 0 rfl rfl)
theorem dX0_copyistOf_25 : decode cX0_copyistOf 25 = .ok (.checkcast 141, 3) := dk_192 0 141 (dk_at dksX0_copyistOf_1 3 rfl rfl)
theorem dX0_copyistOf_28 : decode cX0_copyistOf 28 = .ok (.iload_n 2, 1) := dk_28 (dk_at dksX0_copyistOf_1 6 rfl rfl)
theorem dX0_copyistOf_29 : decode cX0_copyistOf 29 = .ok (.invokevirtual 160, 3) := dk_182 0 160 (dk_at dksX0_copyistOf_1 7 rfl rfl)
theorem dX0_copyistOf_32 : decode cX0_copyistOf 32 = .ok (.goto 5, 3) := dk_167 0 5 (dk_at dksX0_copyistOf_1 10 rfl rfl)
theorem dX0_copyistOf_35 : decode cX0_copyistOf 35 = .ok (.bipush (-11), 2) := dk_16 245 (dk_at dksX0_copyistOf_1 13 rfl rfl)
theorem dX0_copyistOf_37 : decode cX0_copyistOf 37 = .ok (.ireturn, 1) := dk_172 (dk_at dksX0_copyistOf_1 15 rfl rfl)
abbrev cX0_needle : ByteArray := prog_1_method_21_code
def yX0_needle : MethodName := ⟨RX0, "needle", "(I)I"⟩
def dkwX0_needle_1 : List UInt8 := [77, 42, 44, 42, 180, 0, 10, 27, 182, 0, 161, 182, 0, 111, 172, 78, 42, 45, 182, 0, 115, 172]
abbrev dktX0_needle_1 : List UInt8 := dkwX0_needle_1 ++ []
def dkwX0_needle_0 : List UInt8 := [42, 180, 0, 10, 180, 0, 138, 27, 182, 0, 125, 154, 0, 6, 16, 245, 172, 42, 180, 0, 10, 182, 0, 104]
abbrev dktX0_needle_0 : List UInt8 := dkwX0_needle_0 ++ dktX0_needle_1
theorem dksX0_needle_0 : cX0_needle.data.toList.drop 0 = dktX0_needle_0 := by decide +kernel
theorem dksX0_needle_1 : cX0_needle.data.toList.drop 24 = dktX0_needle_1 := dk_seg dksX0_needle_0 24 rfl rfl
theorem dX0_needle_0 : decode cX0_needle 0 = .ok (.aload_n 0, 1) := dk_42 (dk_at dksX0_needle_0 0 rfl rfl)
theorem dX0_needle_1 : decode cX0_needle 1 = .ok (.getfield 10, 3) := dk_180 0 10 (dk_at dksX0_needle_0 1 rfl rfl)
theorem dX0_needle_4 : decode cX0_needle 4 = .ok (.getfield 138, 3) := dk_180 0 138 (dk_at dksX0_needle_0 4 rfl rfl)
theorem dX0_needle_7 : decode cX0_needle 7 = .ok (.iload_n 1, 1) := dk_27 (dk_at dksX0_needle_0 7 rfl rfl)
theorem dX0_needle_8 : decode cX0_needle 8 = .ok (.invokevirtual 125, 3) := dk_182 0 125 (dk_at dksX0_needle_0 8 rfl rfl)
theorem dX0_needle_11 : decode cX0_needle 11 = .ok (.ifCond .ne 6, 3) := dk_154 0 6 (dk_at dksX0_needle_0 11 rfl rfl)
theorem dX0_needle_14 : decode cX0_needle 14 = .ok (.bipush (-11), 2) := dk_16 245 (dk_at dksX0_needle_0 14 rfl rfl)
theorem dX0_needle_16 : decode cX0_needle 16 = .ok (.ireturn, 1) := dk_172 (dk_at dksX0_needle_0 16 rfl rfl)
theorem dX0_needle_17 : decode cX0_needle 17 = .ok (.aload_n 0, 1) := dk_42 (dk_at dksX0_needle_0 17 rfl rfl)
theorem dX0_needle_18 : decode cX0_needle 18 = .ok (.getfield 10, 3) := dk_180 0 10 (dk_at dksX0_needle_0 18 rfl rfl)
theorem dX0_needle_21 : decode cX0_needle 21 = .ok (.invokevirtual 104, 3) := dk_182 0 104 (dk_at dksX0_needle_0 21 rfl rfl)
theorem dX0_needle_24 : decode cX0_needle 24 = .ok (.astore_n 2, 1) := dk_77 (dk_at dksX0_needle_1 0 rfl rfl)
theorem dX0_needle_25 : decode cX0_needle 25 = .ok (.aload_n 0, 1) := dk_42 (dk_at dksX0_needle_1 1 rfl rfl)
theorem dX0_needle_26 : decode cX0_needle 26 = .ok (.aload_n 2, 1) := dk_44 (dk_at dksX0_needle_1 2 rfl rfl)
theorem dX0_needle_27 : decode cX0_needle 27 = .ok (.aload_n 0, 1) := dk_42 (dk_at dksX0_needle_1 3 rfl rfl)
theorem dX0_needle_28 : decode cX0_needle 28 = .ok (.getfield 10, 3) := dk_180 0 10 (dk_at dksX0_needle_1 4 rfl rfl)
theorem dX0_needle_31 : decode cX0_needle 31 = .ok (.iload_n 1, 1) := dk_27 (dk_at dksX0_needle_1 7 rfl rfl)
theorem dX0_needle_32 : decode cX0_needle 32 = .ok (.invokevirtual 161, 3) := dk_182 0 161 (dk_at dksX0_needle_1 8 rfl rfl)
theorem dX0_needle_35 : decode cX0_needle 35 = .ok (.invokevirtual 111, 3) := dk_182 0 111 (dk_at dksX0_needle_1 11 rfl rfl)
theorem dX0_needle_38 : decode cX0_needle 38 = .ok (.ireturn, 1) := dk_172 (dk_at dksX0_needle_1 14 rfl rfl)
theorem dX0_needle_39 : decode cX0_needle 39 = .ok (.astore_n 3, 1) := dk_78 (dk_at dksX0_needle_1 15 rfl rfl)
theorem dX0_needle_40 : decode cX0_needle 40 = .ok (.aload_n 0, 1) := dk_42 (dk_at dksX0_needle_1 16 rfl rfl)
theorem dX0_needle_41 : decode cX0_needle 41 = .ok (.aload_n 3, 1) := dk_45 (dk_at dksX0_needle_1 17 rfl rfl)
theorem dX0_needle_42 : decode cX0_needle 42 = .ok (.invokevirtual 115, 3) := dk_182 0 115 (dk_at dksX0_needle_1 18 rfl rfl)
theorem dX0_needle_45 : decode cX0_needle 45 = .ok (.ireturn, 1) := dk_172 (dk_at dksX0_needle_1 21 rfl rfl)
abbrev cX0_copyOf : ByteArray := prog_1_method_22_code
def yX0_copyOf : MethodName := ⟨RX0, "copyOf", "(II)I"⟩
def dkwX0_copyOf_1 : List UInt8 := [180, 0, 147, 27, 182, 0, 86, 192, 0, 164, 28, 182, 0, 166, 167, 0, 5, 16, 245, 172]
abbrev dktX0_copyOf_1 : List UInt8 := dkwX0_copyOf_1 ++ []
def dkwX0_copyOf_0 : List UInt8 := [42, 180, 0, 10, 180, 0, 147, 27, 182, 0, 125, 153, 0, 28, 42, 180, 0, 10, 42, 180, 0, 10]
abbrev dktX0_copyOf_0 : List UInt8 := dkwX0_copyOf_0 ++ dktX0_copyOf_1
theorem dksX0_copyOf_0 : cX0_copyOf.data.toList.drop 0 = dktX0_copyOf_0 := by decide +kernel
theorem dksX0_copyOf_1 : cX0_copyOf.data.toList.drop 22 = dktX0_copyOf_1 := dk_seg dksX0_copyOf_0 22 rfl rfl
theorem dX0_copyOf_0 : decode cX0_copyOf 0 = .ok (.aload_n 0, 1) := dk_42 (dk_at dksX0_copyOf_0 0 rfl rfl)
theorem dX0_copyOf_1 : decode cX0_copyOf 1 = .ok (.getfield 10, 3) := dk_180 0 10 (dk_at dksX0_copyOf_0 1 rfl rfl)
theorem dX0_copyOf_4 : decode cX0_copyOf 4 = .ok (.getfield 147, 3) := dk_180 0 147 (dk_at dksX0_copyOf_0 4 rfl rfl)
theorem dX0_copyOf_7 : decode cX0_copyOf 7 = .ok (.iload_n 1, 1) := dk_27 (dk_at dksX0_copyOf_0 7 rfl rfl)
theorem dX0_copyOf_8 : decode cX0_copyOf 8 = .ok (.invokevirtual 125, 3) := dk_182 0 125 (dk_at dksX0_copyOf_0 8 rfl rfl)
theorem dX0_copyOf_11 : decode cX0_copyOf 11 = .ok (.ifCond .eq 28, 3) := dk_153 0 28 (dk_at dksX0_copyOf_0 11 rfl rfl)
theorem dX0_copyOf_14 : decode cX0_copyOf 14 = .ok (.aload_n 0, 1) := dk_42 (dk_at dksX0_copyOf_0 14 rfl rfl)
theorem dX0_copyOf_15 : decode cX0_copyOf 15 = .ok (.getfield 10, 3) := dk_180 0 10 (dk_at dksX0_copyOf_0 15 rfl rfl)
theorem dX0_copyOf_18 : decode cX0_copyOf 18 = .ok (.aload_n 0, 1) := dk_42 (dk_at dksX0_copyOf_0 18 rfl rfl)
theorem dX0_copyOf_19 : decode cX0_copyOf 19 = .ok (.getfield 10, 3) := dk_180 0 10 (dk_at dksX0_copyOf_0 19 rfl rfl)
theorem dX0_copyOf_22 : decode cX0_copyOf 22 = .ok (.getfield 147, 3) := dk_180 0 147 (dk_at dksX0_copyOf_1 0 rfl rfl)
theorem dX0_copyOf_25 : decode cX0_copyOf 25 = .ok (.iload_n 1, 1) := dk_27 (dk_at dksX0_copyOf_1 3 rfl rfl)
theorem dX0_copyOf_26 : decode cX0_copyOf 26 = .ok (.invokevirtual 86, 3) := dk_182 0 86 (dk_at dksX0_copyOf_1 4 rfl rfl)
theorem dX0_copyOf_29 : decode cX0_copyOf 29 = .ok (.checkcast 164, 3) := dk_192 0 164 (dk_at dksX0_copyOf_1 7 rfl rfl)
theorem dX0_copyOf_32 : decode cX0_copyOf 32 = .ok (.iload_n 2, 1) := dk_28 (dk_at dksX0_copyOf_1 10 rfl rfl)
theorem dX0_copyOf_33 : decode cX0_copyOf 33 = .ok (.invokevirtual 166, 3) := dk_182 0 166 (dk_at dksX0_copyOf_1 11 rfl rfl)
theorem dX0_copyOf_36 : decode cX0_copyOf 36 = .ok (.goto 5, 3) := dk_167 0 5 (dk_at dksX0_copyOf_1 14 rfl rfl)
theorem dX0_copyOf_39 : decode cX0_copyOf 39 = .ok (.bipush (-11), 2) := dk_16 245 (dk_at dksX0_copyOf_1 17 rfl rfl)
theorem dX0_copyOf_41 : decode cX0_copyOf 41 = .ok (.ireturn, 1) := dk_172 (dk_at dksX0_copyOf_1 19 rfl rfl)
abbrev cX0_copyDepth : ByteArray := prog_1_method_23_code
def yX0_copyDepth : MethodName := ⟨RX0, "copyDepth", "(II)I"⟩
def dkwX0_copyDepth_2 : List UInt8 := [28, 182, 0, 173, 167, 0, 5, 16, 241, 172]
abbrev dktX0_copyDepth_2 : List UInt8 := dkwX0_copyDepth_2 ++ []
def dkwX0_copyDepth_1 : List UInt8 := [42, 180, 0, 10, 180, 0, 147, 27, 182, 0, 86, 192, 0, 164, 78, 45, 28, 182, 0, 170, 153, 0, 11, 45]
abbrev dktX0_copyDepth_1 : List UInt8 := dkwX0_copyDepth_1 ++ dktX0_copyDepth_2
def dkwX0_copyDepth_0 : List UInt8 := [42, 180, 0, 10, 180, 0, 147, 27, 182, 0, 125, 153, 0, 10, 28, 184, 0, 98, 154, 0, 6, 16, 245, 172]
abbrev dktX0_copyDepth_0 : List UInt8 := dkwX0_copyDepth_0 ++ dktX0_copyDepth_1
theorem dksX0_copyDepth_0 : cX0_copyDepth.data.toList.drop 0 = dktX0_copyDepth_0 := by decide +kernel
theorem dksX0_copyDepth_1 : cX0_copyDepth.data.toList.drop 24 = dktX0_copyDepth_1 := dk_seg dksX0_copyDepth_0 24 rfl rfl
theorem dksX0_copyDepth_2 : cX0_copyDepth.data.toList.drop 48 = dktX0_copyDepth_2 := dk_seg dksX0_copyDepth_1 24 rfl rfl
theorem dX0_copyDepth_0 : decode cX0_copyDepth 0 = .ok (.aload_n 0, 1) := dk_42 (dk_at dksX0_copyDepth_0 0 rfl rfl)
theorem dX0_copyDepth_1 : decode cX0_copyDepth 1 = .ok (.getfield 10, 3) := dk_180 0 10 (dk_at dksX0_copyDepth_0 1 rfl rfl)
theorem dX0_copyDepth_4 : decode cX0_copyDepth 4 = .ok (.getfield 147, 3) := dk_180 0 147 (dk_at dksX0_copyDepth_0 4 rfl rfl)
theorem dX0_copyDepth_7 : decode cX0_copyDepth 7 = .ok (.iload_n 1, 1) := dk_27 (dk_at dksX0_copyDepth_0 7 rfl rfl)
theorem dX0_copyDepth_8 : decode cX0_copyDepth 8 = .ok (.invokevirtual 125, 3) := dk_182 0 125 (dk_at dksX0_copyDepth_0 8 rfl rfl)
theorem dX0_copyDepth_11 : decode cX0_copyDepth 11 = .ok (.ifCond .eq 10, 3) := dk_153 0 10 (dk_at dksX0_copyDepth_0 11 rfl rfl)
theorem dX0_copyDepth_14 : decode cX0_copyDepth 14 = .ok (.iload_n 2, 1) := dk_28 (dk_at dksX0_copyDepth_0 14 rfl rfl)
theorem dX0_copyDepth_15 : decode cX0_copyDepth 15 = .ok (.invokestatic 98, 3) := dk_184 0 98 (dk_at dksX0_copyDepth_0 15 rfl rfl)
theorem dX0_copyDepth_18 : decode cX0_copyDepth 18 = .ok (.ifCond .ne 6, 3) := dk_154 0 6 (dk_at dksX0_copyDepth_0 18 rfl rfl)
theorem dX0_copyDepth_21 : decode cX0_copyDepth 21 = .ok (.bipush (-11), 2) := dk_16 245 (dk_at dksX0_copyDepth_0 21 rfl rfl)
theorem dX0_copyDepth_23 : decode cX0_copyDepth 23 = .ok (.ireturn, 1) := dk_172 (dk_at dksX0_copyDepth_0 23 rfl rfl)
theorem dX0_copyDepth_24 : decode cX0_copyDepth 24 = .ok (.aload_n 0, 1) := dk_42 (dk_at dksX0_copyDepth_1 0 rfl rfl)
theorem dX0_copyDepth_25 : decode cX0_copyDepth 25 = .ok (.getfield 10, 3) := dk_180 0 10 (dk_at dksX0_copyDepth_1 1 rfl rfl)
theorem dX0_copyDepth_28 : decode cX0_copyDepth 28 = .ok (.getfield 147, 3) := dk_180 0 147 (dk_at dksX0_copyDepth_1 4 rfl rfl)
theorem dX0_copyDepth_31 : decode cX0_copyDepth 31 = .ok (.iload_n 1, 1) := dk_27 (dk_at dksX0_copyDepth_1 7 rfl rfl)
theorem dX0_copyDepth_32 : decode cX0_copyDepth 32 = .ok (.invokevirtual 86, 3) := dk_182 0 86 (dk_at dksX0_copyDepth_1 8 rfl rfl)
theorem dX0_copyDepth_35 : decode cX0_copyDepth 35 = .ok (.checkcast 164, 3) := dk_192 0 164 (dk_at dksX0_copyDepth_1 11 rfl rfl)
theorem dX0_copyDepth_38 : decode cX0_copyDepth 38 = .ok (.astore_n 3, 1) := dk_78 (dk_at dksX0_copyDepth_1 14 rfl rfl)
theorem dX0_copyDepth_39 : decode cX0_copyDepth 39 = .ok (.aload_n 3, 1) := dk_45 (dk_at dksX0_copyDepth_1 15 rfl rfl)
theorem dX0_copyDepth_40 : decode cX0_copyDepth 40 = .ok (.iload_n 2, 1) := dk_28 (dk_at dksX0_copyDepth_1 16 rfl rfl)
theorem dX0_copyDepth_41 : decode cX0_copyDepth 41 = .ok (.invokevirtual 170, 3) := dk_182 0 170 (dk_at dksX0_copyDepth_1 17 rfl rfl)
theorem dX0_copyDepth_44 : decode cX0_copyDepth 44 = .ok (.ifCond .eq 11, 3) := dk_153 0 11 (dk_at dksX0_copyDepth_1 20 rfl rfl)
theorem dX0_copyDepth_47 : decode cX0_copyDepth 47 = .ok (.aload_n 3, 1) := dk_45 (dk_at dksX0_copyDepth_1 23 rfl rfl)
theorem dX0_copyDepth_48 : decode cX0_copyDepth 48 = .ok (.iload_n 2, 1) := dk_28 (dk_at dksX0_copyDepth_2 0 rfl rfl)
theorem dX0_copyDepth_49 : decode cX0_copyDepth 49 = .ok (.invokevirtual 173, 3) := dk_182 0 173 (dk_at dksX0_copyDepth_2 1 rfl rfl)
theorem dX0_copyDepth_52 : decode cX0_copyDepth 52 = .ok (.goto 5, 3) := dk_167 0 5 (dk_at dksX0_copyDepth_2 4 rfl rfl)
theorem dX0_copyDepth_55 : decode cX0_copyDepth 55 = .ok (.bipush (-15), 2) := dk_16 241 (dk_at dksX0_copyDepth_2 7 rfl rfl)
theorem dX0_copyDepth_57 : decode cX0_copyDepth 57 = .ok (.ireturn, 1) := dk_172 (dk_at dksX0_copyDepth_2 9 rfl rfl)
abbrev cX0_wrong : ByteArray := prog_1_method_24_code
def yX0_wrong : MethodName := ⟨RX0, "wrong", "(I)I"⟩
def dkwX0_wrong_2 : List UInt8 := [192, 0, 177, 182, 0, 179, 172]
abbrev dktX0_wrong_2 : List UInt8 := dkwX0_wrong_2 ++ []
def dkwX0_wrong_1 : List UInt8 := [27, 182, 0, 86, 192, 0, 164, 77, 44, 42, 180, 0, 10, 180, 0, 122, 44, 180, 0, 174, 182, 0, 86]
abbrev dktX0_wrong_1 : List UInt8 := dkwX0_wrong_1 ++ dktX0_wrong_2
def dkwX0_wrong_0 : List UInt8 := [42, 180, 0, 10, 180, 0, 147, 27, 182, 0, 125, 154, 0, 6, 16, 245, 172, 42, 180, 0, 10, 180, 0, 147]
abbrev dktX0_wrong_0 : List UInt8 := dkwX0_wrong_0 ++ dktX0_wrong_1
theorem dksX0_wrong_0 : cX0_wrong.data.toList.drop 0 = dktX0_wrong_0 := by decide +kernel
theorem dksX0_wrong_1 : cX0_wrong.data.toList.drop 24 = dktX0_wrong_1 := dk_seg dksX0_wrong_0 24 rfl rfl
theorem dksX0_wrong_2 : cX0_wrong.data.toList.drop 47 = dktX0_wrong_2 := dk_seg dksX0_wrong_1 23 rfl rfl
theorem dX0_wrong_0 : decode cX0_wrong 0 = .ok (.aload_n 0, 1) := dk_42 (dk_at dksX0_wrong_0 0 rfl rfl)
theorem dX0_wrong_1 : decode cX0_wrong 1 = .ok (.getfield 10, 3) := dk_180 0 10 (dk_at dksX0_wrong_0 1 rfl rfl)
theorem dX0_wrong_4 : decode cX0_wrong 4 = .ok (.getfield 147, 3) := dk_180 0 147 (dk_at dksX0_wrong_0 4 rfl rfl)
theorem dX0_wrong_7 : decode cX0_wrong 7 = .ok (.iload_n 1, 1) := dk_27 (dk_at dksX0_wrong_0 7 rfl rfl)
theorem dX0_wrong_8 : decode cX0_wrong 8 = .ok (.invokevirtual 125, 3) := dk_182 0 125 (dk_at dksX0_wrong_0 8 rfl rfl)
theorem dX0_wrong_11 : decode cX0_wrong 11 = .ok (.ifCond .ne 6, 3) := dk_154 0 6 (dk_at dksX0_wrong_0 11 rfl rfl)
theorem dX0_wrong_14 : decode cX0_wrong 14 = .ok (.bipush (-11), 2) := dk_16 245 (dk_at dksX0_wrong_0 14 rfl rfl)
theorem dX0_wrong_16 : decode cX0_wrong 16 = .ok (.ireturn, 1) := dk_172 (dk_at dksX0_wrong_0 16 rfl rfl)
theorem dX0_wrong_17 : decode cX0_wrong 17 = .ok (.aload_n 0, 1) := dk_42 (dk_at dksX0_wrong_0 17 rfl rfl)
theorem dX0_wrong_18 : decode cX0_wrong 18 = .ok (.getfield 10, 3) := dk_180 0 10 (dk_at dksX0_wrong_0 18 rfl rfl)
theorem dX0_wrong_21 : decode cX0_wrong 21 = .ok (.getfield 147, 3) := dk_180 0 147 (dk_at dksX0_wrong_0 21 rfl rfl)
theorem dX0_wrong_24 : decode cX0_wrong 24 = .ok (.iload_n 1, 1) := dk_27 (dk_at dksX0_wrong_1 0 rfl rfl)
theorem dX0_wrong_25 : decode cX0_wrong 25 = .ok (.invokevirtual 86, 3) := dk_182 0 86 (dk_at dksX0_wrong_1 1 rfl rfl)
theorem dX0_wrong_28 : decode cX0_wrong 28 = .ok (.checkcast 164, 3) := dk_192 0 164 (dk_at dksX0_wrong_1 4 rfl rfl)
theorem dX0_wrong_31 : decode cX0_wrong 31 = .ok (.astore_n 2, 1) := dk_77 (dk_at dksX0_wrong_1 7 rfl rfl)
theorem dX0_wrong_32 : decode cX0_wrong 32 = .ok (.aload_n 2, 1) := dk_44 (dk_at dksX0_wrong_1 8 rfl rfl)
theorem dX0_wrong_33 : decode cX0_wrong 33 = .ok (.aload_n 0, 1) := dk_42 (dk_at dksX0_wrong_1 9 rfl rfl)
theorem dX0_wrong_34 : decode cX0_wrong 34 = .ok (.getfield 10, 3) := dk_180 0 10 (dk_at dksX0_wrong_1 10 rfl rfl)
theorem dX0_wrong_37 : decode cX0_wrong 37 = .ok (.getfield 122, 3) := dk_180 0 122 (dk_at dksX0_wrong_1 13 rfl rfl)
theorem dX0_wrong_40 : decode cX0_wrong 40 = .ok (.aload_n 2, 1) := dk_44 (dk_at dksX0_wrong_1 16 rfl rfl)
theorem dX0_wrong_41 : decode cX0_wrong 41 = .ok (.getfield 174, 3) := dk_180 0 174 (dk_at dksX0_wrong_1 17 rfl rfl)
theorem dX0_wrong_44 : decode cX0_wrong 44 = .ok (.invokevirtual 86, 3) := dk_182 0 86 (dk_at dksX0_wrong_1 20 rfl rfl)
theorem dX0_wrong_47 : decode cX0_wrong 47 = .ok (.checkcast 177, 3) := dk_192 0 177 (dk_at dksX0_wrong_2 0 rfl rfl)
theorem dX0_wrong_50 : decode cX0_wrong 50 = .ok (.invokevirtual 179, 3) := dk_182 0 179 (dk_at dksX0_wrong_2 3 rfl rfl)
theorem dX0_wrong_53 : decode cX0_wrong 53 = .ok (.ireturn, 1) := dk_172 (dk_at dksX0_wrong_2 6 rfl rfl)
abbrev cX0_wrongAgain : ByteArray := prog_1_method_25_code
def yX0_wrongAgain : MethodName := ⟨RX0, "wrongAgain", "(I)I"⟩
def dkwX0_wrongAgain_2 : List UInt8 := [192, 0, 177, 182, 0, 183, 172]
abbrev dktX0_wrongAgain_2 : List UInt8 := dkwX0_wrongAgain_2 ++ []
def dkwX0_wrongAgain_1 : List UInt8 := [27, 182, 0, 86, 192, 0, 164, 77, 44, 42, 180, 0, 10, 180, 0, 122, 44, 180, 0, 174, 182, 0, 86]
abbrev dktX0_wrongAgain_1 : List UInt8 := dkwX0_wrongAgain_1 ++ dktX0_wrongAgain_2
def dkwX0_wrongAgain_0 : List UInt8 := [42, 180, 0, 10, 180, 0, 147, 27, 182, 0, 125, 154, 0, 6, 16, 245, 172, 42, 180, 0, 10, 180, 0, 147]
abbrev dktX0_wrongAgain_0 : List UInt8 := dkwX0_wrongAgain_0 ++ dktX0_wrongAgain_1
theorem dksX0_wrongAgain_0 : cX0_wrongAgain.data.toList.drop 0 = dktX0_wrongAgain_0 := by decide +kernel
theorem dksX0_wrongAgain_1 : cX0_wrongAgain.data.toList.drop 24 = dktX0_wrongAgain_1 := dk_seg dksX0_wrongAgain_0 24 rfl rfl
theorem dksX0_wrongAgain_2 : cX0_wrongAgain.data.toList.drop 47 = dktX0_wrongAgain_2 := dk_seg dksX0_wrongAgain_1 23 rfl rfl
theorem dX0_wrongAgain_0 : decode cX0_wrongAgain 0 = .ok (.aload_n 0, 1) := dk_42 (dk_at dksX0_wrongAgain_0 0 rfl rfl)
theorem dX0_wrongAgain_1 : decode cX0_wrongAgain 1 = .ok (.getfield 10, 3) := dk_180 0 10 (dk_at dksX0_wrongAgain_0 1 rfl rfl)
theorem dX0_wrongAgain_4 : decode cX0_wrongAgain 4 = .ok (.getfield 147, 3) := dk_180 0 147 (dk_at dksX0_wrongAgain_0 4 rfl rfl)
theorem dX0_wrongAgain_7 : decode cX0_wrongAgain 7 = .ok (.iload_n 1, 1) := dk_27 (dk_at dksX0_wrongAgain_0 7 rfl rfl)
theorem dX0_wrongAgain_8 : decode cX0_wrongAgain 8 = .ok (.invokevirtual 125, 3) := dk_182 0 125 (dk_at dksX0_wrongAgain_0 8 rfl rfl)
theorem dX0_wrongAgain_11 : decode cX0_wrongAgain 11 = .ok (.ifCond .ne 6, 3) := dk_154 0 6 (dk_at dksX0_wrongAgain_0 11 rfl rfl)
theorem dX0_wrongAgain_14 : decode cX0_wrongAgain 14 = .ok (.bipush (-11), 2) := dk_16 245 (dk_at dksX0_wrongAgain_0 14 rfl rfl)
theorem dX0_wrongAgain_16 : decode cX0_wrongAgain 16 = .ok (.ireturn, 1) := dk_172 (dk_at dksX0_wrongAgain_0 16 rfl rfl)
theorem dX0_wrongAgain_17 : decode cX0_wrongAgain 17 = .ok (.aload_n 0, 1) := dk_42 (dk_at dksX0_wrongAgain_0 17 rfl rfl)
theorem dX0_wrongAgain_18 : decode cX0_wrongAgain 18 = .ok (.getfield 10, 3) := dk_180 0 10 (dk_at dksX0_wrongAgain_0 18 rfl rfl)
theorem dX0_wrongAgain_21 : decode cX0_wrongAgain 21 = .ok (.getfield 147, 3) := dk_180 0 147 (dk_at dksX0_wrongAgain_0 21 rfl rfl)
theorem dX0_wrongAgain_24 : decode cX0_wrongAgain 24 = .ok (.iload_n 1, 1) := dk_27 (dk_at dksX0_wrongAgain_1 0 rfl rfl)
theorem dX0_wrongAgain_25 : decode cX0_wrongAgain 25 = .ok (.invokevirtual 86, 3) := dk_182 0 86 (dk_at dksX0_wrongAgain_1 1 rfl rfl)
theorem dX0_wrongAgain_28 : decode cX0_wrongAgain 28 = .ok (.checkcast 164, 3) := dk_192 0 164 (dk_at dksX0_wrongAgain_1 4 rfl rfl)
theorem dX0_wrongAgain_31 : decode cX0_wrongAgain 31 = .ok (.astore_n 2, 1) := dk_77 (dk_at dksX0_wrongAgain_1 7 rfl rfl)
theorem dX0_wrongAgain_32 : decode cX0_wrongAgain 32 = .ok (.aload_n 2, 1) := dk_44 (dk_at dksX0_wrongAgain_1 8 rfl rfl)
theorem dX0_wrongAgain_33 : decode cX0_wrongAgain 33 = .ok (.aload_n 0, 1) := dk_42 (dk_at dksX0_wrongAgain_1 9 rfl rfl)
theorem dX0_wrongAgain_34 : decode cX0_wrongAgain 34 = .ok (.getfield 10, 3) := dk_180 0 10 (dk_at dksX0_wrongAgain_1 10 rfl rfl)
theorem dX0_wrongAgain_37 : decode cX0_wrongAgain 37 = .ok (.getfield 122, 3) := dk_180 0 122 (dk_at dksX0_wrongAgain_1 13 rfl rfl)
theorem dX0_wrongAgain_40 : decode cX0_wrongAgain 40 = .ok (.aload_n 2, 1) := dk_44 (dk_at dksX0_wrongAgain_1 16 rfl rfl)
theorem dX0_wrongAgain_41 : decode cX0_wrongAgain 41 = .ok (.getfield 174, 3) := dk_180 0 174 (dk_at dksX0_wrongAgain_1 17 rfl rfl)
theorem dX0_wrongAgain_44 : decode cX0_wrongAgain 44 = .ok (.invokevirtual 86, 3) := dk_182 0 86 (dk_at dksX0_wrongAgain_1 20 rfl rfl)
theorem dX0_wrongAgain_47 : decode cX0_wrongAgain 47 = .ok (.checkcast 177, 3) := dk_192 0 177 (dk_at dksX0_wrongAgain_2 0 rfl rfl)
theorem dX0_wrongAgain_50 : decode cX0_wrongAgain 50 = .ok (.invokevirtual 183, 3) := dk_182 0 183 (dk_at dksX0_wrongAgain_2 3 rfl rfl)
theorem dX0_wrongAgain_53 : decode cX0_wrongAgain 53 = .ok (.ireturn, 1) := dk_172 (dk_at dksX0_wrongAgain_2 6 rfl rfl)
abbrev cX0_down : ByteArray := prog_1_method_26_code
def yX0_down : MethodName := ⟨RX0, "down", "(I)I"⟩
def dkwX0_down_1 : List UInt8 := [27, 182, 0, 186, 182, 0, 111, 172, 78, 42, 45, 182, 0, 115, 172]
abbrev dktX0_down_1 : List UInt8 := dkwX0_down_1 ++ []
def dkwX0_down_0 : List UInt8 := [27, 184, 0, 78, 154, 0, 6, 16, 245, 172, 42, 180, 0, 10, 182, 0, 104, 77, 42, 44, 42, 180, 0, 10]
abbrev dktX0_down_0 : List UInt8 := dkwX0_down_0 ++ dktX0_down_1
theorem dksX0_down_0 : cX0_down.data.toList.drop 0 = dktX0_down_0 := by decide +kernel
theorem dksX0_down_1 : cX0_down.data.toList.drop 24 = dktX0_down_1 := dk_seg dksX0_down_0 24 rfl rfl
theorem dX0_down_0 : decode cX0_down 0 = .ok (.iload_n 1, 1) := dk_27 (dk_at dksX0_down_0 0 rfl rfl)
theorem dX0_down_1 : decode cX0_down 1 = .ok (.invokestatic 78, 3) := dk_184 0 78 (dk_at dksX0_down_0 1 rfl rfl)
theorem dX0_down_4 : decode cX0_down 4 = .ok (.ifCond .ne 6, 3) := dk_154 0 6 (dk_at dksX0_down_0 4 rfl rfl)
theorem dX0_down_7 : decode cX0_down 7 = .ok (.bipush (-11), 2) := dk_16 245 (dk_at dksX0_down_0 7 rfl rfl)
theorem dX0_down_9 : decode cX0_down 9 = .ok (.ireturn, 1) := dk_172 (dk_at dksX0_down_0 9 rfl rfl)
theorem dX0_down_10 : decode cX0_down 10 = .ok (.aload_n 0, 1) := dk_42 (dk_at dksX0_down_0 10 rfl rfl)
theorem dX0_down_11 : decode cX0_down 11 = .ok (.getfield 10, 3) := dk_180 0 10 (dk_at dksX0_down_0 11 rfl rfl)
theorem dX0_down_14 : decode cX0_down 14 = .ok (.invokevirtual 104, 3) := dk_182 0 104 (dk_at dksX0_down_0 14 rfl rfl)
theorem dX0_down_17 : decode cX0_down 17 = .ok (.astore_n 2, 1) := dk_77 (dk_at dksX0_down_0 17 rfl rfl)
theorem dX0_down_18 : decode cX0_down 18 = .ok (.aload_n 0, 1) := dk_42 (dk_at dksX0_down_0 18 rfl rfl)
theorem dX0_down_19 : decode cX0_down 19 = .ok (.aload_n 2, 1) := dk_44 (dk_at dksX0_down_0 19 rfl rfl)
theorem dX0_down_20 : decode cX0_down 20 = .ok (.aload_n 0, 1) := dk_42 (dk_at dksX0_down_0 20 rfl rfl)
theorem dX0_down_21 : decode cX0_down 21 = .ok (.getfield 10, 3) := dk_180 0 10 (dk_at dksX0_down_0 21 rfl rfl)
theorem dX0_down_24 : decode cX0_down 24 = .ok (.iload_n 1, 1) := dk_27 (dk_at dksX0_down_1 0 rfl rfl)
theorem dX0_down_25 : decode cX0_down 25 = .ok (.invokevirtual 186, 3) := dk_182 0 186 (dk_at dksX0_down_1 1 rfl rfl)
theorem dX0_down_28 : decode cX0_down 28 = .ok (.invokevirtual 111, 3) := dk_182 0 111 (dk_at dksX0_down_1 4 rfl rfl)
theorem dX0_down_31 : decode cX0_down 31 = .ok (.ireturn, 1) := dk_172 (dk_at dksX0_down_1 7 rfl rfl)
theorem dX0_down_32 : decode cX0_down 32 = .ok (.astore_n 3, 1) := dk_78 (dk_at dksX0_down_1 8 rfl rfl)
theorem dX0_down_33 : decode cX0_down 33 = .ok (.aload_n 0, 1) := dk_42 (dk_at dksX0_down_1 9 rfl rfl)
theorem dX0_down_34 : decode cX0_down 34 = .ok (.aload_n 3, 1) := dk_45 (dk_at dksX0_down_1 10 rfl rfl)
theorem dX0_down_35 : decode cX0_down 35 = .ok (.invokevirtual 115, 3) := dk_182 0 115 (dk_at dksX0_down_1 11 rfl rfl)
theorem dX0_down_38 : decode cX0_down 38 = .ok (.ireturn, 1) := dk_172 (dk_at dksX0_down_1 14 rfl rfl)
abbrev cX0_lift : ByteArray := prog_1_method_27_code
def yX0_lift : MethodName := ⟨RX0, "lift", "(I)I"⟩
def dkwX0_lift_1 : List UInt8 := [77, 42, 44, 42, 180, 0, 10, 27, 182, 0, 189, 182, 0, 111, 172, 78, 42, 45, 182, 0, 115, 172]
abbrev dktX0_lift_1 : List UInt8 := dkwX0_lift_1 ++ []
def dkwX0_lift_0 : List UInt8 := [42, 180, 0, 10, 180, 0, 147, 27, 182, 0, 125, 154, 0, 6, 16, 245, 172, 42, 180, 0, 10, 182, 0, 104]
abbrev dktX0_lift_0 : List UInt8 := dkwX0_lift_0 ++ dktX0_lift_1
theorem dksX0_lift_0 : cX0_lift.data.toList.drop 0 = dktX0_lift_0 := by decide +kernel
theorem dksX0_lift_1 : cX0_lift.data.toList.drop 24 = dktX0_lift_1 := dk_seg dksX0_lift_0 24 rfl rfl
theorem dX0_lift_0 : decode cX0_lift 0 = .ok (.aload_n 0, 1) := dk_42 (dk_at dksX0_lift_0 0 rfl rfl)
theorem dX0_lift_1 : decode cX0_lift 1 = .ok (.getfield 10, 3) := dk_180 0 10 (dk_at dksX0_lift_0 1 rfl rfl)
theorem dX0_lift_4 : decode cX0_lift 4 = .ok (.getfield 147, 3) := dk_180 0 147 (dk_at dksX0_lift_0 4 rfl rfl)
theorem dX0_lift_7 : decode cX0_lift 7 = .ok (.iload_n 1, 1) := dk_27 (dk_at dksX0_lift_0 7 rfl rfl)
theorem dX0_lift_8 : decode cX0_lift 8 = .ok (.invokevirtual 125, 3) := dk_182 0 125 (dk_at dksX0_lift_0 8 rfl rfl)
theorem dX0_lift_11 : decode cX0_lift 11 = .ok (.ifCond .ne 6, 3) := dk_154 0 6 (dk_at dksX0_lift_0 11 rfl rfl)
theorem dX0_lift_14 : decode cX0_lift 14 = .ok (.bipush (-11), 2) := dk_16 245 (dk_at dksX0_lift_0 14 rfl rfl)
theorem dX0_lift_16 : decode cX0_lift 16 = .ok (.ireturn, 1) := dk_172 (dk_at dksX0_lift_0 16 rfl rfl)
theorem dX0_lift_17 : decode cX0_lift 17 = .ok (.aload_n 0, 1) := dk_42 (dk_at dksX0_lift_0 17 rfl rfl)
theorem dX0_lift_18 : decode cX0_lift 18 = .ok (.getfield 10, 3) := dk_180 0 10 (dk_at dksX0_lift_0 18 rfl rfl)
theorem dX0_lift_21 : decode cX0_lift 21 = .ok (.invokevirtual 104, 3) := dk_182 0 104 (dk_at dksX0_lift_0 21 rfl rfl)
theorem dX0_lift_24 : decode cX0_lift 24 = .ok (.astore_n 2, 1) := dk_77 (dk_at dksX0_lift_1 0 rfl rfl)
theorem dX0_lift_25 : decode cX0_lift 25 = .ok (.aload_n 0, 1) := dk_42 (dk_at dksX0_lift_1 1 rfl rfl)
theorem dX0_lift_26 : decode cX0_lift 26 = .ok (.aload_n 2, 1) := dk_44 (dk_at dksX0_lift_1 2 rfl rfl)
theorem dX0_lift_27 : decode cX0_lift 27 = .ok (.aload_n 0, 1) := dk_42 (dk_at dksX0_lift_1 3 rfl rfl)
theorem dX0_lift_28 : decode cX0_lift 28 = .ok (.getfield 10, 3) := dk_180 0 10 (dk_at dksX0_lift_1 4 rfl rfl)
theorem dX0_lift_31 : decode cX0_lift 31 = .ok (.iload_n 1, 1) := dk_27 (dk_at dksX0_lift_1 7 rfl rfl)
theorem dX0_lift_32 : decode cX0_lift 32 = .ok (.invokevirtual 189, 3) := dk_182 0 189 (dk_at dksX0_lift_1 8 rfl rfl)
theorem dX0_lift_35 : decode cX0_lift 35 = .ok (.invokevirtual 111, 3) := dk_182 0 111 (dk_at dksX0_lift_1 11 rfl rfl)
theorem dX0_lift_38 : decode cX0_lift 38 = .ok (.ireturn, 1) := dk_172 (dk_at dksX0_lift_1 14 rfl rfl)
theorem dX0_lift_39 : decode cX0_lift 39 = .ok (.astore_n 3, 1) := dk_78 (dk_at dksX0_lift_1 15 rfl rfl)
theorem dX0_lift_40 : decode cX0_lift 40 = .ok (.aload_n 0, 1) := dk_42 (dk_at dksX0_lift_1 16 rfl rfl)
theorem dX0_lift_41 : decode cX0_lift 41 = .ok (.aload_n 3, 1) := dk_45 (dk_at dksX0_lift_1 17 rfl rfl)
theorem dX0_lift_42 : decode cX0_lift 42 = .ok (.invokevirtual 115, 3) := dk_182 0 115 (dk_at dksX0_lift_1 18 rfl rfl)
theorem dX0_lift_45 : decode cX0_lift 45 = .ok (.ireturn, 1) := dk_172 (dk_at dksX0_lift_1 21 rfl rfl)
abbrev cX0_drive : ByteArray := prog_1_method_28_code
def yX0_drive : MethodName := ⟨RX0, "drive", "(I)I"⟩
def dkwX0_drive_1 : List UInt8 := [27, 182, 0, 192, 182, 0, 111, 172, 78, 42, 45, 182, 0, 115, 172]
abbrev dktX0_drive_1 : List UInt8 := dkwX0_drive_1 ++ []
def dkwX0_drive_0 : List UInt8 := [27, 184, 0, 78, 154, 0, 6, 16, 245, 172, 42, 180, 0, 10, 182, 0, 104, 77, 42, 44, 42, 180, 0, 10]
abbrev dktX0_drive_0 : List UInt8 := dkwX0_drive_0 ++ dktX0_drive_1
theorem dksX0_drive_0 : cX0_drive.data.toList.drop 0 = dktX0_drive_0 := by decide +kernel
theorem dksX0_drive_1 : cX0_drive.data.toList.drop 24 = dktX0_drive_1 := dk_seg dksX0_drive_0 24 rfl rfl
theorem dX0_drive_0 : decode cX0_drive 0 = .ok (.iload_n 1, 1) := dk_27 (dk_at dksX0_drive_0 0 rfl rfl)
theorem dX0_drive_1 : decode cX0_drive 1 = .ok (.invokestatic 78, 3) := dk_184 0 78 (dk_at dksX0_drive_0 1 rfl rfl)
theorem dX0_drive_4 : decode cX0_drive 4 = .ok (.ifCond .ne 6, 3) := dk_154 0 6 (dk_at dksX0_drive_0 4 rfl rfl)
theorem dX0_drive_7 : decode cX0_drive 7 = .ok (.bipush (-11), 2) := dk_16 245 (dk_at dksX0_drive_0 7 rfl rfl)
theorem dX0_drive_9 : decode cX0_drive 9 = .ok (.ireturn, 1) := dk_172 (dk_at dksX0_drive_0 9 rfl rfl)
theorem dX0_drive_10 : decode cX0_drive 10 = .ok (.aload_n 0, 1) := dk_42 (dk_at dksX0_drive_0 10 rfl rfl)
theorem dX0_drive_11 : decode cX0_drive 11 = .ok (.getfield 10, 3) := dk_180 0 10 (dk_at dksX0_drive_0 11 rfl rfl)
theorem dX0_drive_14 : decode cX0_drive 14 = .ok (.invokevirtual 104, 3) := dk_182 0 104 (dk_at dksX0_drive_0 14 rfl rfl)
theorem dX0_drive_17 : decode cX0_drive 17 = .ok (.astore_n 2, 1) := dk_77 (dk_at dksX0_drive_0 17 rfl rfl)
theorem dX0_drive_18 : decode cX0_drive 18 = .ok (.aload_n 0, 1) := dk_42 (dk_at dksX0_drive_0 18 rfl rfl)
theorem dX0_drive_19 : decode cX0_drive 19 = .ok (.aload_n 2, 1) := dk_44 (dk_at dksX0_drive_0 19 rfl rfl)
theorem dX0_drive_20 : decode cX0_drive 20 = .ok (.aload_n 0, 1) := dk_42 (dk_at dksX0_drive_0 20 rfl rfl)
theorem dX0_drive_21 : decode cX0_drive 21 = .ok (.getfield 10, 3) := dk_180 0 10 (dk_at dksX0_drive_0 21 rfl rfl)
theorem dX0_drive_24 : decode cX0_drive 24 = .ok (.iload_n 1, 1) := dk_27 (dk_at dksX0_drive_1 0 rfl rfl)
theorem dX0_drive_25 : decode cX0_drive 25 = .ok (.invokevirtual 192, 3) := dk_182 0 192 (dk_at dksX0_drive_1 1 rfl rfl)
theorem dX0_drive_28 : decode cX0_drive 28 = .ok (.invokevirtual 111, 3) := dk_182 0 111 (dk_at dksX0_drive_1 4 rfl rfl)
theorem dX0_drive_31 : decode cX0_drive 31 = .ok (.ireturn, 1) := dk_172 (dk_at dksX0_drive_1 7 rfl rfl)
theorem dX0_drive_32 : decode cX0_drive 32 = .ok (.astore_n 3, 1) := dk_78 (dk_at dksX0_drive_1 8 rfl rfl)
theorem dX0_drive_33 : decode cX0_drive 33 = .ok (.aload_n 0, 1) := dk_42 (dk_at dksX0_drive_1 9 rfl rfl)
theorem dX0_drive_34 : decode cX0_drive 34 = .ok (.aload_n 3, 1) := dk_45 (dk_at dksX0_drive_1 10 rfl rfl)
theorem dX0_drive_35 : decode cX0_drive 35 = .ok (.invokevirtual 115, 3) := dk_182 0 115 (dk_at dksX0_drive_1 11 rfl rfl)
theorem dX0_drive_38 : decode cX0_drive 38 = .ok (.ireturn, 1) := dk_172 (dk_at dksX0_drive_1 14 rfl rfl)
abbrev cX0_sky : ByteArray := prog_1_method_30_code
def yX0_sky : MethodName := ⟨RX0, "sky", "(II)I"⟩
def dkwX0_sky_1 : List UInt8 := [180, 0, 10, 27, 28, 182, 0, 199, 182, 0, 111, 172]
abbrev dktX0_sky_1 : List UInt8 := dkwX0_sky_1 ++ []
def dkwX0_sky_0 : List UInt8 := [27, 28, 184, 0, 195, 154, 0, 6, 16, 244, 172, 42, 180, 0, 10, 182, 0, 104, 78, 42, 45, 42]
abbrev dktX0_sky_0 : List UInt8 := dkwX0_sky_0 ++ dktX0_sky_1
theorem dksX0_sky_0 : cX0_sky.data.toList.drop 0 = dktX0_sky_0 := by decide +kernel
theorem dksX0_sky_1 : cX0_sky.data.toList.drop 22 = dktX0_sky_1 := dk_seg dksX0_sky_0 22 rfl rfl
theorem dX0_sky_0 : decode cX0_sky 0 = .ok (.iload_n 1, 1) := dk_27 (dk_at dksX0_sky_0 0 rfl rfl)
theorem dX0_sky_1 : decode cX0_sky 1 = .ok (.iload_n 2, 1) := dk_28 (dk_at dksX0_sky_0 1 rfl rfl)
theorem dX0_sky_2 : decode cX0_sky 2 = .ok (.invokestatic 195, 3) := dk_184 0 195 (dk_at dksX0_sky_0 2 rfl rfl)
theorem dX0_sky_5 : decode cX0_sky 5 = .ok (.ifCond .ne 6, 3) := dk_154 0 6 (dk_at dksX0_sky_0 5 rfl rfl)
theorem dX0_sky_8 : decode cX0_sky 8 = .ok (.bipush (-12), 2) := dk_16 244 (dk_at dksX0_sky_0 8 rfl rfl)
theorem dX0_sky_10 : decode cX0_sky 10 = .ok (.ireturn, 1) := dk_172 (dk_at dksX0_sky_0 10 rfl rfl)
theorem dX0_sky_11 : decode cX0_sky 11 = .ok (.aload_n 0, 1) := dk_42 (dk_at dksX0_sky_0 11 rfl rfl)
theorem dX0_sky_12 : decode cX0_sky 12 = .ok (.getfield 10, 3) := dk_180 0 10 (dk_at dksX0_sky_0 12 rfl rfl)
theorem dX0_sky_15 : decode cX0_sky 15 = .ok (.invokevirtual 104, 3) := dk_182 0 104 (dk_at dksX0_sky_0 15 rfl rfl)
theorem dX0_sky_18 : decode cX0_sky 18 = .ok (.astore_n 3, 1) := dk_78 (dk_at dksX0_sky_0 18 rfl rfl)
theorem dX0_sky_19 : decode cX0_sky 19 = .ok (.aload_n 0, 1) := dk_42 (dk_at dksX0_sky_0 19 rfl rfl)
theorem dX0_sky_20 : decode cX0_sky 20 = .ok (.aload_n 3, 1) := dk_45 (dk_at dksX0_sky_0 20 rfl rfl)
theorem dX0_sky_21 : decode cX0_sky 21 = .ok (.aload_n 0, 1) := dk_42 (dk_at dksX0_sky_0 21 rfl rfl)
theorem dX0_sky_22 : decode cX0_sky 22 = .ok (.getfield 10, 3) := dk_180 0 10 (dk_at dksX0_sky_1 0 rfl rfl)
theorem dX0_sky_25 : decode cX0_sky 25 = .ok (.iload_n 1, 1) := dk_27 (dk_at dksX0_sky_1 3 rfl rfl)
theorem dX0_sky_26 : decode cX0_sky 26 = .ok (.iload_n 2, 1) := dk_28 (dk_at dksX0_sky_1 4 rfl rfl)
theorem dX0_sky_27 : decode cX0_sky 27 = .ok (.invokevirtual 199, 3) := dk_182 0 199 (dk_at dksX0_sky_1 5 rfl rfl)
theorem dX0_sky_30 : decode cX0_sky 30 = .ok (.invokevirtual 111, 3) := dk_182 0 111 (dk_at dksX0_sky_1 8 rfl rfl)
theorem dX0_sky_33 : decode cX0_sky 33 = .ok (.ireturn, 1) := dk_172 (dk_at dksX0_sky_1 11 rfl rfl)
abbrev cX0_isSky : ByteArray := prog_1_method_29_code
def yX0_isSky : MethodName := ⟨RX0, "isSky", "(II)Z"⟩
def dkwX0_isSky_1 : List UInt8 := [3, 172]
abbrev dktX0_isSky_1 : List UInt8 := dkwX0_isSky_1 ++ []
def dkwX0_isSky_0 : List UInt8 := [26, 3, 16, 9, 184, 0, 48, 153, 0, 17, 27, 3, 16, 9, 184, 0, 48, 153, 0, 7, 4, 167, 0, 4]
abbrev dktX0_isSky_0 : List UInt8 := dkwX0_isSky_0 ++ dktX0_isSky_1
theorem dksX0_isSky_0 : cX0_isSky.data.toList.drop 0 = dktX0_isSky_0 := by decide +kernel
theorem dksX0_isSky_1 : cX0_isSky.data.toList.drop 24 = dktX0_isSky_1 := dk_seg dksX0_isSky_0 24 rfl rfl
theorem dX0_isSky_0 : decode cX0_isSky 0 = .ok (.iload_n 0, 1) := dk_26 (dk_at dksX0_isSky_0 0 rfl rfl)
theorem dX0_isSky_1 : decode cX0_isSky 1 = .ok (.iconst 0, 1) := dk_3 (dk_at dksX0_isSky_0 1 rfl rfl)
theorem dX0_isSky_2 : decode cX0_isSky 2 = .ok (.bipush 9, 2) := dk_16 9 (dk_at dksX0_isSky_0 2 rfl rfl)
theorem dX0_isSky_4 : decode cX0_isSky 4 = .ok (.invokestatic 48, 3) := dk_184 0 48 (dk_at dksX0_isSky_0 4 rfl rfl)
theorem dX0_isSky_7 : decode cX0_isSky 7 = .ok (.ifCond .eq 17, 3) := dk_153 0 17 (dk_at dksX0_isSky_0 7 rfl rfl)
theorem dX0_isSky_10 : decode cX0_isSky 10 = .ok (.iload_n 1, 1) := dk_27 (dk_at dksX0_isSky_0 10 rfl rfl)
theorem dX0_isSky_11 : decode cX0_isSky 11 = .ok (.iconst 0, 1) := dk_3 (dk_at dksX0_isSky_0 11 rfl rfl)
theorem dX0_isSky_12 : decode cX0_isSky 12 = .ok (.bipush 9, 2) := dk_16 9 (dk_at dksX0_isSky_0 12 rfl rfl)
theorem dX0_isSky_14 : decode cX0_isSky 14 = .ok (.invokestatic 48, 3) := dk_184 0 48 (dk_at dksX0_isSky_0 14 rfl rfl)
theorem dX0_isSky_17 : decode cX0_isSky 17 = .ok (.ifCond .eq 7, 3) := dk_153 0 7 (dk_at dksX0_isSky_0 17 rfl rfl)
theorem dX0_isSky_20 : decode cX0_isSky 20 = .ok (.iconst 1, 1) := dk_4 (dk_at dksX0_isSky_0 20 rfl rfl)
theorem dX0_isSky_21 : decode cX0_isSky 21 = .ok (.goto 4, 3) := dk_167 0 4 (dk_at dksX0_isSky_0 21 rfl rfl)
theorem dX0_isSky_24 : decode cX0_isSky 24 = .ok (.iconst 0, 1) := dk_3 (dk_at dksX0_isSky_1 0 rfl rfl)
theorem dX0_isSky_25 : decode cX0_isSky 25 = .ok (.ireturn, 1) := dk_172 (dk_at dksX0_isSky_1 1 rfl rfl)
abbrev cX0_hours : ByteArray := prog_1_method_32_code
def yX0_hours : MethodName := ⟨RX0, "hours", "(I)I"⟩
def dkwX0_hours_1 : List UInt8 := [27, 182, 0, 206, 182, 0, 111, 172]
abbrev dktX0_hours_1 : List UInt8 := dkwX0_hours_1 ++ []
def dkwX0_hours_0 : List UInt8 := [27, 184, 0, 203, 154, 0, 6, 16, 244, 172, 42, 180, 0, 10, 182, 0, 104, 77, 42, 44, 42, 180, 0, 10]
abbrev dktX0_hours_0 : List UInt8 := dkwX0_hours_0 ++ dktX0_hours_1
theorem dksX0_hours_0 : cX0_hours.data.toList.drop 0 = dktX0_hours_0 := by decide +kernel
theorem dksX0_hours_1 : cX0_hours.data.toList.drop 24 = dktX0_hours_1 := dk_seg dksX0_hours_0 24 rfl rfl
theorem dX0_hours_0 : decode cX0_hours 0 = .ok (.iload_n 1, 1) := dk_27 (dk_at dksX0_hours_0 0 rfl rfl)
theorem dX0_hours_1 : decode cX0_hours 1 = .ok (.invokestatic 203, 3) := dk_184 0 203 (dk_at dksX0_hours_0 1 rfl rfl)
theorem dX0_hours_4 : decode cX0_hours 4 = .ok (.ifCond .ne 6, 3) := dk_154 0 6 (dk_at dksX0_hours_0 4 rfl rfl)
theorem dX0_hours_7 : decode cX0_hours 7 = .ok (.bipush (-12), 2) := dk_16 244 (dk_at dksX0_hours_0 7 rfl rfl)
theorem dX0_hours_9 : decode cX0_hours 9 = .ok (.ireturn, 1) := dk_172 (dk_at dksX0_hours_0 9 rfl rfl)
theorem dX0_hours_10 : decode cX0_hours 10 = .ok (.aload_n 0, 1) := dk_42 (dk_at dksX0_hours_0 10 rfl rfl)
theorem dX0_hours_11 : decode cX0_hours 11 = .ok (.getfield 10, 3) := dk_180 0 10 (dk_at dksX0_hours_0 11 rfl rfl)
theorem dX0_hours_14 : decode cX0_hours 14 = .ok (.invokevirtual 104, 3) := dk_182 0 104 (dk_at dksX0_hours_0 14 rfl rfl)
theorem dX0_hours_17 : decode cX0_hours 17 = .ok (.astore_n 2, 1) := dk_77 (dk_at dksX0_hours_0 17 rfl rfl)
theorem dX0_hours_18 : decode cX0_hours 18 = .ok (.aload_n 0, 1) := dk_42 (dk_at dksX0_hours_0 18 rfl rfl)
theorem dX0_hours_19 : decode cX0_hours 19 = .ok (.aload_n 2, 1) := dk_44 (dk_at dksX0_hours_0 19 rfl rfl)
theorem dX0_hours_20 : decode cX0_hours 20 = .ok (.aload_n 0, 1) := dk_42 (dk_at dksX0_hours_0 20 rfl rfl)
theorem dX0_hours_21 : decode cX0_hours 21 = .ok (.getfield 10, 3) := dk_180 0 10 (dk_at dksX0_hours_0 21 rfl rfl)
theorem dX0_hours_24 : decode cX0_hours 24 = .ok (.iload_n 1, 1) := dk_27 (dk_at dksX0_hours_1 0 rfl rfl)
theorem dX0_hours_25 : decode cX0_hours 25 = .ok (.invokevirtual 206, 3) := dk_182 0 206 (dk_at dksX0_hours_1 1 rfl rfl)
theorem dX0_hours_28 : decode cX0_hours 28 = .ok (.invokevirtual 111, 3) := dk_182 0 111 (dk_at dksX0_hours_1 4 rfl rfl)
theorem dX0_hours_31 : decode cX0_hours 31 = .ok (.ireturn, 1) := dk_172 (dk_at dksX0_hours_1 7 rfl rfl)
abbrev cX0_areHours : ByteArray := prog_1_method_31_code
def yX0_areHours : MethodName := ⟨RX0, "areHours", "(I)Z"⟩
def dkwX0_areHours_0 : List UInt8 := [26, 4, 16, 72, 184, 0, 48, 172]
abbrev dktX0_areHours_0 : List UInt8 := dkwX0_areHours_0 ++ []
theorem dksX0_areHours_0 : cX0_areHours.data.toList.drop 0 = dktX0_areHours_0 := by decide +kernel
theorem dX0_areHours_0 : decode cX0_areHours 0 = .ok (.iload_n 0, 1) := dk_26 (dk_at dksX0_areHours_0 0 rfl rfl)
theorem dX0_areHours_1 : decode cX0_areHours 1 = .ok (.iconst 1, 1) := dk_4 (dk_at dksX0_areHours_0 1 rfl rfl)
theorem dX0_areHours_2 : decode cX0_areHours 2 = .ok (.bipush 72, 2) := dk_16 72 (dk_at dksX0_areHours_0 2 rfl rfl)
theorem dX0_areHours_4 : decode cX0_areHours 4 = .ok (.invokestatic 48, 3) := dk_184 0 48 (dk_at dksX0_areHours_0 4 rfl rfl)
theorem dX0_areHours_7 : decode cX0_areHours 7 = .ok (.ireturn, 1) := dk_172 (dk_at dksX0_areHours_0 7 rfl rfl)
abbrev cX0_wornIn : ByteArray := prog_1_method_33_code
def yX0_wornIn : MethodName := ⟨RX0, "wornIn", "(I)I"⟩
def dkwX0_wornIn_1 : List UInt8 := [192, 0, 92, 182, 0, 209, 167, 0, 5, 16, 245, 172]
abbrev dktX0_wornIn_1 : List UInt8 := dkwX0_wornIn_1 ++ []
def dkwX0_wornIn_0 : List UInt8 := [27, 184, 0, 78, 153, 0, 27, 42, 180, 0, 10, 42, 180, 0, 10, 180, 0, 82, 27, 182, 0, 86]
abbrev dktX0_wornIn_0 : List UInt8 := dkwX0_wornIn_0 ++ dktX0_wornIn_1
theorem dksX0_wornIn_0 : cX0_wornIn.data.toList.drop 0 = dktX0_wornIn_0 := by decide +kernel
theorem dksX0_wornIn_1 : cX0_wornIn.data.toList.drop 22 = dktX0_wornIn_1 := dk_seg dksX0_wornIn_0 22 rfl rfl
theorem dX0_wornIn_0 : decode cX0_wornIn 0 = .ok (.iload_n 1, 1) := dk_27 (dk_at dksX0_wornIn_0 0 rfl rfl)
theorem dX0_wornIn_1 : decode cX0_wornIn 1 = .ok (.invokestatic 78, 3) := dk_184 0 78 (dk_at dksX0_wornIn_0 1 rfl rfl)
theorem dX0_wornIn_4 : decode cX0_wornIn 4 = .ok (.ifCond .eq 27, 3) := dk_153 0 27 (dk_at dksX0_wornIn_0 4 rfl rfl)
theorem dX0_wornIn_7 : decode cX0_wornIn 7 = .ok (.aload_n 0, 1) := dk_42 (dk_at dksX0_wornIn_0 7 rfl rfl)
theorem dX0_wornIn_8 : decode cX0_wornIn 8 = .ok (.getfield 10, 3) := dk_180 0 10 (dk_at dksX0_wornIn_0 8 rfl rfl)
theorem dX0_wornIn_11 : decode cX0_wornIn 11 = .ok (.aload_n 0, 1) := dk_42 (dk_at dksX0_wornIn_0 11 rfl rfl)
theorem dX0_wornIn_12 : decode cX0_wornIn 12 = .ok (.getfield 10, 3) := dk_180 0 10 (dk_at dksX0_wornIn_0 12 rfl rfl)
theorem dX0_wornIn_15 : decode cX0_wornIn 15 = .ok (.getfield 82, 3) := dk_180 0 82 (dk_at dksX0_wornIn_0 15 rfl rfl)
theorem dX0_wornIn_18 : decode cX0_wornIn 18 = .ok (.iload_n 1, 1) := dk_27 (dk_at dksX0_wornIn_0 18 rfl rfl)
theorem dX0_wornIn_19 : decode cX0_wornIn 19 = .ok (.invokevirtual 86, 3) := dk_182 0 86 (dk_at dksX0_wornIn_0 19 rfl rfl)
theorem dX0_wornIn_22 : decode cX0_wornIn 22 = .ok (.checkcast 92, 3) := dk_192 0 92 (dk_at dksX0_wornIn_1 0 rfl rfl)
theorem dX0_wornIn_25 : decode cX0_wornIn 25 = .ok (.invokevirtual 209, 3) := dk_182 0 209 (dk_at dksX0_wornIn_1 3 rfl rfl)
theorem dX0_wornIn_28 : decode cX0_wornIn 28 = .ok (.goto 5, 3) := dk_167 0 5 (dk_at dksX0_wornIn_1 6 rfl rfl)
theorem dX0_wornIn_31 : decode cX0_wornIn 31 = .ok (.bipush (-11), 2) := dk_16 245 (dk_at dksX0_wornIn_1 9 rfl rfl)
theorem dX0_wornIn_33 : decode cX0_wornIn 33 = .ok (.ireturn, 1) := dk_172 (dk_at dksX0_wornIn_1 11 rfl rfl)
abbrev cX0_append : ByteArray := prog_1_method_34_code
def yX0_append : MethodName := ⟨RX0, "append", "(I)I"⟩
def dkwX0_append_1 : List UInt8 := [160, 0, 6, 16, 243, 172, 42, 180, 0, 32, 27, 146, 182, 0, 216, 87, 42, 180, 0, 32, 182, 0, 213, 172]
abbrev dktX0_append_1 : List UInt8 := dkwX0_append_1 ++ []
def dkwX0_append_0 : List UInt8 := [27, 16, 32, 16, 126, 184, 0, 48, 154, 0, 6, 16, 244, 172, 42, 180, 0, 32, 182, 0, 213, 16, 60]
abbrev dktX0_append_0 : List UInt8 := dkwX0_append_0 ++ dktX0_append_1
theorem dksX0_append_0 : cX0_append.data.toList.drop 0 = dktX0_append_0 := by decide +kernel
theorem dksX0_append_1 : cX0_append.data.toList.drop 23 = dktX0_append_1 := dk_seg dksX0_append_0 23 rfl rfl
theorem dX0_append_0 : decode cX0_append 0 = .ok (.iload_n 1, 1) := dk_27 (dk_at dksX0_append_0 0 rfl rfl)
theorem dX0_append_1 : decode cX0_append 1 = .ok (.bipush 32, 2) := dk_16 32 (dk_at dksX0_append_0 1 rfl rfl)
theorem dX0_append_3 : decode cX0_append 3 = .ok (.bipush 126, 2) := dk_16 126 (dk_at dksX0_append_0 3 rfl rfl)
theorem dX0_append_5 : decode cX0_append 5 = .ok (.invokestatic 48, 3) := dk_184 0 48 (dk_at dksX0_append_0 5 rfl rfl)
theorem dX0_append_8 : decode cX0_append 8 = .ok (.ifCond .ne 6, 3) := dk_154 0 6 (dk_at dksX0_append_0 8 rfl rfl)
theorem dX0_append_11 : decode cX0_append 11 = .ok (.bipush (-12), 2) := dk_16 244 (dk_at dksX0_append_0 11 rfl rfl)
theorem dX0_append_13 : decode cX0_append 13 = .ok (.ireturn, 1) := dk_172 (dk_at dksX0_append_0 13 rfl rfl)
theorem dX0_append_14 : decode cX0_append 14 = .ok (.aload_n 0, 1) := dk_42 (dk_at dksX0_append_0 14 rfl rfl)
theorem dX0_append_15 : decode cX0_append 15 = .ok (.getfield 32, 3) := dk_180 0 32 (dk_at dksX0_append_0 15 rfl rfl)
theorem dX0_append_18 : decode cX0_append 18 = .ok (.invokevirtual 213, 3) := dk_182 0 213 (dk_at dksX0_append_0 18 rfl rfl)
theorem dX0_append_21 : decode cX0_append 21 = .ok (.bipush 60, 2) := dk_16 60 (dk_at dksX0_append_0 21 rfl rfl)
theorem dX0_append_23 : decode cX0_append 23 = .ok (.if_icmp .ne 6, 3) := dk_160 0 6 (dk_at dksX0_append_1 0 rfl rfl)
theorem dX0_append_26 : decode cX0_append 26 = .ok (.bipush (-13), 2) := dk_16 243 (dk_at dksX0_append_1 3 rfl rfl)
theorem dX0_append_28 : decode cX0_append 28 = .ok (.ireturn, 1) := dk_172 (dk_at dksX0_append_1 5 rfl rfl)
theorem dX0_append_29 : decode cX0_append 29 = .ok (.aload_n 0, 1) := dk_42 (dk_at dksX0_append_1 6 rfl rfl)
theorem dX0_append_30 : decode cX0_append 30 = .ok (.getfield 32, 3) := dk_180 0 32 (dk_at dksX0_append_1 7 rfl rfl)
theorem dX0_append_33 : decode cX0_append 33 = .ok (.iload_n 1, 1) := dk_27 (dk_at dksX0_append_1 10 rfl rfl)
theorem dX0_append_34 : decode cX0_append 34 = .ok (.i2c, 1) := dk_146 (dk_at dksX0_append_1 11 rfl rfl)
theorem dX0_append_35 : decode cX0_append 35 = .ok (.invokevirtual 216, 3) := dk_182 0 216 (dk_at dksX0_append_1 12 rfl rfl)
theorem dX0_append_38 : decode cX0_append 38 = .ok (.pop, 1) := dk_87 (dk_at dksX0_append_1 15 rfl rfl)
theorem dX0_append_39 : decode cX0_append 39 = .ok (.aload_n 0, 1) := dk_42 (dk_at dksX0_append_1 16 rfl rfl)
theorem dX0_append_40 : decode cX0_append 40 = .ok (.getfield 32, 3) := dk_180 0 32 (dk_at dksX0_append_1 17 rfl rfl)
theorem dX0_append_43 : decode cX0_append 43 = .ok (.invokevirtual 213, 3) := dk_182 0 213 (dk_at dksX0_append_1 20 rfl rfl)
theorem dX0_append_46 : decode cX0_append 46 = .ok (.ireturn, 1) := dk_172 (dk_at dksX0_append_1 23 rfl rfl)
abbrev cX0_run : ByteArray := prog_1_method_35_code
def yX0_run : MethodName := ⟨RX0, "run", "()I"⟩
def dkwX0_run_6 : List UInt8 := [42, 180, 0, 32, 3, 182, 0, 245, 25, 5, 191]
abbrev dktX0_run_6 : List UInt8 := dkwX0_run_6 ++ []
def dkwX0_run_5 : List UInt8 := [182, 0, 245, 28, 172, 76, 42, 43, 182, 0, 115, 61, 42, 180, 0, 32, 3, 182, 0, 245, 28, 172, 58, 5]
abbrev dktX0_run_5 : List UInt8 := dkwX0_run_5 ++ dktX0_run_6
def dkwX0_run_4 : List UInt8 := [3, 182, 0, 245, 21, 4, 172, 76, 17, 252, 24, 43, 180, 0, 251, 100, 61, 42, 180, 0, 32, 3]
abbrev dktX0_run_4 : List UInt8 := dkwX0_run_4 ++ dktX0_run_5
def dkwX0_run_3 : List UInt8 := [180, 0, 10, 78, 42, 44, 181, 0, 10, 42, 45, 43, 182, 0, 229, 182, 0, 111, 54, 4, 42, 180, 0, 32]
abbrev dktX0_run_3 : List UInt8 := dkwX0_run_3 ++ dktX0_run_4
def dkwX0_run_2 : List UInt8 := [182, 0, 237, 154, 0, 7, 4, 167, 0, 4, 3, 16, 15, 29, 184, 0, 241, 132, 3, 1, 167, 255, 215, 42]
abbrev dktX0_run_2 : List UInt8 := dkwX0_run_2 ++ dktX0_run_3
def dkwX0_run_1 : List UInt8 := [62, 29, 43, 182, 0, 229, 162, 0, 39, 43, 29, 182, 0, 232, 192, 0, 235, 44, 42, 180, 0, 25]
abbrev dktX0_run_1 : List UInt8 := dkwX0_run_1 ++ dktX0_run_2
def dkwX0_run_0 : List UInt8 := [187, 0, 220, 89, 42, 180, 0, 32, 183, 0, 222, 182, 0, 225, 76, 42, 180, 0, 10, 182, 0, 104, 77, 3]
abbrev dktX0_run_0 : List UInt8 := dkwX0_run_0 ++ dktX0_run_1
theorem dksX0_run_0 : cX0_run.data.toList.drop 0 = dktX0_run_0 := by decide +kernel
theorem dksX0_run_1 : cX0_run.data.toList.drop 24 = dktX0_run_1 := dk_seg dksX0_run_0 24 rfl rfl
theorem dksX0_run_2 : cX0_run.data.toList.drop 46 = dktX0_run_2 := dk_seg dksX0_run_1 22 rfl rfl
theorem dksX0_run_3 : cX0_run.data.toList.drop 70 = dktX0_run_3 := dk_seg dksX0_run_2 24 rfl rfl
theorem dksX0_run_4 : cX0_run.data.toList.drop 94 = dktX0_run_4 := dk_seg dksX0_run_3 24 rfl rfl
theorem dksX0_run_5 : cX0_run.data.toList.drop 116 = dktX0_run_5 := dk_seg dksX0_run_4 22 rfl rfl
theorem dksX0_run_6 : cX0_run.data.toList.drop 140 = dktX0_run_6 := dk_seg dksX0_run_5 24 rfl rfl
theorem dX0_run_0 : decode cX0_run 0 = .ok (.new 220, 3) := dk_187 0 220 (dk_at dksX0_run_0 0 rfl rfl)
theorem dX0_run_3 : decode cX0_run 3 = .ok (.dup, 1) := dk_89 (dk_at dksX0_run_0 3 rfl rfl)
theorem dX0_run_4 : decode cX0_run 4 = .ok (.aload_n 0, 1) := dk_42 (dk_at dksX0_run_0 4 rfl rfl)
theorem dX0_run_5 : decode cX0_run 5 = .ok (.getfield 32, 3) := dk_180 0 32 (dk_at dksX0_run_0 5 rfl rfl)
theorem dX0_run_8 : decode cX0_run 8 = .ok (.invokespecial 222, 3) := dk_183 0 222 (dk_at dksX0_run_0 8 rfl rfl)
theorem dX0_run_11 : decode cX0_run 11 = .ok (.invokevirtual 225, 3) := dk_182 0 225 (dk_at dksX0_run_0 11 rfl rfl)
theorem dX0_run_14 : decode cX0_run 14 = .ok (.astore_n 1, 1) := dk_76 (dk_at dksX0_run_0 14 rfl rfl)
theorem dX0_run_15 : decode cX0_run 15 = .ok (.aload_n 0, 1) := dk_42 (dk_at dksX0_run_0 15 rfl rfl)
theorem dX0_run_16 : decode cX0_run 16 = .ok (.getfield 10, 3) := dk_180 0 10 (dk_at dksX0_run_0 16 rfl rfl)
theorem dX0_run_19 : decode cX0_run 19 = .ok (.invokevirtual 104, 3) := dk_182 0 104 (dk_at dksX0_run_0 19 rfl rfl)
theorem dX0_run_22 : decode cX0_run 22 = .ok (.astore_n 2, 1) := dk_77 (dk_at dksX0_run_0 22 rfl rfl)
theorem dX0_run_23 : decode cX0_run 23 = .ok (.iconst 0, 1) := dk_3 (dk_at dksX0_run_0 23 rfl rfl)
theorem dX0_run_24 : decode cX0_run 24 = .ok (.istore_n 3, 1) := dk_62 (dk_at dksX0_run_1 0 rfl rfl)
theorem dX0_run_25 : decode cX0_run 25 = .ok (.iload_n 3, 1) := dk_29 (dk_at dksX0_run_1 1 rfl rfl)
theorem dX0_run_26 : decode cX0_run 26 = .ok (.aload_n 1, 1) := dk_43 (dk_at dksX0_run_1 2 rfl rfl)
theorem dX0_run_27 : decode cX0_run 27 = .ok (.invokevirtual 229, 3) := dk_182 0 229 (dk_at dksX0_run_1 3 rfl rfl)
theorem dX0_run_30 : decode cX0_run 30 = .ok (.if_icmp .ge 39, 3) := dk_162 0 39 (dk_at dksX0_run_1 6 rfl rfl)
theorem dX0_run_33 : decode cX0_run 33 = .ok (.aload_n 1, 1) := dk_43 (dk_at dksX0_run_1 9 rfl rfl)
theorem dX0_run_34 : decode cX0_run 34 = .ok (.iload_n 3, 1) := dk_29 (dk_at dksX0_run_1 10 rfl rfl)
theorem dX0_run_35 : decode cX0_run 35 = .ok (.invokevirtual 232, 3) := dk_182 0 232 (dk_at dksX0_run_1 11 rfl rfl)
theorem dX0_run_38 : decode cX0_run 38 = .ok (.checkcast 235, 3) := dk_192 0 235 (dk_at dksX0_run_1 14 rfl rfl)
theorem dX0_run_41 : decode cX0_run 41 = .ok (.aload_n 2, 1) := dk_44 (dk_at dksX0_run_1 17 rfl rfl)
theorem dX0_run_42 : decode cX0_run 42 = .ok (.aload_n 0, 1) := dk_42 (dk_at dksX0_run_1 18 rfl rfl)
theorem dX0_run_43 : decode cX0_run 43 = .ok (.getfield 25, 3) := dk_180 0 25 (dk_at dksX0_run_1 19 rfl rfl)
theorem dX0_run_46 : decode cX0_run 46 = .ok (.invokevirtual 237, 3) := dk_182 0 237 (dk_at dksX0_run_2 0 rfl rfl)
theorem dX0_run_49 : decode cX0_run 49 = .ok (.ifCond .ne 7, 3) := dk_154 0 7 (dk_at dksX0_run_2 3 rfl rfl)
theorem dX0_run_52 : decode cX0_run 52 = .ok (.iconst 1, 1) := dk_4 (dk_at dksX0_run_2 6 rfl rfl)
theorem dX0_run_53 : decode cX0_run 53 = .ok (.goto 4, 3) := dk_167 0 4 (dk_at dksX0_run_2 7 rfl rfl)
theorem dX0_run_56 : decode cX0_run 56 = .ok (.iconst 0, 1) := dk_3 (dk_at dksX0_run_2 10 rfl rfl)
theorem dX0_run_57 : decode cX0_run 57 = .ok (.bipush 15, 2) := dk_16 15 (dk_at dksX0_run_2 11 rfl rfl)
theorem dX0_run_59 : decode cX0_run 59 = .ok (.iload_n 3, 1) := dk_29 (dk_at dksX0_run_2 13 rfl rfl)
theorem dX0_run_60 : decode cX0_run 60 = .ok (.invokestatic 241, 3) := dk_184 0 241 (dk_at dksX0_run_2 14 rfl rfl)
theorem dX0_run_63 : decode cX0_run 63 = .ok (.iinc 3 1, 3) := dk_132 3 1 (dk_at dksX0_run_2 17 rfl rfl)
theorem dX0_run_66 : decode cX0_run 66 = .ok (.goto (-41), 3) := dk_167 255 215 (dk_at dksX0_run_2 20 rfl rfl)
theorem dX0_run_69 : decode cX0_run 69 = .ok (.aload_n 0, 1) := dk_42 (dk_at dksX0_run_2 23 rfl rfl)
theorem dX0_run_70 : decode cX0_run 70 = .ok (.getfield 10, 3) := dk_180 0 10 (dk_at dksX0_run_3 0 rfl rfl)
theorem dX0_run_73 : decode cX0_run 73 = .ok (.astore_n 3, 1) := dk_78 (dk_at dksX0_run_3 3 rfl rfl)
theorem dX0_run_74 : decode cX0_run 74 = .ok (.aload_n 0, 1) := dk_42 (dk_at dksX0_run_3 4 rfl rfl)
theorem dX0_run_75 : decode cX0_run 75 = .ok (.aload_n 2, 1) := dk_44 (dk_at dksX0_run_3 5 rfl rfl)
theorem dX0_run_76 : decode cX0_run 76 = .ok (.putfield 10, 3) := dk_181 0 10 (dk_at dksX0_run_3 6 rfl rfl)
theorem dX0_run_79 : decode cX0_run 79 = .ok (.aload_n 0, 1) := dk_42 (dk_at dksX0_run_3 9 rfl rfl)
theorem dX0_run_80 : decode cX0_run 80 = .ok (.aload_n 3, 1) := dk_45 (dk_at dksX0_run_3 10 rfl rfl)
theorem dX0_run_81 : decode cX0_run 81 = .ok (.aload_n 1, 1) := dk_43 (dk_at dksX0_run_3 11 rfl rfl)
theorem dX0_run_82 : decode cX0_run 82 = .ok (.invokevirtual 229, 3) := dk_182 0 229 (dk_at dksX0_run_3 12 rfl rfl)
theorem dX0_run_85 : decode cX0_run 85 = .ok (.invokevirtual 111, 3) := dk_182 0 111 (dk_at dksX0_run_3 15 rfl rfl)
theorem dX0_run_88 : decode cX0_run 88 = .ok (.istore 4, 2) := dk_54 4 (dk_at dksX0_run_3 18 rfl rfl)
theorem dX0_run_90 : decode cX0_run 90 = .ok (.aload_n 0, 1) := dk_42 (dk_at dksX0_run_3 20 rfl rfl)
theorem dX0_run_91 : decode cX0_run 91 = .ok (.getfield 32, 3) := dk_180 0 32 (dk_at dksX0_run_3 21 rfl rfl)
theorem dX0_run_94 : decode cX0_run 94 = .ok (.iconst 0, 1) := dk_3 (dk_at dksX0_run_4 0 rfl rfl)
theorem dX0_run_95 : decode cX0_run 95 = .ok (.invokevirtual 245, 3) := dk_182 0 245 (dk_at dksX0_run_4 1 rfl rfl)
theorem dX0_run_98 : decode cX0_run 98 = .ok (.iload 4, 2) := dk_21 4 (dk_at dksX0_run_4 4 rfl rfl)
theorem dX0_run_100 : decode cX0_run 100 = .ok (.ireturn, 1) := dk_172 (dk_at dksX0_run_4 6 rfl rfl)
theorem dX0_run_101 : decode cX0_run 101 = .ok (.astore_n 1, 1) := dk_76 (dk_at dksX0_run_4 7 rfl rfl)
theorem dX0_run_102 : decode cX0_run 102 = .ok (.sipush (-1000), 3) := dk_17 252 24 (dk_at dksX0_run_4 8 rfl rfl)
theorem dX0_run_105 : decode cX0_run 105 = .ok (.aload_n 1, 1) := dk_43 (dk_at dksX0_run_4 11 rfl rfl)
theorem dX0_run_106 : decode cX0_run 106 = .ok (.getfield 251, 3) := dk_180 0 251 (dk_at dksX0_run_4 12 rfl rfl)
theorem dX0_run_109 : decode cX0_run 109 = .ok (.isub, 1) := dk_100 (dk_at dksX0_run_4 15 rfl rfl)
theorem dX0_run_110 : decode cX0_run 110 = .ok (.istore_n 2, 1) := dk_61 (dk_at dksX0_run_4 16 rfl rfl)
theorem dX0_run_111 : decode cX0_run 111 = .ok (.aload_n 0, 1) := dk_42 (dk_at dksX0_run_4 17 rfl rfl)
theorem dX0_run_112 : decode cX0_run 112 = .ok (.getfield 32, 3) := dk_180 0 32 (dk_at dksX0_run_4 18 rfl rfl)
theorem dX0_run_115 : decode cX0_run 115 = .ok (.iconst 0, 1) := dk_3 (dk_at dksX0_run_4 21 rfl rfl)
theorem dX0_run_116 : decode cX0_run 116 = .ok (.invokevirtual 245, 3) := dk_182 0 245 (dk_at dksX0_run_5 0 rfl rfl)
theorem dX0_run_119 : decode cX0_run 119 = .ok (.iload_n 2, 1) := dk_28 (dk_at dksX0_run_5 3 rfl rfl)
theorem dX0_run_120 : decode cX0_run 120 = .ok (.ireturn, 1) := dk_172 (dk_at dksX0_run_5 4 rfl rfl)
theorem dX0_run_121 : decode cX0_run 121 = .ok (.astore_n 1, 1) := dk_76 (dk_at dksX0_run_5 5 rfl rfl)
theorem dX0_run_122 : decode cX0_run 122 = .ok (.aload_n 0, 1) := dk_42 (dk_at dksX0_run_5 6 rfl rfl)
theorem dX0_run_123 : decode cX0_run 123 = .ok (.aload_n 1, 1) := dk_43 (dk_at dksX0_run_5 7 rfl rfl)
theorem dX0_run_124 : decode cX0_run 124 = .ok (.invokevirtual 115, 3) := dk_182 0 115 (dk_at dksX0_run_5 8 rfl rfl)
theorem dX0_run_127 : decode cX0_run 127 = .ok (.istore_n 2, 1) := dk_61 (dk_at dksX0_run_5 11 rfl rfl)
theorem dX0_run_128 : decode cX0_run 128 = .ok (.aload_n 0, 1) := dk_42 (dk_at dksX0_run_5 12 rfl rfl)
theorem dX0_run_129 : decode cX0_run 129 = .ok (.getfield 32, 3) := dk_180 0 32 (dk_at dksX0_run_5 13 rfl rfl)
theorem dX0_run_132 : decode cX0_run 132 = .ok (.iconst 0, 1) := dk_3 (dk_at dksX0_run_5 16 rfl rfl)
theorem dX0_run_133 : decode cX0_run 133 = .ok (.invokevirtual 245, 3) := dk_182 0 245 (dk_at dksX0_run_5 17 rfl rfl)
theorem dX0_run_136 : decode cX0_run 136 = .ok (.iload_n 2, 1) := dk_28 (dk_at dksX0_run_5 20 rfl rfl)
theorem dX0_run_137 : decode cX0_run 137 = .ok (.ireturn, 1) := dk_172 (dk_at dksX0_run_5 21 rfl rfl)
theorem dX0_run_138 : decode cX0_run 138 = .ok (.astore 5, 2) := dk_58 5 (dk_at dksX0_run_5 22 rfl rfl)
theorem dX0_run_140 : decode cX0_run 140 = .ok (.aload_n 0, 1) := dk_42 (dk_at dksX0_run_6 0 rfl rfl)
theorem dX0_run_141 : decode cX0_run 141 = .ok (.getfield 32, 3) := dk_180 0 32 (dk_at dksX0_run_6 1 rfl rfl)
theorem dX0_run_144 : decode cX0_run 144 = .ok (.iconst 0, 1) := dk_3 (dk_at dksX0_run_6 4 rfl rfl)
theorem dX0_run_145 : decode cX0_run 145 = .ok (.invokevirtual 245, 3) := dk_182 0 245 (dk_at dksX0_run_6 5 rfl rfl)
theorem dX0_run_148 : decode cX0_run 148 = .ok (.aload 5, 2) := dk_25 5 (dk_at dksX0_run_6 8 rfl rfl)
theorem dX0_run_150 : decode cX0_run 150 = .ok (.athrow, 1) := dk_191 (dk_at dksX0_run_6 10 rfl rfl)
abbrev cX0_tell : ByteArray := prog_1_method_36_code
def yX0_tell : MethodName := ⟨RX0, "tell", "(I)I"⟩
def dkwX0_tell_2 : List UInt8 := [192, 0, 177, 182, 0, 253, 181, 0, 38, 42, 180, 0, 38, 182, 1, 0, 172]
abbrev dktX0_tell_2 : List UInt8 := dkwX0_tell_2 ++ []
def dkwX0_tell_1 : List UInt8 := [27, 182, 0, 86, 192, 0, 164, 77, 42, 44, 42, 180, 0, 10, 180, 0, 122, 44, 180, 0, 174, 182, 0, 86]
abbrev dktX0_tell_1 : List UInt8 := dkwX0_tell_1 ++ dktX0_tell_2
def dkwX0_tell_0 : List UInt8 := [42, 180, 0, 10, 180, 0, 147, 27, 182, 0, 125, 154, 0, 6, 16, 245, 172, 42, 180, 0, 10, 180, 0, 147]
abbrev dktX0_tell_0 : List UInt8 := dkwX0_tell_0 ++ dktX0_tell_1
theorem dksX0_tell_0 : cX0_tell.data.toList.drop 0 = dktX0_tell_0 := by decide +kernel
theorem dksX0_tell_1 : cX0_tell.data.toList.drop 24 = dktX0_tell_1 := dk_seg dksX0_tell_0 24 rfl rfl
theorem dksX0_tell_2 : cX0_tell.data.toList.drop 48 = dktX0_tell_2 := dk_seg dksX0_tell_1 24 rfl rfl
theorem dX0_tell_0 : decode cX0_tell 0 = .ok (.aload_n 0, 1) := dk_42 (dk_at dksX0_tell_0 0 rfl rfl)
theorem dX0_tell_1 : decode cX0_tell 1 = .ok (.getfield 10, 3) := dk_180 0 10 (dk_at dksX0_tell_0 1 rfl rfl)
theorem dX0_tell_4 : decode cX0_tell 4 = .ok (.getfield 147, 3) := dk_180 0 147 (dk_at dksX0_tell_0 4 rfl rfl)
theorem dX0_tell_7 : decode cX0_tell 7 = .ok (.iload_n 1, 1) := dk_27 (dk_at dksX0_tell_0 7 rfl rfl)
theorem dX0_tell_8 : decode cX0_tell 8 = .ok (.invokevirtual 125, 3) := dk_182 0 125 (dk_at dksX0_tell_0 8 rfl rfl)
theorem dX0_tell_11 : decode cX0_tell 11 = .ok (.ifCond .ne 6, 3) := dk_154 0 6 (dk_at dksX0_tell_0 11 rfl rfl)
theorem dX0_tell_14 : decode cX0_tell 14 = .ok (.bipush (-11), 2) := dk_16 245 (dk_at dksX0_tell_0 14 rfl rfl)
theorem dX0_tell_16 : decode cX0_tell 16 = .ok (.ireturn, 1) := dk_172 (dk_at dksX0_tell_0 16 rfl rfl)
theorem dX0_tell_17 : decode cX0_tell 17 = .ok (.aload_n 0, 1) := dk_42 (dk_at dksX0_tell_0 17 rfl rfl)
theorem dX0_tell_18 : decode cX0_tell 18 = .ok (.getfield 10, 3) := dk_180 0 10 (dk_at dksX0_tell_0 18 rfl rfl)
theorem dX0_tell_21 : decode cX0_tell 21 = .ok (.getfield 147, 3) := dk_180 0 147 (dk_at dksX0_tell_0 21 rfl rfl)
theorem dX0_tell_24 : decode cX0_tell 24 = .ok (.iload_n 1, 1) := dk_27 (dk_at dksX0_tell_1 0 rfl rfl)
theorem dX0_tell_25 : decode cX0_tell 25 = .ok (.invokevirtual 86, 3) := dk_182 0 86 (dk_at dksX0_tell_1 1 rfl rfl)
theorem dX0_tell_28 : decode cX0_tell 28 = .ok (.checkcast 164, 3) := dk_192 0 164 (dk_at dksX0_tell_1 4 rfl rfl)
theorem dX0_tell_31 : decode cX0_tell 31 = .ok (.astore_n 2, 1) := dk_77 (dk_at dksX0_tell_1 7 rfl rfl)
theorem dX0_tell_32 : decode cX0_tell 32 = .ok (.aload_n 0, 1) := dk_42 (dk_at dksX0_tell_1 8 rfl rfl)
theorem dX0_tell_33 : decode cX0_tell 33 = .ok (.aload_n 2, 1) := dk_44 (dk_at dksX0_tell_1 9 rfl rfl)
theorem dX0_tell_34 : decode cX0_tell 34 = .ok (.aload_n 0, 1) := dk_42 (dk_at dksX0_tell_1 10 rfl rfl)
theorem dX0_tell_35 : decode cX0_tell 35 = .ok (.getfield 10, 3) := dk_180 0 10 (dk_at dksX0_tell_1 11 rfl rfl)
theorem dX0_tell_38 : decode cX0_tell 38 = .ok (.getfield 122, 3) := dk_180 0 122 (dk_at dksX0_tell_1 14 rfl rfl)
theorem dX0_tell_41 : decode cX0_tell 41 = .ok (.aload_n 2, 1) := dk_44 (dk_at dksX0_tell_1 17 rfl rfl)
theorem dX0_tell_42 : decode cX0_tell 42 = .ok (.getfield 174, 3) := dk_180 0 174 (dk_at dksX0_tell_1 18 rfl rfl)
theorem dX0_tell_45 : decode cX0_tell 45 = .ok (.invokevirtual 86, 3) := dk_182 0 86 (dk_at dksX0_tell_1 21 rfl rfl)
theorem dX0_tell_48 : decode cX0_tell 48 = .ok (.checkcast 177, 3) := dk_192 0 177 (dk_at dksX0_tell_2 0 rfl rfl)
theorem dX0_tell_51 : decode cX0_tell 51 = .ok (.invokevirtual 253, 3) := dk_182 0 253 (dk_at dksX0_tell_2 3 rfl rfl)
theorem dX0_tell_54 : decode cX0_tell 54 = .ok (.putfield 38, 3) := dk_181 0 38 (dk_at dksX0_tell_2 6 rfl rfl)
theorem dX0_tell_57 : decode cX0_tell 57 = .ok (.aload_n 0, 1) := dk_42 (dk_at dksX0_tell_2 9 rfl rfl)
theorem dX0_tell_58 : decode cX0_tell 58 = .ok (.getfield 38, 3) := dk_180 0 38 (dk_at dksX0_tell_2 10 rfl rfl)
theorem dX0_tell_61 : decode cX0_tell 61 = .ok (.invokevirtual 256, 3) := dk_182 1 0 (dk_at dksX0_tell_2 13 rfl rfl)
theorem dX0_tell_64 : decode cX0_tell 64 = .ok (.ireturn, 1) := dk_172 (dk_at dksX0_tell_2 16 rfl rfl)
abbrev cX0_tellLedges : ByteArray := prog_1_method_37_code
def yX0_tellLedges : MethodName := ⟨RX0, "tellLedges", "()I"⟩
def dkwX0_tellLedges_0 : List UInt8 := [42, 42, 180, 0, 10, 182, 1, 3, 181, 0, 38, 42, 180, 0, 38, 182, 1, 0, 172]
abbrev dktX0_tellLedges_0 : List UInt8 := dkwX0_tellLedges_0 ++ []
theorem dksX0_tellLedges_0 : cX0_tellLedges.data.toList.drop 0 = dktX0_tellLedges_0 := by decide +kernel
theorem dX0_tellLedges_0 : decode cX0_tellLedges 0 = .ok (.aload_n 0, 1) := dk_42 (dk_at dksX0_tellLedges_0 0 rfl rfl)
theorem dX0_tellLedges_1 : decode cX0_tellLedges 1 = .ok (.aload_n 0, 1) := dk_42 (dk_at dksX0_tellLedges_0 1 rfl rfl)
theorem dX0_tellLedges_2 : decode cX0_tellLedges 2 = .ok (.getfield 10, 3) := dk_180 0 10 (dk_at dksX0_tellLedges_0 2 rfl rfl)
theorem dX0_tellLedges_5 : decode cX0_tellLedges 5 = .ok (.invokevirtual 259, 3) := dk_182 1 3 (dk_at dksX0_tellLedges_0 5 rfl rfl)
theorem dX0_tellLedges_8 : decode cX0_tellLedges 8 = .ok (.putfield 38, 3) := dk_181 0 38 (dk_at dksX0_tellLedges_0 8 rfl rfl)
theorem dX0_tellLedges_11 : decode cX0_tellLedges 11 = .ok (.aload_n 0, 1) := dk_42 (dk_at dksX0_tellLedges_0 11 rfl rfl)
theorem dX0_tellLedges_12 : decode cX0_tellLedges 12 = .ok (.getfield 38, 3) := dk_180 0 38 (dk_at dksX0_tellLedges_0 12 rfl rfl)
theorem dX0_tellLedges_15 : decode cX0_tellLedges 15 = .ok (.invokevirtual 256, 3) := dk_182 1 0 (dk_at dksX0_tellLedges_0 15 rfl rfl)
theorem dX0_tellLedges_18 : decode cX0_tellLedges 18 = .ok (.ireturn, 1) := dk_172 (dk_at dksX0_tellLedges_0 18 rfl rfl)
abbrev cX0_character : ByteArray := prog_1_method_38_code
def yX0_character : MethodName := ⟨RX0, "character", "(I)I"⟩
def dkwX0_character_1 : List UInt8 := [182, 1, 7, 167, 0, 5, 16, 245, 172]
abbrev dktX0_character_1 : List UInt8 := dkwX0_character_1 ++ []
def dkwX0_character_0 : List UInt8 := [27, 3, 42, 180, 0, 38, 182, 1, 0, 4, 100, 184, 0, 48, 153, 0, 14, 42, 180, 0, 38, 27]
abbrev dktX0_character_0 : List UInt8 := dkwX0_character_0 ++ dktX0_character_1
theorem dksX0_character_0 : cX0_character.data.toList.drop 0 = dktX0_character_0 := by decide +kernel
theorem dksX0_character_1 : cX0_character.data.toList.drop 22 = dktX0_character_1 := dk_seg dksX0_character_0 22 rfl rfl
theorem dX0_character_0 : decode cX0_character 0 = .ok (.iload_n 1, 1) := dk_27 (dk_at dksX0_character_0 0 rfl rfl)
theorem dX0_character_1 : decode cX0_character 1 = .ok (.iconst 0, 1) := dk_3 (dk_at dksX0_character_0 1 rfl rfl)
theorem dX0_character_2 : decode cX0_character 2 = .ok (.aload_n 0, 1) := dk_42 (dk_at dksX0_character_0 2 rfl rfl)
theorem dX0_character_3 : decode cX0_character 3 = .ok (.getfield 38, 3) := dk_180 0 38 (dk_at dksX0_character_0 3 rfl rfl)
theorem dX0_character_6 : decode cX0_character 6 = .ok (.invokevirtual 256, 3) := dk_182 1 0 (dk_at dksX0_character_0 6 rfl rfl)
theorem dX0_character_9 : decode cX0_character 9 = .ok (.iconst 1, 1) := dk_4 (dk_at dksX0_character_0 9 rfl rfl)
theorem dX0_character_10 : decode cX0_character 10 = .ok (.isub, 1) := dk_100 (dk_at dksX0_character_0 10 rfl rfl)
theorem dX0_character_11 : decode cX0_character 11 = .ok (.invokestatic 48, 3) := dk_184 0 48 (dk_at dksX0_character_0 11 rfl rfl)
theorem dX0_character_14 : decode cX0_character 14 = .ok (.ifCond .eq 14, 3) := dk_153 0 14 (dk_at dksX0_character_0 14 rfl rfl)
theorem dX0_character_17 : decode cX0_character 17 = .ok (.aload_n 0, 1) := dk_42 (dk_at dksX0_character_0 17 rfl rfl)
theorem dX0_character_18 : decode cX0_character 18 = .ok (.getfield 38, 3) := dk_180 0 38 (dk_at dksX0_character_0 18 rfl rfl)
theorem dX0_character_21 : decode cX0_character 21 = .ok (.iload_n 1, 1) := dk_27 (dk_at dksX0_character_0 21 rfl rfl)
theorem dX0_character_22 : decode cX0_character 22 = .ok (.invokevirtual 263, 3) := dk_182 1 7 (dk_at dksX0_character_1 0 rfl rfl)
theorem dX0_character_25 : decode cX0_character 25 = .ok (.goto 5, 3) := dk_167 0 5 (dk_at dksX0_character_1 3 rfl rfl)
theorem dX0_character_28 : decode cX0_character 28 = .ok (.bipush (-11), 2) := dk_16 245 (dk_at dksX0_character_1 6 rfl rfl)
theorem dX0_character_30 : decode cX0_character 30 = .ok (.ireturn, 1) := dk_172 (dk_at dksX0_character_1 8 rfl rfl)
abbrev cX0_reason : ByteArray := prog_1_method_39_code
def yX0_reason : MethodName := ⟨RX0, "reason", "(Z)I"⟩
def dkwX0_reason_1 : List UInt8 := [180, 0, 61, 172]
abbrev dktX0_reason_1 : List UInt8 := dkwX0_reason_1 ++ []
def dkwX0_reason_0 : List UInt8 := [42, 180, 0, 61, 154, 0, 8, 16, 241, 167, 0, 18, 27, 153, 0, 10, 42, 180, 0, 65, 167, 0, 7, 42]
abbrev dktX0_reason_0 : List UInt8 := dkwX0_reason_0 ++ dktX0_reason_1
theorem dksX0_reason_0 : cX0_reason.data.toList.drop 0 = dktX0_reason_0 := by decide +kernel
theorem dksX0_reason_1 : cX0_reason.data.toList.drop 24 = dktX0_reason_1 := dk_seg dksX0_reason_0 24 rfl rfl
theorem dX0_reason_0 : decode cX0_reason 0 = .ok (.aload_n 0, 1) := dk_42 (dk_at dksX0_reason_0 0 rfl rfl)
theorem dX0_reason_1 : decode cX0_reason 1 = .ok (.getfield 61, 3) := dk_180 0 61 (dk_at dksX0_reason_0 1 rfl rfl)
theorem dX0_reason_4 : decode cX0_reason 4 = .ok (.ifCond .ne 8, 3) := dk_154 0 8 (dk_at dksX0_reason_0 4 rfl rfl)
theorem dX0_reason_7 : decode cX0_reason 7 = .ok (.bipush (-15), 2) := dk_16 241 (dk_at dksX0_reason_0 7 rfl rfl)
theorem dX0_reason_9 : decode cX0_reason 9 = .ok (.goto 18, 3) := dk_167 0 18 (dk_at dksX0_reason_0 9 rfl rfl)
theorem dX0_reason_12 : decode cX0_reason 12 = .ok (.iload_n 1, 1) := dk_27 (dk_at dksX0_reason_0 12 rfl rfl)
theorem dX0_reason_13 : decode cX0_reason 13 = .ok (.ifCond .eq 10, 3) := dk_153 0 10 (dk_at dksX0_reason_0 13 rfl rfl)
theorem dX0_reason_16 : decode cX0_reason 16 = .ok (.aload_n 0, 1) := dk_42 (dk_at dksX0_reason_0 16 rfl rfl)
theorem dX0_reason_17 : decode cX0_reason 17 = .ok (.getfield 65, 3) := dk_180 0 65 (dk_at dksX0_reason_0 17 rfl rfl)
theorem dX0_reason_20 : decode cX0_reason 20 = .ok (.goto 7, 3) := dk_167 0 7 (dk_at dksX0_reason_0 20 rfl rfl)
theorem dX0_reason_23 : decode cX0_reason 23 = .ok (.aload_n 0, 1) := dk_42 (dk_at dksX0_reason_0 23 rfl rfl)
theorem dX0_reason_24 : decode cX0_reason 24 = .ok (.getfield 61, 3) := dk_180 0 61 (dk_at dksX0_reason_1 0 rfl rfl)
theorem dX0_reason_27 : decode cX0_reason 27 = .ok (.ireturn, 1) := dk_172 (dk_at dksX0_reason_1 3 rfl rfl)
abbrev cX0_account : ByteArray := prog_1_method_40_code
def yX0_account : MethodName := ⟨RX0, "account", "(I)I"⟩
def dkwX0_account_10 : List UInt8 := [182, 0, 213, 167, 0, 15, 42, 180, 0, 19, 182, 0, 70, 167, 0, 5, 16, 244, 172]
abbrev dktX0_account_10 : List UInt8 := dkwX0_account_10 ++ []
def dkwX0_account_9 : List UInt8 := [16, 6, 182, 1, 45, 167, 0, 36, 42, 180, 0, 10, 4, 182, 1, 45, 167, 0, 25, 42, 180, 0, 32]
abbrev dktX0_account_9 : List UInt8 := dkwX0_account_9 ++ dktX0_account_10
def dkwX0_account_8 : List UInt8 := [180, 0, 10, 180, 1, 42, 167, 0, 59, 42, 180, 0, 10, 8, 182, 1, 45, 167, 0, 48, 42, 180, 0, 10]
abbrev dktX0_account_8 : List UInt8 := dkwX0_account_8 ++ dktX0_account_9
def dkwX0_account_7 : List UInt8 := [167, 0, 89, 42, 180, 0, 10, 180, 1, 36, 167, 0, 79, 42, 180, 0, 10, 180, 1, 39, 167, 0, 69, 42]
abbrev dktX0_account_7 : List UInt8 := dkwX0_account_7 ++ dktX0_account_8
def dkwX0_account_6 : List UInt8 := [182, 1, 27, 167, 0, 109, 42, 180, 0, 10, 182, 1, 30, 167, 0, 99, 42, 180, 0, 10, 180, 1, 33]
abbrev dktX0_account_6 : List UInt8 := dkwX0_account_6 ++ dktX0_account_7
def dkwX0_account_5 : List UInt8 := [182, 1, 23, 167, 0, 132, 42, 180, 0, 10, 180, 0, 147, 182, 1, 23, 167, 0, 119, 42, 180, 0, 10]
abbrev dktX0_account_5 : List UInt8 := dkwX0_account_5 ++ dktX0_account_6
def dkwX0_account_4 : List UInt8 := [182, 1, 23, 167, 0, 155, 42, 180, 0, 10, 182, 1, 24, 167, 0, 145, 42, 180, 0, 10, 180, 0, 138]
abbrev dktX0_account_4 : List UInt8 := dkwX0_account_4 ++ dktX0_account_5
def dkwX0_account_3 : List UInt8 := [180, 1, 17, 167, 0, 178, 42, 180, 0, 10, 180, 1, 20, 167, 0, 168, 42, 180, 0, 10, 180, 0, 122]
abbrev dktX0_account_3 : List UInt8 := dkwX0_account_3 ++ dktX0_account_4
def dkwX0_account_2 : List UInt8 := [42, 180, 0, 10, 180, 1, 11, 167, 0, 198, 42, 180, 0, 10, 180, 1, 14, 167, 0, 188, 42, 180, 0, 10]
abbrev dktX0_account_2 : List UInt8 := dkwX0_account_2 ++ dktX0_account_3
def dkwX0_account_1 : List UInt8 := [170, 0, 0, 0, 0, 1, 38, 0, 0, 0, 0, 0, 0, 0, 18, 0, 0, 0, 91, 0, 0, 0, 101, 0, 0, 0, 111, 0, 0, 0, 121, 0, 0, 0, 131, 0, 0, 0, 144, 0, 0, 0, 154, 0, 0, 0, 167, 0, 0, 0, 180, 0, 0, 0, 190, 0, 0, 0, 200, 0, 0, 0, 210, 0, 0, 0, 220, 0, 0, 0, 230, 0, 0, 0, 240, 0, 0, 0, 251, 0, 0, 1, 7, 0, 0, 1, 18, 0, 0, 1, 28]
abbrev dktX0_account_1 : List UInt8 := dkwX0_account_1 ++ dktX0_account_2
def dkwX0_account_0 : List UInt8 := [27]
abbrev dktX0_account_0 : List UInt8 := dkwX0_account_0 ++ dktX0_account_1
theorem dksX0_account_0 : cX0_account.data.toList.drop 0 = dktX0_account_0 := by decide +kernel
theorem dksX0_account_1 : cX0_account.data.toList.drop 1 = dktX0_account_1 := dk_seg dksX0_account_0 1 rfl rfl
theorem dksX0_account_2 : cX0_account.data.toList.drop 92 = dktX0_account_2 := dk_seg dksX0_account_1 91 rfl rfl
theorem dksX0_account_3 : cX0_account.data.toList.drop 116 = dktX0_account_3 := dk_seg dksX0_account_2 24 rfl rfl
theorem dksX0_account_4 : cX0_account.data.toList.drop 139 = dktX0_account_4 := dk_seg dksX0_account_3 23 rfl rfl
theorem dksX0_account_5 : cX0_account.data.toList.drop 162 = dktX0_account_5 := dk_seg dksX0_account_4 23 rfl rfl
theorem dksX0_account_6 : cX0_account.data.toList.drop 185 = dktX0_account_6 := dk_seg dksX0_account_5 23 rfl rfl
theorem dksX0_account_7 : cX0_account.data.toList.drop 208 = dktX0_account_7 := dk_seg dksX0_account_6 23 rfl rfl
theorem dksX0_account_8 : cX0_account.data.toList.drop 232 = dktX0_account_8 := dk_seg dksX0_account_7 24 rfl rfl
theorem dksX0_account_9 : cX0_account.data.toList.drop 256 = dktX0_account_9 := dk_seg dksX0_account_8 24 rfl rfl
theorem dksX0_account_10 : cX0_account.data.toList.drop 279 = dktX0_account_10 := dk_seg dksX0_account_9 23 rfl rfl
theorem dX0_account_0 : decode cX0_account 0 = .ok (.iload_n 1, 1) := dk_27 (dk_at dksX0_account_0 0 rfl rfl)
theorem dX0_account_1 : decode cX0_account 1 = .ok (.tableswitch 294 0 18 #[91, 101, 111, 121, 131, 144, 154, 167, 180, 190, 200, 210, 220, 230, 240, 251, 263, 274, 284], 91) := by decide +kernel
theorem dX0_account_92 : decode cX0_account 92 = .ok (.aload_n 0, 1) := dk_42 (dk_at dksX0_account_2 0 rfl rfl)
theorem dX0_account_93 : decode cX0_account 93 = .ok (.getfield 10, 3) := dk_180 0 10 (dk_at dksX0_account_2 1 rfl rfl)
theorem dX0_account_96 : decode cX0_account 96 = .ok (.getfield 267, 3) := dk_180 1 11 (dk_at dksX0_account_2 4 rfl rfl)
theorem dX0_account_99 : decode cX0_account 99 = .ok (.goto 198, 3) := dk_167 0 198 (dk_at dksX0_account_2 7 rfl rfl)
theorem dX0_account_102 : decode cX0_account 102 = .ok (.aload_n 0, 1) := dk_42 (dk_at dksX0_account_2 10 rfl rfl)
theorem dX0_account_103 : decode cX0_account 103 = .ok (.getfield 10, 3) := dk_180 0 10 (dk_at dksX0_account_2 11 rfl rfl)
theorem dX0_account_106 : decode cX0_account 106 = .ok (.getfield 270, 3) := dk_180 1 14 (dk_at dksX0_account_2 14 rfl rfl)
theorem dX0_account_109 : decode cX0_account 109 = .ok (.goto 188, 3) := dk_167 0 188 (dk_at dksX0_account_2 17 rfl rfl)
theorem dX0_account_112 : decode cX0_account 112 = .ok (.aload_n 0, 1) := dk_42 (dk_at dksX0_account_2 20 rfl rfl)
theorem dX0_account_113 : decode cX0_account 113 = .ok (.getfield 10, 3) := dk_180 0 10 (dk_at dksX0_account_2 21 rfl rfl)
theorem dX0_account_116 : decode cX0_account 116 = .ok (.getfield 273, 3) := dk_180 1 17 (dk_at dksX0_account_3 0 rfl rfl)
theorem dX0_account_119 : decode cX0_account 119 = .ok (.goto 178, 3) := dk_167 0 178 (dk_at dksX0_account_3 3 rfl rfl)
theorem dX0_account_122 : decode cX0_account 122 = .ok (.aload_n 0, 1) := dk_42 (dk_at dksX0_account_3 6 rfl rfl)
theorem dX0_account_123 : decode cX0_account 123 = .ok (.getfield 10, 3) := dk_180 0 10 (dk_at dksX0_account_3 7 rfl rfl)
theorem dX0_account_126 : decode cX0_account 126 = .ok (.getfield 276, 3) := dk_180 1 20 (dk_at dksX0_account_3 10 rfl rfl)
theorem dX0_account_129 : decode cX0_account 129 = .ok (.goto 168, 3) := dk_167 0 168 (dk_at dksX0_account_3 13 rfl rfl)
theorem dX0_account_132 : decode cX0_account 132 = .ok (.aload_n 0, 1) := dk_42 (dk_at dksX0_account_3 16 rfl rfl)
theorem dX0_account_133 : decode cX0_account 133 = .ok (.getfield 10, 3) := dk_180 0 10 (dk_at dksX0_account_3 17 rfl rfl)
theorem dX0_account_136 : decode cX0_account 136 = .ok (.getfield 122, 3) := dk_180 0 122 (dk_at dksX0_account_3 20 rfl rfl)
theorem dX0_account_139 : decode cX0_account 139 = .ok (.invokevirtual 279, 3) := dk_182 1 23 (dk_at dksX0_account_4 0 rfl rfl)
theorem dX0_account_142 : decode cX0_account 142 = .ok (.goto 155, 3) := dk_167 0 155 (dk_at dksX0_account_4 3 rfl rfl)
theorem dX0_account_145 : decode cX0_account 145 = .ok (.aload_n 0, 1) := dk_42 (dk_at dksX0_account_4 6 rfl rfl)
theorem dX0_account_146 : decode cX0_account 146 = .ok (.getfield 10, 3) := dk_180 0 10 (dk_at dksX0_account_4 7 rfl rfl)
theorem dX0_account_149 : decode cX0_account 149 = .ok (.invokevirtual 280, 3) := dk_182 1 24 (dk_at dksX0_account_4 10 rfl rfl)
theorem dX0_account_152 : decode cX0_account 152 = .ok (.goto 145, 3) := dk_167 0 145 (dk_at dksX0_account_4 13 rfl rfl)
theorem dX0_account_155 : decode cX0_account 155 = .ok (.aload_n 0, 1) := dk_42 (dk_at dksX0_account_4 16 rfl rfl)
theorem dX0_account_156 : decode cX0_account 156 = .ok (.getfield 10, 3) := dk_180 0 10 (dk_at dksX0_account_4 17 rfl rfl)
theorem dX0_account_159 : decode cX0_account 159 = .ok (.getfield 138, 3) := dk_180 0 138 (dk_at dksX0_account_4 20 rfl rfl)
theorem dX0_account_162 : decode cX0_account 162 = .ok (.invokevirtual 279, 3) := dk_182 1 23 (dk_at dksX0_account_5 0 rfl rfl)
theorem dX0_account_165 : decode cX0_account 165 = .ok (.goto 132, 3) := dk_167 0 132 (dk_at dksX0_account_5 3 rfl rfl)
theorem dX0_account_168 : decode cX0_account 168 = .ok (.aload_n 0, 1) := dk_42 (dk_at dksX0_account_5 6 rfl rfl)
theorem dX0_account_169 : decode cX0_account 169 = .ok (.getfield 10, 3) := dk_180 0 10 (dk_at dksX0_account_5 7 rfl rfl)
theorem dX0_account_172 : decode cX0_account 172 = .ok (.getfield 147, 3) := dk_180 0 147 (dk_at dksX0_account_5 10 rfl rfl)
theorem dX0_account_175 : decode cX0_account 175 = .ok (.invokevirtual 279, 3) := dk_182 1 23 (dk_at dksX0_account_5 13 rfl rfl)
theorem dX0_account_178 : decode cX0_account 178 = .ok (.goto 119, 3) := dk_167 0 119 (dk_at dksX0_account_5 16 rfl rfl)
theorem dX0_account_181 : decode cX0_account 181 = .ok (.aload_n 0, 1) := dk_42 (dk_at dksX0_account_5 19 rfl rfl)
theorem dX0_account_182 : decode cX0_account 182 = .ok (.getfield 10, 3) := dk_180 0 10 (dk_at dksX0_account_5 20 rfl rfl)
theorem dX0_account_185 : decode cX0_account 185 = .ok (.invokevirtual 283, 3) := dk_182 1 27 (dk_at dksX0_account_6 0 rfl rfl)
theorem dX0_account_188 : decode cX0_account 188 = .ok (.goto 109, 3) := dk_167 0 109 (dk_at dksX0_account_6 3 rfl rfl)
theorem dX0_account_191 : decode cX0_account 191 = .ok (.aload_n 0, 1) := dk_42 (dk_at dksX0_account_6 6 rfl rfl)
theorem dX0_account_192 : decode cX0_account 192 = .ok (.getfield 10, 3) := dk_180 0 10 (dk_at dksX0_account_6 7 rfl rfl)
theorem dX0_account_195 : decode cX0_account 195 = .ok (.invokevirtual 286, 3) := dk_182 1 30 (dk_at dksX0_account_6 10 rfl rfl)
theorem dX0_account_198 : decode cX0_account 198 = .ok (.goto 99, 3) := dk_167 0 99 (dk_at dksX0_account_6 13 rfl rfl)
theorem dX0_account_201 : decode cX0_account 201 = .ok (.aload_n 0, 1) := dk_42 (dk_at dksX0_account_6 16 rfl rfl)
theorem dX0_account_202 : decode cX0_account 202 = .ok (.getfield 10, 3) := dk_180 0 10 (dk_at dksX0_account_6 17 rfl rfl)
theorem dX0_account_205 : decode cX0_account 205 = .ok (.getfield 289, 3) := dk_180 1 33 (dk_at dksX0_account_6 20 rfl rfl)
theorem dX0_account_208 : decode cX0_account 208 = .ok (.goto 89, 3) := dk_167 0 89 (dk_at dksX0_account_7 0 rfl rfl)
theorem dX0_account_211 : decode cX0_account 211 = .ok (.aload_n 0, 1) := dk_42 (dk_at dksX0_account_7 3 rfl rfl)
theorem dX0_account_212 : decode cX0_account 212 = .ok (.getfield 10, 3) := dk_180 0 10 (dk_at dksX0_account_7 4 rfl rfl)
theorem dX0_account_215 : decode cX0_account 215 = .ok (.getfield 292, 3) := dk_180 1 36 (dk_at dksX0_account_7 7 rfl rfl)
theorem dX0_account_218 : decode cX0_account 218 = .ok (.goto 79, 3) := dk_167 0 79 (dk_at dksX0_account_7 10 rfl rfl)
theorem dX0_account_221 : decode cX0_account 221 = .ok (.aload_n 0, 1) := dk_42 (dk_at dksX0_account_7 13 rfl rfl)
theorem dX0_account_222 : decode cX0_account 222 = .ok (.getfield 10, 3) := dk_180 0 10 (dk_at dksX0_account_7 14 rfl rfl)
theorem dX0_account_225 : decode cX0_account 225 = .ok (.getfield 295, 3) := dk_180 1 39 (dk_at dksX0_account_7 17 rfl rfl)
theorem dX0_account_228 : decode cX0_account 228 = .ok (.goto 69, 3) := dk_167 0 69 (dk_at dksX0_account_7 20 rfl rfl)
theorem dX0_account_231 : decode cX0_account 231 = .ok (.aload_n 0, 1) := dk_42 (dk_at dksX0_account_7 23 rfl rfl)
theorem dX0_account_232 : decode cX0_account 232 = .ok (.getfield 10, 3) := dk_180 0 10 (dk_at dksX0_account_8 0 rfl rfl)
theorem dX0_account_235 : decode cX0_account 235 = .ok (.getfield 298, 3) := dk_180 1 42 (dk_at dksX0_account_8 3 rfl rfl)
theorem dX0_account_238 : decode cX0_account 238 = .ok (.goto 59, 3) := dk_167 0 59 (dk_at dksX0_account_8 6 rfl rfl)
theorem dX0_account_241 : decode cX0_account 241 = .ok (.aload_n 0, 1) := dk_42 (dk_at dksX0_account_8 9 rfl rfl)
theorem dX0_account_242 : decode cX0_account 242 = .ok (.getfield 10, 3) := dk_180 0 10 (dk_at dksX0_account_8 10 rfl rfl)
theorem dX0_account_245 : decode cX0_account 245 = .ok (.iconst 5, 1) := dk_8 (dk_at dksX0_account_8 13 rfl rfl)
theorem dX0_account_246 : decode cX0_account 246 = .ok (.invokevirtual 301, 3) := dk_182 1 45 (dk_at dksX0_account_8 14 rfl rfl)
theorem dX0_account_249 : decode cX0_account 249 = .ok (.goto 48, 3) := dk_167 0 48 (dk_at dksX0_account_8 17 rfl rfl)
theorem dX0_account_252 : decode cX0_account 252 = .ok (.aload_n 0, 1) := dk_42 (dk_at dksX0_account_8 20 rfl rfl)
theorem dX0_account_253 : decode cX0_account 253 = .ok (.getfield 10, 3) := dk_180 0 10 (dk_at dksX0_account_8 21 rfl rfl)
theorem dX0_account_256 : decode cX0_account 256 = .ok (.bipush 6, 2) := dk_16 6 (dk_at dksX0_account_9 0 rfl rfl)
theorem dX0_account_258 : decode cX0_account 258 = .ok (.invokevirtual 301, 3) := dk_182 1 45 (dk_at dksX0_account_9 2 rfl rfl)
theorem dX0_account_261 : decode cX0_account 261 = .ok (.goto 36, 3) := dk_167 0 36 (dk_at dksX0_account_9 5 rfl rfl)
theorem dX0_account_264 : decode cX0_account 264 = .ok (.aload_n 0, 1) := dk_42 (dk_at dksX0_account_9 8 rfl rfl)
theorem dX0_account_265 : decode cX0_account 265 = .ok (.getfield 10, 3) := dk_180 0 10 (dk_at dksX0_account_9 9 rfl rfl)
theorem dX0_account_268 : decode cX0_account 268 = .ok (.iconst 1, 1) := dk_4 (dk_at dksX0_account_9 12 rfl rfl)
theorem dX0_account_269 : decode cX0_account 269 = .ok (.invokevirtual 301, 3) := dk_182 1 45 (dk_at dksX0_account_9 13 rfl rfl)
theorem dX0_account_272 : decode cX0_account 272 = .ok (.goto 25, 3) := dk_167 0 25 (dk_at dksX0_account_9 16 rfl rfl)
theorem dX0_account_275 : decode cX0_account 275 = .ok (.aload_n 0, 1) := dk_42 (dk_at dksX0_account_9 19 rfl rfl)
theorem dX0_account_276 : decode cX0_account 276 = .ok (.getfield 32, 3) := dk_180 0 32 (dk_at dksX0_account_9 20 rfl rfl)
theorem dX0_account_279 : decode cX0_account 279 = .ok (.invokevirtual 213, 3) := dk_182 0 213 (dk_at dksX0_account_10 0 rfl rfl)
theorem dX0_account_282 : decode cX0_account 282 = .ok (.goto 15, 3) := dk_167 0 15 (dk_at dksX0_account_10 3 rfl rfl)
theorem dX0_account_285 : decode cX0_account 285 = .ok (.aload_n 0, 1) := dk_42 (dk_at dksX0_account_10 6 rfl rfl)
theorem dX0_account_286 : decode cX0_account 286 = .ok (.getfield 19, 3) := dk_180 0 19 (dk_at dksX0_account_10 7 rfl rfl)
theorem dX0_account_289 : decode cX0_account 289 = .ok (.invokevirtual 70, 3) := dk_182 0 70 (dk_at dksX0_account_10 10 rfl rfl)
theorem dX0_account_292 : decode cX0_account 292 = .ok (.goto 5, 3) := dk_167 0 5 (dk_at dksX0_account_10 13 rfl rfl)
theorem dX0_account_295 : decode cX0_account 295 = .ok (.bipush (-12), 2) := dk_16 244 (dk_at dksX0_account_10 16 rfl rfl)
theorem dX0_account_297 : decode cX0_account 297 = .ok (.ireturn, 1) := dk_172 (dk_at dksX0_account_10 18 rfl rfl)
abbrev cX0_isBalanced : ByteArray := prog_1_method_41_code
def yX0_isBalanced : MethodName := ⟨RX0, "isBalanced", "()I"⟩
def dkwX0_isBalanced_0 : List UInt8 := [42, 180, 0, 10, 182, 1, 48, 153, 0, 7, 4, 167, 0, 4, 3, 172]
abbrev dktX0_isBalanced_0 : List UInt8 := dkwX0_isBalanced_0 ++ []
theorem dksX0_isBalanced_0 : cX0_isBalanced.data.toList.drop 0 = dktX0_isBalanced_0 := by decide +kernel
theorem dX0_isBalanced_0 : decode cX0_isBalanced 0 = .ok (.aload_n 0, 1) := dk_42 (dk_at dksX0_isBalanced_0 0 rfl rfl)
theorem dX0_isBalanced_1 : decode cX0_isBalanced 1 = .ok (.getfield 10, 3) := dk_180 0 10 (dk_at dksX0_isBalanced_0 1 rfl rfl)
theorem dX0_isBalanced_4 : decode cX0_isBalanced 4 = .ok (.invokevirtual 304, 3) := dk_182 1 48 (dk_at dksX0_isBalanced_0 4 rfl rfl)
theorem dX0_isBalanced_7 : decode cX0_isBalanced 7 = .ok (.ifCond .eq 7, 3) := dk_153 0 7 (dk_at dksX0_isBalanced_0 7 rfl rfl)
theorem dX0_isBalanced_10 : decode cX0_isBalanced 10 = .ok (.iconst 1, 1) := dk_4 (dk_at dksX0_isBalanced_0 10 rfl rfl)
theorem dX0_isBalanced_11 : decode cX0_isBalanced 11 = .ok (.goto 4, 3) := dk_167 0 4 (dk_at dksX0_isBalanced_0 11 rfl rfl)
theorem dX0_isBalanced_14 : decode cX0_isBalanced 14 = .ok (.iconst 0, 1) := dk_3 (dk_at dksX0_isBalanced_0 14 rfl rfl)
theorem dX0_isBalanced_15 : decode cX0_isBalanced 15 = .ok (.ireturn, 1) := dk_172 (dk_at dksX0_isBalanced_0 15 rfl rfl)
abbrev cX0_meanDepth : ByteArray := prog_1_method_42_code
def yX0_meanDepth : MethodName := ⟨RX0, "meanDepth", "(I)D"⟩
def dkwX0_meanDepth_2 : List UInt8 := [182, 0, 86, 192, 0, 164, 77, 44, 182, 1, 55, 135, 44, 182, 1, 52, 135, 111, 175]
abbrev dktX0_meanDepth_2 : List UInt8 := dkwX0_meanDepth_2 ++ []
def dkwX0_meanDepth_1 : List UInt8 := [182, 0, 86, 192, 0, 164, 182, 1, 52, 154, 0, 5, 14, 175, 42, 180, 0, 10, 180, 0, 147, 27]
abbrev dktX0_meanDepth_1 : List UInt8 := dkwX0_meanDepth_1 ++ dktX0_meanDepth_2
def dkwX0_meanDepth_0 : List UInt8 := [42, 180, 0, 10, 180, 0, 147, 27, 182, 0, 125, 153, 0, 23, 42, 180, 0, 10, 180, 0, 147, 27]
abbrev dktX0_meanDepth_0 : List UInt8 := dkwX0_meanDepth_0 ++ dktX0_meanDepth_1
theorem dksX0_meanDepth_0 : cX0_meanDepth.data.toList.drop 0 = dktX0_meanDepth_0 := by decide +kernel
theorem dksX0_meanDepth_1 : cX0_meanDepth.data.toList.drop 22 = dktX0_meanDepth_1 := dk_seg dksX0_meanDepth_0 22 rfl rfl
theorem dksX0_meanDepth_2 : cX0_meanDepth.data.toList.drop 44 = dktX0_meanDepth_2 := dk_seg dksX0_meanDepth_1 22 rfl rfl
theorem dX0_meanDepth_0 : decode cX0_meanDepth 0 = .ok (.aload_n 0, 1) := dk_42 (dk_at dksX0_meanDepth_0 0 rfl rfl)
theorem dX0_meanDepth_1 : decode cX0_meanDepth 1 = .ok (.getfield 10, 3) := dk_180 0 10 (dk_at dksX0_meanDepth_0 1 rfl rfl)
theorem dX0_meanDepth_4 : decode cX0_meanDepth 4 = .ok (.getfield 147, 3) := dk_180 0 147 (dk_at dksX0_meanDepth_0 4 rfl rfl)
theorem dX0_meanDepth_7 : decode cX0_meanDepth 7 = .ok (.iload_n 1, 1) := dk_27 (dk_at dksX0_meanDepth_0 7 rfl rfl)
theorem dX0_meanDepth_8 : decode cX0_meanDepth 8 = .ok (.invokevirtual 125, 3) := dk_182 0 125 (dk_at dksX0_meanDepth_0 8 rfl rfl)
theorem dX0_meanDepth_11 : decode cX0_meanDepth 11 = .ok (.ifCond .eq 23, 3) := dk_153 0 23 (dk_at dksX0_meanDepth_0 11 rfl rfl)
theorem dX0_meanDepth_14 : decode cX0_meanDepth 14 = .ok (.aload_n 0, 1) := dk_42 (dk_at dksX0_meanDepth_0 14 rfl rfl)
theorem dX0_meanDepth_15 : decode cX0_meanDepth 15 = .ok (.getfield 10, 3) := dk_180 0 10 (dk_at dksX0_meanDepth_0 15 rfl rfl)
theorem dX0_meanDepth_18 : decode cX0_meanDepth 18 = .ok (.getfield 147, 3) := dk_180 0 147 (dk_at dksX0_meanDepth_0 18 rfl rfl)
theorem dX0_meanDepth_21 : decode cX0_meanDepth 21 = .ok (.iload_n 1, 1) := dk_27 (dk_at dksX0_meanDepth_0 21 rfl rfl)
theorem dX0_meanDepth_22 : decode cX0_meanDepth 22 = .ok (.invokevirtual 86, 3) := dk_182 0 86 (dk_at dksX0_meanDepth_1 0 rfl rfl)
theorem dX0_meanDepth_25 : decode cX0_meanDepth 25 = .ok (.checkcast 164, 3) := dk_192 0 164 (dk_at dksX0_meanDepth_1 3 rfl rfl)
theorem dX0_meanDepth_28 : decode cX0_meanDepth 28 = .ok (.invokevirtual 308, 3) := dk_182 1 52 (dk_at dksX0_meanDepth_1 6 rfl rfl)
theorem dX0_meanDepth_31 : decode cX0_meanDepth 31 = .ok (.ifCond .ne 5, 3) := dk_154 0 5 (dk_at dksX0_meanDepth_1 9 rfl rfl)
theorem dX0_meanDepth_34 : decode cX0_meanDepth 34 = .ok (.dconst 0, 1) := dk_14 (dk_at dksX0_meanDepth_1 12 rfl rfl)
theorem dX0_meanDepth_35 : decode cX0_meanDepth 35 = .ok (.dreturn, 1) := dk_175 (dk_at dksX0_meanDepth_1 13 rfl rfl)
theorem dX0_meanDepth_36 : decode cX0_meanDepth 36 = .ok (.aload_n 0, 1) := dk_42 (dk_at dksX0_meanDepth_1 14 rfl rfl)
theorem dX0_meanDepth_37 : decode cX0_meanDepth 37 = .ok (.getfield 10, 3) := dk_180 0 10 (dk_at dksX0_meanDepth_1 15 rfl rfl)
theorem dX0_meanDepth_40 : decode cX0_meanDepth 40 = .ok (.getfield 147, 3) := dk_180 0 147 (dk_at dksX0_meanDepth_1 18 rfl rfl)
theorem dX0_meanDepth_43 : decode cX0_meanDepth 43 = .ok (.iload_n 1, 1) := dk_27 (dk_at dksX0_meanDepth_1 21 rfl rfl)
theorem dX0_meanDepth_44 : decode cX0_meanDepth 44 = .ok (.invokevirtual 86, 3) := dk_182 0 86 (dk_at dksX0_meanDepth_2 0 rfl rfl)
theorem dX0_meanDepth_47 : decode cX0_meanDepth 47 = .ok (.checkcast 164, 3) := dk_192 0 164 (dk_at dksX0_meanDepth_2 3 rfl rfl)
theorem dX0_meanDepth_50 : decode cX0_meanDepth 50 = .ok (.astore_n 2, 1) := dk_77 (dk_at dksX0_meanDepth_2 6 rfl rfl)
theorem dX0_meanDepth_51 : decode cX0_meanDepth 51 = .ok (.aload_n 2, 1) := dk_44 (dk_at dksX0_meanDepth_2 7 rfl rfl)
theorem dX0_meanDepth_52 : decode cX0_meanDepth 52 = .ok (.invokevirtual 311, 3) := dk_182 1 55 (dk_at dksX0_meanDepth_2 8 rfl rfl)
theorem dX0_meanDepth_55 : decode cX0_meanDepth 55 = .ok (.i2d, 1) := dk_135 (dk_at dksX0_meanDepth_2 11 rfl rfl)
theorem dX0_meanDepth_56 : decode cX0_meanDepth 56 = .ok (.aload_n 2, 1) := dk_44 (dk_at dksX0_meanDepth_2 12 rfl rfl)
theorem dX0_meanDepth_57 : decode cX0_meanDepth 57 = .ok (.invokevirtual 308, 3) := dk_182 1 52 (dk_at dksX0_meanDepth_2 13 rfl rfl)
theorem dX0_meanDepth_60 : decode cX0_meanDepth 60 = .ok (.i2d, 1) := dk_135 (dk_at dksX0_meanDepth_2 16 rfl rfl)
theorem dX0_meanDepth_61 : decode cX0_meanDepth 61 = .ok (.ddiv, 1) := dk_111 (dk_at dksX0_meanDepth_2 17 rfl rfl)
theorem dX0_meanDepth_62 : decode cX0_meanDepth 62 = .ok (.dreturn, 1) := dk_175 (dk_at dksX0_meanDepth_2 18 rfl rfl)
abbrev cX0_spoutShare : ByteArray := prog_1_method_43_code
def yX0_spoutShare : MethodName := ⟨RX0, "spoutShare", "()F"⟩
def dkwX0_spoutShare_1 : List UInt8 := [180, 0, 10, 180, 1, 42, 134, 110, 174]
abbrev dktX0_spoutShare_1 : List UInt8 := dkwX0_spoutShare_1 ++ []
def dkwX0_spoutShare_0 : List UInt8 := [42, 180, 0, 10, 180, 1, 42, 154, 0, 7, 11, 167, 0, 21, 42, 180, 0, 10, 8, 182, 1, 45, 134, 42]
abbrev dktX0_spoutShare_0 : List UInt8 := dkwX0_spoutShare_0 ++ dktX0_spoutShare_1
theorem dksX0_spoutShare_0 : cX0_spoutShare.data.toList.drop 0 = dktX0_spoutShare_0 := by decide +kernel
theorem dksX0_spoutShare_1 : cX0_spoutShare.data.toList.drop 24 = dktX0_spoutShare_1 := dk_seg dksX0_spoutShare_0 24 rfl rfl
theorem dX0_spoutShare_0 : decode cX0_spoutShare 0 = .ok (.aload_n 0, 1) := dk_42 (dk_at dksX0_spoutShare_0 0 rfl rfl)
theorem dX0_spoutShare_1 : decode cX0_spoutShare 1 = .ok (.getfield 10, 3) := dk_180 0 10 (dk_at dksX0_spoutShare_0 1 rfl rfl)
theorem dX0_spoutShare_4 : decode cX0_spoutShare 4 = .ok (.getfield 298, 3) := dk_180 1 42 (dk_at dksX0_spoutShare_0 4 rfl rfl)
theorem dX0_spoutShare_7 : decode cX0_spoutShare 7 = .ok (.ifCond .ne 7, 3) := dk_154 0 7 (dk_at dksX0_spoutShare_0 7 rfl rfl)
theorem dX0_spoutShare_10 : decode cX0_spoutShare 10 = .ok (.fconst 0, 1) := dk_11 (dk_at dksX0_spoutShare_0 10 rfl rfl)
theorem dX0_spoutShare_11 : decode cX0_spoutShare 11 = .ok (.goto 21, 3) := dk_167 0 21 (dk_at dksX0_spoutShare_0 11 rfl rfl)
theorem dX0_spoutShare_14 : decode cX0_spoutShare 14 = .ok (.aload_n 0, 1) := dk_42 (dk_at dksX0_spoutShare_0 14 rfl rfl)
theorem dX0_spoutShare_15 : decode cX0_spoutShare 15 = .ok (.getfield 10, 3) := dk_180 0 10 (dk_at dksX0_spoutShare_0 15 rfl rfl)
theorem dX0_spoutShare_18 : decode cX0_spoutShare 18 = .ok (.iconst 5, 1) := dk_8 (dk_at dksX0_spoutShare_0 18 rfl rfl)
theorem dX0_spoutShare_19 : decode cX0_spoutShare 19 = .ok (.invokevirtual 301, 3) := dk_182 1 45 (dk_at dksX0_spoutShare_0 19 rfl rfl)
theorem dX0_spoutShare_22 : decode cX0_spoutShare 22 = .ok (.i2f, 1) := dk_134 (dk_at dksX0_spoutShare_0 22 rfl rfl)
theorem dX0_spoutShare_23 : decode cX0_spoutShare 23 = .ok (.aload_n 0, 1) := dk_42 (dk_at dksX0_spoutShare_0 23 rfl rfl)
theorem dX0_spoutShare_24 : decode cX0_spoutShare 24 = .ok (.getfield 10, 3) := dk_180 0 10 (dk_at dksX0_spoutShare_1 0 rfl rfl)
theorem dX0_spoutShare_27 : decode cX0_spoutShare 27 = .ok (.getfield 298, 3) := dk_180 1 42 (dk_at dksX0_spoutShare_1 3 rfl rfl)
theorem dX0_spoutShare_30 : decode cX0_spoutShare 30 = .ok (.i2f, 1) := dk_134 (dk_at dksX0_spoutShare_1 6 rfl rfl)
theorem dX0_spoutShare_31 : decode cX0_spoutShare 31 = .ok (.fdiv, 1) := dk_110 (dk_at dksX0_spoutShare_1 7 rfl rfl)
theorem dX0_spoutShare_32 : decode cX0_spoutShare 32 = .ok (.freturn, 1) := dk_174 (dk_at dksX0_spoutShare_1 8 rfl rfl)
abbrev cX0_undo : ByteArray := prog_1_method_44_code
def yX0_undo : MethodName := ⟨RX0, "undo", "()I"⟩
def dkwX0_undo_1 : List UInt8 := [181, 0, 10, 42, 180, 0, 19, 182, 0, 70, 172]
abbrev dktX0_undo_1 : List UInt8 := dkwX0_undo_1 ++ []
def dkwX0_undo_0 : List UInt8 := [42, 180, 0, 19, 182, 1, 58, 153, 0, 6, 16, 241, 172, 42, 42, 180, 0, 19, 182, 1, 61, 192, 0, 7]
abbrev dktX0_undo_0 : List UInt8 := dkwX0_undo_0 ++ dktX0_undo_1
theorem dksX0_undo_0 : cX0_undo.data.toList.drop 0 = dktX0_undo_0 := by decide +kernel
theorem dksX0_undo_1 : cX0_undo.data.toList.drop 24 = dktX0_undo_1 := dk_seg dksX0_undo_0 24 rfl rfl
theorem dX0_undo_0 : decode cX0_undo 0 = .ok (.aload_n 0, 1) := dk_42 (dk_at dksX0_undo_0 0 rfl rfl)
theorem dX0_undo_1 : decode cX0_undo 1 = .ok (.getfield 19, 3) := dk_180 0 19 (dk_at dksX0_undo_0 1 rfl rfl)
theorem dX0_undo_4 : decode cX0_undo 4 = .ok (.invokevirtual 314, 3) := dk_182 1 58 (dk_at dksX0_undo_0 4 rfl rfl)
theorem dX0_undo_7 : decode cX0_undo 7 = .ok (.ifCond .eq 6, 3) := dk_153 0 6 (dk_at dksX0_undo_0 7 rfl rfl)
theorem dX0_undo_10 : decode cX0_undo 10 = .ok (.bipush (-15), 2) := dk_16 241 (dk_at dksX0_undo_0 10 rfl rfl)
theorem dX0_undo_12 : decode cX0_undo 12 = .ok (.ireturn, 1) := dk_172 (dk_at dksX0_undo_0 12 rfl rfl)
theorem dX0_undo_13 : decode cX0_undo 13 = .ok (.aload_n 0, 1) := dk_42 (dk_at dksX0_undo_0 13 rfl rfl)
theorem dX0_undo_14 : decode cX0_undo 14 = .ok (.aload_n 0, 1) := dk_42 (dk_at dksX0_undo_0 14 rfl rfl)
theorem dX0_undo_15 : decode cX0_undo 15 = .ok (.getfield 19, 3) := dk_180 0 19 (dk_at dksX0_undo_0 15 rfl rfl)
theorem dX0_undo_18 : decode cX0_undo 18 = .ok (.invokevirtual 317, 3) := dk_182 1 61 (dk_at dksX0_undo_0 18 rfl rfl)
theorem dX0_undo_21 : decode cX0_undo 21 = .ok (.checkcast 7, 3) := dk_192 0 7 (dk_at dksX0_undo_0 21 rfl rfl)
theorem dX0_undo_24 : decode cX0_undo 24 = .ok (.putfield 10, 3) := dk_181 0 10 (dk_at dksX0_undo_1 0 rfl rfl)
theorem dX0_undo_27 : decode cX0_undo 27 = .ok (.aload_n 0, 1) := dk_42 (dk_at dksX0_undo_1 3 rfl rfl)
theorem dX0_undo_28 : decode cX0_undo 28 = .ok (.getfield 19, 3) := dk_180 0 19 (dk_at dksX0_undo_1 4 rfl rfl)
theorem dX0_undo_31 : decode cX0_undo 31 = .ok (.invokevirtual 70, 3) := dk_182 0 70 (dk_at dksX0_undo_1 7 rfl rfl)
theorem dX0_undo_34 : decode cX0_undo 34 = .ok (.ireturn, 1) := dk_172 (dk_at dksX0_undo_1 10 rfl rfl)
abbrev cX0_save : ByteArray := prog_1_method_45_code
def yX0_save : MethodName := ⟨RX0, "save", "()I"⟩
def dkwX0_save_0 : List UInt8 := [42, 42, 180, 0, 10, 182, 0, 104, 181, 1, 64, 42, 180, 1, 64, 180, 0, 122, 182, 1, 23, 172]
abbrev dktX0_save_0 : List UInt8 := dkwX0_save_0 ++ []
theorem dksX0_save_0 : cX0_save.data.toList.drop 0 = dktX0_save_0 := by decide +kernel
theorem dX0_save_0 : decode cX0_save 0 = .ok (.aload_n 0, 1) := dk_42 (dk_at dksX0_save_0 0 rfl rfl)
theorem dX0_save_1 : decode cX0_save 1 = .ok (.aload_n 0, 1) := dk_42 (dk_at dksX0_save_0 1 rfl rfl)
theorem dX0_save_2 : decode cX0_save 2 = .ok (.getfield 10, 3) := dk_180 0 10 (dk_at dksX0_save_0 2 rfl rfl)
theorem dX0_save_5 : decode cX0_save 5 = .ok (.invokevirtual 104, 3) := dk_182 0 104 (dk_at dksX0_save_0 5 rfl rfl)
theorem dX0_save_8 : decode cX0_save 8 = .ok (.putfield 320, 3) := dk_181 1 64 (dk_at dksX0_save_0 8 rfl rfl)
theorem dX0_save_11 : decode cX0_save 11 = .ok (.aload_n 0, 1) := dk_42 (dk_at dksX0_save_0 11 rfl rfl)
theorem dX0_save_12 : decode cX0_save 12 = .ok (.getfield 320, 3) := dk_180 1 64 (dk_at dksX0_save_0 12 rfl rfl)
theorem dX0_save_15 : decode cX0_save 15 = .ok (.getfield 122, 3) := dk_180 0 122 (dk_at dksX0_save_0 15 rfl rfl)
theorem dX0_save_18 : decode cX0_save 18 = .ok (.invokevirtual 279, 3) := dk_182 1 23 (dk_at dksX0_save_0 18 rfl rfl)
theorem dX0_save_21 : decode cX0_save 21 = .ok (.ireturn, 1) := dk_172 (dk_at dksX0_save_0 21 rfl rfl)
abbrev cX0_restore : ByteArray := prog_1_method_46_code
def yX0_restore : MethodName := ⟨RX0, "restore", "()I"⟩
def dkwX0_restore_1 : List UInt8 := [180, 0, 19, 182, 1, 67, 42, 180, 0, 10, 180, 0, 122, 182, 1, 23, 172]
abbrev dktX0_restore_1 : List UInt8 := dkwX0_restore_1 ++ []
def dkwX0_restore_0 : List UInt8 := [42, 180, 1, 64, 199, 0, 6, 16, 241, 172, 42, 42, 180, 1, 64, 182, 0, 104, 181, 0, 10, 42]
abbrev dktX0_restore_0 : List UInt8 := dkwX0_restore_0 ++ dktX0_restore_1
theorem dksX0_restore_0 : cX0_restore.data.toList.drop 0 = dktX0_restore_0 := by decide +kernel
theorem dksX0_restore_1 : cX0_restore.data.toList.drop 22 = dktX0_restore_1 := dk_seg dksX0_restore_0 22 rfl rfl
theorem dX0_restore_0 : decode cX0_restore 0 = .ok (.aload_n 0, 1) := dk_42 (dk_at dksX0_restore_0 0 rfl rfl)
theorem dX0_restore_1 : decode cX0_restore 1 = .ok (.getfield 320, 3) := dk_180 1 64 (dk_at dksX0_restore_0 1 rfl rfl)
theorem dX0_restore_4 : decode cX0_restore 4 = .ok (.ifnonnull 6, 3) := dk_199 0 6 (dk_at dksX0_restore_0 4 rfl rfl)
theorem dX0_restore_7 : decode cX0_restore 7 = .ok (.bipush (-15), 2) := dk_16 241 (dk_at dksX0_restore_0 7 rfl rfl)
theorem dX0_restore_9 : decode cX0_restore 9 = .ok (.ireturn, 1) := dk_172 (dk_at dksX0_restore_0 9 rfl rfl)
theorem dX0_restore_10 : decode cX0_restore 10 = .ok (.aload_n 0, 1) := dk_42 (dk_at dksX0_restore_0 10 rfl rfl)
theorem dX0_restore_11 : decode cX0_restore 11 = .ok (.aload_n 0, 1) := dk_42 (dk_at dksX0_restore_0 11 rfl rfl)
theorem dX0_restore_12 : decode cX0_restore 12 = .ok (.getfield 320, 3) := dk_180 1 64 (dk_at dksX0_restore_0 12 rfl rfl)
theorem dX0_restore_15 : decode cX0_restore 15 = .ok (.invokevirtual 104, 3) := dk_182 0 104 (dk_at dksX0_restore_0 15 rfl rfl)
theorem dX0_restore_18 : decode cX0_restore 18 = .ok (.putfield 10, 3) := dk_181 0 10 (dk_at dksX0_restore_0 18 rfl rfl)
theorem dX0_restore_21 : decode cX0_restore 21 = .ok (.aload_n 0, 1) := dk_42 (dk_at dksX0_restore_0 21 rfl rfl)
theorem dX0_restore_22 : decode cX0_restore 22 = .ok (.getfield 19, 3) := dk_180 0 19 (dk_at dksX0_restore_1 0 rfl rfl)
theorem dX0_restore_25 : decode cX0_restore 25 = .ok (.invokevirtual 323, 3) := dk_182 1 67 (dk_at dksX0_restore_1 3 rfl rfl)
theorem dX0_restore_28 : decode cX0_restore 28 = .ok (.aload_n 0, 1) := dk_42 (dk_at dksX0_restore_1 6 rfl rfl)
theorem dX0_restore_29 : decode cX0_restore 29 = .ok (.getfield 10, 3) := dk_180 0 10 (dk_at dksX0_restore_1 7 rfl rfl)
theorem dX0_restore_32 : decode cX0_restore 32 = .ok (.getfield 122, 3) := dk_180 0 122 (dk_at dksX0_restore_1 10 rfl rfl)
theorem dX0_restore_35 : decode cX0_restore 35 = .ok (.invokevirtual 279, 3) := dk_182 1 23 (dk_at dksX0_restore_1 13 rfl rfl)
theorem dX0_restore_38 : decode cX0_restore 38 = .ok (.ireturn, 1) := dk_172 (dk_at dksX0_restore_1 16 rfl rfl)
theorem q64 : (Jvm.Cond.initialized "GargoyleCopyists") ∈ lw_all := lw_g (lw_at lw_m1 1 rfl) rfl
theorem q104 : (Jvm.Cond.instantiable "GargoyleCopyists" (8 : Nat)) ∈ lw_all := lw_g (lw_at lw_m1 41 rfl) rfl
theorem q106 : (Jvm.Cond.instanceMethod ({ cls := "GargoyleCopyists", name := "<init>", desc := "()V" } : Jvm.MethodName)) ∈ lw_all := lw_g (lw_at lw_m1 43 rfl) rfl
theorem q107 : (Jvm.Cond.code ({ cls := "GargoyleCopyists", name := "<init>", desc := "()V" } : Jvm.MethodName) prog_1_method_1_code (2 : Nat) (Option.none : Option Jvm.ClassFile.FieldType)) ∈ lw_all := lw_g (lw_at lw_m1 44 rfl) rfl
theorem q108 : (Jvm.Cond.methodLink "GargoyleCopyists" (1 : Nat) ({ cls := "java/lang/Object", name := "<init>", desc := "()V" } : Jvm.MethodName)) ∈ lw_all := lw_g (lw_at lw_m1 45 rfl) rfl
theorem q111 : (Jvm.Cond.classLink "GargoyleCopyists" (7 : Nat) "GargoyleCopyists$Church") ∈ lw_all := lw_g (lw_at lw_m1 48 rfl) rfl
theorem q113 : (Jvm.Cond.methodLink "GargoyleCopyists" (9 : Nat) ({ cls := "GargoyleCopyists$Church", name := "<init>", desc := "()V" } : Jvm.MethodName)) ∈ lw_all := lw_g (lw_at lw_m1 50 rfl) rfl
theorem q236 : (Jvm.Cond.selects "GargoyleCopyists" ({ cls := "java/lang/Object", name := "getClass", desc := "()Ljava/lang/Class;" } : Jvm.MethodName) ({ cls := "java/lang/Object", name := "getClass", desc := "()Ljava/lang/Class;" } : Jvm.MethodName)) ∈ lw_all := lw_g (lw_at lw_m1 173 rfl) rfl
theorem q275 : (Jvm.Cond.fieldLinkNest "GargoyleCopyists" (82 : Nat) "GargoyleCopyists$Church" "ledges" "LGargoyleCopyists$Row;" "GargoyleCopyists") ∈ lw_tbl := lw_at lw_m1 212 rfl
theorem q278 : (Jvm.Cond.fieldLinkNest "GargoyleCopyists" (122 : Nat) "GargoyleCopyists$Church" "casts" "LGargoyleCopyists$Row;" "GargoyleCopyists") ∈ lw_tbl := lw_at lw_m1 215 rfl
theorem q281 : (Jvm.Cond.fieldLinkNest "GargoyleCopyists" (138 : Nat) "GargoyleCopyists$Church" "copyists" "LGargoyleCopyists$Row;" "GargoyleCopyists") ∈ lw_tbl := lw_at lw_m1 218 rfl
theorem q284 : (Jvm.Cond.fieldLinkNest "GargoyleCopyists" (147 : Nat) "GargoyleCopyists$Church" "copies" "LGargoyleCopyists$Row;" "GargoyleCopyists") ∈ lw_tbl := lw_at lw_m1 221 rfl
theorem q286 : (Jvm.Cond.fieldLinkNest "GargoyleCopyists" (276 : Nat) "GargoyleCopyists$Church" "sacks" "I" "GargoyleCopyists") ∈ lw_tbl := lw_at lw_m1 223 rfl
theorem q288 : (Jvm.Cond.fieldLinkNest "GargoyleCopyists" (289 : Nat) "GargoyleCopyists$Church" "coins" "I" "GargoyleCopyists") ∈ lw_tbl := lw_at lw_m1 225 rfl
theorem q290 : (Jvm.Cond.fieldLinkNest "GargoyleCopyists" (292 : Nat) "GargoyleCopyists$Church" "paid" "I" "GargoyleCopyists") ∈ lw_tbl := lw_at lw_m1 227 rfl
theorem q292 : (Jvm.Cond.fieldLinkNest "GargoyleCopyists" (295 : Nat) "GargoyleCopyists$Church" "spent" "I" "GargoyleCopyists") ∈ lw_tbl := lw_at lw_m1 229 rfl
theorem q294 : (Jvm.Cond.fieldLinkNest "GargoyleCopyists" (270 : Nat) "GargoyleCopyists$Church" "rain" "I" "GargoyleCopyists") ∈ lw_tbl := lw_at lw_m1 231 rfl
theorem q296 : (Jvm.Cond.fieldLinkNest "GargoyleCopyists" (273 : Nat) "GargoyleCopyists$Church" "wind" "I" "GargoyleCopyists") ∈ lw_tbl := lw_at lw_m1 233 rfl
theorem q298 : (Jvm.Cond.fieldLinkNest "GargoyleCopyists" (267 : Nat) "GargoyleCopyists$Church" "hour" "I" "GargoyleCopyists") ∈ lw_tbl := lw_at lw_m1 235 rfl
theorem q300 : (Jvm.Cond.fieldLinkNest "GargoyleCopyists" (298 : Nat) "GargoyleCopyists$Church" "fell" "I" "GargoyleCopyists") ∈ lw_tbl := lw_at lw_m1 237 rfl
theorem q326 : (Jvm.Cond.classLink "GargoyleCopyists" (16 : Nat) "java/util/ArrayDeque") ∈ lw_all := lw_g (lw_at lw_m2 23 rfl) rfl
theorem q328 : (Jvm.Cond.methodLink "GargoyleCopyists" (18 : Nat) ({ cls := "java/util/ArrayDeque", name := "<init>", desc := "()V" } : Jvm.MethodName)) ∈ lw_all := lw_g (lw_at lw_m2 25 rfl) rfl
theorem q343 : (Jvm.Cond.classLink "GargoyleCopyists" (23 : Nat) "GargoyleCopyists$Cut") ∈ lw_all := lw_g (lw_at lw_m2 40 rfl) rfl
theorem q345 : (Jvm.Cond.classLink "GargoyleCopyists" (29 : Nat) "java/lang/StringBuilder") ∈ lw_all := lw_g (lw_at lw_m2 42 rfl) rfl
theorem q347 : (Jvm.Cond.methodLink "GargoyleCopyists" (31 : Nat) ({ cls := "java/lang/StringBuilder", name := "<init>", desc := "()V" } : Jvm.MethodName)) ∈ lw_all := lw_g (lw_at lw_m2 44 rfl) rfl
theorem q378 : (Jvm.Cond.stringRef "GargoyleCopyists" (36 : Nat) "") ∈ lw_tbl := lw_at lw_m2 75 rfl
theorem q379 : (Jvm.Cond.static ({ cls := "GargoyleCopyists", name := "lambda$new$0", desc := "(II)I" } : Jvm.MethodName)) ∈ lw_all := lw_g (lw_at lw_m2 76 rfl) rfl
theorem q380 : (Jvm.Cond.code ({ cls := "GargoyleCopyists", name := "lambda$new$0", desc := "(II)I" } : Jvm.MethodName) prog_1_method_49_code (2 : Nat) (Option.some Jvm.ClassFile.FieldType.int)) ∈ lw_all := lw_g (lw_at lw_m2 77 rfl) rfl
theorem q381 : (Jvm.Cond.static ({ cls := "GargoyleCopyists", name := "lambda$new$1", desc := "(II)I" } : Jvm.MethodName)) ∈ lw_all := lw_g (lw_at lw_m2 78 rfl) rfl
theorem q382 : (Jvm.Cond.code ({ cls := "GargoyleCopyists", name := "lambda$new$1", desc := "(II)I" } : Jvm.MethodName) prog_1_method_48_code (2 : Nat) (Option.some Jvm.ClassFile.FieldType.int)) ∈ lw_all := lw_g (lw_at lw_m2 79 rfl) rfl
theorem q383 : (Jvm.Cond.static ({ cls := "GargoyleCopyists", name := "lambda$new$2", desc := "(II)I" } : Jvm.MethodName)) ∈ lw_all := lw_g (lw_at lw_m2 80 rfl) rfl
theorem q384 : (Jvm.Cond.code ({ cls := "GargoyleCopyists", name := "lambda$new$2", desc := "(II)I" } : Jvm.MethodName) prog_1_method_47_code (2 : Nat) (Option.some Jvm.ClassFile.FieldType.int)) ∈ lw_all := lw_g (lw_at lw_m2 81 rfl) rfl
theorem q385 : (Jvm.Cond.fieldLink "GargoyleCopyists" (10 : Nat) "GargoyleCopyists" "church" "LGargoyleCopyists$Church;") ∈ lw_all := lw_g (lw_at lw_m2 82 rfl) rfl
theorem q386 : (Jvm.Cond.fieldLink "GargoyleCopyists" (320 : Nat) "GargoyleCopyists" "saved" "LGargoyleCopyists$Church;") ∈ lw_all := lw_g (lw_at lw_m2 83 rfl) rfl
theorem q387 : (Jvm.Cond.fieldLink "GargoyleCopyists" (19 : Nat) "GargoyleCopyists" "past" "Ljava/util/ArrayDeque;") ∈ lw_all := lw_g (lw_at lw_m2 84 rfl) rfl
theorem q388 : (Jvm.Cond.fieldLink "GargoyleCopyists" (61 : Nat) "GargoyleCopyists" "reason" "I") ∈ lw_all := lw_g (lw_at lw_m2 85 rfl) rfl
theorem q389 : (Jvm.Cond.fieldLink "GargoyleCopyists" (65 : Nat) "GargoyleCopyists" "detail" "I") ∈ lw_all := lw_g (lw_at lw_m2 86 rfl) rfl
theorem q390 : (Jvm.Cond.fieldLink "GargoyleCopyists" (25 : Nat) "GargoyleCopyists" "cuts" "[LGargoyleCopyists$Cut;") ∈ lw_all := lw_g (lw_at lw_m2 87 rfl) rfl
theorem q391 : (Jvm.Cond.fieldLink "GargoyleCopyists" (32 : Nat) "GargoyleCopyists" "text" "Ljava/lang/StringBuilder;") ∈ lw_all := lw_g (lw_at lw_m2 88 rfl) rfl
theorem q392 : (Jvm.Cond.fieldLink "GargoyleCopyists" (38 : Nat) "GargoyleCopyists" "line" "Ljava/lang/String;") ∈ lw_all := lw_g (lw_at lw_m2 89 rfl) rfl
theorem q393 : (Jvm.Cond.lays "GargoyleCopyists" "GargoyleCopyists" "church" "LGargoyleCopyists$Church;") ∈ lw_all := lw_g (lw_at lw_m2 90 rfl) rfl
theorem q394 : (Jvm.Cond.soleField "GargoyleCopyists" "church") ∈ lw_all := lw_g (lw_at lw_m2 91 rfl) rfl
theorem q395 : (Jvm.Cond.lays "GargoyleCopyists" "GargoyleCopyists" "saved" "LGargoyleCopyists$Church;") ∈ lw_all := lw_g (lw_at lw_m2 92 rfl) rfl
theorem q396 : (Jvm.Cond.soleField "GargoyleCopyists" "saved") ∈ lw_all := lw_g (lw_at lw_m2 93 rfl) rfl
theorem q397 : (Jvm.Cond.laysFinal "GargoyleCopyists" "GargoyleCopyists" "past" "Ljava/util/ArrayDeque;") ∈ lw_all := lw_g (lw_at lw_m2 94 rfl) rfl
theorem q398 : (Jvm.Cond.soleField "GargoyleCopyists" "past") ∈ lw_all := lw_g (lw_at lw_m2 95 rfl) rfl
theorem q399 : (Jvm.Cond.lays "GargoyleCopyists" "GargoyleCopyists" "reason" "I") ∈ lw_all := lw_g (lw_at lw_m2 96 rfl) rfl
theorem q400 : (Jvm.Cond.soleField "GargoyleCopyists" "reason") ∈ lw_all := lw_g (lw_at lw_m2 97 rfl) rfl
theorem q401 : (Jvm.Cond.lays "GargoyleCopyists" "GargoyleCopyists" "detail" "I") ∈ lw_all := lw_g (lw_at lw_m2 98 rfl) rfl
theorem q402 : (Jvm.Cond.soleField "GargoyleCopyists" "detail") ∈ lw_all := lw_g (lw_at lw_m2 99 rfl) rfl
theorem q403 : (Jvm.Cond.laysFinal "GargoyleCopyists" "GargoyleCopyists" "cuts" "[LGargoyleCopyists$Cut;") ∈ lw_all := lw_g (lw_at lw_m2 100 rfl) rfl
theorem q404 : (Jvm.Cond.soleField "GargoyleCopyists" "cuts") ∈ lw_all := lw_g (lw_at lw_m2 101 rfl) rfl
theorem q405 : (Jvm.Cond.laysFinal "GargoyleCopyists" "GargoyleCopyists" "text" "Ljava/lang/StringBuilder;") ∈ lw_all := lw_g (lw_at lw_m2 102 rfl) rfl
theorem q406 : (Jvm.Cond.soleField "GargoyleCopyists" "text") ∈ lw_all := lw_g (lw_at lw_m2 103 rfl) rfl
theorem q407 : (Jvm.Cond.lays "GargoyleCopyists" "GargoyleCopyists" "line" "Ljava/lang/String;") ∈ lw_all := lw_g (lw_at lw_m2 104 rfl) rfl
theorem q408 : (Jvm.Cond.soleField "GargoyleCopyists" "line") ∈ lw_all := lw_g (lw_at lw_m2 105 rfl) rfl
theorem q409 : (Jvm.Cond.superclass "GargoyleCopyists" "java/lang/Object") ∈ lw_all := lw_g (lw_at lw_m2 106 rfl) rfl
theorem q411 : (Jvm.Cond.instanceMethod ({ cls := "GargoyleCopyists", name := "ledgeOf", desc := "(II)I" } : Jvm.MethodName)) ∈ lw_all := lw_g (lw_at lw_m2 108 rfl) rfl
theorem q412 : (Jvm.Cond.selects "GargoyleCopyists" ({ cls := "GargoyleCopyists", name := "ledgeOf", desc := "(II)I" } : Jvm.MethodName) ({ cls := "GargoyleCopyists", name := "ledgeOf", desc := "(II)I" } : Jvm.MethodName)) ∈ lw_all := lw_g (lw_at lw_m2 109 rfl) rfl
theorem q413 : (Jvm.Cond.code ({ cls := "GargoyleCopyists", name := "ledgeOf", desc := "(II)I" } : Jvm.MethodName) prog_1_method_8_code (3 : Nat) (Option.some Jvm.ClassFile.FieldType.int)) ∈ lw_all := lw_g (lw_at lw_m2 110 rfl) rfl
theorem q414 : (Jvm.Cond.methodLink "GargoyleCopyists" (78 : Nat) ({ cls := "GargoyleCopyists", name := "isLedge", desc := "(I)Z" } : Jvm.MethodName)) ∈ lw_all := lw_g (lw_at lw_m2 111 rfl) rfl
theorem q415 : (Jvm.Cond.static ({ cls := "GargoyleCopyists", name := "isLedge", desc := "(I)Z" } : Jvm.MethodName)) ∈ lw_all := lw_g (lw_at lw_m2 112 rfl) rfl
theorem q416 : (Jvm.Cond.code ({ cls := "GargoyleCopyists", name := "isLedge", desc := "(I)Z" } : Jvm.MethodName) prog_1_method_3_code (1 : Nat) (Option.some Jvm.ClassFile.FieldType.boolean)) ∈ lw_all := lw_g (lw_at lw_m2 113 rfl) rfl
theorem q417 : (Jvm.Cond.methodLink "GargoyleCopyists" (48 : Nat) ({ cls := "GargoyleCopyists", name := "isIn", desc := "(III)Z" } : Jvm.MethodName)) ∈ lw_all := lw_g (lw_at lw_m2 114 rfl) rfl
theorem q418 : (Jvm.Cond.static ({ cls := "GargoyleCopyists", name := "isIn", desc := "(III)Z" } : Jvm.MethodName)) ∈ lw_all := lw_g (lw_at lw_m2 115 rfl) rfl
theorem q419 : (Jvm.Cond.code ({ cls := "GargoyleCopyists", name := "isIn", desc := "(III)Z" } : Jvm.MethodName) prog_1_method_2_code (3 : Nat) (Option.some Jvm.ClassFile.FieldType.boolean)) ∈ lw_all := lw_g (lw_at lw_m2 116 rfl) rfl
theorem q420 : (Jvm.Cond.methodLink "GargoyleCopyists" (86 : Nat) ({ cls := "GargoyleCopyists$Row", name := "at", desc := "(I)Ljava/lang/Object;" } : Jvm.MethodName)) ∈ lw_all := lw_g (lw_at lw_m2 117 rfl) rfl
theorem q438 : (Jvm.Cond.classLink "GargoyleCopyists" (92 : Nat) "GargoyleCopyists$Ledge") ∈ lw_all := lw_g (lw_at lw_m2 135 rfl) rfl
theorem q439 : (Jvm.Cond.methodLink "GargoyleCopyists" (94 : Nat) ({ cls := "GargoyleCopyists$Ledge", name := "value", desc := "(I)I" } : Jvm.MethodName)) ∈ lw_all := lw_g (lw_at lw_m2 136 rfl) rfl
theorem q448 : (Jvm.Cond.instanceMethod ({ cls := "GargoyleCopyists", name := "depth", desc := "(II)I" } : Jvm.MethodName)) ∈ lw_all := lw_g (lw_at lw_m2 145 rfl) rfl
theorem q449 : (Jvm.Cond.selects "GargoyleCopyists" ({ cls := "GargoyleCopyists", name := "depth", desc := "(II)I" } : Jvm.MethodName) ({ cls := "GargoyleCopyists", name := "depth", desc := "(II)I" } : Jvm.MethodName)) ∈ lw_all := lw_g (lw_at lw_m2 146 rfl) rfl
theorem q450 : (Jvm.Cond.code ({ cls := "GargoyleCopyists", name := "depth", desc := "(II)I" } : Jvm.MethodName) prog_1_method_9_code (3 : Nat) (Option.some Jvm.ClassFile.FieldType.int)) ∈ lw_all := lw_g (lw_at lw_m2 147 rfl) rfl
theorem q451 : (Jvm.Cond.methodLink "GargoyleCopyists" (98 : Nat) ({ cls := "GargoyleCopyists", name := "isPoint", desc := "(I)Z" } : Jvm.MethodName)) ∈ lw_all := lw_g (lw_at lw_m2 148 rfl) rfl
theorem q452 : (Jvm.Cond.static ({ cls := "GargoyleCopyists", name := "isPoint", desc := "(I)Z" } : Jvm.MethodName)) ∈ lw_all := lw_g (lw_at lw_m2 149 rfl) rfl
theorem q453 : (Jvm.Cond.code ({ cls := "GargoyleCopyists", name := "isPoint", desc := "(I)Z" } : Jvm.MethodName) prog_1_method_4_code (1 : Nat) (Option.some Jvm.ClassFile.FieldType.boolean)) ∈ lw_all := lw_g (lw_at lw_m2 150 rfl) rfl
theorem q454 : (Jvm.Cond.methodLink "GargoyleCopyists" (101 : Nat) ({ cls := "GargoyleCopyists$Ledge", name := "depth", desc := "(I)I" } : Jvm.MethodName)) ∈ lw_all := lw_g (lw_at lw_m2 151 rfl) rfl
theorem q459 : (Jvm.Cond.instanceMethod ({ cls := "GargoyleCopyists", name := "sacks", desc := "(I)I" } : Jvm.MethodName)) ∈ lw_all := lw_g (lw_at lw_m2 156 rfl) rfl
theorem q460 : (Jvm.Cond.selects "GargoyleCopyists" ({ cls := "GargoyleCopyists", name := "sacks", desc := "(I)I" } : Jvm.MethodName) ({ cls := "GargoyleCopyists", name := "sacks", desc := "(I)I" } : Jvm.MethodName)) ∈ lw_all := lw_g (lw_at lw_m2 157 rfl) rfl
theorem q461 : (Jvm.Cond.codeWith ({ cls := "GargoyleCopyists", name := "sacks", desc := "(I)I" } : Jvm.MethodName) prog_1_method_10_code (4 : Nat) (Option.some Jvm.ClassFile.FieldType.int) [((21 : Nat), (34 : Nat), (35 : Nat), (52 : Nat))]) ∈ lw_all := lw_g (lw_at lw_m2 158 rfl) rfl
theorem q462 : (Jvm.Cond.classLink "GargoyleCopyists" (52 : Nat) "GargoyleCopyists$Refused") ∈ lw_all := lw_g (lw_at lw_m2 159 rfl) rfl
theorem q463 : (Jvm.Cond.methodLink "GargoyleCopyists" (104 : Nat) ({ cls := "GargoyleCopyists$Church", name := "copy", desc := "()LGargoyleCopyists$Church;" } : Jvm.MethodName)) ∈ lw_all := lw_g (lw_at lw_m2 160 rfl) rfl
theorem q669 : (Jvm.Cond.fieldLinkNest "GargoyleCopyists" (174 : Nat) "GargoyleCopyists$Copy" "cast" "I" "GargoyleCopyists") ∈ lw_tbl := lw_at lw_m3 126 rfl
theorem q688 : (Jvm.Cond.methodLink "GargoyleCopyists" (108 : Nat) ({ cls := "GargoyleCopyists$Church", name := "buys", desc := "(I)I" } : Jvm.MethodName)) ∈ lw_all := lw_g (lw_at lw_m3 145 rfl) rfl
theorem q697 : (Jvm.Cond.static ({ cls := "GargoyleCopyists", name := "refuse", desc := "(ZII)V" } : Jvm.MethodName)) ∈ lw_all := lw_g (lw_at lw_m3 154 rfl) rfl
theorem q698 : (Jvm.Cond.code ({ cls := "GargoyleCopyists", name := "refuse", desc := "(ZII)V" } : Jvm.MethodName) prog_1_method_5_code (3 : Nat) (Option.none : Option Jvm.ClassFile.FieldType)) ∈ lw_all := lw_g (lw_at lw_m3 155 rfl) rfl
theorem q707 : (Jvm.Cond.methodLink "GargoyleCopyists" (54 : Nat) ({ cls := "GargoyleCopyists$Refused", name := "<init>", desc := "(II)V" } : Jvm.MethodName)) ∈ lw_all := lw_g (lw_at lw_m3 164 rfl) rfl
theorem q717 : (Jvm.Cond.fieldLinkNest "GargoyleCopyists" (57 : Nat) "GargoyleCopyists$Refused" "reason" "I" "GargoyleCopyists") ∈ lw_tbl := lw_at lw_m3 174 rfl
theorem q719 : (Jvm.Cond.fieldLinkNest "GargoyleCopyists" (62 : Nat) "GargoyleCopyists$Refused" "detail" "I" "GargoyleCopyists") ∈ lw_tbl := lw_at lw_m3 176 rfl
theorem q727 : (Jvm.Cond.methodLink "GargoyleCopyists" (111 : Nat) ({ cls := "GargoyleCopyists", name := "changed", desc := "(LGargoyleCopyists$Church;I)I" } : Jvm.MethodName)) ∈ lw_all := lw_g (lw_at lw_m3 184 rfl) rfl
theorem q728 : (Jvm.Cond.privateMethod ({ cls := "GargoyleCopyists", name := "changed", desc := "(LGargoyleCopyists$Church;I)I" } : Jvm.MethodName)) ∈ lw_tbl := lw_at lw_m3 185 rfl
theorem q729 : (Jvm.Cond.instanceMethod ({ cls := "GargoyleCopyists", name := "changed", desc := "(LGargoyleCopyists$Church;I)I" } : Jvm.MethodName)) ∈ lw_all := lw_g (lw_at lw_m3 186 rfl) rfl
theorem q730 : (Jvm.Cond.code ({ cls := "GargoyleCopyists", name := "changed", desc := "(LGargoyleCopyists$Church;I)I" } : Jvm.MethodName) prog_1_method_7_code (3 : Nat) (Option.some Jvm.ClassFile.FieldType.int)) ∈ lw_all := lw_g (lw_at lw_m3 187 rfl) rfl
theorem q731 : (Jvm.Cond.methodLink "GargoyleCopyists" (66 : Nat) ({ cls := "java/util/ArrayDeque", name := "addLast", desc := "(Ljava/lang/Object;)V" } : Jvm.MethodName)) ∈ lw_all := lw_g (lw_at lw_m3 188 rfl) rfl
theorem q750 : (Jvm.Cond.methodLink "GargoyleCopyists" (70 : Nat) ({ cls := "java/util/ArrayDeque", name := "size", desc := "()I" } : Jvm.MethodName)) ∈ lw_all := lw_g (lw_at lw_m3 207 rfl) rfl
theorem q757 : (Jvm.Cond.methodLink "GargoyleCopyists" (74 : Nat) ({ cls := "java/util/ArrayDeque", name := "removeFirst", desc := "()Ljava/lang/Object;" } : Jvm.MethodName)) ∈ lw_all := lw_g (lw_at lw_m3 214 rfl) rfl
theorem q768 : (Jvm.Cond.methodLink "GargoyleCopyists" (115 : Nat) ({ cls := "GargoyleCopyists", name := "refused", desc := "(LGargoyleCopyists$Refused;)I" } : Jvm.MethodName)) ∈ lw_all := lw_g (lw_at lw_m3 225 rfl) rfl
theorem q769 : (Jvm.Cond.privateMethod ({ cls := "GargoyleCopyists", name := "refused", desc := "(LGargoyleCopyists$Refused;)I" } : Jvm.MethodName)) ∈ lw_tbl := lw_at lw_m3 226 rfl
theorem q770 : (Jvm.Cond.instanceMethod ({ cls := "GargoyleCopyists", name := "refused", desc := "(LGargoyleCopyists$Refused;)I" } : Jvm.MethodName)) ∈ lw_all := lw_g (lw_at lw_m3 227 rfl) rfl
theorem q771 : (Jvm.Cond.code ({ cls := "GargoyleCopyists", name := "refused", desc := "(LGargoyleCopyists$Refused;)I" } : Jvm.MethodName) prog_1_method_6_code (2 : Nat) (Option.some Jvm.ClassFile.FieldType.int)) ∈ lw_all := lw_g (lw_at lw_m3 228 rfl) rfl
theorem q773 : (Jvm.Cond.instanceMethod ({ cls := "GargoyleCopyists", name := "cast", desc := "(I)I" } : Jvm.MethodName)) ∈ lw_all := lw_g (lw_at lw_m3 230 rfl) rfl
theorem q774 : (Jvm.Cond.selects "GargoyleCopyists" ({ cls := "GargoyleCopyists", name := "cast", desc := "(I)I" } : Jvm.MethodName) ({ cls := "GargoyleCopyists", name := "cast", desc := "(I)I" } : Jvm.MethodName)) ∈ lw_all := lw_g (lw_at lw_m3 231 rfl) rfl
theorem q775 : (Jvm.Cond.codeWith ({ cls := "GargoyleCopyists", name := "cast", desc := "(I)I" } : Jvm.MethodName) prog_1_method_11_code (4 : Nat) (Option.some Jvm.ClassFile.FieldType.int) [((18 : Nat), (31 : Nat), (32 : Nat), (52 : Nat))]) ∈ lw_all := lw_g (lw_at lw_m3 232 rfl) rfl
theorem q776 : (Jvm.Cond.methodLink "GargoyleCopyists" (119 : Nat) ({ cls := "GargoyleCopyists$Church", name := "takesCast", desc := "(I)I" } : Jvm.MethodName)) ∈ lw_all := lw_g (lw_at lw_m3 233 rfl) rfl
theorem q788 : (Jvm.Cond.instanceMethod ({ cls := "GargoyleCopyists", name := "castOf", desc := "(II)I" } : Jvm.MethodName)) ∈ lw_all := lw_g (lw_at lw_m4 5 rfl) rfl
theorem q789 : (Jvm.Cond.selects "GargoyleCopyists" ({ cls := "GargoyleCopyists", name := "castOf", desc := "(II)I" } : Jvm.MethodName) ({ cls := "GargoyleCopyists", name := "castOf", desc := "(II)I" } : Jvm.MethodName)) ∈ lw_all := lw_g (lw_at lw_m4 6 rfl) rfl
theorem q790 : (Jvm.Cond.code ({ cls := "GargoyleCopyists", name := "castOf", desc := "(II)I" } : Jvm.MethodName) prog_1_method_12_code (3 : Nat) (Option.some Jvm.ClassFile.FieldType.int)) ∈ lw_all := lw_g (lw_at lw_m4 7 rfl) rfl
theorem q791 : (Jvm.Cond.methodLink "GargoyleCopyists" (125 : Nat) ({ cls := "GargoyleCopyists$Row", name := "has", desc := "(I)Z" } : Jvm.MethodName)) ∈ lw_all := lw_g (lw_at lw_m4 8 rfl) rfl
theorem q796 : (Jvm.Cond.classLink "GargoyleCopyists" (128 : Nat) "GargoyleCopyists$Cast") ∈ lw_all := lw_g (lw_at lw_m4 13 rfl) rfl
theorem q797 : (Jvm.Cond.methodLink "GargoyleCopyists" (130 : Nat) ({ cls := "GargoyleCopyists$Cast", name := "value", desc := "(I)I" } : Jvm.MethodName)) ∈ lw_all := lw_g (lw_at lw_m4 14 rfl) rfl
theorem q806 : (Jvm.Cond.instanceMethod ({ cls := "GargoyleCopyists", name := "castDepth", desc := "(II)I" } : Jvm.MethodName)) ∈ lw_all := lw_g (lw_at lw_m4 23 rfl) rfl
theorem q807 : (Jvm.Cond.selects "GargoyleCopyists" ({ cls := "GargoyleCopyists", name := "castDepth", desc := "(II)I" } : Jvm.MethodName) ({ cls := "GargoyleCopyists", name := "castDepth", desc := "(II)I" } : Jvm.MethodName)) ∈ lw_all := lw_g (lw_at lw_m4 24 rfl) rfl
theorem q808 : (Jvm.Cond.code ({ cls := "GargoyleCopyists", name := "castDepth", desc := "(II)I" } : Jvm.MethodName) prog_1_method_13_code (3 : Nat) (Option.some Jvm.ClassFile.FieldType.int)) ∈ lw_all := lw_g (lw_at lw_m4 25 rfl) rfl
theorem q809 : (Jvm.Cond.methodLink "GargoyleCopyists" (131 : Nat) ({ cls := "GargoyleCopyists$Cast", name := "depth", desc := "(I)I" } : Jvm.MethodName)) ∈ lw_all := lw_g (lw_at lw_m4 26 rfl) rfl
theorem q811 : (Jvm.Cond.instanceMethod ({ cls := "GargoyleCopyists", name := "copyist", desc := "(I)I" } : Jvm.MethodName)) ∈ lw_all := lw_g (lw_at lw_m4 28 rfl) rfl
theorem q812 : (Jvm.Cond.selects "GargoyleCopyists" ({ cls := "GargoyleCopyists", name := "copyist", desc := "(I)I" } : Jvm.MethodName) ({ cls := "GargoyleCopyists", name := "copyist", desc := "(I)I" } : Jvm.MethodName)) ∈ lw_all := lw_g (lw_at lw_m4 29 rfl) rfl
theorem q813 : (Jvm.Cond.codeWith ({ cls := "GargoyleCopyists", name := "copyist", desc := "(I)I" } : Jvm.MethodName) prog_1_method_14_code (4 : Nat) (Option.some Jvm.ClassFile.FieldType.int) [((20 : Nat), (33 : Nat), (34 : Nat), (52 : Nat))]) ∈ lw_all := lw_g (lw_at lw_m4 30 rfl) rfl
theorem q814 : (Jvm.Cond.methodLink "GargoyleCopyists" (132 : Nat) ({ cls := "GargoyleCopyists$Church", name := "comes", desc := "(I)I" } : Jvm.MethodName)) ∈ lw_all := lw_g (lw_at lw_m4 31 rfl) rfl
theorem q820 : (Jvm.Cond.instanceMethod ({ cls := "GargoyleCopyists", name := "begin", desc := "(I)I" } : Jvm.MethodName)) ∈ lw_all := lw_g (lw_at lw_m4 37 rfl) rfl
theorem q821 : (Jvm.Cond.selects "GargoyleCopyists" ({ cls := "GargoyleCopyists", name := "begin", desc := "(I)I" } : Jvm.MethodName) ({ cls := "GargoyleCopyists", name := "begin", desc := "(I)I" } : Jvm.MethodName)) ∈ lw_all := lw_g (lw_at lw_m4 38 rfl) rfl
theorem q822 : (Jvm.Cond.codeWith ({ cls := "GargoyleCopyists", name := "begin", desc := "(I)I" } : Jvm.MethodName) prog_1_method_15_code (4 : Nat) (Option.some Jvm.ClassFile.FieldType.int) [((25 : Nat), (38 : Nat), (39 : Nat), (52 : Nat))]) ∈ lw_all := lw_g (lw_at lw_m4 39 rfl) rfl
theorem q823 : (Jvm.Cond.methodLink "GargoyleCopyists" (135 : Nat) ({ cls := "GargoyleCopyists$Church", name := "begins", desc := "(I)I" } : Jvm.MethodName)) ∈ lw_all := lw_g (lw_at lw_m4 40 rfl) rfl
theorem q834 : (Jvm.Cond.instanceMethod ({ cls := "GargoyleCopyists", name := "would", desc := "(III)I" } : Jvm.MethodName)) ∈ lw_all := lw_g (lw_at lw_m4 51 rfl) rfl
theorem q835 : (Jvm.Cond.selects "GargoyleCopyists" ({ cls := "GargoyleCopyists", name := "would", desc := "(III)I" } : Jvm.MethodName) ({ cls := "GargoyleCopyists", name := "would", desc := "(III)I" } : Jvm.MethodName)) ∈ lw_all := lw_g (lw_at lw_m4 52 rfl) rfl
theorem q836 : (Jvm.Cond.code ({ cls := "GargoyleCopyists", name := "would", desc := "(III)I" } : Jvm.MethodName) prog_1_method_16_code (4 : Nat) (Option.some Jvm.ClassFile.FieldType.int)) ∈ lw_all := lw_g (lw_at lw_m4 53 rfl) rfl
theorem q837 : (Jvm.Cond.classLink "GargoyleCopyists" (141 : Nat) "GargoyleCopyists$Copyist") ∈ lw_all := lw_g (lw_at lw_m4 54 rfl) rfl
theorem q838 : (Jvm.Cond.methodLink "GargoyleCopyists" (143 : Nat) ({ cls := "GargoyleCopyists$Copyist", name := "wouldCut", desc := "(I[LGargoyleCopyists$Cut;)I" } : Jvm.MethodName)) ∈ lw_all := lw_g (lw_at lw_m4 55 rfl) rfl
theorem q848 : (Jvm.Cond.instanceMethod ({ cls := "GargoyleCopyists", name := "cut", desc := "(III)I" } : Jvm.MethodName)) ∈ lw_all := lw_g (lw_at lw_m4 65 rfl) rfl
theorem q849 : (Jvm.Cond.selects "GargoyleCopyists" ({ cls := "GargoyleCopyists", name := "cut", desc := "(III)I" } : Jvm.MethodName) ({ cls := "GargoyleCopyists", name := "cut", desc := "(III)I" } : Jvm.MethodName)) ∈ lw_all := lw_g (lw_at lw_m4 66 rfl) rfl
theorem q850 : (Jvm.Cond.codeWith ({ cls := "GargoyleCopyists", name := "cut", desc := "(III)I" } : Jvm.MethodName) prog_1_method_18_code (6 : Nat) (Option.some Jvm.ClassFile.FieldType.int) [((25 : Nat), (45 : Nat), (46 : Nat), (52 : Nat))]) ∈ lw_all := lw_g (lw_at lw_m4 67 rfl) rfl
theorem q851 : (Jvm.Cond.methodLink "GargoyleCopyists" (150 : Nat) ({ cls := "GargoyleCopyists", name := "areThere", desc := "(LGargoyleCopyists$Church;III)Z" } : Jvm.MethodName)) ∈ lw_all := lw_g (lw_at lw_m4 68 rfl) rfl
theorem q852 : (Jvm.Cond.static ({ cls := "GargoyleCopyists", name := "areThere", desc := "(LGargoyleCopyists$Church;III)Z" } : Jvm.MethodName)) ∈ lw_all := lw_g (lw_at lw_m4 69 rfl) rfl
theorem q853 : (Jvm.Cond.code ({ cls := "GargoyleCopyists", name := "areThere", desc := "(LGargoyleCopyists$Church;III)Z" } : Jvm.MethodName) prog_1_method_17_code (4 : Nat) (Option.some Jvm.ClassFile.FieldType.boolean)) ∈ lw_all := lw_g (lw_at lw_m4 70 rfl) rfl
theorem q854 : (Jvm.Cond.methodLink "GargoyleCopyists" (154 : Nat) ({ cls := "GargoyleCopyists$Church", name := "cuts", desc := "(III[LGargoyleCopyists$Cut;)I" } : Jvm.MethodName)) ∈ lw_all := lw_g (lw_at lw_m4 71 rfl) rfl
theorem q880 : (Jvm.Cond.instanceMethod ({ cls := "GargoyleCopyists", name := "bestCopyist", desc := "(II)I" } : Jvm.MethodName)) ∈ lw_all := lw_g (lw_at lw_m4 97 rfl) rfl
theorem q881 : (Jvm.Cond.selects "GargoyleCopyists" ({ cls := "GargoyleCopyists", name := "bestCopyist", desc := "(II)I" } : Jvm.MethodName) ({ cls := "GargoyleCopyists", name := "bestCopyist", desc := "(II)I" } : Jvm.MethodName)) ∈ lw_all := lw_g (lw_at lw_m4 98 rfl) rfl
theorem q882 : (Jvm.Cond.code ({ cls := "GargoyleCopyists", name := "bestCopyist", desc := "(II)I" } : Jvm.MethodName) prog_1_method_19_code (3 : Nat) (Option.some Jvm.ClassFile.FieldType.int)) ∈ lw_all := lw_g (lw_at lw_m4 99 rfl) rfl
theorem q883 : (Jvm.Cond.methodLink "GargoyleCopyists" (157 : Nat) ({ cls := "GargoyleCopyists$Church", name := "bestCopyist", desc := "(I[LGargoyleCopyists$Cut;)I" } : Jvm.MethodName)) ∈ lw_all := lw_g (lw_at lw_m4 100 rfl) rfl
theorem q895 : (Jvm.Cond.instanceMethod ({ cls := "GargoyleCopyists", name := "copyistOf", desc := "(II)I" } : Jvm.MethodName)) ∈ lw_all := lw_g (lw_at lw_m4 112 rfl) rfl
theorem q896 : (Jvm.Cond.selects "GargoyleCopyists" ({ cls := "GargoyleCopyists", name := "copyistOf", desc := "(II)I" } : Jvm.MethodName) ({ cls := "GargoyleCopyists", name := "copyistOf", desc := "(II)I" } : Jvm.MethodName)) ∈ lw_all := lw_g (lw_at lw_m4 113 rfl) rfl
theorem q897 : (Jvm.Cond.code ({ cls := "GargoyleCopyists", name := "copyistOf", desc := "(II)I" } : Jvm.MethodName) prog_1_method_20_code (3 : Nat) (Option.some Jvm.ClassFile.FieldType.int)) ∈ lw_all := lw_g (lw_at lw_m4 114 rfl) rfl
theorem q898 : (Jvm.Cond.methodLink "GargoyleCopyists" (160 : Nat) ({ cls := "GargoyleCopyists$Copyist", name := "value", desc := "(I)I" } : Jvm.MethodName)) ∈ lw_all := lw_g (lw_at lw_m4 115 rfl) rfl
theorem q904 : (Jvm.Cond.instanceMethod ({ cls := "GargoyleCopyists", name := "needle", desc := "(I)I" } : Jvm.MethodName)) ∈ lw_all := lw_g (lw_at lw_m4 121 rfl) rfl
theorem q905 : (Jvm.Cond.selects "GargoyleCopyists" ({ cls := "GargoyleCopyists", name := "needle", desc := "(I)I" } : Jvm.MethodName) ({ cls := "GargoyleCopyists", name := "needle", desc := "(I)I" } : Jvm.MethodName)) ∈ lw_all := lw_g (lw_at lw_m4 122 rfl) rfl
theorem q906 : (Jvm.Cond.codeWith ({ cls := "GargoyleCopyists", name := "needle", desc := "(I)I" } : Jvm.MethodName) prog_1_method_21_code (4 : Nat) (Option.some Jvm.ClassFile.FieldType.int) [((25 : Nat), (38 : Nat), (39 : Nat), (52 : Nat))]) ∈ lw_all := lw_g (lw_at lw_m4 123 rfl) rfl
theorem q907 : (Jvm.Cond.methodLink "GargoyleCopyists" (161 : Nat) ({ cls := "GargoyleCopyists$Church", name := "newNeedle", desc := "(I)I" } : Jvm.MethodName)) ∈ lw_all := lw_g (lw_at lw_m4 124 rfl) rfl
theorem q912 : (Jvm.Cond.instanceMethod ({ cls := "GargoyleCopyists", name := "copyOf", desc := "(II)I" } : Jvm.MethodName)) ∈ lw_all := lw_g (lw_at lw_m4 129 rfl) rfl
theorem q913 : (Jvm.Cond.selects "GargoyleCopyists" ({ cls := "GargoyleCopyists", name := "copyOf", desc := "(II)I" } : Jvm.MethodName) ({ cls := "GargoyleCopyists", name := "copyOf", desc := "(II)I" } : Jvm.MethodName)) ∈ lw_all := lw_g (lw_at lw_m4 130 rfl) rfl
theorem q914 : (Jvm.Cond.code ({ cls := "GargoyleCopyists", name := "copyOf", desc := "(II)I" } : Jvm.MethodName) prog_1_method_22_code (3 : Nat) (Option.some Jvm.ClassFile.FieldType.int)) ∈ lw_all := lw_g (lw_at lw_m4 131 rfl) rfl
theorem q915 : (Jvm.Cond.classLink "GargoyleCopyists" (164 : Nat) "GargoyleCopyists$Copy") ∈ lw_all := lw_g (lw_at lw_m4 132 rfl) rfl
theorem q916 : (Jvm.Cond.methodLink "GargoyleCopyists" (166 : Nat) ({ cls := "GargoyleCopyists$Church", name := "told", desc := "(LGargoyleCopyists$Copy;I)I" } : Jvm.MethodName)) ∈ lw_all := lw_g (lw_at lw_m4 133 rfl) rfl
theorem q946 : (Jvm.Cond.instanceMethod ({ cls := "GargoyleCopyists", name := "copyDepth", desc := "(II)I" } : Jvm.MethodName)) ∈ lw_all := lw_g (lw_at lw_m4 163 rfl) rfl
theorem q947 : (Jvm.Cond.selects "GargoyleCopyists" ({ cls := "GargoyleCopyists", name := "copyDepth", desc := "(II)I" } : Jvm.MethodName) ({ cls := "GargoyleCopyists", name := "copyDepth", desc := "(II)I" } : Jvm.MethodName)) ∈ lw_all := lw_g (lw_at lw_m4 164 rfl) rfl
theorem q948 : (Jvm.Cond.code ({ cls := "GargoyleCopyists", name := "copyDepth", desc := "(II)I" } : Jvm.MethodName) prog_1_method_23_code (4 : Nat) (Option.some Jvm.ClassFile.FieldType.int)) ∈ lw_all := lw_g (lw_at lw_m4 165 rfl) rfl
theorem q949 : (Jvm.Cond.methodLink "GargoyleCopyists" (170 : Nat) ({ cls := "GargoyleCopyists$Copy", name := "isCut", desc := "(I)Z" } : Jvm.MethodName)) ∈ lw_all := lw_g (lw_at lw_m4 166 rfl) rfl
theorem q950 : (Jvm.Cond.methodLink "GargoyleCopyists" (173 : Nat) ({ cls := "GargoyleCopyists$Copy", name := "depth", desc := "(I)I" } : Jvm.MethodName)) ∈ lw_all := lw_g (lw_at lw_m4 167 rfl) rfl
theorem q952 : (Jvm.Cond.instanceMethod ({ cls := "GargoyleCopyists", name := "wrong", desc := "(I)I" } : Jvm.MethodName)) ∈ lw_all := lw_g (lw_at lw_m4 169 rfl) rfl
theorem q953 : (Jvm.Cond.selects "GargoyleCopyists" ({ cls := "GargoyleCopyists", name := "wrong", desc := "(I)I" } : Jvm.MethodName) ({ cls := "GargoyleCopyists", name := "wrong", desc := "(I)I" } : Jvm.MethodName)) ∈ lw_all := lw_g (lw_at lw_m4 170 rfl) rfl
theorem q954 : (Jvm.Cond.code ({ cls := "GargoyleCopyists", name := "wrong", desc := "(I)I" } : Jvm.MethodName) prog_1_method_24_code (3 : Nat) (Option.some Jvm.ClassFile.FieldType.int)) ∈ lw_all := lw_g (lw_at lw_m4 171 rfl) rfl
theorem q955 : (Jvm.Cond.classLink "GargoyleCopyists" (177 : Nat) "GargoyleCopyists$Pointed") ∈ lw_all := lw_g (lw_at lw_m4 172 rfl) rfl
theorem q956 : (Jvm.Cond.methodLink "GargoyleCopyists" (179 : Nat) ({ cls := "GargoyleCopyists$Copy", name := "wrong", desc := "(LGargoyleCopyists$Pointed;)I" } : Jvm.MethodName)) ∈ lw_all := lw_g (lw_at lw_m4 173 rfl) rfl
theorem q962 : (Jvm.Cond.instanceMethod ({ cls := "GargoyleCopyists", name := "wrongAgain", desc := "(I)I" } : Jvm.MethodName)) ∈ lw_all := lw_g (lw_at lw_m4 179 rfl) rfl
theorem q963 : (Jvm.Cond.selects "GargoyleCopyists" ({ cls := "GargoyleCopyists", name := "wrongAgain", desc := "(I)I" } : Jvm.MethodName) ({ cls := "GargoyleCopyists", name := "wrongAgain", desc := "(I)I" } : Jvm.MethodName)) ∈ lw_all := lw_g (lw_at lw_m4 180 rfl) rfl
theorem q964 : (Jvm.Cond.code ({ cls := "GargoyleCopyists", name := "wrongAgain", desc := "(I)I" } : Jvm.MethodName) prog_1_method_25_code (3 : Nat) (Option.some Jvm.ClassFile.FieldType.int)) ∈ lw_all := lw_g (lw_at lw_m4 181 rfl) rfl
theorem q965 : (Jvm.Cond.methodLink "GargoyleCopyists" (183 : Nat) ({ cls := "GargoyleCopyists$Copy", name := "wrongAgain", desc := "(LGargoyleCopyists$Pointed;)I" } : Jvm.MethodName)) ∈ lw_all := lw_g (lw_at lw_m4 182 rfl) rfl
theorem q992 : (Jvm.Cond.instanceMethod ({ cls := "GargoyleCopyists", name := "down", desc := "(I)I" } : Jvm.MethodName)) ∈ lw_all := lw_g (lw_at lw_m4 209 rfl) rfl
theorem q993 : (Jvm.Cond.selects "GargoyleCopyists" ({ cls := "GargoyleCopyists", name := "down", desc := "(I)I" } : Jvm.MethodName) ({ cls := "GargoyleCopyists", name := "down", desc := "(I)I" } : Jvm.MethodName)) ∈ lw_all := lw_g (lw_at lw_m4 210 rfl) rfl
theorem q994 : (Jvm.Cond.codeWith ({ cls := "GargoyleCopyists", name := "down", desc := "(I)I" } : Jvm.MethodName) prog_1_method_26_code (4 : Nat) (Option.some Jvm.ClassFile.FieldType.int) [((18 : Nat), (31 : Nat), (32 : Nat), (52 : Nat))]) ∈ lw_all := lw_g (lw_at lw_m4 211 rfl) rfl
theorem q995 : (Jvm.Cond.methodLink "GargoyleCopyists" (186 : Nat) ({ cls := "GargoyleCopyists$Church", name := "takesDown", desc := "(I)I" } : Jvm.MethodName)) ∈ lw_all := lw_g (lw_at lw_m4 212 rfl) rfl
theorem q1000 : (Jvm.Cond.instanceMethod ({ cls := "GargoyleCopyists", name := "lift", desc := "(I)I" } : Jvm.MethodName)) ∈ lw_all := lw_g (lw_at lw_m4 217 rfl) rfl
theorem q1001 : (Jvm.Cond.selects "GargoyleCopyists" ({ cls := "GargoyleCopyists", name := "lift", desc := "(I)I" } : Jvm.MethodName) ({ cls := "GargoyleCopyists", name := "lift", desc := "(I)I" } : Jvm.MethodName)) ∈ lw_all := lw_g (lw_at lw_m4 218 rfl) rfl
theorem q1002 : (Jvm.Cond.codeWith ({ cls := "GargoyleCopyists", name := "lift", desc := "(I)I" } : Jvm.MethodName) prog_1_method_27_code (4 : Nat) (Option.some Jvm.ClassFile.FieldType.int) [((25 : Nat), (38 : Nat), (39 : Nat), (52 : Nat))]) ∈ lw_all := lw_g (lw_at lw_m4 219 rfl) rfl
theorem q1003 : (Jvm.Cond.methodLink "GargoyleCopyists" (189 : Nat) ({ cls := "GargoyleCopyists$Church", name := "lifts", desc := "(I)I" } : Jvm.MethodName)) ∈ lw_all := lw_g (lw_at lw_m4 220 rfl) rfl
theorem q1016 : (Jvm.Cond.instanceMethod ({ cls := "GargoyleCopyists", name := "drive", desc := "(I)I" } : Jvm.MethodName)) ∈ lw_all := lw_g (lw_at lw_m4 233 rfl) rfl
theorem q1017 : (Jvm.Cond.selects "GargoyleCopyists" ({ cls := "GargoyleCopyists", name := "drive", desc := "(I)I" } : Jvm.MethodName) ({ cls := "GargoyleCopyists", name := "drive", desc := "(I)I" } : Jvm.MethodName)) ∈ lw_all := lw_g (lw_at lw_m4 234 rfl) rfl
theorem q1018 : (Jvm.Cond.codeWith ({ cls := "GargoyleCopyists", name := "drive", desc := "(I)I" } : Jvm.MethodName) prog_1_method_28_code (4 : Nat) (Option.some Jvm.ClassFile.FieldType.int) [((18 : Nat), (31 : Nat), (32 : Nat), (52 : Nat))]) ∈ lw_all := lw_g (lw_at lw_m4 235 rfl) rfl
theorem q1019 : (Jvm.Cond.methodLink "GargoyleCopyists" (192 : Nat) ({ cls := "GargoyleCopyists$Church", name := "drives", desc := "(I)I" } : Jvm.MethodName)) ∈ lw_all := lw_g (lw_at lw_m4 236 rfl) rfl
theorem q1024 : (Jvm.Cond.instanceMethod ({ cls := "GargoyleCopyists", name := "sky", desc := "(II)I" } : Jvm.MethodName)) ∈ lw_all := lw_g (lw_at lw_m5 1 rfl) rfl
theorem q1025 : (Jvm.Cond.selects "GargoyleCopyists" ({ cls := "GargoyleCopyists", name := "sky", desc := "(II)I" } : Jvm.MethodName) ({ cls := "GargoyleCopyists", name := "sky", desc := "(II)I" } : Jvm.MethodName)) ∈ lw_all := lw_g (lw_at lw_m5 2 rfl) rfl
theorem q1026 : (Jvm.Cond.code ({ cls := "GargoyleCopyists", name := "sky", desc := "(II)I" } : Jvm.MethodName) prog_1_method_30_code (4 : Nat) (Option.some Jvm.ClassFile.FieldType.int)) ∈ lw_all := lw_g (lw_at lw_m5 3 rfl) rfl
theorem q1027 : (Jvm.Cond.methodLink "GargoyleCopyists" (195 : Nat) ({ cls := "GargoyleCopyists", name := "isSky", desc := "(II)Z" } : Jvm.MethodName)) ∈ lw_all := lw_g (lw_at lw_m5 4 rfl) rfl
theorem q1028 : (Jvm.Cond.static ({ cls := "GargoyleCopyists", name := "isSky", desc := "(II)Z" } : Jvm.MethodName)) ∈ lw_all := lw_g (lw_at lw_m5 5 rfl) rfl
theorem q1029 : (Jvm.Cond.code ({ cls := "GargoyleCopyists", name := "isSky", desc := "(II)Z" } : Jvm.MethodName) prog_1_method_29_code (2 : Nat) (Option.some Jvm.ClassFile.FieldType.boolean)) ∈ lw_all := lw_g (lw_at lw_m5 6 rfl) rfl
theorem q1030 : (Jvm.Cond.methodLink "GargoyleCopyists" (199 : Nat) ({ cls := "GargoyleCopyists$Church", name := "tells", desc := "(II)I" } : Jvm.MethodName)) ∈ lw_all := lw_g (lw_at lw_m5 7 rfl) rfl
theorem q1035 : (Jvm.Cond.instanceMethod ({ cls := "GargoyleCopyists", name := "hours", desc := "(I)I" } : Jvm.MethodName)) ∈ lw_all := lw_g (lw_at lw_m5 12 rfl) rfl
theorem q1036 : (Jvm.Cond.selects "GargoyleCopyists" ({ cls := "GargoyleCopyists", name := "hours", desc := "(I)I" } : Jvm.MethodName) ({ cls := "GargoyleCopyists", name := "hours", desc := "(I)I" } : Jvm.MethodName)) ∈ lw_all := lw_g (lw_at lw_m5 13 rfl) rfl
theorem q1037 : (Jvm.Cond.code ({ cls := "GargoyleCopyists", name := "hours", desc := "(I)I" } : Jvm.MethodName) prog_1_method_32_code (3 : Nat) (Option.some Jvm.ClassFile.FieldType.int)) ∈ lw_all := lw_g (lw_at lw_m5 14 rfl) rfl
theorem q1038 : (Jvm.Cond.methodLink "GargoyleCopyists" (203 : Nat) ({ cls := "GargoyleCopyists", name := "areHours", desc := "(I)Z" } : Jvm.MethodName)) ∈ lw_all := lw_g (lw_at lw_m5 15 rfl) rfl
theorem q1039 : (Jvm.Cond.static ({ cls := "GargoyleCopyists", name := "areHours", desc := "(I)Z" } : Jvm.MethodName)) ∈ lw_all := lw_g (lw_at lw_m5 16 rfl) rfl
theorem q1040 : (Jvm.Cond.code ({ cls := "GargoyleCopyists", name := "areHours", desc := "(I)Z" } : Jvm.MethodName) prog_1_method_31_code (1 : Nat) (Option.some Jvm.ClassFile.FieldType.boolean)) ∈ lw_all := lw_g (lw_at lw_m5 17 rfl) rfl
theorem q1041 : (Jvm.Cond.methodLink "GargoyleCopyists" (206 : Nat) ({ cls := "GargoyleCopyists$Church", name := "hoursGo", desc := "(I)I" } : Jvm.MethodName)) ∈ lw_all := lw_g (lw_at lw_m5 18 rfl) rfl
theorem q1076 : (Jvm.Cond.instanceMethod ({ cls := "GargoyleCopyists", name := "wornIn", desc := "(I)I" } : Jvm.MethodName)) ∈ lw_all := lw_g (lw_at lw_m5 53 rfl) rfl
theorem q1077 : (Jvm.Cond.selects "GargoyleCopyists" ({ cls := "GargoyleCopyists", name := "wornIn", desc := "(I)I" } : Jvm.MethodName) ({ cls := "GargoyleCopyists", name := "wornIn", desc := "(I)I" } : Jvm.MethodName)) ∈ lw_all := lw_g (lw_at lw_m5 54 rfl) rfl
theorem q1078 : (Jvm.Cond.code ({ cls := "GargoyleCopyists", name := "wornIn", desc := "(I)I" } : Jvm.MethodName) prog_1_method_33_code (2 : Nat) (Option.some Jvm.ClassFile.FieldType.int)) ∈ lw_all := lw_g (lw_at lw_m5 55 rfl) rfl
theorem q1079 : (Jvm.Cond.methodLink "GargoyleCopyists" (209 : Nat) ({ cls := "GargoyleCopyists$Church", name := "wornIn", desc := "(LGargoyleCopyists$Ledge;)I" } : Jvm.MethodName)) ∈ lw_all := lw_g (lw_at lw_m5 56 rfl) rfl
theorem q1084 : (Jvm.Cond.instanceMethod ({ cls := "GargoyleCopyists", name := "append", desc := "(I)I" } : Jvm.MethodName)) ∈ lw_all := lw_g (lw_at lw_m5 61 rfl) rfl
theorem q1085 : (Jvm.Cond.selects "GargoyleCopyists" ({ cls := "GargoyleCopyists", name := "append", desc := "(I)I" } : Jvm.MethodName) ({ cls := "GargoyleCopyists", name := "append", desc := "(I)I" } : Jvm.MethodName)) ∈ lw_all := lw_g (lw_at lw_m5 62 rfl) rfl
theorem q1086 : (Jvm.Cond.code ({ cls := "GargoyleCopyists", name := "append", desc := "(I)I" } : Jvm.MethodName) prog_1_method_34_code (2 : Nat) (Option.some Jvm.ClassFile.FieldType.int)) ∈ lw_all := lw_g (lw_at lw_m5 63 rfl) rfl
theorem q1087 : (Jvm.Cond.methodLink "GargoyleCopyists" (213 : Nat) ({ cls := "java/lang/StringBuilder", name := "length", desc := "()I" } : Jvm.MethodName)) ∈ lw_all := lw_g (lw_at lw_m5 64 rfl) rfl
theorem q1094 : (Jvm.Cond.methodLink "GargoyleCopyists" (216 : Nat) ({ cls := "java/lang/StringBuilder", name := "append", desc := "(C)Ljava/lang/StringBuilder;" } : Jvm.MethodName)) ∈ lw_all := lw_g (lw_at lw_m5 71 rfl) rfl
theorem q1173 : (Jvm.Cond.instanceMethod ({ cls := "GargoyleCopyists", name := "run", desc := "()I" } : Jvm.MethodName)) ∈ lw_all := lw_g (lw_at lw_m5 150 rfl) rfl
theorem q1174 : (Jvm.Cond.selects "GargoyleCopyists" ({ cls := "GargoyleCopyists", name := "run", desc := "()I" } : Jvm.MethodName) ({ cls := "GargoyleCopyists", name := "run", desc := "()I" } : Jvm.MethodName)) ∈ lw_all := lw_g (lw_at lw_m5 151 rfl) rfl
theorem q1175 : (Jvm.Cond.codeWith ({ cls := "GargoyleCopyists", name := "run", desc := "()I" } : Jvm.MethodName) prog_1_method_35_code (6 : Nat) (Option.some Jvm.ClassFile.FieldType.int) [((0 : Nat), (90 : Nat), (101 : Nat), (249 : Nat)), ((0 : Nat), (90 : Nat), (121 : Nat), (52 : Nat)), ((0 : Nat), (90 : Nat), (138 : Nat), (0 : Nat)), ((101 : Nat), (111 : Nat), (138 : Nat), (0 : Nat)), ((121 : Nat), (128 : Nat), (138 : Nat), (0 : Nat)), ((138 : Nat), (140 : Nat), (138 : Nat), (0 : Nat))]) ∈ lw_all := lw_g (lw_at lw_m5 152 rfl) rfl
theorem q1176 : (Jvm.Cond.classLink "GargoyleCopyists" (249 : Nat) "GargoyleCopyists$Wrong") ∈ lw_all := lw_g (lw_at lw_m5 153 rfl) rfl
theorem q1177 : (Jvm.Cond.classLink "GargoyleCopyists" (220 : Nat) "GargoyleCopyists$Reader") ∈ lw_all := lw_g (lw_at lw_m5 154 rfl) rfl
theorem q1179 : (Jvm.Cond.methodLink "GargoyleCopyists" (222 : Nat) ({ cls := "GargoyleCopyists$Reader", name := "<init>", desc := "(Ljava/lang/CharSequence;)V" } : Jvm.MethodName)) ∈ lw_all := lw_g (lw_at lw_m5 156 rfl) rfl
theorem q1204 : (Jvm.Cond.methodLink "GargoyleCopyists" (225 : Nat) ({ cls := "GargoyleCopyists$Reader", name := "orders", desc := "()Ljava/util/ArrayList;" } : Jvm.MethodName)) ∈ lw_all := lw_g (lw_at lw_m5 181 rfl) rfl
theorem q1522 : (Jvm.Cond.fieldLinkNest "GargoyleCopyists" (251 : Nat) "GargoyleCopyists$Wrong" "at" "I" "GargoyleCopyists") ∈ lw_tbl := lw_at lw_m7 19 rfl
theorem q1611 : (Jvm.Cond.methodLink "GargoyleCopyists" (229 : Nat) ({ cls := "java/util/ArrayList", name := "size", desc := "()I" } : Jvm.MethodName)) ∈ lw_all := lw_g (lw_at lw_m7 108 rfl) rfl
theorem q1612 : (Jvm.Cond.methodLink "GargoyleCopyists" (232 : Nat) ({ cls := "java/util/ArrayList", name := "get", desc := "(I)Ljava/lang/Object;" } : Jvm.MethodName)) ∈ lw_all := lw_g (lw_at lw_m7 109 rfl) rfl
theorem q1613 : (Jvm.Cond.classLink "GargoyleCopyists" (235 : Nat) "GargoyleCopyists$Order") ∈ lw_all := lw_g (lw_at lw_m7 110 rfl) rfl
theorem q1614 : (Jvm.Cond.methodLink "GargoyleCopyists" (237 : Nat) ({ cls := "GargoyleCopyists$Order", name := "isDone", desc := "(LGargoyleCopyists$Church;[LGargoyleCopyists$Cut;)Z" } : Jvm.MethodName)) ∈ lw_all := lw_g (lw_at lw_m7 111 rfl) rfl
theorem q1646 : (Jvm.Cond.methodLink "GargoyleCopyists" (241 : Nat) ({ cls := "GargoyleCopyists", name := "refuse", desc := "(ZII)V" } : Jvm.MethodName)) ∈ lw_all := lw_g (lw_at lw_m7 143 rfl) rfl
theorem q1647 : (Jvm.Cond.methodLink "GargoyleCopyists" (245 : Nat) ({ cls := "java/lang/StringBuilder", name := "setLength", desc := "(I)V" } : Jvm.MethodName)) ∈ lw_all := lw_g (lw_at lw_m7 144 rfl) rfl
theorem q1668 : (Jvm.Cond.instanceMethod ({ cls := "GargoyleCopyists", name := "tell", desc := "(I)I" } : Jvm.MethodName)) ∈ lw_all := lw_g (lw_at lw_m7 165 rfl) rfl
theorem q1669 : (Jvm.Cond.selects "GargoyleCopyists" ({ cls := "GargoyleCopyists", name := "tell", desc := "(I)I" } : Jvm.MethodName) ({ cls := "GargoyleCopyists", name := "tell", desc := "(I)I" } : Jvm.MethodName)) ∈ lw_all := lw_g (lw_at lw_m7 166 rfl) rfl
theorem q1670 : (Jvm.Cond.code ({ cls := "GargoyleCopyists", name := "tell", desc := "(I)I" } : Jvm.MethodName) prog_1_method_36_code (3 : Nat) (Option.some Jvm.ClassFile.FieldType.int)) ∈ lw_all := lw_g (lw_at lw_m7 167 rfl) rfl
theorem q1671 : (Jvm.Cond.methodLink "GargoyleCopyists" (253 : Nat) ({ cls := "GargoyleCopyists$Copy", name := "text", desc := "(LGargoyleCopyists$Pointed;)Ljava/lang/String;" } : Jvm.MethodName)) ∈ lw_all := lw_g (lw_at lw_m7 168 rfl) rfl
theorem q1719 : (Jvm.Cond.methodLink "GargoyleCopyists" (256 : Nat) ({ cls := "java/lang/String", name := "length", desc := "()I" } : Jvm.MethodName)) ∈ lw_all := lw_g (lw_at lw_m7 216 rfl) rfl
theorem q1721 : (Jvm.Cond.instanceMethod ({ cls := "GargoyleCopyists", name := "tellLedges", desc := "()I" } : Jvm.MethodName)) ∈ lw_all := lw_g (lw_at lw_m7 218 rfl) rfl
theorem q1722 : (Jvm.Cond.selects "GargoyleCopyists" ({ cls := "GargoyleCopyists", name := "tellLedges", desc := "()I" } : Jvm.MethodName) ({ cls := "GargoyleCopyists", name := "tellLedges", desc := "()I" } : Jvm.MethodName)) ∈ lw_all := lw_g (lw_at lw_m7 219 rfl) rfl
theorem q1723 : (Jvm.Cond.code ({ cls := "GargoyleCopyists", name := "tellLedges", desc := "()I" } : Jvm.MethodName) prog_1_method_37_code (1 : Nat) (Option.some Jvm.ClassFile.FieldType.int)) ∈ lw_all := lw_g (lw_at lw_m7 220 rfl) rfl
theorem q1724 : (Jvm.Cond.methodLink "GargoyleCopyists" (259 : Nat) ({ cls := "GargoyleCopyists$Church", name := "ledgesTold", desc := "()Ljava/lang/String;" } : Jvm.MethodName)) ∈ lw_all := lw_g (lw_at lw_m7 221 rfl) rfl
theorem q1746 : (Jvm.Cond.instanceMethod ({ cls := "GargoyleCopyists", name := "character", desc := "(I)I" } : Jvm.MethodName)) ∈ lw_all := lw_g (lw_at lw_m8 3 rfl) rfl
theorem q1747 : (Jvm.Cond.selects "GargoyleCopyists" ({ cls := "GargoyleCopyists", name := "character", desc := "(I)I" } : Jvm.MethodName) ({ cls := "GargoyleCopyists", name := "character", desc := "(I)I" } : Jvm.MethodName)) ∈ lw_all := lw_g (lw_at lw_m8 4 rfl) rfl
theorem q1748 : (Jvm.Cond.code ({ cls := "GargoyleCopyists", name := "character", desc := "(I)I" } : Jvm.MethodName) prog_1_method_38_code (2 : Nat) (Option.some Jvm.ClassFile.FieldType.int)) ∈ lw_all := lw_g (lw_at lw_m8 5 rfl) rfl
theorem q1749 : (Jvm.Cond.methodLink "GargoyleCopyists" (263 : Nat) ({ cls := "java/lang/String", name := "charAt", desc := "(I)C" } : Jvm.MethodName)) ∈ lw_all := lw_g (lw_at lw_m8 6 rfl) rfl
theorem q1751 : (Jvm.Cond.instanceMethod ({ cls := "GargoyleCopyists", name := "reason", desc := "(Z)I" } : Jvm.MethodName)) ∈ lw_all := lw_g (lw_at lw_m8 8 rfl) rfl
theorem q1752 : (Jvm.Cond.selects "GargoyleCopyists" ({ cls := "GargoyleCopyists", name := "reason", desc := "(Z)I" } : Jvm.MethodName) ({ cls := "GargoyleCopyists", name := "reason", desc := "(Z)I" } : Jvm.MethodName)) ∈ lw_all := lw_g (lw_at lw_m8 9 rfl) rfl
theorem q1753 : (Jvm.Cond.code ({ cls := "GargoyleCopyists", name := "reason", desc := "(Z)I" } : Jvm.MethodName) prog_1_method_39_code (2 : Nat) (Option.some Jvm.ClassFile.FieldType.int)) ∈ lw_all := lw_g (lw_at lw_m8 10 rfl) rfl
theorem q1755 : (Jvm.Cond.instanceMethod ({ cls := "GargoyleCopyists", name := "account", desc := "(I)I" } : Jvm.MethodName)) ∈ lw_all := lw_g (lw_at lw_m8 12 rfl) rfl
theorem q1756 : (Jvm.Cond.selects "GargoyleCopyists" ({ cls := "GargoyleCopyists", name := "account", desc := "(I)I" } : Jvm.MethodName) ({ cls := "GargoyleCopyists", name := "account", desc := "(I)I" } : Jvm.MethodName)) ∈ lw_all := lw_g (lw_at lw_m8 13 rfl) rfl
theorem q1757 : (Jvm.Cond.code ({ cls := "GargoyleCopyists", name := "account", desc := "(I)I" } : Jvm.MethodName) prog_1_method_40_code (2 : Nat) (Option.some Jvm.ClassFile.FieldType.int)) ∈ lw_all := lw_g (lw_at lw_m8 14 rfl) rfl
theorem q1758 : (Jvm.Cond.methodLink "GargoyleCopyists" (279 : Nat) ({ cls := "GargoyleCopyists$Row", name := "size", desc := "()I" } : Jvm.MethodName)) ∈ lw_all := lw_g (lw_at lw_m8 15 rfl) rfl
theorem q1759 : (Jvm.Cond.methodLink "GargoyleCopyists" (280 : Nat) ({ cls := "GargoyleCopyists$Church", name := "set", desc := "()I" } : Jvm.MethodName)) ∈ lw_all := lw_g (lw_at lw_m8 16 rfl) rfl
theorem q1763 : (Jvm.Cond.methodLink "GargoyleCopyists" (283 : Nat) ({ cls := "GargoyleCopyists$Church", name := "up", desc := "()I" } : Jvm.MethodName)) ∈ lw_all := lw_g (lw_at lw_m8 20 rfl) rfl
theorem q1767 : (Jvm.Cond.methodLink "GargoyleCopyists" (286 : Nat) ({ cls := "GargoyleCopyists$Church", name := "points", desc := "()I" } : Jvm.MethodName)) ∈ lw_all := lw_g (lw_at lw_m8 24 rfl) rfl
theorem q1771 : (Jvm.Cond.methodLink "GargoyleCopyists" (301 : Nat) ({ cls := "GargoyleCopyists$Church", name := "ofLedges", desc := "(I)I" } : Jvm.MethodName)) ∈ lw_all := lw_g (lw_at lw_m8 28 rfl) rfl
theorem q1777 : (Jvm.Cond.instanceMethod ({ cls := "GargoyleCopyists", name := "isBalanced", desc := "()I" } : Jvm.MethodName)) ∈ lw_all := lw_g (lw_at lw_m8 34 rfl) rfl
theorem q1778 : (Jvm.Cond.selects "GargoyleCopyists" ({ cls := "GargoyleCopyists", name := "isBalanced", desc := "()I" } : Jvm.MethodName) ({ cls := "GargoyleCopyists", name := "isBalanced", desc := "()I" } : Jvm.MethodName)) ∈ lw_all := lw_g (lw_at lw_m8 35 rfl) rfl
theorem q1779 : (Jvm.Cond.code ({ cls := "GargoyleCopyists", name := "isBalanced", desc := "()I" } : Jvm.MethodName) prog_1_method_41_code (1 : Nat) (Option.some Jvm.ClassFile.FieldType.int)) ∈ lw_all := lw_g (lw_at lw_m8 36 rfl) rfl
theorem q1780 : (Jvm.Cond.methodLink "GargoyleCopyists" (304 : Nat) ({ cls := "GargoyleCopyists$Church", name := "isBalanced", desc := "()Z" } : Jvm.MethodName)) ∈ lw_all := lw_g (lw_at lw_m8 37 rfl) rfl
theorem q1786 : (Jvm.Cond.instanceMethod ({ cls := "GargoyleCopyists", name := "meanDepth", desc := "(I)D" } : Jvm.MethodName)) ∈ lw_all := lw_g (lw_at lw_m8 43 rfl) rfl
theorem q1787 : (Jvm.Cond.selects "GargoyleCopyists" ({ cls := "GargoyleCopyists", name := "meanDepth", desc := "(I)D" } : Jvm.MethodName) ({ cls := "GargoyleCopyists", name := "meanDepth", desc := "(I)D" } : Jvm.MethodName)) ∈ lw_all := lw_g (lw_at lw_m8 44 rfl) rfl
theorem q1788 : (Jvm.Cond.code ({ cls := "GargoyleCopyists", name := "meanDepth", desc := "(I)D" } : Jvm.MethodName) prog_1_method_42_code (3 : Nat) (Option.some Jvm.ClassFile.FieldType.double)) ∈ lw_all := lw_g (lw_at lw_m8 45 rfl) rfl
theorem q1789 : (Jvm.Cond.methodLink "GargoyleCopyists" (308 : Nat) ({ cls := "GargoyleCopyists$Copy", name := "cut", desc := "()I" } : Jvm.MethodName)) ∈ lw_all := lw_g (lw_at lw_m8 46 rfl) rfl
theorem q1791 : (Jvm.Cond.instanceMethod ({ cls := "GargoyleCopyists", name := "spoutShare", desc := "()F" } : Jvm.MethodName)) ∈ lw_all := lw_g (lw_at lw_m8 48 rfl) rfl
theorem q1792 : (Jvm.Cond.selects "GargoyleCopyists" ({ cls := "GargoyleCopyists", name := "spoutShare", desc := "()F" } : Jvm.MethodName) ({ cls := "GargoyleCopyists", name := "spoutShare", desc := "()F" } : Jvm.MethodName)) ∈ lw_all := lw_g (lw_at lw_m8 49 rfl) rfl
theorem q1793 : (Jvm.Cond.code ({ cls := "GargoyleCopyists", name := "spoutShare", desc := "()F" } : Jvm.MethodName) prog_1_method_43_code (1 : Nat) (Option.some Jvm.ClassFile.FieldType.float)) ∈ lw_all := lw_g (lw_at lw_m8 50 rfl) rfl
theorem q1795 : (Jvm.Cond.instanceMethod ({ cls := "GargoyleCopyists", name := "undo", desc := "()I" } : Jvm.MethodName)) ∈ lw_all := lw_g (lw_at lw_m8 52 rfl) rfl
theorem q1796 : (Jvm.Cond.selects "GargoyleCopyists" ({ cls := "GargoyleCopyists", name := "undo", desc := "()I" } : Jvm.MethodName) ({ cls := "GargoyleCopyists", name := "undo", desc := "()I" } : Jvm.MethodName)) ∈ lw_all := lw_g (lw_at lw_m8 53 rfl) rfl
theorem q1797 : (Jvm.Cond.code ({ cls := "GargoyleCopyists", name := "undo", desc := "()I" } : Jvm.MethodName) prog_1_method_44_code (1 : Nat) (Option.some Jvm.ClassFile.FieldType.int)) ∈ lw_all := lw_g (lw_at lw_m8 54 rfl) rfl
theorem q1798 : (Jvm.Cond.methodLink "GargoyleCopyists" (314 : Nat) ({ cls := "java/util/ArrayDeque", name := "isEmpty", desc := "()Z" } : Jvm.MethodName)) ∈ lw_all := lw_g (lw_at lw_m8 55 rfl) rfl
theorem q1802 : (Jvm.Cond.methodLink "GargoyleCopyists" (317 : Nat) ({ cls := "java/util/ArrayDeque", name := "removeLast", desc := "()Ljava/lang/Object;" } : Jvm.MethodName)) ∈ lw_all := lw_g (lw_at lw_m8 59 rfl) rfl
theorem q1814 : (Jvm.Cond.instanceMethod ({ cls := "GargoyleCopyists", name := "save", desc := "()I" } : Jvm.MethodName)) ∈ lw_all := lw_g (lw_at lw_m8 71 rfl) rfl
theorem q1815 : (Jvm.Cond.selects "GargoyleCopyists" ({ cls := "GargoyleCopyists", name := "save", desc := "()I" } : Jvm.MethodName) ({ cls := "GargoyleCopyists", name := "save", desc := "()I" } : Jvm.MethodName)) ∈ lw_all := lw_g (lw_at lw_m8 72 rfl) rfl
theorem q1816 : (Jvm.Cond.code ({ cls := "GargoyleCopyists", name := "save", desc := "()I" } : Jvm.MethodName) prog_1_method_45_code (1 : Nat) (Option.some Jvm.ClassFile.FieldType.int)) ∈ lw_all := lw_g (lw_at lw_m8 73 rfl) rfl
theorem q1818 : (Jvm.Cond.instanceMethod ({ cls := "GargoyleCopyists", name := "restore", desc := "()I" } : Jvm.MethodName)) ∈ lw_all := lw_g (lw_at lw_m8 75 rfl) rfl
theorem q1819 : (Jvm.Cond.selects "GargoyleCopyists" ({ cls := "GargoyleCopyists", name := "restore", desc := "()I" } : Jvm.MethodName) ({ cls := "GargoyleCopyists", name := "restore", desc := "()I" } : Jvm.MethodName)) ∈ lw_all := lw_g (lw_at lw_m8 76 rfl) rfl
theorem q1820 : (Jvm.Cond.code ({ cls := "GargoyleCopyists", name := "restore", desc := "()I" } : Jvm.MethodName) prog_1_method_46_code (1 : Nat) (Option.some Jvm.ClassFile.FieldType.int)) ∈ lw_all := lw_g (lw_at lw_m8 77 rfl) rfl
theorem q1821 : (Jvm.Cond.methodLink "GargoyleCopyists" (323 : Nat) ({ cls := "java/util/ArrayDeque", name := "clear", desc := "()V" } : Jvm.MethodName)) ∈ lw_all := lw_g (lw_at lw_m8 78 rfl) rfl
theorem q2239 : (Jvm.Cond.castable "GargoyleCopyists" "java/lang/Object") ∈ lw_tbl := lw_at lw_m10 16 rfl
theorem in_X0 : ∀ w ∈ wsX00, w ∈ lw_all := lw_in wsX00 [393, 395, 397, 399, 401, 403, 405, 407] (by decide +kernel) (by decide +kernel)

/-! GargoyleCopyists$Church -/
set_option maxRecDepth 100000
def RX1 : String := "GargoyleCopyists$Church"
def TX1 : u_T := fun k => match k with
  | 0 => ("GargoyleCopyists$Church", "ledges", "LGargoyleCopyists$Row;", true)
  | 1 => ("GargoyleCopyists$Church", "casts", "LGargoyleCopyists$Row;", true)
  | 2 => ("GargoyleCopyists$Church", "copyists", "LGargoyleCopyists$Row;", true)
  | 3 => ("GargoyleCopyists$Church", "copies", "LGargoyleCopyists$Row;", true)
  | 4 => ("GargoyleCopyists$Church", "sacks", "I", false)
  | 5 => ("GargoyleCopyists$Church", "coins", "I", false)
  | 6 => ("GargoyleCopyists$Church", "paid", "I", false)
  | 7 => ("GargoyleCopyists$Church", "spent", "I", false)
  | 8 => ("GargoyleCopyists$Church", "rain", "I", false)
  | 9 => ("GargoyleCopyists$Church", "wind", "I", false)
  | 10 => ("GargoyleCopyists$Church", "hour", "I", false)
  | _ => ("GargoyleCopyists$Church", "fell", "I", false)
def tyX1 : Nat → FieldType := fun k => match k with
  | 0 => .object "GargoyleCopyists$Row"
  | 1 => .object "GargoyleCopyists$Row"
  | 2 => .object "GargoyleCopyists$Row"
  | 3 => .object "GargoyleCopyists$Row"
  | 4 => .int
  | 5 => .int
  | 6 => .int
  | 7 => .int
  | 8 => .int
  | 9 => .int
  | 10 => .int
  | _ => .int
abbrev wsX10 : List Cond := u_ws RX1 TX1 12
theorem nmX1 : ∀ a, a < 12 → ∀ b, b < 12 → a ≠ b → (TX1 a).2.1 ≠ (TX1 b).2.1 := by decide +kernel
theorem tyX1_ok : ∀ k, k < 12 → parseFieldDescriptor (TX1 k).2.2.1 = some (tyX1 k) := by decide +kernel
abbrev cX1_init : ByteArray := prog_3_method_2_code
def yX1_init : MethodName := ⟨RX1, "<init>", "()V"⟩
def dkwX1_init_0 : List UInt8 := [42, 4, 183, 0, 43, 177]
abbrev dktX1_init_0 : List UInt8 := dkwX1_init_0 ++ []
theorem dksX1_init_0 : cX1_init.data.toList.drop 0 = dktX1_init_0 := by decide +kernel
theorem dX1_init_0 : decode cX1_init 0 = .ok (.aload_n 0, 1) := dk_42 (dk_at dksX1_init_0 0 rfl rfl)
theorem dX1_init_1 : decode cX1_init 1 = .ok (.iconst 1, 1) := dk_4 (dk_at dksX1_init_0 1 rfl rfl)
theorem dX1_init_2 : decode cX1_init 2 = .ok (.invokespecial 43, 3) := dk_183 0 43 (dk_at dksX1_init_0 2 rfl rfl)
theorem dX1_init_5 : decode cX1_init 5 = .ok (.return_, 1) := dk_177 (dk_at dksX1_init_0 5 rfl rfl)
abbrev cX1_init_2 : ByteArray := prog_3_method_1_code
def yX1_init_2 : MethodName := ⟨RX1, "<init>", "(Z)V"⟩
def dkwX1_init_2_4 : List UInt8 := [62, 132, 2, 1, 167, 255, 227, 177]
abbrev dktX1_init_2_4 : List UInt8 := dkwX1_init_2_4 ++ []
def dkwX1_init_2_3 : List UInt8 := [16, 6, 162, 0, 29, 27, 153, 0, 25, 42, 180, 0, 14, 187, 0, 36, 89, 28, 183, 0, 38, 182, 0, 39]
abbrev dktX1_init_2_3 : List UInt8 := dkwX1_init_2_3 ++ dktX1_init_2_4
def dkwX1_init_2_2 : List UInt8 := [16, 8, 183, 0, 11, 181, 0, 26, 42, 16, 12, 181, 0, 29, 42, 16, 20, 181, 0, 33, 3, 61, 28]
abbrev dktX1_init_2_2 : List UInt8 := dkwX1_init_2_2 ++ dktX1_init_2_3
def dkwX1_init_2_1 : List UInt8 := [183, 0, 11, 181, 0, 20, 42, 187, 0, 9, 89, 7, 183, 0, 11, 181, 0, 23, 42, 187, 0, 9, 89]
abbrev dktX1_init_2_1 : List UInt8 := dkwX1_init_2_1 ++ dktX1_init_2_2
def dkwX1_init_2_0 : List UInt8 := [42, 183, 0, 3, 42, 187, 0, 9, 89, 16, 6, 183, 0, 11, 181, 0, 14, 42, 187, 0, 9, 89, 16, 10]
abbrev dktX1_init_2_0 : List UInt8 := dkwX1_init_2_0 ++ dktX1_init_2_1
theorem dksX1_init_2_0 : cX1_init_2.data.toList.drop 0 = dktX1_init_2_0 := by decide +kernel
theorem dksX1_init_2_1 : cX1_init_2.data.toList.drop 24 = dktX1_init_2_1 := dk_seg dksX1_init_2_0 24 rfl rfl
theorem dksX1_init_2_2 : cX1_init_2.data.toList.drop 47 = dktX1_init_2_2 := dk_seg dksX1_init_2_1 23 rfl rfl
theorem dksX1_init_2_3 : cX1_init_2.data.toList.drop 70 = dktX1_init_2_3 := dk_seg dksX1_init_2_2 23 rfl rfl
theorem dksX1_init_2_4 : cX1_init_2.data.toList.drop 94 = dktX1_init_2_4 := dk_seg dksX1_init_2_3 24 rfl rfl
theorem dX1_init_2_0 : decode cX1_init_2 0 = .ok (.aload_n 0, 1) := dk_42 (dk_at dksX1_init_2_0 0 rfl rfl)
theorem dX1_init_2_1 : decode cX1_init_2 1 = .ok (.invokespecial 3, 3) := dk_183 0 3 (dk_at dksX1_init_2_0 1 rfl rfl)
theorem dX1_init_2_4 : decode cX1_init_2 4 = .ok (.aload_n 0, 1) := dk_42 (dk_at dksX1_init_2_0 4 rfl rfl)
theorem dX1_init_2_5 : decode cX1_init_2 5 = .ok (.new 9, 3) := dk_187 0 9 (dk_at dksX1_init_2_0 5 rfl rfl)
theorem dX1_init_2_8 : decode cX1_init_2 8 = .ok (.dup, 1) := dk_89 (dk_at dksX1_init_2_0 8 rfl rfl)
theorem dX1_init_2_9 : decode cX1_init_2 9 = .ok (.bipush 6, 2) := dk_16 6 (dk_at dksX1_init_2_0 9 rfl rfl)
theorem dX1_init_2_11 : decode cX1_init_2 11 = .ok (.invokespecial 11, 3) := dk_183 0 11 (dk_at dksX1_init_2_0 11 rfl rfl)
theorem dX1_init_2_14 : decode cX1_init_2 14 = .ok (.putfield 14, 3) := dk_181 0 14 (dk_at dksX1_init_2_0 14 rfl rfl)
theorem dX1_init_2_17 : decode cX1_init_2 17 = .ok (.aload_n 0, 1) := dk_42 (dk_at dksX1_init_2_0 17 rfl rfl)
theorem dX1_init_2_18 : decode cX1_init_2 18 = .ok (.new 9, 3) := dk_187 0 9 (dk_at dksX1_init_2_0 18 rfl rfl)
theorem dX1_init_2_21 : decode cX1_init_2 21 = .ok (.dup, 1) := dk_89 (dk_at dksX1_init_2_0 21 rfl rfl)
theorem dX1_init_2_22 : decode cX1_init_2 22 = .ok (.bipush 10, 2) := dk_16 10 (dk_at dksX1_init_2_0 22 rfl rfl)
theorem dX1_init_2_24 : decode cX1_init_2 24 = .ok (.invokespecial 11, 3) := dk_183 0 11 (dk_at dksX1_init_2_1 0 rfl rfl)
theorem dX1_init_2_27 : decode cX1_init_2 27 = .ok (.putfield 20, 3) := dk_181 0 20 (dk_at dksX1_init_2_1 3 rfl rfl)
theorem dX1_init_2_30 : decode cX1_init_2 30 = .ok (.aload_n 0, 1) := dk_42 (dk_at dksX1_init_2_1 6 rfl rfl)
theorem dX1_init_2_31 : decode cX1_init_2 31 = .ok (.new 9, 3) := dk_187 0 9 (dk_at dksX1_init_2_1 7 rfl rfl)
theorem dX1_init_2_34 : decode cX1_init_2 34 = .ok (.dup, 1) := dk_89 (dk_at dksX1_init_2_1 10 rfl rfl)
theorem dX1_init_2_35 : decode cX1_init_2 35 = .ok (.iconst 4, 1) := dk_7 (dk_at dksX1_init_2_1 11 rfl rfl)
theorem dX1_init_2_36 : decode cX1_init_2 36 = .ok (.invokespecial 11, 3) := dk_183 0 11 (dk_at dksX1_init_2_1 12 rfl rfl)
theorem dX1_init_2_39 : decode cX1_init_2 39 = .ok (.putfield 23, 3) := dk_181 0 23 (dk_at dksX1_init_2_1 15 rfl rfl)
theorem dX1_init_2_42 : decode cX1_init_2 42 = .ok (.aload_n 0, 1) := dk_42 (dk_at dksX1_init_2_1 18 rfl rfl)
theorem dX1_init_2_43 : decode cX1_init_2 43 = .ok (.new 9, 3) := dk_187 0 9 (dk_at dksX1_init_2_1 19 rfl rfl)
theorem dX1_init_2_46 : decode cX1_init_2 46 = .ok (.dup, 1) := dk_89 (dk_at dksX1_init_2_1 22 rfl rfl)
theorem dX1_init_2_47 : decode cX1_init_2 47 = .ok (.bipush 8, 2) := dk_16 8 (dk_at dksX1_init_2_2 0 rfl rfl)
theorem dX1_init_2_49 : decode cX1_init_2 49 = .ok (.invokespecial 11, 3) := dk_183 0 11 (dk_at dksX1_init_2_2 2 rfl rfl)
theorem dX1_init_2_52 : decode cX1_init_2 52 = .ok (.putfield 26, 3) := dk_181 0 26 (dk_at dksX1_init_2_2 5 rfl rfl)
theorem dX1_init_2_55 : decode cX1_init_2 55 = .ok (.aload_n 0, 1) := dk_42 (dk_at dksX1_init_2_2 8 rfl rfl)
theorem dX1_init_2_56 : decode cX1_init_2 56 = .ok (.bipush 12, 2) := dk_16 12 (dk_at dksX1_init_2_2 9 rfl rfl)
theorem dX1_init_2_58 : decode cX1_init_2 58 = .ok (.putfield 29, 3) := dk_181 0 29 (dk_at dksX1_init_2_2 11 rfl rfl)
theorem dX1_init_2_61 : decode cX1_init_2 61 = .ok (.aload_n 0, 1) := dk_42 (dk_at dksX1_init_2_2 14 rfl rfl)
theorem dX1_init_2_62 : decode cX1_init_2 62 = .ok (.bipush 20, 2) := dk_16 20 (dk_at dksX1_init_2_2 15 rfl rfl)
theorem dX1_init_2_64 : decode cX1_init_2 64 = .ok (.putfield 33, 3) := dk_181 0 33 (dk_at dksX1_init_2_2 17 rfl rfl)
theorem dX1_init_2_67 : decode cX1_init_2 67 = .ok (.iconst 0, 1) := dk_3 (dk_at dksX1_init_2_2 20 rfl rfl)
theorem dX1_init_2_68 : decode cX1_init_2 68 = .ok (.istore_n 2, 1) := dk_61 (dk_at dksX1_init_2_2 21 rfl rfl)
theorem dX1_init_2_69 : decode cX1_init_2 69 = .ok (.iload_n 2, 1) := dk_28 (dk_at dksX1_init_2_2 22 rfl rfl)
theorem dX1_init_2_70 : decode cX1_init_2 70 = .ok (.bipush 6, 2) := dk_16 6 (dk_at dksX1_init_2_3 0 rfl rfl)
theorem dX1_init_2_72 : decode cX1_init_2 72 = .ok (.if_icmp .ge 29, 3) := dk_162 0 29 (dk_at dksX1_init_2_3 2 rfl rfl)
theorem dX1_init_2_75 : decode cX1_init_2 75 = .ok (.iload_n 1, 1) := dk_27 (dk_at dksX1_init_2_3 5 rfl rfl)
theorem dX1_init_2_76 : decode cX1_init_2 76 = .ok (.ifCond .eq 25, 3) := dk_153 0 25 (dk_at dksX1_init_2_3 6 rfl rfl)
theorem dX1_init_2_79 : decode cX1_init_2 79 = .ok (.aload_n 0, 1) := dk_42 (dk_at dksX1_init_2_3 9 rfl rfl)
theorem dX1_init_2_80 : decode cX1_init_2 80 = .ok (.getfield 14, 3) := dk_180 0 14 (dk_at dksX1_init_2_3 10 rfl rfl)
theorem dX1_init_2_83 : decode cX1_init_2 83 = .ok (.new 36, 3) := dk_187 0 36 (dk_at dksX1_init_2_3 13 rfl rfl)
theorem dX1_init_2_86 : decode cX1_init_2 86 = .ok (.dup, 1) := dk_89 (dk_at dksX1_init_2_3 16 rfl rfl)
theorem dX1_init_2_87 : decode cX1_init_2 87 = .ok (.iload_n 2, 1) := dk_28 (dk_at dksX1_init_2_3 17 rfl rfl)
theorem dX1_init_2_88 : decode cX1_init_2 88 = .ok (.invokespecial 38, 3) := dk_183 0 38 (dk_at dksX1_init_2_3 18 rfl rfl)
theorem dX1_init_2_91 : decode cX1_init_2 91 = .ok (.invokevirtual 39, 3) := dk_182 0 39 (dk_at dksX1_init_2_3 21 rfl rfl)
theorem dX1_init_2_94 : decode cX1_init_2 94 = .ok (.istore_n 3, 1) := dk_62 (dk_at dksX1_init_2_4 0 rfl rfl)
theorem dX1_init_2_95 : decode cX1_init_2 95 = .ok (.iinc 2 1, 3) := dk_132 2 1 (dk_at dksX1_init_2_4 1 rfl rfl)
theorem dX1_init_2_98 : decode cX1_init_2 98 = .ok (.goto (-29), 3) := dk_167 255 227 (dk_at dksX1_init_2_4 4 rfl rfl)
theorem dX1_init_2_101 : decode cX1_init_2 101 = .ok (.return_, 1) := dk_177 (dk_at dksX1_init_2_4 7 rfl rfl)
abbrev cX1_copy : ByteArray := prog_3_method_3_code
def yX1_copy : MethodName := ⟨RX1, "copy", "()LGargoyleCopyists$Church;"⟩
def dkwX1_copy_8 : List UInt8 := [25, 4, 182, 0, 76, 182, 0, 39, 96, 61, 167, 255, 221, 43, 42, 182, 0, 79, 43, 176]
abbrev dktX1_copy_8 : List UInt8 := dkwX1_copy_8 ++ []
def dkwX1_copy_7 : List UInt8 := [185, 0, 50, 1, 0, 153, 0, 32, 45, 185, 0, 56, 1, 0, 192, 0, 74, 58, 4, 28, 43, 180, 0, 26]
abbrev dktX1_copy_7 : List UInt8 := dkwX1_copy_7 ++ dktX1_copy_8
def dkwX1_copy_6 : List UInt8 := [25, 4, 182, 0, 71, 182, 0, 39, 96, 61, 167, 255, 221, 42, 180, 0, 26, 182, 0, 46, 78, 45]
abbrev dktX1_copy_6 : List UInt8 := dkwX1_copy_6 ++ dktX1_copy_7
def dkwX1_copy_5 : List UInt8 := [185, 0, 50, 1, 0, 153, 0, 32, 45, 185, 0, 56, 1, 0, 192, 0, 69, 58, 4, 28, 43, 180, 0, 23]
abbrev dktX1_copy_5 : List UInt8 := dkwX1_copy_5 ++ dktX1_copy_6
def dkwX1_copy_4 : List UInt8 := [25, 4, 182, 0, 66, 182, 0, 39, 96, 61, 167, 255, 221, 42, 180, 0, 23, 182, 0, 46, 78, 45]
abbrev dktX1_copy_4 : List UInt8 := dkwX1_copy_4 ++ dktX1_copy_5
def dkwX1_copy_3 : List UInt8 := [185, 0, 50, 1, 0, 153, 0, 32, 45, 185, 0, 56, 1, 0, 192, 0, 64, 58, 4, 28, 43, 180, 0, 20]
abbrev dktX1_copy_3 : List UInt8 := dkwX1_copy_3 ++ dktX1_copy_4
def dkwX1_copy_2 : List UInt8 := [25, 4, 182, 0, 60, 182, 0, 39, 96, 61, 167, 255, 221, 42, 180, 0, 20, 182, 0, 46, 78, 45]
abbrev dktX1_copy_2 : List UInt8 := dkwX1_copy_2 ++ dktX1_copy_3
def dkwX1_copy_1 : List UInt8 := [185, 0, 50, 1, 0, 153, 0, 32, 45, 185, 0, 56, 1, 0, 192, 0, 36, 58, 4, 28, 43, 180, 0, 14]
abbrev dktX1_copy_1 : List UInt8 := dkwX1_copy_1 ++ dktX1_copy_2
def dkwX1_copy_0 : List UInt8 := [187, 0, 15, 89, 3, 183, 0, 43, 76, 3, 61, 42, 180, 0, 14, 182, 0, 46, 78, 45]
abbrev dktX1_copy_0 : List UInt8 := dkwX1_copy_0 ++ dktX1_copy_1
theorem dksX1_copy_0 : cX1_copy.data.toList.drop 0 = dktX1_copy_0 := by decide +kernel
theorem dksX1_copy_1 : cX1_copy.data.toList.drop 20 = dktX1_copy_1 := dk_seg dksX1_copy_0 20 rfl rfl
theorem dksX1_copy_2 : cX1_copy.data.toList.drop 44 = dktX1_copy_2 := dk_seg dksX1_copy_1 24 rfl rfl
theorem dksX1_copy_3 : cX1_copy.data.toList.drop 66 = dktX1_copy_3 := dk_seg dksX1_copy_2 22 rfl rfl
theorem dksX1_copy_4 : cX1_copy.data.toList.drop 90 = dktX1_copy_4 := dk_seg dksX1_copy_3 24 rfl rfl
theorem dksX1_copy_5 : cX1_copy.data.toList.drop 112 = dktX1_copy_5 := dk_seg dksX1_copy_4 22 rfl rfl
theorem dksX1_copy_6 : cX1_copy.data.toList.drop 136 = dktX1_copy_6 := dk_seg dksX1_copy_5 24 rfl rfl
theorem dksX1_copy_7 : cX1_copy.data.toList.drop 158 = dktX1_copy_7 := dk_seg dksX1_copy_6 22 rfl rfl
theorem dksX1_copy_8 : cX1_copy.data.toList.drop 182 = dktX1_copy_8 := dk_seg dksX1_copy_7 24 rfl rfl
theorem dX1_copy_0 : decode cX1_copy 0 = .ok (.new 15, 3) := dk_187 0 15 (dk_at dksX1_copy_0 0 rfl rfl)
theorem dX1_copy_3 : decode cX1_copy 3 = .ok (.dup, 1) := dk_89 (dk_at dksX1_copy_0 3 rfl rfl)
theorem dX1_copy_4 : decode cX1_copy 4 = .ok (.iconst 0, 1) := dk_3 (dk_at dksX1_copy_0 4 rfl rfl)
theorem dX1_copy_5 : decode cX1_copy 5 = .ok (.invokespecial 43, 3) := dk_183 0 43 (dk_at dksX1_copy_0 5 rfl rfl)
theorem dX1_copy_8 : decode cX1_copy 8 = .ok (.astore_n 1, 1) := dk_76 (dk_at dksX1_copy_0 8 rfl rfl)
theorem dX1_copy_9 : decode cX1_copy 9 = .ok (.iconst 0, 1) := dk_3 (dk_at dksX1_copy_0 9 rfl rfl)
theorem dX1_copy_10 : decode cX1_copy 10 = .ok (.istore_n 2, 1) := dk_61 (dk_at dksX1_copy_0 10 rfl rfl)
theorem dX1_copy_11 : decode cX1_copy 11 = .ok (.aload_n 0, 1) := dk_42 (dk_at dksX1_copy_0 11 rfl rfl)
theorem dX1_copy_12 : decode cX1_copy 12 = .ok (.getfield 14, 3) := dk_180 0 14 (dk_at dksX1_copy_0 12 rfl rfl)
theorem dX1_copy_15 : decode cX1_copy 15 = .ok (.invokevirtual 46, 3) := dk_182 0 46 (dk_at dksX1_copy_0 15 rfl rfl)
theorem dX1_copy_18 : decode cX1_copy 18 = .ok (.astore_n 3, 1) := dk_78 (dk_at dksX1_copy_0 18 rfl rfl)
theorem dX1_copy_19 : decode cX1_copy 19 = .ok (.aload_n 3, 1) := dk_45 (dk_at dksX1_copy_0 19 rfl rfl)
theorem dX1_copy_20 : decode cX1_copy 20 = .ok (.invokeinterface 50 1, 5) := by decide +kernel
theorem dX1_copy_25 : decode cX1_copy 25 = .ok (.ifCond .eq 32, 3) := dk_153 0 32 (dk_at dksX1_copy_1 5 rfl rfl)
theorem dX1_copy_28 : decode cX1_copy 28 = .ok (.aload_n 3, 1) := dk_45 (dk_at dksX1_copy_1 8 rfl rfl)
theorem dX1_copy_29 : decode cX1_copy 29 = .ok (.invokeinterface 56 1, 5) := by decide +kernel
theorem dX1_copy_34 : decode cX1_copy 34 = .ok (.checkcast 36, 3) := dk_192 0 36 (dk_at dksX1_copy_1 14 rfl rfl)
theorem dX1_copy_37 : decode cX1_copy 37 = .ok (.astore 4, 2) := dk_58 4 (dk_at dksX1_copy_1 17 rfl rfl)
theorem dX1_copy_39 : decode cX1_copy 39 = .ok (.iload_n 2, 1) := dk_28 (dk_at dksX1_copy_1 19 rfl rfl)
theorem dX1_copy_40 : decode cX1_copy 40 = .ok (.aload_n 1, 1) := dk_43 (dk_at dksX1_copy_1 20 rfl rfl)
theorem dX1_copy_41 : decode cX1_copy 41 = .ok (.getfield 14, 3) := dk_180 0 14 (dk_at dksX1_copy_1 21 rfl rfl)
theorem dX1_copy_44 : decode cX1_copy 44 = .ok (.aload 4, 2) := dk_25 4 (dk_at dksX1_copy_2 0 rfl rfl)
theorem dX1_copy_46 : decode cX1_copy 46 = .ok (.invokevirtual 60, 3) := dk_182 0 60 (dk_at dksX1_copy_2 2 rfl rfl)
theorem dX1_copy_49 : decode cX1_copy 49 = .ok (.invokevirtual 39, 3) := dk_182 0 39 (dk_at dksX1_copy_2 5 rfl rfl)
theorem dX1_copy_52 : decode cX1_copy 52 = .ok (.iadd, 1) := dk_96 (dk_at dksX1_copy_2 8 rfl rfl)
theorem dX1_copy_53 : decode cX1_copy 53 = .ok (.istore_n 2, 1) := dk_61 (dk_at dksX1_copy_2 9 rfl rfl)
theorem dX1_copy_54 : decode cX1_copy 54 = .ok (.goto (-35), 3) := dk_167 255 221 (dk_at dksX1_copy_2 10 rfl rfl)
theorem dX1_copy_57 : decode cX1_copy 57 = .ok (.aload_n 0, 1) := dk_42 (dk_at dksX1_copy_2 13 rfl rfl)
theorem dX1_copy_58 : decode cX1_copy 58 = .ok (.getfield 20, 3) := dk_180 0 20 (dk_at dksX1_copy_2 14 rfl rfl)
theorem dX1_copy_61 : decode cX1_copy 61 = .ok (.invokevirtual 46, 3) := dk_182 0 46 (dk_at dksX1_copy_2 17 rfl rfl)
theorem dX1_copy_64 : decode cX1_copy 64 = .ok (.astore_n 3, 1) := dk_78 (dk_at dksX1_copy_2 20 rfl rfl)
theorem dX1_copy_65 : decode cX1_copy 65 = .ok (.aload_n 3, 1) := dk_45 (dk_at dksX1_copy_2 21 rfl rfl)
theorem dX1_copy_66 : decode cX1_copy 66 = .ok (.invokeinterface 50 1, 5) := by decide +kernel
theorem dX1_copy_71 : decode cX1_copy 71 = .ok (.ifCond .eq 32, 3) := dk_153 0 32 (dk_at dksX1_copy_3 5 rfl rfl)
theorem dX1_copy_74 : decode cX1_copy 74 = .ok (.aload_n 3, 1) := dk_45 (dk_at dksX1_copy_3 8 rfl rfl)
theorem dX1_copy_75 : decode cX1_copy 75 = .ok (.invokeinterface 56 1, 5) := by decide +kernel
theorem dX1_copy_80 : decode cX1_copy 80 = .ok (.checkcast 64, 3) := dk_192 0 64 (dk_at dksX1_copy_3 14 rfl rfl)
theorem dX1_copy_83 : decode cX1_copy 83 = .ok (.astore 4, 2) := dk_58 4 (dk_at dksX1_copy_3 17 rfl rfl)
theorem dX1_copy_85 : decode cX1_copy 85 = .ok (.iload_n 2, 1) := dk_28 (dk_at dksX1_copy_3 19 rfl rfl)
theorem dX1_copy_86 : decode cX1_copy 86 = .ok (.aload_n 1, 1) := dk_43 (dk_at dksX1_copy_3 20 rfl rfl)
theorem dX1_copy_87 : decode cX1_copy 87 = .ok (.getfield 20, 3) := dk_180 0 20 (dk_at dksX1_copy_3 21 rfl rfl)
theorem dX1_copy_90 : decode cX1_copy 90 = .ok (.aload 4, 2) := dk_25 4 (dk_at dksX1_copy_4 0 rfl rfl)
theorem dX1_copy_92 : decode cX1_copy 92 = .ok (.invokevirtual 66, 3) := dk_182 0 66 (dk_at dksX1_copy_4 2 rfl rfl)
theorem dX1_copy_95 : decode cX1_copy 95 = .ok (.invokevirtual 39, 3) := dk_182 0 39 (dk_at dksX1_copy_4 5 rfl rfl)
theorem dX1_copy_98 : decode cX1_copy 98 = .ok (.iadd, 1) := dk_96 (dk_at dksX1_copy_4 8 rfl rfl)
theorem dX1_copy_99 : decode cX1_copy 99 = .ok (.istore_n 2, 1) := dk_61 (dk_at dksX1_copy_4 9 rfl rfl)
theorem dX1_copy_100 : decode cX1_copy 100 = .ok (.goto (-35), 3) := dk_167 255 221 (dk_at dksX1_copy_4 10 rfl rfl)
theorem dX1_copy_103 : decode cX1_copy 103 = .ok (.aload_n 0, 1) := dk_42 (dk_at dksX1_copy_4 13 rfl rfl)
theorem dX1_copy_104 : decode cX1_copy 104 = .ok (.getfield 23, 3) := dk_180 0 23 (dk_at dksX1_copy_4 14 rfl rfl)
theorem dX1_copy_107 : decode cX1_copy 107 = .ok (.invokevirtual 46, 3) := dk_182 0 46 (dk_at dksX1_copy_4 17 rfl rfl)
theorem dX1_copy_110 : decode cX1_copy 110 = .ok (.astore_n 3, 1) := dk_78 (dk_at dksX1_copy_4 20 rfl rfl)
theorem dX1_copy_111 : decode cX1_copy 111 = .ok (.aload_n 3, 1) := dk_45 (dk_at dksX1_copy_4 21 rfl rfl)
theorem dX1_copy_112 : decode cX1_copy 112 = .ok (.invokeinterface 50 1, 5) := by decide +kernel
theorem dX1_copy_117 : decode cX1_copy 117 = .ok (.ifCond .eq 32, 3) := dk_153 0 32 (dk_at dksX1_copy_5 5 rfl rfl)
theorem dX1_copy_120 : decode cX1_copy 120 = .ok (.aload_n 3, 1) := dk_45 (dk_at dksX1_copy_5 8 rfl rfl)
theorem dX1_copy_121 : decode cX1_copy 121 = .ok (.invokeinterface 56 1, 5) := by decide +kernel
theorem dX1_copy_126 : decode cX1_copy 126 = .ok (.checkcast 69, 3) := dk_192 0 69 (dk_at dksX1_copy_5 14 rfl rfl)
theorem dX1_copy_129 : decode cX1_copy 129 = .ok (.astore 4, 2) := dk_58 4 (dk_at dksX1_copy_5 17 rfl rfl)
theorem dX1_copy_131 : decode cX1_copy 131 = .ok (.iload_n 2, 1) := dk_28 (dk_at dksX1_copy_5 19 rfl rfl)
theorem dX1_copy_132 : decode cX1_copy 132 = .ok (.aload_n 1, 1) := dk_43 (dk_at dksX1_copy_5 20 rfl rfl)
theorem dX1_copy_133 : decode cX1_copy 133 = .ok (.getfield 23, 3) := dk_180 0 23 (dk_at dksX1_copy_5 21 rfl rfl)
theorem dX1_copy_136 : decode cX1_copy 136 = .ok (.aload 4, 2) := dk_25 4 (dk_at dksX1_copy_6 0 rfl rfl)
theorem dX1_copy_138 : decode cX1_copy 138 = .ok (.invokevirtual 71, 3) := dk_182 0 71 (dk_at dksX1_copy_6 2 rfl rfl)
theorem dX1_copy_141 : decode cX1_copy 141 = .ok (.invokevirtual 39, 3) := dk_182 0 39 (dk_at dksX1_copy_6 5 rfl rfl)
theorem dX1_copy_144 : decode cX1_copy 144 = .ok (.iadd, 1) := dk_96 (dk_at dksX1_copy_6 8 rfl rfl)
theorem dX1_copy_145 : decode cX1_copy 145 = .ok (.istore_n 2, 1) := dk_61 (dk_at dksX1_copy_6 9 rfl rfl)
theorem dX1_copy_146 : decode cX1_copy 146 = .ok (.goto (-35), 3) := dk_167 255 221 (dk_at dksX1_copy_6 10 rfl rfl)
theorem dX1_copy_149 : decode cX1_copy 149 = .ok (.aload_n 0, 1) := dk_42 (dk_at dksX1_copy_6 13 rfl rfl)
theorem dX1_copy_150 : decode cX1_copy 150 = .ok (.getfield 26, 3) := dk_180 0 26 (dk_at dksX1_copy_6 14 rfl rfl)
theorem dX1_copy_153 : decode cX1_copy 153 = .ok (.invokevirtual 46, 3) := dk_182 0 46 (dk_at dksX1_copy_6 17 rfl rfl)
theorem dX1_copy_156 : decode cX1_copy 156 = .ok (.astore_n 3, 1) := dk_78 (dk_at dksX1_copy_6 20 rfl rfl)
theorem dX1_copy_157 : decode cX1_copy 157 = .ok (.aload_n 3, 1) := dk_45 (dk_at dksX1_copy_6 21 rfl rfl)
theorem dX1_copy_158 : decode cX1_copy 158 = .ok (.invokeinterface 50 1, 5) := by decide +kernel
theorem dX1_copy_163 : decode cX1_copy 163 = .ok (.ifCond .eq 32, 3) := dk_153 0 32 (dk_at dksX1_copy_7 5 rfl rfl)
theorem dX1_copy_166 : decode cX1_copy 166 = .ok (.aload_n 3, 1) := dk_45 (dk_at dksX1_copy_7 8 rfl rfl)
theorem dX1_copy_167 : decode cX1_copy 167 = .ok (.invokeinterface 56 1, 5) := by decide +kernel
theorem dX1_copy_172 : decode cX1_copy 172 = .ok (.checkcast 74, 3) := dk_192 0 74 (dk_at dksX1_copy_7 14 rfl rfl)
theorem dX1_copy_175 : decode cX1_copy 175 = .ok (.astore 4, 2) := dk_58 4 (dk_at dksX1_copy_7 17 rfl rfl)
theorem dX1_copy_177 : decode cX1_copy 177 = .ok (.iload_n 2, 1) := dk_28 (dk_at dksX1_copy_7 19 rfl rfl)
theorem dX1_copy_178 : decode cX1_copy 178 = .ok (.aload_n 1, 1) := dk_43 (dk_at dksX1_copy_7 20 rfl rfl)
theorem dX1_copy_179 : decode cX1_copy 179 = .ok (.getfield 26, 3) := dk_180 0 26 (dk_at dksX1_copy_7 21 rfl rfl)
theorem dX1_copy_182 : decode cX1_copy 182 = .ok (.aload 4, 2) := dk_25 4 (dk_at dksX1_copy_8 0 rfl rfl)
theorem dX1_copy_184 : decode cX1_copy 184 = .ok (.invokevirtual 76, 3) := dk_182 0 76 (dk_at dksX1_copy_8 2 rfl rfl)
theorem dX1_copy_187 : decode cX1_copy 187 = .ok (.invokevirtual 39, 3) := dk_182 0 39 (dk_at dksX1_copy_8 5 rfl rfl)
theorem dX1_copy_190 : decode cX1_copy 190 = .ok (.iadd, 1) := dk_96 (dk_at dksX1_copy_8 8 rfl rfl)
theorem dX1_copy_191 : decode cX1_copy 191 = .ok (.istore_n 2, 1) := dk_61 (dk_at dksX1_copy_8 9 rfl rfl)
theorem dX1_copy_192 : decode cX1_copy 192 = .ok (.goto (-35), 3) := dk_167 255 221 (dk_at dksX1_copy_8 10 rfl rfl)
theorem dX1_copy_195 : decode cX1_copy 195 = .ok (.aload_n 1, 1) := dk_43 (dk_at dksX1_copy_8 13 rfl rfl)
theorem dX1_copy_196 : decode cX1_copy 196 = .ok (.aload_n 0, 1) := dk_42 (dk_at dksX1_copy_8 14 rfl rfl)
theorem dX1_copy_197 : decode cX1_copy 197 = .ok (.invokevirtual 79, 3) := dk_182 0 79 (dk_at dksX1_copy_8 15 rfl rfl)
theorem dX1_copy_200 : decode cX1_copy 200 = .ok (.aload_n 1, 1) := dk_43 (dk_at dksX1_copy_8 18 rfl rfl)
theorem dX1_copy_201 : decode cX1_copy 201 = .ok (.areturn, 1) := dk_176 (dk_at dksX1_copy_8 19 rfl rfl)
abbrev cX1_takesNumbers : ByteArray := prog_3_method_4_code
def yX1_takesNumbers : MethodName := ⟨RX1, "takesNumbers", "(LGargoyleCopyists$Church;)V"⟩
def dkwX1_takesNumbers_2 : List UInt8 := [42, 43, 180, 0, 95, 181, 0, 95, 42, 43, 180, 0, 98, 181, 0, 98, 177]
abbrev dktX1_takesNumbers_2 : List UInt8 := dkwX1_takesNumbers_2 ++ []
def dkwX1_takesNumbers_1 : List UInt8 := [42, 43, 180, 0, 86, 181, 0, 86, 42, 43, 180, 0, 89, 181, 0, 89, 42, 43, 180, 0, 92, 181, 0, 92]
abbrev dktX1_takesNumbers_1 : List UInt8 := dkwX1_takesNumbers_1 ++ dktX1_takesNumbers_2
def dkwX1_takesNumbers_0 : List UInt8 := [42, 43, 180, 0, 29, 181, 0, 29, 42, 43, 180, 0, 33, 181, 0, 33, 42, 43, 180, 0, 83, 181, 0, 83]
abbrev dktX1_takesNumbers_0 : List UInt8 := dkwX1_takesNumbers_0 ++ dktX1_takesNumbers_1
theorem dksX1_takesNumbers_0 : cX1_takesNumbers.data.toList.drop 0 = dktX1_takesNumbers_0 := by decide +kernel
theorem dksX1_takesNumbers_1 : cX1_takesNumbers.data.toList.drop 24 = dktX1_takesNumbers_1 := dk_seg dksX1_takesNumbers_0 24 rfl rfl
theorem dksX1_takesNumbers_2 : cX1_takesNumbers.data.toList.drop 48 = dktX1_takesNumbers_2 := dk_seg dksX1_takesNumbers_1 24 rfl rfl
theorem dX1_takesNumbers_0 : decode cX1_takesNumbers 0 = .ok (.aload_n 0, 1) := dk_42 (dk_at dksX1_takesNumbers_0 0 rfl rfl)
theorem dX1_takesNumbers_1 : decode cX1_takesNumbers 1 = .ok (.aload_n 1, 1) := dk_43 (dk_at dksX1_takesNumbers_0 1 rfl rfl)
theorem dX1_takesNumbers_2 : decode cX1_takesNumbers 2 = .ok (.getfield 29, 3) := dk_180 0 29 (dk_at dksX1_takesNumbers_0 2 rfl rfl)
theorem dX1_takesNumbers_5 : decode cX1_takesNumbers 5 = .ok (.putfield 29, 3) := dk_181 0 29 (dk_at dksX1_takesNumbers_0 5 rfl rfl)
theorem dX1_takesNumbers_8 : decode cX1_takesNumbers 8 = .ok (.aload_n 0, 1) := dk_42 (dk_at dksX1_takesNumbers_0 8 rfl rfl)
theorem dX1_takesNumbers_9 : decode cX1_takesNumbers 9 = .ok (.aload_n 1, 1) := dk_43 (dk_at dksX1_takesNumbers_0 9 rfl rfl)
theorem dX1_takesNumbers_10 : decode cX1_takesNumbers 10 = .ok (.getfield 33, 3) := dk_180 0 33 (dk_at dksX1_takesNumbers_0 10 rfl rfl)
theorem dX1_takesNumbers_13 : decode cX1_takesNumbers 13 = .ok (.putfield 33, 3) := dk_181 0 33 (dk_at dksX1_takesNumbers_0 13 rfl rfl)
theorem dX1_takesNumbers_16 : decode cX1_takesNumbers 16 = .ok (.aload_n 0, 1) := dk_42 (dk_at dksX1_takesNumbers_0 16 rfl rfl)
theorem dX1_takesNumbers_17 : decode cX1_takesNumbers 17 = .ok (.aload_n 1, 1) := dk_43 (dk_at dksX1_takesNumbers_0 17 rfl rfl)
theorem dX1_takesNumbers_18 : decode cX1_takesNumbers 18 = .ok (.getfield 83, 3) := dk_180 0 83 (dk_at dksX1_takesNumbers_0 18 rfl rfl)
theorem dX1_takesNumbers_21 : decode cX1_takesNumbers 21 = .ok (.putfield 83, 3) := dk_181 0 83 (dk_at dksX1_takesNumbers_0 21 rfl rfl)
theorem dX1_takesNumbers_24 : decode cX1_takesNumbers 24 = .ok (.aload_n 0, 1) := dk_42 (dk_at dksX1_takesNumbers_1 0 rfl rfl)
theorem dX1_takesNumbers_25 : decode cX1_takesNumbers 25 = .ok (.aload_n 1, 1) := dk_43 (dk_at dksX1_takesNumbers_1 1 rfl rfl)
theorem dX1_takesNumbers_26 : decode cX1_takesNumbers 26 = .ok (.getfield 86, 3) := dk_180 0 86 (dk_at dksX1_takesNumbers_1 2 rfl rfl)
theorem dX1_takesNumbers_29 : decode cX1_takesNumbers 29 = .ok (.putfield 86, 3) := dk_181 0 86 (dk_at dksX1_takesNumbers_1 5 rfl rfl)
theorem dX1_takesNumbers_32 : decode cX1_takesNumbers 32 = .ok (.aload_n 0, 1) := dk_42 (dk_at dksX1_takesNumbers_1 8 rfl rfl)
theorem dX1_takesNumbers_33 : decode cX1_takesNumbers 33 = .ok (.aload_n 1, 1) := dk_43 (dk_at dksX1_takesNumbers_1 9 rfl rfl)
theorem dX1_takesNumbers_34 : decode cX1_takesNumbers 34 = .ok (.getfield 89, 3) := dk_180 0 89 (dk_at dksX1_takesNumbers_1 10 rfl rfl)
theorem dX1_takesNumbers_37 : decode cX1_takesNumbers 37 = .ok (.putfield 89, 3) := dk_181 0 89 (dk_at dksX1_takesNumbers_1 13 rfl rfl)
theorem dX1_takesNumbers_40 : decode cX1_takesNumbers 40 = .ok (.aload_n 0, 1) := dk_42 (dk_at dksX1_takesNumbers_1 16 rfl rfl)
theorem dX1_takesNumbers_41 : decode cX1_takesNumbers 41 = .ok (.aload_n 1, 1) := dk_43 (dk_at dksX1_takesNumbers_1 17 rfl rfl)
theorem dX1_takesNumbers_42 : decode cX1_takesNumbers 42 = .ok (.getfield 92, 3) := dk_180 0 92 (dk_at dksX1_takesNumbers_1 18 rfl rfl)
theorem dX1_takesNumbers_45 : decode cX1_takesNumbers 45 = .ok (.putfield 92, 3) := dk_181 0 92 (dk_at dksX1_takesNumbers_1 21 rfl rfl)
theorem dX1_takesNumbers_48 : decode cX1_takesNumbers 48 = .ok (.aload_n 0, 1) := dk_42 (dk_at dksX1_takesNumbers_2 0 rfl rfl)
theorem dX1_takesNumbers_49 : decode cX1_takesNumbers 49 = .ok (.aload_n 1, 1) := dk_43 (dk_at dksX1_takesNumbers_2 1 rfl rfl)
theorem dX1_takesNumbers_50 : decode cX1_takesNumbers 50 = .ok (.getfield 95, 3) := dk_180 0 95 (dk_at dksX1_takesNumbers_2 2 rfl rfl)
theorem dX1_takesNumbers_53 : decode cX1_takesNumbers 53 = .ok (.putfield 95, 3) := dk_181 0 95 (dk_at dksX1_takesNumbers_2 5 rfl rfl)
theorem dX1_takesNumbers_56 : decode cX1_takesNumbers 56 = .ok (.aload_n 0, 1) := dk_42 (dk_at dksX1_takesNumbers_2 8 rfl rfl)
theorem dX1_takesNumbers_57 : decode cX1_takesNumbers 57 = .ok (.aload_n 1, 1) := dk_43 (dk_at dksX1_takesNumbers_2 9 rfl rfl)
theorem dX1_takesNumbers_58 : decode cX1_takesNumbers 58 = .ok (.getfield 98, 3) := dk_180 0 98 (dk_at dksX1_takesNumbers_2 10 rfl rfl)
theorem dX1_takesNumbers_61 : decode cX1_takesNumbers 61 = .ok (.putfield 98, 3) := dk_181 0 98 (dk_at dksX1_takesNumbers_2 13 rfl rfl)
theorem dX1_takesNumbers_64 : decode cX1_takesNumbers 64 = .ok (.return_, 1) := dk_177 (dk_at dksX1_takesNumbers_2 16 rfl rfl)
abbrev cX1_buys : ByteArray := prog_3_method_6_code
def yX1_buys : MethodName := ⟨RX1, "buys", "(I)I"⟩
def dkwX1_buys_1 : List UInt8 := [180, 0, 29, 172]
abbrev dktX1_buys_1 : List UInt8 := dkwX1_buys_1 ++ []
def dkwX1_buys_0 : List UInt8 := [42, 5, 27, 104, 182, 0, 105, 42, 16, 60, 42, 180, 0, 29, 27, 96, 184, 0, 108, 181, 0, 29, 42]
abbrev dktX1_buys_0 : List UInt8 := dkwX1_buys_0 ++ dktX1_buys_1
theorem dksX1_buys_0 : cX1_buys.data.toList.drop 0 = dktX1_buys_0 := by decide +kernel
theorem dksX1_buys_1 : cX1_buys.data.toList.drop 23 = dktX1_buys_1 := dk_seg dksX1_buys_0 23 rfl rfl
theorem dX1_buys_0 : decode cX1_buys 0 = .ok (.aload_n 0, 1) := dk_42 (dk_at dksX1_buys_0 0 rfl rfl)
theorem dX1_buys_1 : decode cX1_buys 1 = .ok (.iconst 2, 1) := dk_5 (dk_at dksX1_buys_0 1 rfl rfl)
theorem dX1_buys_2 : decode cX1_buys 2 = .ok (.iload_n 1, 1) := dk_27 (dk_at dksX1_buys_0 2 rfl rfl)
theorem dX1_buys_3 : decode cX1_buys 3 = .ok (.imul, 1) := dk_104 (dk_at dksX1_buys_0 3 rfl rfl)
theorem dX1_buys_4 : decode cX1_buys 4 = .ok (.invokevirtual 105, 3) := dk_182 0 105 (dk_at dksX1_buys_0 4 rfl rfl)
theorem dX1_buys_7 : decode cX1_buys 7 = .ok (.aload_n 0, 1) := dk_42 (dk_at dksX1_buys_0 7 rfl rfl)
theorem dX1_buys_8 : decode cX1_buys 8 = .ok (.bipush 60, 2) := dk_16 60 (dk_at dksX1_buys_0 8 rfl rfl)
theorem dX1_buys_10 : decode cX1_buys 10 = .ok (.aload_n 0, 1) := dk_42 (dk_at dksX1_buys_0 10 rfl rfl)
theorem dX1_buys_11 : decode cX1_buys 11 = .ok (.getfield 29, 3) := dk_180 0 29 (dk_at dksX1_buys_0 11 rfl rfl)
theorem dX1_buys_14 : decode cX1_buys 14 = .ok (.iload_n 1, 1) := dk_27 (dk_at dksX1_buys_0 14 rfl rfl)
theorem dX1_buys_15 : decode cX1_buys 15 = .ok (.iadd, 1) := dk_96 (dk_at dksX1_buys_0 15 rfl rfl)
theorem dX1_buys_16 : decode cX1_buys 16 = .ok (.invokestatic 108, 3) := dk_184 0 108 (dk_at dksX1_buys_0 16 rfl rfl)
theorem dX1_buys_19 : decode cX1_buys 19 = .ok (.putfield 29, 3) := dk_181 0 29 (dk_at dksX1_buys_0 19 rfl rfl)
theorem dX1_buys_22 : decode cX1_buys 22 = .ok (.aload_n 0, 1) := dk_42 (dk_at dksX1_buys_0 22 rfl rfl)
theorem dX1_buys_23 : decode cX1_buys 23 = .ok (.getfield 29, 3) := dk_180 0 29 (dk_at dksX1_buys_1 0 rfl rfl)
theorem dX1_buys_26 : decode cX1_buys 26 = .ok (.ireturn, 1) := dk_172 (dk_at dksX1_buys_1 3 rfl rfl)
abbrev cX1_pays : ByteArray := prog_3_method_5_code
def yX1_pays : MethodName := ⟨RX1, "pays", "(I)V"⟩
def dkwX1_pays_1 : List UInt8 := [42, 89, 180, 0, 33, 27, 100, 181, 0, 33, 42, 89, 180, 0, 86, 27, 96, 181, 0, 86, 177]
abbrev dktX1_pays_1 : List UInt8 := dkwX1_pays_1 ++ []
def dkwX1_pays_0 : List UInt8 := [42, 180, 0, 33, 27, 162, 0, 7, 4, 167, 0, 4, 3, 16, 14, 27, 42, 180, 0, 33, 100, 184, 0, 101]
abbrev dktX1_pays_0 : List UInt8 := dkwX1_pays_0 ++ dktX1_pays_1
theorem dksX1_pays_0 : cX1_pays.data.toList.drop 0 = dktX1_pays_0 := by decide +kernel
theorem dksX1_pays_1 : cX1_pays.data.toList.drop 24 = dktX1_pays_1 := dk_seg dksX1_pays_0 24 rfl rfl
theorem dX1_pays_0 : decode cX1_pays 0 = .ok (.aload_n 0, 1) := dk_42 (dk_at dksX1_pays_0 0 rfl rfl)
theorem dX1_pays_1 : decode cX1_pays 1 = .ok (.getfield 33, 3) := dk_180 0 33 (dk_at dksX1_pays_0 1 rfl rfl)
theorem dX1_pays_4 : decode cX1_pays 4 = .ok (.iload_n 1, 1) := dk_27 (dk_at dksX1_pays_0 4 rfl rfl)
theorem dX1_pays_5 : decode cX1_pays 5 = .ok (.if_icmp .ge 7, 3) := dk_162 0 7 (dk_at dksX1_pays_0 5 rfl rfl)
theorem dX1_pays_8 : decode cX1_pays 8 = .ok (.iconst 1, 1) := dk_4 (dk_at dksX1_pays_0 8 rfl rfl)
theorem dX1_pays_9 : decode cX1_pays 9 = .ok (.goto 4, 3) := dk_167 0 4 (dk_at dksX1_pays_0 9 rfl rfl)
theorem dX1_pays_12 : decode cX1_pays 12 = .ok (.iconst 0, 1) := dk_3 (dk_at dksX1_pays_0 12 rfl rfl)
theorem dX1_pays_13 : decode cX1_pays 13 = .ok (.bipush 14, 2) := dk_16 14 (dk_at dksX1_pays_0 13 rfl rfl)
theorem dX1_pays_15 : decode cX1_pays 15 = .ok (.iload_n 1, 1) := dk_27 (dk_at dksX1_pays_0 15 rfl rfl)
theorem dX1_pays_16 : decode cX1_pays 16 = .ok (.aload_n 0, 1) := dk_42 (dk_at dksX1_pays_0 16 rfl rfl)
theorem dX1_pays_17 : decode cX1_pays 17 = .ok (.getfield 33, 3) := dk_180 0 33 (dk_at dksX1_pays_0 17 rfl rfl)
theorem dX1_pays_20 : decode cX1_pays 20 = .ok (.isub, 1) := dk_100 (dk_at dksX1_pays_0 20 rfl rfl)
theorem dX1_pays_21 : decode cX1_pays 21 = .ok (.invokestatic 101, 3) := dk_184 0 101 (dk_at dksX1_pays_0 21 rfl rfl)
theorem dX1_pays_24 : decode cX1_pays 24 = .ok (.aload_n 0, 1) := dk_42 (dk_at dksX1_pays_1 0 rfl rfl)
theorem dX1_pays_25 : decode cX1_pays 25 = .ok (.dup, 1) := dk_89 (dk_at dksX1_pays_1 1 rfl rfl)
theorem dX1_pays_26 : decode cX1_pays 26 = .ok (.getfield 33, 3) := dk_180 0 33 (dk_at dksX1_pays_1 2 rfl rfl)
theorem dX1_pays_29 : decode cX1_pays 29 = .ok (.iload_n 1, 1) := dk_27 (dk_at dksX1_pays_1 5 rfl rfl)
theorem dX1_pays_30 : decode cX1_pays 30 = .ok (.isub, 1) := dk_100 (dk_at dksX1_pays_1 6 rfl rfl)
theorem dX1_pays_31 : decode cX1_pays 31 = .ok (.putfield 33, 3) := dk_181 0 33 (dk_at dksX1_pays_1 7 rfl rfl)
theorem dX1_pays_34 : decode cX1_pays 34 = .ok (.aload_n 0, 1) := dk_42 (dk_at dksX1_pays_1 10 rfl rfl)
theorem dX1_pays_35 : decode cX1_pays 35 = .ok (.dup, 1) := dk_89 (dk_at dksX1_pays_1 11 rfl rfl)
theorem dX1_pays_36 : decode cX1_pays 36 = .ok (.getfield 86, 3) := dk_180 0 86 (dk_at dksX1_pays_1 12 rfl rfl)
theorem dX1_pays_39 : decode cX1_pays 39 = .ok (.iload_n 1, 1) := dk_27 (dk_at dksX1_pays_1 15 rfl rfl)
theorem dX1_pays_40 : decode cX1_pays 40 = .ok (.iadd, 1) := dk_96 (dk_at dksX1_pays_1 16 rfl rfl)
theorem dX1_pays_41 : decode cX1_pays 41 = .ok (.putfield 86, 3) := dk_181 0 86 (dk_at dksX1_pays_1 17 rfl rfl)
theorem dX1_pays_44 : decode cX1_pays 44 = .ok (.return_, 1) := dk_177 (dk_at dksX1_pays_1 20 rfl rfl)
abbrev cX1_takesCast : ByteArray := prog_3_method_7_code
def yX1_takesCast : MethodName := ⟨RX1, "takesCast", "(I)I"⟩
def dkwX1_takesCast_4 : List UInt8 := [181, 0, 29, 42, 180, 0, 20, 187, 0, 64, 89, 27, 44, 183, 0, 127, 182, 0, 39, 172]
abbrev dktX1_takesCast_4 : List UInt8 := dkwX1_takesCast_4 ++ []
def dkwX1_takesCast_3 : List UInt8 := [4, 167, 0, 4, 3, 7, 6, 42, 180, 0, 29, 100, 184, 0, 101, 42, 89, 180, 0, 29, 6, 100]
abbrev dktX1_takesCast_3 : List UInt8 := dkwX1_takesCast_3 ++ dktX1_takesCast_4
def dkwX1_takesCast_2 : List UInt8 := [161, 0, 7, 4, 167, 0, 4, 3, 6, 44, 180, 0, 124, 184, 0, 101, 42, 180, 0, 29, 6, 162, 0, 7]
abbrev dktX1_takesCast_2 : List UInt8 := dkwX1_takesCast_2 ++ dktX1_takesCast_3
def dkwX1_takesCast_1 : List UInt8 := [153, 0, 7, 4, 167, 0, 4, 3, 5, 44, 180, 0, 121, 184, 0, 101, 44, 180, 0, 124, 16, 6]
abbrev dktX1_takesCast_1 : List UInt8 := dkwX1_takesCast_1 ++ dktX1_takesCast_2
def dkwX1_takesCast_0 : List UInt8 := [42, 180, 0, 14, 27, 182, 0, 114, 192, 0, 36, 77, 42, 180, 0, 20, 182, 0, 118, 44, 180, 0, 121]
abbrev dktX1_takesCast_0 : List UInt8 := dkwX1_takesCast_0 ++ dktX1_takesCast_1
theorem dksX1_takesCast_0 : cX1_takesCast.data.toList.drop 0 = dktX1_takesCast_0 := by decide +kernel
theorem dksX1_takesCast_1 : cX1_takesCast.data.toList.drop 23 = dktX1_takesCast_1 := dk_seg dksX1_takesCast_0 23 rfl rfl
theorem dksX1_takesCast_2 : cX1_takesCast.data.toList.drop 45 = dktX1_takesCast_2 := dk_seg dksX1_takesCast_1 22 rfl rfl
theorem dksX1_takesCast_3 : cX1_takesCast.data.toList.drop 69 = dktX1_takesCast_3 := dk_seg dksX1_takesCast_2 24 rfl rfl
theorem dksX1_takesCast_4 : cX1_takesCast.data.toList.drop 91 = dktX1_takesCast_4 := dk_seg dksX1_takesCast_3 22 rfl rfl
theorem dX1_takesCast_0 : decode cX1_takesCast 0 = .ok (.aload_n 0, 1) := dk_42 (dk_at dksX1_takesCast_0 0 rfl rfl)
theorem dX1_takesCast_1 : decode cX1_takesCast 1 = .ok (.getfield 14, 3) := dk_180 0 14 (dk_at dksX1_takesCast_0 1 rfl rfl)
theorem dX1_takesCast_4 : decode cX1_takesCast 4 = .ok (.iload_n 1, 1) := dk_27 (dk_at dksX1_takesCast_0 4 rfl rfl)
theorem dX1_takesCast_5 : decode cX1_takesCast 5 = .ok (.invokevirtual 114, 3) := dk_182 0 114 (dk_at dksX1_takesCast_0 5 rfl rfl)
theorem dX1_takesCast_8 : decode cX1_takesCast 8 = .ok (.checkcast 36, 3) := dk_192 0 36 (dk_at dksX1_takesCast_0 8 rfl rfl)
theorem dX1_takesCast_11 : decode cX1_takesCast 11 = .ok (.astore_n 2, 1) := dk_77 (dk_at dksX1_takesCast_0 11 rfl rfl)
theorem dX1_takesCast_12 : decode cX1_takesCast 12 = .ok (.aload_n 0, 1) := dk_42 (dk_at dksX1_takesCast_0 12 rfl rfl)
theorem dX1_takesCast_13 : decode cX1_takesCast 13 = .ok (.getfield 20, 3) := dk_180 0 20 (dk_at dksX1_takesCast_0 13 rfl rfl)
theorem dX1_takesCast_16 : decode cX1_takesCast 16 = .ok (.invokevirtual 118, 3) := dk_182 0 118 (dk_at dksX1_takesCast_0 16 rfl rfl)
theorem dX1_takesCast_19 : decode cX1_takesCast 19 = .ok (.aload_n 2, 1) := dk_44 (dk_at dksX1_takesCast_0 19 rfl rfl)
theorem dX1_takesCast_20 : decode cX1_takesCast 20 = .ok (.getfield 121, 3) := dk_180 0 121 (dk_at dksX1_takesCast_0 20 rfl rfl)
theorem dX1_takesCast_23 : decode cX1_takesCast 23 = .ok (.ifCond .eq 7, 3) := dk_153 0 7 (dk_at dksX1_takesCast_1 0 rfl rfl)
theorem dX1_takesCast_26 : decode cX1_takesCast 26 = .ok (.iconst 1, 1) := dk_4 (dk_at dksX1_takesCast_1 3 rfl rfl)
theorem dX1_takesCast_27 : decode cX1_takesCast 27 = .ok (.goto 4, 3) := dk_167 0 4 (dk_at dksX1_takesCast_1 4 rfl rfl)
theorem dX1_takesCast_30 : decode cX1_takesCast 30 = .ok (.iconst 0, 1) := dk_3 (dk_at dksX1_takesCast_1 7 rfl rfl)
theorem dX1_takesCast_31 : decode cX1_takesCast 31 = .ok (.iconst 2, 1) := dk_5 (dk_at dksX1_takesCast_1 8 rfl rfl)
theorem dX1_takesCast_32 : decode cX1_takesCast 32 = .ok (.aload_n 2, 1) := dk_44 (dk_at dksX1_takesCast_1 9 rfl rfl)
theorem dX1_takesCast_33 : decode cX1_takesCast 33 = .ok (.getfield 121, 3) := dk_180 0 121 (dk_at dksX1_takesCast_1 10 rfl rfl)
theorem dX1_takesCast_36 : decode cX1_takesCast 36 = .ok (.invokestatic 101, 3) := dk_184 0 101 (dk_at dksX1_takesCast_1 13 rfl rfl)
theorem dX1_takesCast_39 : decode cX1_takesCast 39 = .ok (.aload_n 2, 1) := dk_44 (dk_at dksX1_takesCast_1 16 rfl rfl)
theorem dX1_takesCast_40 : decode cX1_takesCast 40 = .ok (.getfield 124, 3) := dk_180 0 124 (dk_at dksX1_takesCast_1 17 rfl rfl)
theorem dX1_takesCast_43 : decode cX1_takesCast 43 = .ok (.bipush 6, 2) := dk_16 6 (dk_at dksX1_takesCast_1 20 rfl rfl)
theorem dX1_takesCast_45 : decode cX1_takesCast 45 = .ok (.if_icmp .lt 7, 3) := dk_161 0 7 (dk_at dksX1_takesCast_2 0 rfl rfl)
theorem dX1_takesCast_48 : decode cX1_takesCast 48 = .ok (.iconst 1, 1) := dk_4 (dk_at dksX1_takesCast_2 3 rfl rfl)
theorem dX1_takesCast_49 : decode cX1_takesCast 49 = .ok (.goto 4, 3) := dk_167 0 4 (dk_at dksX1_takesCast_2 4 rfl rfl)
theorem dX1_takesCast_52 : decode cX1_takesCast 52 = .ok (.iconst 0, 1) := dk_3 (dk_at dksX1_takesCast_2 7 rfl rfl)
theorem dX1_takesCast_53 : decode cX1_takesCast 53 = .ok (.iconst 3, 1) := dk_6 (dk_at dksX1_takesCast_2 8 rfl rfl)
theorem dX1_takesCast_54 : decode cX1_takesCast 54 = .ok (.aload_n 2, 1) := dk_44 (dk_at dksX1_takesCast_2 9 rfl rfl)
theorem dX1_takesCast_55 : decode cX1_takesCast 55 = .ok (.getfield 124, 3) := dk_180 0 124 (dk_at dksX1_takesCast_2 10 rfl rfl)
theorem dX1_takesCast_58 : decode cX1_takesCast 58 = .ok (.invokestatic 101, 3) := dk_184 0 101 (dk_at dksX1_takesCast_2 13 rfl rfl)
theorem dX1_takesCast_61 : decode cX1_takesCast 61 = .ok (.aload_n 0, 1) := dk_42 (dk_at dksX1_takesCast_2 16 rfl rfl)
theorem dX1_takesCast_62 : decode cX1_takesCast 62 = .ok (.getfield 29, 3) := dk_180 0 29 (dk_at dksX1_takesCast_2 17 rfl rfl)
theorem dX1_takesCast_65 : decode cX1_takesCast 65 = .ok (.iconst 3, 1) := dk_6 (dk_at dksX1_takesCast_2 20 rfl rfl)
theorem dX1_takesCast_66 : decode cX1_takesCast 66 = .ok (.if_icmp .ge 7, 3) := dk_162 0 7 (dk_at dksX1_takesCast_2 21 rfl rfl)
theorem dX1_takesCast_69 : decode cX1_takesCast 69 = .ok (.iconst 1, 1) := dk_4 (dk_at dksX1_takesCast_3 0 rfl rfl)
theorem dX1_takesCast_70 : decode cX1_takesCast 70 = .ok (.goto 4, 3) := dk_167 0 4 (dk_at dksX1_takesCast_3 1 rfl rfl)
theorem dX1_takesCast_73 : decode cX1_takesCast 73 = .ok (.iconst 0, 1) := dk_3 (dk_at dksX1_takesCast_3 4 rfl rfl)
theorem dX1_takesCast_74 : decode cX1_takesCast 74 = .ok (.iconst 4, 1) := dk_7 (dk_at dksX1_takesCast_3 5 rfl rfl)
theorem dX1_takesCast_75 : decode cX1_takesCast 75 = .ok (.iconst 3, 1) := dk_6 (dk_at dksX1_takesCast_3 6 rfl rfl)
theorem dX1_takesCast_76 : decode cX1_takesCast 76 = .ok (.aload_n 0, 1) := dk_42 (dk_at dksX1_takesCast_3 7 rfl rfl)
theorem dX1_takesCast_77 : decode cX1_takesCast 77 = .ok (.getfield 29, 3) := dk_180 0 29 (dk_at dksX1_takesCast_3 8 rfl rfl)
theorem dX1_takesCast_80 : decode cX1_takesCast 80 = .ok (.isub, 1) := dk_100 (dk_at dksX1_takesCast_3 11 rfl rfl)
theorem dX1_takesCast_81 : decode cX1_takesCast 81 = .ok (.invokestatic 101, 3) := dk_184 0 101 (dk_at dksX1_takesCast_3 12 rfl rfl)
theorem dX1_takesCast_84 : decode cX1_takesCast 84 = .ok (.aload_n 0, 1) := dk_42 (dk_at dksX1_takesCast_3 15 rfl rfl)
theorem dX1_takesCast_85 : decode cX1_takesCast 85 = .ok (.dup, 1) := dk_89 (dk_at dksX1_takesCast_3 16 rfl rfl)
theorem dX1_takesCast_86 : decode cX1_takesCast 86 = .ok (.getfield 29, 3) := dk_180 0 29 (dk_at dksX1_takesCast_3 17 rfl rfl)
theorem dX1_takesCast_89 : decode cX1_takesCast 89 = .ok (.iconst 3, 1) := dk_6 (dk_at dksX1_takesCast_3 20 rfl rfl)
theorem dX1_takesCast_90 : decode cX1_takesCast 90 = .ok (.isub, 1) := dk_100 (dk_at dksX1_takesCast_3 21 rfl rfl)
theorem dX1_takesCast_91 : decode cX1_takesCast 91 = .ok (.putfield 29, 3) := dk_181 0 29 (dk_at dksX1_takesCast_4 0 rfl rfl)
theorem dX1_takesCast_94 : decode cX1_takesCast 94 = .ok (.aload_n 0, 1) := dk_42 (dk_at dksX1_takesCast_4 3 rfl rfl)
theorem dX1_takesCast_95 : decode cX1_takesCast 95 = .ok (.getfield 20, 3) := dk_180 0 20 (dk_at dksX1_takesCast_4 4 rfl rfl)
theorem dX1_takesCast_98 : decode cX1_takesCast 98 = .ok (.new 64, 3) := dk_187 0 64 (dk_at dksX1_takesCast_4 7 rfl rfl)
theorem dX1_takesCast_101 : decode cX1_takesCast 101 = .ok (.dup, 1) := dk_89 (dk_at dksX1_takesCast_4 10 rfl rfl)
theorem dX1_takesCast_102 : decode cX1_takesCast 102 = .ok (.iload_n 1, 1) := dk_27 (dk_at dksX1_takesCast_4 11 rfl rfl)
theorem dX1_takesCast_103 : decode cX1_takesCast 103 = .ok (.aload_n 2, 1) := dk_44 (dk_at dksX1_takesCast_4 12 rfl rfl)
theorem dX1_takesCast_104 : decode cX1_takesCast 104 = .ok (.invokespecial 127, 3) := dk_183 0 127 (dk_at dksX1_takesCast_4 13 rfl rfl)
theorem dX1_takesCast_107 : decode cX1_takesCast 107 = .ok (.invokevirtual 39, 3) := dk_182 0 39 (dk_at dksX1_takesCast_4 16 rfl rfl)
theorem dX1_takesCast_110 : decode cX1_takesCast 110 = .ok (.ireturn, 1) := dk_172 (dk_at dksX1_takesCast_4 19 rfl rfl)
abbrev cX1_comes : ByteArray := prog_3_method_9_code
def yX1_comes : MethodName := ⟨RX1, "comes", "(I)I"⟩
def dkwX1_comes_0 : List UInt8 := [42, 180, 0, 23, 182, 0, 118, 42, 180, 0, 23, 187, 0, 69, 89, 27, 183, 0, 133, 182, 0, 39, 172]
abbrev dktX1_comes_0 : List UInt8 := dkwX1_comes_0 ++ []
theorem dksX1_comes_0 : cX1_comes.data.toList.drop 0 = dktX1_comes_0 := by decide +kernel
theorem dX1_comes_0 : decode cX1_comes 0 = .ok (.aload_n 0, 1) := dk_42 (dk_at dksX1_comes_0 0 rfl rfl)
theorem dX1_comes_1 : decode cX1_comes 1 = .ok (.getfield 23, 3) := dk_180 0 23 (dk_at dksX1_comes_0 1 rfl rfl)
theorem dX1_comes_4 : decode cX1_comes 4 = .ok (.invokevirtual 118, 3) := dk_182 0 118 (dk_at dksX1_comes_0 4 rfl rfl)
theorem dX1_comes_7 : decode cX1_comes 7 = .ok (.aload_n 0, 1) := dk_42 (dk_at dksX1_comes_0 7 rfl rfl)
theorem dX1_comes_8 : decode cX1_comes 8 = .ok (.getfield 23, 3) := dk_180 0 23 (dk_at dksX1_comes_0 8 rfl rfl)
theorem dX1_comes_11 : decode cX1_comes 11 = .ok (.new 69, 3) := dk_187 0 69 (dk_at dksX1_comes_0 11 rfl rfl)
theorem dX1_comes_14 : decode cX1_comes 14 = .ok (.dup, 1) := dk_89 (dk_at dksX1_comes_0 14 rfl rfl)
theorem dX1_comes_15 : decode cX1_comes 15 = .ok (.iload_n 1, 1) := dk_27 (dk_at dksX1_comes_0 15 rfl rfl)
theorem dX1_comes_16 : decode cX1_comes 16 = .ok (.invokespecial 133, 3) := dk_183 0 133 (dk_at dksX1_comes_0 16 rfl rfl)
theorem dX1_comes_19 : decode cX1_comes 19 = .ok (.invokevirtual 39, 3) := dk_182 0 39 (dk_at dksX1_comes_0 19 rfl rfl)
theorem dX1_comes_22 : decode cX1_comes 22 = .ok (.ireturn, 1) := dk_172 (dk_at dksX1_comes_0 22 rfl rfl)
abbrev cX1_begins : ByteArray := prog_3_method_10_code
def yX1_begins : MethodName := ⟨RX1, "begins", "(I)I"⟩
def dkwX1_begins_3 : List UInt8 := [182, 0, 39, 172]
abbrev dktX1_begins_3 : List UInt8 := dkwX1_begins_3 ++ []
def dkwX1_begins_2 : List UInt8 := [181, 0, 137, 42, 180, 0, 26, 187, 0, 74, 89, 42, 180, 0, 26, 182, 0, 139, 27, 183, 0, 143]
abbrev dktX1_begins_2 : List UInt8 := dkwX1_begins_2 ++ dktX1_begins_3
def dkwX1_begins_1 : List UInt8 := [154, 0, 7, 4, 167, 0, 4, 3, 8, 44, 180, 0, 134, 184, 0, 101, 44, 89, 180, 0, 137, 4, 96]
abbrev dktX1_begins_1 : List UInt8 := dkwX1_begins_1 ++ dktX1_begins_2
def dkwX1_begins_0 : List UInt8 := [42, 180, 0, 20, 27, 182, 0, 114, 192, 0, 64, 77, 42, 180, 0, 26, 182, 0, 118, 44, 182, 0, 130]
abbrev dktX1_begins_0 : List UInt8 := dkwX1_begins_0 ++ dktX1_begins_1
theorem dksX1_begins_0 : cX1_begins.data.toList.drop 0 = dktX1_begins_0 := by decide +kernel
theorem dksX1_begins_1 : cX1_begins.data.toList.drop 23 = dktX1_begins_1 := dk_seg dksX1_begins_0 23 rfl rfl
theorem dksX1_begins_2 : cX1_begins.data.toList.drop 46 = dktX1_begins_2 := dk_seg dksX1_begins_1 23 rfl rfl
theorem dksX1_begins_3 : cX1_begins.data.toList.drop 68 = dktX1_begins_3 := dk_seg dksX1_begins_2 22 rfl rfl
theorem dX1_begins_0 : decode cX1_begins 0 = .ok (.aload_n 0, 1) := dk_42 (dk_at dksX1_begins_0 0 rfl rfl)
theorem dX1_begins_1 : decode cX1_begins 1 = .ok (.getfield 20, 3) := dk_180 0 20 (dk_at dksX1_begins_0 1 rfl rfl)
theorem dX1_begins_4 : decode cX1_begins 4 = .ok (.iload_n 1, 1) := dk_27 (dk_at dksX1_begins_0 4 rfl rfl)
theorem dX1_begins_5 : decode cX1_begins 5 = .ok (.invokevirtual 114, 3) := dk_182 0 114 (dk_at dksX1_begins_0 5 rfl rfl)
theorem dX1_begins_8 : decode cX1_begins 8 = .ok (.checkcast 64, 3) := dk_192 0 64 (dk_at dksX1_begins_0 8 rfl rfl)
theorem dX1_begins_11 : decode cX1_begins 11 = .ok (.astore_n 2, 1) := dk_77 (dk_at dksX1_begins_0 11 rfl rfl)
theorem dX1_begins_12 : decode cX1_begins 12 = .ok (.aload_n 0, 1) := dk_42 (dk_at dksX1_begins_0 12 rfl rfl)
theorem dX1_begins_13 : decode cX1_begins 13 = .ok (.getfield 26, 3) := dk_180 0 26 (dk_at dksX1_begins_0 13 rfl rfl)
theorem dX1_begins_16 : decode cX1_begins 16 = .ok (.invokevirtual 118, 3) := dk_182 0 118 (dk_at dksX1_begins_0 16 rfl rfl)
theorem dX1_begins_19 : decode cX1_begins 19 = .ok (.aload_n 2, 1) := dk_44 (dk_at dksX1_begins_0 19 rfl rfl)
theorem dX1_begins_20 : decode cX1_begins 20 = .ok (.invokevirtual 130, 3) := dk_182 0 130 (dk_at dksX1_begins_0 20 rfl rfl)
theorem dX1_begins_23 : decode cX1_begins 23 = .ok (.ifCond .ne 7, 3) := dk_154 0 7 (dk_at dksX1_begins_1 0 rfl rfl)
theorem dX1_begins_26 : decode cX1_begins 26 = .ok (.iconst 1, 1) := dk_4 (dk_at dksX1_begins_1 3 rfl rfl)
theorem dX1_begins_27 : decode cX1_begins 27 = .ok (.goto 4, 3) := dk_167 0 4 (dk_at dksX1_begins_1 4 rfl rfl)
theorem dX1_begins_30 : decode cX1_begins 30 = .ok (.iconst 0, 1) := dk_3 (dk_at dksX1_begins_1 7 rfl rfl)
theorem dX1_begins_31 : decode cX1_begins 31 = .ok (.iconst 5, 1) := dk_8 (dk_at dksX1_begins_1 8 rfl rfl)
theorem dX1_begins_32 : decode cX1_begins 32 = .ok (.aload_n 2, 1) := dk_44 (dk_at dksX1_begins_1 9 rfl rfl)
theorem dX1_begins_33 : decode cX1_begins 33 = .ok (.getfield 134, 3) := dk_180 0 134 (dk_at dksX1_begins_1 10 rfl rfl)
theorem dX1_begins_36 : decode cX1_begins 36 = .ok (.invokestatic 101, 3) := dk_184 0 101 (dk_at dksX1_begins_1 13 rfl rfl)
theorem dX1_begins_39 : decode cX1_begins 39 = .ok (.aload_n 2, 1) := dk_44 (dk_at dksX1_begins_1 16 rfl rfl)
theorem dX1_begins_40 : decode cX1_begins 40 = .ok (.dup, 1) := dk_89 (dk_at dksX1_begins_1 17 rfl rfl)
theorem dX1_begins_41 : decode cX1_begins 41 = .ok (.getfield 137, 3) := dk_180 0 137 (dk_at dksX1_begins_1 18 rfl rfl)
theorem dX1_begins_44 : decode cX1_begins 44 = .ok (.iconst 1, 1) := dk_4 (dk_at dksX1_begins_1 21 rfl rfl)
theorem dX1_begins_45 : decode cX1_begins 45 = .ok (.iadd, 1) := dk_96 (dk_at dksX1_begins_1 22 rfl rfl)
theorem dX1_begins_46 : decode cX1_begins 46 = .ok (.putfield 137, 3) := dk_181 0 137 (dk_at dksX1_begins_2 0 rfl rfl)
theorem dX1_begins_49 : decode cX1_begins 49 = .ok (.aload_n 0, 1) := dk_42 (dk_at dksX1_begins_2 3 rfl rfl)
theorem dX1_begins_50 : decode cX1_begins 50 = .ok (.getfield 26, 3) := dk_180 0 26 (dk_at dksX1_begins_2 4 rfl rfl)
theorem dX1_begins_53 : decode cX1_begins 53 = .ok (.new 74, 3) := dk_187 0 74 (dk_at dksX1_begins_2 7 rfl rfl)
theorem dX1_begins_56 : decode cX1_begins 56 = .ok (.dup, 1) := dk_89 (dk_at dksX1_begins_2 10 rfl rfl)
theorem dX1_begins_57 : decode cX1_begins 57 = .ok (.aload_n 0, 1) := dk_42 (dk_at dksX1_begins_2 11 rfl rfl)
theorem dX1_begins_58 : decode cX1_begins 58 = .ok (.getfield 26, 3) := dk_180 0 26 (dk_at dksX1_begins_2 12 rfl rfl)
theorem dX1_begins_61 : decode cX1_begins 61 = .ok (.invokevirtual 139, 3) := dk_182 0 139 (dk_at dksX1_begins_2 15 rfl rfl)
theorem dX1_begins_64 : decode cX1_begins 64 = .ok (.iload_n 1, 1) := dk_27 (dk_at dksX1_begins_2 18 rfl rfl)
theorem dX1_begins_65 : decode cX1_begins 65 = .ok (.invokespecial 143, 3) := dk_183 0 143 (dk_at dksX1_begins_2 19 rfl rfl)
theorem dX1_begins_68 : decode cX1_begins 68 = .ok (.invokevirtual 39, 3) := dk_182 0 39 (dk_at dksX1_begins_3 0 rfl rfl)
theorem dX1_begins_71 : decode cX1_begins 71 = .ok (.ireturn, 1) := dk_172 (dk_at dksX1_begins_3 3 rfl rfl)
abbrev cX1_cuts : ByteArray := prog_3_method_11_code
def yX1_cuts : MethodName := ⟨RX1, "cuts", "(III[LGargoyleCopyists$Cut;)I"⟩
def dkwX1_cuts_8 : List UInt8 := [182, 0, 182, 21, 8, 172]
abbrev dktX1_cuts_8 : List UInt8 := dkwX1_cuts_8 ++ []
def dkwX1_cuts_7 : List UInt8 := [3, 16, 8, 25, 5, 182, 0, 175, 184, 0, 101, 25, 6, 180, 0, 178, 29, 21, 8, 79, 25, 5, 21, 8]
abbrev dktX1_cuts_7 : List UInt8 := dkwX1_cuts_7 ++ dktX1_cuts_8
def dkwX1_cuts_6 : List UInt8 := [182, 0, 168, 54, 8, 25, 5, 21, 8, 182, 0, 172, 25, 5, 182, 0, 175, 164, 0, 7, 4, 167, 0, 4]
abbrev dktX1_cuts_6 : List UInt8 := dkwX1_cuts_6 ++ dktX1_cuts_7
def dkwX1_cuts_5 : List UInt8 := [16, 20, 160, 0, 7, 4, 167, 0, 4, 3, 16, 6, 27, 184, 0, 101, 25, 5, 21, 7, 25, 4]
abbrev dktX1_cuts_5 : List UInt8 := dkwX1_cuts_5 ++ dktX1_cuts_6
def dkwX1_cuts_4 : List UInt8 := [161, 0, 7, 4, 167, 0, 4, 3, 16, 7, 25, 6, 29, 182, 0, 164, 184, 0, 101, 25, 5, 180, 0, 165]
abbrev dktX1_cuts_4 : List UInt8 := dkwX1_cuts_4 ++ dktX1_cuts_5
def dkwX1_cuts_3 : List UInt8 := [180, 0, 157, 184, 0, 101, 25, 6, 29, 182, 0, 160, 153, 0, 18, 25, 6, 29, 182, 0, 164, 21, 7]
abbrev dktX1_cuts_3 : List UInt8 := dkwX1_cuts_3 ++ dktX1_cuts_4
def dkwX1_cuts_2 : List UInt8 := [25, 6, 180, 0, 153, 16, 9, 42, 180, 0, 20, 25, 6, 180, 0, 146, 182, 0, 114, 192, 0, 64]
abbrev dktX1_cuts_2 : List UInt8 := dkwX1_cuts_2 ++ dktX1_cuts_3
def dkwX1_cuts_1 : List UInt8 := [58, 6, 42, 180, 0, 20, 25, 6, 180, 0, 146, 182, 0, 114, 192, 0, 64, 29, 182, 0, 149, 54, 7]
abbrev dktX1_cuts_1 : List UInt8 := dkwX1_cuts_1 ++ dktX1_cuts_2
def dkwX1_cuts_0 : List UInt8 := [42, 180, 0, 23, 27, 182, 0, 114, 192, 0, 69, 58, 5, 42, 180, 0, 26, 28, 182, 0, 114, 192, 0, 74]
abbrev dktX1_cuts_0 : List UInt8 := dkwX1_cuts_0 ++ dktX1_cuts_1
theorem dksX1_cuts_0 : cX1_cuts.data.toList.drop 0 = dktX1_cuts_0 := by decide +kernel
theorem dksX1_cuts_1 : cX1_cuts.data.toList.drop 24 = dktX1_cuts_1 := dk_seg dksX1_cuts_0 24 rfl rfl
theorem dksX1_cuts_2 : cX1_cuts.data.toList.drop 47 = dktX1_cuts_2 := dk_seg dksX1_cuts_1 23 rfl rfl
theorem dksX1_cuts_3 : cX1_cuts.data.toList.drop 69 = dktX1_cuts_3 := dk_seg dksX1_cuts_2 22 rfl rfl
theorem dksX1_cuts_4 : cX1_cuts.data.toList.drop 92 = dktX1_cuts_4 := dk_seg dksX1_cuts_3 23 rfl rfl
theorem dksX1_cuts_5 : cX1_cuts.data.toList.drop 116 = dktX1_cuts_5 := dk_seg dksX1_cuts_4 24 rfl rfl
theorem dksX1_cuts_6 : cX1_cuts.data.toList.drop 138 = dktX1_cuts_6 := dk_seg dksX1_cuts_5 22 rfl rfl
theorem dksX1_cuts_7 : cX1_cuts.data.toList.drop 162 = dktX1_cuts_7 := dk_seg dksX1_cuts_6 24 rfl rfl
theorem dksX1_cuts_8 : cX1_cuts.data.toList.drop 186 = dktX1_cuts_8 := dk_seg dksX1_cuts_7 24 rfl rfl
theorem dX1_cuts_0 : decode cX1_cuts 0 = .ok (.aload_n 0, 1) := dk_42 (dk_at dksX1_cuts_0 0 rfl rfl)
theorem dX1_cuts_1 : decode cX1_cuts 1 = .ok (.getfield 23, 3) := dk_180 0 23 (dk_at dksX1_cuts_0 1 rfl rfl)
theorem dX1_cuts_4 : decode cX1_cuts 4 = .ok (.iload_n 1, 1) := dk_27 (dk_at dksX1_cuts_0 4 rfl rfl)
theorem dX1_cuts_5 : decode cX1_cuts 5 = .ok (.invokevirtual 114, 3) := dk_182 0 114 (dk_at dksX1_cuts_0 5 rfl rfl)
theorem dX1_cuts_8 : decode cX1_cuts 8 = .ok (.checkcast 69, 3) := dk_192 0 69 (dk_at dksX1_cuts_0 8 rfl rfl)
theorem dX1_cuts_11 : decode cX1_cuts 11 = .ok (.astore 5, 2) := dk_58 5 (dk_at dksX1_cuts_0 11 rfl rfl)
theorem dX1_cuts_13 : decode cX1_cuts 13 = .ok (.aload_n 0, 1) := dk_42 (dk_at dksX1_cuts_0 13 rfl rfl)
theorem dX1_cuts_14 : decode cX1_cuts 14 = .ok (.getfield 26, 3) := dk_180 0 26 (dk_at dksX1_cuts_0 14 rfl rfl)
theorem dX1_cuts_17 : decode cX1_cuts 17 = .ok (.iload_n 2, 1) := dk_28 (dk_at dksX1_cuts_0 17 rfl rfl)
theorem dX1_cuts_18 : decode cX1_cuts 18 = .ok (.invokevirtual 114, 3) := dk_182 0 114 (dk_at dksX1_cuts_0 18 rfl rfl)
theorem dX1_cuts_21 : decode cX1_cuts 21 = .ok (.checkcast 74, 3) := dk_192 0 74 (dk_at dksX1_cuts_0 21 rfl rfl)
theorem dX1_cuts_24 : decode cX1_cuts 24 = .ok (.astore 6, 2) := dk_58 6 (dk_at dksX1_cuts_1 0 rfl rfl)
theorem dX1_cuts_26 : decode cX1_cuts 26 = .ok (.aload_n 0, 1) := dk_42 (dk_at dksX1_cuts_1 2 rfl rfl)
theorem dX1_cuts_27 : decode cX1_cuts 27 = .ok (.getfield 20, 3) := dk_180 0 20 (dk_at dksX1_cuts_1 3 rfl rfl)
theorem dX1_cuts_30 : decode cX1_cuts 30 = .ok (.aload 6, 2) := dk_25 6 (dk_at dksX1_cuts_1 6 rfl rfl)
theorem dX1_cuts_32 : decode cX1_cuts 32 = .ok (.getfield 146, 3) := dk_180 0 146 (dk_at dksX1_cuts_1 8 rfl rfl)
theorem dX1_cuts_35 : decode cX1_cuts 35 = .ok (.invokevirtual 114, 3) := dk_182 0 114 (dk_at dksX1_cuts_1 11 rfl rfl)
theorem dX1_cuts_38 : decode cX1_cuts 38 = .ok (.checkcast 64, 3) := dk_192 0 64 (dk_at dksX1_cuts_1 14 rfl rfl)
theorem dX1_cuts_41 : decode cX1_cuts 41 = .ok (.iload_n 3, 1) := dk_29 (dk_at dksX1_cuts_1 17 rfl rfl)
theorem dX1_cuts_42 : decode cX1_cuts 42 = .ok (.invokevirtual 149, 3) := dk_182 0 149 (dk_at dksX1_cuts_1 18 rfl rfl)
theorem dX1_cuts_45 : decode cX1_cuts 45 = .ok (.istore 7, 2) := dk_54 7 (dk_at dksX1_cuts_1 21 rfl rfl)
theorem dX1_cuts_47 : decode cX1_cuts 47 = .ok (.aload 6, 2) := dk_25 6 (dk_at dksX1_cuts_2 0 rfl rfl)
theorem dX1_cuts_49 : decode cX1_cuts 49 = .ok (.getfield 153, 3) := dk_180 0 153 (dk_at dksX1_cuts_2 2 rfl rfl)
theorem dX1_cuts_52 : decode cX1_cuts 52 = .ok (.bipush 9, 2) := dk_16 9 (dk_at dksX1_cuts_2 5 rfl rfl)
theorem dX1_cuts_54 : decode cX1_cuts 54 = .ok (.aload_n 0, 1) := dk_42 (dk_at dksX1_cuts_2 7 rfl rfl)
theorem dX1_cuts_55 : decode cX1_cuts 55 = .ok (.getfield 20, 3) := dk_180 0 20 (dk_at dksX1_cuts_2 8 rfl rfl)
theorem dX1_cuts_58 : decode cX1_cuts 58 = .ok (.aload 6, 2) := dk_25 6 (dk_at dksX1_cuts_2 11 rfl rfl)
theorem dX1_cuts_60 : decode cX1_cuts 60 = .ok (.getfield 146, 3) := dk_180 0 146 (dk_at dksX1_cuts_2 13 rfl rfl)
theorem dX1_cuts_63 : decode cX1_cuts 63 = .ok (.invokevirtual 114, 3) := dk_182 0 114 (dk_at dksX1_cuts_2 16 rfl rfl)
theorem dX1_cuts_66 : decode cX1_cuts 66 = .ok (.checkcast 64, 3) := dk_192 0 64 (dk_at dksX1_cuts_2 19 rfl rfl)
theorem dX1_cuts_69 : decode cX1_cuts 69 = .ok (.getfield 157, 3) := dk_180 0 157 (dk_at dksX1_cuts_3 0 rfl rfl)
theorem dX1_cuts_72 : decode cX1_cuts 72 = .ok (.invokestatic 101, 3) := dk_184 0 101 (dk_at dksX1_cuts_3 3 rfl rfl)
theorem dX1_cuts_75 : decode cX1_cuts 75 = .ok (.aload 6, 2) := dk_25 6 (dk_at dksX1_cuts_3 6 rfl rfl)
theorem dX1_cuts_77 : decode cX1_cuts 77 = .ok (.iload_n 3, 1) := dk_29 (dk_at dksX1_cuts_3 8 rfl rfl)
theorem dX1_cuts_78 : decode cX1_cuts 78 = .ok (.invokevirtual 160, 3) := dk_182 0 160 (dk_at dksX1_cuts_3 9 rfl rfl)
theorem dX1_cuts_81 : decode cX1_cuts 81 = .ok (.ifCond .eq 18, 3) := dk_153 0 18 (dk_at dksX1_cuts_3 12 rfl rfl)
theorem dX1_cuts_84 : decode cX1_cuts 84 = .ok (.aload 6, 2) := dk_25 6 (dk_at dksX1_cuts_3 15 rfl rfl)
theorem dX1_cuts_86 : decode cX1_cuts 86 = .ok (.iload_n 3, 1) := dk_29 (dk_at dksX1_cuts_3 17 rfl rfl)
theorem dX1_cuts_87 : decode cX1_cuts 87 = .ok (.invokevirtual 164, 3) := dk_182 0 164 (dk_at dksX1_cuts_3 18 rfl rfl)
theorem dX1_cuts_90 : decode cX1_cuts 90 = .ok (.iload 7, 2) := dk_21 7 (dk_at dksX1_cuts_3 21 rfl rfl)
theorem dX1_cuts_92 : decode cX1_cuts 92 = .ok (.if_icmp .lt 7, 3) := dk_161 0 7 (dk_at dksX1_cuts_4 0 rfl rfl)
theorem dX1_cuts_95 : decode cX1_cuts 95 = .ok (.iconst 1, 1) := dk_4 (dk_at dksX1_cuts_4 3 rfl rfl)
theorem dX1_cuts_96 : decode cX1_cuts 96 = .ok (.goto 4, 3) := dk_167 0 4 (dk_at dksX1_cuts_4 4 rfl rfl)
theorem dX1_cuts_99 : decode cX1_cuts 99 = .ok (.iconst 0, 1) := dk_3 (dk_at dksX1_cuts_4 7 rfl rfl)
theorem dX1_cuts_100 : decode cX1_cuts 100 = .ok (.bipush 7, 2) := dk_16 7 (dk_at dksX1_cuts_4 8 rfl rfl)
theorem dX1_cuts_102 : decode cX1_cuts 102 = .ok (.aload 6, 2) := dk_25 6 (dk_at dksX1_cuts_4 10 rfl rfl)
theorem dX1_cuts_104 : decode cX1_cuts 104 = .ok (.iload_n 3, 1) := dk_29 (dk_at dksX1_cuts_4 12 rfl rfl)
theorem dX1_cuts_105 : decode cX1_cuts 105 = .ok (.invokevirtual 164, 3) := dk_182 0 164 (dk_at dksX1_cuts_4 13 rfl rfl)
theorem dX1_cuts_108 : decode cX1_cuts 108 = .ok (.invokestatic 101, 3) := dk_184 0 101 (dk_at dksX1_cuts_4 16 rfl rfl)
theorem dX1_cuts_111 : decode cX1_cuts 111 = .ok (.aload 5, 2) := dk_25 5 (dk_at dksX1_cuts_4 19 rfl rfl)
theorem dX1_cuts_113 : decode cX1_cuts 113 = .ok (.getfield 165, 3) := dk_180 0 165 (dk_at dksX1_cuts_4 21 rfl rfl)
theorem dX1_cuts_116 : decode cX1_cuts 116 = .ok (.bipush 20, 2) := dk_16 20 (dk_at dksX1_cuts_5 0 rfl rfl)
theorem dX1_cuts_118 : decode cX1_cuts 118 = .ok (.if_icmp .ne 7, 3) := dk_160 0 7 (dk_at dksX1_cuts_5 2 rfl rfl)
theorem dX1_cuts_121 : decode cX1_cuts 121 = .ok (.iconst 1, 1) := dk_4 (dk_at dksX1_cuts_5 5 rfl rfl)
theorem dX1_cuts_122 : decode cX1_cuts 122 = .ok (.goto 4, 3) := dk_167 0 4 (dk_at dksX1_cuts_5 6 rfl rfl)
theorem dX1_cuts_125 : decode cX1_cuts 125 = .ok (.iconst 0, 1) := dk_3 (dk_at dksX1_cuts_5 9 rfl rfl)
theorem dX1_cuts_126 : decode cX1_cuts 126 = .ok (.bipush 6, 2) := dk_16 6 (dk_at dksX1_cuts_5 10 rfl rfl)
theorem dX1_cuts_128 : decode cX1_cuts 128 = .ok (.iload_n 1, 1) := dk_27 (dk_at dksX1_cuts_5 12 rfl rfl)
theorem dX1_cuts_129 : decode cX1_cuts 129 = .ok (.invokestatic 101, 3) := dk_184 0 101 (dk_at dksX1_cuts_5 13 rfl rfl)
theorem dX1_cuts_132 : decode cX1_cuts 132 = .ok (.aload 5, 2) := dk_25 5 (dk_at dksX1_cuts_5 16 rfl rfl)
theorem dX1_cuts_134 : decode cX1_cuts 134 = .ok (.iload 7, 2) := dk_21 7 (dk_at dksX1_cuts_5 18 rfl rfl)
theorem dX1_cuts_136 : decode cX1_cuts 136 = .ok (.aload 4, 2) := dk_25 4 (dk_at dksX1_cuts_5 20 rfl rfl)
theorem dX1_cuts_138 : decode cX1_cuts 138 = .ok (.invokevirtual 168, 3) := dk_182 0 168 (dk_at dksX1_cuts_6 0 rfl rfl)
theorem dX1_cuts_141 : decode cX1_cuts 141 = .ok (.istore 8, 2) := dk_54 8 (dk_at dksX1_cuts_6 3 rfl rfl)
theorem dX1_cuts_143 : decode cX1_cuts 143 = .ok (.aload 5, 2) := dk_25 5 (dk_at dksX1_cuts_6 5 rfl rfl)
theorem dX1_cuts_145 : decode cX1_cuts 145 = .ok (.iload 8, 2) := dk_21 8 (dk_at dksX1_cuts_6 7 rfl rfl)
theorem dX1_cuts_147 : decode cX1_cuts 147 = .ok (.invokevirtual 172, 3) := dk_182 0 172 (dk_at dksX1_cuts_6 9 rfl rfl)
theorem dX1_cuts_150 : decode cX1_cuts 150 = .ok (.aload 5, 2) := dk_25 5 (dk_at dksX1_cuts_6 12 rfl rfl)
theorem dX1_cuts_152 : decode cX1_cuts 152 = .ok (.invokevirtual 175, 3) := dk_182 0 175 (dk_at dksX1_cuts_6 14 rfl rfl)
theorem dX1_cuts_155 : decode cX1_cuts 155 = .ok (.if_icmp .le 7, 3) := dk_164 0 7 (dk_at dksX1_cuts_6 17 rfl rfl)
theorem dX1_cuts_158 : decode cX1_cuts 158 = .ok (.iconst 1, 1) := dk_4 (dk_at dksX1_cuts_6 20 rfl rfl)
theorem dX1_cuts_159 : decode cX1_cuts 159 = .ok (.goto 4, 3) := dk_167 0 4 (dk_at dksX1_cuts_6 21 rfl rfl)
theorem dX1_cuts_162 : decode cX1_cuts 162 = .ok (.iconst 0, 1) := dk_3 (dk_at dksX1_cuts_7 0 rfl rfl)
theorem dX1_cuts_163 : decode cX1_cuts 163 = .ok (.bipush 8, 2) := dk_16 8 (dk_at dksX1_cuts_7 1 rfl rfl)
theorem dX1_cuts_165 : decode cX1_cuts 165 = .ok (.aload 5, 2) := dk_25 5 (dk_at dksX1_cuts_7 3 rfl rfl)
theorem dX1_cuts_167 : decode cX1_cuts 167 = .ok (.invokevirtual 175, 3) := dk_182 0 175 (dk_at dksX1_cuts_7 5 rfl rfl)
theorem dX1_cuts_170 : decode cX1_cuts 170 = .ok (.invokestatic 101, 3) := dk_184 0 101 (dk_at dksX1_cuts_7 8 rfl rfl)
theorem dX1_cuts_173 : decode cX1_cuts 173 = .ok (.aload 6, 2) := dk_25 6 (dk_at dksX1_cuts_7 11 rfl rfl)
theorem dX1_cuts_175 : decode cX1_cuts 175 = .ok (.getfield 178, 3) := dk_180 0 178 (dk_at dksX1_cuts_7 13 rfl rfl)
theorem dX1_cuts_178 : decode cX1_cuts 178 = .ok (.iload_n 3, 1) := dk_29 (dk_at dksX1_cuts_7 16 rfl rfl)
theorem dX1_cuts_179 : decode cX1_cuts 179 = .ok (.iload 8, 2) := dk_21 8 (dk_at dksX1_cuts_7 17 rfl rfl)
theorem dX1_cuts_181 : decode cX1_cuts 181 = .ok (.iastore, 1) := dk_79 (dk_at dksX1_cuts_7 19 rfl rfl)
theorem dX1_cuts_182 : decode cX1_cuts 182 = .ok (.aload 5, 2) := dk_25 5 (dk_at dksX1_cuts_7 20 rfl rfl)
theorem dX1_cuts_184 : decode cX1_cuts 184 = .ok (.iload 8, 2) := dk_21 8 (dk_at dksX1_cuts_7 22 rfl rfl)
theorem dX1_cuts_186 : decode cX1_cuts 186 = .ok (.invokevirtual 182, 3) := dk_182 0 182 (dk_at dksX1_cuts_8 0 rfl rfl)
theorem dX1_cuts_189 : decode cX1_cuts 189 = .ok (.iload 8, 2) := dk_21 8 (dk_at dksX1_cuts_8 3 rfl rfl)
theorem dX1_cuts_191 : decode cX1_cuts 191 = .ok (.ireturn, 1) := dk_172 (dk_at dksX1_cuts_8 5 rfl rfl)
abbrev cX1_bestCopyist : ByteArray := prog_3_method_13_code
def yX1_bestCopyist : MethodName := ⟨RX1, "bestCopyist", "(I[LGargoyleCopyists$Cut;)I"⟩
def dkwX1_bestCopyist_2 : List UInt8 := [27, 44, 182, 0, 188, 153, 0, 8, 21, 4, 167, 0, 4, 29, 62, 132, 4, 1, 167, 255, 196, 29, 172]
abbrev dktX1_bestCopyist_2 : List UInt8 := dkwX1_bestCopyist_2 ++ []
def dkwX1_bestCopyist_1 : List UInt8 := [42, 42, 180, 0, 23, 21, 4, 182, 0, 114, 192, 0, 69, 42, 180, 0, 23, 29, 182, 0, 114, 192, 0, 69]
abbrev dktX1_bestCopyist_1 : List UInt8 := dkwX1_bestCopyist_1 ++ dktX1_bestCopyist_2
def dkwX1_bestCopyist_0 : List UInt8 := [16, 241, 62, 3, 54, 4, 21, 4, 42, 180, 0, 23, 182, 0, 139, 162, 0, 54, 29, 16, 241, 159, 0, 35]
abbrev dktX1_bestCopyist_0 : List UInt8 := dkwX1_bestCopyist_0 ++ dktX1_bestCopyist_1
theorem dksX1_bestCopyist_0 : cX1_bestCopyist.data.toList.drop 0 = dktX1_bestCopyist_0 := by decide +kernel
theorem dksX1_bestCopyist_1 : cX1_bestCopyist.data.toList.drop 24 = dktX1_bestCopyist_1 := dk_seg dksX1_bestCopyist_0 24 rfl rfl
theorem dksX1_bestCopyist_2 : cX1_bestCopyist.data.toList.drop 48 = dktX1_bestCopyist_2 := dk_seg dksX1_bestCopyist_1 24 rfl rfl
theorem dX1_bestCopyist_0 : decode cX1_bestCopyist 0 = .ok (.bipush (-15), 2) := dk_16 241 (dk_at dksX1_bestCopyist_0 0 rfl rfl)
theorem dX1_bestCopyist_2 : decode cX1_bestCopyist 2 = .ok (.istore_n 3, 1) := dk_62 (dk_at dksX1_bestCopyist_0 2 rfl rfl)
theorem dX1_bestCopyist_3 : decode cX1_bestCopyist 3 = .ok (.iconst 0, 1) := dk_3 (dk_at dksX1_bestCopyist_0 3 rfl rfl)
theorem dX1_bestCopyist_4 : decode cX1_bestCopyist 4 = .ok (.istore 4, 2) := dk_54 4 (dk_at dksX1_bestCopyist_0 4 rfl rfl)
theorem dX1_bestCopyist_6 : decode cX1_bestCopyist 6 = .ok (.iload 4, 2) := dk_21 4 (dk_at dksX1_bestCopyist_0 6 rfl rfl)
theorem dX1_bestCopyist_8 : decode cX1_bestCopyist 8 = .ok (.aload_n 0, 1) := dk_42 (dk_at dksX1_bestCopyist_0 8 rfl rfl)
theorem dX1_bestCopyist_9 : decode cX1_bestCopyist 9 = .ok (.getfield 23, 3) := dk_180 0 23 (dk_at dksX1_bestCopyist_0 9 rfl rfl)
theorem dX1_bestCopyist_12 : decode cX1_bestCopyist 12 = .ok (.invokevirtual 139, 3) := dk_182 0 139 (dk_at dksX1_bestCopyist_0 12 rfl rfl)
theorem dX1_bestCopyist_15 : decode cX1_bestCopyist 15 = .ok (.if_icmp .ge 54, 3) := dk_162 0 54 (dk_at dksX1_bestCopyist_0 15 rfl rfl)
theorem dX1_bestCopyist_18 : decode cX1_bestCopyist 18 = .ok (.iload_n 3, 1) := dk_29 (dk_at dksX1_bestCopyist_0 18 rfl rfl)
theorem dX1_bestCopyist_19 : decode cX1_bestCopyist 19 = .ok (.bipush (-15), 2) := dk_16 241 (dk_at dksX1_bestCopyist_0 19 rfl rfl)
theorem dX1_bestCopyist_21 : decode cX1_bestCopyist 21 = .ok (.if_icmp .eq 35, 3) := dk_159 0 35 (dk_at dksX1_bestCopyist_0 21 rfl rfl)
theorem dX1_bestCopyist_24 : decode cX1_bestCopyist 24 = .ok (.aload_n 0, 1) := dk_42 (dk_at dksX1_bestCopyist_1 0 rfl rfl)
theorem dX1_bestCopyist_25 : decode cX1_bestCopyist 25 = .ok (.aload_n 0, 1) := dk_42 (dk_at dksX1_bestCopyist_1 1 rfl rfl)
theorem dX1_bestCopyist_26 : decode cX1_bestCopyist 26 = .ok (.getfield 23, 3) := dk_180 0 23 (dk_at dksX1_bestCopyist_1 2 rfl rfl)
theorem dX1_bestCopyist_29 : decode cX1_bestCopyist 29 = .ok (.iload 4, 2) := dk_21 4 (dk_at dksX1_bestCopyist_1 5 rfl rfl)
theorem dX1_bestCopyist_31 : decode cX1_bestCopyist 31 = .ok (.invokevirtual 114, 3) := dk_182 0 114 (dk_at dksX1_bestCopyist_1 7 rfl rfl)
theorem dX1_bestCopyist_34 : decode cX1_bestCopyist 34 = .ok (.checkcast 69, 3) := dk_192 0 69 (dk_at dksX1_bestCopyist_1 10 rfl rfl)
theorem dX1_bestCopyist_37 : decode cX1_bestCopyist 37 = .ok (.aload_n 0, 1) := dk_42 (dk_at dksX1_bestCopyist_1 13 rfl rfl)
theorem dX1_bestCopyist_38 : decode cX1_bestCopyist 38 = .ok (.getfield 23, 3) := dk_180 0 23 (dk_at dksX1_bestCopyist_1 14 rfl rfl)
theorem dX1_bestCopyist_41 : decode cX1_bestCopyist 41 = .ok (.iload_n 3, 1) := dk_29 (dk_at dksX1_bestCopyist_1 17 rfl rfl)
theorem dX1_bestCopyist_42 : decode cX1_bestCopyist 42 = .ok (.invokevirtual 114, 3) := dk_182 0 114 (dk_at dksX1_bestCopyist_1 18 rfl rfl)
theorem dX1_bestCopyist_45 : decode cX1_bestCopyist 45 = .ok (.checkcast 69, 3) := dk_192 0 69 (dk_at dksX1_bestCopyist_1 21 rfl rfl)
theorem dX1_bestCopyist_48 : decode cX1_bestCopyist 48 = .ok (.iload_n 1, 1) := dk_27 (dk_at dksX1_bestCopyist_2 0 rfl rfl)
theorem dX1_bestCopyist_49 : decode cX1_bestCopyist 49 = .ok (.aload_n 2, 1) := dk_44 (dk_at dksX1_bestCopyist_2 1 rfl rfl)
theorem dX1_bestCopyist_50 : decode cX1_bestCopyist 50 = .ok (.invokevirtual 188, 3) := dk_182 0 188 (dk_at dksX1_bestCopyist_2 2 rfl rfl)
theorem dX1_bestCopyist_53 : decode cX1_bestCopyist 53 = .ok (.ifCond .eq 8, 3) := dk_153 0 8 (dk_at dksX1_bestCopyist_2 5 rfl rfl)
theorem dX1_bestCopyist_56 : decode cX1_bestCopyist 56 = .ok (.iload 4, 2) := dk_21 4 (dk_at dksX1_bestCopyist_2 8 rfl rfl)
theorem dX1_bestCopyist_58 : decode cX1_bestCopyist 58 = .ok (.goto 4, 3) := dk_167 0 4 (dk_at dksX1_bestCopyist_2 10 rfl rfl)
theorem dX1_bestCopyist_61 : decode cX1_bestCopyist 61 = .ok (.iload_n 3, 1) := dk_29 (dk_at dksX1_bestCopyist_2 13 rfl rfl)
theorem dX1_bestCopyist_62 : decode cX1_bestCopyist 62 = .ok (.istore_n 3, 1) := dk_62 (dk_at dksX1_bestCopyist_2 14 rfl rfl)
theorem dX1_bestCopyist_63 : decode cX1_bestCopyist 63 = .ok (.iinc 4 1, 3) := dk_132 4 1 (dk_at dksX1_bestCopyist_2 15 rfl rfl)
theorem dX1_bestCopyist_66 : decode cX1_bestCopyist 66 = .ok (.goto (-60), 3) := dk_167 255 196 (dk_at dksX1_bestCopyist_2 18 rfl rfl)
theorem dX1_bestCopyist_69 : decode cX1_bestCopyist 69 = .ok (.iload_n 3, 1) := dk_29 (dk_at dksX1_bestCopyist_2 21 rfl rfl)
theorem dX1_bestCopyist_70 : decode cX1_bestCopyist 70 = .ok (.ireturn, 1) := dk_172 (dk_at dksX1_bestCopyist_2 22 rfl rfl)
abbrev cX1_isBetter : ByteArray := prog_3_method_12_code
def yX1_isBetter : MethodName := ⟨RX1, "isBetter", "(LGargoyleCopyists$Copyist;LGargoyleCopyists$Copyist;I[LGargoyleCopyists$Cut;)Z"⟩
def dkwX1_isBetter_2 : List UInt8 := [182, 0, 175, 44, 182, 0, 175, 164, 0, 7, 4, 167, 0, 4, 3, 172]
abbrev dktX1_isBetter_2 : List UInt8 := dkwX1_isBetter_2 ++ []
def dkwX1_isBetter_1 : List UInt8 := [100, 54, 5, 21, 5, 153, 0, 16, 21, 5, 156, 0, 7, 4, 167, 0, 23, 3, 167, 0, 19, 43]
abbrev dktX1_isBetter_1 : List UInt8 := dkwX1_isBetter_1 ++ dktX1_isBetter_2
def dkwX1_isBetter_0 : List UInt8 := [43, 29, 25, 4, 182, 0, 168, 29, 100, 184, 0, 185, 44, 29, 25, 4, 182, 0, 168, 29, 100, 184, 0, 185]
abbrev dktX1_isBetter_0 : List UInt8 := dkwX1_isBetter_0 ++ dktX1_isBetter_1
theorem dksX1_isBetter_0 : cX1_isBetter.data.toList.drop 0 = dktX1_isBetter_0 := by decide +kernel
theorem dksX1_isBetter_1 : cX1_isBetter.data.toList.drop 24 = dktX1_isBetter_1 := dk_seg dksX1_isBetter_0 24 rfl rfl
theorem dksX1_isBetter_2 : cX1_isBetter.data.toList.drop 46 = dktX1_isBetter_2 := dk_seg dksX1_isBetter_1 22 rfl rfl
theorem dX1_isBetter_0 : decode cX1_isBetter 0 = .ok (.aload_n 1, 1) := dk_43 (dk_at dksX1_isBetter_0 0 rfl rfl)
theorem dX1_isBetter_1 : decode cX1_isBetter 1 = .ok (.iload_n 3, 1) := dk_29 (dk_at dksX1_isBetter_0 1 rfl rfl)
theorem dX1_isBetter_2 : decode cX1_isBetter 2 = .ok (.aload 4, 2) := dk_25 4 (dk_at dksX1_isBetter_0 2 rfl rfl)
theorem dX1_isBetter_4 : decode cX1_isBetter 4 = .ok (.invokevirtual 168, 3) := dk_182 0 168 (dk_at dksX1_isBetter_0 4 rfl rfl)
theorem dX1_isBetter_7 : decode cX1_isBetter 7 = .ok (.iload_n 3, 1) := dk_29 (dk_at dksX1_isBetter_0 7 rfl rfl)
theorem dX1_isBetter_8 : decode cX1_isBetter 8 = .ok (.isub, 1) := dk_100 (dk_at dksX1_isBetter_0 8 rfl rfl)
theorem dX1_isBetter_9 : decode cX1_isBetter 9 = .ok (.invokestatic 185, 3) := dk_184 0 185 (dk_at dksX1_isBetter_0 9 rfl rfl)
theorem dX1_isBetter_12 : decode cX1_isBetter 12 = .ok (.aload_n 2, 1) := dk_44 (dk_at dksX1_isBetter_0 12 rfl rfl)
theorem dX1_isBetter_13 : decode cX1_isBetter 13 = .ok (.iload_n 3, 1) := dk_29 (dk_at dksX1_isBetter_0 13 rfl rfl)
theorem dX1_isBetter_14 : decode cX1_isBetter 14 = .ok (.aload 4, 2) := dk_25 4 (dk_at dksX1_isBetter_0 14 rfl rfl)
theorem dX1_isBetter_16 : decode cX1_isBetter 16 = .ok (.invokevirtual 168, 3) := dk_182 0 168 (dk_at dksX1_isBetter_0 16 rfl rfl)
theorem dX1_isBetter_19 : decode cX1_isBetter 19 = .ok (.iload_n 3, 1) := dk_29 (dk_at dksX1_isBetter_0 19 rfl rfl)
theorem dX1_isBetter_20 : decode cX1_isBetter 20 = .ok (.isub, 1) := dk_100 (dk_at dksX1_isBetter_0 20 rfl rfl)
theorem dX1_isBetter_21 : decode cX1_isBetter 21 = .ok (.invokestatic 185, 3) := dk_184 0 185 (dk_at dksX1_isBetter_0 21 rfl rfl)
theorem dX1_isBetter_24 : decode cX1_isBetter 24 = .ok (.isub, 1) := dk_100 (dk_at dksX1_isBetter_1 0 rfl rfl)
theorem dX1_isBetter_25 : decode cX1_isBetter 25 = .ok (.istore 5, 2) := dk_54 5 (dk_at dksX1_isBetter_1 1 rfl rfl)
theorem dX1_isBetter_27 : decode cX1_isBetter 27 = .ok (.iload 5, 2) := dk_21 5 (dk_at dksX1_isBetter_1 3 rfl rfl)
theorem dX1_isBetter_29 : decode cX1_isBetter 29 = .ok (.ifCond .eq 16, 3) := dk_153 0 16 (dk_at dksX1_isBetter_1 5 rfl rfl)
theorem dX1_isBetter_32 : decode cX1_isBetter 32 = .ok (.iload 5, 2) := dk_21 5 (dk_at dksX1_isBetter_1 8 rfl rfl)
theorem dX1_isBetter_34 : decode cX1_isBetter 34 = .ok (.ifCond .ge 7, 3) := dk_156 0 7 (dk_at dksX1_isBetter_1 10 rfl rfl)
theorem dX1_isBetter_37 : decode cX1_isBetter 37 = .ok (.iconst 1, 1) := dk_4 (dk_at dksX1_isBetter_1 13 rfl rfl)
theorem dX1_isBetter_38 : decode cX1_isBetter 38 = .ok (.goto 23, 3) := dk_167 0 23 (dk_at dksX1_isBetter_1 14 rfl rfl)
theorem dX1_isBetter_41 : decode cX1_isBetter 41 = .ok (.iconst 0, 1) := dk_3 (dk_at dksX1_isBetter_1 17 rfl rfl)
theorem dX1_isBetter_42 : decode cX1_isBetter 42 = .ok (.goto 19, 3) := dk_167 0 19 (dk_at dksX1_isBetter_1 18 rfl rfl)
theorem dX1_isBetter_45 : decode cX1_isBetter 45 = .ok (.aload_n 1, 1) := dk_43 (dk_at dksX1_isBetter_1 21 rfl rfl)
theorem dX1_isBetter_46 : decode cX1_isBetter 46 = .ok (.invokevirtual 175, 3) := dk_182 0 175 (dk_at dksX1_isBetter_2 0 rfl rfl)
theorem dX1_isBetter_49 : decode cX1_isBetter 49 = .ok (.aload_n 2, 1) := dk_44 (dk_at dksX1_isBetter_2 3 rfl rfl)
theorem dX1_isBetter_50 : decode cX1_isBetter 50 = .ok (.invokevirtual 175, 3) := dk_182 0 175 (dk_at dksX1_isBetter_2 4 rfl rfl)
theorem dX1_isBetter_53 : decode cX1_isBetter 53 = .ok (.if_icmp .le 7, 3) := dk_164 0 7 (dk_at dksX1_isBetter_2 7 rfl rfl)
theorem dX1_isBetter_56 : decode cX1_isBetter 56 = .ok (.iconst 1, 1) := dk_4 (dk_at dksX1_isBetter_2 10 rfl rfl)
theorem dX1_isBetter_57 : decode cX1_isBetter 57 = .ok (.goto 4, 3) := dk_167 0 4 (dk_at dksX1_isBetter_2 11 rfl rfl)
theorem dX1_isBetter_60 : decode cX1_isBetter 60 = .ok (.iconst 0, 1) := dk_3 (dk_at dksX1_isBetter_2 14 rfl rfl)
theorem dX1_isBetter_61 : decode cX1_isBetter 61 = .ok (.ireturn, 1) := dk_172 (dk_at dksX1_isBetter_2 15 rfl rfl)
abbrev cX1_newNeedle : ByteArray := prog_3_method_14_code
def yX1_newNeedle : MethodName := ⟨RX1, "newNeedle", "(I)I"⟩
def dkwX1_newNeedle_1 : List UInt8 := [181, 0, 165, 44, 89, 180, 0, 192, 4, 96, 181, 0, 192, 29, 172]
abbrev dktX1_newNeedle_1 : List UInt8 := dkwX1_newNeedle_1 ++ []
def dkwX1_newNeedle_0 : List UInt8 := [42, 180, 0, 23, 27, 182, 0, 114, 192, 0, 69, 77, 42, 4, 182, 0, 105, 44, 180, 0, 165, 62, 44, 3]
abbrev dktX1_newNeedle_0 : List UInt8 := dkwX1_newNeedle_0 ++ dktX1_newNeedle_1
theorem dksX1_newNeedle_0 : cX1_newNeedle.data.toList.drop 0 = dktX1_newNeedle_0 := by decide +kernel
theorem dksX1_newNeedle_1 : cX1_newNeedle.data.toList.drop 24 = dktX1_newNeedle_1 := dk_seg dksX1_newNeedle_0 24 rfl rfl
theorem dX1_newNeedle_0 : decode cX1_newNeedle 0 = .ok (.aload_n 0, 1) := dk_42 (dk_at dksX1_newNeedle_0 0 rfl rfl)
theorem dX1_newNeedle_1 : decode cX1_newNeedle 1 = .ok (.getfield 23, 3) := dk_180 0 23 (dk_at dksX1_newNeedle_0 1 rfl rfl)
theorem dX1_newNeedle_4 : decode cX1_newNeedle 4 = .ok (.iload_n 1, 1) := dk_27 (dk_at dksX1_newNeedle_0 4 rfl rfl)
theorem dX1_newNeedle_5 : decode cX1_newNeedle 5 = .ok (.invokevirtual 114, 3) := dk_182 0 114 (dk_at dksX1_newNeedle_0 5 rfl rfl)
theorem dX1_newNeedle_8 : decode cX1_newNeedle 8 = .ok (.checkcast 69, 3) := dk_192 0 69 (dk_at dksX1_newNeedle_0 8 rfl rfl)
theorem dX1_newNeedle_11 : decode cX1_newNeedle 11 = .ok (.astore_n 2, 1) := dk_77 (dk_at dksX1_newNeedle_0 11 rfl rfl)
theorem dX1_newNeedle_12 : decode cX1_newNeedle 12 = .ok (.aload_n 0, 1) := dk_42 (dk_at dksX1_newNeedle_0 12 rfl rfl)
theorem dX1_newNeedle_13 : decode cX1_newNeedle 13 = .ok (.iconst 1, 1) := dk_4 (dk_at dksX1_newNeedle_0 13 rfl rfl)
theorem dX1_newNeedle_14 : decode cX1_newNeedle 14 = .ok (.invokevirtual 105, 3) := dk_182 0 105 (dk_at dksX1_newNeedle_0 14 rfl rfl)
theorem dX1_newNeedle_17 : decode cX1_newNeedle 17 = .ok (.aload_n 2, 1) := dk_44 (dk_at dksX1_newNeedle_0 17 rfl rfl)
theorem dX1_newNeedle_18 : decode cX1_newNeedle 18 = .ok (.getfield 165, 3) := dk_180 0 165 (dk_at dksX1_newNeedle_0 18 rfl rfl)
theorem dX1_newNeedle_21 : decode cX1_newNeedle 21 = .ok (.istore_n 3, 1) := dk_62 (dk_at dksX1_newNeedle_0 21 rfl rfl)
theorem dX1_newNeedle_22 : decode cX1_newNeedle 22 = .ok (.aload_n 2, 1) := dk_44 (dk_at dksX1_newNeedle_0 22 rfl rfl)
theorem dX1_newNeedle_23 : decode cX1_newNeedle 23 = .ok (.iconst 0, 1) := dk_3 (dk_at dksX1_newNeedle_0 23 rfl rfl)
theorem dX1_newNeedle_24 : decode cX1_newNeedle 24 = .ok (.putfield 165, 3) := dk_181 0 165 (dk_at dksX1_newNeedle_1 0 rfl rfl)
theorem dX1_newNeedle_27 : decode cX1_newNeedle 27 = .ok (.aload_n 2, 1) := dk_44 (dk_at dksX1_newNeedle_1 3 rfl rfl)
theorem dX1_newNeedle_28 : decode cX1_newNeedle 28 = .ok (.dup, 1) := dk_89 (dk_at dksX1_newNeedle_1 4 rfl rfl)
theorem dX1_newNeedle_29 : decode cX1_newNeedle 29 = .ok (.getfield 192, 3) := dk_180 0 192 (dk_at dksX1_newNeedle_1 5 rfl rfl)
theorem dX1_newNeedle_32 : decode cX1_newNeedle 32 = .ok (.iconst 1, 1) := dk_4 (dk_at dksX1_newNeedle_1 8 rfl rfl)
theorem dX1_newNeedle_33 : decode cX1_newNeedle 33 = .ok (.iadd, 1) := dk_96 (dk_at dksX1_newNeedle_1 9 rfl rfl)
theorem dX1_newNeedle_34 : decode cX1_newNeedle 34 = .ok (.putfield 192, 3) := dk_181 0 192 (dk_at dksX1_newNeedle_1 10 rfl rfl)
theorem dX1_newNeedle_37 : decode cX1_newNeedle 37 = .ok (.iload_n 3, 1) := dk_29 (dk_at dksX1_newNeedle_1 13 rfl rfl)
theorem dX1_newNeedle_38 : decode cX1_newNeedle 38 = .ok (.ireturn, 1) := dk_172 (dk_at dksX1_newNeedle_1 14 rfl rfl)
abbrev cX1_told : ByteArray := prog_3_method_15_code
def yX1_told : MethodName := ⟨RX1, "told", "(LGargoyleCopyists$Copy;I)I"⟩
def dkwX1_told_4 : List UInt8 := [167, 0, 12, 43, 182, 0, 204, 167, 0, 5, 16, 244, 172]
abbrev dktX1_told_4 : List UInt8 := dkwX1_told_4 ++ []
def dkwX1_told_3 : List UInt8 := [182, 0, 195, 167, 0, 33, 43, 42, 180, 0, 20, 43, 180, 0, 146, 182, 0, 114, 192, 0, 198, 182, 0, 200]
abbrev dktX1_told_3 : List UInt8 := dkwX1_told_3 ++ dktX1_told_4
def dkwX1_told_2 : List UInt8 := [43, 180, 0, 146, 167, 0, 55, 43, 180, 0, 153, 153, 0, 7, 4, 167, 0, 44, 3, 167, 0, 40, 43]
abbrev dktX1_told_2 : List UInt8 := dkwX1_told_2 ++ dktX1_told_3
def dkwX1_told_1 : List UInt8 := [170, 0, 0, 0, 0, 0, 92, 0, 0, 0, 0, 0, 0, 0, 4, 0, 0, 0, 35, 0, 0, 0, 42, 0, 0, 0, 57, 0, 0, 0, 64, 0, 0, 0, 85]
abbrev dktX1_told_1 : List UInt8 := dkwX1_told_1 ++ dktX1_told_2
def dkwX1_told_0 : List UInt8 := [28]
abbrev dktX1_told_0 : List UInt8 := dkwX1_told_0 ++ dktX1_told_1
theorem dksX1_told_0 : cX1_told.data.toList.drop 0 = dktX1_told_0 := by decide +kernel
theorem dksX1_told_1 : cX1_told.data.toList.drop 1 = dktX1_told_1 := dk_seg dksX1_told_0 1 rfl rfl
theorem dksX1_told_2 : cX1_told.data.toList.drop 36 = dktX1_told_2 := dk_seg dksX1_told_1 35 rfl rfl
theorem dksX1_told_3 : cX1_told.data.toList.drop 59 = dktX1_told_3 := dk_seg dksX1_told_2 23 rfl rfl
theorem dksX1_told_4 : cX1_told.data.toList.drop 83 = dktX1_told_4 := dk_seg dksX1_told_3 24 rfl rfl
theorem dX1_told_0 : decode cX1_told 0 = .ok (.iload_n 2, 1) := dk_28 (dk_at dksX1_told_0 0 rfl rfl)
theorem dX1_told_1 : decode cX1_told 1 = .ok (.tableswitch 92 0 4 #[35, 42, 57, 64, 85], 35) := by decide +kernel
theorem dX1_told_36 : decode cX1_told 36 = .ok (.aload_n 1, 1) := dk_43 (dk_at dksX1_told_2 0 rfl rfl)
theorem dX1_told_37 : decode cX1_told 37 = .ok (.getfield 146, 3) := dk_180 0 146 (dk_at dksX1_told_2 1 rfl rfl)
theorem dX1_told_40 : decode cX1_told 40 = .ok (.goto 55, 3) := dk_167 0 55 (dk_at dksX1_told_2 4 rfl rfl)
theorem dX1_told_43 : decode cX1_told 43 = .ok (.aload_n 1, 1) := dk_43 (dk_at dksX1_told_2 7 rfl rfl)
theorem dX1_told_44 : decode cX1_told 44 = .ok (.getfield 153, 3) := dk_180 0 153 (dk_at dksX1_told_2 8 rfl rfl)
theorem dX1_told_47 : decode cX1_told 47 = .ok (.ifCond .eq 7, 3) := dk_153 0 7 (dk_at dksX1_told_2 11 rfl rfl)
theorem dX1_told_50 : decode cX1_told 50 = .ok (.iconst 1, 1) := dk_4 (dk_at dksX1_told_2 14 rfl rfl)
theorem dX1_told_51 : decode cX1_told 51 = .ok (.goto 44, 3) := dk_167 0 44 (dk_at dksX1_told_2 15 rfl rfl)
theorem dX1_told_54 : decode cX1_told 54 = .ok (.iconst 0, 1) := dk_3 (dk_at dksX1_told_2 18 rfl rfl)
theorem dX1_told_55 : decode cX1_told 55 = .ok (.goto 40, 3) := dk_167 0 40 (dk_at dksX1_told_2 19 rfl rfl)
theorem dX1_told_58 : decode cX1_told 58 = .ok (.aload_n 1, 1) := dk_43 (dk_at dksX1_told_2 22 rfl rfl)
theorem dX1_told_59 : decode cX1_told 59 = .ok (.invokevirtual 195, 3) := dk_182 0 195 (dk_at dksX1_told_3 0 rfl rfl)
theorem dX1_told_62 : decode cX1_told 62 = .ok (.goto 33, 3) := dk_167 0 33 (dk_at dksX1_told_3 3 rfl rfl)
theorem dX1_told_65 : decode cX1_told 65 = .ok (.aload_n 1, 1) := dk_43 (dk_at dksX1_told_3 6 rfl rfl)
theorem dX1_told_66 : decode cX1_told 66 = .ok (.aload_n 0, 1) := dk_42 (dk_at dksX1_told_3 7 rfl rfl)
theorem dX1_told_67 : decode cX1_told 67 = .ok (.getfield 20, 3) := dk_180 0 20 (dk_at dksX1_told_3 8 rfl rfl)
theorem dX1_told_70 : decode cX1_told 70 = .ok (.aload_n 1, 1) := dk_43 (dk_at dksX1_told_3 11 rfl rfl)
theorem dX1_told_71 : decode cX1_told 71 = .ok (.getfield 146, 3) := dk_180 0 146 (dk_at dksX1_told_3 12 rfl rfl)
theorem dX1_told_74 : decode cX1_told 74 = .ok (.invokevirtual 114, 3) := dk_182 0 114 (dk_at dksX1_told_3 15 rfl rfl)
theorem dX1_told_77 : decode cX1_told 77 = .ok (.checkcast 198, 3) := dk_192 0 198 (dk_at dksX1_told_3 18 rfl rfl)
theorem dX1_told_80 : decode cX1_told 80 = .ok (.invokevirtual 200, 3) := dk_182 0 200 (dk_at dksX1_told_3 21 rfl rfl)
theorem dX1_told_83 : decode cX1_told 83 = .ok (.goto 12, 3) := dk_167 0 12 (dk_at dksX1_told_4 0 rfl rfl)
theorem dX1_told_86 : decode cX1_told 86 = .ok (.aload_n 1, 1) := dk_43 (dk_at dksX1_told_4 3 rfl rfl)
theorem dX1_told_87 : decode cX1_told 87 = .ok (.invokevirtual 204, 3) := dk_182 0 204 (dk_at dksX1_told_4 4 rfl rfl)
theorem dX1_told_90 : decode cX1_told 90 = .ok (.goto 5, 3) := dk_167 0 5 (dk_at dksX1_told_4 7 rfl rfl)
theorem dX1_told_93 : decode cX1_told 93 = .ok (.bipush (-12), 2) := dk_16 244 (dk_at dksX1_told_4 10 rfl rfl)
theorem dX1_told_95 : decode cX1_told 95 = .ok (.ireturn, 1) := dk_172 (dk_at dksX1_told_4 12 rfl rfl)
abbrev cX1_takesDown : ByteArray := prog_3_method_16_code
def yX1_takesDown : MethodName := ⟨RX1, "takesDown", "(I)I"⟩
def dkwX1_takesDown_2 : List UInt8 := [42, 180, 0, 92, 184, 0, 101, 44, 4, 181, 0, 121, 44, 180, 0, 207, 172]
abbrev dktX1_takesDown_2 : List UInt8 := dkwX1_takesDown_2 ++ []
def dkwX1_takesDown_1 : List UInt8 := [5, 44, 180, 0, 121, 184, 0, 101, 42, 180, 0, 92, 16, 7, 161, 0, 7, 4, 167, 0, 4, 3, 16, 12]
abbrev dktX1_takesDown_1 : List UInt8 := dkwX1_takesDown_1 ++ dktX1_takesDown_2
def dkwX1_takesDown_0 : List UInt8 := [42, 180, 0, 14, 27, 182, 0, 114, 192, 0, 36, 77, 44, 180, 0, 121, 153, 0, 7, 4, 167, 0, 4, 3]
abbrev dktX1_takesDown_0 : List UInt8 := dkwX1_takesDown_0 ++ dktX1_takesDown_1
theorem dksX1_takesDown_0 : cX1_takesDown.data.toList.drop 0 = dktX1_takesDown_0 := by decide +kernel
theorem dksX1_takesDown_1 : cX1_takesDown.data.toList.drop 24 = dktX1_takesDown_1 := dk_seg dksX1_takesDown_0 24 rfl rfl
theorem dksX1_takesDown_2 : cX1_takesDown.data.toList.drop 48 = dktX1_takesDown_2 := dk_seg dksX1_takesDown_1 24 rfl rfl
theorem dX1_takesDown_0 : decode cX1_takesDown 0 = .ok (.aload_n 0, 1) := dk_42 (dk_at dksX1_takesDown_0 0 rfl rfl)
theorem dX1_takesDown_1 : decode cX1_takesDown 1 = .ok (.getfield 14, 3) := dk_180 0 14 (dk_at dksX1_takesDown_0 1 rfl rfl)
theorem dX1_takesDown_4 : decode cX1_takesDown 4 = .ok (.iload_n 1, 1) := dk_27 (dk_at dksX1_takesDown_0 4 rfl rfl)
theorem dX1_takesDown_5 : decode cX1_takesDown 5 = .ok (.invokevirtual 114, 3) := dk_182 0 114 (dk_at dksX1_takesDown_0 5 rfl rfl)
theorem dX1_takesDown_8 : decode cX1_takesDown 8 = .ok (.checkcast 36, 3) := dk_192 0 36 (dk_at dksX1_takesDown_0 8 rfl rfl)
theorem dX1_takesDown_11 : decode cX1_takesDown 11 = .ok (.astore_n 2, 1) := dk_77 (dk_at dksX1_takesDown_0 11 rfl rfl)
theorem dX1_takesDown_12 : decode cX1_takesDown 12 = .ok (.aload_n 2, 1) := dk_44 (dk_at dksX1_takesDown_0 12 rfl rfl)
theorem dX1_takesDown_13 : decode cX1_takesDown 13 = .ok (.getfield 121, 3) := dk_180 0 121 (dk_at dksX1_takesDown_0 13 rfl rfl)
theorem dX1_takesDown_16 : decode cX1_takesDown 16 = .ok (.ifCond .eq 7, 3) := dk_153 0 7 (dk_at dksX1_takesDown_0 16 rfl rfl)
theorem dX1_takesDown_19 : decode cX1_takesDown 19 = .ok (.iconst 1, 1) := dk_4 (dk_at dksX1_takesDown_0 19 rfl rfl)
theorem dX1_takesDown_20 : decode cX1_takesDown 20 = .ok (.goto 4, 3) := dk_167 0 4 (dk_at dksX1_takesDown_0 20 rfl rfl)
theorem dX1_takesDown_23 : decode cX1_takesDown 23 = .ok (.iconst 0, 1) := dk_3 (dk_at dksX1_takesDown_0 23 rfl rfl)
theorem dX1_takesDown_24 : decode cX1_takesDown 24 = .ok (.iconst 2, 1) := dk_5 (dk_at dksX1_takesDown_1 0 rfl rfl)
theorem dX1_takesDown_25 : decode cX1_takesDown 25 = .ok (.aload_n 2, 1) := dk_44 (dk_at dksX1_takesDown_1 1 rfl rfl)
theorem dX1_takesDown_26 : decode cX1_takesDown 26 = .ok (.getfield 121, 3) := dk_180 0 121 (dk_at dksX1_takesDown_1 2 rfl rfl)
theorem dX1_takesDown_29 : decode cX1_takesDown 29 = .ok (.invokestatic 101, 3) := dk_184 0 101 (dk_at dksX1_takesDown_1 5 rfl rfl)
theorem dX1_takesDown_32 : decode cX1_takesDown 32 = .ok (.aload_n 0, 1) := dk_42 (dk_at dksX1_takesDown_1 8 rfl rfl)
theorem dX1_takesDown_33 : decode cX1_takesDown 33 = .ok (.getfield 92, 3) := dk_180 0 92 (dk_at dksX1_takesDown_1 9 rfl rfl)
theorem dX1_takesDown_36 : decode cX1_takesDown 36 = .ok (.bipush 7, 2) := dk_16 7 (dk_at dksX1_takesDown_1 12 rfl rfl)
theorem dX1_takesDown_38 : decode cX1_takesDown 38 = .ok (.if_icmp .lt 7, 3) := dk_161 0 7 (dk_at dksX1_takesDown_1 14 rfl rfl)
theorem dX1_takesDown_41 : decode cX1_takesDown 41 = .ok (.iconst 1, 1) := dk_4 (dk_at dksX1_takesDown_1 17 rfl rfl)
theorem dX1_takesDown_42 : decode cX1_takesDown 42 = .ok (.goto 4, 3) := dk_167 0 4 (dk_at dksX1_takesDown_1 18 rfl rfl)
theorem dX1_takesDown_45 : decode cX1_takesDown 45 = .ok (.iconst 0, 1) := dk_3 (dk_at dksX1_takesDown_1 21 rfl rfl)
theorem dX1_takesDown_46 : decode cX1_takesDown 46 = .ok (.bipush 12, 2) := dk_16 12 (dk_at dksX1_takesDown_1 22 rfl rfl)
theorem dX1_takesDown_48 : decode cX1_takesDown 48 = .ok (.aload_n 0, 1) := dk_42 (dk_at dksX1_takesDown_2 0 rfl rfl)
theorem dX1_takesDown_49 : decode cX1_takesDown 49 = .ok (.getfield 92, 3) := dk_180 0 92 (dk_at dksX1_takesDown_2 1 rfl rfl)
theorem dX1_takesDown_52 : decode cX1_takesDown 52 = .ok (.invokestatic 101, 3) := dk_184 0 101 (dk_at dksX1_takesDown_2 4 rfl rfl)
theorem dX1_takesDown_55 : decode cX1_takesDown 55 = .ok (.aload_n 2, 1) := dk_44 (dk_at dksX1_takesDown_2 7 rfl rfl)
theorem dX1_takesDown_56 : decode cX1_takesDown 56 = .ok (.iconst 1, 1) := dk_4 (dk_at dksX1_takesDown_2 8 rfl rfl)
theorem dX1_takesDown_57 : decode cX1_takesDown 57 = .ok (.putfield 121, 3) := dk_181 0 121 (dk_at dksX1_takesDown_2 9 rfl rfl)
theorem dX1_takesDown_60 : decode cX1_takesDown 60 = .ok (.aload_n 2, 1) := dk_44 (dk_at dksX1_takesDown_2 12 rfl rfl)
theorem dX1_takesDown_61 : decode cX1_takesDown 61 = .ok (.getfield 207, 3) := dk_180 0 207 (dk_at dksX1_takesDown_2 13 rfl rfl)
theorem dX1_takesDown_64 : decode cX1_takesDown 64 = .ok (.ireturn, 1) := dk_172 (dk_at dksX1_takesDown_2 16 rfl rfl)
abbrev cX1_lifts : ByteArray := prog_3_method_17_code
def yX1_lifts : MethodName := ⟨RX1, "lifts", "(I)I"⟩
def dkwX1_lifts_9 : List UInt8 := [172]
abbrev dktX1_lifts_9 : List UInt8 := dkwX1_lifts_9 ++ []
def dkwX1_lifts_8 : List UInt8 := [42, 89, 180, 0, 33, 21, 5, 96, 181, 0, 33, 42, 89, 180, 0, 83, 21, 5, 96, 181, 0, 83, 21, 5]
abbrev dktX1_lifts_8 : List UInt8 := dkwX1_lifts_8 ++ dktX1_lifts_9
def dkwX1_lifts_7 : List UInt8 := [25, 4, 5, 181, 0, 121, 25, 4, 27, 181, 0, 214, 16, 10, 5, 44, 45, 182, 0, 200, 104, 96, 54, 5]
abbrev dktX1_lifts_7 : List UInt8 := dkwX1_lifts_7 ++ dktX1_lifts_8
def dkwX1_lifts_6 : List UInt8 := [167, 0, 4, 3, 16, 13, 44, 182, 0, 204, 25, 4, 182, 0, 211, 100, 184, 0, 101, 44, 4, 181, 0, 153]
abbrev dktX1_lifts_6 : List UInt8 := dkwX1_lifts_6 ++ dktX1_lifts_7
def dkwX1_lifts_5 : List UInt8 := [16, 12, 42, 180, 0, 92, 184, 0, 101, 44, 182, 0, 204, 25, 4, 182, 0, 211, 164, 0, 7, 4]
abbrev dktX1_lifts_5 : List UInt8 := dkwX1_lifts_5 ++ dktX1_lifts_6
def dkwX1_lifts_4 : List UInt8 := [16, 11, 25, 4, 180, 0, 121, 184, 0, 101, 42, 180, 0, 92, 16, 7, 161, 0, 7, 4, 167, 0, 4, 3]
abbrev dktX1_lifts_4 : List UInt8 := dkwX1_lifts_4 ++ dktX1_lifts_5
def dkwX1_lifts_3 : List UInt8 := [16, 10, 44, 182, 0, 208, 184, 0, 101, 25, 4, 180, 0, 121, 4, 159, 0, 7, 4, 167, 0, 4, 3]
abbrev dktX1_lifts_3 : List UInt8 := dkwX1_lifts_3 ++ dktX1_lifts_4
def dkwX1_lifts_2 : List UInt8 := [16, 9, 45, 180, 0, 157, 184, 0, 101, 44, 182, 0, 195, 16, 10, 162, 0, 7, 4, 167, 0, 4, 3]
abbrev dktX1_lifts_2 : List UInt8 := dkwX1_lifts_2 ++ dktX1_lifts_3
def dkwX1_lifts_1 : List UInt8 := [192, 0, 64, 78, 42, 180, 0, 14, 45, 180, 0, 157, 182, 0, 114, 192, 0, 36, 58, 4, 44, 180, 0, 153]
abbrev dktX1_lifts_1 : List UInt8 := dkwX1_lifts_1 ++ dktX1_lifts_2
def dkwX1_lifts_0 : List UInt8 := [42, 180, 0, 26, 27, 182, 0, 114, 192, 0, 74, 77, 42, 180, 0, 20, 44, 180, 0, 146, 182, 0, 114]
abbrev dktX1_lifts_0 : List UInt8 := dkwX1_lifts_0 ++ dktX1_lifts_1
theorem dksX1_lifts_0 : cX1_lifts.data.toList.drop 0 = dktX1_lifts_0 := by decide +kernel
theorem dksX1_lifts_1 : cX1_lifts.data.toList.drop 23 = dktX1_lifts_1 := dk_seg dksX1_lifts_0 23 rfl rfl
theorem dksX1_lifts_2 : cX1_lifts.data.toList.drop 47 = dktX1_lifts_2 := dk_seg dksX1_lifts_1 24 rfl rfl
theorem dksX1_lifts_3 : cX1_lifts.data.toList.drop 70 = dktX1_lifts_3 := dk_seg dksX1_lifts_2 23 rfl rfl
theorem dksX1_lifts_4 : cX1_lifts.data.toList.drop 93 = dktX1_lifts_4 := dk_seg dksX1_lifts_3 23 rfl rfl
theorem dksX1_lifts_5 : cX1_lifts.data.toList.drop 117 = dktX1_lifts_5 := dk_seg dksX1_lifts_4 24 rfl rfl
theorem dksX1_lifts_6 : cX1_lifts.data.toList.drop 139 = dktX1_lifts_6 := dk_seg dksX1_lifts_5 22 rfl rfl
theorem dksX1_lifts_7 : cX1_lifts.data.toList.drop 163 = dktX1_lifts_7 := dk_seg dksX1_lifts_6 24 rfl rfl
theorem dksX1_lifts_8 : cX1_lifts.data.toList.drop 187 = dktX1_lifts_8 := dk_seg dksX1_lifts_7 24 rfl rfl
theorem dksX1_lifts_9 : cX1_lifts.data.toList.drop 211 = dktX1_lifts_9 := dk_seg dksX1_lifts_8 24 rfl rfl
theorem dX1_lifts_0 : decode cX1_lifts 0 = .ok (.aload_n 0, 1) := dk_42 (dk_at dksX1_lifts_0 0 rfl rfl)
theorem dX1_lifts_1 : decode cX1_lifts 1 = .ok (.getfield 26, 3) := dk_180 0 26 (dk_at dksX1_lifts_0 1 rfl rfl)
theorem dX1_lifts_4 : decode cX1_lifts 4 = .ok (.iload_n 1, 1) := dk_27 (dk_at dksX1_lifts_0 4 rfl rfl)
theorem dX1_lifts_5 : decode cX1_lifts 5 = .ok (.invokevirtual 114, 3) := dk_182 0 114 (dk_at dksX1_lifts_0 5 rfl rfl)
theorem dX1_lifts_8 : decode cX1_lifts 8 = .ok (.checkcast 74, 3) := dk_192 0 74 (dk_at dksX1_lifts_0 8 rfl rfl)
theorem dX1_lifts_11 : decode cX1_lifts 11 = .ok (.astore_n 2, 1) := dk_77 (dk_at dksX1_lifts_0 11 rfl rfl)
theorem dX1_lifts_12 : decode cX1_lifts 12 = .ok (.aload_n 0, 1) := dk_42 (dk_at dksX1_lifts_0 12 rfl rfl)
theorem dX1_lifts_13 : decode cX1_lifts 13 = .ok (.getfield 20, 3) := dk_180 0 20 (dk_at dksX1_lifts_0 13 rfl rfl)
theorem dX1_lifts_16 : decode cX1_lifts 16 = .ok (.aload_n 2, 1) := dk_44 (dk_at dksX1_lifts_0 16 rfl rfl)
theorem dX1_lifts_17 : decode cX1_lifts 17 = .ok (.getfield 146, 3) := dk_180 0 146 (dk_at dksX1_lifts_0 17 rfl rfl)
theorem dX1_lifts_20 : decode cX1_lifts 20 = .ok (.invokevirtual 114, 3) := dk_182 0 114 (dk_at dksX1_lifts_0 20 rfl rfl)
theorem dX1_lifts_23 : decode cX1_lifts 23 = .ok (.checkcast 64, 3) := dk_192 0 64 (dk_at dksX1_lifts_1 0 rfl rfl)
theorem dX1_lifts_26 : decode cX1_lifts 26 = .ok (.astore_n 3, 1) := dk_78 (dk_at dksX1_lifts_1 3 rfl rfl)
theorem dX1_lifts_27 : decode cX1_lifts 27 = .ok (.aload_n 0, 1) := dk_42 (dk_at dksX1_lifts_1 4 rfl rfl)
theorem dX1_lifts_28 : decode cX1_lifts 28 = .ok (.getfield 14, 3) := dk_180 0 14 (dk_at dksX1_lifts_1 5 rfl rfl)
theorem dX1_lifts_31 : decode cX1_lifts 31 = .ok (.aload_n 3, 1) := dk_45 (dk_at dksX1_lifts_1 8 rfl rfl)
theorem dX1_lifts_32 : decode cX1_lifts 32 = .ok (.getfield 157, 3) := dk_180 0 157 (dk_at dksX1_lifts_1 9 rfl rfl)
theorem dX1_lifts_35 : decode cX1_lifts 35 = .ok (.invokevirtual 114, 3) := dk_182 0 114 (dk_at dksX1_lifts_1 12 rfl rfl)
theorem dX1_lifts_38 : decode cX1_lifts 38 = .ok (.checkcast 36, 3) := dk_192 0 36 (dk_at dksX1_lifts_1 15 rfl rfl)
theorem dX1_lifts_41 : decode cX1_lifts 41 = .ok (.astore 4, 2) := dk_58 4 (dk_at dksX1_lifts_1 18 rfl rfl)
theorem dX1_lifts_43 : decode cX1_lifts 43 = .ok (.aload_n 2, 1) := dk_44 (dk_at dksX1_lifts_1 20 rfl rfl)
theorem dX1_lifts_44 : decode cX1_lifts 44 = .ok (.getfield 153, 3) := dk_180 0 153 (dk_at dksX1_lifts_1 21 rfl rfl)
theorem dX1_lifts_47 : decode cX1_lifts 47 = .ok (.bipush 9, 2) := dk_16 9 (dk_at dksX1_lifts_2 0 rfl rfl)
theorem dX1_lifts_49 : decode cX1_lifts 49 = .ok (.aload_n 3, 1) := dk_45 (dk_at dksX1_lifts_2 2 rfl rfl)
theorem dX1_lifts_50 : decode cX1_lifts 50 = .ok (.getfield 157, 3) := dk_180 0 157 (dk_at dksX1_lifts_2 3 rfl rfl)
theorem dX1_lifts_53 : decode cX1_lifts 53 = .ok (.invokestatic 101, 3) := dk_184 0 101 (dk_at dksX1_lifts_2 6 rfl rfl)
theorem dX1_lifts_56 : decode cX1_lifts 56 = .ok (.aload_n 2, 1) := dk_44 (dk_at dksX1_lifts_2 9 rfl rfl)
theorem dX1_lifts_57 : decode cX1_lifts 57 = .ok (.invokevirtual 195, 3) := dk_182 0 195 (dk_at dksX1_lifts_2 10 rfl rfl)
theorem dX1_lifts_60 : decode cX1_lifts 60 = .ok (.bipush 10, 2) := dk_16 10 (dk_at dksX1_lifts_2 13 rfl rfl)
theorem dX1_lifts_62 : decode cX1_lifts 62 = .ok (.if_icmp .ge 7, 3) := dk_162 0 7 (dk_at dksX1_lifts_2 15 rfl rfl)
theorem dX1_lifts_65 : decode cX1_lifts 65 = .ok (.iconst 1, 1) := dk_4 (dk_at dksX1_lifts_2 18 rfl rfl)
theorem dX1_lifts_66 : decode cX1_lifts 66 = .ok (.goto 4, 3) := dk_167 0 4 (dk_at dksX1_lifts_2 19 rfl rfl)
theorem dX1_lifts_69 : decode cX1_lifts 69 = .ok (.iconst 0, 1) := dk_3 (dk_at dksX1_lifts_2 22 rfl rfl)
theorem dX1_lifts_70 : decode cX1_lifts 70 = .ok (.bipush 10, 2) := dk_16 10 (dk_at dksX1_lifts_3 0 rfl rfl)
theorem dX1_lifts_72 : decode cX1_lifts 72 = .ok (.aload_n 2, 1) := dk_44 (dk_at dksX1_lifts_3 2 rfl rfl)
theorem dX1_lifts_73 : decode cX1_lifts 73 = .ok (.invokevirtual 208, 3) := dk_182 0 208 (dk_at dksX1_lifts_3 3 rfl rfl)
theorem dX1_lifts_76 : decode cX1_lifts 76 = .ok (.invokestatic 101, 3) := dk_184 0 101 (dk_at dksX1_lifts_3 6 rfl rfl)
theorem dX1_lifts_79 : decode cX1_lifts 79 = .ok (.aload 4, 2) := dk_25 4 (dk_at dksX1_lifts_3 9 rfl rfl)
theorem dX1_lifts_81 : decode cX1_lifts 81 = .ok (.getfield 121, 3) := dk_180 0 121 (dk_at dksX1_lifts_3 11 rfl rfl)
theorem dX1_lifts_84 : decode cX1_lifts 84 = .ok (.iconst 1, 1) := dk_4 (dk_at dksX1_lifts_3 14 rfl rfl)
theorem dX1_lifts_85 : decode cX1_lifts 85 = .ok (.if_icmp .eq 7, 3) := dk_159 0 7 (dk_at dksX1_lifts_3 15 rfl rfl)
theorem dX1_lifts_88 : decode cX1_lifts 88 = .ok (.iconst 1, 1) := dk_4 (dk_at dksX1_lifts_3 18 rfl rfl)
theorem dX1_lifts_89 : decode cX1_lifts 89 = .ok (.goto 4, 3) := dk_167 0 4 (dk_at dksX1_lifts_3 19 rfl rfl)
theorem dX1_lifts_92 : decode cX1_lifts 92 = .ok (.iconst 0, 1) := dk_3 (dk_at dksX1_lifts_3 22 rfl rfl)
theorem dX1_lifts_93 : decode cX1_lifts 93 = .ok (.bipush 11, 2) := dk_16 11 (dk_at dksX1_lifts_4 0 rfl rfl)
theorem dX1_lifts_95 : decode cX1_lifts 95 = .ok (.aload 4, 2) := dk_25 4 (dk_at dksX1_lifts_4 2 rfl rfl)
theorem dX1_lifts_97 : decode cX1_lifts 97 = .ok (.getfield 121, 3) := dk_180 0 121 (dk_at dksX1_lifts_4 4 rfl rfl)
theorem dX1_lifts_100 : decode cX1_lifts 100 = .ok (.invokestatic 101, 3) := dk_184 0 101 (dk_at dksX1_lifts_4 7 rfl rfl)
theorem dX1_lifts_103 : decode cX1_lifts 103 = .ok (.aload_n 0, 1) := dk_42 (dk_at dksX1_lifts_4 10 rfl rfl)
theorem dX1_lifts_104 : decode cX1_lifts 104 = .ok (.getfield 92, 3) := dk_180 0 92 (dk_at dksX1_lifts_4 11 rfl rfl)
theorem dX1_lifts_107 : decode cX1_lifts 107 = .ok (.bipush 7, 2) := dk_16 7 (dk_at dksX1_lifts_4 14 rfl rfl)
theorem dX1_lifts_109 : decode cX1_lifts 109 = .ok (.if_icmp .lt 7, 3) := dk_161 0 7 (dk_at dksX1_lifts_4 16 rfl rfl)
theorem dX1_lifts_112 : decode cX1_lifts 112 = .ok (.iconst 1, 1) := dk_4 (dk_at dksX1_lifts_4 19 rfl rfl)
theorem dX1_lifts_113 : decode cX1_lifts 113 = .ok (.goto 4, 3) := dk_167 0 4 (dk_at dksX1_lifts_4 20 rfl rfl)
theorem dX1_lifts_116 : decode cX1_lifts 116 = .ok (.iconst 0, 1) := dk_3 (dk_at dksX1_lifts_4 23 rfl rfl)
theorem dX1_lifts_117 : decode cX1_lifts 117 = .ok (.bipush 12, 2) := dk_16 12 (dk_at dksX1_lifts_5 0 rfl rfl)
theorem dX1_lifts_119 : decode cX1_lifts 119 = .ok (.aload_n 0, 1) := dk_42 (dk_at dksX1_lifts_5 2 rfl rfl)
theorem dX1_lifts_120 : decode cX1_lifts 120 = .ok (.getfield 92, 3) := dk_180 0 92 (dk_at dksX1_lifts_5 3 rfl rfl)
theorem dX1_lifts_123 : decode cX1_lifts 123 = .ok (.invokestatic 101, 3) := dk_184 0 101 (dk_at dksX1_lifts_5 6 rfl rfl)
theorem dX1_lifts_126 : decode cX1_lifts 126 = .ok (.aload_n 2, 1) := dk_44 (dk_at dksX1_lifts_5 9 rfl rfl)
theorem dX1_lifts_127 : decode cX1_lifts 127 = .ok (.invokevirtual 204, 3) := dk_182 0 204 (dk_at dksX1_lifts_5 10 rfl rfl)
theorem dX1_lifts_130 : decode cX1_lifts 130 = .ok (.aload 4, 2) := dk_25 4 (dk_at dksX1_lifts_5 13 rfl rfl)
theorem dX1_lifts_132 : decode cX1_lifts 132 = .ok (.invokevirtual 211, 3) := dk_182 0 211 (dk_at dksX1_lifts_5 15 rfl rfl)
theorem dX1_lifts_135 : decode cX1_lifts 135 = .ok (.if_icmp .le 7, 3) := dk_164 0 7 (dk_at dksX1_lifts_5 18 rfl rfl)
theorem dX1_lifts_138 : decode cX1_lifts 138 = .ok (.iconst 1, 1) := dk_4 (dk_at dksX1_lifts_5 21 rfl rfl)
theorem dX1_lifts_139 : decode cX1_lifts 139 = .ok (.goto 4, 3) := dk_167 0 4 (dk_at dksX1_lifts_6 0 rfl rfl)
theorem dX1_lifts_142 : decode cX1_lifts 142 = .ok (.iconst 0, 1) := dk_3 (dk_at dksX1_lifts_6 3 rfl rfl)
theorem dX1_lifts_143 : decode cX1_lifts 143 = .ok (.bipush 13, 2) := dk_16 13 (dk_at dksX1_lifts_6 4 rfl rfl)
theorem dX1_lifts_145 : decode cX1_lifts 145 = .ok (.aload_n 2, 1) := dk_44 (dk_at dksX1_lifts_6 6 rfl rfl)
theorem dX1_lifts_146 : decode cX1_lifts 146 = .ok (.invokevirtual 204, 3) := dk_182 0 204 (dk_at dksX1_lifts_6 7 rfl rfl)
theorem dX1_lifts_149 : decode cX1_lifts 149 = .ok (.aload 4, 2) := dk_25 4 (dk_at dksX1_lifts_6 10 rfl rfl)
theorem dX1_lifts_151 : decode cX1_lifts 151 = .ok (.invokevirtual 211, 3) := dk_182 0 211 (dk_at dksX1_lifts_6 12 rfl rfl)
theorem dX1_lifts_154 : decode cX1_lifts 154 = .ok (.isub, 1) := dk_100 (dk_at dksX1_lifts_6 15 rfl rfl)
theorem dX1_lifts_155 : decode cX1_lifts 155 = .ok (.invokestatic 101, 3) := dk_184 0 101 (dk_at dksX1_lifts_6 16 rfl rfl)
theorem dX1_lifts_158 : decode cX1_lifts 158 = .ok (.aload_n 2, 1) := dk_44 (dk_at dksX1_lifts_6 19 rfl rfl)
theorem dX1_lifts_159 : decode cX1_lifts 159 = .ok (.iconst 1, 1) := dk_4 (dk_at dksX1_lifts_6 20 rfl rfl)
theorem dX1_lifts_160 : decode cX1_lifts 160 = .ok (.putfield 153, 3) := dk_181 0 153 (dk_at dksX1_lifts_6 21 rfl rfl)
theorem dX1_lifts_163 : decode cX1_lifts 163 = .ok (.aload 4, 2) := dk_25 4 (dk_at dksX1_lifts_7 0 rfl rfl)
theorem dX1_lifts_165 : decode cX1_lifts 165 = .ok (.iconst 2, 1) := dk_5 (dk_at dksX1_lifts_7 2 rfl rfl)
theorem dX1_lifts_166 : decode cX1_lifts 166 = .ok (.putfield 121, 3) := dk_181 0 121 (dk_at dksX1_lifts_7 3 rfl rfl)
theorem dX1_lifts_169 : decode cX1_lifts 169 = .ok (.aload 4, 2) := dk_25 4 (dk_at dksX1_lifts_7 6 rfl rfl)
theorem dX1_lifts_171 : decode cX1_lifts 171 = .ok (.iload_n 1, 1) := dk_27 (dk_at dksX1_lifts_7 8 rfl rfl)
theorem dX1_lifts_172 : decode cX1_lifts 172 = .ok (.putfield 214, 3) := dk_181 0 214 (dk_at dksX1_lifts_7 9 rfl rfl)
theorem dX1_lifts_175 : decode cX1_lifts 175 = .ok (.bipush 10, 2) := dk_16 10 (dk_at dksX1_lifts_7 12 rfl rfl)
theorem dX1_lifts_177 : decode cX1_lifts 177 = .ok (.iconst 2, 1) := dk_5 (dk_at dksX1_lifts_7 14 rfl rfl)
theorem dX1_lifts_178 : decode cX1_lifts 178 = .ok (.aload_n 2, 1) := dk_44 (dk_at dksX1_lifts_7 15 rfl rfl)
theorem dX1_lifts_179 : decode cX1_lifts 179 = .ok (.aload_n 3, 1) := dk_45 (dk_at dksX1_lifts_7 16 rfl rfl)
theorem dX1_lifts_180 : decode cX1_lifts 180 = .ok (.invokevirtual 200, 3) := dk_182 0 200 (dk_at dksX1_lifts_7 17 rfl rfl)
theorem dX1_lifts_183 : decode cX1_lifts 183 = .ok (.imul, 1) := dk_104 (dk_at dksX1_lifts_7 20 rfl rfl)
theorem dX1_lifts_184 : decode cX1_lifts 184 = .ok (.iadd, 1) := dk_96 (dk_at dksX1_lifts_7 21 rfl rfl)
theorem dX1_lifts_185 : decode cX1_lifts 185 = .ok (.istore 5, 2) := dk_54 5 (dk_at dksX1_lifts_7 22 rfl rfl)
theorem dX1_lifts_187 : decode cX1_lifts 187 = .ok (.aload_n 0, 1) := dk_42 (dk_at dksX1_lifts_8 0 rfl rfl)
theorem dX1_lifts_188 : decode cX1_lifts 188 = .ok (.dup, 1) := dk_89 (dk_at dksX1_lifts_8 1 rfl rfl)
theorem dX1_lifts_189 : decode cX1_lifts 189 = .ok (.getfield 33, 3) := dk_180 0 33 (dk_at dksX1_lifts_8 2 rfl rfl)
theorem dX1_lifts_192 : decode cX1_lifts 192 = .ok (.iload 5, 2) := dk_21 5 (dk_at dksX1_lifts_8 5 rfl rfl)
theorem dX1_lifts_194 : decode cX1_lifts 194 = .ok (.iadd, 1) := dk_96 (dk_at dksX1_lifts_8 7 rfl rfl)
theorem dX1_lifts_195 : decode cX1_lifts 195 = .ok (.putfield 33, 3) := dk_181 0 33 (dk_at dksX1_lifts_8 8 rfl rfl)
theorem dX1_lifts_198 : decode cX1_lifts 198 = .ok (.aload_n 0, 1) := dk_42 (dk_at dksX1_lifts_8 11 rfl rfl)
theorem dX1_lifts_199 : decode cX1_lifts 199 = .ok (.dup, 1) := dk_89 (dk_at dksX1_lifts_8 12 rfl rfl)
theorem dX1_lifts_200 : decode cX1_lifts 200 = .ok (.getfield 83, 3) := dk_180 0 83 (dk_at dksX1_lifts_8 13 rfl rfl)
theorem dX1_lifts_203 : decode cX1_lifts 203 = .ok (.iload 5, 2) := dk_21 5 (dk_at dksX1_lifts_8 16 rfl rfl)
theorem dX1_lifts_205 : decode cX1_lifts 205 = .ok (.iadd, 1) := dk_96 (dk_at dksX1_lifts_8 18 rfl rfl)
theorem dX1_lifts_206 : decode cX1_lifts 206 = .ok (.putfield 83, 3) := dk_181 0 83 (dk_at dksX1_lifts_8 19 rfl rfl)
theorem dX1_lifts_209 : decode cX1_lifts 209 = .ok (.iload 5, 2) := dk_21 5 (dk_at dksX1_lifts_8 22 rfl rfl)
theorem dX1_lifts_211 : decode cX1_lifts 211 = .ok (.ireturn, 1) := dk_172 (dk_at dksX1_lifts_9 0 rfl rfl)
abbrev cX1_drives : ByteArray := prog_3_method_18_code
def yX1_drives : MethodName := ⟨RX1, "drives", "(I)I"⟩
def dkwX1_drives_1 : List UInt8 := [27, 182, 0, 114, 192, 0, 36, 3, 181, 0, 124, 28, 172]
abbrev dktX1_drives_1 : List UInt8 := dkwX1_drives_1 ++ []
def dkwX1_drives_0 : List UInt8 := [42, 4, 182, 0, 105, 42, 180, 0, 14, 27, 182, 0, 114, 192, 0, 36, 180, 0, 124, 61, 42, 180, 0, 14]
abbrev dktX1_drives_0 : List UInt8 := dkwX1_drives_0 ++ dktX1_drives_1
theorem dksX1_drives_0 : cX1_drives.data.toList.drop 0 = dktX1_drives_0 := by decide +kernel
theorem dksX1_drives_1 : cX1_drives.data.toList.drop 24 = dktX1_drives_1 := dk_seg dksX1_drives_0 24 rfl rfl
theorem dX1_drives_0 : decode cX1_drives 0 = .ok (.aload_n 0, 1) := dk_42 (dk_at dksX1_drives_0 0 rfl rfl)
theorem dX1_drives_1 : decode cX1_drives 1 = .ok (.iconst 1, 1) := dk_4 (dk_at dksX1_drives_0 1 rfl rfl)
theorem dX1_drives_2 : decode cX1_drives 2 = .ok (.invokevirtual 105, 3) := dk_182 0 105 (dk_at dksX1_drives_0 2 rfl rfl)
theorem dX1_drives_5 : decode cX1_drives 5 = .ok (.aload_n 0, 1) := dk_42 (dk_at dksX1_drives_0 5 rfl rfl)
theorem dX1_drives_6 : decode cX1_drives 6 = .ok (.getfield 14, 3) := dk_180 0 14 (dk_at dksX1_drives_0 6 rfl rfl)
theorem dX1_drives_9 : decode cX1_drives 9 = .ok (.iload_n 1, 1) := dk_27 (dk_at dksX1_drives_0 9 rfl rfl)
theorem dX1_drives_10 : decode cX1_drives 10 = .ok (.invokevirtual 114, 3) := dk_182 0 114 (dk_at dksX1_drives_0 10 rfl rfl)
theorem dX1_drives_13 : decode cX1_drives 13 = .ok (.checkcast 36, 3) := dk_192 0 36 (dk_at dksX1_drives_0 13 rfl rfl)
theorem dX1_drives_16 : decode cX1_drives 16 = .ok (.getfield 124, 3) := dk_180 0 124 (dk_at dksX1_drives_0 16 rfl rfl)
theorem dX1_drives_19 : decode cX1_drives 19 = .ok (.istore_n 2, 1) := dk_61 (dk_at dksX1_drives_0 19 rfl rfl)
theorem dX1_drives_20 : decode cX1_drives 20 = .ok (.aload_n 0, 1) := dk_42 (dk_at dksX1_drives_0 20 rfl rfl)
theorem dX1_drives_21 : decode cX1_drives 21 = .ok (.getfield 14, 3) := dk_180 0 14 (dk_at dksX1_drives_0 21 rfl rfl)
theorem dX1_drives_24 : decode cX1_drives 24 = .ok (.iload_n 1, 1) := dk_27 (dk_at dksX1_drives_1 0 rfl rfl)
theorem dX1_drives_25 : decode cX1_drives 25 = .ok (.invokevirtual 114, 3) := dk_182 0 114 (dk_at dksX1_drives_1 1 rfl rfl)
theorem dX1_drives_28 : decode cX1_drives 28 = .ok (.checkcast 36, 3) := dk_192 0 36 (dk_at dksX1_drives_1 4 rfl rfl)
theorem dX1_drives_31 : decode cX1_drives 31 = .ok (.iconst 0, 1) := dk_3 (dk_at dksX1_drives_1 7 rfl rfl)
theorem dX1_drives_32 : decode cX1_drives 32 = .ok (.putfield 124, 3) := dk_181 0 124 (dk_at dksX1_drives_1 8 rfl rfl)
theorem dX1_drives_35 : decode cX1_drives 35 = .ok (.iload_n 2, 1) := dk_28 (dk_at dksX1_drives_1 11 rfl rfl)
theorem dX1_drives_36 : decode cX1_drives 36 = .ok (.ireturn, 1) := dk_172 (dk_at dksX1_drives_1 12 rfl rfl)
abbrev cX1_tells : ByteArray := prog_3_method_19_code
def yX1_tells : MethodName := ⟨RX1, "tells", "(II)I"⟩
def dkwX1_tells_1 : List UInt8 := [172]
abbrev dktX1_tells_1 : List UInt8 := dkwX1_tells_1 ++ []
def dkwX1_tells_0 : List UInt8 := [16, 10, 42, 180, 0, 89, 104, 42, 180, 0, 92, 96, 62, 42, 27, 181, 0, 89, 42, 28, 181, 0, 92, 29]
abbrev dktX1_tells_0 : List UInt8 := dkwX1_tells_0 ++ dktX1_tells_1
theorem dksX1_tells_0 : cX1_tells.data.toList.drop 0 = dktX1_tells_0 := by decide +kernel
theorem dksX1_tells_1 : cX1_tells.data.toList.drop 24 = dktX1_tells_1 := dk_seg dksX1_tells_0 24 rfl rfl
theorem dX1_tells_0 : decode cX1_tells 0 = .ok (.bipush 10, 2) := dk_16 10 (dk_at dksX1_tells_0 0 rfl rfl)
theorem dX1_tells_2 : decode cX1_tells 2 = .ok (.aload_n 0, 1) := dk_42 (dk_at dksX1_tells_0 2 rfl rfl)
theorem dX1_tells_3 : decode cX1_tells 3 = .ok (.getfield 89, 3) := dk_180 0 89 (dk_at dksX1_tells_0 3 rfl rfl)
theorem dX1_tells_6 : decode cX1_tells 6 = .ok (.imul, 1) := dk_104 (dk_at dksX1_tells_0 6 rfl rfl)
theorem dX1_tells_7 : decode cX1_tells 7 = .ok (.aload_n 0, 1) := dk_42 (dk_at dksX1_tells_0 7 rfl rfl)
theorem dX1_tells_8 : decode cX1_tells 8 = .ok (.getfield 92, 3) := dk_180 0 92 (dk_at dksX1_tells_0 8 rfl rfl)
theorem dX1_tells_11 : decode cX1_tells 11 = .ok (.iadd, 1) := dk_96 (dk_at dksX1_tells_0 11 rfl rfl)
theorem dX1_tells_12 : decode cX1_tells 12 = .ok (.istore_n 3, 1) := dk_62 (dk_at dksX1_tells_0 12 rfl rfl)
theorem dX1_tells_13 : decode cX1_tells 13 = .ok (.aload_n 0, 1) := dk_42 (dk_at dksX1_tells_0 13 rfl rfl)
theorem dX1_tells_14 : decode cX1_tells 14 = .ok (.iload_n 1, 1) := dk_27 (dk_at dksX1_tells_0 14 rfl rfl)
theorem dX1_tells_15 : decode cX1_tells 15 = .ok (.putfield 89, 3) := dk_181 0 89 (dk_at dksX1_tells_0 15 rfl rfl)
theorem dX1_tells_18 : decode cX1_tells 18 = .ok (.aload_n 0, 1) := dk_42 (dk_at dksX1_tells_0 18 rfl rfl)
theorem dX1_tells_19 : decode cX1_tells 19 = .ok (.iload_n 2, 1) := dk_28 (dk_at dksX1_tells_0 19 rfl rfl)
theorem dX1_tells_20 : decode cX1_tells 20 = .ok (.putfield 92, 3) := dk_181 0 92 (dk_at dksX1_tells_0 20 rfl rfl)
theorem dX1_tells_23 : decode cX1_tells 23 = .ok (.iload_n 3, 1) := dk_29 (dk_at dksX1_tells_0 23 rfl rfl)
theorem dX1_tells_24 : decode cX1_tells 24 = .ok (.ireturn, 1) := dk_172 (dk_at dksX1_tells_1 0 rfl rfl)
abbrev cX1_hoursGo : ByteArray := prog_3_method_23_code
def yX1_hoursGo : MethodName := ⟨RX1, "hoursGo", "(I)I"⟩
def dkwX1_hoursGo_0 : List UInt8 := [3, 61, 3, 62, 29, 27, 162, 0, 16, 28, 42, 182, 0, 235, 96, 61, 132, 3, 1, 167, 255, 241, 28, 172]
abbrev dktX1_hoursGo_0 : List UInt8 := dkwX1_hoursGo_0 ++ []
theorem dksX1_hoursGo_0 : cX1_hoursGo.data.toList.drop 0 = dktX1_hoursGo_0 := by decide +kernel
theorem dX1_hoursGo_0 : decode cX1_hoursGo 0 = .ok (.iconst 0, 1) := dk_3 (dk_at dksX1_hoursGo_0 0 rfl rfl)
theorem dX1_hoursGo_1 : decode cX1_hoursGo 1 = .ok (.istore_n 2, 1) := dk_61 (dk_at dksX1_hoursGo_0 1 rfl rfl)
theorem dX1_hoursGo_2 : decode cX1_hoursGo 2 = .ok (.iconst 0, 1) := dk_3 (dk_at dksX1_hoursGo_0 2 rfl rfl)
theorem dX1_hoursGo_3 : decode cX1_hoursGo 3 = .ok (.istore_n 3, 1) := dk_62 (dk_at dksX1_hoursGo_0 3 rfl rfl)
theorem dX1_hoursGo_4 : decode cX1_hoursGo 4 = .ok (.iload_n 3, 1) := dk_29 (dk_at dksX1_hoursGo_0 4 rfl rfl)
theorem dX1_hoursGo_5 : decode cX1_hoursGo 5 = .ok (.iload_n 1, 1) := dk_27 (dk_at dksX1_hoursGo_0 5 rfl rfl)
theorem dX1_hoursGo_6 : decode cX1_hoursGo 6 = .ok (.if_icmp .ge 16, 3) := dk_162 0 16 (dk_at dksX1_hoursGo_0 6 rfl rfl)
theorem dX1_hoursGo_9 : decode cX1_hoursGo 9 = .ok (.iload_n 2, 1) := dk_28 (dk_at dksX1_hoursGo_0 9 rfl rfl)
theorem dX1_hoursGo_10 : decode cX1_hoursGo 10 = .ok (.aload_n 0, 1) := dk_42 (dk_at dksX1_hoursGo_0 10 rfl rfl)
theorem dX1_hoursGo_11 : decode cX1_hoursGo 11 = .ok (.invokevirtual 235, 3) := dk_182 0 235 (dk_at dksX1_hoursGo_0 11 rfl rfl)
theorem dX1_hoursGo_14 : decode cX1_hoursGo 14 = .ok (.iadd, 1) := dk_96 (dk_at dksX1_hoursGo_0 14 rfl rfl)
theorem dX1_hoursGo_15 : decode cX1_hoursGo 15 = .ok (.istore_n 2, 1) := dk_61 (dk_at dksX1_hoursGo_0 15 rfl rfl)
theorem dX1_hoursGo_16 : decode cX1_hoursGo 16 = .ok (.iinc 3 1, 3) := dk_132 3 1 (dk_at dksX1_hoursGo_0 16 rfl rfl)
theorem dX1_hoursGo_19 : decode cX1_hoursGo 19 = .ok (.goto (-15), 3) := dk_167 255 241 (dk_at dksX1_hoursGo_0 19 rfl rfl)
theorem dX1_hoursGo_22 : decode cX1_hoursGo 22 = .ok (.iload_n 2, 1) := dk_28 (dk_at dksX1_hoursGo_0 22 rfl rfl)
theorem dX1_hoursGo_23 : decode cX1_hoursGo 23 = .ok (.ireturn, 1) := dk_172 (dk_at dksX1_hoursGo_0 23 rfl rfl)
abbrev cX1_hourGoes : ByteArray := prog_3_method_21_code
def yX1_hourGoes : MethodName := ⟨RX1, "hourGoes", "()I"⟩
def dkwX1_hourGoes_5 : List UInt8 := [180, 0, 95, 4, 96, 181, 0, 95, 42, 180, 0, 95, 16, 24, 112, 154, 0, 7, 42, 182, 0, 230, 27, 172]
abbrev dktX1_hourGoes_5 : List UInt8 := dkwX1_hourGoes_5 ++ []
def dkwX1_hourGoes_4 : List UInt8 := [185, 0, 56, 1, 0, 192, 0, 64, 78, 45, 42, 180, 0, 89, 182, 0, 227, 167, 255, 229, 42, 89]
abbrev dktX1_hourGoes_4 : List UInt8 := dkwX1_hourGoes_4 ++ dktX1_hourGoes_5
def dkwX1_hourGoes_3 : List UInt8 := [181, 0, 98, 167, 255, 197, 42, 180, 0, 20, 182, 0, 46, 77, 44, 185, 0, 50, 1, 0, 153, 0, 24, 44]
abbrev dktX1_hourGoes_3 : List UInt8 := dkwX1_hourGoes_3 ++ dktX1_hourGoes_4
def dkwX1_hourGoes_2 : List UInt8 := [60, 45, 42, 180, 0, 89, 182, 0, 224, 42, 89, 180, 0, 98, 16, 10, 42, 180, 0, 89, 104, 96]
abbrev dktX1_hourGoes_2 : List UInt8 := dkwX1_hourGoes_2 ++ dktX1_hourGoes_3
def dkwX1_hourGoes_1 : List UInt8 := [185, 0, 56, 1, 0, 192, 0, 36, 78, 27, 45, 42, 180, 0, 89, 42, 45, 182, 0, 217, 182, 0, 221, 96]
abbrev dktX1_hourGoes_1 : List UInt8 := dkwX1_hourGoes_1 ++ dktX1_hourGoes_2
def dkwX1_hourGoes_0 : List UInt8 := [3, 60, 42, 180, 0, 14, 182, 0, 46, 77, 44, 185, 0, 50, 1, 0, 153, 0, 56, 44]
abbrev dktX1_hourGoes_0 : List UInt8 := dkwX1_hourGoes_0 ++ dktX1_hourGoes_1
theorem dksX1_hourGoes_0 : cX1_hourGoes.data.toList.drop 0 = dktX1_hourGoes_0 := by decide +kernel
theorem dksX1_hourGoes_1 : cX1_hourGoes.data.toList.drop 20 = dktX1_hourGoes_1 := dk_seg dksX1_hourGoes_0 20 rfl rfl
theorem dksX1_hourGoes_2 : cX1_hourGoes.data.toList.drop 44 = dktX1_hourGoes_2 := dk_seg dksX1_hourGoes_1 24 rfl rfl
theorem dksX1_hourGoes_3 : cX1_hourGoes.data.toList.drop 66 = dktX1_hourGoes_3 := dk_seg dksX1_hourGoes_2 22 rfl rfl
theorem dksX1_hourGoes_4 : cX1_hourGoes.data.toList.drop 90 = dktX1_hourGoes_4 := dk_seg dksX1_hourGoes_3 24 rfl rfl
theorem dksX1_hourGoes_5 : cX1_hourGoes.data.toList.drop 112 = dktX1_hourGoes_5 := dk_seg dksX1_hourGoes_4 22 rfl rfl
theorem dX1_hourGoes_0 : decode cX1_hourGoes 0 = .ok (.iconst 0, 1) := dk_3 (dk_at dksX1_hourGoes_0 0 rfl rfl)
theorem dX1_hourGoes_1 : decode cX1_hourGoes 1 = .ok (.istore_n 1, 1) := dk_60 (dk_at dksX1_hourGoes_0 1 rfl rfl)
theorem dX1_hourGoes_2 : decode cX1_hourGoes 2 = .ok (.aload_n 0, 1) := dk_42 (dk_at dksX1_hourGoes_0 2 rfl rfl)
theorem dX1_hourGoes_3 : decode cX1_hourGoes 3 = .ok (.getfield 14, 3) := dk_180 0 14 (dk_at dksX1_hourGoes_0 3 rfl rfl)
theorem dX1_hourGoes_6 : decode cX1_hourGoes 6 = .ok (.invokevirtual 46, 3) := dk_182 0 46 (dk_at dksX1_hourGoes_0 6 rfl rfl)
theorem dX1_hourGoes_9 : decode cX1_hourGoes 9 = .ok (.astore_n 2, 1) := dk_77 (dk_at dksX1_hourGoes_0 9 rfl rfl)
theorem dX1_hourGoes_10 : decode cX1_hourGoes 10 = .ok (.aload_n 2, 1) := dk_44 (dk_at dksX1_hourGoes_0 10 rfl rfl)
theorem dX1_hourGoes_11 : decode cX1_hourGoes 11 = .ok (.invokeinterface 50 1, 5) := by decide +kernel
theorem dX1_hourGoes_16 : decode cX1_hourGoes 16 = .ok (.ifCond .eq 56, 3) := dk_153 0 56 (dk_at dksX1_hourGoes_0 16 rfl rfl)
theorem dX1_hourGoes_19 : decode cX1_hourGoes 19 = .ok (.aload_n 2, 1) := dk_44 (dk_at dksX1_hourGoes_0 19 rfl rfl)
theorem dX1_hourGoes_20 : decode cX1_hourGoes 20 = .ok (.invokeinterface 56 1, 5) := by decide +kernel
theorem dX1_hourGoes_25 : decode cX1_hourGoes 25 = .ok (.checkcast 36, 3) := dk_192 0 36 (dk_at dksX1_hourGoes_1 5 rfl rfl)
theorem dX1_hourGoes_28 : decode cX1_hourGoes 28 = .ok (.astore_n 3, 1) := dk_78 (dk_at dksX1_hourGoes_1 8 rfl rfl)
theorem dX1_hourGoes_29 : decode cX1_hourGoes 29 = .ok (.iload_n 1, 1) := dk_27 (dk_at dksX1_hourGoes_1 9 rfl rfl)
theorem dX1_hourGoes_30 : decode cX1_hourGoes 30 = .ok (.aload_n 3, 1) := dk_45 (dk_at dksX1_hourGoes_1 10 rfl rfl)
theorem dX1_hourGoes_31 : decode cX1_hourGoes 31 = .ok (.aload_n 0, 1) := dk_42 (dk_at dksX1_hourGoes_1 11 rfl rfl)
theorem dX1_hourGoes_32 : decode cX1_hourGoes 32 = .ok (.getfield 89, 3) := dk_180 0 89 (dk_at dksX1_hourGoes_1 12 rfl rfl)
theorem dX1_hourGoes_35 : decode cX1_hourGoes 35 = .ok (.aload_n 0, 1) := dk_42 (dk_at dksX1_hourGoes_1 15 rfl rfl)
theorem dX1_hourGoes_36 : decode cX1_hourGoes 36 = .ok (.aload_n 3, 1) := dk_45 (dk_at dksX1_hourGoes_1 16 rfl rfl)
theorem dX1_hourGoes_37 : decode cX1_hourGoes 37 = .ok (.invokevirtual 217, 3) := dk_182 0 217 (dk_at dksX1_hourGoes_1 17 rfl rfl)
theorem dX1_hourGoes_40 : decode cX1_hourGoes 40 = .ok (.invokevirtual 221, 3) := dk_182 0 221 (dk_at dksX1_hourGoes_1 20 rfl rfl)
theorem dX1_hourGoes_43 : decode cX1_hourGoes 43 = .ok (.iadd, 1) := dk_96 (dk_at dksX1_hourGoes_1 23 rfl rfl)
theorem dX1_hourGoes_44 : decode cX1_hourGoes 44 = .ok (.istore_n 1, 1) := dk_60 (dk_at dksX1_hourGoes_2 0 rfl rfl)
theorem dX1_hourGoes_45 : decode cX1_hourGoes 45 = .ok (.aload_n 3, 1) := dk_45 (dk_at dksX1_hourGoes_2 1 rfl rfl)
theorem dX1_hourGoes_46 : decode cX1_hourGoes 46 = .ok (.aload_n 0, 1) := dk_42 (dk_at dksX1_hourGoes_2 2 rfl rfl)
theorem dX1_hourGoes_47 : decode cX1_hourGoes 47 = .ok (.getfield 89, 3) := dk_180 0 89 (dk_at dksX1_hourGoes_2 3 rfl rfl)
theorem dX1_hourGoes_50 : decode cX1_hourGoes 50 = .ok (.invokevirtual 224, 3) := dk_182 0 224 (dk_at dksX1_hourGoes_2 6 rfl rfl)
theorem dX1_hourGoes_53 : decode cX1_hourGoes 53 = .ok (.aload_n 0, 1) := dk_42 (dk_at dksX1_hourGoes_2 9 rfl rfl)
theorem dX1_hourGoes_54 : decode cX1_hourGoes 54 = .ok (.dup, 1) := dk_89 (dk_at dksX1_hourGoes_2 10 rfl rfl)
theorem dX1_hourGoes_55 : decode cX1_hourGoes 55 = .ok (.getfield 98, 3) := dk_180 0 98 (dk_at dksX1_hourGoes_2 11 rfl rfl)
theorem dX1_hourGoes_58 : decode cX1_hourGoes 58 = .ok (.bipush 10, 2) := dk_16 10 (dk_at dksX1_hourGoes_2 14 rfl rfl)
theorem dX1_hourGoes_60 : decode cX1_hourGoes 60 = .ok (.aload_n 0, 1) := dk_42 (dk_at dksX1_hourGoes_2 16 rfl rfl)
theorem dX1_hourGoes_61 : decode cX1_hourGoes 61 = .ok (.getfield 89, 3) := dk_180 0 89 (dk_at dksX1_hourGoes_2 17 rfl rfl)
theorem dX1_hourGoes_64 : decode cX1_hourGoes 64 = .ok (.imul, 1) := dk_104 (dk_at dksX1_hourGoes_2 20 rfl rfl)
theorem dX1_hourGoes_65 : decode cX1_hourGoes 65 = .ok (.iadd, 1) := dk_96 (dk_at dksX1_hourGoes_2 21 rfl rfl)
theorem dX1_hourGoes_66 : decode cX1_hourGoes 66 = .ok (.putfield 98, 3) := dk_181 0 98 (dk_at dksX1_hourGoes_3 0 rfl rfl)
theorem dX1_hourGoes_69 : decode cX1_hourGoes 69 = .ok (.goto (-59), 3) := dk_167 255 197 (dk_at dksX1_hourGoes_3 3 rfl rfl)
theorem dX1_hourGoes_72 : decode cX1_hourGoes 72 = .ok (.aload_n 0, 1) := dk_42 (dk_at dksX1_hourGoes_3 6 rfl rfl)
theorem dX1_hourGoes_73 : decode cX1_hourGoes 73 = .ok (.getfield 20, 3) := dk_180 0 20 (dk_at dksX1_hourGoes_3 7 rfl rfl)
theorem dX1_hourGoes_76 : decode cX1_hourGoes 76 = .ok (.invokevirtual 46, 3) := dk_182 0 46 (dk_at dksX1_hourGoes_3 10 rfl rfl)
theorem dX1_hourGoes_79 : decode cX1_hourGoes 79 = .ok (.astore_n 2, 1) := dk_77 (dk_at dksX1_hourGoes_3 13 rfl rfl)
theorem dX1_hourGoes_80 : decode cX1_hourGoes 80 = .ok (.aload_n 2, 1) := dk_44 (dk_at dksX1_hourGoes_3 14 rfl rfl)
theorem dX1_hourGoes_81 : decode cX1_hourGoes 81 = .ok (.invokeinterface 50 1, 5) := by decide +kernel
theorem dX1_hourGoes_86 : decode cX1_hourGoes 86 = .ok (.ifCond .eq 24, 3) := dk_153 0 24 (dk_at dksX1_hourGoes_3 20 rfl rfl)
theorem dX1_hourGoes_89 : decode cX1_hourGoes 89 = .ok (.aload_n 2, 1) := dk_44 (dk_at dksX1_hourGoes_3 23 rfl rfl)
theorem dX1_hourGoes_90 : decode cX1_hourGoes 90 = .ok (.invokeinterface 56 1, 5) := by decide +kernel
theorem dX1_hourGoes_95 : decode cX1_hourGoes 95 = .ok (.checkcast 64, 3) := dk_192 0 64 (dk_at dksX1_hourGoes_4 5 rfl rfl)
theorem dX1_hourGoes_98 : decode cX1_hourGoes 98 = .ok (.astore_n 3, 1) := dk_78 (dk_at dksX1_hourGoes_4 8 rfl rfl)
theorem dX1_hourGoes_99 : decode cX1_hourGoes 99 = .ok (.aload_n 3, 1) := dk_45 (dk_at dksX1_hourGoes_4 9 rfl rfl)
theorem dX1_hourGoes_100 : decode cX1_hourGoes 100 = .ok (.aload_n 0, 1) := dk_42 (dk_at dksX1_hourGoes_4 10 rfl rfl)
theorem dX1_hourGoes_101 : decode cX1_hourGoes 101 = .ok (.getfield 89, 3) := dk_180 0 89 (dk_at dksX1_hourGoes_4 11 rfl rfl)
theorem dX1_hourGoes_104 : decode cX1_hourGoes 104 = .ok (.invokevirtual 227, 3) := dk_182 0 227 (dk_at dksX1_hourGoes_4 14 rfl rfl)
theorem dX1_hourGoes_107 : decode cX1_hourGoes 107 = .ok (.goto (-27), 3) := dk_167 255 229 (dk_at dksX1_hourGoes_4 17 rfl rfl)
theorem dX1_hourGoes_110 : decode cX1_hourGoes 110 = .ok (.aload_n 0, 1) := dk_42 (dk_at dksX1_hourGoes_4 20 rfl rfl)
theorem dX1_hourGoes_111 : decode cX1_hourGoes 111 = .ok (.dup, 1) := dk_89 (dk_at dksX1_hourGoes_4 21 rfl rfl)
theorem dX1_hourGoes_112 : decode cX1_hourGoes 112 = .ok (.getfield 95, 3) := dk_180 0 95 (dk_at dksX1_hourGoes_5 0 rfl rfl)
theorem dX1_hourGoes_115 : decode cX1_hourGoes 115 = .ok (.iconst 1, 1) := dk_4 (dk_at dksX1_hourGoes_5 3 rfl rfl)
theorem dX1_hourGoes_116 : decode cX1_hourGoes 116 = .ok (.iadd, 1) := dk_96 (dk_at dksX1_hourGoes_5 4 rfl rfl)
theorem dX1_hourGoes_117 : decode cX1_hourGoes 117 = .ok (.putfield 95, 3) := dk_181 0 95 (dk_at dksX1_hourGoes_5 5 rfl rfl)
theorem dX1_hourGoes_120 : decode cX1_hourGoes 120 = .ok (.aload_n 0, 1) := dk_42 (dk_at dksX1_hourGoes_5 8 rfl rfl)
theorem dX1_hourGoes_121 : decode cX1_hourGoes 121 = .ok (.getfield 95, 3) := dk_180 0 95 (dk_at dksX1_hourGoes_5 9 rfl rfl)
theorem dX1_hourGoes_124 : decode cX1_hourGoes 124 = .ok (.bipush 24, 2) := dk_16 24 (dk_at dksX1_hourGoes_5 12 rfl rfl)
theorem dX1_hourGoes_126 : decode cX1_hourGoes 126 = .ok (.irem, 1) := dk_112 (dk_at dksX1_hourGoes_5 14 rfl rfl)
theorem dX1_hourGoes_127 : decode cX1_hourGoes 127 = .ok (.ifCond .ne 7, 3) := dk_154 0 7 (dk_at dksX1_hourGoes_5 15 rfl rfl)
theorem dX1_hourGoes_130 : decode cX1_hourGoes 130 = .ok (.aload_n 0, 1) := dk_42 (dk_at dksX1_hourGoes_5 18 rfl rfl)
theorem dX1_hourGoes_131 : decode cX1_hourGoes 131 = .ok (.invokevirtual 230, 3) := dk_182 0 230 (dk_at dksX1_hourGoes_5 19 rfl rfl)
theorem dX1_hourGoes_134 : decode cX1_hourGoes 134 = .ok (.iload_n 1, 1) := dk_27 (dk_at dksX1_hourGoes_5 22 rfl rfl)
theorem dX1_hourGoes_135 : decode cX1_hourGoes 135 = .ok (.ireturn, 1) := dk_172 (dk_at dksX1_hourGoes_5 23 rfl rfl)
abbrev cX1_spout : ByteArray := prog_3_method_20_code
def yX1_spout : MethodName := ⟨RX1, "spout", "(LGargoyleCopyists$Ledge;)I"⟩
def dkwX1_spout_1 : List UInt8 := [180, 0, 26, 43, 180, 0, 214, 182, 0, 114, 192, 0, 74, 3, 182, 0, 164, 167, 0, 4, 3, 172]
abbrev dktX1_spout_1 : List UInt8 := dkwX1_spout_1 ++ []
def dkwX1_spout_0 : List UInt8 := [43, 180, 0, 121, 154, 0, 11, 43, 3, 182, 0, 216, 167, 0, 33, 43, 180, 0, 121, 5, 160, 0, 24, 42]
abbrev dktX1_spout_0 : List UInt8 := dkwX1_spout_0 ++ dktX1_spout_1
theorem dksX1_spout_0 : cX1_spout.data.toList.drop 0 = dktX1_spout_0 := by decide +kernel
theorem dksX1_spout_1 : cX1_spout.data.toList.drop 24 = dktX1_spout_1 := dk_seg dksX1_spout_0 24 rfl rfl
theorem dX1_spout_0 : decode cX1_spout 0 = .ok (.aload_n 1, 1) := dk_43 (dk_at dksX1_spout_0 0 rfl rfl)
theorem dX1_spout_1 : decode cX1_spout 1 = .ok (.getfield 121, 3) := dk_180 0 121 (dk_at dksX1_spout_0 1 rfl rfl)
theorem dX1_spout_4 : decode cX1_spout 4 = .ok (.ifCond .ne 11, 3) := dk_154 0 11 (dk_at dksX1_spout_0 4 rfl rfl)
theorem dX1_spout_7 : decode cX1_spout 7 = .ok (.aload_n 1, 1) := dk_43 (dk_at dksX1_spout_0 7 rfl rfl)
theorem dX1_spout_8 : decode cX1_spout 8 = .ok (.iconst 0, 1) := dk_3 (dk_at dksX1_spout_0 8 rfl rfl)
theorem dX1_spout_9 : decode cX1_spout 9 = .ok (.invokevirtual 216, 3) := dk_182 0 216 (dk_at dksX1_spout_0 9 rfl rfl)
theorem dX1_spout_12 : decode cX1_spout 12 = .ok (.goto 33, 3) := dk_167 0 33 (dk_at dksX1_spout_0 12 rfl rfl)
theorem dX1_spout_15 : decode cX1_spout 15 = .ok (.aload_n 1, 1) := dk_43 (dk_at dksX1_spout_0 15 rfl rfl)
theorem dX1_spout_16 : decode cX1_spout 16 = .ok (.getfield 121, 3) := dk_180 0 121 (dk_at dksX1_spout_0 16 rfl rfl)
theorem dX1_spout_19 : decode cX1_spout 19 = .ok (.iconst 2, 1) := dk_5 (dk_at dksX1_spout_0 19 rfl rfl)
theorem dX1_spout_20 : decode cX1_spout 20 = .ok (.if_icmp .ne 24, 3) := dk_160 0 24 (dk_at dksX1_spout_0 20 rfl rfl)
theorem dX1_spout_23 : decode cX1_spout 23 = .ok (.aload_n 0, 1) := dk_42 (dk_at dksX1_spout_0 23 rfl rfl)
theorem dX1_spout_24 : decode cX1_spout 24 = .ok (.getfield 26, 3) := dk_180 0 26 (dk_at dksX1_spout_1 0 rfl rfl)
theorem dX1_spout_27 : decode cX1_spout 27 = .ok (.aload_n 1, 1) := dk_43 (dk_at dksX1_spout_1 3 rfl rfl)
theorem dX1_spout_28 : decode cX1_spout 28 = .ok (.getfield 214, 3) := dk_180 0 214 (dk_at dksX1_spout_1 4 rfl rfl)
theorem dX1_spout_31 : decode cX1_spout 31 = .ok (.invokevirtual 114, 3) := dk_182 0 114 (dk_at dksX1_spout_1 7 rfl rfl)
theorem dX1_spout_34 : decode cX1_spout 34 = .ok (.checkcast 74, 3) := dk_192 0 74 (dk_at dksX1_spout_1 10 rfl rfl)
theorem dX1_spout_37 : decode cX1_spout 37 = .ok (.iconst 0, 1) := dk_3 (dk_at dksX1_spout_1 13 rfl rfl)
theorem dX1_spout_38 : decode cX1_spout 38 = .ok (.invokevirtual 164, 3) := dk_182 0 164 (dk_at dksX1_spout_1 14 rfl rfl)
theorem dX1_spout_41 : decode cX1_spout 41 = .ok (.goto 4, 3) := dk_167 0 4 (dk_at dksX1_spout_1 17 rfl rfl)
theorem dX1_spout_44 : decode cX1_spout 44 = .ok (.iconst 0, 1) := dk_3 (dk_at dksX1_spout_1 20 rfl rfl)
theorem dX1_spout_45 : decode cX1_spout 45 = .ok (.ireturn, 1) := dk_172 (dk_at dksX1_spout_1 21 rfl rfl)
abbrev cX1_dayEnds : ByteArray := prog_3_method_22_code
def yX1_dayEnds : MethodName := ⟨RX1, "dayEnds", "()V"⟩
def dkwX1_dayEnds_3 : List UInt8 := [167, 255, 232, 177]
abbrev dktX1_dayEnds_3 : List UInt8 := dkwX1_dayEnds_3 ++ []
def dkwX1_dayEnds_2 : List UInt8 := [185, 0, 50, 1, 0, 153, 0, 21, 43, 185, 0, 56, 1, 0, 192, 0, 69, 77, 44, 3, 181, 0, 234]
abbrev dktX1_dayEnds_2 : List UInt8 := dkwX1_dayEnds_2 ++ dktX1_dayEnds_3
def dkwX1_dayEnds_1 : List UInt8 := [192, 0, 36, 77, 44, 182, 0, 233, 167, 255, 233, 42, 180, 0, 23, 182, 0, 46, 76, 43]
abbrev dktX1_dayEnds_1 : List UInt8 := dkwX1_dayEnds_1 ++ dktX1_dayEnds_2
def dkwX1_dayEnds_0 : List UInt8 := [42, 180, 0, 14, 182, 0, 46, 76, 43, 185, 0, 50, 1, 0, 153, 0, 20, 43, 185, 0, 56, 1, 0]
abbrev dktX1_dayEnds_0 : List UInt8 := dkwX1_dayEnds_0 ++ dktX1_dayEnds_1
theorem dksX1_dayEnds_0 : cX1_dayEnds.data.toList.drop 0 = dktX1_dayEnds_0 := by decide +kernel
theorem dksX1_dayEnds_1 : cX1_dayEnds.data.toList.drop 23 = dktX1_dayEnds_1 := dk_seg dksX1_dayEnds_0 23 rfl rfl
theorem dksX1_dayEnds_2 : cX1_dayEnds.data.toList.drop 43 = dktX1_dayEnds_2 := dk_seg dksX1_dayEnds_1 20 rfl rfl
theorem dksX1_dayEnds_3 : cX1_dayEnds.data.toList.drop 66 = dktX1_dayEnds_3 := dk_seg dksX1_dayEnds_2 23 rfl rfl
theorem dX1_dayEnds_0 : decode cX1_dayEnds 0 = .ok (.aload_n 0, 1) := dk_42 (dk_at dksX1_dayEnds_0 0 rfl rfl)
theorem dX1_dayEnds_1 : decode cX1_dayEnds 1 = .ok (.getfield 14, 3) := dk_180 0 14 (dk_at dksX1_dayEnds_0 1 rfl rfl)
theorem dX1_dayEnds_4 : decode cX1_dayEnds 4 = .ok (.invokevirtual 46, 3) := dk_182 0 46 (dk_at dksX1_dayEnds_0 4 rfl rfl)
theorem dX1_dayEnds_7 : decode cX1_dayEnds 7 = .ok (.astore_n 1, 1) := dk_76 (dk_at dksX1_dayEnds_0 7 rfl rfl)
theorem dX1_dayEnds_8 : decode cX1_dayEnds 8 = .ok (.aload_n 1, 1) := dk_43 (dk_at dksX1_dayEnds_0 8 rfl rfl)
theorem dX1_dayEnds_9 : decode cX1_dayEnds 9 = .ok (.invokeinterface 50 1, 5) := by decide +kernel
theorem dX1_dayEnds_14 : decode cX1_dayEnds 14 = .ok (.ifCond .eq 20, 3) := dk_153 0 20 (dk_at dksX1_dayEnds_0 14 rfl rfl)
theorem dX1_dayEnds_17 : decode cX1_dayEnds 17 = .ok (.aload_n 1, 1) := dk_43 (dk_at dksX1_dayEnds_0 17 rfl rfl)
theorem dX1_dayEnds_18 : decode cX1_dayEnds 18 = .ok (.invokeinterface 56 1, 5) := by decide +kernel
theorem dX1_dayEnds_23 : decode cX1_dayEnds 23 = .ok (.checkcast 36, 3) := dk_192 0 36 (dk_at dksX1_dayEnds_1 0 rfl rfl)
theorem dX1_dayEnds_26 : decode cX1_dayEnds 26 = .ok (.astore_n 2, 1) := dk_77 (dk_at dksX1_dayEnds_1 3 rfl rfl)
theorem dX1_dayEnds_27 : decode cX1_dayEnds 27 = .ok (.aload_n 2, 1) := dk_44 (dk_at dksX1_dayEnds_1 4 rfl rfl)
theorem dX1_dayEnds_28 : decode cX1_dayEnds 28 = .ok (.invokevirtual 233, 3) := dk_182 0 233 (dk_at dksX1_dayEnds_1 5 rfl rfl)
theorem dX1_dayEnds_31 : decode cX1_dayEnds 31 = .ok (.goto (-23), 3) := dk_167 255 233 (dk_at dksX1_dayEnds_1 8 rfl rfl)
theorem dX1_dayEnds_34 : decode cX1_dayEnds 34 = .ok (.aload_n 0, 1) := dk_42 (dk_at dksX1_dayEnds_1 11 rfl rfl)
theorem dX1_dayEnds_35 : decode cX1_dayEnds 35 = .ok (.getfield 23, 3) := dk_180 0 23 (dk_at dksX1_dayEnds_1 12 rfl rfl)
theorem dX1_dayEnds_38 : decode cX1_dayEnds 38 = .ok (.invokevirtual 46, 3) := dk_182 0 46 (dk_at dksX1_dayEnds_1 15 rfl rfl)
theorem dX1_dayEnds_41 : decode cX1_dayEnds 41 = .ok (.astore_n 1, 1) := dk_76 (dk_at dksX1_dayEnds_1 18 rfl rfl)
theorem dX1_dayEnds_42 : decode cX1_dayEnds 42 = .ok (.aload_n 1, 1) := dk_43 (dk_at dksX1_dayEnds_1 19 rfl rfl)
theorem dX1_dayEnds_43 : decode cX1_dayEnds 43 = .ok (.invokeinterface 50 1, 5) := by decide +kernel
theorem dX1_dayEnds_48 : decode cX1_dayEnds 48 = .ok (.ifCond .eq 21, 3) := dk_153 0 21 (dk_at dksX1_dayEnds_2 5 rfl rfl)
theorem dX1_dayEnds_51 : decode cX1_dayEnds 51 = .ok (.aload_n 1, 1) := dk_43 (dk_at dksX1_dayEnds_2 8 rfl rfl)
theorem dX1_dayEnds_52 : decode cX1_dayEnds 52 = .ok (.invokeinterface 56 1, 5) := by decide +kernel
theorem dX1_dayEnds_57 : decode cX1_dayEnds 57 = .ok (.checkcast 69, 3) := dk_192 0 69 (dk_at dksX1_dayEnds_2 14 rfl rfl)
theorem dX1_dayEnds_60 : decode cX1_dayEnds 60 = .ok (.astore_n 2, 1) := dk_77 (dk_at dksX1_dayEnds_2 17 rfl rfl)
theorem dX1_dayEnds_61 : decode cX1_dayEnds 61 = .ok (.aload_n 2, 1) := dk_44 (dk_at dksX1_dayEnds_2 18 rfl rfl)
theorem dX1_dayEnds_62 : decode cX1_dayEnds 62 = .ok (.iconst 0, 1) := dk_3 (dk_at dksX1_dayEnds_2 19 rfl rfl)
theorem dX1_dayEnds_63 : decode cX1_dayEnds 63 = .ok (.putfield 234, 3) := dk_181 0 234 (dk_at dksX1_dayEnds_2 20 rfl rfl)
theorem dX1_dayEnds_66 : decode cX1_dayEnds 66 = .ok (.goto (-24), 3) := dk_167 255 232 (dk_at dksX1_dayEnds_3 0 rfl rfl)
theorem dX1_dayEnds_69 : decode cX1_dayEnds 69 = .ok (.return_, 1) := dk_177 (dk_at dksX1_dayEnds_3 3 rfl rfl)
abbrev cX1_wornIn : ByteArray := prog_3_method_24_code
def yX1_wornIn : MethodName := ⟨RX1, "wornIn", "(LGargoyleCopyists$Ledge;)I"⟩
def dkwX1_wornIn_1 : List UInt8 := [4, 167, 0, 4, 3, 61, 28, 153, 0, 13, 16, 8, 43, 180, 0, 237, 100, 167, 0, 5, 16, 241, 172]
abbrev dktX1_wornIn_1 : List UInt8 := dkwX1_wornIn_1 ++ []
def dkwX1_wornIn_0 : List UInt8 := [43, 180, 0, 121, 154, 0, 24, 42, 180, 0, 89, 8, 161, 0, 16, 43, 180, 0, 207, 16, 9, 162, 0, 7]
abbrev dktX1_wornIn_0 : List UInt8 := dkwX1_wornIn_0 ++ dktX1_wornIn_1
theorem dksX1_wornIn_0 : cX1_wornIn.data.toList.drop 0 = dktX1_wornIn_0 := by decide +kernel
theorem dksX1_wornIn_1 : cX1_wornIn.data.toList.drop 24 = dktX1_wornIn_1 := dk_seg dksX1_wornIn_0 24 rfl rfl
theorem dX1_wornIn_0 : decode cX1_wornIn 0 = .ok (.aload_n 1, 1) := dk_43 (dk_at dksX1_wornIn_0 0 rfl rfl)
theorem dX1_wornIn_1 : decode cX1_wornIn 1 = .ok (.getfield 121, 3) := dk_180 0 121 (dk_at dksX1_wornIn_0 1 rfl rfl)
theorem dX1_wornIn_4 : decode cX1_wornIn 4 = .ok (.ifCond .ne 24, 3) := dk_154 0 24 (dk_at dksX1_wornIn_0 4 rfl rfl)
theorem dX1_wornIn_7 : decode cX1_wornIn 7 = .ok (.aload_n 0, 1) := dk_42 (dk_at dksX1_wornIn_0 7 rfl rfl)
theorem dX1_wornIn_8 : decode cX1_wornIn 8 = .ok (.getfield 89, 3) := dk_180 0 89 (dk_at dksX1_wornIn_0 8 rfl rfl)
theorem dX1_wornIn_11 : decode cX1_wornIn 11 = .ok (.iconst 5, 1) := dk_8 (dk_at dksX1_wornIn_0 11 rfl rfl)
theorem dX1_wornIn_12 : decode cX1_wornIn 12 = .ok (.if_icmp .lt 16, 3) := dk_161 0 16 (dk_at dksX1_wornIn_0 12 rfl rfl)
theorem dX1_wornIn_15 : decode cX1_wornIn 15 = .ok (.aload_n 1, 1) := dk_43 (dk_at dksX1_wornIn_0 15 rfl rfl)
theorem dX1_wornIn_16 : decode cX1_wornIn 16 = .ok (.getfield 207, 3) := dk_180 0 207 (dk_at dksX1_wornIn_0 16 rfl rfl)
theorem dX1_wornIn_19 : decode cX1_wornIn 19 = .ok (.bipush 9, 2) := dk_16 9 (dk_at dksX1_wornIn_0 19 rfl rfl)
theorem dX1_wornIn_21 : decode cX1_wornIn 21 = .ok (.if_icmp .ge 7, 3) := dk_162 0 7 (dk_at dksX1_wornIn_0 21 rfl rfl)
theorem dX1_wornIn_24 : decode cX1_wornIn 24 = .ok (.iconst 1, 1) := dk_4 (dk_at dksX1_wornIn_1 0 rfl rfl)
theorem dX1_wornIn_25 : decode cX1_wornIn 25 = .ok (.goto 4, 3) := dk_167 0 4 (dk_at dksX1_wornIn_1 1 rfl rfl)
theorem dX1_wornIn_28 : decode cX1_wornIn 28 = .ok (.iconst 0, 1) := dk_3 (dk_at dksX1_wornIn_1 4 rfl rfl)
theorem dX1_wornIn_29 : decode cX1_wornIn 29 = .ok (.istore_n 2, 1) := dk_61 (dk_at dksX1_wornIn_1 5 rfl rfl)
theorem dX1_wornIn_30 : decode cX1_wornIn 30 = .ok (.iload_n 2, 1) := dk_28 (dk_at dksX1_wornIn_1 6 rfl rfl)
theorem dX1_wornIn_31 : decode cX1_wornIn 31 = .ok (.ifCond .eq 13, 3) := dk_153 0 13 (dk_at dksX1_wornIn_1 7 rfl rfl)
theorem dX1_wornIn_34 : decode cX1_wornIn 34 = .ok (.bipush 8, 2) := dk_16 8 (dk_at dksX1_wornIn_1 10 rfl rfl)
theorem dX1_wornIn_36 : decode cX1_wornIn 36 = .ok (.aload_n 1, 1) := dk_43 (dk_at dksX1_wornIn_1 12 rfl rfl)
theorem dX1_wornIn_37 : decode cX1_wornIn 37 = .ok (.getfield 237, 3) := dk_180 0 237 (dk_at dksX1_wornIn_1 13 rfl rfl)
theorem dX1_wornIn_40 : decode cX1_wornIn 40 = .ok (.isub, 1) := dk_100 (dk_at dksX1_wornIn_1 16 rfl rfl)
theorem dX1_wornIn_41 : decode cX1_wornIn 41 = .ok (.goto 5, 3) := dk_167 0 5 (dk_at dksX1_wornIn_1 17 rfl rfl)
theorem dX1_wornIn_44 : decode cX1_wornIn 44 = .ok (.bipush (-15), 2) := dk_16 241 (dk_at dksX1_wornIn_1 20 rfl rfl)
theorem dX1_wornIn_46 : decode cX1_wornIn 46 = .ok (.ireturn, 1) := dk_172 (dk_at dksX1_wornIn_1 22 rfl rfl)
abbrev cX1_ledgesTold : ByteArray := prog_3_method_29_code
def yX1_ledgesTold : MethodName := ⟨RX1, "ledgesTold", "()Ljava/lang/String;"⟩
def dkwX1_ledgesTold_2 : List UInt8 := [182, 0, 254, 182, 1, 6, 76, 167, 255, 215, 43, 176]
abbrev dktX1_ledgesTold_2 : List UInt8 := dkwX1_ledgesTold_2 ++ []
def dkwX1_ledgesTold_1 : List UInt8 := [185, 0, 56, 1, 0, 192, 0, 36, 78, 187, 0, 251, 89, 183, 0, 253, 43, 182, 0, 254, 45, 182, 1, 2]
abbrev dktX1_ledgesTold_1 : List UInt8 := dkwX1_ledgesTold_1 ++ dktX1_ledgesTold_2
def dkwX1_ledgesTold_0 : List UInt8 := [18, 249, 76, 42, 180, 0, 14, 182, 0, 46, 77, 44, 185, 0, 50, 1, 0, 153, 0, 38, 44]
abbrev dktX1_ledgesTold_0 : List UInt8 := dkwX1_ledgesTold_0 ++ dktX1_ledgesTold_1
theorem dksX1_ledgesTold_0 : cX1_ledgesTold.data.toList.drop 0 = dktX1_ledgesTold_0 := by decide +kernel
theorem dksX1_ledgesTold_1 : cX1_ledgesTold.data.toList.drop 21 = dktX1_ledgesTold_1 := dk_seg dksX1_ledgesTold_0 21 rfl rfl
theorem dksX1_ledgesTold_2 : cX1_ledgesTold.data.toList.drop 45 = dktX1_ledgesTold_2 := dk_seg dksX1_ledgesTold_1 24 rfl rfl
theorem dX1_ledgesTold_0 : decode cX1_ledgesTold 0 = .ok (.ldc 249, 2) := dk_18 249 (dk_at dksX1_ledgesTold_0 0 rfl rfl)
theorem dX1_ledgesTold_2 : decode cX1_ledgesTold 2 = .ok (.astore_n 1, 1) := dk_76 (dk_at dksX1_ledgesTold_0 2 rfl rfl)
theorem dX1_ledgesTold_3 : decode cX1_ledgesTold 3 = .ok (.aload_n 0, 1) := dk_42 (dk_at dksX1_ledgesTold_0 3 rfl rfl)
theorem dX1_ledgesTold_4 : decode cX1_ledgesTold 4 = .ok (.getfield 14, 3) := dk_180 0 14 (dk_at dksX1_ledgesTold_0 4 rfl rfl)
theorem dX1_ledgesTold_7 : decode cX1_ledgesTold 7 = .ok (.invokevirtual 46, 3) := dk_182 0 46 (dk_at dksX1_ledgesTold_0 7 rfl rfl)
theorem dX1_ledgesTold_10 : decode cX1_ledgesTold 10 = .ok (.astore_n 2, 1) := dk_77 (dk_at dksX1_ledgesTold_0 10 rfl rfl)
theorem dX1_ledgesTold_11 : decode cX1_ledgesTold 11 = .ok (.aload_n 2, 1) := dk_44 (dk_at dksX1_ledgesTold_0 11 rfl rfl)
theorem dX1_ledgesTold_12 : decode cX1_ledgesTold 12 = .ok (.invokeinterface 50 1, 5) := by decide +kernel
theorem dX1_ledgesTold_17 : decode cX1_ledgesTold 17 = .ok (.ifCond .eq 38, 3) := dk_153 0 38 (dk_at dksX1_ledgesTold_0 17 rfl rfl)
theorem dX1_ledgesTold_20 : decode cX1_ledgesTold 20 = .ok (.aload_n 2, 1) := dk_44 (dk_at dksX1_ledgesTold_0 20 rfl rfl)
theorem dX1_ledgesTold_21 : decode cX1_ledgesTold 21 = .ok (.invokeinterface 56 1, 5) := by decide +kernel
theorem dX1_ledgesTold_26 : decode cX1_ledgesTold 26 = .ok (.checkcast 36, 3) := dk_192 0 36 (dk_at dksX1_ledgesTold_1 5 rfl rfl)
theorem dX1_ledgesTold_29 : decode cX1_ledgesTold 29 = .ok (.astore_n 3, 1) := dk_78 (dk_at dksX1_ledgesTold_1 8 rfl rfl)
theorem dX1_ledgesTold_30 : decode cX1_ledgesTold 30 = .ok (.new 251, 3) := dk_187 0 251 (dk_at dksX1_ledgesTold_1 9 rfl rfl)
theorem dX1_ledgesTold_33 : decode cX1_ledgesTold 33 = .ok (.dup, 1) := dk_89 (dk_at dksX1_ledgesTold_1 12 rfl rfl)
theorem dX1_ledgesTold_34 : decode cX1_ledgesTold 34 = .ok (.invokespecial 253, 3) := dk_183 0 253 (dk_at dksX1_ledgesTold_1 13 rfl rfl)
theorem dX1_ledgesTold_37 : decode cX1_ledgesTold 37 = .ok (.aload_n 1, 1) := dk_43 (dk_at dksX1_ledgesTold_1 16 rfl rfl)
theorem dX1_ledgesTold_38 : decode cX1_ledgesTold 38 = .ok (.invokevirtual 254, 3) := dk_182 0 254 (dk_at dksX1_ledgesTold_1 17 rfl rfl)
theorem dX1_ledgesTold_41 : decode cX1_ledgesTold 41 = .ok (.aload_n 3, 1) := dk_45 (dk_at dksX1_ledgesTold_1 20 rfl rfl)
theorem dX1_ledgesTold_42 : decode cX1_ledgesTold 42 = .ok (.invokevirtual 258, 3) := dk_182 1 2 (dk_at dksX1_ledgesTold_1 21 rfl rfl)
theorem dX1_ledgesTold_45 : decode cX1_ledgesTold 45 = .ok (.invokevirtual 254, 3) := dk_182 0 254 (dk_at dksX1_ledgesTold_2 0 rfl rfl)
theorem dX1_ledgesTold_48 : decode cX1_ledgesTold 48 = .ok (.invokevirtual 262, 3) := dk_182 1 6 (dk_at dksX1_ledgesTold_2 3 rfl rfl)
theorem dX1_ledgesTold_51 : decode cX1_ledgesTold 51 = .ok (.astore_n 1, 1) := dk_76 (dk_at dksX1_ledgesTold_2 6 rfl rfl)
theorem dX1_ledgesTold_52 : decode cX1_ledgesTold 52 = .ok (.goto (-41), 3) := dk_167 255 215 (dk_at dksX1_ledgesTold_2 7 rfl rfl)
theorem dX1_ledgesTold_55 : decode cX1_ledgesTold 55 = .ok (.aload_n 1, 1) := dk_43 (dk_at dksX1_ledgesTold_2 10 rfl rfl)
theorem dX1_ledgesTold_56 : decode cX1_ledgesTold 56 = .ok (.areturn, 1) := dk_176 (dk_at dksX1_ledgesTold_2 11 rfl rfl)
abbrev cX1_set : ByteArray := prog_3_method_8_code
def yX1_set : MethodName := ⟨RX1, "set", "()I"⟩
def dkwX1_set_2 : List UInt8 := [167, 255, 222, 27, 172]
abbrev dktX1_set_2 : List UInt8 := dkwX1_set_2 ++ []
def dkwX1_set_1 : List UInt8 := [185, 0, 56, 1, 0, 192, 0, 64, 78, 27, 45, 182, 0, 130, 153, 0, 7, 4, 167, 0, 4, 3, 96, 60]
abbrev dktX1_set_1 : List UInt8 := dkwX1_set_1 ++ dktX1_set_2
def dkwX1_set_0 : List UInt8 := [3, 60, 42, 180, 0, 20, 182, 0, 46, 77, 44, 185, 0, 50, 1, 0, 153, 0, 31, 44]
abbrev dktX1_set_0 : List UInt8 := dkwX1_set_0 ++ dktX1_set_1
theorem dksX1_set_0 : cX1_set.data.toList.drop 0 = dktX1_set_0 := by decide +kernel
theorem dksX1_set_1 : cX1_set.data.toList.drop 20 = dktX1_set_1 := dk_seg dksX1_set_0 20 rfl rfl
theorem dksX1_set_2 : cX1_set.data.toList.drop 44 = dktX1_set_2 := dk_seg dksX1_set_1 24 rfl rfl
theorem dX1_set_0 : decode cX1_set 0 = .ok (.iconst 0, 1) := dk_3 (dk_at dksX1_set_0 0 rfl rfl)
theorem dX1_set_1 : decode cX1_set 1 = .ok (.istore_n 1, 1) := dk_60 (dk_at dksX1_set_0 1 rfl rfl)
theorem dX1_set_2 : decode cX1_set 2 = .ok (.aload_n 0, 1) := dk_42 (dk_at dksX1_set_0 2 rfl rfl)
theorem dX1_set_3 : decode cX1_set 3 = .ok (.getfield 20, 3) := dk_180 0 20 (dk_at dksX1_set_0 3 rfl rfl)
theorem dX1_set_6 : decode cX1_set 6 = .ok (.invokevirtual 46, 3) := dk_182 0 46 (dk_at dksX1_set_0 6 rfl rfl)
theorem dX1_set_9 : decode cX1_set 9 = .ok (.astore_n 2, 1) := dk_77 (dk_at dksX1_set_0 9 rfl rfl)
theorem dX1_set_10 : decode cX1_set 10 = .ok (.aload_n 2, 1) := dk_44 (dk_at dksX1_set_0 10 rfl rfl)
theorem dX1_set_11 : decode cX1_set 11 = .ok (.invokeinterface 50 1, 5) := by decide +kernel
theorem dX1_set_16 : decode cX1_set 16 = .ok (.ifCond .eq 31, 3) := dk_153 0 31 (dk_at dksX1_set_0 16 rfl rfl)
theorem dX1_set_19 : decode cX1_set 19 = .ok (.aload_n 2, 1) := dk_44 (dk_at dksX1_set_0 19 rfl rfl)
theorem dX1_set_20 : decode cX1_set 20 = .ok (.invokeinterface 56 1, 5) := by decide +kernel
theorem dX1_set_25 : decode cX1_set 25 = .ok (.checkcast 64, 3) := dk_192 0 64 (dk_at dksX1_set_1 5 rfl rfl)
theorem dX1_set_28 : decode cX1_set 28 = .ok (.astore_n 3, 1) := dk_78 (dk_at dksX1_set_1 8 rfl rfl)
theorem dX1_set_29 : decode cX1_set 29 = .ok (.iload_n 1, 1) := dk_27 (dk_at dksX1_set_1 9 rfl rfl)
theorem dX1_set_30 : decode cX1_set 30 = .ok (.aload_n 3, 1) := dk_45 (dk_at dksX1_set_1 10 rfl rfl)
theorem dX1_set_31 : decode cX1_set 31 = .ok (.invokevirtual 130, 3) := dk_182 0 130 (dk_at dksX1_set_1 11 rfl rfl)
theorem dX1_set_34 : decode cX1_set 34 = .ok (.ifCond .eq 7, 3) := dk_153 0 7 (dk_at dksX1_set_1 14 rfl rfl)
theorem dX1_set_37 : decode cX1_set 37 = .ok (.iconst 1, 1) := dk_4 (dk_at dksX1_set_1 17 rfl rfl)
theorem dX1_set_38 : decode cX1_set 38 = .ok (.goto 4, 3) := dk_167 0 4 (dk_at dksX1_set_1 18 rfl rfl)
theorem dX1_set_41 : decode cX1_set 41 = .ok (.iconst 0, 1) := dk_3 (dk_at dksX1_set_1 21 rfl rfl)
theorem dX1_set_42 : decode cX1_set 42 = .ok (.iadd, 1) := dk_96 (dk_at dksX1_set_1 22 rfl rfl)
theorem dX1_set_43 : decode cX1_set 43 = .ok (.istore_n 1, 1) := dk_60 (dk_at dksX1_set_1 23 rfl rfl)
theorem dX1_set_44 : decode cX1_set 44 = .ok (.goto (-34), 3) := dk_167 255 222 (dk_at dksX1_set_2 0 rfl rfl)
theorem dX1_set_47 : decode cX1_set 47 = .ok (.iload_n 1, 1) := dk_27 (dk_at dksX1_set_2 3 rfl rfl)
theorem dX1_set_48 : decode cX1_set 48 = .ok (.ireturn, 1) := dk_172 (dk_at dksX1_set_2 4 rfl rfl)
abbrev cX1_up : ByteArray := prog_3_method_25_code
def yX1_up : MethodName := ⟨RX1, "up", "()I"⟩
def dkwX1_up_2 : List UInt8 := [167, 255, 222, 27, 172]
abbrev dktX1_up_2 : List UInt8 := dkwX1_up_2 ++ []
def dkwX1_up_1 : List UInt8 := [185, 0, 56, 1, 0, 192, 0, 74, 78, 27, 45, 180, 0, 153, 153, 0, 7, 4, 167, 0, 4, 3, 96, 60]
abbrev dktX1_up_1 : List UInt8 := dkwX1_up_1 ++ dktX1_up_2
def dkwX1_up_0 : List UInt8 := [3, 60, 42, 180, 0, 26, 182, 0, 46, 77, 44, 185, 0, 50, 1, 0, 153, 0, 31, 44]
abbrev dktX1_up_0 : List UInt8 := dkwX1_up_0 ++ dktX1_up_1
theorem dksX1_up_0 : cX1_up.data.toList.drop 0 = dktX1_up_0 := by decide +kernel
theorem dksX1_up_1 : cX1_up.data.toList.drop 20 = dktX1_up_1 := dk_seg dksX1_up_0 20 rfl rfl
theorem dksX1_up_2 : cX1_up.data.toList.drop 44 = dktX1_up_2 := dk_seg dksX1_up_1 24 rfl rfl
theorem dX1_up_0 : decode cX1_up 0 = .ok (.iconst 0, 1) := dk_3 (dk_at dksX1_up_0 0 rfl rfl)
theorem dX1_up_1 : decode cX1_up 1 = .ok (.istore_n 1, 1) := dk_60 (dk_at dksX1_up_0 1 rfl rfl)
theorem dX1_up_2 : decode cX1_up 2 = .ok (.aload_n 0, 1) := dk_42 (dk_at dksX1_up_0 2 rfl rfl)
theorem dX1_up_3 : decode cX1_up 3 = .ok (.getfield 26, 3) := dk_180 0 26 (dk_at dksX1_up_0 3 rfl rfl)
theorem dX1_up_6 : decode cX1_up 6 = .ok (.invokevirtual 46, 3) := dk_182 0 46 (dk_at dksX1_up_0 6 rfl rfl)
theorem dX1_up_9 : decode cX1_up 9 = .ok (.astore_n 2, 1) := dk_77 (dk_at dksX1_up_0 9 rfl rfl)
theorem dX1_up_10 : decode cX1_up 10 = .ok (.aload_n 2, 1) := dk_44 (dk_at dksX1_up_0 10 rfl rfl)
theorem dX1_up_11 : decode cX1_up 11 = .ok (.invokeinterface 50 1, 5) := by decide +kernel
theorem dX1_up_16 : decode cX1_up 16 = .ok (.ifCond .eq 31, 3) := dk_153 0 31 (dk_at dksX1_up_0 16 rfl rfl)
theorem dX1_up_19 : decode cX1_up 19 = .ok (.aload_n 2, 1) := dk_44 (dk_at dksX1_up_0 19 rfl rfl)
theorem dX1_up_20 : decode cX1_up 20 = .ok (.invokeinterface 56 1, 5) := by decide +kernel
theorem dX1_up_25 : decode cX1_up 25 = .ok (.checkcast 74, 3) := dk_192 0 74 (dk_at dksX1_up_1 5 rfl rfl)
theorem dX1_up_28 : decode cX1_up 28 = .ok (.astore_n 3, 1) := dk_78 (dk_at dksX1_up_1 8 rfl rfl)
theorem dX1_up_29 : decode cX1_up 29 = .ok (.iload_n 1, 1) := dk_27 (dk_at dksX1_up_1 9 rfl rfl)
theorem dX1_up_30 : decode cX1_up 30 = .ok (.aload_n 3, 1) := dk_45 (dk_at dksX1_up_1 10 rfl rfl)
theorem dX1_up_31 : decode cX1_up 31 = .ok (.getfield 153, 3) := dk_180 0 153 (dk_at dksX1_up_1 11 rfl rfl)
theorem dX1_up_34 : decode cX1_up 34 = .ok (.ifCond .eq 7, 3) := dk_153 0 7 (dk_at dksX1_up_1 14 rfl rfl)
theorem dX1_up_37 : decode cX1_up 37 = .ok (.iconst 1, 1) := dk_4 (dk_at dksX1_up_1 17 rfl rfl)
theorem dX1_up_38 : decode cX1_up 38 = .ok (.goto 4, 3) := dk_167 0 4 (dk_at dksX1_up_1 18 rfl rfl)
theorem dX1_up_41 : decode cX1_up 41 = .ok (.iconst 0, 1) := dk_3 (dk_at dksX1_up_1 21 rfl rfl)
theorem dX1_up_42 : decode cX1_up 42 = .ok (.iadd, 1) := dk_96 (dk_at dksX1_up_1 22 rfl rfl)
theorem dX1_up_43 : decode cX1_up 43 = .ok (.istore_n 1, 1) := dk_60 (dk_at dksX1_up_1 23 rfl rfl)
theorem dX1_up_44 : decode cX1_up 44 = .ok (.goto (-34), 3) := dk_167 255 222 (dk_at dksX1_up_2 0 rfl rfl)
theorem dX1_up_47 : decode cX1_up 47 = .ok (.iload_n 1, 1) := dk_27 (dk_at dksX1_up_2 3 rfl rfl)
theorem dX1_up_48 : decode cX1_up 48 = .ok (.ireturn, 1) := dk_172 (dk_at dksX1_up_2 4 rfl rfl)
abbrev cX1_points : ByteArray := prog_3_method_26_code
def yX1_points : MethodName := ⟨RX1, "points", "()I"⟩
def dkwX1_points_1 : List UInt8 := [185, 0, 56, 1, 0, 192, 0, 69, 78, 27, 45, 180, 0, 240, 96, 60, 167, 255, 230, 27, 172]
abbrev dktX1_points_1 : List UInt8 := dkwX1_points_1 ++ []
def dkwX1_points_0 : List UInt8 := [3, 60, 42, 180, 0, 23, 182, 0, 46, 77, 44, 185, 0, 50, 1, 0, 153, 0, 23, 44]
abbrev dktX1_points_0 : List UInt8 := dkwX1_points_0 ++ dktX1_points_1
theorem dksX1_points_0 : cX1_points.data.toList.drop 0 = dktX1_points_0 := by decide +kernel
theorem dksX1_points_1 : cX1_points.data.toList.drop 20 = dktX1_points_1 := dk_seg dksX1_points_0 20 rfl rfl
theorem dX1_points_0 : decode cX1_points 0 = .ok (.iconst 0, 1) := dk_3 (dk_at dksX1_points_0 0 rfl rfl)
theorem dX1_points_1 : decode cX1_points 1 = .ok (.istore_n 1, 1) := dk_60 (dk_at dksX1_points_0 1 rfl rfl)
theorem dX1_points_2 : decode cX1_points 2 = .ok (.aload_n 0, 1) := dk_42 (dk_at dksX1_points_0 2 rfl rfl)
theorem dX1_points_3 : decode cX1_points 3 = .ok (.getfield 23, 3) := dk_180 0 23 (dk_at dksX1_points_0 3 rfl rfl)
theorem dX1_points_6 : decode cX1_points 6 = .ok (.invokevirtual 46, 3) := dk_182 0 46 (dk_at dksX1_points_0 6 rfl rfl)
theorem dX1_points_9 : decode cX1_points 9 = .ok (.astore_n 2, 1) := dk_77 (dk_at dksX1_points_0 9 rfl rfl)
theorem dX1_points_10 : decode cX1_points 10 = .ok (.aload_n 2, 1) := dk_44 (dk_at dksX1_points_0 10 rfl rfl)
theorem dX1_points_11 : decode cX1_points 11 = .ok (.invokeinterface 50 1, 5) := by decide +kernel
theorem dX1_points_16 : decode cX1_points 16 = .ok (.ifCond .eq 23, 3) := dk_153 0 23 (dk_at dksX1_points_0 16 rfl rfl)
theorem dX1_points_19 : decode cX1_points 19 = .ok (.aload_n 2, 1) := dk_44 (dk_at dksX1_points_0 19 rfl rfl)
theorem dX1_points_20 : decode cX1_points 20 = .ok (.invokeinterface 56 1, 5) := by decide +kernel
theorem dX1_points_25 : decode cX1_points 25 = .ok (.checkcast 69, 3) := dk_192 0 69 (dk_at dksX1_points_1 5 rfl rfl)
theorem dX1_points_28 : decode cX1_points 28 = .ok (.astore_n 3, 1) := dk_78 (dk_at dksX1_points_1 8 rfl rfl)
theorem dX1_points_29 : decode cX1_points 29 = .ok (.iload_n 1, 1) := dk_27 (dk_at dksX1_points_1 9 rfl rfl)
theorem dX1_points_30 : decode cX1_points 30 = .ok (.aload_n 3, 1) := dk_45 (dk_at dksX1_points_1 10 rfl rfl)
theorem dX1_points_31 : decode cX1_points 31 = .ok (.getfield 240, 3) := dk_180 0 240 (dk_at dksX1_points_1 11 rfl rfl)
theorem dX1_points_34 : decode cX1_points 34 = .ok (.iadd, 1) := dk_96 (dk_at dksX1_points_1 14 rfl rfl)
theorem dX1_points_35 : decode cX1_points 35 = .ok (.istore_n 1, 1) := dk_60 (dk_at dksX1_points_1 15 rfl rfl)
theorem dX1_points_36 : decode cX1_points 36 = .ok (.goto (-26), 3) := dk_167 255 230 (dk_at dksX1_points_1 16 rfl rfl)
theorem dX1_points_39 : decode cX1_points 39 = .ok (.iload_n 1, 1) := dk_27 (dk_at dksX1_points_1 19 rfl rfl)
theorem dX1_points_40 : decode cX1_points 40 = .ok (.ireturn, 1) := dk_172 (dk_at dksX1_points_1 20 rfl rfl)
abbrev cX1_ofLedges : ByteArray := prog_3_method_27_code
def yX1_ofLedges : MethodName := ⟨RX1, "ofLedges", "(I)I"⟩
def dkwX1_ofLedges_1 : List UInt8 := [185, 0, 56, 1, 0, 192, 0, 36, 58, 4, 28, 25, 4, 27, 182, 0, 243, 96, 61, 167, 255, 227, 28, 172]
abbrev dktX1_ofLedges_1 : List UInt8 := dkwX1_ofLedges_1 ++ []
def dkwX1_ofLedges_0 : List UInt8 := [3, 61, 42, 180, 0, 14, 182, 0, 46, 78, 45, 185, 0, 50, 1, 0, 153, 0, 26, 45]
abbrev dktX1_ofLedges_0 : List UInt8 := dkwX1_ofLedges_0 ++ dktX1_ofLedges_1
theorem dksX1_ofLedges_0 : cX1_ofLedges.data.toList.drop 0 = dktX1_ofLedges_0 := by decide +kernel
theorem dksX1_ofLedges_1 : cX1_ofLedges.data.toList.drop 20 = dktX1_ofLedges_1 := dk_seg dksX1_ofLedges_0 20 rfl rfl
theorem dX1_ofLedges_0 : decode cX1_ofLedges 0 = .ok (.iconst 0, 1) := dk_3 (dk_at dksX1_ofLedges_0 0 rfl rfl)
theorem dX1_ofLedges_1 : decode cX1_ofLedges 1 = .ok (.istore_n 2, 1) := dk_61 (dk_at dksX1_ofLedges_0 1 rfl rfl)
theorem dX1_ofLedges_2 : decode cX1_ofLedges 2 = .ok (.aload_n 0, 1) := dk_42 (dk_at dksX1_ofLedges_0 2 rfl rfl)
theorem dX1_ofLedges_3 : decode cX1_ofLedges 3 = .ok (.getfield 14, 3) := dk_180 0 14 (dk_at dksX1_ofLedges_0 3 rfl rfl)
theorem dX1_ofLedges_6 : decode cX1_ofLedges 6 = .ok (.invokevirtual 46, 3) := dk_182 0 46 (dk_at dksX1_ofLedges_0 6 rfl rfl)
theorem dX1_ofLedges_9 : decode cX1_ofLedges 9 = .ok (.astore_n 3, 1) := dk_78 (dk_at dksX1_ofLedges_0 9 rfl rfl)
theorem dX1_ofLedges_10 : decode cX1_ofLedges 10 = .ok (.aload_n 3, 1) := dk_45 (dk_at dksX1_ofLedges_0 10 rfl rfl)
theorem dX1_ofLedges_11 : decode cX1_ofLedges 11 = .ok (.invokeinterface 50 1, 5) := by decide +kernel
theorem dX1_ofLedges_16 : decode cX1_ofLedges 16 = .ok (.ifCond .eq 26, 3) := dk_153 0 26 (dk_at dksX1_ofLedges_0 16 rfl rfl)
theorem dX1_ofLedges_19 : decode cX1_ofLedges 19 = .ok (.aload_n 3, 1) := dk_45 (dk_at dksX1_ofLedges_0 19 rfl rfl)
theorem dX1_ofLedges_20 : decode cX1_ofLedges 20 = .ok (.invokeinterface 56 1, 5) := by decide +kernel
theorem dX1_ofLedges_25 : decode cX1_ofLedges 25 = .ok (.checkcast 36, 3) := dk_192 0 36 (dk_at dksX1_ofLedges_1 5 rfl rfl)
theorem dX1_ofLedges_28 : decode cX1_ofLedges 28 = .ok (.astore 4, 2) := dk_58 4 (dk_at dksX1_ofLedges_1 8 rfl rfl)
theorem dX1_ofLedges_30 : decode cX1_ofLedges 30 = .ok (.iload_n 2, 1) := dk_28 (dk_at dksX1_ofLedges_1 10 rfl rfl)
theorem dX1_ofLedges_31 : decode cX1_ofLedges 31 = .ok (.aload 4, 2) := dk_25 4 (dk_at dksX1_ofLedges_1 11 rfl rfl)
theorem dX1_ofLedges_33 : decode cX1_ofLedges 33 = .ok (.iload_n 1, 1) := dk_27 (dk_at dksX1_ofLedges_1 13 rfl rfl)
theorem dX1_ofLedges_34 : decode cX1_ofLedges 34 = .ok (.invokevirtual 243, 3) := dk_182 0 243 (dk_at dksX1_ofLedges_1 14 rfl rfl)
theorem dX1_ofLedges_37 : decode cX1_ofLedges 37 = .ok (.iadd, 1) := dk_96 (dk_at dksX1_ofLedges_1 17 rfl rfl)
theorem dX1_ofLedges_38 : decode cX1_ofLedges 38 = .ok (.istore_n 2, 1) := dk_61 (dk_at dksX1_ofLedges_1 18 rfl rfl)
theorem dX1_ofLedges_39 : decode cX1_ofLedges 39 = .ok (.goto (-29), 3) := dk_167 255 227 (dk_at dksX1_ofLedges_1 19 rfl rfl)
theorem dX1_ofLedges_42 : decode cX1_ofLedges 42 = .ok (.iload_n 2, 1) := dk_28 (dk_at dksX1_ofLedges_1 22 rfl rfl)
theorem dX1_ofLedges_43 : decode cX1_ofLedges 43 = .ok (.ireturn, 1) := dk_172 (dk_at dksX1_ofLedges_1 23 rfl rfl)
abbrev cX1_isBalanced : ByteArray := prog_3_method_28_code
def yX1_isBalanced : MethodName := ⟨RX1, "isBalanced", "()Z"⟩
def dkwX1_isBalanced_1 : List UInt8 := [16, 20, 42, 180, 0, 83, 96, 42, 180, 0, 86, 100, 160, 0, 7, 4, 167, 0, 4, 3, 172]
abbrev dktX1_isBalanced_1 : List UInt8 := dkwX1_isBalanced_1 ++ []
def dkwX1_isBalanced_0 : List UInt8 := [42, 180, 0, 98, 42, 8, 182, 0, 246, 42, 16, 6, 182, 0, 246, 96, 160, 0, 26, 42, 180, 0, 33]
abbrev dktX1_isBalanced_0 : List UInt8 := dkwX1_isBalanced_0 ++ dktX1_isBalanced_1
theorem dksX1_isBalanced_0 : cX1_isBalanced.data.toList.drop 0 = dktX1_isBalanced_0 := by decide +kernel
theorem dksX1_isBalanced_1 : cX1_isBalanced.data.toList.drop 23 = dktX1_isBalanced_1 := dk_seg dksX1_isBalanced_0 23 rfl rfl
theorem dX1_isBalanced_0 : decode cX1_isBalanced 0 = .ok (.aload_n 0, 1) := dk_42 (dk_at dksX1_isBalanced_0 0 rfl rfl)
theorem dX1_isBalanced_1 : decode cX1_isBalanced 1 = .ok (.getfield 98, 3) := dk_180 0 98 (dk_at dksX1_isBalanced_0 1 rfl rfl)
theorem dX1_isBalanced_4 : decode cX1_isBalanced 4 = .ok (.aload_n 0, 1) := dk_42 (dk_at dksX1_isBalanced_0 4 rfl rfl)
theorem dX1_isBalanced_5 : decode cX1_isBalanced 5 = .ok (.iconst 5, 1) := dk_8 (dk_at dksX1_isBalanced_0 5 rfl rfl)
theorem dX1_isBalanced_6 : decode cX1_isBalanced 6 = .ok (.invokevirtual 246, 3) := dk_182 0 246 (dk_at dksX1_isBalanced_0 6 rfl rfl)
theorem dX1_isBalanced_9 : decode cX1_isBalanced 9 = .ok (.aload_n 0, 1) := dk_42 (dk_at dksX1_isBalanced_0 9 rfl rfl)
theorem dX1_isBalanced_10 : decode cX1_isBalanced 10 = .ok (.bipush 6, 2) := dk_16 6 (dk_at dksX1_isBalanced_0 10 rfl rfl)
theorem dX1_isBalanced_12 : decode cX1_isBalanced 12 = .ok (.invokevirtual 246, 3) := dk_182 0 246 (dk_at dksX1_isBalanced_0 12 rfl rfl)
theorem dX1_isBalanced_15 : decode cX1_isBalanced 15 = .ok (.iadd, 1) := dk_96 (dk_at dksX1_isBalanced_0 15 rfl rfl)
theorem dX1_isBalanced_16 : decode cX1_isBalanced 16 = .ok (.if_icmp .ne 26, 3) := dk_160 0 26 (dk_at dksX1_isBalanced_0 16 rfl rfl)
theorem dX1_isBalanced_19 : decode cX1_isBalanced 19 = .ok (.aload_n 0, 1) := dk_42 (dk_at dksX1_isBalanced_0 19 rfl rfl)
theorem dX1_isBalanced_20 : decode cX1_isBalanced 20 = .ok (.getfield 33, 3) := dk_180 0 33 (dk_at dksX1_isBalanced_0 20 rfl rfl)
theorem dX1_isBalanced_23 : decode cX1_isBalanced 23 = .ok (.bipush 20, 2) := dk_16 20 (dk_at dksX1_isBalanced_1 0 rfl rfl)
theorem dX1_isBalanced_25 : decode cX1_isBalanced 25 = .ok (.aload_n 0, 1) := dk_42 (dk_at dksX1_isBalanced_1 2 rfl rfl)
theorem dX1_isBalanced_26 : decode cX1_isBalanced 26 = .ok (.getfield 83, 3) := dk_180 0 83 (dk_at dksX1_isBalanced_1 3 rfl rfl)
theorem dX1_isBalanced_29 : decode cX1_isBalanced 29 = .ok (.iadd, 1) := dk_96 (dk_at dksX1_isBalanced_1 6 rfl rfl)
theorem dX1_isBalanced_30 : decode cX1_isBalanced 30 = .ok (.aload_n 0, 1) := dk_42 (dk_at dksX1_isBalanced_1 7 rfl rfl)
theorem dX1_isBalanced_31 : decode cX1_isBalanced 31 = .ok (.getfield 86, 3) := dk_180 0 86 (dk_at dksX1_isBalanced_1 8 rfl rfl)
theorem dX1_isBalanced_34 : decode cX1_isBalanced 34 = .ok (.isub, 1) := dk_100 (dk_at dksX1_isBalanced_1 11 rfl rfl)
theorem dX1_isBalanced_35 : decode cX1_isBalanced 35 = .ok (.if_icmp .ne 7, 3) := dk_160 0 7 (dk_at dksX1_isBalanced_1 12 rfl rfl)
theorem dX1_isBalanced_38 : decode cX1_isBalanced 38 = .ok (.iconst 1, 1) := dk_4 (dk_at dksX1_isBalanced_1 15 rfl rfl)
theorem dX1_isBalanced_39 : decode cX1_isBalanced 39 = .ok (.goto 4, 3) := dk_167 0 4 (dk_at dksX1_isBalanced_1 16 rfl rfl)
theorem dX1_isBalanced_42 : decode cX1_isBalanced 42 = .ok (.iconst 0, 1) := dk_3 (dk_at dksX1_isBalanced_1 19 rfl rfl)
theorem dX1_isBalanced_43 : decode cX1_isBalanced 43 = .ok (.ireturn, 1) := dk_172 (dk_at dksX1_isBalanced_1 20 rfl rfl)
theorem q65 : (Jvm.Cond.initialized "GargoyleCopyists$Church") ∈ lw_all := lw_g (lw_at lw_m1 2 rfl) rfl
theorem q112 : (Jvm.Cond.instantiable "GargoyleCopyists$Church" (12 : Nat)) ∈ lw_all := lw_g (lw_at lw_m1 49 rfl) rfl
theorem q114 : (Jvm.Cond.instanceMethod ({ cls := "GargoyleCopyists$Church", name := "<init>", desc := "()V" } : Jvm.MethodName)) ∈ lw_all := lw_g (lw_at lw_m1 51 rfl) rfl
theorem q115 : (Jvm.Cond.code ({ cls := "GargoyleCopyists$Church", name := "<init>", desc := "()V" } : Jvm.MethodName) prog_3_method_2_code (1 : Nat) (Option.none : Option Jvm.ClassFile.FieldType)) ∈ lw_all := lw_g (lw_at lw_m1 52 rfl) rfl
theorem q116 : (Jvm.Cond.methodLink "GargoyleCopyists$Church" (43 : Nat) ({ cls := "GargoyleCopyists$Church", name := "<init>", desc := "(Z)V" } : Jvm.MethodName)) ∈ lw_all := lw_g (lw_at lw_m1 53 rfl) rfl
theorem q117 : (Jvm.Cond.instanceMethod ({ cls := "GargoyleCopyists$Church", name := "<init>", desc := "(Z)V" } : Jvm.MethodName)) ∈ lw_all := lw_g (lw_at lw_m1 54 rfl) rfl
theorem q118 : (Jvm.Cond.code ({ cls := "GargoyleCopyists$Church", name := "<init>", desc := "(Z)V" } : Jvm.MethodName) prog_3_method_1_code (4 : Nat) (Option.none : Option Jvm.ClassFile.FieldType)) ∈ lw_all := lw_g (lw_at lw_m1 55 rfl) rfl
theorem q119 : (Jvm.Cond.methodLink "GargoyleCopyists$Church" (3 : Nat) ({ cls := "java/lang/Object", name := "<init>", desc := "()V" } : Jvm.MethodName)) ∈ lw_all := lw_g (lw_at lw_m1 56 rfl) rfl
theorem q120 : (Jvm.Cond.classLink "GargoyleCopyists$Church" (9 : Nat) "GargoyleCopyists$Row") ∈ lw_all := lw_g (lw_at lw_m1 57 rfl) rfl
theorem q122 : (Jvm.Cond.methodLink "GargoyleCopyists$Church" (11 : Nat) ({ cls := "GargoyleCopyists$Row", name := "<init>", desc := "(I)V" } : Jvm.MethodName)) ∈ lw_all := lw_g (lw_at lw_m1 59 rfl) rfl
theorem q162 : (Jvm.Cond.classLink "GargoyleCopyists$Church" (36 : Nat) "GargoyleCopyists$Ledge") ∈ lw_all := lw_g (lw_at lw_m1 99 rfl) rfl
theorem q164 : (Jvm.Cond.methodLink "GargoyleCopyists$Church" (38 : Nat) ({ cls := "GargoyleCopyists$Ledge", name := "<init>", desc := "(I)V" } : Jvm.MethodName)) ∈ lw_all := lw_g (lw_at lw_m1 101 rfl) rfl
theorem q170 : (Jvm.Cond.fieldLinkNest "GargoyleCopyists$Church" (124 : Nat) "GargoyleCopyists$Ledge" "pigeons" "I" "GargoyleCopyists") ∈ lw_tbl := lw_at lw_m1 107 rfl
theorem q172 : (Jvm.Cond.fieldLinkNest "GargoyleCopyists$Church" (121 : Nat) "GargoyleCopyists$Ledge" "state" "I" "GargoyleCopyists") ∈ lw_tbl := lw_at lw_m1 109 rfl
theorem q174 : (Jvm.Cond.fieldLinkNest "GargoyleCopyists$Church" (207 : Nat) "GargoyleCopyists$Ledge" "worn" "I" "GargoyleCopyists") ∈ lw_tbl := lw_at lw_m1 111 rfl
theorem q176 : (Jvm.Cond.fieldLinkNest "GargoyleCopyists$Church" (237 : Nat) "GargoyleCopyists$Ledge" "hardHours" "I" "GargoyleCopyists") ∈ lw_tbl := lw_at lw_m1 113 rfl
theorem q178 : (Jvm.Cond.fieldLinkNest "GargoyleCopyists$Church" (214 : Nat) "GargoyleCopyists$Ledge" "copy" "I" "GargoyleCopyists") ∈ lw_tbl := lw_at lw_m1 115 rfl
theorem q198 : (Jvm.Cond.methodLink "GargoyleCopyists$Church" (39 : Nat) ({ cls := "GargoyleCopyists$Row", name := "adds", desc := "(Ljava/lang/Object;)I" } : Jvm.MethodName)) ∈ lw_all := lw_g (lw_at lw_m1 135 rfl) rfl
theorem q238 : (Jvm.Cond.selects "GargoyleCopyists$Church" ({ cls := "java/lang/Object", name := "getClass", desc := "()Ljava/lang/Class;" } : Jvm.MethodName) ({ cls := "java/lang/Object", name := "getClass", desc := "()Ljava/lang/Class;" } : Jvm.MethodName)) ∈ lw_all := lw_g (lw_at lw_m1 175 rfl) rfl
theorem q274 : (Jvm.Cond.fieldLink "GargoyleCopyists$Church" (14 : Nat) "GargoyleCopyists$Church" "ledges" "LGargoyleCopyists$Row;") ∈ lw_all := lw_g (lw_at lw_m1 211 rfl) rfl
theorem q276 : (Jvm.Cond.fieldLink "GargoyleCopyists$Church" (20 : Nat) "GargoyleCopyists$Church" "casts" "LGargoyleCopyists$Row;") ∈ lw_all := lw_g (lw_at lw_m1 213 rfl) rfl
theorem q279 : (Jvm.Cond.fieldLink "GargoyleCopyists$Church" (23 : Nat) "GargoyleCopyists$Church" "copyists" "LGargoyleCopyists$Row;") ∈ lw_all := lw_g (lw_at lw_m1 216 rfl) rfl
theorem q282 : (Jvm.Cond.fieldLink "GargoyleCopyists$Church" (26 : Nat) "GargoyleCopyists$Church" "copies" "LGargoyleCopyists$Row;") ∈ lw_all := lw_g (lw_at lw_m1 219 rfl) rfl
theorem q285 : (Jvm.Cond.fieldLink "GargoyleCopyists$Church" (29 : Nat) "GargoyleCopyists$Church" "sacks" "I") ∈ lw_all := lw_g (lw_at lw_m1 222 rfl) rfl
theorem q287 : (Jvm.Cond.fieldLink "GargoyleCopyists$Church" (33 : Nat) "GargoyleCopyists$Church" "coins" "I") ∈ lw_all := lw_g (lw_at lw_m1 224 rfl) rfl
theorem q289 : (Jvm.Cond.fieldLink "GargoyleCopyists$Church" (83 : Nat) "GargoyleCopyists$Church" "paid" "I") ∈ lw_all := lw_g (lw_at lw_m1 226 rfl) rfl
theorem q291 : (Jvm.Cond.fieldLink "GargoyleCopyists$Church" (86 : Nat) "GargoyleCopyists$Church" "spent" "I") ∈ lw_all := lw_g (lw_at lw_m1 228 rfl) rfl
theorem q293 : (Jvm.Cond.fieldLink "GargoyleCopyists$Church" (89 : Nat) "GargoyleCopyists$Church" "rain" "I") ∈ lw_all := lw_g (lw_at lw_m1 230 rfl) rfl
theorem q295 : (Jvm.Cond.fieldLink "GargoyleCopyists$Church" (92 : Nat) "GargoyleCopyists$Church" "wind" "I") ∈ lw_all := lw_g (lw_at lw_m1 232 rfl) rfl
theorem q297 : (Jvm.Cond.fieldLink "GargoyleCopyists$Church" (95 : Nat) "GargoyleCopyists$Church" "hour" "I") ∈ lw_all := lw_g (lw_at lw_m1 234 rfl) rfl
theorem q299 : (Jvm.Cond.fieldLink "GargoyleCopyists$Church" (98 : Nat) "GargoyleCopyists$Church" "fell" "I") ∈ lw_all := lw_g (lw_at lw_m1 236 rfl) rfl
theorem q301 : (Jvm.Cond.laysFinal "GargoyleCopyists$Church" "GargoyleCopyists$Church" "ledges" "LGargoyleCopyists$Row;") ∈ lw_all := lw_g (lw_at lw_m1 238 rfl) rfl
theorem q302 : (Jvm.Cond.soleField "GargoyleCopyists$Church" "ledges") ∈ lw_all := lw_g (lw_at lw_m1 239 rfl) rfl
theorem q303 : (Jvm.Cond.laysFinal "GargoyleCopyists$Church" "GargoyleCopyists$Church" "casts" "LGargoyleCopyists$Row;") ∈ lw_all := lw_g (lw_at lw_m2 0 rfl) rfl
theorem q304 : (Jvm.Cond.soleField "GargoyleCopyists$Church" "casts") ∈ lw_all := lw_g (lw_at lw_m2 1 rfl) rfl
theorem q305 : (Jvm.Cond.laysFinal "GargoyleCopyists$Church" "GargoyleCopyists$Church" "copyists" "LGargoyleCopyists$Row;") ∈ lw_all := lw_g (lw_at lw_m2 2 rfl) rfl
theorem q306 : (Jvm.Cond.soleField "GargoyleCopyists$Church" "copyists") ∈ lw_all := lw_g (lw_at lw_m2 3 rfl) rfl
theorem q307 : (Jvm.Cond.laysFinal "GargoyleCopyists$Church" "GargoyleCopyists$Church" "copies" "LGargoyleCopyists$Row;") ∈ lw_all := lw_g (lw_at lw_m2 4 rfl) rfl
theorem q308 : (Jvm.Cond.soleField "GargoyleCopyists$Church" "copies") ∈ lw_all := lw_g (lw_at lw_m2 5 rfl) rfl
theorem q309 : (Jvm.Cond.lays "GargoyleCopyists$Church" "GargoyleCopyists$Church" "sacks" "I") ∈ lw_all := lw_g (lw_at lw_m2 6 rfl) rfl
theorem q310 : (Jvm.Cond.soleField "GargoyleCopyists$Church" "sacks") ∈ lw_all := lw_g (lw_at lw_m2 7 rfl) rfl
theorem q311 : (Jvm.Cond.lays "GargoyleCopyists$Church" "GargoyleCopyists$Church" "coins" "I") ∈ lw_all := lw_g (lw_at lw_m2 8 rfl) rfl
theorem q312 : (Jvm.Cond.soleField "GargoyleCopyists$Church" "coins") ∈ lw_all := lw_g (lw_at lw_m2 9 rfl) rfl
theorem q313 : (Jvm.Cond.lays "GargoyleCopyists$Church" "GargoyleCopyists$Church" "paid" "I") ∈ lw_all := lw_g (lw_at lw_m2 10 rfl) rfl
theorem q314 : (Jvm.Cond.soleField "GargoyleCopyists$Church" "paid") ∈ lw_all := lw_g (lw_at lw_m2 11 rfl) rfl
theorem q315 : (Jvm.Cond.lays "GargoyleCopyists$Church" "GargoyleCopyists$Church" "spent" "I") ∈ lw_all := lw_g (lw_at lw_m2 12 rfl) rfl
theorem q316 : (Jvm.Cond.soleField "GargoyleCopyists$Church" "spent") ∈ lw_all := lw_g (lw_at lw_m2 13 rfl) rfl
theorem q317 : (Jvm.Cond.lays "GargoyleCopyists$Church" "GargoyleCopyists$Church" "rain" "I") ∈ lw_all := lw_g (lw_at lw_m2 14 rfl) rfl
theorem q318 : (Jvm.Cond.soleField "GargoyleCopyists$Church" "rain") ∈ lw_all := lw_g (lw_at lw_m2 15 rfl) rfl
theorem q319 : (Jvm.Cond.lays "GargoyleCopyists$Church" "GargoyleCopyists$Church" "wind" "I") ∈ lw_all := lw_g (lw_at lw_m2 16 rfl) rfl
theorem q320 : (Jvm.Cond.soleField "GargoyleCopyists$Church" "wind") ∈ lw_all := lw_g (lw_at lw_m2 17 rfl) rfl
theorem q321 : (Jvm.Cond.lays "GargoyleCopyists$Church" "GargoyleCopyists$Church" "hour" "I") ∈ lw_all := lw_g (lw_at lw_m2 18 rfl) rfl
theorem q322 : (Jvm.Cond.soleField "GargoyleCopyists$Church" "hour") ∈ lw_all := lw_g (lw_at lw_m2 19 rfl) rfl
theorem q323 : (Jvm.Cond.lays "GargoyleCopyists$Church" "GargoyleCopyists$Church" "fell" "I") ∈ lw_all := lw_g (lw_at lw_m2 20 rfl) rfl
theorem q324 : (Jvm.Cond.soleField "GargoyleCopyists$Church" "fell") ∈ lw_all := lw_g (lw_at lw_m2 21 rfl) rfl
theorem q325 : (Jvm.Cond.superclass "GargoyleCopyists$Church" "java/lang/Object") ∈ lw_all := lw_g (lw_at lw_m2 22 rfl) rfl
theorem q464 : (Jvm.Cond.instanceMethod ({ cls := "GargoyleCopyists$Church", name := "copy", desc := "()LGargoyleCopyists$Church;" } : Jvm.MethodName)) ∈ lw_all := lw_g (lw_at lw_m2 161 rfl) rfl
theorem q465 : (Jvm.Cond.selects "GargoyleCopyists$Church" ({ cls := "GargoyleCopyists$Church", name := "copy", desc := "()LGargoyleCopyists$Church;" } : Jvm.MethodName) ({ cls := "GargoyleCopyists$Church", name := "copy", desc := "()LGargoyleCopyists$Church;" } : Jvm.MethodName)) ∈ lw_all := lw_g (lw_at lw_m2 162 rfl) rfl
theorem q466 : (Jvm.Cond.code ({ cls := "GargoyleCopyists$Church", name := "copy", desc := "()LGargoyleCopyists$Church;" } : Jvm.MethodName) prog_3_method_3_code (5 : Nat) (Option.some (Jvm.ClassFile.FieldType.object "GargoyleCopyists$Church"))) ∈ lw_all := lw_g (lw_at lw_m2 163 rfl) rfl
theorem q467 : (Jvm.Cond.classLink "GargoyleCopyists$Church" (15 : Nat) "GargoyleCopyists$Church") ∈ lw_all := lw_g (lw_at lw_m2 164 rfl) rfl
theorem q468 : (Jvm.Cond.methodLink "GargoyleCopyists$Church" (46 : Nat) ({ cls := "GargoyleCopyists$Row", name := "iterator", desc := "()Ljava/util/Iterator;" } : Jvm.MethodName)) ∈ lw_all := lw_g (lw_at lw_m2 165 rfl) rfl
theorem q485 : (Jvm.Cond.interfaceEntry "GargoyleCopyists$Church" (50 : Nat)) ∈ lw_tbl := lw_at lw_m2 182 rfl
theorem q486 : (Jvm.Cond.methodLink "GargoyleCopyists$Church" (50 : Nat) ({ cls := "java/util/Iterator", name := "hasNext", desc := "()Z" } : Jvm.MethodName)) ∈ lw_all := lw_g (lw_at lw_m2 183 rfl) rfl
theorem q496 : (Jvm.Cond.interfaceEntry "GargoyleCopyists$Church" (56 : Nat)) ∈ lw_tbl := lw_at lw_m2 193 rfl
theorem q497 : (Jvm.Cond.methodLink "GargoyleCopyists$Church" (56 : Nat) ({ cls := "java/util/Iterator", name := "next", desc := "()Ljava/lang/Object;" } : Jvm.MethodName)) ∈ lw_all := lw_g (lw_at lw_m2 194 rfl) rfl
theorem q570 : (Jvm.Cond.methodLink "GargoyleCopyists$Church" (60 : Nat) ({ cls := "GargoyleCopyists$Ledge", name := "copy", desc := "()LGargoyleCopyists$Ledge;" } : Jvm.MethodName)) ∈ lw_all := lw_g (lw_at lw_m3 27 rfl) rfl
theorem q576 : (Jvm.Cond.classLink "GargoyleCopyists$Church" (64 : Nat) "GargoyleCopyists$Cast") ∈ lw_all := lw_g (lw_at lw_m3 33 rfl) rfl
theorem q577 : (Jvm.Cond.methodLink "GargoyleCopyists$Church" (66 : Nat) ({ cls := "GargoyleCopyists$Cast", name := "copy", desc := "()LGargoyleCopyists$Cast;" } : Jvm.MethodName)) ∈ lw_all := lw_g (lw_at lw_m3 34 rfl) rfl
theorem q608 : (Jvm.Cond.fieldLinkNest "GargoyleCopyists$Church" (157 : Nat) "GargoyleCopyists$Cast" "ledge" "I" "GargoyleCopyists") ∈ lw_tbl := lw_at lw_m3 65 rfl
theorem q611 : (Jvm.Cond.fieldLinkNest "GargoyleCopyists$Church" (134 : Nat) "GargoyleCopyists$Cast" "hours" "I" "GargoyleCopyists") ∈ lw_tbl := lw_at lw_m3 68 rfl
theorem q613 : (Jvm.Cond.fieldLinkNest "GargoyleCopyists$Church" (137 : Nat) "GargoyleCopyists$Cast" "copies" "I" "GargoyleCopyists") ∈ lw_tbl := lw_at lw_m3 70 rfl
theorem q624 : (Jvm.Cond.classLink "GargoyleCopyists$Church" (69 : Nat) "GargoyleCopyists$Copyist") ∈ lw_all := lw_g (lw_at lw_m3 81 rfl) rfl
theorem q625 : (Jvm.Cond.methodLink "GargoyleCopyists$Church" (71 : Nat) ({ cls := "GargoyleCopyists$Copyist", name := "copy", desc := "()LGargoyleCopyists$Copyist;" } : Jvm.MethodName)) ∈ lw_all := lw_g (lw_at lw_m3 82 rfl) rfl
theorem q637 : (Jvm.Cond.fieldLinkNest "GargoyleCopyists$Church" (165 : Nat) "GargoyleCopyists$Copyist" "worn" "I" "GargoyleCopyists") ∈ lw_tbl := lw_at lw_m3 94 rfl
theorem q639 : (Jvm.Cond.fieldLinkNest "GargoyleCopyists$Church" (234 : Nat) "GargoyleCopyists$Copyist" "spent" "I" "GargoyleCopyists") ∈ lw_tbl := lw_at lw_m3 96 rfl
theorem q641 : (Jvm.Cond.fieldLinkNest "GargoyleCopyists$Church" (240 : Nat) "GargoyleCopyists$Copyist" "points" "I" "GargoyleCopyists") ∈ lw_tbl := lw_at lw_m3 98 rfl
theorem q643 : (Jvm.Cond.fieldLinkNest "GargoyleCopyists$Church" (192 : Nat) "GargoyleCopyists$Copyist" "needles" "I" "GargoyleCopyists") ∈ lw_tbl := lw_at lw_m3 100 rfl
theorem q655 : (Jvm.Cond.classLink "GargoyleCopyists$Church" (74 : Nat) "GargoyleCopyists$Copy") ∈ lw_all := lw_g (lw_at lw_m3 112 rfl) rfl
theorem q656 : (Jvm.Cond.methodLink "GargoyleCopyists$Church" (76 : Nat) ({ cls := "GargoyleCopyists$Copy", name := "copy", desc := "()LGargoyleCopyists$Copy;" } : Jvm.MethodName)) ∈ lw_all := lw_g (lw_at lw_m3 113 rfl) rfl
theorem q668 : (Jvm.Cond.fieldLinkNest "GargoyleCopyists$Church" (146 : Nat) "GargoyleCopyists$Copy" "cast" "I" "GargoyleCopyists") ∈ lw_tbl := lw_at lw_m3 125 rfl
theorem q671 : (Jvm.Cond.fieldLinkNest "GargoyleCopyists$Church" (178 : Nat) "GargoyleCopyists$Copy" "depths" "[I" "GargoyleCopyists") ∈ lw_tbl := lw_at lw_m3 128 rfl
theorem q673 : (Jvm.Cond.fieldLinkNest "GargoyleCopyists$Church" (153 : Nat) "GargoyleCopyists$Copy" "isUp" "Z" "GargoyleCopyists") ∈ lw_tbl := lw_at lw_m3 130 rfl
theorem q684 : (Jvm.Cond.methodLink "GargoyleCopyists$Church" (79 : Nat) ({ cls := "GargoyleCopyists$Church", name := "takesNumbers", desc := "(LGargoyleCopyists$Church;)V" } : Jvm.MethodName)) ∈ lw_all := lw_g (lw_at lw_m3 141 rfl) rfl
theorem q685 : (Jvm.Cond.privateMethod ({ cls := "GargoyleCopyists$Church", name := "takesNumbers", desc := "(LGargoyleCopyists$Church;)V" } : Jvm.MethodName)) ∈ lw_tbl := lw_at lw_m3 142 rfl
theorem q686 : (Jvm.Cond.instanceMethod ({ cls := "GargoyleCopyists$Church", name := "takesNumbers", desc := "(LGargoyleCopyists$Church;)V" } : Jvm.MethodName)) ∈ lw_all := lw_g (lw_at lw_m3 143 rfl) rfl
theorem q687 : (Jvm.Cond.code ({ cls := "GargoyleCopyists$Church", name := "takesNumbers", desc := "(LGargoyleCopyists$Church;)V" } : Jvm.MethodName) prog_3_method_4_code (2 : Nat) (Option.none : Option Jvm.ClassFile.FieldType)) ∈ lw_all := lw_g (lw_at lw_m3 144 rfl) rfl
theorem q689 : (Jvm.Cond.instanceMethod ({ cls := "GargoyleCopyists$Church", name := "buys", desc := "(I)I" } : Jvm.MethodName)) ∈ lw_all := lw_g (lw_at lw_m3 146 rfl) rfl
theorem q690 : (Jvm.Cond.selects "GargoyleCopyists$Church" ({ cls := "GargoyleCopyists$Church", name := "buys", desc := "(I)I" } : Jvm.MethodName) ({ cls := "GargoyleCopyists$Church", name := "buys", desc := "(I)I" } : Jvm.MethodName)) ∈ lw_all := lw_g (lw_at lw_m3 147 rfl) rfl
theorem q691 : (Jvm.Cond.code ({ cls := "GargoyleCopyists$Church", name := "buys", desc := "(I)I" } : Jvm.MethodName) prog_3_method_6_code (2 : Nat) (Option.some Jvm.ClassFile.FieldType.int)) ∈ lw_all := lw_g (lw_at lw_m3 148 rfl) rfl
theorem q692 : (Jvm.Cond.methodLink "GargoyleCopyists$Church" (105 : Nat) ({ cls := "GargoyleCopyists$Church", name := "pays", desc := "(I)V" } : Jvm.MethodName)) ∈ lw_all := lw_g (lw_at lw_m3 149 rfl) rfl
theorem q693 : (Jvm.Cond.privateMethod ({ cls := "GargoyleCopyists$Church", name := "pays", desc := "(I)V" } : Jvm.MethodName)) ∈ lw_tbl := lw_at lw_m3 150 rfl
theorem q694 : (Jvm.Cond.instanceMethod ({ cls := "GargoyleCopyists$Church", name := "pays", desc := "(I)V" } : Jvm.MethodName)) ∈ lw_all := lw_g (lw_at lw_m3 151 rfl) rfl
theorem q695 : (Jvm.Cond.code ({ cls := "GargoyleCopyists$Church", name := "pays", desc := "(I)V" } : Jvm.MethodName) prog_3_method_5_code (2 : Nat) (Option.none : Option Jvm.ClassFile.FieldType)) ∈ lw_all := lw_g (lw_at lw_m3 152 rfl) rfl
theorem q696 : (Jvm.Cond.methodLinkNest "GargoyleCopyists$Church" (101 : Nat) ({ cls := "GargoyleCopyists", name := "refuse", desc := "(ZII)V" } : Jvm.MethodName) "GargoyleCopyists") ∈ lw_tbl := lw_at lw_m3 153 rfl
theorem q726 : (Jvm.Cond.methodLink "GargoyleCopyists$Church" (108 : Nat) ({ cls := "java/lang/Math", name := "min", desc := "(II)I" } : Jvm.MethodName)) ∈ lw_all := lw_g (lw_at lw_m3 183 rfl) rfl
theorem q777 : (Jvm.Cond.instanceMethod ({ cls := "GargoyleCopyists$Church", name := "takesCast", desc := "(I)I" } : Jvm.MethodName)) ∈ lw_all := lw_g (lw_at lw_m3 234 rfl) rfl
theorem q778 : (Jvm.Cond.selects "GargoyleCopyists$Church" ({ cls := "GargoyleCopyists$Church", name := "takesCast", desc := "(I)I" } : Jvm.MethodName) ({ cls := "GargoyleCopyists$Church", name := "takesCast", desc := "(I)I" } : Jvm.MethodName)) ∈ lw_all := lw_g (lw_at lw_m3 235 rfl) rfl
theorem q779 : (Jvm.Cond.code ({ cls := "GargoyleCopyists$Church", name := "takesCast", desc := "(I)I" } : Jvm.MethodName) prog_3_method_7_code (3 : Nat) (Option.some Jvm.ClassFile.FieldType.int)) ∈ lw_all := lw_g (lw_at lw_m3 236 rfl) rfl
theorem q780 : (Jvm.Cond.methodLink "GargoyleCopyists$Church" (114 : Nat) ({ cls := "GargoyleCopyists$Row", name := "at", desc := "(I)Ljava/lang/Object;" } : Jvm.MethodName)) ∈ lw_all := lw_g (lw_at lw_m3 237 rfl) rfl
theorem q781 : (Jvm.Cond.methodLink "GargoyleCopyists$Church" (118 : Nat) ({ cls := "GargoyleCopyists$Row", name := "checkRoom", desc := "()V" } : Jvm.MethodName)) ∈ lw_all := lw_g (lw_at lw_m3 238 rfl) rfl
theorem q786 : (Jvm.Cond.methodLink "GargoyleCopyists$Church" (127 : Nat) ({ cls := "GargoyleCopyists$Cast", name := "<init>", desc := "(ILGargoyleCopyists$Pointed;)V" } : Jvm.MethodName)) ∈ lw_all := lw_g (lw_at lw_m4 3 rfl) rfl
theorem q815 : (Jvm.Cond.instanceMethod ({ cls := "GargoyleCopyists$Church", name := "comes", desc := "(I)I" } : Jvm.MethodName)) ∈ lw_all := lw_g (lw_at lw_m4 32 rfl) rfl
theorem q816 : (Jvm.Cond.selects "GargoyleCopyists$Church" ({ cls := "GargoyleCopyists$Church", name := "comes", desc := "(I)I" } : Jvm.MethodName) ({ cls := "GargoyleCopyists$Church", name := "comes", desc := "(I)I" } : Jvm.MethodName)) ∈ lw_all := lw_g (lw_at lw_m4 33 rfl) rfl
theorem q817 : (Jvm.Cond.code ({ cls := "GargoyleCopyists$Church", name := "comes", desc := "(I)I" } : Jvm.MethodName) prog_3_method_9_code (2 : Nat) (Option.some Jvm.ClassFile.FieldType.int)) ∈ lw_all := lw_g (lw_at lw_m4 34 rfl) rfl
theorem q818 : (Jvm.Cond.methodLink "GargoyleCopyists$Church" (133 : Nat) ({ cls := "GargoyleCopyists$Copyist", name := "<init>", desc := "(I)V" } : Jvm.MethodName)) ∈ lw_all := lw_g (lw_at lw_m4 35 rfl) rfl
theorem q824 : (Jvm.Cond.instanceMethod ({ cls := "GargoyleCopyists$Church", name := "begins", desc := "(I)I" } : Jvm.MethodName)) ∈ lw_all := lw_g (lw_at lw_m4 41 rfl) rfl
theorem q825 : (Jvm.Cond.selects "GargoyleCopyists$Church" ({ cls := "GargoyleCopyists$Church", name := "begins", desc := "(I)I" } : Jvm.MethodName) ({ cls := "GargoyleCopyists$Church", name := "begins", desc := "(I)I" } : Jvm.MethodName)) ∈ lw_all := lw_g (lw_at lw_m4 42 rfl) rfl
theorem q826 : (Jvm.Cond.code ({ cls := "GargoyleCopyists$Church", name := "begins", desc := "(I)I" } : Jvm.MethodName) prog_3_method_10_code (3 : Nat) (Option.some Jvm.ClassFile.FieldType.int)) ∈ lw_all := lw_g (lw_at lw_m4 43 rfl) rfl
theorem q827 : (Jvm.Cond.methodLink "GargoyleCopyists$Church" (130 : Nat) ({ cls := "GargoyleCopyists$Cast", name := "isSet", desc := "()Z" } : Jvm.MethodName)) ∈ lw_all := lw_g (lw_at lw_m4 44 rfl) rfl
theorem q828 : (Jvm.Cond.methodLink "GargoyleCopyists$Church" (139 : Nat) ({ cls := "GargoyleCopyists$Row", name := "size", desc := "()I" } : Jvm.MethodName)) ∈ lw_all := lw_g (lw_at lw_m4 45 rfl) rfl
theorem q832 : (Jvm.Cond.methodLink "GargoyleCopyists$Church" (143 : Nat) ({ cls := "GargoyleCopyists$Copy", name := "<init>", desc := "(II)V" } : Jvm.MethodName)) ∈ lw_all := lw_g (lw_at lw_m4 49 rfl) rfl
theorem q855 : (Jvm.Cond.instanceMethod ({ cls := "GargoyleCopyists$Church", name := "cuts", desc := "(III[LGargoyleCopyists$Cut;)I" } : Jvm.MethodName)) ∈ lw_all := lw_g (lw_at lw_m4 72 rfl) rfl
theorem q856 : (Jvm.Cond.selects "GargoyleCopyists$Church" ({ cls := "GargoyleCopyists$Church", name := "cuts", desc := "(III[LGargoyleCopyists$Cut;)I" } : Jvm.MethodName) ({ cls := "GargoyleCopyists$Church", name := "cuts", desc := "(III[LGargoyleCopyists$Cut;)I" } : Jvm.MethodName)) ∈ lw_all := lw_g (lw_at lw_m4 73 rfl) rfl
theorem q857 : (Jvm.Cond.code ({ cls := "GargoyleCopyists$Church", name := "cuts", desc := "(III[LGargoyleCopyists$Cut;)I" } : Jvm.MethodName) prog_3_method_11_code (9 : Nat) (Option.some Jvm.ClassFile.FieldType.int)) ∈ lw_all := lw_g (lw_at lw_m4 74 rfl) rfl
theorem q858 : (Jvm.Cond.methodLink "GargoyleCopyists$Church" (149 : Nat) ({ cls := "GargoyleCopyists$Cast", name := "depth", desc := "(I)I" } : Jvm.MethodName)) ∈ lw_all := lw_g (lw_at lw_m4 75 rfl) rfl
theorem q859 : (Jvm.Cond.methodLink "GargoyleCopyists$Church" (160 : Nat) ({ cls := "GargoyleCopyists$Copy", name := "isCut", desc := "(I)Z" } : Jvm.MethodName)) ∈ lw_all := lw_g (lw_at lw_m4 76 rfl) rfl
theorem q863 : (Jvm.Cond.methodLink "GargoyleCopyists$Church" (164 : Nat) ({ cls := "GargoyleCopyists$Copy", name := "depth", desc := "(I)I" } : Jvm.MethodName)) ∈ lw_all := lw_g (lw_at lw_m4 80 rfl) rfl
theorem q864 : (Jvm.Cond.methodLink "GargoyleCopyists$Church" (168 : Nat) ({ cls := "GargoyleCopyists$Copyist", name := "wouldCut", desc := "(I[LGargoyleCopyists$Cut;)I" } : Jvm.MethodName)) ∈ lw_all := lw_g (lw_at lw_m4 81 rfl) rfl
theorem q865 : (Jvm.Cond.methodLink "GargoyleCopyists$Church" (172 : Nat) ({ cls := "GargoyleCopyists$Copyist", name := "minutes", desc := "(I)I" } : Jvm.MethodName)) ∈ lw_all := lw_g (lw_at lw_m4 82 rfl) rfl
theorem q869 : (Jvm.Cond.methodLink "GargoyleCopyists$Church" (175 : Nat) ({ cls := "GargoyleCopyists$Copyist", name := "left", desc := "()I" } : Jvm.MethodName)) ∈ lw_all := lw_g (lw_at lw_m4 86 rfl) rfl
theorem q873 : (Jvm.Cond.methodLink "GargoyleCopyists$Church" (182 : Nat) ({ cls := "GargoyleCopyists$Copyist", name := "hasCut", desc := "(I)V" } : Jvm.MethodName)) ∈ lw_all := lw_g (lw_at lw_m4 90 rfl) rfl
theorem q884 : (Jvm.Cond.instanceMethod ({ cls := "GargoyleCopyists$Church", name := "bestCopyist", desc := "(I[LGargoyleCopyists$Cut;)I" } : Jvm.MethodName)) ∈ lw_all := lw_g (lw_at lw_m4 101 rfl) rfl
theorem q885 : (Jvm.Cond.selects "GargoyleCopyists$Church" ({ cls := "GargoyleCopyists$Church", name := "bestCopyist", desc := "(I[LGargoyleCopyists$Cut;)I" } : Jvm.MethodName) ({ cls := "GargoyleCopyists$Church", name := "bestCopyist", desc := "(I[LGargoyleCopyists$Cut;)I" } : Jvm.MethodName)) ∈ lw_all := lw_g (lw_at lw_m4 102 rfl) rfl
theorem q886 : (Jvm.Cond.code ({ cls := "GargoyleCopyists$Church", name := "bestCopyist", desc := "(I[LGargoyleCopyists$Cut;)I" } : Jvm.MethodName) prog_3_method_13_code (5 : Nat) (Option.some Jvm.ClassFile.FieldType.int)) ∈ lw_all := lw_g (lw_at lw_m4 103 rfl) rfl
theorem q887 : (Jvm.Cond.methodLink "GargoyleCopyists$Church" (188 : Nat) ({ cls := "GargoyleCopyists$Church", name := "isBetter", desc := "(LGargoyleCopyists$Copyist;LGargoyleCopyists$Copyist;I[LGargoyleCopyists$Cut;)Z" } : Jvm.MethodName)) ∈ lw_all := lw_g (lw_at lw_m4 104 rfl) rfl
theorem q888 : (Jvm.Cond.privateMethod ({ cls := "GargoyleCopyists$Church", name := "isBetter", desc := "(LGargoyleCopyists$Copyist;LGargoyleCopyists$Copyist;I[LGargoyleCopyists$Cut;)Z" } : Jvm.MethodName)) ∈ lw_tbl := lw_at lw_m4 105 rfl
theorem q889 : (Jvm.Cond.instanceMethod ({ cls := "GargoyleCopyists$Church", name := "isBetter", desc := "(LGargoyleCopyists$Copyist;LGargoyleCopyists$Copyist;I[LGargoyleCopyists$Cut;)Z" } : Jvm.MethodName)) ∈ lw_all := lw_g (lw_at lw_m4 106 rfl) rfl
theorem q890 : (Jvm.Cond.code ({ cls := "GargoyleCopyists$Church", name := "isBetter", desc := "(LGargoyleCopyists$Copyist;LGargoyleCopyists$Copyist;I[LGargoyleCopyists$Cut;)Z" } : Jvm.MethodName) prog_3_method_12_code (6 : Nat) (Option.some Jvm.ClassFile.FieldType.boolean)) ∈ lw_all := lw_g (lw_at lw_m4 107 rfl) rfl
theorem q891 : (Jvm.Cond.methodLink "GargoyleCopyists$Church" (185 : Nat) ({ cls := "java/lang/Math", name := "abs", desc := "(I)I" } : Jvm.MethodName)) ∈ lw_all := lw_g (lw_at lw_m4 108 rfl) rfl
theorem q908 : (Jvm.Cond.instanceMethod ({ cls := "GargoyleCopyists$Church", name := "newNeedle", desc := "(I)I" } : Jvm.MethodName)) ∈ lw_all := lw_g (lw_at lw_m4 125 rfl) rfl
theorem q909 : (Jvm.Cond.selects "GargoyleCopyists$Church" ({ cls := "GargoyleCopyists$Church", name := "newNeedle", desc := "(I)I" } : Jvm.MethodName) ({ cls := "GargoyleCopyists$Church", name := "newNeedle", desc := "(I)I" } : Jvm.MethodName)) ∈ lw_all := lw_g (lw_at lw_m4 126 rfl) rfl
theorem q910 : (Jvm.Cond.code ({ cls := "GargoyleCopyists$Church", name := "newNeedle", desc := "(I)I" } : Jvm.MethodName) prog_3_method_14_code (4 : Nat) (Option.some Jvm.ClassFile.FieldType.int)) ∈ lw_all := lw_g (lw_at lw_m4 127 rfl) rfl
theorem q917 : (Jvm.Cond.instanceMethod ({ cls := "GargoyleCopyists$Church", name := "told", desc := "(LGargoyleCopyists$Copy;I)I" } : Jvm.MethodName)) ∈ lw_all := lw_g (lw_at lw_m4 134 rfl) rfl
theorem q918 : (Jvm.Cond.selects "GargoyleCopyists$Church" ({ cls := "GargoyleCopyists$Church", name := "told", desc := "(LGargoyleCopyists$Copy;I)I" } : Jvm.MethodName) ({ cls := "GargoyleCopyists$Church", name := "told", desc := "(LGargoyleCopyists$Copy;I)I" } : Jvm.MethodName)) ∈ lw_all := lw_g (lw_at lw_m4 135 rfl) rfl
theorem q919 : (Jvm.Cond.code ({ cls := "GargoyleCopyists$Church", name := "told", desc := "(LGargoyleCopyists$Copy;I)I" } : Jvm.MethodName) prog_3_method_15_code (3 : Nat) (Option.some Jvm.ClassFile.FieldType.int)) ∈ lw_all := lw_g (lw_at lw_m4 136 rfl) rfl
theorem q920 : (Jvm.Cond.methodLink "GargoyleCopyists$Church" (195 : Nat) ({ cls := "GargoyleCopyists$Copy", name := "cut", desc := "()I" } : Jvm.MethodName)) ∈ lw_all := lw_g (lw_at lw_m4 137 rfl) rfl
theorem q925 : (Jvm.Cond.classLink "GargoyleCopyists$Church" (198 : Nat) "GargoyleCopyists$Pointed") ∈ lw_all := lw_g (lw_at lw_m4 142 rfl) rfl
theorem q926 : (Jvm.Cond.methodLink "GargoyleCopyists$Church" (200 : Nat) ({ cls := "GargoyleCopyists$Copy", name := "right", desc := "(LGargoyleCopyists$Pointed;)I" } : Jvm.MethodName)) ∈ lw_all := lw_g (lw_at lw_m4 143 rfl) rfl
theorem q935 : (Jvm.Cond.methodLink "GargoyleCopyists$Church" (204 : Nat) ({ cls := "GargoyleCopyists$Copy", name := "weight", desc := "()I" } : Jvm.MethodName)) ∈ lw_all := lw_g (lw_at lw_m4 152 rfl) rfl
theorem q996 : (Jvm.Cond.instanceMethod ({ cls := "GargoyleCopyists$Church", name := "takesDown", desc := "(I)I" } : Jvm.MethodName)) ∈ lw_all := lw_g (lw_at lw_m4 213 rfl) rfl
theorem q997 : (Jvm.Cond.selects "GargoyleCopyists$Church" ({ cls := "GargoyleCopyists$Church", name := "takesDown", desc := "(I)I" } : Jvm.MethodName) ({ cls := "GargoyleCopyists$Church", name := "takesDown", desc := "(I)I" } : Jvm.MethodName)) ∈ lw_all := lw_g (lw_at lw_m4 214 rfl) rfl
theorem q998 : (Jvm.Cond.code ({ cls := "GargoyleCopyists$Church", name := "takesDown", desc := "(I)I" } : Jvm.MethodName) prog_3_method_16_code (3 : Nat) (Option.some Jvm.ClassFile.FieldType.int)) ∈ lw_all := lw_g (lw_at lw_m4 215 rfl) rfl
theorem q1004 : (Jvm.Cond.instanceMethod ({ cls := "GargoyleCopyists$Church", name := "lifts", desc := "(I)I" } : Jvm.MethodName)) ∈ lw_all := lw_g (lw_at lw_m4 221 rfl) rfl
theorem q1005 : (Jvm.Cond.selects "GargoyleCopyists$Church" ({ cls := "GargoyleCopyists$Church", name := "lifts", desc := "(I)I" } : Jvm.MethodName) ({ cls := "GargoyleCopyists$Church", name := "lifts", desc := "(I)I" } : Jvm.MethodName)) ∈ lw_all := lw_g (lw_at lw_m4 222 rfl) rfl
theorem q1006 : (Jvm.Cond.code ({ cls := "GargoyleCopyists$Church", name := "lifts", desc := "(I)I" } : Jvm.MethodName) prog_3_method_17_code (6 : Nat) (Option.some Jvm.ClassFile.FieldType.int)) ∈ lw_all := lw_g (lw_at lw_m4 223 rfl) rfl
theorem q1007 : (Jvm.Cond.methodLink "GargoyleCopyists$Church" (208 : Nat) ({ cls := "GargoyleCopyists$Copy", name := "firstNotCut", desc := "()I" } : Jvm.MethodName)) ∈ lw_all := lw_g (lw_at lw_m4 224 rfl) rfl
theorem q1011 : (Jvm.Cond.methodLink "GargoyleCopyists$Church" (211 : Nat) ({ cls := "GargoyleCopyists$Ledge", name := "bears", desc := "()I" } : Jvm.MethodName)) ∈ lw_all := lw_g (lw_at lw_m4 228 rfl) rfl
theorem q1020 : (Jvm.Cond.instanceMethod ({ cls := "GargoyleCopyists$Church", name := "drives", desc := "(I)I" } : Jvm.MethodName)) ∈ lw_all := lw_g (lw_at lw_m4 237 rfl) rfl
theorem q1021 : (Jvm.Cond.selects "GargoyleCopyists$Church" ({ cls := "GargoyleCopyists$Church", name := "drives", desc := "(I)I" } : Jvm.MethodName) ({ cls := "GargoyleCopyists$Church", name := "drives", desc := "(I)I" } : Jvm.MethodName)) ∈ lw_all := lw_g (lw_at lw_m4 238 rfl) rfl
theorem q1022 : (Jvm.Cond.code ({ cls := "GargoyleCopyists$Church", name := "drives", desc := "(I)I" } : Jvm.MethodName) prog_3_method_18_code (3 : Nat) (Option.some Jvm.ClassFile.FieldType.int)) ∈ lw_all := lw_g (lw_at lw_m4 239 rfl) rfl
theorem q1031 : (Jvm.Cond.instanceMethod ({ cls := "GargoyleCopyists$Church", name := "tells", desc := "(II)I" } : Jvm.MethodName)) ∈ lw_all := lw_g (lw_at lw_m5 8 rfl) rfl
theorem q1032 : (Jvm.Cond.selects "GargoyleCopyists$Church" ({ cls := "GargoyleCopyists$Church", name := "tells", desc := "(II)I" } : Jvm.MethodName) ({ cls := "GargoyleCopyists$Church", name := "tells", desc := "(II)I" } : Jvm.MethodName)) ∈ lw_all := lw_g (lw_at lw_m5 9 rfl) rfl
theorem q1033 : (Jvm.Cond.code ({ cls := "GargoyleCopyists$Church", name := "tells", desc := "(II)I" } : Jvm.MethodName) prog_3_method_19_code (4 : Nat) (Option.some Jvm.ClassFile.FieldType.int)) ∈ lw_all := lw_g (lw_at lw_m5 10 rfl) rfl
theorem q1042 : (Jvm.Cond.instanceMethod ({ cls := "GargoyleCopyists$Church", name := "hoursGo", desc := "(I)I" } : Jvm.MethodName)) ∈ lw_all := lw_g (lw_at lw_m5 19 rfl) rfl
theorem q1043 : (Jvm.Cond.selects "GargoyleCopyists$Church" ({ cls := "GargoyleCopyists$Church", name := "hoursGo", desc := "(I)I" } : Jvm.MethodName) ({ cls := "GargoyleCopyists$Church", name := "hoursGo", desc := "(I)I" } : Jvm.MethodName)) ∈ lw_all := lw_g (lw_at lw_m5 20 rfl) rfl
theorem q1044 : (Jvm.Cond.code ({ cls := "GargoyleCopyists$Church", name := "hoursGo", desc := "(I)I" } : Jvm.MethodName) prog_3_method_23_code (4 : Nat) (Option.some Jvm.ClassFile.FieldType.int)) ∈ lw_all := lw_g (lw_at lw_m5 21 rfl) rfl
theorem q1045 : (Jvm.Cond.methodLink "GargoyleCopyists$Church" (235 : Nat) ({ cls := "GargoyleCopyists$Church", name := "hourGoes", desc := "()I" } : Jvm.MethodName)) ∈ lw_all := lw_g (lw_at lw_m5 22 rfl) rfl
theorem q1046 : (Jvm.Cond.privateMethod ({ cls := "GargoyleCopyists$Church", name := "hourGoes", desc := "()I" } : Jvm.MethodName)) ∈ lw_tbl := lw_at lw_m5 23 rfl
theorem q1047 : (Jvm.Cond.instanceMethod ({ cls := "GargoyleCopyists$Church", name := "hourGoes", desc := "()I" } : Jvm.MethodName)) ∈ lw_all := lw_g (lw_at lw_m5 24 rfl) rfl
theorem q1048 : (Jvm.Cond.code ({ cls := "GargoyleCopyists$Church", name := "hourGoes", desc := "()I" } : Jvm.MethodName) prog_3_method_21_code (4 : Nat) (Option.some Jvm.ClassFile.FieldType.int)) ∈ lw_all := lw_g (lw_at lw_m5 25 rfl) rfl
theorem q1049 : (Jvm.Cond.methodLink "GargoyleCopyists$Church" (217 : Nat) ({ cls := "GargoyleCopyists$Church", name := "spout", desc := "(LGargoyleCopyists$Ledge;)I" } : Jvm.MethodName)) ∈ lw_all := lw_g (lw_at lw_m5 26 rfl) rfl
theorem q1050 : (Jvm.Cond.privateMethod ({ cls := "GargoyleCopyists$Church", name := "spout", desc := "(LGargoyleCopyists$Ledge;)I" } : Jvm.MethodName)) ∈ lw_tbl := lw_at lw_m5 27 rfl
theorem q1051 : (Jvm.Cond.instanceMethod ({ cls := "GargoyleCopyists$Church", name := "spout", desc := "(LGargoyleCopyists$Ledge;)I" } : Jvm.MethodName)) ∈ lw_all := lw_g (lw_at lw_m5 28 rfl) rfl
theorem q1052 : (Jvm.Cond.code ({ cls := "GargoyleCopyists$Church", name := "spout", desc := "(LGargoyleCopyists$Ledge;)I" } : Jvm.MethodName) prog_3_method_20_code (2 : Nat) (Option.some Jvm.ClassFile.FieldType.int)) ∈ lw_all := lw_g (lw_at lw_m5 29 rfl) rfl
theorem q1053 : (Jvm.Cond.methodLink "GargoyleCopyists$Church" (216 : Nat) ({ cls := "GargoyleCopyists$Ledge", name := "depth", desc := "(I)I" } : Jvm.MethodName)) ∈ lw_all := lw_g (lw_at lw_m5 30 rfl) rfl
theorem q1054 : (Jvm.Cond.methodLink "GargoyleCopyists$Church" (221 : Nat) ({ cls := "GargoyleCopyists$Ledge", name := "isRainedOn", desc := "(II)I" } : Jvm.MethodName)) ∈ lw_all := lw_g (lw_at lw_m5 31 rfl) rfl
theorem q1059 : (Jvm.Cond.methodLink "GargoyleCopyists$Church" (224 : Nat) ({ cls := "GargoyleCopyists$Ledge", name := "isWornBy", desc := "(I)V" } : Jvm.MethodName)) ∈ lw_all := lw_g (lw_at lw_m5 36 rfl) rfl
theorem q1063 : (Jvm.Cond.methodLink "GargoyleCopyists$Church" (227 : Nat) ({ cls := "GargoyleCopyists$Cast", name := "hourGoes", desc := "(I)V" } : Jvm.MethodName)) ∈ lw_all := lw_g (lw_at lw_m5 40 rfl) rfl
theorem q1067 : (Jvm.Cond.methodLink "GargoyleCopyists$Church" (230 : Nat) ({ cls := "GargoyleCopyists$Church", name := "dayEnds", desc := "()V" } : Jvm.MethodName)) ∈ lw_all := lw_g (lw_at lw_m5 44 rfl) rfl
theorem q1068 : (Jvm.Cond.privateMethod ({ cls := "GargoyleCopyists$Church", name := "dayEnds", desc := "()V" } : Jvm.MethodName)) ∈ lw_tbl := lw_at lw_m5 45 rfl
theorem q1069 : (Jvm.Cond.instanceMethod ({ cls := "GargoyleCopyists$Church", name := "dayEnds", desc := "()V" } : Jvm.MethodName)) ∈ lw_all := lw_g (lw_at lw_m5 46 rfl) rfl
theorem q1070 : (Jvm.Cond.code ({ cls := "GargoyleCopyists$Church", name := "dayEnds", desc := "()V" } : Jvm.MethodName) prog_3_method_22_code (3 : Nat) (Option.none : Option Jvm.ClassFile.FieldType)) ∈ lw_all := lw_g (lw_at lw_m5 47 rfl) rfl
theorem q1071 : (Jvm.Cond.methodLink "GargoyleCopyists$Church" (233 : Nat) ({ cls := "GargoyleCopyists$Ledge", name := "dayEnds", desc := "()V" } : Jvm.MethodName)) ∈ lw_all := lw_g (lw_at lw_m5 48 rfl) rfl
theorem q1080 : (Jvm.Cond.instanceMethod ({ cls := "GargoyleCopyists$Church", name := "wornIn", desc := "(LGargoyleCopyists$Ledge;)I" } : Jvm.MethodName)) ∈ lw_all := lw_g (lw_at lw_m5 57 rfl) rfl
theorem q1081 : (Jvm.Cond.selects "GargoyleCopyists$Church" ({ cls := "GargoyleCopyists$Church", name := "wornIn", desc := "(LGargoyleCopyists$Ledge;)I" } : Jvm.MethodName) ({ cls := "GargoyleCopyists$Church", name := "wornIn", desc := "(LGargoyleCopyists$Ledge;)I" } : Jvm.MethodName)) ∈ lw_all := lw_g (lw_at lw_m5 58 rfl) rfl
theorem q1082 : (Jvm.Cond.code ({ cls := "GargoyleCopyists$Church", name := "wornIn", desc := "(LGargoyleCopyists$Ledge;)I" } : Jvm.MethodName) prog_3_method_24_code (3 : Nat) (Option.some Jvm.ClassFile.FieldType.int)) ∈ lw_all := lw_g (lw_at lw_m5 59 rfl) rfl
theorem q1725 : (Jvm.Cond.instanceMethod ({ cls := "GargoyleCopyists$Church", name := "ledgesTold", desc := "()Ljava/lang/String;" } : Jvm.MethodName)) ∈ lw_all := lw_g (lw_at lw_m7 222 rfl) rfl
theorem q1726 : (Jvm.Cond.selects "GargoyleCopyists$Church" ({ cls := "GargoyleCopyists$Church", name := "ledgesTold", desc := "()Ljava/lang/String;" } : Jvm.MethodName) ({ cls := "GargoyleCopyists$Church", name := "ledgesTold", desc := "()Ljava/lang/String;" } : Jvm.MethodName)) ∈ lw_all := lw_g (lw_at lw_m7 223 rfl) rfl
theorem q1727 : (Jvm.Cond.code ({ cls := "GargoyleCopyists$Church", name := "ledgesTold", desc := "()Ljava/lang/String;" } : Jvm.MethodName) prog_3_method_29_code (4 : Nat) (Option.some (Jvm.ClassFile.FieldType.object "java/lang/String"))) ∈ lw_all := lw_g (lw_at lw_m7 224 rfl) rfl
theorem q1728 : (Jvm.Cond.stringRef "GargoyleCopyists$Church" (249 : Nat) "") ∈ lw_tbl := lw_at lw_m7 225 rfl
theorem q1729 : (Jvm.Cond.classLink "GargoyleCopyists$Church" (251 : Nat) "java/lang/StringBuilder") ∈ lw_all := lw_g (lw_at lw_m7 226 rfl) rfl
theorem q1730 : (Jvm.Cond.methodLink "GargoyleCopyists$Church" (253 : Nat) ({ cls := "java/lang/StringBuilder", name := "<init>", desc := "()V" } : Jvm.MethodName)) ∈ lw_all := lw_g (lw_at lw_m7 227 rfl) rfl
theorem q1731 : (Jvm.Cond.methodLink "GargoyleCopyists$Church" (254 : Nat) ({ cls := "java/lang/StringBuilder", name := "append", desc := "(Ljava/lang/String;)Ljava/lang/StringBuilder;" } : Jvm.MethodName)) ∈ lw_all := lw_g (lw_at lw_m7 228 rfl) rfl
theorem q1732 : (Jvm.Cond.methodLink "GargoyleCopyists$Church" (258 : Nat) ({ cls := "GargoyleCopyists$Ledge", name := "text", desc := "()Ljava/lang/String;" } : Jvm.MethodName)) ∈ lw_all := lw_g (lw_at lw_m7 229 rfl) rfl
theorem q1744 : (Jvm.Cond.methodLink "GargoyleCopyists$Church" (262 : Nat) ({ cls := "java/lang/StringBuilder", name := "toString", desc := "()Ljava/lang/String;" } : Jvm.MethodName)) ∈ lw_all := lw_g (lw_at lw_m8 1 rfl) rfl
theorem q1760 : (Jvm.Cond.instanceMethod ({ cls := "GargoyleCopyists$Church", name := "set", desc := "()I" } : Jvm.MethodName)) ∈ lw_all := lw_g (lw_at lw_m8 17 rfl) rfl
theorem q1761 : (Jvm.Cond.selects "GargoyleCopyists$Church" ({ cls := "GargoyleCopyists$Church", name := "set", desc := "()I" } : Jvm.MethodName) ({ cls := "GargoyleCopyists$Church", name := "set", desc := "()I" } : Jvm.MethodName)) ∈ lw_all := lw_g (lw_at lw_m8 18 rfl) rfl
theorem q1762 : (Jvm.Cond.code ({ cls := "GargoyleCopyists$Church", name := "set", desc := "()I" } : Jvm.MethodName) prog_3_method_8_code (4 : Nat) (Option.some Jvm.ClassFile.FieldType.int)) ∈ lw_all := lw_g (lw_at lw_m8 19 rfl) rfl
theorem q1764 : (Jvm.Cond.instanceMethod ({ cls := "GargoyleCopyists$Church", name := "up", desc := "()I" } : Jvm.MethodName)) ∈ lw_all := lw_g (lw_at lw_m8 21 rfl) rfl
theorem q1765 : (Jvm.Cond.selects "GargoyleCopyists$Church" ({ cls := "GargoyleCopyists$Church", name := "up", desc := "()I" } : Jvm.MethodName) ({ cls := "GargoyleCopyists$Church", name := "up", desc := "()I" } : Jvm.MethodName)) ∈ lw_all := lw_g (lw_at lw_m8 22 rfl) rfl
theorem q1766 : (Jvm.Cond.code ({ cls := "GargoyleCopyists$Church", name := "up", desc := "()I" } : Jvm.MethodName) prog_3_method_25_code (4 : Nat) (Option.some Jvm.ClassFile.FieldType.int)) ∈ lw_all := lw_g (lw_at lw_m8 23 rfl) rfl
theorem q1768 : (Jvm.Cond.instanceMethod ({ cls := "GargoyleCopyists$Church", name := "points", desc := "()I" } : Jvm.MethodName)) ∈ lw_all := lw_g (lw_at lw_m8 25 rfl) rfl
theorem q1769 : (Jvm.Cond.selects "GargoyleCopyists$Church" ({ cls := "GargoyleCopyists$Church", name := "points", desc := "()I" } : Jvm.MethodName) ({ cls := "GargoyleCopyists$Church", name := "points", desc := "()I" } : Jvm.MethodName)) ∈ lw_all := lw_g (lw_at lw_m8 26 rfl) rfl
theorem q1770 : (Jvm.Cond.code ({ cls := "GargoyleCopyists$Church", name := "points", desc := "()I" } : Jvm.MethodName) prog_3_method_26_code (4 : Nat) (Option.some Jvm.ClassFile.FieldType.int)) ∈ lw_all := lw_g (lw_at lw_m8 27 rfl) rfl
theorem q1772 : (Jvm.Cond.instanceMethod ({ cls := "GargoyleCopyists$Church", name := "ofLedges", desc := "(I)I" } : Jvm.MethodName)) ∈ lw_all := lw_g (lw_at lw_m8 29 rfl) rfl
theorem q1773 : (Jvm.Cond.selects "GargoyleCopyists$Church" ({ cls := "GargoyleCopyists$Church", name := "ofLedges", desc := "(I)I" } : Jvm.MethodName) ({ cls := "GargoyleCopyists$Church", name := "ofLedges", desc := "(I)I" } : Jvm.MethodName)) ∈ lw_all := lw_g (lw_at lw_m8 30 rfl) rfl
theorem q1774 : (Jvm.Cond.code ({ cls := "GargoyleCopyists$Church", name := "ofLedges", desc := "(I)I" } : Jvm.MethodName) prog_3_method_27_code (5 : Nat) (Option.some Jvm.ClassFile.FieldType.int)) ∈ lw_all := lw_g (lw_at lw_m8 31 rfl) rfl
theorem q1775 : (Jvm.Cond.methodLink "GargoyleCopyists$Church" (243 : Nat) ({ cls := "GargoyleCopyists$Ledge", name := "value", desc := "(I)I" } : Jvm.MethodName)) ∈ lw_all := lw_g (lw_at lw_m8 32 rfl) rfl
theorem q1781 : (Jvm.Cond.instanceMethod ({ cls := "GargoyleCopyists$Church", name := "isBalanced", desc := "()Z" } : Jvm.MethodName)) ∈ lw_all := lw_g (lw_at lw_m8 38 rfl) rfl
theorem q1782 : (Jvm.Cond.selects "GargoyleCopyists$Church" ({ cls := "GargoyleCopyists$Church", name := "isBalanced", desc := "()Z" } : Jvm.MethodName) ({ cls := "GargoyleCopyists$Church", name := "isBalanced", desc := "()Z" } : Jvm.MethodName)) ∈ lw_all := lw_g (lw_at lw_m8 39 rfl) rfl
theorem q1783 : (Jvm.Cond.code ({ cls := "GargoyleCopyists$Church", name := "isBalanced", desc := "()Z" } : Jvm.MethodName) prog_3_method_28_code (1 : Nat) (Option.some Jvm.ClassFile.FieldType.boolean)) ∈ lw_all := lw_g (lw_at lw_m8 40 rfl) rfl
theorem q1784 : (Jvm.Cond.methodLink "GargoyleCopyists$Church" (246 : Nat) ({ cls := "GargoyleCopyists$Church", name := "ofLedges", desc := "(I)I" } : Jvm.MethodName)) ∈ lw_all := lw_g (lw_at lw_m8 41 rfl) rfl
theorem q2240 : (Jvm.Cond.castable "GargoyleCopyists$Church" "java/lang/Object") ∈ lw_tbl := lw_at lw_m10 17 rfl
theorem in_X1 : ∀ w ∈ wsX10, w ∈ lw_all := lw_in wsX10 [301, 303, 305, 307, 309, 311, 313, 315, 317, 319, 321, 323] (by decide +kernel) (by decide +kernel)

/-! GargoyleCopyists$Row -/
set_option maxRecDepth 100000
def RX2 : String := "GargoyleCopyists$Row"
def TX2 : u_T := fun k => match k with
  | 0 => ("GargoyleCopyists$Row", "all", "Ljava/util/ArrayList;", true)
  | _ => ("GargoyleCopyists$Row", "most", "I", true)
def tyX2 : Nat → FieldType := fun k => match k with
  | 0 => .object "java/util/ArrayList"
  | _ => .int
abbrev wsX20 : List Cond := u_ws RX2 TX2 2
theorem nmX2 : ∀ a, a < 2 → ∀ b, b < 2 → a ≠ b → (TX2 a).2.1 ≠ (TX2 b).2.1 := by decide +kernel
theorem tyX2_ok : ∀ k, k < 2 → parseFieldDescriptor (TX2 k).2.2.1 = some (tyX2 k) := by decide +kernel
abbrev cX2_init : ByteArray := prog_13_method_1_code
def yX2_init : MethodName := ⟨RX2, "<init>", "(I)V"⟩
def dkwX2_init_0 : List UInt8 := [42, 183, 0, 3, 42, 27, 181, 0, 9, 42, 187, 0, 15, 89, 27, 183, 0, 17, 181, 0, 20, 177]
abbrev dktX2_init_0 : List UInt8 := dkwX2_init_0 ++ []
theorem dksX2_init_0 : cX2_init.data.toList.drop 0 = dktX2_init_0 := by decide +kernel
theorem dX2_init_0 : decode cX2_init 0 = .ok (.aload_n 0, 1) := dk_42 (dk_at dksX2_init_0 0 rfl rfl)
theorem dX2_init_1 : decode cX2_init 1 = .ok (.invokespecial 3, 3) := dk_183 0 3 (dk_at dksX2_init_0 1 rfl rfl)
theorem dX2_init_4 : decode cX2_init 4 = .ok (.aload_n 0, 1) := dk_42 (dk_at dksX2_init_0 4 rfl rfl)
theorem dX2_init_5 : decode cX2_init 5 = .ok (.iload_n 1, 1) := dk_27 (dk_at dksX2_init_0 5 rfl rfl)
theorem dX2_init_6 : decode cX2_init 6 = .ok (.putfield 9, 3) := dk_181 0 9 (dk_at dksX2_init_0 6 rfl rfl)
theorem dX2_init_9 : decode cX2_init 9 = .ok (.aload_n 0, 1) := dk_42 (dk_at dksX2_init_0 9 rfl rfl)
theorem dX2_init_10 : decode cX2_init 10 = .ok (.new 15, 3) := dk_187 0 15 (dk_at dksX2_init_0 10 rfl rfl)
theorem dX2_init_13 : decode cX2_init 13 = .ok (.dup, 1) := dk_89 (dk_at dksX2_init_0 13 rfl rfl)
theorem dX2_init_14 : decode cX2_init 14 = .ok (.iload_n 1, 1) := dk_27 (dk_at dksX2_init_0 14 rfl rfl)
theorem dX2_init_15 : decode cX2_init 15 = .ok (.invokespecial 17, 3) := dk_183 0 17 (dk_at dksX2_init_0 15 rfl rfl)
theorem dX2_init_18 : decode cX2_init 18 = .ok (.putfield 20, 3) := dk_181 0 20 (dk_at dksX2_init_0 18 rfl rfl)
theorem dX2_init_21 : decode cX2_init 21 = .ok (.return_, 1) := dk_177 (dk_at dksX2_init_0 21 rfl rfl)
abbrev cX2_adds : ByteArray := prog_13_method_7_code
def yX2_adds : MethodName := ⟨RX2, "adds", "(Ljava/lang/Object;)I"⟩
def dkwX2_adds_0 : List UInt8 := [42, 180, 0, 20, 43, 182, 0, 45, 87, 42, 180, 0, 20, 182, 0, 29, 4, 100, 172]
abbrev dktX2_adds_0 : List UInt8 := dkwX2_adds_0 ++ []
theorem dksX2_adds_0 : cX2_adds.data.toList.drop 0 = dktX2_adds_0 := by decide +kernel
theorem dX2_adds_0 : decode cX2_adds 0 = .ok (.aload_n 0, 1) := dk_42 (dk_at dksX2_adds_0 0 rfl rfl)
theorem dX2_adds_1 : decode cX2_adds 1 = .ok (.getfield 20, 3) := dk_180 0 20 (dk_at dksX2_adds_0 1 rfl rfl)
theorem dX2_adds_4 : decode cX2_adds 4 = .ok (.aload_n 1, 1) := dk_43 (dk_at dksX2_adds_0 4 rfl rfl)
theorem dX2_adds_5 : decode cX2_adds 5 = .ok (.invokevirtual 45, 3) := dk_182 0 45 (dk_at dksX2_adds_0 5 rfl rfl)
theorem dX2_adds_8 : decode cX2_adds 8 = .ok (.pop, 1) := dk_87 (dk_at dksX2_adds_0 8 rfl rfl)
theorem dX2_adds_9 : decode cX2_adds 9 = .ok (.aload_n 0, 1) := dk_42 (dk_at dksX2_adds_0 9 rfl rfl)
theorem dX2_adds_10 : decode cX2_adds 10 = .ok (.getfield 20, 3) := dk_180 0 20 (dk_at dksX2_adds_0 10 rfl rfl)
theorem dX2_adds_13 : decode cX2_adds 13 = .ok (.invokevirtual 29, 3) := dk_182 0 29 (dk_at dksX2_adds_0 13 rfl rfl)
theorem dX2_adds_16 : decode cX2_adds 16 = .ok (.iconst 1, 1) := dk_4 (dk_at dksX2_adds_0 16 rfl rfl)
theorem dX2_adds_17 : decode cX2_adds 17 = .ok (.isub, 1) := dk_100 (dk_at dksX2_adds_0 17 rfl rfl)
theorem dX2_adds_18 : decode cX2_adds 18 = .ok (.ireturn, 1) := dk_172 (dk_at dksX2_adds_0 18 rfl rfl)
abbrev cX2_at : ByteArray := prog_13_method_5_code
def yX2_at : MethodName := ⟨RX2, "at", "(I)Ljava/lang/Object;"⟩
def dkwX2_at_0 : List UInt8 := [42, 180, 0, 20, 27, 182, 0, 37, 176]
abbrev dktX2_at_0 : List UInt8 := dkwX2_at_0 ++ []
theorem dksX2_at_0 : cX2_at.data.toList.drop 0 = dktX2_at_0 := by decide +kernel
theorem dX2_at_0 : decode cX2_at 0 = .ok (.aload_n 0, 1) := dk_42 (dk_at dksX2_at_0 0 rfl rfl)
theorem dX2_at_1 : decode cX2_at 1 = .ok (.getfield 20, 3) := dk_180 0 20 (dk_at dksX2_at_0 1 rfl rfl)
theorem dX2_at_4 : decode cX2_at 4 = .ok (.iload_n 1, 1) := dk_27 (dk_at dksX2_at_0 4 rfl rfl)
theorem dX2_at_5 : decode cX2_at 5 = .ok (.invokevirtual 37, 3) := dk_182 0 37 (dk_at dksX2_at_0 5 rfl rfl)
theorem dX2_at_8 : decode cX2_at 8 = .ok (.areturn, 1) := dk_176 (dk_at dksX2_at_0 8 rfl rfl)
abbrev cX2_iterator : ByteArray := prog_13_method_2_code
def yX2_iterator : MethodName := ⟨RX2, "iterator", "()Ljava/util/Iterator;"⟩
def dkwX2_iterator_0 : List UInt8 := [187, 0, 24, 89, 42, 183, 0, 26, 176]
abbrev dktX2_iterator_0 : List UInt8 := dkwX2_iterator_0 ++ []
theorem dksX2_iterator_0 : cX2_iterator.data.toList.drop 0 = dktX2_iterator_0 := by decide +kernel
theorem dX2_iterator_0 : decode cX2_iterator 0 = .ok (.new 24, 3) := dk_187 0 24 (dk_at dksX2_iterator_0 0 rfl rfl)
theorem dX2_iterator_3 : decode cX2_iterator 3 = .ok (.dup, 1) := dk_89 (dk_at dksX2_iterator_0 3 rfl rfl)
theorem dX2_iterator_4 : decode cX2_iterator 4 = .ok (.aload_n 0, 1) := dk_42 (dk_at dksX2_iterator_0 4 rfl rfl)
theorem dX2_iterator_5 : decode cX2_iterator 5 = .ok (.invokespecial 26, 3) := dk_183 0 26 (dk_at dksX2_iterator_0 5 rfl rfl)
theorem dX2_iterator_8 : decode cX2_iterator 8 = .ok (.areturn, 1) := dk_176 (dk_at dksX2_iterator_0 8 rfl rfl)
abbrev cX2_checkRoom : ByteArray := prog_13_method_6_code
def yX2_checkRoom : MethodName := ⟨RX2, "checkRoom", "()V"⟩
def dkwX2_checkRoom_1 : List UInt8 := [184, 0, 41, 177]
abbrev dktX2_checkRoom_1 : List UInt8 := dkwX2_checkRoom_1 ++ []
def dkwX2_checkRoom_0 : List UInt8 := [42, 180, 0, 20, 182, 0, 29, 42, 180, 0, 9, 160, 0, 7, 4, 167, 0, 4, 3, 4, 42, 180, 0, 9]
abbrev dktX2_checkRoom_0 : List UInt8 := dkwX2_checkRoom_0 ++ dktX2_checkRoom_1
theorem dksX2_checkRoom_0 : cX2_checkRoom.data.toList.drop 0 = dktX2_checkRoom_0 := by decide +kernel
theorem dksX2_checkRoom_1 : cX2_checkRoom.data.toList.drop 24 = dktX2_checkRoom_1 := dk_seg dksX2_checkRoom_0 24 rfl rfl
theorem dX2_checkRoom_0 : decode cX2_checkRoom 0 = .ok (.aload_n 0, 1) := dk_42 (dk_at dksX2_checkRoom_0 0 rfl rfl)
theorem dX2_checkRoom_1 : decode cX2_checkRoom 1 = .ok (.getfield 20, 3) := dk_180 0 20 (dk_at dksX2_checkRoom_0 1 rfl rfl)
theorem dX2_checkRoom_4 : decode cX2_checkRoom 4 = .ok (.invokevirtual 29, 3) := dk_182 0 29 (dk_at dksX2_checkRoom_0 4 rfl rfl)
theorem dX2_checkRoom_7 : decode cX2_checkRoom 7 = .ok (.aload_n 0, 1) := dk_42 (dk_at dksX2_checkRoom_0 7 rfl rfl)
theorem dX2_checkRoom_8 : decode cX2_checkRoom 8 = .ok (.getfield 9, 3) := dk_180 0 9 (dk_at dksX2_checkRoom_0 8 rfl rfl)
theorem dX2_checkRoom_11 : decode cX2_checkRoom 11 = .ok (.if_icmp .ne 7, 3) := dk_160 0 7 (dk_at dksX2_checkRoom_0 11 rfl rfl)
theorem dX2_checkRoom_14 : decode cX2_checkRoom 14 = .ok (.iconst 1, 1) := dk_4 (dk_at dksX2_checkRoom_0 14 rfl rfl)
theorem dX2_checkRoom_15 : decode cX2_checkRoom 15 = .ok (.goto 4, 3) := dk_167 0 4 (dk_at dksX2_checkRoom_0 15 rfl rfl)
theorem dX2_checkRoom_18 : decode cX2_checkRoom 18 = .ok (.iconst 0, 1) := dk_3 (dk_at dksX2_checkRoom_0 18 rfl rfl)
theorem dX2_checkRoom_19 : decode cX2_checkRoom 19 = .ok (.iconst 1, 1) := dk_4 (dk_at dksX2_checkRoom_0 19 rfl rfl)
theorem dX2_checkRoom_20 : decode cX2_checkRoom 20 = .ok (.aload_n 0, 1) := dk_42 (dk_at dksX2_checkRoom_0 20 rfl rfl)
theorem dX2_checkRoom_21 : decode cX2_checkRoom 21 = .ok (.getfield 9, 3) := dk_180 0 9 (dk_at dksX2_checkRoom_0 21 rfl rfl)
theorem dX2_checkRoom_24 : decode cX2_checkRoom 24 = .ok (.invokestatic 41, 3) := dk_184 0 41 (dk_at dksX2_checkRoom_1 0 rfl rfl)
theorem dX2_checkRoom_27 : decode cX2_checkRoom 27 = .ok (.return_, 1) := dk_177 (dk_at dksX2_checkRoom_1 3 rfl rfl)
abbrev cX2_has : ByteArray := prog_13_method_4_code
def yX2_has : MethodName := ⟨RX2, "has", "(I)Z"⟩
def dkwX2_has_0 : List UInt8 := [27, 3, 42, 180, 0, 20, 182, 0, 29, 4, 100, 184, 0, 33, 172]
abbrev dktX2_has_0 : List UInt8 := dkwX2_has_0 ++ []
theorem dksX2_has_0 : cX2_has.data.toList.drop 0 = dktX2_has_0 := by decide +kernel
theorem dX2_has_0 : decode cX2_has 0 = .ok (.iload_n 1, 1) := dk_27 (dk_at dksX2_has_0 0 rfl rfl)
theorem dX2_has_1 : decode cX2_has 1 = .ok (.iconst 0, 1) := dk_3 (dk_at dksX2_has_0 1 rfl rfl)
theorem dX2_has_2 : decode cX2_has 2 = .ok (.aload_n 0, 1) := dk_42 (dk_at dksX2_has_0 2 rfl rfl)
theorem dX2_has_3 : decode cX2_has 3 = .ok (.getfield 20, 3) := dk_180 0 20 (dk_at dksX2_has_0 3 rfl rfl)
theorem dX2_has_6 : decode cX2_has 6 = .ok (.invokevirtual 29, 3) := dk_182 0 29 (dk_at dksX2_has_0 6 rfl rfl)
theorem dX2_has_9 : decode cX2_has 9 = .ok (.iconst 1, 1) := dk_4 (dk_at dksX2_has_0 9 rfl rfl)
theorem dX2_has_10 : decode cX2_has 10 = .ok (.isub, 1) := dk_100 (dk_at dksX2_has_0 10 rfl rfl)
theorem dX2_has_11 : decode cX2_has 11 = .ok (.invokestatic 33, 3) := dk_184 0 33 (dk_at dksX2_has_0 11 rfl rfl)
theorem dX2_has_14 : decode cX2_has 14 = .ok (.ireturn, 1) := dk_172 (dk_at dksX2_has_0 14 rfl rfl)
abbrev cX2_size : ByteArray := prog_13_method_3_code
def yX2_size : MethodName := ⟨RX2, "size", "()I"⟩
def dkwX2_size_0 : List UInt8 := [42, 180, 0, 20, 182, 0, 29, 172]
abbrev dktX2_size_0 : List UInt8 := dkwX2_size_0 ++ []
theorem dksX2_size_0 : cX2_size.data.toList.drop 0 = dktX2_size_0 := by decide +kernel
theorem dX2_size_0 : decode cX2_size 0 = .ok (.aload_n 0, 1) := dk_42 (dk_at dksX2_size_0 0 rfl rfl)
theorem dX2_size_1 : decode cX2_size 1 = .ok (.getfield 20, 3) := dk_180 0 20 (dk_at dksX2_size_0 1 rfl rfl)
theorem dX2_size_4 : decode cX2_size 4 = .ok (.invokevirtual 29, 3) := dk_182 0 29 (dk_at dksX2_size_0 4 rfl rfl)
theorem dX2_size_7 : decode cX2_size 7 = .ok (.ireturn, 1) := dk_172 (dk_at dksX2_size_0 7 rfl rfl)
theorem q66 : (Jvm.Cond.initialized "GargoyleCopyists$Row") ∈ lw_all := lw_g (lw_at lw_m1 3 rfl) rfl
theorem q121 : (Jvm.Cond.instantiable "GargoyleCopyists$Row" (2 : Nat)) ∈ lw_all := lw_g (lw_at lw_m1 58 rfl) rfl
theorem q123 : (Jvm.Cond.instanceMethod ({ cls := "GargoyleCopyists$Row", name := "<init>", desc := "(I)V" } : Jvm.MethodName)) ∈ lw_all := lw_g (lw_at lw_m1 60 rfl) rfl
theorem q124 : (Jvm.Cond.code ({ cls := "GargoyleCopyists$Row", name := "<init>", desc := "(I)V" } : Jvm.MethodName) prog_13_method_1_code (2 : Nat) (Option.none : Option Jvm.ClassFile.FieldType)) ∈ lw_all := lw_g (lw_at lw_m1 61 rfl) rfl
theorem q125 : (Jvm.Cond.methodLink "GargoyleCopyists$Row" (3 : Nat) ({ cls := "java/lang/Object", name := "<init>", desc := "()V" } : Jvm.MethodName)) ∈ lw_all := lw_g (lw_at lw_m1 62 rfl) rfl
theorem q126 : (Jvm.Cond.classLink "GargoyleCopyists$Row" (15 : Nat) "java/util/ArrayList") ∈ lw_all := lw_g (lw_at lw_m1 63 rfl) rfl
theorem q128 : (Jvm.Cond.methodLink "GargoyleCopyists$Row" (17 : Nat) ({ cls := "java/util/ArrayList", name := "<init>", desc := "(I)V" } : Jvm.MethodName)) ∈ lw_all := lw_g (lw_at lw_m1 65 rfl) rfl
theorem q154 : (Jvm.Cond.fieldLink "GargoyleCopyists$Row" (20 : Nat) "GargoyleCopyists$Row" "all" "Ljava/util/ArrayList;") ∈ lw_all := lw_g (lw_at lw_m1 91 rfl) rfl
theorem q156 : (Jvm.Cond.fieldLink "GargoyleCopyists$Row" (9 : Nat) "GargoyleCopyists$Row" "most" "I") ∈ lw_all := lw_g (lw_at lw_m1 93 rfl) rfl
theorem q157 : (Jvm.Cond.laysFinal "GargoyleCopyists$Row" "GargoyleCopyists$Row" "all" "Ljava/util/ArrayList;") ∈ lw_all := lw_g (lw_at lw_m1 94 rfl) rfl
theorem q158 : (Jvm.Cond.soleField "GargoyleCopyists$Row" "all") ∈ lw_all := lw_g (lw_at lw_m1 95 rfl) rfl
theorem q159 : (Jvm.Cond.laysFinal "GargoyleCopyists$Row" "GargoyleCopyists$Row" "most" "I") ∈ lw_all := lw_g (lw_at lw_m1 96 rfl) rfl
theorem q160 : (Jvm.Cond.soleField "GargoyleCopyists$Row" "most") ∈ lw_all := lw_g (lw_at lw_m1 97 rfl) rfl
theorem q161 : (Jvm.Cond.superclass "GargoyleCopyists$Row" "java/lang/Object") ∈ lw_all := lw_g (lw_at lw_m1 98 rfl) rfl
theorem q199 : (Jvm.Cond.instanceMethod ({ cls := "GargoyleCopyists$Row", name := "adds", desc := "(Ljava/lang/Object;)I" } : Jvm.MethodName)) ∈ lw_all := lw_g (lw_at lw_m1 136 rfl) rfl
theorem q200 : (Jvm.Cond.selects "GargoyleCopyists$Row" ({ cls := "GargoyleCopyists$Row", name := "adds", desc := "(Ljava/lang/Object;)I" } : Jvm.MethodName) ({ cls := "GargoyleCopyists$Row", name := "adds", desc := "(Ljava/lang/Object;)I" } : Jvm.MethodName)) ∈ lw_all := lw_g (lw_at lw_m1 137 rfl) rfl
theorem q201 : (Jvm.Cond.code ({ cls := "GargoyleCopyists$Row", name := "adds", desc := "(Ljava/lang/Object;)I" } : Jvm.MethodName) prog_13_method_7_code (2 : Nat) (Option.some Jvm.ClassFile.FieldType.int)) ∈ lw_all := lw_g (lw_at lw_m1 138 rfl) rfl
theorem q202 : (Jvm.Cond.methodLink "GargoyleCopyists$Row" (45 : Nat) ({ cls := "java/util/ArrayList", name := "add", desc := "(Ljava/lang/Object;)Z" } : Jvm.MethodName)) ∈ lw_all := lw_g (lw_at lw_m1 139 rfl) rfl
theorem q246 : (Jvm.Cond.selects "GargoyleCopyists$Row" ({ cls := "java/lang/Object", name := "getClass", desc := "()Ljava/lang/Class;" } : Jvm.MethodName) ({ cls := "java/lang/Object", name := "getClass", desc := "()Ljava/lang/Class;" } : Jvm.MethodName)) ∈ lw_all := lw_g (lw_at lw_m1 183 rfl) rfl
theorem q270 : (Jvm.Cond.methodLink "GargoyleCopyists$Row" (29 : Nat) ({ cls := "java/util/ArrayList", name := "size", desc := "()I" } : Jvm.MethodName)) ∈ lw_all := lw_g (lw_at lw_m1 207 rfl) rfl
theorem q421 : (Jvm.Cond.instanceMethod ({ cls := "GargoyleCopyists$Row", name := "at", desc := "(I)Ljava/lang/Object;" } : Jvm.MethodName)) ∈ lw_all := lw_g (lw_at lw_m2 118 rfl) rfl
theorem q422 : (Jvm.Cond.selects "GargoyleCopyists$Row" ({ cls := "GargoyleCopyists$Row", name := "at", desc := "(I)Ljava/lang/Object;" } : Jvm.MethodName) ({ cls := "GargoyleCopyists$Row", name := "at", desc := "(I)Ljava/lang/Object;" } : Jvm.MethodName)) ∈ lw_all := lw_g (lw_at lw_m2 119 rfl) rfl
theorem q423 : (Jvm.Cond.code ({ cls := "GargoyleCopyists$Row", name := "at", desc := "(I)Ljava/lang/Object;" } : Jvm.MethodName) prog_13_method_5_code (2 : Nat) (Option.some (Jvm.ClassFile.FieldType.object "java/lang/Object"))) ∈ lw_all := lw_g (lw_at lw_m2 120 rfl) rfl
theorem q424 : (Jvm.Cond.methodLink "GargoyleCopyists$Row" (37 : Nat) ({ cls := "java/util/ArrayList", name := "get", desc := "(I)Ljava/lang/Object;" } : Jvm.MethodName)) ∈ lw_all := lw_g (lw_at lw_m2 121 rfl) rfl
theorem q469 : (Jvm.Cond.instanceMethod ({ cls := "GargoyleCopyists$Row", name := "iterator", desc := "()Ljava/util/Iterator;" } : Jvm.MethodName)) ∈ lw_all := lw_g (lw_at lw_m2 166 rfl) rfl
theorem q470 : (Jvm.Cond.selects "GargoyleCopyists$Row" ({ cls := "GargoyleCopyists$Row", name := "iterator", desc := "()Ljava/util/Iterator;" } : Jvm.MethodName) ({ cls := "GargoyleCopyists$Row", name := "iterator", desc := "()Ljava/util/Iterator;" } : Jvm.MethodName)) ∈ lw_all := lw_g (lw_at lw_m2 167 rfl) rfl
theorem q471 : (Jvm.Cond.code ({ cls := "GargoyleCopyists$Row", name := "iterator", desc := "()Ljava/util/Iterator;" } : Jvm.MethodName) prog_13_method_2_code (1 : Nat) (Option.some (Jvm.ClassFile.FieldType.object "java/util/Iterator"))) ∈ lw_all := lw_g (lw_at lw_m2 168 rfl) rfl
theorem q472 : (Jvm.Cond.classLink "GargoyleCopyists$Row" (24 : Nat) "GargoyleCopyists$Row$Walk") ∈ lw_all := lw_g (lw_at lw_m2 169 rfl) rfl
theorem q474 : (Jvm.Cond.methodLinkNest "GargoyleCopyists$Row" (26 : Nat) ({ cls := "GargoyleCopyists$Row$Walk", name := "<init>", desc := "(LGargoyleCopyists$Row;)V" } : Jvm.MethodName) "GargoyleCopyists") ∈ lw_tbl := lw_at lw_m2 171 rfl
theorem q782 : (Jvm.Cond.instanceMethod ({ cls := "GargoyleCopyists$Row", name := "checkRoom", desc := "()V" } : Jvm.MethodName)) ∈ lw_all := lw_g (lw_at lw_m3 239 rfl) rfl
theorem q783 : (Jvm.Cond.selects "GargoyleCopyists$Row" ({ cls := "GargoyleCopyists$Row", name := "checkRoom", desc := "()V" } : Jvm.MethodName) ({ cls := "GargoyleCopyists$Row", name := "checkRoom", desc := "()V" } : Jvm.MethodName)) ∈ lw_all := lw_g (lw_at lw_m4 0 rfl) rfl
theorem q784 : (Jvm.Cond.code ({ cls := "GargoyleCopyists$Row", name := "checkRoom", desc := "()V" } : Jvm.MethodName) prog_13_method_6_code (1 : Nat) (Option.none : Option Jvm.ClassFile.FieldType)) ∈ lw_all := lw_g (lw_at lw_m4 1 rfl) rfl
theorem q785 : (Jvm.Cond.methodLinkNest "GargoyleCopyists$Row" (41 : Nat) ({ cls := "GargoyleCopyists", name := "refuse", desc := "(ZII)V" } : Jvm.MethodName) "GargoyleCopyists") ∈ lw_tbl := lw_at lw_m4 2 rfl
theorem q792 : (Jvm.Cond.instanceMethod ({ cls := "GargoyleCopyists$Row", name := "has", desc := "(I)Z" } : Jvm.MethodName)) ∈ lw_all := lw_g (lw_at lw_m4 9 rfl) rfl
theorem q793 : (Jvm.Cond.selects "GargoyleCopyists$Row" ({ cls := "GargoyleCopyists$Row", name := "has", desc := "(I)Z" } : Jvm.MethodName) ({ cls := "GargoyleCopyists$Row", name := "has", desc := "(I)Z" } : Jvm.MethodName)) ∈ lw_all := lw_g (lw_at lw_m4 10 rfl) rfl
theorem q794 : (Jvm.Cond.code ({ cls := "GargoyleCopyists$Row", name := "has", desc := "(I)Z" } : Jvm.MethodName) prog_13_method_4_code (2 : Nat) (Option.some Jvm.ClassFile.FieldType.boolean)) ∈ lw_all := lw_g (lw_at lw_m4 11 rfl) rfl
theorem q795 : (Jvm.Cond.methodLinkNest "GargoyleCopyists$Row" (33 : Nat) ({ cls := "GargoyleCopyists", name := "isIn", desc := "(III)Z" } : Jvm.MethodName) "GargoyleCopyists") ∈ lw_tbl := lw_at lw_m4 12 rfl
theorem q829 : (Jvm.Cond.instanceMethod ({ cls := "GargoyleCopyists$Row", name := "size", desc := "()I" } : Jvm.MethodName)) ∈ lw_all := lw_g (lw_at lw_m4 46 rfl) rfl
theorem q830 : (Jvm.Cond.selects "GargoyleCopyists$Row" ({ cls := "GargoyleCopyists$Row", name := "size", desc := "()I" } : Jvm.MethodName) ({ cls := "GargoyleCopyists$Row", name := "size", desc := "()I" } : Jvm.MethodName)) ∈ lw_all := lw_g (lw_at lw_m4 47 rfl) rfl
theorem q831 : (Jvm.Cond.code ({ cls := "GargoyleCopyists$Row", name := "size", desc := "()I" } : Jvm.MethodName) prog_13_method_3_code (1 : Nat) (Option.some Jvm.ClassFile.FieldType.int)) ∈ lw_all := lw_g (lw_at lw_m4 48 rfl) rfl
theorem q2241 : (Jvm.Cond.castable "GargoyleCopyists$Row" "java/lang/Object") ∈ lw_tbl := lw_at lw_m10 18 rfl
theorem in_X2 : ∀ w ∈ wsX20, w ∈ lw_all := lw_in wsX20 [157, 159] (by decide +kernel) (by decide +kernel)

/-! GargoyleCopyists$Ledge -/
set_option maxRecDepth 100000
def RX3 : String := "GargoyleCopyists$Ledge"
def TX3 : u_T := fun k => match k with
  | 0 => ("GargoyleCopyists$Ledge", "number", "I", true)
  | 1 => ("GargoyleCopyists$Ledge", "pigeons", "I", false)
  | 2 => ("GargoyleCopyists$Ledge", "state", "I", false)
  | 3 => ("GargoyleCopyists$Ledge", "worn", "I", false)
  | 4 => ("GargoyleCopyists$Ledge", "hardHours", "I", false)
  | 5 => ("GargoyleCopyists$Ledge", "copy", "I", false)
  | 6 => ("GargoyleCopyists$Ledge", "ran", "I", false)
  | _ => ("GargoyleCopyists$Ledge", "down", "I", false)
def tyX3 : Nat → FieldType := fun k => match k with
  | 0 => .int
  | 1 => .int
  | 2 => .int
  | 3 => .int
  | 4 => .int
  | 5 => .int
  | 6 => .int
  | _ => .int
abbrev wsX30 : List Cond := u_ws RX3 TX3 8
theorem nmX3 : ∀ a, a < 8 → ∀ b, b < 8 → a ≠ b → (TX3 a).2.1 ≠ (TX3 b).2.1 := by decide +kernel
theorem tyX3_ok : ∀ k, k < 8 → parseFieldDescriptor (TX3 k).2.2.1 = some (tyX3 k) := by decide +kernel
abbrev cX3_init : ByteArray := prog_8_method_1_code
def yX3_init : MethodName := ⟨RX3, "<init>", "(I)V"⟩
def dkwX3_init_1 : List UInt8 := [181, 0, 21, 177]
abbrev dktX3_init_1 : List UInt8 := dkwX3_init_1 ++ []
def dkwX3_init_0 : List UInt8 := [42, 183, 0, 3, 42, 5, 181, 0, 9, 42, 3, 181, 0, 15, 42, 16, 241, 181, 0, 18, 42, 27]
abbrev dktX3_init_0 : List UInt8 := dkwX3_init_0 ++ dktX3_init_1
theorem dksX3_init_0 : cX3_init.data.toList.drop 0 = dktX3_init_0 := by decide +kernel
theorem dksX3_init_1 : cX3_init.data.toList.drop 22 = dktX3_init_1 := dk_seg dksX3_init_0 22 rfl rfl
theorem dX3_init_0 : decode cX3_init 0 = .ok (.aload_n 0, 1) := dk_42 (dk_at dksX3_init_0 0 rfl rfl)
theorem dX3_init_1 : decode cX3_init 1 = .ok (.invokespecial 3, 3) := dk_183 0 3 (dk_at dksX3_init_0 1 rfl rfl)
theorem dX3_init_4 : decode cX3_init 4 = .ok (.aload_n 0, 1) := dk_42 (dk_at dksX3_init_0 4 rfl rfl)
theorem dX3_init_5 : decode cX3_init 5 = .ok (.iconst 2, 1) := dk_5 (dk_at dksX3_init_0 5 rfl rfl)
theorem dX3_init_6 : decode cX3_init 6 = .ok (.putfield 9, 3) := dk_181 0 9 (dk_at dksX3_init_0 6 rfl rfl)
theorem dX3_init_9 : decode cX3_init 9 = .ok (.aload_n 0, 1) := dk_42 (dk_at dksX3_init_0 9 rfl rfl)
theorem dX3_init_10 : decode cX3_init 10 = .ok (.iconst 0, 1) := dk_3 (dk_at dksX3_init_0 10 rfl rfl)
theorem dX3_init_11 : decode cX3_init 11 = .ok (.putfield 15, 3) := dk_181 0 15 (dk_at dksX3_init_0 11 rfl rfl)
theorem dX3_init_14 : decode cX3_init 14 = .ok (.aload_n 0, 1) := dk_42 (dk_at dksX3_init_0 14 rfl rfl)
theorem dX3_init_15 : decode cX3_init 15 = .ok (.bipush (-15), 2) := dk_16 241 (dk_at dksX3_init_0 15 rfl rfl)
theorem dX3_init_17 : decode cX3_init 17 = .ok (.putfield 18, 3) := dk_181 0 18 (dk_at dksX3_init_0 17 rfl rfl)
theorem dX3_init_20 : decode cX3_init 20 = .ok (.aload_n 0, 1) := dk_42 (dk_at dksX3_init_0 20 rfl rfl)
theorem dX3_init_21 : decode cX3_init 21 = .ok (.iload_n 1, 1) := dk_27 (dk_at dksX3_init_0 21 rfl rfl)
theorem dX3_init_22 : decode cX3_init 22 = .ok (.putfield 21, 3) := dk_181 0 21 (dk_at dksX3_init_1 0 rfl rfl)
theorem dX3_init_25 : decode cX3_init 25 = .ok (.return_, 1) := dk_177 (dk_at dksX3_init_1 3 rfl rfl)
abbrev cX3_value : ByteArray := prog_8_method_10_code
def yX3_value : MethodName := ⟨RX3, "value", "(I)I"⟩
def dkwX3_value_4 : List UInt8 := [167, 0, 5, 16, 244, 172]
abbrev dktX3_value_4 : List UInt8 := dkwX3_value_4 ++ []
def dkwX3_value_3 : List UInt8 := [180, 0, 27, 167, 0, 26, 42, 180, 0, 18, 167, 0, 19, 42, 180, 0, 33, 167, 0, 12, 42, 180, 0, 36]
abbrev dktX3_value_3 : List UInt8 := dkwX3_value_3 ++ dktX3_value_4
def dkwX3_value_2 : List UInt8 := [42, 182, 0, 39, 167, 0, 47, 42, 180, 0, 9, 167, 0, 40, 42, 180, 0, 15, 167, 0, 33, 42]
abbrev dktX3_value_2 : List UInt8 := dkwX3_value_2 ++ dktX3_value_3
def dkwX3_value_1 : List UInt8 := [170, 0, 0, 0, 0, 0, 92, 0, 0, 0, 0, 0, 0, 0, 6, 0, 0, 0, 43, 0, 0, 0, 50, 0, 0, 0, 57, 0, 0, 0, 64, 0, 0, 0, 71, 0, 0, 0, 78, 0, 0, 0, 85]
abbrev dktX3_value_1 : List UInt8 := dkwX3_value_1 ++ dktX3_value_2
def dkwX3_value_0 : List UInt8 := [27]
abbrev dktX3_value_0 : List UInt8 := dkwX3_value_0 ++ dktX3_value_1
theorem dksX3_value_0 : cX3_value.data.toList.drop 0 = dktX3_value_0 := by decide +kernel
theorem dksX3_value_1 : cX3_value.data.toList.drop 1 = dktX3_value_1 := dk_seg dksX3_value_0 1 rfl rfl
theorem dksX3_value_2 : cX3_value.data.toList.drop 44 = dktX3_value_2 := dk_seg dksX3_value_1 43 rfl rfl
theorem dksX3_value_3 : cX3_value.data.toList.drop 66 = dktX3_value_3 := dk_seg dksX3_value_2 22 rfl rfl
theorem dksX3_value_4 : cX3_value.data.toList.drop 90 = dktX3_value_4 := dk_seg dksX3_value_3 24 rfl rfl
theorem dX3_value_0 : decode cX3_value 0 = .ok (.iload_n 1, 1) := dk_27 (dk_at dksX3_value_0 0 rfl rfl)
theorem dX3_value_1 : decode cX3_value 1 = .ok (.tableswitch 92 0 6 #[43, 50, 57, 64, 71, 78, 85], 43) := by decide +kernel
theorem dX3_value_44 : decode cX3_value 44 = .ok (.aload_n 0, 1) := dk_42 (dk_at dksX3_value_2 0 rfl rfl)
theorem dX3_value_45 : decode cX3_value 45 = .ok (.invokevirtual 39, 3) := dk_182 0 39 (dk_at dksX3_value_2 1 rfl rfl)
theorem dX3_value_48 : decode cX3_value 48 = .ok (.goto 47, 3) := dk_167 0 47 (dk_at dksX3_value_2 4 rfl rfl)
theorem dX3_value_51 : decode cX3_value 51 = .ok (.aload_n 0, 1) := dk_42 (dk_at dksX3_value_2 7 rfl rfl)
theorem dX3_value_52 : decode cX3_value 52 = .ok (.getfield 9, 3) := dk_180 0 9 (dk_at dksX3_value_2 8 rfl rfl)
theorem dX3_value_55 : decode cX3_value 55 = .ok (.goto 40, 3) := dk_167 0 40 (dk_at dksX3_value_2 11 rfl rfl)
theorem dX3_value_58 : decode cX3_value 58 = .ok (.aload_n 0, 1) := dk_42 (dk_at dksX3_value_2 14 rfl rfl)
theorem dX3_value_59 : decode cX3_value 59 = .ok (.getfield 15, 3) := dk_180 0 15 (dk_at dksX3_value_2 15 rfl rfl)
theorem dX3_value_62 : decode cX3_value 62 = .ok (.goto 33, 3) := dk_167 0 33 (dk_at dksX3_value_2 18 rfl rfl)
theorem dX3_value_65 : decode cX3_value 65 = .ok (.aload_n 0, 1) := dk_42 (dk_at dksX3_value_2 21 rfl rfl)
theorem dX3_value_66 : decode cX3_value 66 = .ok (.getfield 27, 3) := dk_180 0 27 (dk_at dksX3_value_3 0 rfl rfl)
theorem dX3_value_69 : decode cX3_value 69 = .ok (.goto 26, 3) := dk_167 0 26 (dk_at dksX3_value_3 3 rfl rfl)
theorem dX3_value_72 : decode cX3_value 72 = .ok (.aload_n 0, 1) := dk_42 (dk_at dksX3_value_3 6 rfl rfl)
theorem dX3_value_73 : decode cX3_value 73 = .ok (.getfield 18, 3) := dk_180 0 18 (dk_at dksX3_value_3 7 rfl rfl)
theorem dX3_value_76 : decode cX3_value 76 = .ok (.goto 19, 3) := dk_167 0 19 (dk_at dksX3_value_3 10 rfl rfl)
theorem dX3_value_79 : decode cX3_value 79 = .ok (.aload_n 0, 1) := dk_42 (dk_at dksX3_value_3 13 rfl rfl)
theorem dX3_value_80 : decode cX3_value 80 = .ok (.getfield 33, 3) := dk_180 0 33 (dk_at dksX3_value_3 14 rfl rfl)
theorem dX3_value_83 : decode cX3_value 83 = .ok (.goto 12, 3) := dk_167 0 12 (dk_at dksX3_value_3 17 rfl rfl)
theorem dX3_value_86 : decode cX3_value 86 = .ok (.aload_n 0, 1) := dk_42 (dk_at dksX3_value_3 20 rfl rfl)
theorem dX3_value_87 : decode cX3_value 87 = .ok (.getfield 36, 3) := dk_180 0 36 (dk_at dksX3_value_3 21 rfl rfl)
theorem dX3_value_90 : decode cX3_value 90 = .ok (.goto 5, 3) := dk_167 0 5 (dk_at dksX3_value_4 0 rfl rfl)
theorem dX3_value_93 : decode cX3_value 93 = .ok (.bipush (-12), 2) := dk_16 244 (dk_at dksX3_value_4 3 rfl rfl)
theorem dX3_value_95 : decode cX3_value 95 = .ok (.ireturn, 1) := dk_172 (dk_at dksX3_value_4 5 rfl rfl)
abbrev cX3_height : ByteArray := prog_8_method_3_code
def yX3_height : MethodName := ⟨RX3, "height", "()I"⟩
def dkwX3_height_0 : List UInt8 := [7, 6, 42, 180, 0, 21, 104, 96, 172]
abbrev dktX3_height_0 : List UInt8 := dkwX3_height_0 ++ []
theorem dksX3_height_0 : cX3_height.data.toList.drop 0 = dktX3_height_0 := by decide +kernel
theorem dX3_height_0 : decode cX3_height 0 = .ok (.iconst 4, 1) := dk_7 (dk_at dksX3_height_0 0 rfl rfl)
theorem dX3_height_1 : decode cX3_height 1 = .ok (.iconst 3, 1) := dk_6 (dk_at dksX3_height_0 1 rfl rfl)
theorem dX3_height_2 : decode cX3_height 2 = .ok (.aload_n 0, 1) := dk_42 (dk_at dksX3_height_0 2 rfl rfl)
theorem dX3_height_3 : decode cX3_height 3 = .ok (.getfield 21, 3) := dk_180 0 21 (dk_at dksX3_height_0 3 rfl rfl)
theorem dX3_height_6 : decode cX3_height 6 = .ok (.imul, 1) := dk_104 (dk_at dksX3_height_0 6 rfl rfl)
theorem dX3_height_7 : decode cX3_height 7 = .ok (.iadd, 1) := dk_96 (dk_at dksX3_height_0 7 rfl rfl)
theorem dX3_height_8 : decode cX3_height 8 = .ok (.ireturn, 1) := dk_172 (dk_at dksX3_height_0 8 rfl rfl)
abbrev cX3_depth : ByteArray := prog_8_method_5_code
def yX3_depth : MethodName := ⟨RX3, "depth", "(I)I"⟩
def dkwX3_depth_0 : List UInt8 := [16, 9, 16, 11, 42, 180, 0, 21, 104, 16, 7, 27, 104, 96, 16, 30, 112, 96, 42, 180, 0, 27, 100, 172]
abbrev dktX3_depth_0 : List UInt8 := dkwX3_depth_0 ++ []
theorem dksX3_depth_0 : cX3_depth.data.toList.drop 0 = dktX3_depth_0 := by decide +kernel
theorem dX3_depth_0 : decode cX3_depth 0 = .ok (.bipush 9, 2) := dk_16 9 (dk_at dksX3_depth_0 0 rfl rfl)
theorem dX3_depth_2 : decode cX3_depth 2 = .ok (.bipush 11, 2) := dk_16 11 (dk_at dksX3_depth_0 2 rfl rfl)
theorem dX3_depth_4 : decode cX3_depth 4 = .ok (.aload_n 0, 1) := dk_42 (dk_at dksX3_depth_0 4 rfl rfl)
theorem dX3_depth_5 : decode cX3_depth 5 = .ok (.getfield 21, 3) := dk_180 0 21 (dk_at dksX3_depth_0 5 rfl rfl)
theorem dX3_depth_8 : decode cX3_depth 8 = .ok (.imul, 1) := dk_104 (dk_at dksX3_depth_0 8 rfl rfl)
theorem dX3_depth_9 : decode cX3_depth 9 = .ok (.bipush 7, 2) := dk_16 7 (dk_at dksX3_depth_0 9 rfl rfl)
theorem dX3_depth_11 : decode cX3_depth 11 = .ok (.iload_n 1, 1) := dk_27 (dk_at dksX3_depth_0 11 rfl rfl)
theorem dX3_depth_12 : decode cX3_depth 12 = .ok (.imul, 1) := dk_104 (dk_at dksX3_depth_0 12 rfl rfl)
theorem dX3_depth_13 : decode cX3_depth 13 = .ok (.iadd, 1) := dk_96 (dk_at dksX3_depth_0 13 rfl rfl)
theorem dX3_depth_14 : decode cX3_depth 14 = .ok (.bipush 30, 2) := dk_16 30 (dk_at dksX3_depth_0 14 rfl rfl)
theorem dX3_depth_16 : decode cX3_depth 16 = .ok (.irem, 1) := dk_112 (dk_at dksX3_depth_0 16 rfl rfl)
theorem dX3_depth_17 : decode cX3_depth 17 = .ok (.iadd, 1) := dk_96 (dk_at dksX3_depth_0 17 rfl rfl)
theorem dX3_depth_18 : decode cX3_depth 18 = .ok (.aload_n 0, 1) := dk_42 (dk_at dksX3_depth_0 18 rfl rfl)
theorem dX3_depth_19 : decode cX3_depth 19 = .ok (.getfield 27, 3) := dk_180 0 27 (dk_at dksX3_depth_0 19 rfl rfl)
theorem dX3_depth_22 : decode cX3_depth 22 = .ok (.isub, 1) := dk_100 (dk_at dksX3_depth_0 22 rfl rfl)
theorem dX3_depth_23 : decode cX3_depth 23 = .ok (.ireturn, 1) := dk_172 (dk_at dksX3_depth_0 23 rfl rfl)
abbrev cX3_copy : ByteArray := prog_8_method_2_code
def yX3_copy : MethodName := ⟨RX3, "copy", "()LGargoyleCopyists$Ledge;"⟩
def dkwX3_copy_2 : List UInt8 := [180, 0, 18, 181, 0, 18, 43, 42, 180, 0, 33, 181, 0, 33, 43, 42, 180, 0, 36, 181, 0, 36, 43, 176]
abbrev dktX3_copy_2 : List UInt8 := dkwX3_copy_2 ++ []
def dkwX3_copy_1 : List UInt8 := [180, 0, 15, 181, 0, 15, 43, 42, 180, 0, 27, 181, 0, 27, 43, 42, 180, 0, 30, 181, 0, 30, 43, 42]
abbrev dktX3_copy_1 : List UInt8 := dkwX3_copy_1 ++ dktX3_copy_2
def dkwX3_copy_0 : List UInt8 := [187, 0, 10, 89, 42, 180, 0, 21, 183, 0, 24, 76, 43, 42, 180, 0, 9, 181, 0, 9, 43, 42]
abbrev dktX3_copy_0 : List UInt8 := dkwX3_copy_0 ++ dktX3_copy_1
theorem dksX3_copy_0 : cX3_copy.data.toList.drop 0 = dktX3_copy_0 := by decide +kernel
theorem dksX3_copy_1 : cX3_copy.data.toList.drop 22 = dktX3_copy_1 := dk_seg dksX3_copy_0 22 rfl rfl
theorem dksX3_copy_2 : cX3_copy.data.toList.drop 46 = dktX3_copy_2 := dk_seg dksX3_copy_1 24 rfl rfl
theorem dX3_copy_0 : decode cX3_copy 0 = .ok (.new 10, 3) := dk_187 0 10 (dk_at dksX3_copy_0 0 rfl rfl)
theorem dX3_copy_3 : decode cX3_copy 3 = .ok (.dup, 1) := dk_89 (dk_at dksX3_copy_0 3 rfl rfl)
theorem dX3_copy_4 : decode cX3_copy 4 = .ok (.aload_n 0, 1) := dk_42 (dk_at dksX3_copy_0 4 rfl rfl)
theorem dX3_copy_5 : decode cX3_copy 5 = .ok (.getfield 21, 3) := dk_180 0 21 (dk_at dksX3_copy_0 5 rfl rfl)
theorem dX3_copy_8 : decode cX3_copy 8 = .ok (.invokespecial 24, 3) := dk_183 0 24 (dk_at dksX3_copy_0 8 rfl rfl)
theorem dX3_copy_11 : decode cX3_copy 11 = .ok (.astore_n 1, 1) := dk_76 (dk_at dksX3_copy_0 11 rfl rfl)
theorem dX3_copy_12 : decode cX3_copy 12 = .ok (.aload_n 1, 1) := dk_43 (dk_at dksX3_copy_0 12 rfl rfl)
theorem dX3_copy_13 : decode cX3_copy 13 = .ok (.aload_n 0, 1) := dk_42 (dk_at dksX3_copy_0 13 rfl rfl)
theorem dX3_copy_14 : decode cX3_copy 14 = .ok (.getfield 9, 3) := dk_180 0 9 (dk_at dksX3_copy_0 14 rfl rfl)
theorem dX3_copy_17 : decode cX3_copy 17 = .ok (.putfield 9, 3) := dk_181 0 9 (dk_at dksX3_copy_0 17 rfl rfl)
theorem dX3_copy_20 : decode cX3_copy 20 = .ok (.aload_n 1, 1) := dk_43 (dk_at dksX3_copy_0 20 rfl rfl)
theorem dX3_copy_21 : decode cX3_copy 21 = .ok (.aload_n 0, 1) := dk_42 (dk_at dksX3_copy_0 21 rfl rfl)
theorem dX3_copy_22 : decode cX3_copy 22 = .ok (.getfield 15, 3) := dk_180 0 15 (dk_at dksX3_copy_1 0 rfl rfl)
theorem dX3_copy_25 : decode cX3_copy 25 = .ok (.putfield 15, 3) := dk_181 0 15 (dk_at dksX3_copy_1 3 rfl rfl)
theorem dX3_copy_28 : decode cX3_copy 28 = .ok (.aload_n 1, 1) := dk_43 (dk_at dksX3_copy_1 6 rfl rfl)
theorem dX3_copy_29 : decode cX3_copy 29 = .ok (.aload_n 0, 1) := dk_42 (dk_at dksX3_copy_1 7 rfl rfl)
theorem dX3_copy_30 : decode cX3_copy 30 = .ok (.getfield 27, 3) := dk_180 0 27 (dk_at dksX3_copy_1 8 rfl rfl)
theorem dX3_copy_33 : decode cX3_copy 33 = .ok (.putfield 27, 3) := dk_181 0 27 (dk_at dksX3_copy_1 11 rfl rfl)
theorem dX3_copy_36 : decode cX3_copy 36 = .ok (.aload_n 1, 1) := dk_43 (dk_at dksX3_copy_1 14 rfl rfl)
theorem dX3_copy_37 : decode cX3_copy 37 = .ok (.aload_n 0, 1) := dk_42 (dk_at dksX3_copy_1 15 rfl rfl)
theorem dX3_copy_38 : decode cX3_copy 38 = .ok (.getfield 30, 3) := dk_180 0 30 (dk_at dksX3_copy_1 16 rfl rfl)
theorem dX3_copy_41 : decode cX3_copy 41 = .ok (.putfield 30, 3) := dk_181 0 30 (dk_at dksX3_copy_1 19 rfl rfl)
theorem dX3_copy_44 : decode cX3_copy 44 = .ok (.aload_n 1, 1) := dk_43 (dk_at dksX3_copy_1 22 rfl rfl)
theorem dX3_copy_45 : decode cX3_copy 45 = .ok (.aload_n 0, 1) := dk_42 (dk_at dksX3_copy_1 23 rfl rfl)
theorem dX3_copy_46 : decode cX3_copy 46 = .ok (.getfield 18, 3) := dk_180 0 18 (dk_at dksX3_copy_2 0 rfl rfl)
theorem dX3_copy_49 : decode cX3_copy 49 = .ok (.putfield 18, 3) := dk_181 0 18 (dk_at dksX3_copy_2 3 rfl rfl)
theorem dX3_copy_52 : decode cX3_copy 52 = .ok (.aload_n 1, 1) := dk_43 (dk_at dksX3_copy_2 6 rfl rfl)
theorem dX3_copy_53 : decode cX3_copy 53 = .ok (.aload_n 0, 1) := dk_42 (dk_at dksX3_copy_2 7 rfl rfl)
theorem dX3_copy_54 : decode cX3_copy 54 = .ok (.getfield 33, 3) := dk_180 0 33 (dk_at dksX3_copy_2 8 rfl rfl)
theorem dX3_copy_57 : decode cX3_copy 57 = .ok (.putfield 33, 3) := dk_181 0 33 (dk_at dksX3_copy_2 11 rfl rfl)
theorem dX3_copy_60 : decode cX3_copy 60 = .ok (.aload_n 1, 1) := dk_43 (dk_at dksX3_copy_2 14 rfl rfl)
theorem dX3_copy_61 : decode cX3_copy 61 = .ok (.aload_n 0, 1) := dk_42 (dk_at dksX3_copy_2 15 rfl rfl)
theorem dX3_copy_62 : decode cX3_copy 62 = .ok (.getfield 36, 3) := dk_180 0 36 (dk_at dksX3_copy_2 16 rfl rfl)
theorem dX3_copy_65 : decode cX3_copy 65 = .ok (.putfield 36, 3) := dk_181 0 36 (dk_at dksX3_copy_2 19 rfl rfl)
theorem dX3_copy_68 : decode cX3_copy 68 = .ok (.aload_n 1, 1) := dk_43 (dk_at dksX3_copy_2 22 rfl rfl)
theorem dX3_copy_69 : decode cX3_copy 69 = .ok (.areturn, 1) := dk_176 (dk_at dksX3_copy_2 23 rfl rfl)
abbrev cX3_bears : ByteArray := prog_8_method_4_code
def yX3_bears : MethodName := ⟨RX3, "bears", "()I"⟩
def dkwX3_bears_0 : List UInt8 := [16, 120, 6, 42, 182, 0, 39, 104, 5, 108, 100, 172]
abbrev dktX3_bears_0 : List UInt8 := dkwX3_bears_0 ++ []
theorem dksX3_bears_0 : cX3_bears.data.toList.drop 0 = dktX3_bears_0 := by decide +kernel
theorem dX3_bears_0 : decode cX3_bears 0 = .ok (.bipush 120, 2) := dk_16 120 (dk_at dksX3_bears_0 0 rfl rfl)
theorem dX3_bears_2 : decode cX3_bears 2 = .ok (.iconst 3, 1) := dk_6 (dk_at dksX3_bears_0 2 rfl rfl)
theorem dX3_bears_3 : decode cX3_bears 3 = .ok (.aload_n 0, 1) := dk_42 (dk_at dksX3_bears_0 3 rfl rfl)
theorem dX3_bears_4 : decode cX3_bears 4 = .ok (.invokevirtual 39, 3) := dk_182 0 39 (dk_at dksX3_bears_0 4 rfl rfl)
theorem dX3_bears_7 : decode cX3_bears 7 = .ok (.imul, 1) := dk_104 (dk_at dksX3_bears_0 7 rfl rfl)
theorem dX3_bears_8 : decode cX3_bears 8 = .ok (.iconst 2, 1) := dk_5 (dk_at dksX3_bears_0 8 rfl rfl)
theorem dX3_bears_9 : decode cX3_bears 9 = .ok (.idiv, 1) := dk_108 (dk_at dksX3_bears_0 9 rfl rfl)
theorem dX3_bears_10 : decode cX3_bears 10 = .ok (.isub, 1) := dk_100 (dk_at dksX3_bears_0 10 rfl rfl)
theorem dX3_bears_11 : decode cX3_bears 11 = .ok (.ireturn, 1) := dk_172 (dk_at dksX3_bears_0 11 rfl rfl)
abbrev cX3_isRainedOn : ByteArray := prog_8_method_6_code
def yX3_isRainedOn : MethodName := ⟨RX3, "isRainedOn", "(II)I"⟩
def dkwX3_isRainedOn_1 : List UInt8 := [181, 0, 33, 42, 89, 180, 0, 36, 29, 21, 4, 100, 96, 181, 0, 36, 29, 21, 4, 100, 172]
abbrev dktX3_isRainedOn_1 : List UInt8 := dkwX3_isRainedOn_1 ++ []
def dkwX3_isRainedOn_0 : List UInt8 := [16, 10, 27, 104, 62, 29, 6, 28, 104, 184, 0, 43, 54, 4, 42, 89, 180, 0, 33, 21, 4, 96]
abbrev dktX3_isRainedOn_0 : List UInt8 := dkwX3_isRainedOn_0 ++ dktX3_isRainedOn_1
theorem dksX3_isRainedOn_0 : cX3_isRainedOn.data.toList.drop 0 = dktX3_isRainedOn_0 := by decide +kernel
theorem dksX3_isRainedOn_1 : cX3_isRainedOn.data.toList.drop 22 = dktX3_isRainedOn_1 := dk_seg dksX3_isRainedOn_0 22 rfl rfl
theorem dX3_isRainedOn_0 : decode cX3_isRainedOn 0 = .ok (.bipush 10, 2) := dk_16 10 (dk_at dksX3_isRainedOn_0 0 rfl rfl)
theorem dX3_isRainedOn_2 : decode cX3_isRainedOn 2 = .ok (.iload_n 1, 1) := dk_27 (dk_at dksX3_isRainedOn_0 2 rfl rfl)
theorem dX3_isRainedOn_3 : decode cX3_isRainedOn 3 = .ok (.imul, 1) := dk_104 (dk_at dksX3_isRainedOn_0 3 rfl rfl)
theorem dX3_isRainedOn_4 : decode cX3_isRainedOn 4 = .ok (.istore_n 3, 1) := dk_62 (dk_at dksX3_isRainedOn_0 4 rfl rfl)
theorem dX3_isRainedOn_5 : decode cX3_isRainedOn 5 = .ok (.iload_n 3, 1) := dk_29 (dk_at dksX3_isRainedOn_0 5 rfl rfl)
theorem dX3_isRainedOn_6 : decode cX3_isRainedOn 6 = .ok (.iconst 3, 1) := dk_6 (dk_at dksX3_isRainedOn_0 6 rfl rfl)
theorem dX3_isRainedOn_7 : decode cX3_isRainedOn 7 = .ok (.iload_n 2, 1) := dk_28 (dk_at dksX3_isRainedOn_0 7 rfl rfl)
theorem dX3_isRainedOn_8 : decode cX3_isRainedOn 8 = .ok (.imul, 1) := dk_104 (dk_at dksX3_isRainedOn_0 8 rfl rfl)
theorem dX3_isRainedOn_9 : decode cX3_isRainedOn 9 = .ok (.invokestatic 43, 3) := dk_184 0 43 (dk_at dksX3_isRainedOn_0 9 rfl rfl)
theorem dX3_isRainedOn_12 : decode cX3_isRainedOn 12 = .ok (.istore 4, 2) := dk_54 4 (dk_at dksX3_isRainedOn_0 12 rfl rfl)
theorem dX3_isRainedOn_14 : decode cX3_isRainedOn 14 = .ok (.aload_n 0, 1) := dk_42 (dk_at dksX3_isRainedOn_0 14 rfl rfl)
theorem dX3_isRainedOn_15 : decode cX3_isRainedOn 15 = .ok (.dup, 1) := dk_89 (dk_at dksX3_isRainedOn_0 15 rfl rfl)
theorem dX3_isRainedOn_16 : decode cX3_isRainedOn 16 = .ok (.getfield 33, 3) := dk_180 0 33 (dk_at dksX3_isRainedOn_0 16 rfl rfl)
theorem dX3_isRainedOn_19 : decode cX3_isRainedOn 19 = .ok (.iload 4, 2) := dk_21 4 (dk_at dksX3_isRainedOn_0 19 rfl rfl)
theorem dX3_isRainedOn_21 : decode cX3_isRainedOn 21 = .ok (.iadd, 1) := dk_96 (dk_at dksX3_isRainedOn_0 21 rfl rfl)
theorem dX3_isRainedOn_22 : decode cX3_isRainedOn 22 = .ok (.putfield 33, 3) := dk_181 0 33 (dk_at dksX3_isRainedOn_1 0 rfl rfl)
theorem dX3_isRainedOn_25 : decode cX3_isRainedOn 25 = .ok (.aload_n 0, 1) := dk_42 (dk_at dksX3_isRainedOn_1 3 rfl rfl)
theorem dX3_isRainedOn_26 : decode cX3_isRainedOn 26 = .ok (.dup, 1) := dk_89 (dk_at dksX3_isRainedOn_1 4 rfl rfl)
theorem dX3_isRainedOn_27 : decode cX3_isRainedOn 27 = .ok (.getfield 36, 3) := dk_180 0 36 (dk_at dksX3_isRainedOn_1 5 rfl rfl)
theorem dX3_isRainedOn_30 : decode cX3_isRainedOn 30 = .ok (.iload_n 3, 1) := dk_29 (dk_at dksX3_isRainedOn_1 8 rfl rfl)
theorem dX3_isRainedOn_31 : decode cX3_isRainedOn 31 = .ok (.iload 4, 2) := dk_21 4 (dk_at dksX3_isRainedOn_1 9 rfl rfl)
theorem dX3_isRainedOn_33 : decode cX3_isRainedOn 33 = .ok (.isub, 1) := dk_100 (dk_at dksX3_isRainedOn_1 11 rfl rfl)
theorem dX3_isRainedOn_34 : decode cX3_isRainedOn 34 = .ok (.iadd, 1) := dk_96 (dk_at dksX3_isRainedOn_1 12 rfl rfl)
theorem dX3_isRainedOn_35 : decode cX3_isRainedOn 35 = .ok (.putfield 36, 3) := dk_181 0 36 (dk_at dksX3_isRainedOn_1 13 rfl rfl)
theorem dX3_isRainedOn_38 : decode cX3_isRainedOn 38 = .ok (.iload_n 3, 1) := dk_29 (dk_at dksX3_isRainedOn_1 16 rfl rfl)
theorem dX3_isRainedOn_39 : decode cX3_isRainedOn 39 = .ok (.iload 4, 2) := dk_21 4 (dk_at dksX3_isRainedOn_1 17 rfl rfl)
theorem dX3_isRainedOn_41 : decode cX3_isRainedOn 41 = .ok (.isub, 1) := dk_100 (dk_at dksX3_isRainedOn_1 19 rfl rfl)
theorem dX3_isRainedOn_42 : decode cX3_isRainedOn 42 = .ok (.ireturn, 1) := dk_172 (dk_at dksX3_isRainedOn_1 20 rfl rfl)
abbrev cX3_isWornBy : ByteArray := prog_8_method_7_code
def yX3_isWornBy : MethodName := ⟨RX3, "isWornBy", "(I)V"⟩
def dkwX3_isWornBy_2 : List UInt8 := [184, 0, 43, 181, 0, 27, 177]
abbrev dktX3_isWornBy_2 : List UInt8 := dkwX3_isWornBy_2 ++ []
def dkwX3_isWornBy_1 : List UInt8 := [180, 0, 30, 16, 8, 160, 0, 23, 42, 3, 181, 0, 30, 42, 16, 9, 42, 180, 0, 27, 4, 96]
abbrev dktX3_isWornBy_1 : List UInt8 := dkwX3_isWornBy_1 ++ dktX3_isWornBy_2
def dkwX3_isWornBy_0 : List UInt8 := [42, 180, 0, 15, 154, 0, 8, 27, 8, 162, 0, 4, 177, 42, 89, 180, 0, 30, 4, 96, 181, 0, 30, 42]
abbrev dktX3_isWornBy_0 : List UInt8 := dkwX3_isWornBy_0 ++ dktX3_isWornBy_1
theorem dksX3_isWornBy_0 : cX3_isWornBy.data.toList.drop 0 = dktX3_isWornBy_0 := by decide +kernel
theorem dksX3_isWornBy_1 : cX3_isWornBy.data.toList.drop 24 = dktX3_isWornBy_1 := dk_seg dksX3_isWornBy_0 24 rfl rfl
theorem dksX3_isWornBy_2 : cX3_isWornBy.data.toList.drop 46 = dktX3_isWornBy_2 := dk_seg dksX3_isWornBy_1 22 rfl rfl
theorem dX3_isWornBy_0 : decode cX3_isWornBy 0 = .ok (.aload_n 0, 1) := dk_42 (dk_at dksX3_isWornBy_0 0 rfl rfl)
theorem dX3_isWornBy_1 : decode cX3_isWornBy 1 = .ok (.getfield 15, 3) := dk_180 0 15 (dk_at dksX3_isWornBy_0 1 rfl rfl)
theorem dX3_isWornBy_4 : decode cX3_isWornBy 4 = .ok (.ifCond .ne 8, 3) := dk_154 0 8 (dk_at dksX3_isWornBy_0 4 rfl rfl)
theorem dX3_isWornBy_7 : decode cX3_isWornBy 7 = .ok (.iload_n 1, 1) := dk_27 (dk_at dksX3_isWornBy_0 7 rfl rfl)
theorem dX3_isWornBy_8 : decode cX3_isWornBy 8 = .ok (.iconst 5, 1) := dk_8 (dk_at dksX3_isWornBy_0 8 rfl rfl)
theorem dX3_isWornBy_9 : decode cX3_isWornBy 9 = .ok (.if_icmp .ge 4, 3) := dk_162 0 4 (dk_at dksX3_isWornBy_0 9 rfl rfl)
theorem dX3_isWornBy_12 : decode cX3_isWornBy 12 = .ok (.return_, 1) := dk_177 (dk_at dksX3_isWornBy_0 12 rfl rfl)
theorem dX3_isWornBy_13 : decode cX3_isWornBy 13 = .ok (.aload_n 0, 1) := dk_42 (dk_at dksX3_isWornBy_0 13 rfl rfl)
theorem dX3_isWornBy_14 : decode cX3_isWornBy 14 = .ok (.dup, 1) := dk_89 (dk_at dksX3_isWornBy_0 14 rfl rfl)
theorem dX3_isWornBy_15 : decode cX3_isWornBy 15 = .ok (.getfield 30, 3) := dk_180 0 30 (dk_at dksX3_isWornBy_0 15 rfl rfl)
theorem dX3_isWornBy_18 : decode cX3_isWornBy 18 = .ok (.iconst 1, 1) := dk_4 (dk_at dksX3_isWornBy_0 18 rfl rfl)
theorem dX3_isWornBy_19 : decode cX3_isWornBy 19 = .ok (.iadd, 1) := dk_96 (dk_at dksX3_isWornBy_0 19 rfl rfl)
theorem dX3_isWornBy_20 : decode cX3_isWornBy 20 = .ok (.putfield 30, 3) := dk_181 0 30 (dk_at dksX3_isWornBy_0 20 rfl rfl)
theorem dX3_isWornBy_23 : decode cX3_isWornBy 23 = .ok (.aload_n 0, 1) := dk_42 (dk_at dksX3_isWornBy_0 23 rfl rfl)
theorem dX3_isWornBy_24 : decode cX3_isWornBy 24 = .ok (.getfield 30, 3) := dk_180 0 30 (dk_at dksX3_isWornBy_1 0 rfl rfl)
theorem dX3_isWornBy_27 : decode cX3_isWornBy 27 = .ok (.bipush 8, 2) := dk_16 8 (dk_at dksX3_isWornBy_1 3 rfl rfl)
theorem dX3_isWornBy_29 : decode cX3_isWornBy 29 = .ok (.if_icmp .ne 23, 3) := dk_160 0 23 (dk_at dksX3_isWornBy_1 5 rfl rfl)
theorem dX3_isWornBy_32 : decode cX3_isWornBy 32 = .ok (.aload_n 0, 1) := dk_42 (dk_at dksX3_isWornBy_1 8 rfl rfl)
theorem dX3_isWornBy_33 : decode cX3_isWornBy 33 = .ok (.iconst 0, 1) := dk_3 (dk_at dksX3_isWornBy_1 9 rfl rfl)
theorem dX3_isWornBy_34 : decode cX3_isWornBy 34 = .ok (.putfield 30, 3) := dk_181 0 30 (dk_at dksX3_isWornBy_1 10 rfl rfl)
theorem dX3_isWornBy_37 : decode cX3_isWornBy 37 = .ok (.aload_n 0, 1) := dk_42 (dk_at dksX3_isWornBy_1 13 rfl rfl)
theorem dX3_isWornBy_38 : decode cX3_isWornBy 38 = .ok (.bipush 9, 2) := dk_16 9 (dk_at dksX3_isWornBy_1 14 rfl rfl)
theorem dX3_isWornBy_40 : decode cX3_isWornBy 40 = .ok (.aload_n 0, 1) := dk_42 (dk_at dksX3_isWornBy_1 16 rfl rfl)
theorem dX3_isWornBy_41 : decode cX3_isWornBy 41 = .ok (.getfield 27, 3) := dk_180 0 27 (dk_at dksX3_isWornBy_1 17 rfl rfl)
theorem dX3_isWornBy_44 : decode cX3_isWornBy 44 = .ok (.iconst 1, 1) := dk_4 (dk_at dksX3_isWornBy_1 20 rfl rfl)
theorem dX3_isWornBy_45 : decode cX3_isWornBy 45 = .ok (.iadd, 1) := dk_96 (dk_at dksX3_isWornBy_1 21 rfl rfl)
theorem dX3_isWornBy_46 : decode cX3_isWornBy 46 = .ok (.invokestatic 43, 3) := dk_184 0 43 (dk_at dksX3_isWornBy_2 0 rfl rfl)
theorem dX3_isWornBy_49 : decode cX3_isWornBy 49 = .ok (.putfield 27, 3) := dk_181 0 27 (dk_at dksX3_isWornBy_2 3 rfl rfl)
theorem dX3_isWornBy_52 : decode cX3_isWornBy 52 = .ok (.return_, 1) := dk_177 (dk_at dksX3_isWornBy_2 6 rfl rfl)
abbrev cX3_dayEnds : ByteArray := prog_8_method_8_code
def yX3_dayEnds : MethodName := ⟨RX3, "dayEnds", "()V"⟩
def dkwX3_dayEnds_1 : List UInt8 := [181, 0, 9, 177]
abbrev dktX3_dayEnds_1 : List UInt8 := dkwX3_dayEnds_1 ++ []
def dkwX3_dayEnds_0 : List UInt8 := [42, 16, 9, 42, 180, 0, 9, 42, 180, 0, 15, 4, 160, 0, 7, 5, 167, 0, 4, 4, 96, 184, 0, 43]
abbrev dktX3_dayEnds_0 : List UInt8 := dkwX3_dayEnds_0 ++ dktX3_dayEnds_1
theorem dksX3_dayEnds_0 : cX3_dayEnds.data.toList.drop 0 = dktX3_dayEnds_0 := by decide +kernel
theorem dksX3_dayEnds_1 : cX3_dayEnds.data.toList.drop 24 = dktX3_dayEnds_1 := dk_seg dksX3_dayEnds_0 24 rfl rfl
theorem dX3_dayEnds_0 : decode cX3_dayEnds 0 = .ok (.aload_n 0, 1) := dk_42 (dk_at dksX3_dayEnds_0 0 rfl rfl)
theorem dX3_dayEnds_1 : decode cX3_dayEnds 1 = .ok (.bipush 9, 2) := dk_16 9 (dk_at dksX3_dayEnds_0 1 rfl rfl)
theorem dX3_dayEnds_3 : decode cX3_dayEnds 3 = .ok (.aload_n 0, 1) := dk_42 (dk_at dksX3_dayEnds_0 3 rfl rfl)
theorem dX3_dayEnds_4 : decode cX3_dayEnds 4 = .ok (.getfield 9, 3) := dk_180 0 9 (dk_at dksX3_dayEnds_0 4 rfl rfl)
theorem dX3_dayEnds_7 : decode cX3_dayEnds 7 = .ok (.aload_n 0, 1) := dk_42 (dk_at dksX3_dayEnds_0 7 rfl rfl)
theorem dX3_dayEnds_8 : decode cX3_dayEnds 8 = .ok (.getfield 15, 3) := dk_180 0 15 (dk_at dksX3_dayEnds_0 8 rfl rfl)
theorem dX3_dayEnds_11 : decode cX3_dayEnds 11 = .ok (.iconst 1, 1) := dk_4 (dk_at dksX3_dayEnds_0 11 rfl rfl)
theorem dX3_dayEnds_12 : decode cX3_dayEnds 12 = .ok (.if_icmp .ne 7, 3) := dk_160 0 7 (dk_at dksX3_dayEnds_0 12 rfl rfl)
theorem dX3_dayEnds_15 : decode cX3_dayEnds 15 = .ok (.iconst 2, 1) := dk_5 (dk_at dksX3_dayEnds_0 15 rfl rfl)
theorem dX3_dayEnds_16 : decode cX3_dayEnds 16 = .ok (.goto 4, 3) := dk_167 0 4 (dk_at dksX3_dayEnds_0 16 rfl rfl)
theorem dX3_dayEnds_19 : decode cX3_dayEnds 19 = .ok (.iconst 1, 1) := dk_4 (dk_at dksX3_dayEnds_0 19 rfl rfl)
theorem dX3_dayEnds_20 : decode cX3_dayEnds 20 = .ok (.iadd, 1) := dk_96 (dk_at dksX3_dayEnds_0 20 rfl rfl)
theorem dX3_dayEnds_21 : decode cX3_dayEnds 21 = .ok (.invokestatic 43, 3) := dk_184 0 43 (dk_at dksX3_dayEnds_0 21 rfl rfl)
theorem dX3_dayEnds_24 : decode cX3_dayEnds 24 = .ok (.putfield 9, 3) := dk_181 0 9 (dk_at dksX3_dayEnds_1 0 rfl rfl)
theorem dX3_dayEnds_27 : decode cX3_dayEnds 27 = .ok (.return_, 1) := dk_177 (dk_at dksX3_dayEnds_1 3 rfl rfl)
abbrev cX3_text : ByteArray := prog_8_method_9_code
def yX3_text : MethodName := ⟨RX3, "text", "()Ljava/lang/String;"⟩
def dkwX3_text_1 : List UInt8 := [160, 0, 8, 18, 54, 167, 0, 5, 18, 56, 182, 0, 58, 42, 180, 0, 9, 182, 0, 62, 182, 0, 65, 176]
abbrev dktX3_text_1 : List UInt8 := dkwX3_text_1 ++ []
def dkwX3_text_0 : List UInt8 := [187, 0, 49, 89, 183, 0, 51, 42, 180, 0, 15, 154, 0, 8, 18, 52, 167, 0, 18, 42, 180, 0, 15, 4]
abbrev dktX3_text_0 : List UInt8 := dkwX3_text_0 ++ dktX3_text_1
theorem dksX3_text_0 : cX3_text.data.toList.drop 0 = dktX3_text_0 := by decide +kernel
theorem dksX3_text_1 : cX3_text.data.toList.drop 24 = dktX3_text_1 := dk_seg dksX3_text_0 24 rfl rfl
theorem dX3_text_0 : decode cX3_text 0 = .ok (.new 49, 3) := dk_187 0 49 (dk_at dksX3_text_0 0 rfl rfl)
theorem dX3_text_3 : decode cX3_text 3 = .ok (.dup, 1) := dk_89 (dk_at dksX3_text_0 3 rfl rfl)
theorem dX3_text_4 : decode cX3_text 4 = .ok (.invokespecial 51, 3) := dk_183 0 51 (dk_at dksX3_text_0 4 rfl rfl)
theorem dX3_text_7 : decode cX3_text 7 = .ok (.aload_n 0, 1) := dk_42 (dk_at dksX3_text_0 7 rfl rfl)
theorem dX3_text_8 : decode cX3_text 8 = .ok (.getfield 15, 3) := dk_180 0 15 (dk_at dksX3_text_0 8 rfl rfl)
theorem dX3_text_11 : decode cX3_text 11 = .ok (.ifCond .ne 8, 3) := dk_154 0 8 (dk_at dksX3_text_0 11 rfl rfl)
theorem dX3_text_14 : decode cX3_text 14 = .ok (.ldc 52, 2) := dk_18 52 (dk_at dksX3_text_0 14 rfl rfl)
theorem dX3_text_16 : decode cX3_text 16 = .ok (.goto 18, 3) := dk_167 0 18 (dk_at dksX3_text_0 16 rfl rfl)
theorem dX3_text_19 : decode cX3_text 19 = .ok (.aload_n 0, 1) := dk_42 (dk_at dksX3_text_0 19 rfl rfl)
theorem dX3_text_20 : decode cX3_text 20 = .ok (.getfield 15, 3) := dk_180 0 15 (dk_at dksX3_text_0 20 rfl rfl)
theorem dX3_text_23 : decode cX3_text 23 = .ok (.iconst 1, 1) := dk_4 (dk_at dksX3_text_0 23 rfl rfl)
theorem dX3_text_24 : decode cX3_text 24 = .ok (.if_icmp .ne 8, 3) := dk_160 0 8 (dk_at dksX3_text_1 0 rfl rfl)
theorem dX3_text_27 : decode cX3_text 27 = .ok (.ldc 54, 2) := dk_18 54 (dk_at dksX3_text_1 3 rfl rfl)
theorem dX3_text_29 : decode cX3_text 29 = .ok (.goto 5, 3) := dk_167 0 5 (dk_at dksX3_text_1 5 rfl rfl)
theorem dX3_text_32 : decode cX3_text 32 = .ok (.ldc 56, 2) := dk_18 56 (dk_at dksX3_text_1 8 rfl rfl)
theorem dX3_text_34 : decode cX3_text 34 = .ok (.invokevirtual 58, 3) := dk_182 0 58 (dk_at dksX3_text_1 10 rfl rfl)
theorem dX3_text_37 : decode cX3_text 37 = .ok (.aload_n 0, 1) := dk_42 (dk_at dksX3_text_1 13 rfl rfl)
theorem dX3_text_38 : decode cX3_text 38 = .ok (.getfield 9, 3) := dk_180 0 9 (dk_at dksX3_text_1 14 rfl rfl)
theorem dX3_text_41 : decode cX3_text 41 = .ok (.invokevirtual 62, 3) := dk_182 0 62 (dk_at dksX3_text_1 17 rfl rfl)
theorem dX3_text_44 : decode cX3_text 44 = .ok (.invokevirtual 65, 3) := dk_182 0 65 (dk_at dksX3_text_1 20 rfl rfl)
theorem dX3_text_47 : decode cX3_text 47 = .ok (.areturn, 1) := dk_176 (dk_at dksX3_text_1 23 rfl rfl)
theorem q70 : (Jvm.Cond.initialized "GargoyleCopyists$Ledge") ∈ lw_all := lw_g (lw_at lw_m1 7 rfl) rfl
theorem q163 : (Jvm.Cond.instantiable "GargoyleCopyists$Ledge" (8 : Nat)) ∈ lw_all := lw_g (lw_at lw_m1 100 rfl) rfl
theorem q165 : (Jvm.Cond.instanceMethod ({ cls := "GargoyleCopyists$Ledge", name := "<init>", desc := "(I)V" } : Jvm.MethodName)) ∈ lw_all := lw_g (lw_at lw_m1 102 rfl) rfl
theorem q166 : (Jvm.Cond.code ({ cls := "GargoyleCopyists$Ledge", name := "<init>", desc := "(I)V" } : Jvm.MethodName) prog_8_method_1_code (2 : Nat) (Option.none : Option Jvm.ClassFile.FieldType)) ∈ lw_all := lw_g (lw_at lw_m1 103 rfl) rfl
theorem q167 : (Jvm.Cond.methodLink "GargoyleCopyists$Ledge" (3 : Nat) ({ cls := "java/lang/Object", name := "<init>", desc := "()V" } : Jvm.MethodName)) ∈ lw_all := lw_g (lw_at lw_m1 104 rfl) rfl
theorem q168 : (Jvm.Cond.fieldLink "GargoyleCopyists$Ledge" (21 : Nat) "GargoyleCopyists$Ledge" "number" "I") ∈ lw_all := lw_g (lw_at lw_m1 105 rfl) rfl
theorem q169 : (Jvm.Cond.fieldLink "GargoyleCopyists$Ledge" (9 : Nat) "GargoyleCopyists$Ledge" "pigeons" "I") ∈ lw_all := lw_g (lw_at lw_m1 106 rfl) rfl
theorem q171 : (Jvm.Cond.fieldLink "GargoyleCopyists$Ledge" (15 : Nat) "GargoyleCopyists$Ledge" "state" "I") ∈ lw_all := lw_g (lw_at lw_m1 108 rfl) rfl
theorem q173 : (Jvm.Cond.fieldLink "GargoyleCopyists$Ledge" (27 : Nat) "GargoyleCopyists$Ledge" "worn" "I") ∈ lw_all := lw_g (lw_at lw_m1 110 rfl) rfl
theorem q175 : (Jvm.Cond.fieldLink "GargoyleCopyists$Ledge" (30 : Nat) "GargoyleCopyists$Ledge" "hardHours" "I") ∈ lw_all := lw_g (lw_at lw_m1 112 rfl) rfl
theorem q177 : (Jvm.Cond.fieldLink "GargoyleCopyists$Ledge" (18 : Nat) "GargoyleCopyists$Ledge" "copy" "I") ∈ lw_all := lw_g (lw_at lw_m1 114 rfl) rfl
theorem q179 : (Jvm.Cond.fieldLink "GargoyleCopyists$Ledge" (33 : Nat) "GargoyleCopyists$Ledge" "ran" "I") ∈ lw_all := lw_g (lw_at lw_m1 116 rfl) rfl
theorem q180 : (Jvm.Cond.fieldLink "GargoyleCopyists$Ledge" (36 : Nat) "GargoyleCopyists$Ledge" "down" "I") ∈ lw_all := lw_g (lw_at lw_m1 117 rfl) rfl
theorem q181 : (Jvm.Cond.laysFinal "GargoyleCopyists$Ledge" "GargoyleCopyists$Ledge" "number" "I") ∈ lw_all := lw_g (lw_at lw_m1 118 rfl) rfl
theorem q182 : (Jvm.Cond.soleField "GargoyleCopyists$Ledge" "number") ∈ lw_all := lw_g (lw_at lw_m1 119 rfl) rfl
theorem q183 : (Jvm.Cond.lays "GargoyleCopyists$Ledge" "GargoyleCopyists$Ledge" "pigeons" "I") ∈ lw_all := lw_g (lw_at lw_m1 120 rfl) rfl
theorem q184 : (Jvm.Cond.soleField "GargoyleCopyists$Ledge" "pigeons") ∈ lw_all := lw_g (lw_at lw_m1 121 rfl) rfl
theorem q185 : (Jvm.Cond.lays "GargoyleCopyists$Ledge" "GargoyleCopyists$Ledge" "state" "I") ∈ lw_all := lw_g (lw_at lw_m1 122 rfl) rfl
theorem q186 : (Jvm.Cond.soleField "GargoyleCopyists$Ledge" "state") ∈ lw_all := lw_g (lw_at lw_m1 123 rfl) rfl
theorem q187 : (Jvm.Cond.lays "GargoyleCopyists$Ledge" "GargoyleCopyists$Ledge" "worn" "I") ∈ lw_all := lw_g (lw_at lw_m1 124 rfl) rfl
theorem q188 : (Jvm.Cond.soleField "GargoyleCopyists$Ledge" "worn") ∈ lw_all := lw_g (lw_at lw_m1 125 rfl) rfl
theorem q189 : (Jvm.Cond.lays "GargoyleCopyists$Ledge" "GargoyleCopyists$Ledge" "hardHours" "I") ∈ lw_all := lw_g (lw_at lw_m1 126 rfl) rfl
theorem q190 : (Jvm.Cond.soleField "GargoyleCopyists$Ledge" "hardHours") ∈ lw_all := lw_g (lw_at lw_m1 127 rfl) rfl
theorem q191 : (Jvm.Cond.lays "GargoyleCopyists$Ledge" "GargoyleCopyists$Ledge" "copy" "I") ∈ lw_all := lw_g (lw_at lw_m1 128 rfl) rfl
theorem q192 : (Jvm.Cond.soleField "GargoyleCopyists$Ledge" "copy") ∈ lw_all := lw_g (lw_at lw_m1 129 rfl) rfl
theorem q193 : (Jvm.Cond.lays "GargoyleCopyists$Ledge" "GargoyleCopyists$Ledge" "ran" "I") ∈ lw_all := lw_g (lw_at lw_m1 130 rfl) rfl
theorem q194 : (Jvm.Cond.soleField "GargoyleCopyists$Ledge" "ran") ∈ lw_all := lw_g (lw_at lw_m1 131 rfl) rfl
theorem q195 : (Jvm.Cond.lays "GargoyleCopyists$Ledge" "GargoyleCopyists$Ledge" "down" "I") ∈ lw_all := lw_g (lw_at lw_m1 132 rfl) rfl
theorem q196 : (Jvm.Cond.soleField "GargoyleCopyists$Ledge" "down") ∈ lw_all := lw_g (lw_at lw_m1 133 rfl) rfl
theorem q197 : (Jvm.Cond.superclass "GargoyleCopyists$Ledge" "java/lang/Object") ∈ lw_all := lw_g (lw_at lw_m1 134 rfl) rfl
theorem q242 : (Jvm.Cond.selects "GargoyleCopyists$Ledge" ({ cls := "java/lang/Object", name := "getClass", desc := "()Ljava/lang/Class;" } : Jvm.MethodName) ({ cls := "java/lang/Object", name := "getClass", desc := "()Ljava/lang/Class;" } : Jvm.MethodName)) ∈ lw_all := lw_g (lw_at lw_m1 179 rfl) rfl
theorem q440 : (Jvm.Cond.instanceMethod ({ cls := "GargoyleCopyists$Ledge", name := "value", desc := "(I)I" } : Jvm.MethodName)) ∈ lw_all := lw_g (lw_at lw_m2 137 rfl) rfl
theorem q441 : (Jvm.Cond.selects "GargoyleCopyists$Ledge" ({ cls := "GargoyleCopyists$Ledge", name := "value", desc := "(I)I" } : Jvm.MethodName) ({ cls := "GargoyleCopyists$Ledge", name := "value", desc := "(I)I" } : Jvm.MethodName)) ∈ lw_all := lw_g (lw_at lw_m2 138 rfl) rfl
theorem q442 : (Jvm.Cond.code ({ cls := "GargoyleCopyists$Ledge", name := "value", desc := "(I)I" } : Jvm.MethodName) prog_8_method_10_code (2 : Nat) (Option.some Jvm.ClassFile.FieldType.int)) ∈ lw_all := lw_g (lw_at lw_m2 139 rfl) rfl
theorem q443 : (Jvm.Cond.methodLink "GargoyleCopyists$Ledge" (39 : Nat) ({ cls := "GargoyleCopyists$Ledge", name := "height", desc := "()I" } : Jvm.MethodName)) ∈ lw_all := lw_g (lw_at lw_m2 140 rfl) rfl
theorem q444 : (Jvm.Cond.instanceMethod ({ cls := "GargoyleCopyists$Ledge", name := "height", desc := "()I" } : Jvm.MethodName)) ∈ lw_all := lw_g (lw_at lw_m2 141 rfl) rfl
theorem q445 : (Jvm.Cond.selects "GargoyleCopyists$Ledge" ({ cls := "GargoyleCopyists$Ledge", name := "height", desc := "()I" } : Jvm.MethodName) ({ cls := "GargoyleCopyists$Ledge", name := "height", desc := "()I" } : Jvm.MethodName)) ∈ lw_all := lw_g (lw_at lw_m2 142 rfl) rfl
theorem q446 : (Jvm.Cond.code ({ cls := "GargoyleCopyists$Ledge", name := "height", desc := "()I" } : Jvm.MethodName) prog_8_method_3_code (1 : Nat) (Option.some Jvm.ClassFile.FieldType.int)) ∈ lw_all := lw_g (lw_at lw_m2 143 rfl) rfl
theorem q455 : (Jvm.Cond.instanceMethod ({ cls := "GargoyleCopyists$Ledge", name := "depth", desc := "(I)I" } : Jvm.MethodName)) ∈ lw_all := lw_g (lw_at lw_m2 152 rfl) rfl
theorem q456 : (Jvm.Cond.selects "GargoyleCopyists$Ledge" ({ cls := "GargoyleCopyists$Ledge", name := "depth", desc := "(I)I" } : Jvm.MethodName) ({ cls := "GargoyleCopyists$Ledge", name := "depth", desc := "(I)I" } : Jvm.MethodName)) ∈ lw_all := lw_g (lw_at lw_m2 153 rfl) rfl
theorem q457 : (Jvm.Cond.code ({ cls := "GargoyleCopyists$Ledge", name := "depth", desc := "(I)I" } : Jvm.MethodName) prog_8_method_5_code (2 : Nat) (Option.some Jvm.ClassFile.FieldType.int)) ∈ lw_all := lw_g (lw_at lw_m2 154 rfl) rfl
theorem q571 : (Jvm.Cond.instanceMethod ({ cls := "GargoyleCopyists$Ledge", name := "copy", desc := "()LGargoyleCopyists$Ledge;" } : Jvm.MethodName)) ∈ lw_all := lw_g (lw_at lw_m3 28 rfl) rfl
theorem q572 : (Jvm.Cond.selects "GargoyleCopyists$Ledge" ({ cls := "GargoyleCopyists$Ledge", name := "copy", desc := "()LGargoyleCopyists$Ledge;" } : Jvm.MethodName) ({ cls := "GargoyleCopyists$Ledge", name := "copy", desc := "()LGargoyleCopyists$Ledge;" } : Jvm.MethodName)) ∈ lw_all := lw_g (lw_at lw_m3 29 rfl) rfl
theorem q573 : (Jvm.Cond.code ({ cls := "GargoyleCopyists$Ledge", name := "copy", desc := "()LGargoyleCopyists$Ledge;" } : Jvm.MethodName) prog_8_method_2_code (2 : Nat) (Option.some (Jvm.ClassFile.FieldType.object "GargoyleCopyists$Ledge"))) ∈ lw_all := lw_g (lw_at lw_m3 30 rfl) rfl
theorem q574 : (Jvm.Cond.classLink "GargoyleCopyists$Ledge" (10 : Nat) "GargoyleCopyists$Ledge") ∈ lw_all := lw_g (lw_at lw_m3 31 rfl) rfl
theorem q575 : (Jvm.Cond.methodLink "GargoyleCopyists$Ledge" (24 : Nat) ({ cls := "GargoyleCopyists$Ledge", name := "<init>", desc := "(I)V" } : Jvm.MethodName)) ∈ lw_all := lw_g (lw_at lw_m3 32 rfl) rfl
theorem q603 : (Jvm.Cond.castable "GargoyleCopyists$Ledge" "GargoyleCopyists$Pointed") ∈ lw_tbl := lw_at lw_m3 60 rfl
theorem q604 : (Jvm.Cond.selects "GargoyleCopyists$Ledge" ({ cls := "GargoyleCopyists$Pointed", name := "depth", desc := "(I)I" } : Jvm.MethodName) ({ cls := "GargoyleCopyists$Ledge", name := "depth", desc := "(I)I" } : Jvm.MethodName)) ∈ lw_all := lw_g (lw_at lw_m3 61 rfl) rfl
theorem q605 : (Jvm.Cond.unhidden "GargoyleCopyists$Ledge" "depth" "(I)I") ∈ lw_tbl := lw_at lw_m3 62 rfl
theorem q606 : (Jvm.Cond.publicMethod ({ cls := "GargoyleCopyists$Ledge", name := "depth", desc := "(I)I" } : Jvm.MethodName)) ∈ lw_tbl := lw_at lw_m3 63 rfl
theorem q1012 : (Jvm.Cond.instanceMethod ({ cls := "GargoyleCopyists$Ledge", name := "bears", desc := "()I" } : Jvm.MethodName)) ∈ lw_all := lw_g (lw_at lw_m4 229 rfl) rfl
theorem q1013 : (Jvm.Cond.selects "GargoyleCopyists$Ledge" ({ cls := "GargoyleCopyists$Ledge", name := "bears", desc := "()I" } : Jvm.MethodName) ({ cls := "GargoyleCopyists$Ledge", name := "bears", desc := "()I" } : Jvm.MethodName)) ∈ lw_all := lw_g (lw_at lw_m4 230 rfl) rfl
theorem q1014 : (Jvm.Cond.code ({ cls := "GargoyleCopyists$Ledge", name := "bears", desc := "()I" } : Jvm.MethodName) prog_8_method_4_code (1 : Nat) (Option.some Jvm.ClassFile.FieldType.int)) ∈ lw_all := lw_g (lw_at lw_m4 231 rfl) rfl
theorem q1055 : (Jvm.Cond.instanceMethod ({ cls := "GargoyleCopyists$Ledge", name := "isRainedOn", desc := "(II)I" } : Jvm.MethodName)) ∈ lw_all := lw_g (lw_at lw_m5 32 rfl) rfl
theorem q1056 : (Jvm.Cond.selects "GargoyleCopyists$Ledge" ({ cls := "GargoyleCopyists$Ledge", name := "isRainedOn", desc := "(II)I" } : Jvm.MethodName) ({ cls := "GargoyleCopyists$Ledge", name := "isRainedOn", desc := "(II)I" } : Jvm.MethodName)) ∈ lw_all := lw_g (lw_at lw_m5 33 rfl) rfl
theorem q1057 : (Jvm.Cond.code ({ cls := "GargoyleCopyists$Ledge", name := "isRainedOn", desc := "(II)I" } : Jvm.MethodName) prog_8_method_6_code (5 : Nat) (Option.some Jvm.ClassFile.FieldType.int)) ∈ lw_all := lw_g (lw_at lw_m5 34 rfl) rfl
theorem q1058 : (Jvm.Cond.methodLink "GargoyleCopyists$Ledge" (43 : Nat) ({ cls := "java/lang/Math", name := "min", desc := "(II)I" } : Jvm.MethodName)) ∈ lw_all := lw_g (lw_at lw_m5 35 rfl) rfl
theorem q1060 : (Jvm.Cond.instanceMethod ({ cls := "GargoyleCopyists$Ledge", name := "isWornBy", desc := "(I)V" } : Jvm.MethodName)) ∈ lw_all := lw_g (lw_at lw_m5 37 rfl) rfl
theorem q1061 : (Jvm.Cond.selects "GargoyleCopyists$Ledge" ({ cls := "GargoyleCopyists$Ledge", name := "isWornBy", desc := "(I)V" } : Jvm.MethodName) ({ cls := "GargoyleCopyists$Ledge", name := "isWornBy", desc := "(I)V" } : Jvm.MethodName)) ∈ lw_all := lw_g (lw_at lw_m5 38 rfl) rfl
theorem q1062 : (Jvm.Cond.code ({ cls := "GargoyleCopyists$Ledge", name := "isWornBy", desc := "(I)V" } : Jvm.MethodName) prog_8_method_7_code (2 : Nat) (Option.none : Option Jvm.ClassFile.FieldType)) ∈ lw_all := lw_g (lw_at lw_m5 39 rfl) rfl
theorem q1072 : (Jvm.Cond.instanceMethod ({ cls := "GargoyleCopyists$Ledge", name := "dayEnds", desc := "()V" } : Jvm.MethodName)) ∈ lw_all := lw_g (lw_at lw_m5 49 rfl) rfl
theorem q1073 : (Jvm.Cond.selects "GargoyleCopyists$Ledge" ({ cls := "GargoyleCopyists$Ledge", name := "dayEnds", desc := "()V" } : Jvm.MethodName) ({ cls := "GargoyleCopyists$Ledge", name := "dayEnds", desc := "()V" } : Jvm.MethodName)) ∈ lw_all := lw_g (lw_at lw_m5 50 rfl) rfl
theorem q1074 : (Jvm.Cond.code ({ cls := "GargoyleCopyists$Ledge", name := "dayEnds", desc := "()V" } : Jvm.MethodName) prog_8_method_8_code (1 : Nat) (Option.none : Option Jvm.ClassFile.FieldType)) ∈ lw_all := lw_g (lw_at lw_m5 51 rfl) rfl
theorem q1733 : (Jvm.Cond.instanceMethod ({ cls := "GargoyleCopyists$Ledge", name := "text", desc := "()Ljava/lang/String;" } : Jvm.MethodName)) ∈ lw_all := lw_g (lw_at lw_m7 230 rfl) rfl
theorem q1734 : (Jvm.Cond.selects "GargoyleCopyists$Ledge" ({ cls := "GargoyleCopyists$Ledge", name := "text", desc := "()Ljava/lang/String;" } : Jvm.MethodName) ({ cls := "GargoyleCopyists$Ledge", name := "text", desc := "()Ljava/lang/String;" } : Jvm.MethodName)) ∈ lw_all := lw_g (lw_at lw_m7 231 rfl) rfl
theorem q1735 : (Jvm.Cond.code ({ cls := "GargoyleCopyists$Ledge", name := "text", desc := "()Ljava/lang/String;" } : Jvm.MethodName) prog_8_method_9_code (1 : Nat) (Option.some (Jvm.ClassFile.FieldType.object "java/lang/String"))) ∈ lw_all := lw_g (lw_at lw_m7 232 rfl) rfl
theorem q1736 : (Jvm.Cond.classLink "GargoyleCopyists$Ledge" (49 : Nat) "java/lang/StringBuilder") ∈ lw_all := lw_g (lw_at lw_m7 233 rfl) rfl
theorem q1737 : (Jvm.Cond.methodLink "GargoyleCopyists$Ledge" (51 : Nat) ({ cls := "java/lang/StringBuilder", name := "<init>", desc := "()V" } : Jvm.MethodName)) ∈ lw_all := lw_g (lw_at lw_m7 234 rfl) rfl
theorem q1738 : (Jvm.Cond.stringRef "GargoyleCopyists$Ledge" (52 : Nat) "o") ∈ lw_tbl := lw_at lw_m7 235 rfl
theorem q1739 : (Jvm.Cond.stringRef "GargoyleCopyists$Ledge" (54 : Nat) ".") ∈ lw_tbl := lw_at lw_m7 236 rfl
theorem q1740 : (Jvm.Cond.stringRef "GargoyleCopyists$Ledge" (56 : Nat) "c") ∈ lw_tbl := lw_at lw_m7 237 rfl
theorem q1741 : (Jvm.Cond.methodLink "GargoyleCopyists$Ledge" (58 : Nat) ({ cls := "java/lang/StringBuilder", name := "append", desc := "(Ljava/lang/String;)Ljava/lang/StringBuilder;" } : Jvm.MethodName)) ∈ lw_all := lw_g (lw_at lw_m7 238 rfl) rfl
theorem q1742 : (Jvm.Cond.methodLink "GargoyleCopyists$Ledge" (62 : Nat) ({ cls := "java/lang/StringBuilder", name := "append", desc := "(I)Ljava/lang/StringBuilder;" } : Jvm.MethodName)) ∈ lw_all := lw_g (lw_at lw_m7 239 rfl) rfl
theorem q1743 : (Jvm.Cond.methodLink "GargoyleCopyists$Ledge" (65 : Nat) ({ cls := "java/lang/StringBuilder", name := "toString", desc := "()Ljava/lang/String;" } : Jvm.MethodName)) ∈ lw_all := lw_g (lw_at lw_m8 0 rfl) rfl
theorem q2243 : (Jvm.Cond.castable "GargoyleCopyists$Ledge" "java/lang/Object") ∈ lw_tbl := lw_at lw_m10 20 rfl
theorem in_X3 : ∀ w ∈ wsX30, w ∈ lw_all := lw_in wsX30 [181, 183, 185, 187, 189, 191, 193, 195] (by decide +kernel) (by decide +kernel)

/-! GargoyleCopyists$Row$Walk -/
set_option maxRecDepth 100000
def RX5 : String := "GargoyleCopyists$Row$Walk"
def TX5 : u_T := fun k => match k with
  | 0 => ("GargoyleCopyists$Row$Walk", "next", "I", false)
  | _ => ("GargoyleCopyists$Row$Walk", "this$0", "LGargoyleCopyists$Row;", true)
def tyX5 : Nat → FieldType := fun k => match k with
  | 0 => .int
  | _ => .object "GargoyleCopyists$Row"
abbrev wsX50 : List Cond := u_ws RX5 TX5 2
theorem nmX5 : ∀ a, a < 2 → ∀ b, b < 2 → a ≠ b → (TX5 a).2.1 ≠ (TX5 b).2.1 := by decide +kernel
theorem tyX5_ok : ∀ k, k < 2 → parseFieldDescriptor (TX5 k).2.2.1 = some (tyX5 k) := by decide +kernel
abbrev cX5_init : ByteArray := prog_14_method_1_code
def yX5_init : MethodName := ⟨RX5, "<init>", "(LGargoyleCopyists$Row;)V"⟩
def dkwX5_init_0 : List UInt8 := [42, 43, 181, 0, 1, 42, 183, 0, 7, 177]
abbrev dktX5_init_0 : List UInt8 := dkwX5_init_0 ++ []
theorem dksX5_init_0 : cX5_init.data.toList.drop 0 = dktX5_init_0 := by decide +kernel
theorem dX5_init_0 : decode cX5_init 0 = .ok (.aload_n 0, 1) := dk_42 (dk_at dksX5_init_0 0 rfl rfl)
theorem dX5_init_1 : decode cX5_init 1 = .ok (.aload_n 1, 1) := dk_43 (dk_at dksX5_init_0 1 rfl rfl)
theorem dX5_init_2 : decode cX5_init 2 = .ok (.putfield 1, 3) := dk_181 0 1 (dk_at dksX5_init_0 2 rfl rfl)
theorem dX5_init_5 : decode cX5_init 5 = .ok (.aload_n 0, 1) := dk_42 (dk_at dksX5_init_0 5 rfl rfl)
theorem dX5_init_6 : decode cX5_init 6 = .ok (.invokespecial 7, 3) := dk_183 0 7 (dk_at dksX5_init_0 6 rfl rfl)
theorem dX5_init_9 : decode cX5_init 9 = .ok (.return_, 1) := dk_177 (dk_at dksX5_init_0 9 rfl rfl)
abbrev cX5_hasNext : ByteArray := prog_14_method_2_code
def yX5_hasNext : MethodName := ⟨RX5, "hasNext", "()Z"⟩
def dkwX5_hasNext_0 : List UInt8 := [42, 180, 0, 13, 42, 180, 0, 1, 180, 0, 17, 182, 0, 23, 162, 0, 7, 4, 167, 0, 4, 3, 172]
abbrev dktX5_hasNext_0 : List UInt8 := dkwX5_hasNext_0 ++ []
theorem dksX5_hasNext_0 : cX5_hasNext.data.toList.drop 0 = dktX5_hasNext_0 := by decide +kernel
theorem dX5_hasNext_0 : decode cX5_hasNext 0 = .ok (.aload_n 0, 1) := dk_42 (dk_at dksX5_hasNext_0 0 rfl rfl)
theorem dX5_hasNext_1 : decode cX5_hasNext 1 = .ok (.getfield 13, 3) := dk_180 0 13 (dk_at dksX5_hasNext_0 1 rfl rfl)
theorem dX5_hasNext_4 : decode cX5_hasNext 4 = .ok (.aload_n 0, 1) := dk_42 (dk_at dksX5_hasNext_0 4 rfl rfl)
theorem dX5_hasNext_5 : decode cX5_hasNext 5 = .ok (.getfield 1, 3) := dk_180 0 1 (dk_at dksX5_hasNext_0 5 rfl rfl)
theorem dX5_hasNext_8 : decode cX5_hasNext 8 = .ok (.getfield 17, 3) := dk_180 0 17 (dk_at dksX5_hasNext_0 8 rfl rfl)
theorem dX5_hasNext_11 : decode cX5_hasNext 11 = .ok (.invokevirtual 23, 3) := dk_182 0 23 (dk_at dksX5_hasNext_0 11 rfl rfl)
theorem dX5_hasNext_14 : decode cX5_hasNext 14 = .ok (.if_icmp .ge 7, 3) := dk_162 0 7 (dk_at dksX5_hasNext_0 14 rfl rfl)
theorem dX5_hasNext_17 : decode cX5_hasNext 17 = .ok (.iconst 1, 1) := dk_4 (dk_at dksX5_hasNext_0 17 rfl rfl)
theorem dX5_hasNext_18 : decode cX5_hasNext 18 = .ok (.goto 4, 3) := dk_167 0 4 (dk_at dksX5_hasNext_0 18 rfl rfl)
theorem dX5_hasNext_21 : decode cX5_hasNext 21 = .ok (.iconst 0, 1) := dk_3 (dk_at dksX5_hasNext_0 21 rfl rfl)
theorem dX5_hasNext_22 : decode cX5_hasNext 22 = .ok (.ireturn, 1) := dk_172 (dk_at dksX5_hasNext_0 22 rfl rfl)
abbrev cX5_next : ByteArray := prog_14_method_3_code
def yX5_next : MethodName := ⟨RX5, "next", "()Ljava/lang/Object;"⟩
def dkwX5_next_2 : List UInt8 := [181, 0, 13, 43, 176]
abbrev dktX5_next_2 : List UInt8 := dkwX5_next_2 ++ []
def dkwX5_next_1 : List UInt8 := [191, 42, 180, 0, 1, 180, 0, 17, 42, 180, 0, 13, 182, 0, 32, 76, 42, 89, 180, 0, 13, 4, 96]
abbrev dktX5_next_1 : List UInt8 := dkwX5_next_1 ++ dktX5_next_2
def dkwX5_next_0 : List UInt8 := [42, 180, 0, 13, 42, 180, 0, 1, 180, 0, 17, 182, 0, 23, 161, 0, 11, 187, 0, 29, 89, 183, 0, 31]
abbrev dktX5_next_0 : List UInt8 := dkwX5_next_0 ++ dktX5_next_1
theorem dksX5_next_0 : cX5_next.data.toList.drop 0 = dktX5_next_0 := by decide +kernel
theorem dksX5_next_1 : cX5_next.data.toList.drop 24 = dktX5_next_1 := dk_seg dksX5_next_0 24 rfl rfl
theorem dksX5_next_2 : cX5_next.data.toList.drop 47 = dktX5_next_2 := dk_seg dksX5_next_1 23 rfl rfl
theorem dX5_next_0 : decode cX5_next 0 = .ok (.aload_n 0, 1) := dk_42 (dk_at dksX5_next_0 0 rfl rfl)
theorem dX5_next_1 : decode cX5_next 1 = .ok (.getfield 13, 3) := dk_180 0 13 (dk_at dksX5_next_0 1 rfl rfl)
theorem dX5_next_4 : decode cX5_next 4 = .ok (.aload_n 0, 1) := dk_42 (dk_at dksX5_next_0 4 rfl rfl)
theorem dX5_next_5 : decode cX5_next 5 = .ok (.getfield 1, 3) := dk_180 0 1 (dk_at dksX5_next_0 5 rfl rfl)
theorem dX5_next_8 : decode cX5_next 8 = .ok (.getfield 17, 3) := dk_180 0 17 (dk_at dksX5_next_0 8 rfl rfl)
theorem dX5_next_11 : decode cX5_next 11 = .ok (.invokevirtual 23, 3) := dk_182 0 23 (dk_at dksX5_next_0 11 rfl rfl)
theorem dX5_next_14 : decode cX5_next 14 = .ok (.if_icmp .lt 11, 3) := dk_161 0 11 (dk_at dksX5_next_0 14 rfl rfl)
theorem dX5_next_17 : decode cX5_next 17 = .ok (.new 29, 3) := dk_187 0 29 (dk_at dksX5_next_0 17 rfl rfl)
theorem dX5_next_20 : decode cX5_next 20 = .ok (.dup, 1) := dk_89 (dk_at dksX5_next_0 20 rfl rfl)
theorem dX5_next_21 : decode cX5_next 21 = .ok (.invokespecial 31, 3) := dk_183 0 31 (dk_at dksX5_next_0 21 rfl rfl)
theorem dX5_next_24 : decode cX5_next 24 = .ok (.athrow, 1) := dk_191 (dk_at dksX5_next_1 0 rfl rfl)
theorem dX5_next_25 : decode cX5_next 25 = .ok (.aload_n 0, 1) := dk_42 (dk_at dksX5_next_1 1 rfl rfl)
theorem dX5_next_26 : decode cX5_next 26 = .ok (.getfield 1, 3) := dk_180 0 1 (dk_at dksX5_next_1 2 rfl rfl)
theorem dX5_next_29 : decode cX5_next 29 = .ok (.getfield 17, 3) := dk_180 0 17 (dk_at dksX5_next_1 5 rfl rfl)
theorem dX5_next_32 : decode cX5_next 32 = .ok (.aload_n 0, 1) := dk_42 (dk_at dksX5_next_1 8 rfl rfl)
theorem dX5_next_33 : decode cX5_next 33 = .ok (.getfield 13, 3) := dk_180 0 13 (dk_at dksX5_next_1 9 rfl rfl)
theorem dX5_next_36 : decode cX5_next 36 = .ok (.invokevirtual 32, 3) := dk_182 0 32 (dk_at dksX5_next_1 12 rfl rfl)
theorem dX5_next_39 : decode cX5_next 39 = .ok (.astore_n 1, 1) := dk_76 (dk_at dksX5_next_1 15 rfl rfl)
theorem dX5_next_40 : decode cX5_next 40 = .ok (.aload_n 0, 1) := dk_42 (dk_at dksX5_next_1 16 rfl rfl)
theorem dX5_next_41 : decode cX5_next 41 = .ok (.dup, 1) := dk_89 (dk_at dksX5_next_1 17 rfl rfl)
theorem dX5_next_42 : decode cX5_next 42 = .ok (.getfield 13, 3) := dk_180 0 13 (dk_at dksX5_next_1 18 rfl rfl)
theorem dX5_next_45 : decode cX5_next 45 = .ok (.iconst 1, 1) := dk_4 (dk_at dksX5_next_1 21 rfl rfl)
theorem dX5_next_46 : decode cX5_next 46 = .ok (.iadd, 1) := dk_96 (dk_at dksX5_next_1 22 rfl rfl)
theorem dX5_next_47 : decode cX5_next 47 = .ok (.putfield 13, 3) := dk_181 0 13 (dk_at dksX5_next_2 0 rfl rfl)
theorem dX5_next_50 : decode cX5_next 50 = .ok (.aload_n 1, 1) := dk_43 (dk_at dksX5_next_2 3 rfl rfl)
theorem dX5_next_51 : decode cX5_next 51 = .ok (.areturn, 1) := dk_176 (dk_at dksX5_next_2 4 rfl rfl)
theorem q83 : (Jvm.Cond.initialized "GargoyleCopyists$Row$Walk") ∈ lw_all := lw_g (lw_at lw_m1 20 rfl) rfl
theorem q155 : (Jvm.Cond.fieldLinkNest "GargoyleCopyists$Row$Walk" (17 : Nat) "GargoyleCopyists$Row" "all" "Ljava/util/ArrayList;" "GargoyleCopyists") ∈ lw_tbl := lw_at lw_m1 92 rfl
theorem q247 : (Jvm.Cond.selects "GargoyleCopyists$Row$Walk" ({ cls := "java/lang/Object", name := "getClass", desc := "()Ljava/lang/Class;" } : Jvm.MethodName) ({ cls := "java/lang/Object", name := "getClass", desc := "()Ljava/lang/Class;" } : Jvm.MethodName)) ∈ lw_all := lw_g (lw_at lw_m1 184 rfl) rfl
theorem q473 : (Jvm.Cond.instantiable "GargoyleCopyists$Row$Walk" (2 : Nat)) ∈ lw_all := lw_g (lw_at lw_m2 170 rfl) rfl
theorem q475 : (Jvm.Cond.instanceMethod ({ cls := "GargoyleCopyists$Row$Walk", name := "<init>", desc := "(LGargoyleCopyists$Row;)V" } : Jvm.MethodName)) ∈ lw_all := lw_g (lw_at lw_m2 172 rfl) rfl
theorem q476 : (Jvm.Cond.code ({ cls := "GargoyleCopyists$Row$Walk", name := "<init>", desc := "(LGargoyleCopyists$Row;)V" } : Jvm.MethodName) prog_14_method_1_code (2 : Nat) (Option.none : Option Jvm.ClassFile.FieldType)) ∈ lw_all := lw_g (lw_at lw_m2 173 rfl) rfl
theorem q477 : (Jvm.Cond.methodLink "GargoyleCopyists$Row$Walk" (7 : Nat) ({ cls := "java/lang/Object", name := "<init>", desc := "()V" } : Jvm.MethodName)) ∈ lw_all := lw_g (lw_at lw_m2 174 rfl) rfl
theorem q478 : (Jvm.Cond.fieldLink "GargoyleCopyists$Row$Walk" (13 : Nat) "GargoyleCopyists$Row$Walk" "next" "I") ∈ lw_all := lw_g (lw_at lw_m2 175 rfl) rfl
theorem q479 : (Jvm.Cond.fieldLink "GargoyleCopyists$Row$Walk" (1 : Nat) "GargoyleCopyists$Row$Walk" "this$0" "LGargoyleCopyists$Row;") ∈ lw_all := lw_g (lw_at lw_m2 176 rfl) rfl
theorem q480 : (Jvm.Cond.lays "GargoyleCopyists$Row$Walk" "GargoyleCopyists$Row$Walk" "next" "I") ∈ lw_all := lw_g (lw_at lw_m2 177 rfl) rfl
theorem q481 : (Jvm.Cond.soleField "GargoyleCopyists$Row$Walk" "next") ∈ lw_all := lw_g (lw_at lw_m2 178 rfl) rfl
theorem q482 : (Jvm.Cond.laysFinal "GargoyleCopyists$Row$Walk" "GargoyleCopyists$Row$Walk" "this$0" "LGargoyleCopyists$Row;") ∈ lw_all := lw_g (lw_at lw_m2 179 rfl) rfl
theorem q483 : (Jvm.Cond.soleField "GargoyleCopyists$Row$Walk" "this$0") ∈ lw_all := lw_g (lw_at lw_m2 180 rfl) rfl
theorem q484 : (Jvm.Cond.superclass "GargoyleCopyists$Row$Walk" "java/lang/Object") ∈ lw_all := lw_g (lw_at lw_m2 181 rfl) rfl
theorem q489 : (Jvm.Cond.castable "GargoyleCopyists$Row$Walk" "java/util/Iterator") ∈ lw_tbl := lw_at lw_m2 186 rfl
theorem q490 : (Jvm.Cond.selects "GargoyleCopyists$Row$Walk" ({ cls := "java/util/Iterator", name := "hasNext", desc := "()Z" } : Jvm.MethodName) ({ cls := "GargoyleCopyists$Row$Walk", name := "hasNext", desc := "()Z" } : Jvm.MethodName)) ∈ lw_all := lw_g (lw_at lw_m2 187 rfl) rfl
theorem q491 : (Jvm.Cond.unhidden "GargoyleCopyists$Row$Walk" "hasNext" "()Z") ∈ lw_tbl := lw_at lw_m2 188 rfl
theorem q492 : (Jvm.Cond.instanceMethod ({ cls := "GargoyleCopyists$Row$Walk", name := "hasNext", desc := "()Z" } : Jvm.MethodName)) ∈ lw_all := lw_g (lw_at lw_m2 189 rfl) rfl
theorem q493 : (Jvm.Cond.publicMethod ({ cls := "GargoyleCopyists$Row$Walk", name := "hasNext", desc := "()Z" } : Jvm.MethodName)) ∈ lw_tbl := lw_at lw_m2 190 rfl
theorem q494 : (Jvm.Cond.code ({ cls := "GargoyleCopyists$Row$Walk", name := "hasNext", desc := "()Z" } : Jvm.MethodName) prog_14_method_2_code (1 : Nat) (Option.some Jvm.ClassFile.FieldType.boolean)) ∈ lw_all := lw_g (lw_at lw_m2 191 rfl) rfl
theorem q495 : (Jvm.Cond.methodLink "GargoyleCopyists$Row$Walk" (23 : Nat) ({ cls := "java/util/ArrayList", name := "size", desc := "()I" } : Jvm.MethodName)) ∈ lw_all := lw_g (lw_at lw_m2 192 rfl) rfl
theorem q500 : (Jvm.Cond.selects "GargoyleCopyists$Row$Walk" ({ cls := "java/util/Iterator", name := "next", desc := "()Ljava/lang/Object;" } : Jvm.MethodName) ({ cls := "GargoyleCopyists$Row$Walk", name := "next", desc := "()Ljava/lang/Object;" } : Jvm.MethodName)) ∈ lw_all := lw_g (lw_at lw_m2 197 rfl) rfl
theorem q501 : (Jvm.Cond.unhidden "GargoyleCopyists$Row$Walk" "next" "()Ljava/lang/Object;") ∈ lw_tbl := lw_at lw_m2 198 rfl
theorem q502 : (Jvm.Cond.instanceMethod ({ cls := "GargoyleCopyists$Row$Walk", name := "next", desc := "()Ljava/lang/Object;" } : Jvm.MethodName)) ∈ lw_all := lw_g (lw_at lw_m2 199 rfl) rfl
theorem q503 : (Jvm.Cond.publicMethod ({ cls := "GargoyleCopyists$Row$Walk", name := "next", desc := "()Ljava/lang/Object;" } : Jvm.MethodName)) ∈ lw_tbl := lw_at lw_m2 200 rfl
theorem q504 : (Jvm.Cond.code ({ cls := "GargoyleCopyists$Row$Walk", name := "next", desc := "()Ljava/lang/Object;" } : Jvm.MethodName) prog_14_method_3_code (2 : Nat) (Option.some (Jvm.ClassFile.FieldType.object "java/lang/Object"))) ∈ lw_all := lw_g (lw_at lw_m2 201 rfl) rfl
theorem q505 : (Jvm.Cond.classLink "GargoyleCopyists$Row$Walk" (29 : Nat) "java/util/NoSuchElementException") ∈ lw_all := lw_g (lw_at lw_m2 202 rfl) rfl
theorem q546 : (Jvm.Cond.methodLink "GargoyleCopyists$Row$Walk" (31 : Nat) ({ cls := "java/util/NoSuchElementException", name := "<init>", desc := "()V" } : Jvm.MethodName)) ∈ lw_all := lw_g (lw_at lw_m3 3 rfl) rfl
theorem q569 : (Jvm.Cond.methodLink "GargoyleCopyists$Row$Walk" (32 : Nat) ({ cls := "java/util/ArrayList", name := "get", desc := "(I)Ljava/lang/Object;" } : Jvm.MethodName)) ∈ lw_all := lw_g (lw_at lw_m3 26 rfl) rfl
theorem q2247 : (Jvm.Cond.castable "GargoyleCopyists$Row$Walk" "java/lang/Object") ∈ lw_tbl := lw_at lw_m10 24 rfl
theorem in_X5 : ∀ w ∈ wsX50, w ∈ lw_all := lw_in wsX50 [480, 482] (by decide +kernel) (by decide +kernel)

/-! GargoyleCopyists$Cast -/
set_option maxRecDepth 100000
def RX6 : String := "GargoyleCopyists$Cast"
def TX6 : u_T := fun k => match k with
  | 0 => ("GargoyleCopyists$Cast", "ledge", "I", true)
  | 1 => ("GargoyleCopyists$Cast", "depths", "[I", true)
  | 2 => ("GargoyleCopyists$Cast", "hours", "I", false)
  | _ => ("GargoyleCopyists$Cast", "copies", "I", false)
def tyX6 : Nat → FieldType := fun k => match k with
  | 0 => .int
  | 1 => .array .int
  | 2 => .int
  | _ => .int
abbrev wsX60 : List Cond := u_ws RX6 TX6 4
theorem nmX6 : ∀ a, a < 4 → ∀ b, b < 4 → a ≠ b → (TX6 a).2.1 ≠ (TX6 b).2.1 := by decide +kernel
theorem tyX6_ok : ∀ k, k < 4 → parseFieldDescriptor (TX6 k).2.2.1 = some (tyX6 k) := by decide +kernel
abbrev cX6_copy : ByteArray := prog_2_method_2_code
def yX6_copy : MethodName := ⟨RX6, "copy", "()LGargoyleCopyists$Cast;"⟩
def dkwX6_copy_1 : List UInt8 := [180, 0, 31, 181, 0, 31, 43, 176]
abbrev dktX6_copy_1 : List UInt8 := dkwX6_copy_1 ++ []
def dkwX6_copy_0 : List UInt8 := [187, 0, 10, 89, 42, 180, 0, 15, 42, 183, 0, 25, 76, 43, 42, 180, 0, 28, 181, 0, 28, 43, 42]
abbrev dktX6_copy_0 : List UInt8 := dkwX6_copy_0 ++ dktX6_copy_1
theorem dksX6_copy_0 : cX6_copy.data.toList.drop 0 = dktX6_copy_0 := by decide +kernel
theorem dksX6_copy_1 : cX6_copy.data.toList.drop 23 = dktX6_copy_1 := dk_seg dksX6_copy_0 23 rfl rfl
theorem dX6_copy_0 : decode cX6_copy 0 = .ok (.new 10, 3) := dk_187 0 10 (dk_at dksX6_copy_0 0 rfl rfl)
theorem dX6_copy_3 : decode cX6_copy 3 = .ok (.dup, 1) := dk_89 (dk_at dksX6_copy_0 3 rfl rfl)
theorem dX6_copy_4 : decode cX6_copy 4 = .ok (.aload_n 0, 1) := dk_42 (dk_at dksX6_copy_0 4 rfl rfl)
theorem dX6_copy_5 : decode cX6_copy 5 = .ok (.getfield 15, 3) := dk_180 0 15 (dk_at dksX6_copy_0 5 rfl rfl)
theorem dX6_copy_8 : decode cX6_copy 8 = .ok (.aload_n 0, 1) := dk_42 (dk_at dksX6_copy_0 8 rfl rfl)
theorem dX6_copy_9 : decode cX6_copy 9 = .ok (.invokespecial 25, 3) := dk_183 0 25 (dk_at dksX6_copy_0 9 rfl rfl)
theorem dX6_copy_12 : decode cX6_copy 12 = .ok (.astore_n 1, 1) := dk_76 (dk_at dksX6_copy_0 12 rfl rfl)
theorem dX6_copy_13 : decode cX6_copy 13 = .ok (.aload_n 1, 1) := dk_43 (dk_at dksX6_copy_0 13 rfl rfl)
theorem dX6_copy_14 : decode cX6_copy 14 = .ok (.aload_n 0, 1) := dk_42 (dk_at dksX6_copy_0 14 rfl rfl)
theorem dX6_copy_15 : decode cX6_copy 15 = .ok (.getfield 28, 3) := dk_180 0 28 (dk_at dksX6_copy_0 15 rfl rfl)
theorem dX6_copy_18 : decode cX6_copy 18 = .ok (.putfield 28, 3) := dk_181 0 28 (dk_at dksX6_copy_0 18 rfl rfl)
theorem dX6_copy_21 : decode cX6_copy 21 = .ok (.aload_n 1, 1) := dk_43 (dk_at dksX6_copy_0 21 rfl rfl)
theorem dX6_copy_22 : decode cX6_copy 22 = .ok (.aload_n 0, 1) := dk_42 (dk_at dksX6_copy_0 22 rfl rfl)
theorem dX6_copy_23 : decode cX6_copy 23 = .ok (.getfield 31, 3) := dk_180 0 31 (dk_at dksX6_copy_1 0 rfl rfl)
theorem dX6_copy_26 : decode cX6_copy 26 = .ok (.putfield 31, 3) := dk_181 0 31 (dk_at dksX6_copy_1 3 rfl rfl)
theorem dX6_copy_29 : decode cX6_copy 29 = .ok (.aload_n 1, 1) := dk_43 (dk_at dksX6_copy_1 6 rfl rfl)
theorem dX6_copy_30 : decode cX6_copy 30 = .ok (.areturn, 1) := dk_176 (dk_at dksX6_copy_1 7 rfl rfl)
abbrev cX6_init : ByteArray := prog_2_method_1_code
def yX6_init : MethodName := ⟨RX6, "<init>", "(ILGargoyleCopyists$Pointed;)V"⟩
def dkwX6_init_1 : List UInt8 := [162, 0, 22, 42, 180, 0, 9, 29, 44, 29, 185, 0, 19, 2, 0, 79, 132, 3, 1, 167, 255, 234, 177]
abbrev dktX6_init_1 : List UInt8 := dkwX6_init_1 ++ []
def dkwX6_init_0 : List UInt8 := [42, 183, 0, 3, 42, 16, 10, 188, 10, 181, 0, 9, 42, 27, 181, 0, 15, 3, 62, 29, 16, 10]
abbrev dktX6_init_0 : List UInt8 := dkwX6_init_0 ++ dktX6_init_1
theorem dksX6_init_0 : cX6_init.data.toList.drop 0 = dktX6_init_0 := by decide +kernel
theorem dksX6_init_1 : cX6_init.data.toList.drop 22 = dktX6_init_1 := dk_seg dksX6_init_0 22 rfl rfl
theorem dX6_init_0 : decode cX6_init 0 = .ok (.aload_n 0, 1) := dk_42 (dk_at dksX6_init_0 0 rfl rfl)
theorem dX6_init_1 : decode cX6_init 1 = .ok (.invokespecial 3, 3) := dk_183 0 3 (dk_at dksX6_init_0 1 rfl rfl)
theorem dX6_init_4 : decode cX6_init 4 = .ok (.aload_n 0, 1) := dk_42 (dk_at dksX6_init_0 4 rfl rfl)
theorem dX6_init_5 : decode cX6_init 5 = .ok (.bipush 10, 2) := dk_16 10 (dk_at dksX6_init_0 5 rfl rfl)
theorem dX6_init_7 : decode cX6_init 7 = .ok (.newarray .int, 2) := dk_188_10 (dk_at dksX6_init_0 7 rfl rfl)
theorem dX6_init_9 : decode cX6_init 9 = .ok (.putfield 9, 3) := dk_181 0 9 (dk_at dksX6_init_0 9 rfl rfl)
theorem dX6_init_12 : decode cX6_init 12 = .ok (.aload_n 0, 1) := dk_42 (dk_at dksX6_init_0 12 rfl rfl)
theorem dX6_init_13 : decode cX6_init 13 = .ok (.iload_n 1, 1) := dk_27 (dk_at dksX6_init_0 13 rfl rfl)
theorem dX6_init_14 : decode cX6_init 14 = .ok (.putfield 15, 3) := dk_181 0 15 (dk_at dksX6_init_0 14 rfl rfl)
theorem dX6_init_17 : decode cX6_init 17 = .ok (.iconst 0, 1) := dk_3 (dk_at dksX6_init_0 17 rfl rfl)
theorem dX6_init_18 : decode cX6_init 18 = .ok (.istore_n 3, 1) := dk_62 (dk_at dksX6_init_0 18 rfl rfl)
theorem dX6_init_19 : decode cX6_init 19 = .ok (.iload_n 3, 1) := dk_29 (dk_at dksX6_init_0 19 rfl rfl)
theorem dX6_init_20 : decode cX6_init 20 = .ok (.bipush 10, 2) := dk_16 10 (dk_at dksX6_init_0 20 rfl rfl)
theorem dX6_init_22 : decode cX6_init 22 = .ok (.if_icmp .ge 22, 3) := dk_162 0 22 (dk_at dksX6_init_1 0 rfl rfl)
theorem dX6_init_25 : decode cX6_init 25 = .ok (.aload_n 0, 1) := dk_42 (dk_at dksX6_init_1 3 rfl rfl)
theorem dX6_init_26 : decode cX6_init 26 = .ok (.getfield 9, 3) := dk_180 0 9 (dk_at dksX6_init_1 4 rfl rfl)
theorem dX6_init_29 : decode cX6_init 29 = .ok (.iload_n 3, 1) := dk_29 (dk_at dksX6_init_1 7 rfl rfl)
theorem dX6_init_30 : decode cX6_init 30 = .ok (.aload_n 2, 1) := dk_44 (dk_at dksX6_init_1 8 rfl rfl)
theorem dX6_init_31 : decode cX6_init 31 = .ok (.iload_n 3, 1) := dk_29 (dk_at dksX6_init_1 9 rfl rfl)
theorem dX6_init_32 : decode cX6_init 32 = .ok (.invokeinterface 19 2, 5) := by decide +kernel
theorem dX6_init_37 : decode cX6_init 37 = .ok (.iastore, 1) := dk_79 (dk_at dksX6_init_1 15 rfl rfl)
theorem dX6_init_38 : decode cX6_init 38 = .ok (.iinc 3 1, 3) := dk_132 3 1 (dk_at dksX6_init_1 16 rfl rfl)
theorem dX6_init_41 : decode cX6_init 41 = .ok (.goto (-22), 3) := dk_167 255 234 (dk_at dksX6_init_1 19 rfl rfl)
theorem dX6_init_44 : decode cX6_init 44 = .ok (.return_, 1) := dk_177 (dk_at dksX6_init_1 22 rfl rfl)
abbrev cX6_depth : ByteArray := prog_2_method_3_code
def yX6_depth : MethodName := ⟨RX6, "depth", "(I)I"⟩
def dkwX6_depth_0 : List UInt8 := [42, 180, 0, 9, 27, 46, 172]
abbrev dktX6_depth_0 : List UInt8 := dkwX6_depth_0 ++ []
theorem dksX6_depth_0 : cX6_depth.data.toList.drop 0 = dktX6_depth_0 := by decide +kernel
theorem dX6_depth_0 : decode cX6_depth 0 = .ok (.aload_n 0, 1) := dk_42 (dk_at dksX6_depth_0 0 rfl rfl)
theorem dX6_depth_1 : decode cX6_depth 1 = .ok (.getfield 9, 3) := dk_180 0 9 (dk_at dksX6_depth_0 1 rfl rfl)
theorem dX6_depth_4 : decode cX6_depth 4 = .ok (.iload_n 1, 1) := dk_27 (dk_at dksX6_depth_0 4 rfl rfl)
theorem dX6_depth_5 : decode cX6_depth 5 = .ok (.iaload, 1) := dk_46 (dk_at dksX6_depth_0 5 rfl rfl)
theorem dX6_depth_6 : decode cX6_depth 6 = .ok (.ireturn, 1) := dk_172 (dk_at dksX6_depth_0 6 rfl rfl)
abbrev cX6_value : ByteArray := prog_2_method_6_code
def yX6_value : MethodName := ⟨RX6, "value", "(I)I"⟩
def dkwX6_value_3 : List UInt8 := [180, 0, 28, 167, 0, 12, 42, 180, 0, 31, 167, 0, 5, 16, 244, 172]
abbrev dktX6_value_3 : List UInt8 := dkwX6_value_3 ++ []
def dkwX6_value_2 : List UInt8 := [42, 180, 0, 15, 167, 0, 34, 42, 182, 0, 34, 153, 0, 7, 4, 167, 0, 23, 3, 167, 0, 19, 42]
abbrev dktX6_value_2 : List UInt8 := dkwX6_value_2 ++ dktX6_value_3
def dkwX6_value_1 : List UInt8 := [170, 0, 0, 0, 0, 0, 67, 0, 0, 0, 0, 0, 0, 0, 3, 0, 0, 0, 31, 0, 0, 0, 38, 0, 0, 0, 53, 0, 0, 0, 60]
abbrev dktX6_value_1 : List UInt8 := dkwX6_value_1 ++ dktX6_value_2
def dkwX6_value_0 : List UInt8 := [27]
abbrev dktX6_value_0 : List UInt8 := dkwX6_value_0 ++ dktX6_value_1
theorem dksX6_value_0 : cX6_value.data.toList.drop 0 = dktX6_value_0 := by decide +kernel
theorem dksX6_value_1 : cX6_value.data.toList.drop 1 = dktX6_value_1 := dk_seg dksX6_value_0 1 rfl rfl
theorem dksX6_value_2 : cX6_value.data.toList.drop 32 = dktX6_value_2 := dk_seg dksX6_value_1 31 rfl rfl
theorem dksX6_value_3 : cX6_value.data.toList.drop 55 = dktX6_value_3 := dk_seg dksX6_value_2 23 rfl rfl
theorem dX6_value_0 : decode cX6_value 0 = .ok (.iload_n 1, 1) := dk_27 (dk_at dksX6_value_0 0 rfl rfl)
theorem dX6_value_1 : decode cX6_value 1 = .ok (.tableswitch 67 0 3 #[31, 38, 53, 60], 31) := by decide +kernel
theorem dX6_value_32 : decode cX6_value 32 = .ok (.aload_n 0, 1) := dk_42 (dk_at dksX6_value_2 0 rfl rfl)
theorem dX6_value_33 : decode cX6_value 33 = .ok (.getfield 15, 3) := dk_180 0 15 (dk_at dksX6_value_2 1 rfl rfl)
theorem dX6_value_36 : decode cX6_value 36 = .ok (.goto 34, 3) := dk_167 0 34 (dk_at dksX6_value_2 4 rfl rfl)
theorem dX6_value_39 : decode cX6_value 39 = .ok (.aload_n 0, 1) := dk_42 (dk_at dksX6_value_2 7 rfl rfl)
theorem dX6_value_40 : decode cX6_value 40 = .ok (.invokevirtual 34, 3) := dk_182 0 34 (dk_at dksX6_value_2 8 rfl rfl)
theorem dX6_value_43 : decode cX6_value 43 = .ok (.ifCond .eq 7, 3) := dk_153 0 7 (dk_at dksX6_value_2 11 rfl rfl)
theorem dX6_value_46 : decode cX6_value 46 = .ok (.iconst 1, 1) := dk_4 (dk_at dksX6_value_2 14 rfl rfl)
theorem dX6_value_47 : decode cX6_value 47 = .ok (.goto 23, 3) := dk_167 0 23 (dk_at dksX6_value_2 15 rfl rfl)
theorem dX6_value_50 : decode cX6_value 50 = .ok (.iconst 0, 1) := dk_3 (dk_at dksX6_value_2 18 rfl rfl)
theorem dX6_value_51 : decode cX6_value 51 = .ok (.goto 19, 3) := dk_167 0 19 (dk_at dksX6_value_2 19 rfl rfl)
theorem dX6_value_54 : decode cX6_value 54 = .ok (.aload_n 0, 1) := dk_42 (dk_at dksX6_value_2 22 rfl rfl)
theorem dX6_value_55 : decode cX6_value 55 = .ok (.getfield 28, 3) := dk_180 0 28 (dk_at dksX6_value_3 0 rfl rfl)
theorem dX6_value_58 : decode cX6_value 58 = .ok (.goto 12, 3) := dk_167 0 12 (dk_at dksX6_value_3 3 rfl rfl)
theorem dX6_value_61 : decode cX6_value 61 = .ok (.aload_n 0, 1) := dk_42 (dk_at dksX6_value_3 6 rfl rfl)
theorem dX6_value_62 : decode cX6_value 62 = .ok (.getfield 31, 3) := dk_180 0 31 (dk_at dksX6_value_3 7 rfl rfl)
theorem dX6_value_65 : decode cX6_value 65 = .ok (.goto 5, 3) := dk_167 0 5 (dk_at dksX6_value_3 10 rfl rfl)
theorem dX6_value_68 : decode cX6_value 68 = .ok (.bipush (-12), 2) := dk_16 244 (dk_at dksX6_value_3 13 rfl rfl)
theorem dX6_value_70 : decode cX6_value 70 = .ok (.ireturn, 1) := dk_172 (dk_at dksX6_value_3 15 rfl rfl)
abbrev cX6_isSet : ByteArray := prog_2_method_4_code
def yX6_isSet : MethodName := ⟨RX6, "isSet", "()Z"⟩
def dkwX6_isSet_0 : List UInt8 := [42, 180, 0, 28, 7, 160, 0, 7, 4, 167, 0, 4, 3, 172]
abbrev dktX6_isSet_0 : List UInt8 := dkwX6_isSet_0 ++ []
theorem dksX6_isSet_0 : cX6_isSet.data.toList.drop 0 = dktX6_isSet_0 := by decide +kernel
theorem dX6_isSet_0 : decode cX6_isSet 0 = .ok (.aload_n 0, 1) := dk_42 (dk_at dksX6_isSet_0 0 rfl rfl)
theorem dX6_isSet_1 : decode cX6_isSet 1 = .ok (.getfield 28, 3) := dk_180 0 28 (dk_at dksX6_isSet_0 1 rfl rfl)
theorem dX6_isSet_4 : decode cX6_isSet 4 = .ok (.iconst 4, 1) := dk_7 (dk_at dksX6_isSet_0 4 rfl rfl)
theorem dX6_isSet_5 : decode cX6_isSet 5 = .ok (.if_icmp .ne 7, 3) := dk_160 0 7 (dk_at dksX6_isSet_0 5 rfl rfl)
theorem dX6_isSet_8 : decode cX6_isSet 8 = .ok (.iconst 1, 1) := dk_4 (dk_at dksX6_isSet_0 8 rfl rfl)
theorem dX6_isSet_9 : decode cX6_isSet 9 = .ok (.goto 4, 3) := dk_167 0 4 (dk_at dksX6_isSet_0 9 rfl rfl)
theorem dX6_isSet_12 : decode cX6_isSet 12 = .ok (.iconst 0, 1) := dk_3 (dk_at dksX6_isSet_0 12 rfl rfl)
theorem dX6_isSet_13 : decode cX6_isSet 13 = .ok (.ireturn, 1) := dk_172 (dk_at dksX6_isSet_0 13 rfl rfl)
abbrev cX6_hourGoes : ByteArray := prog_2_method_5_code
def yX6_hourGoes : MethodName := ⟨RX6, "hourGoes", "(I)V"⟩
def dkwX6_hourGoes_1 : List UInt8 := [181, 0, 28, 177]
abbrev dktX6_hourGoes_1 : List UInt8 := dkwX6_hourGoes_1 ++ []
def dkwX6_hourGoes_0 : List UInt8 := [42, 182, 0, 34, 154, 0, 21, 42, 27, 158, 0, 7, 3, 167, 0, 9, 42, 180, 0, 28, 4, 96]
abbrev dktX6_hourGoes_0 : List UInt8 := dkwX6_hourGoes_0 ++ dktX6_hourGoes_1
theorem dksX6_hourGoes_0 : cX6_hourGoes.data.toList.drop 0 = dktX6_hourGoes_0 := by decide +kernel
theorem dksX6_hourGoes_1 : cX6_hourGoes.data.toList.drop 22 = dktX6_hourGoes_1 := dk_seg dksX6_hourGoes_0 22 rfl rfl
theorem dX6_hourGoes_0 : decode cX6_hourGoes 0 = .ok (.aload_n 0, 1) := dk_42 (dk_at dksX6_hourGoes_0 0 rfl rfl)
theorem dX6_hourGoes_1 : decode cX6_hourGoes 1 = .ok (.invokevirtual 34, 3) := dk_182 0 34 (dk_at dksX6_hourGoes_0 1 rfl rfl)
theorem dX6_hourGoes_4 : decode cX6_hourGoes 4 = .ok (.ifCond .ne 21, 3) := dk_154 0 21 (dk_at dksX6_hourGoes_0 4 rfl rfl)
theorem dX6_hourGoes_7 : decode cX6_hourGoes 7 = .ok (.aload_n 0, 1) := dk_42 (dk_at dksX6_hourGoes_0 7 rfl rfl)
theorem dX6_hourGoes_8 : decode cX6_hourGoes 8 = .ok (.iload_n 1, 1) := dk_27 (dk_at dksX6_hourGoes_0 8 rfl rfl)
theorem dX6_hourGoes_9 : decode cX6_hourGoes 9 = .ok (.ifCond .le 7, 3) := dk_158 0 7 (dk_at dksX6_hourGoes_0 9 rfl rfl)
theorem dX6_hourGoes_12 : decode cX6_hourGoes 12 = .ok (.iconst 0, 1) := dk_3 (dk_at dksX6_hourGoes_0 12 rfl rfl)
theorem dX6_hourGoes_13 : decode cX6_hourGoes 13 = .ok (.goto 9, 3) := dk_167 0 9 (dk_at dksX6_hourGoes_0 13 rfl rfl)
theorem dX6_hourGoes_16 : decode cX6_hourGoes 16 = .ok (.aload_n 0, 1) := dk_42 (dk_at dksX6_hourGoes_0 16 rfl rfl)
theorem dX6_hourGoes_17 : decode cX6_hourGoes 17 = .ok (.getfield 28, 3) := dk_180 0 28 (dk_at dksX6_hourGoes_0 17 rfl rfl)
theorem dX6_hourGoes_20 : decode cX6_hourGoes 20 = .ok (.iconst 1, 1) := dk_4 (dk_at dksX6_hourGoes_0 20 rfl rfl)
theorem dX6_hourGoes_21 : decode cX6_hourGoes 21 = .ok (.iadd, 1) := dk_96 (dk_at dksX6_hourGoes_0 21 rfl rfl)
theorem dX6_hourGoes_22 : decode cX6_hourGoes 22 = .ok (.putfield 28, 3) := dk_181 0 28 (dk_at dksX6_hourGoes_1 0 rfl rfl)
theorem dX6_hourGoes_25 : decode cX6_hourGoes 25 = .ok (.return_, 1) := dk_177 (dk_at dksX6_hourGoes_1 3 rfl rfl)
theorem q88 : (Jvm.Cond.initialized "GargoyleCopyists$Cast") ∈ lw_all := lw_g (lw_at lw_m1 25 rfl) rfl
theorem q237 : (Jvm.Cond.selects "GargoyleCopyists$Cast" ({ cls := "java/lang/Object", name := "getClass", desc := "()Ljava/lang/Class;" } : Jvm.MethodName) ({ cls := "java/lang/Object", name := "getClass", desc := "()Ljava/lang/Class;" } : Jvm.MethodName)) ∈ lw_all := lw_g (lw_at lw_m1 174 rfl) rfl
theorem q578 : (Jvm.Cond.instanceMethod ({ cls := "GargoyleCopyists$Cast", name := "copy", desc := "()LGargoyleCopyists$Cast;" } : Jvm.MethodName)) ∈ lw_all := lw_g (lw_at lw_m3 35 rfl) rfl
theorem q579 : (Jvm.Cond.selects "GargoyleCopyists$Cast" ({ cls := "GargoyleCopyists$Cast", name := "copy", desc := "()LGargoyleCopyists$Cast;" } : Jvm.MethodName) ({ cls := "GargoyleCopyists$Cast", name := "copy", desc := "()LGargoyleCopyists$Cast;" } : Jvm.MethodName)) ∈ lw_all := lw_g (lw_at lw_m3 36 rfl) rfl
theorem q580 : (Jvm.Cond.code ({ cls := "GargoyleCopyists$Cast", name := "copy", desc := "()LGargoyleCopyists$Cast;" } : Jvm.MethodName) prog_2_method_2_code (2 : Nat) (Option.some (Jvm.ClassFile.FieldType.object "GargoyleCopyists$Cast"))) ∈ lw_all := lw_g (lw_at lw_m3 37 rfl) rfl
theorem q581 : (Jvm.Cond.classLink "GargoyleCopyists$Cast" (10 : Nat) "GargoyleCopyists$Cast") ∈ lw_all := lw_g (lw_at lw_m3 38 rfl) rfl
theorem q582 : (Jvm.Cond.instantiable "GargoyleCopyists$Cast" (4 : Nat)) ∈ lw_all := lw_g (lw_at lw_m3 39 rfl) rfl
theorem q583 : (Jvm.Cond.methodLink "GargoyleCopyists$Cast" (25 : Nat) ({ cls := "GargoyleCopyists$Cast", name := "<init>", desc := "(ILGargoyleCopyists$Pointed;)V" } : Jvm.MethodName)) ∈ lw_all := lw_g (lw_at lw_m3 40 rfl) rfl
theorem q584 : (Jvm.Cond.instanceMethod ({ cls := "GargoyleCopyists$Cast", name := "<init>", desc := "(ILGargoyleCopyists$Pointed;)V" } : Jvm.MethodName)) ∈ lw_all := lw_g (lw_at lw_m3 41 rfl) rfl
theorem q585 : (Jvm.Cond.code ({ cls := "GargoyleCopyists$Cast", name := "<init>", desc := "(ILGargoyleCopyists$Pointed;)V" } : Jvm.MethodName) prog_2_method_1_code (4 : Nat) (Option.none : Option Jvm.ClassFile.FieldType)) ∈ lw_all := lw_g (lw_at lw_m3 42 rfl) rfl
theorem q586 : (Jvm.Cond.methodLink "GargoyleCopyists$Cast" (3 : Nat) ({ cls := "java/lang/Object", name := "<init>", desc := "()V" } : Jvm.MethodName)) ∈ lw_all := lw_g (lw_at lw_m3 43 rfl) rfl
theorem q587 : (Jvm.Cond.interfaceEntry "GargoyleCopyists$Cast" (19 : Nat)) ∈ lw_tbl := lw_at lw_m3 44 rfl
theorem q588 : (Jvm.Cond.methodLink "GargoyleCopyists$Cast" (19 : Nat) ({ cls := "GargoyleCopyists$Pointed", name := "depth", desc := "(I)I" } : Jvm.MethodName)) ∈ lw_all := lw_g (lw_at lw_m3 45 rfl) rfl
theorem q591 : (Jvm.Cond.castable "GargoyleCopyists$Cast" "GargoyleCopyists$Pointed") ∈ lw_tbl := lw_at lw_m3 48 rfl
theorem q592 : (Jvm.Cond.selects "GargoyleCopyists$Cast" ({ cls := "GargoyleCopyists$Pointed", name := "depth", desc := "(I)I" } : Jvm.MethodName) ({ cls := "GargoyleCopyists$Cast", name := "depth", desc := "(I)I" } : Jvm.MethodName)) ∈ lw_all := lw_g (lw_at lw_m3 49 rfl) rfl
theorem q593 : (Jvm.Cond.unhidden "GargoyleCopyists$Cast" "depth" "(I)I") ∈ lw_tbl := lw_at lw_m3 50 rfl
theorem q594 : (Jvm.Cond.instanceMethod ({ cls := "GargoyleCopyists$Cast", name := "depth", desc := "(I)I" } : Jvm.MethodName)) ∈ lw_all := lw_g (lw_at lw_m3 51 rfl) rfl
theorem q595 : (Jvm.Cond.publicMethod ({ cls := "GargoyleCopyists$Cast", name := "depth", desc := "(I)I" } : Jvm.MethodName)) ∈ lw_tbl := lw_at lw_m3 52 rfl
theorem q596 : (Jvm.Cond.code ({ cls := "GargoyleCopyists$Cast", name := "depth", desc := "(I)I" } : Jvm.MethodName) prog_2_method_3_code (2 : Nat) (Option.some Jvm.ClassFile.FieldType.int)) ∈ lw_all := lw_g (lw_at lw_m3 53 rfl) rfl
theorem q607 : (Jvm.Cond.fieldLink "GargoyleCopyists$Cast" (15 : Nat) "GargoyleCopyists$Cast" "ledge" "I") ∈ lw_all := lw_g (lw_at lw_m3 64 rfl) rfl
theorem q609 : (Jvm.Cond.fieldLink "GargoyleCopyists$Cast" (9 : Nat) "GargoyleCopyists$Cast" "depths" "[I") ∈ lw_all := lw_g (lw_at lw_m3 66 rfl) rfl
theorem q610 : (Jvm.Cond.fieldLink "GargoyleCopyists$Cast" (28 : Nat) "GargoyleCopyists$Cast" "hours" "I") ∈ lw_all := lw_g (lw_at lw_m3 67 rfl) rfl
theorem q612 : (Jvm.Cond.fieldLink "GargoyleCopyists$Cast" (31 : Nat) "GargoyleCopyists$Cast" "copies" "I") ∈ lw_all := lw_g (lw_at lw_m3 69 rfl) rfl
theorem q614 : (Jvm.Cond.laysFinal "GargoyleCopyists$Cast" "GargoyleCopyists$Cast" "ledge" "I") ∈ lw_all := lw_g (lw_at lw_m3 71 rfl) rfl
theorem q615 : (Jvm.Cond.soleField "GargoyleCopyists$Cast" "ledge") ∈ lw_all := lw_g (lw_at lw_m3 72 rfl) rfl
theorem q616 : (Jvm.Cond.laysFinal "GargoyleCopyists$Cast" "GargoyleCopyists$Cast" "depths" "[I") ∈ lw_all := lw_g (lw_at lw_m3 73 rfl) rfl
theorem q617 : (Jvm.Cond.soleField "GargoyleCopyists$Cast" "depths") ∈ lw_all := lw_g (lw_at lw_m3 74 rfl) rfl
theorem q618 : (Jvm.Cond.lays "GargoyleCopyists$Cast" "GargoyleCopyists$Cast" "hours" "I") ∈ lw_all := lw_g (lw_at lw_m3 75 rfl) rfl
theorem q619 : (Jvm.Cond.soleField "GargoyleCopyists$Cast" "hours") ∈ lw_all := lw_g (lw_at lw_m3 76 rfl) rfl
theorem q620 : (Jvm.Cond.lays "GargoyleCopyists$Cast" "GargoyleCopyists$Cast" "copies" "I") ∈ lw_all := lw_g (lw_at lw_m3 77 rfl) rfl
theorem q621 : (Jvm.Cond.soleField "GargoyleCopyists$Cast" "copies") ∈ lw_all := lw_g (lw_at lw_m3 78 rfl) rfl
theorem q622 : (Jvm.Cond.superclass "GargoyleCopyists$Cast" "java/lang/Object") ∈ lw_all := lw_g (lw_at lw_m3 79 rfl) rfl
theorem q798 : (Jvm.Cond.instanceMethod ({ cls := "GargoyleCopyists$Cast", name := "value", desc := "(I)I" } : Jvm.MethodName)) ∈ lw_all := lw_g (lw_at lw_m4 15 rfl) rfl
theorem q799 : (Jvm.Cond.selects "GargoyleCopyists$Cast" ({ cls := "GargoyleCopyists$Cast", name := "value", desc := "(I)I" } : Jvm.MethodName) ({ cls := "GargoyleCopyists$Cast", name := "value", desc := "(I)I" } : Jvm.MethodName)) ∈ lw_all := lw_g (lw_at lw_m4 16 rfl) rfl
theorem q800 : (Jvm.Cond.code ({ cls := "GargoyleCopyists$Cast", name := "value", desc := "(I)I" } : Jvm.MethodName) prog_2_method_6_code (2 : Nat) (Option.some Jvm.ClassFile.FieldType.int)) ∈ lw_all := lw_g (lw_at lw_m4 17 rfl) rfl
theorem q801 : (Jvm.Cond.methodLink "GargoyleCopyists$Cast" (34 : Nat) ({ cls := "GargoyleCopyists$Cast", name := "isSet", desc := "()Z" } : Jvm.MethodName)) ∈ lw_all := lw_g (lw_at lw_m4 18 rfl) rfl
theorem q802 : (Jvm.Cond.instanceMethod ({ cls := "GargoyleCopyists$Cast", name := "isSet", desc := "()Z" } : Jvm.MethodName)) ∈ lw_all := lw_g (lw_at lw_m4 19 rfl) rfl
theorem q803 : (Jvm.Cond.selects "GargoyleCopyists$Cast" ({ cls := "GargoyleCopyists$Cast", name := "isSet", desc := "()Z" } : Jvm.MethodName) ({ cls := "GargoyleCopyists$Cast", name := "isSet", desc := "()Z" } : Jvm.MethodName)) ∈ lw_all := lw_g (lw_at lw_m4 20 rfl) rfl
theorem q804 : (Jvm.Cond.code ({ cls := "GargoyleCopyists$Cast", name := "isSet", desc := "()Z" } : Jvm.MethodName) prog_2_method_4_code (1 : Nat) (Option.some Jvm.ClassFile.FieldType.boolean)) ∈ lw_all := lw_g (lw_at lw_m4 21 rfl) rfl
theorem q1064 : (Jvm.Cond.instanceMethod ({ cls := "GargoyleCopyists$Cast", name := "hourGoes", desc := "(I)V" } : Jvm.MethodName)) ∈ lw_all := lw_g (lw_at lw_m5 41 rfl) rfl
theorem q1065 : (Jvm.Cond.selects "GargoyleCopyists$Cast" ({ cls := "GargoyleCopyists$Cast", name := "hourGoes", desc := "(I)V" } : Jvm.MethodName) ({ cls := "GargoyleCopyists$Cast", name := "hourGoes", desc := "(I)V" } : Jvm.MethodName)) ∈ lw_all := lw_g (lw_at lw_m5 42 rfl) rfl
theorem q1066 : (Jvm.Cond.code ({ cls := "GargoyleCopyists$Cast", name := "hourGoes", desc := "(I)V" } : Jvm.MethodName) prog_2_method_5_code (2 : Nat) (Option.none : Option Jvm.ClassFile.FieldType)) ∈ lw_all := lw_g (lw_at lw_m5 43 rfl) rfl
theorem q2218 : (Jvm.Cond.selects "GargoyleCopyists$Cast" ({ cls := "GargoyleCopyists$Cast", name := "depth", desc := "(I)I" } : Jvm.MethodName) ({ cls := "GargoyleCopyists$Cast", name := "depth", desc := "(I)I" } : Jvm.MethodName)) ∈ lw_all := lw_g (lw_at lw_m9 235 rfl) rfl
theorem q2249 : (Jvm.Cond.castable "GargoyleCopyists$Cast" "java/lang/Object") ∈ lw_tbl := lw_at lw_m10 26 rfl
theorem in_X6 : ∀ w ∈ wsX60, w ∈ lw_all := lw_in wsX60 [614, 616, 618, 620] (by decide +kernel) (by decide +kernel)

/-! GargoyleCopyists$Copyist -/
set_option maxRecDepth 100000
def RX7 : String := "GargoyleCopyists$Copyist"
def TX7 : u_T := fun k => match k with
  | 0 => ("GargoyleCopyists$Copyist", "hand", "I", true)
  | 1 => ("GargoyleCopyists$Copyist", "worn", "I", false)
  | 2 => ("GargoyleCopyists$Copyist", "spent", "I", false)
  | 3 => ("GargoyleCopyists$Copyist", "points", "I", false)
  | _ => ("GargoyleCopyists$Copyist", "needles", "I", false)
def tyX7 : Nat → FieldType := fun k => match k with
  | 0 => .int
  | 1 => .int
  | 2 => .int
  | 3 => .int
  | _ => .int
abbrev wsX70 : List Cond := u_ws RX7 TX7 5
theorem nmX7 : ∀ a, a < 5 → ∀ b, b < 5 → a ≠ b → (TX7 a).2.1 ≠ (TX7 b).2.1 := by decide +kernel
theorem tyX7_ok : ∀ k, k < 5 → parseFieldDescriptor (TX7 k).2.2.1 = some (tyX7 k) := by decide +kernel
abbrev cX7_copy : ByteArray := prog_6_method_2_code
def yX7_copy : MethodName := ⟨RX7, "copy", "()LGargoyleCopyists$Copyist;"⟩
def dkwX7_copy_1 : List UInt8 := [180, 0, 24, 181, 0, 24, 43, 42, 180, 0, 27, 181, 0, 27, 43, 42, 180, 0, 9, 181, 0, 9, 43, 176]
abbrev dktX7_copy_1 : List UInt8 := dkwX7_copy_1 ++ []
def dkwX7_copy_0 : List UInt8 := [187, 0, 10, 89, 42, 180, 0, 15, 183, 0, 18, 76, 43, 42, 180, 0, 21, 181, 0, 21, 43, 42]
abbrev dktX7_copy_0 : List UInt8 := dkwX7_copy_0 ++ dktX7_copy_1
theorem dksX7_copy_0 : cX7_copy.data.toList.drop 0 = dktX7_copy_0 := by decide +kernel
theorem dksX7_copy_1 : cX7_copy.data.toList.drop 22 = dktX7_copy_1 := dk_seg dksX7_copy_0 22 rfl rfl
theorem dX7_copy_0 : decode cX7_copy 0 = .ok (.new 10, 3) := dk_187 0 10 (dk_at dksX7_copy_0 0 rfl rfl)
theorem dX7_copy_3 : decode cX7_copy 3 = .ok (.dup, 1) := dk_89 (dk_at dksX7_copy_0 3 rfl rfl)
theorem dX7_copy_4 : decode cX7_copy 4 = .ok (.aload_n 0, 1) := dk_42 (dk_at dksX7_copy_0 4 rfl rfl)
theorem dX7_copy_5 : decode cX7_copy 5 = .ok (.getfield 15, 3) := dk_180 0 15 (dk_at dksX7_copy_0 5 rfl rfl)
theorem dX7_copy_8 : decode cX7_copy 8 = .ok (.invokespecial 18, 3) := dk_183 0 18 (dk_at dksX7_copy_0 8 rfl rfl)
theorem dX7_copy_11 : decode cX7_copy 11 = .ok (.astore_n 1, 1) := dk_76 (dk_at dksX7_copy_0 11 rfl rfl)
theorem dX7_copy_12 : decode cX7_copy 12 = .ok (.aload_n 1, 1) := dk_43 (dk_at dksX7_copy_0 12 rfl rfl)
theorem dX7_copy_13 : decode cX7_copy 13 = .ok (.aload_n 0, 1) := dk_42 (dk_at dksX7_copy_0 13 rfl rfl)
theorem dX7_copy_14 : decode cX7_copy 14 = .ok (.getfield 21, 3) := dk_180 0 21 (dk_at dksX7_copy_0 14 rfl rfl)
theorem dX7_copy_17 : decode cX7_copy 17 = .ok (.putfield 21, 3) := dk_181 0 21 (dk_at dksX7_copy_0 17 rfl rfl)
theorem dX7_copy_20 : decode cX7_copy 20 = .ok (.aload_n 1, 1) := dk_43 (dk_at dksX7_copy_0 20 rfl rfl)
theorem dX7_copy_21 : decode cX7_copy 21 = .ok (.aload_n 0, 1) := dk_42 (dk_at dksX7_copy_0 21 rfl rfl)
theorem dX7_copy_22 : decode cX7_copy 22 = .ok (.getfield 24, 3) := dk_180 0 24 (dk_at dksX7_copy_1 0 rfl rfl)
theorem dX7_copy_25 : decode cX7_copy 25 = .ok (.putfield 24, 3) := dk_181 0 24 (dk_at dksX7_copy_1 3 rfl rfl)
theorem dX7_copy_28 : decode cX7_copy 28 = .ok (.aload_n 1, 1) := dk_43 (dk_at dksX7_copy_1 6 rfl rfl)
theorem dX7_copy_29 : decode cX7_copy 29 = .ok (.aload_n 0, 1) := dk_42 (dk_at dksX7_copy_1 7 rfl rfl)
theorem dX7_copy_30 : decode cX7_copy 30 = .ok (.getfield 27, 3) := dk_180 0 27 (dk_at dksX7_copy_1 8 rfl rfl)
theorem dX7_copy_33 : decode cX7_copy 33 = .ok (.putfield 27, 3) := dk_181 0 27 (dk_at dksX7_copy_1 11 rfl rfl)
theorem dX7_copy_36 : decode cX7_copy 36 = .ok (.aload_n 1, 1) := dk_43 (dk_at dksX7_copy_1 14 rfl rfl)
theorem dX7_copy_37 : decode cX7_copy 37 = .ok (.aload_n 0, 1) := dk_42 (dk_at dksX7_copy_1 15 rfl rfl)
theorem dX7_copy_38 : decode cX7_copy 38 = .ok (.getfield 9, 3) := dk_180 0 9 (dk_at dksX7_copy_1 16 rfl rfl)
theorem dX7_copy_41 : decode cX7_copy 41 = .ok (.putfield 9, 3) := dk_181 0 9 (dk_at dksX7_copy_1 19 rfl rfl)
theorem dX7_copy_44 : decode cX7_copy 44 = .ok (.aload_n 1, 1) := dk_43 (dk_at dksX7_copy_1 22 rfl rfl)
theorem dX7_copy_45 : decode cX7_copy 45 = .ok (.areturn, 1) := dk_176 (dk_at dksX7_copy_1 23 rfl rfl)
abbrev cX7_init : ByteArray := prog_6_method_1_code
def yX7_init : MethodName := ⟨RX7, "<init>", "(I)V"⟩
def dkwX7_init_0 : List UInt8 := [42, 183, 0, 3, 42, 4, 181, 0, 9, 42, 27, 181, 0, 15, 177]
abbrev dktX7_init_0 : List UInt8 := dkwX7_init_0 ++ []
theorem dksX7_init_0 : cX7_init.data.toList.drop 0 = dktX7_init_0 := by decide +kernel
theorem dX7_init_0 : decode cX7_init 0 = .ok (.aload_n 0, 1) := dk_42 (dk_at dksX7_init_0 0 rfl rfl)
theorem dX7_init_1 : decode cX7_init 1 = .ok (.invokespecial 3, 3) := dk_183 0 3 (dk_at dksX7_init_0 1 rfl rfl)
theorem dX7_init_4 : decode cX7_init 4 = .ok (.aload_n 0, 1) := dk_42 (dk_at dksX7_init_0 4 rfl rfl)
theorem dX7_init_5 : decode cX7_init 5 = .ok (.iconst 1, 1) := dk_4 (dk_at dksX7_init_0 5 rfl rfl)
theorem dX7_init_6 : decode cX7_init 6 = .ok (.putfield 9, 3) := dk_181 0 9 (dk_at dksX7_init_0 6 rfl rfl)
theorem dX7_init_9 : decode cX7_init 9 = .ok (.aload_n 0, 1) := dk_42 (dk_at dksX7_init_0 9 rfl rfl)
theorem dX7_init_10 : decode cX7_init 10 = .ok (.iload_n 1, 1) := dk_27 (dk_at dksX7_init_0 10 rfl rfl)
theorem dX7_init_11 : decode cX7_init 11 = .ok (.putfield 15, 3) := dk_181 0 15 (dk_at dksX7_init_0 11 rfl rfl)
theorem dX7_init_14 : decode cX7_init 14 = .ok (.return_, 1) := dk_177 (dk_at dksX7_init_0 14 rfl rfl)
abbrev cX7_wouldCut : ByteArray := prog_6_method_4_code
def yX7_wouldCut : MethodName := ⟨RX7, "wouldCut", "(I[LGargoyleCopyists$Cut;)I"⟩
def dkwX7_wouldCut_0 : List UInt8 := [3, 27, 44, 42, 180, 0, 15, 50, 42, 180, 0, 21, 185, 0, 30, 2, 0, 96, 184, 0, 36, 172]
abbrev dktX7_wouldCut_0 : List UInt8 := dkwX7_wouldCut_0 ++ []
theorem dksX7_wouldCut_0 : cX7_wouldCut.data.toList.drop 0 = dktX7_wouldCut_0 := by decide +kernel
theorem dX7_wouldCut_0 : decode cX7_wouldCut 0 = .ok (.iconst 0, 1) := dk_3 (dk_at dksX7_wouldCut_0 0 rfl rfl)
theorem dX7_wouldCut_1 : decode cX7_wouldCut 1 = .ok (.iload_n 1, 1) := dk_27 (dk_at dksX7_wouldCut_0 1 rfl rfl)
theorem dX7_wouldCut_2 : decode cX7_wouldCut 2 = .ok (.aload_n 2, 1) := dk_44 (dk_at dksX7_wouldCut_0 2 rfl rfl)
theorem dX7_wouldCut_3 : decode cX7_wouldCut 3 = .ok (.aload_n 0, 1) := dk_42 (dk_at dksX7_wouldCut_0 3 rfl rfl)
theorem dX7_wouldCut_4 : decode cX7_wouldCut 4 = .ok (.getfield 15, 3) := dk_180 0 15 (dk_at dksX7_wouldCut_0 4 rfl rfl)
theorem dX7_wouldCut_7 : decode cX7_wouldCut 7 = .ok (.aaload, 1) := dk_50 (dk_at dksX7_wouldCut_0 7 rfl rfl)
theorem dX7_wouldCut_8 : decode cX7_wouldCut 8 = .ok (.aload_n 0, 1) := dk_42 (dk_at dksX7_wouldCut_0 8 rfl rfl)
theorem dX7_wouldCut_9 : decode cX7_wouldCut 9 = .ok (.getfield 21, 3) := dk_180 0 21 (dk_at dksX7_wouldCut_0 9 rfl rfl)
theorem dX7_wouldCut_12 : decode cX7_wouldCut 12 = .ok (.invokeinterface 30 2, 5) := by decide +kernel
theorem dX7_wouldCut_17 : decode cX7_wouldCut 17 = .ok (.iadd, 1) := dk_96 (dk_at dksX7_wouldCut_0 17 rfl rfl)
theorem dX7_wouldCut_18 : decode cX7_wouldCut 18 = .ok (.invokestatic 36, 3) := dk_184 0 36 (dk_at dksX7_wouldCut_0 18 rfl rfl)
theorem dX7_wouldCut_21 : decode cX7_wouldCut 21 = .ok (.ireturn, 1) := dk_172 (dk_at dksX7_wouldCut_0 21 rfl rfl)
abbrev cX7_minutes : ByteArray := prog_6_method_5_code
def yX7_minutes : MethodName := ⟨RX7, "minutes", "(I)I"⟩
def dkwX7_minutes_0 : List UInt8 := [42, 180, 0, 15, 4, 160, 0, 11, 27, 4, 96, 5, 108, 167, 0, 4, 27, 172]
abbrev dktX7_minutes_0 : List UInt8 := dkwX7_minutes_0 ++ []
theorem dksX7_minutes_0 : cX7_minutes.data.toList.drop 0 = dktX7_minutes_0 := by decide +kernel
theorem dX7_minutes_0 : decode cX7_minutes 0 = .ok (.aload_n 0, 1) := dk_42 (dk_at dksX7_minutes_0 0 rfl rfl)
theorem dX7_minutes_1 : decode cX7_minutes 1 = .ok (.getfield 15, 3) := dk_180 0 15 (dk_at dksX7_minutes_0 1 rfl rfl)
theorem dX7_minutes_4 : decode cX7_minutes 4 = .ok (.iconst 1, 1) := dk_4 (dk_at dksX7_minutes_0 4 rfl rfl)
theorem dX7_minutes_5 : decode cX7_minutes 5 = .ok (.if_icmp .ne 11, 3) := dk_160 0 11 (dk_at dksX7_minutes_0 5 rfl rfl)
theorem dX7_minutes_8 : decode cX7_minutes 8 = .ok (.iload_n 1, 1) := dk_27 (dk_at dksX7_minutes_0 8 rfl rfl)
theorem dX7_minutes_9 : decode cX7_minutes 9 = .ok (.iconst 1, 1) := dk_4 (dk_at dksX7_minutes_0 9 rfl rfl)
theorem dX7_minutes_10 : decode cX7_minutes 10 = .ok (.iadd, 1) := dk_96 (dk_at dksX7_minutes_0 10 rfl rfl)
theorem dX7_minutes_11 : decode cX7_minutes 11 = .ok (.iconst 2, 1) := dk_5 (dk_at dksX7_minutes_0 11 rfl rfl)
theorem dX7_minutes_12 : decode cX7_minutes 12 = .ok (.idiv, 1) := dk_108 (dk_at dksX7_minutes_0 12 rfl rfl)
theorem dX7_minutes_13 : decode cX7_minutes 13 = .ok (.goto 4, 3) := dk_167 0 4 (dk_at dksX7_minutes_0 13 rfl rfl)
theorem dX7_minutes_16 : decode cX7_minutes 16 = .ok (.iload_n 1, 1) := dk_27 (dk_at dksX7_minutes_0 16 rfl rfl)
theorem dX7_minutes_17 : decode cX7_minutes 17 = .ok (.ireturn, 1) := dk_172 (dk_at dksX7_minutes_0 17 rfl rfl)
abbrev cX7_left : ByteArray := prog_6_method_3_code
def yX7_left : MethodName := ⟨RX7, "left", "()I"⟩
def dkwX7_left_0 : List UInt8 := [17, 2, 88, 42, 180, 0, 24, 100, 172]
abbrev dktX7_left_0 : List UInt8 := dkwX7_left_0 ++ []
theorem dksX7_left_0 : cX7_left.data.toList.drop 0 = dktX7_left_0 := by decide +kernel
theorem dX7_left_0 : decode cX7_left 0 = .ok (.sipush 600, 3) := dk_17 2 88 (dk_at dksX7_left_0 0 rfl rfl)
theorem dX7_left_3 : decode cX7_left 3 = .ok (.aload_n 0, 1) := dk_42 (dk_at dksX7_left_0 3 rfl rfl)
theorem dX7_left_4 : decode cX7_left 4 = .ok (.getfield 24, 3) := dk_180 0 24 (dk_at dksX7_left_0 4 rfl rfl)
theorem dX7_left_7 : decode cX7_left 7 = .ok (.isub, 1) := dk_100 (dk_at dksX7_left_0 7 rfl rfl)
theorem dX7_left_8 : decode cX7_left 8 = .ok (.ireturn, 1) := dk_172 (dk_at dksX7_left_0 8 rfl rfl)
abbrev cX7_hasCut : ByteArray := prog_6_method_6_code
def yX7_hasCut : MethodName := ⟨RX7, "hasCut", "(I)V"⟩
def dkwX7_hasCut_2 : List UInt8 := [181, 0, 27, 177]
abbrev dktX7_hasCut_2 : List UInt8 := dkwX7_hasCut_2 ++ []
def dkwX7_hasCut_1 : List UInt8 := [181, 0, 21, 42, 89, 180, 0, 24, 42, 27, 182, 0, 45, 96, 181, 0, 24, 42, 89, 180, 0, 27, 4, 96]
abbrev dktX7_hasCut_1 : List UInt8 := dkwX7_hasCut_1 ++ dktX7_hasCut_2
def dkwX7_hasCut_0 : List UInt8 := [42, 16, 20, 42, 180, 0, 21, 27, 16, 30, 164, 0, 7, 5, 167, 0, 4, 4, 96, 184, 0, 42]
abbrev dktX7_hasCut_0 : List UInt8 := dkwX7_hasCut_0 ++ dktX7_hasCut_1
theorem dksX7_hasCut_0 : cX7_hasCut.data.toList.drop 0 = dktX7_hasCut_0 := by decide +kernel
theorem dksX7_hasCut_1 : cX7_hasCut.data.toList.drop 22 = dktX7_hasCut_1 := dk_seg dksX7_hasCut_0 22 rfl rfl
theorem dksX7_hasCut_2 : cX7_hasCut.data.toList.drop 46 = dktX7_hasCut_2 := dk_seg dksX7_hasCut_1 24 rfl rfl
theorem dX7_hasCut_0 : decode cX7_hasCut 0 = .ok (.aload_n 0, 1) := dk_42 (dk_at dksX7_hasCut_0 0 rfl rfl)
theorem dX7_hasCut_1 : decode cX7_hasCut 1 = .ok (.bipush 20, 2) := dk_16 20 (dk_at dksX7_hasCut_0 1 rfl rfl)
theorem dX7_hasCut_3 : decode cX7_hasCut 3 = .ok (.aload_n 0, 1) := dk_42 (dk_at dksX7_hasCut_0 3 rfl rfl)
theorem dX7_hasCut_4 : decode cX7_hasCut 4 = .ok (.getfield 21, 3) := dk_180 0 21 (dk_at dksX7_hasCut_0 4 rfl rfl)
theorem dX7_hasCut_7 : decode cX7_hasCut 7 = .ok (.iload_n 1, 1) := dk_27 (dk_at dksX7_hasCut_0 7 rfl rfl)
theorem dX7_hasCut_8 : decode cX7_hasCut 8 = .ok (.bipush 30, 2) := dk_16 30 (dk_at dksX7_hasCut_0 8 rfl rfl)
theorem dX7_hasCut_10 : decode cX7_hasCut 10 = .ok (.if_icmp .le 7, 3) := dk_164 0 7 (dk_at dksX7_hasCut_0 10 rfl rfl)
theorem dX7_hasCut_13 : decode cX7_hasCut 13 = .ok (.iconst 2, 1) := dk_5 (dk_at dksX7_hasCut_0 13 rfl rfl)
theorem dX7_hasCut_14 : decode cX7_hasCut 14 = .ok (.goto 4, 3) := dk_167 0 4 (dk_at dksX7_hasCut_0 14 rfl rfl)
theorem dX7_hasCut_17 : decode cX7_hasCut 17 = .ok (.iconst 1, 1) := dk_4 (dk_at dksX7_hasCut_0 17 rfl rfl)
theorem dX7_hasCut_18 : decode cX7_hasCut 18 = .ok (.iadd, 1) := dk_96 (dk_at dksX7_hasCut_0 18 rfl rfl)
theorem dX7_hasCut_19 : decode cX7_hasCut 19 = .ok (.invokestatic 42, 3) := dk_184 0 42 (dk_at dksX7_hasCut_0 19 rfl rfl)
theorem dX7_hasCut_22 : decode cX7_hasCut 22 = .ok (.putfield 21, 3) := dk_181 0 21 (dk_at dksX7_hasCut_1 0 rfl rfl)
theorem dX7_hasCut_25 : decode cX7_hasCut 25 = .ok (.aload_n 0, 1) := dk_42 (dk_at dksX7_hasCut_1 3 rfl rfl)
theorem dX7_hasCut_26 : decode cX7_hasCut 26 = .ok (.dup, 1) := dk_89 (dk_at dksX7_hasCut_1 4 rfl rfl)
theorem dX7_hasCut_27 : decode cX7_hasCut 27 = .ok (.getfield 24, 3) := dk_180 0 24 (dk_at dksX7_hasCut_1 5 rfl rfl)
theorem dX7_hasCut_30 : decode cX7_hasCut 30 = .ok (.aload_n 0, 1) := dk_42 (dk_at dksX7_hasCut_1 8 rfl rfl)
theorem dX7_hasCut_31 : decode cX7_hasCut 31 = .ok (.iload_n 1, 1) := dk_27 (dk_at dksX7_hasCut_1 9 rfl rfl)
theorem dX7_hasCut_32 : decode cX7_hasCut 32 = .ok (.invokevirtual 45, 3) := dk_182 0 45 (dk_at dksX7_hasCut_1 10 rfl rfl)
theorem dX7_hasCut_35 : decode cX7_hasCut 35 = .ok (.iadd, 1) := dk_96 (dk_at dksX7_hasCut_1 13 rfl rfl)
theorem dX7_hasCut_36 : decode cX7_hasCut 36 = .ok (.putfield 24, 3) := dk_181 0 24 (dk_at dksX7_hasCut_1 14 rfl rfl)
theorem dX7_hasCut_39 : decode cX7_hasCut 39 = .ok (.aload_n 0, 1) := dk_42 (dk_at dksX7_hasCut_1 17 rfl rfl)
theorem dX7_hasCut_40 : decode cX7_hasCut 40 = .ok (.dup, 1) := dk_89 (dk_at dksX7_hasCut_1 18 rfl rfl)
theorem dX7_hasCut_41 : decode cX7_hasCut 41 = .ok (.getfield 27, 3) := dk_180 0 27 (dk_at dksX7_hasCut_1 19 rfl rfl)
theorem dX7_hasCut_44 : decode cX7_hasCut 44 = .ok (.iconst 1, 1) := dk_4 (dk_at dksX7_hasCut_1 22 rfl rfl)
theorem dX7_hasCut_45 : decode cX7_hasCut 45 = .ok (.iadd, 1) := dk_96 (dk_at dksX7_hasCut_1 23 rfl rfl)
theorem dX7_hasCut_46 : decode cX7_hasCut 46 = .ok (.putfield 27, 3) := dk_181 0 27 (dk_at dksX7_hasCut_2 0 rfl rfl)
theorem dX7_hasCut_49 : decode cX7_hasCut 49 = .ok (.return_, 1) := dk_177 (dk_at dksX7_hasCut_2 3 rfl rfl)
abbrev cX7_value : ByteArray := prog_6_method_7_code
def yX7_value : MethodName := ⟨RX7, "value", "(I)I"⟩
def dkwX7_value_3 : List UInt8 := [180, 0, 27, 167, 0, 12, 42, 180, 0, 9, 167, 0, 5, 16, 244, 172]
abbrev dktX7_value_3 : List UInt8 := dkwX7_value_3 ++ []
def dkwX7_value_2 : List UInt8 := [42, 180, 0, 15, 167, 0, 33, 42, 180, 0, 21, 167, 0, 26, 42, 182, 0, 48, 167, 0, 19, 42]
abbrev dktX7_value_2 : List UInt8 := dkwX7_value_2 ++ dktX7_value_3
def dkwX7_value_1 : List UInt8 := [170, 0, 0, 0, 0, 0, 70, 0, 0, 0, 0, 0, 0, 0, 4, 0, 0, 0, 35, 0, 0, 0, 42, 0, 0, 0, 49, 0, 0, 0, 56, 0, 0, 0, 63]
abbrev dktX7_value_1 : List UInt8 := dkwX7_value_1 ++ dktX7_value_2
def dkwX7_value_0 : List UInt8 := [27]
abbrev dktX7_value_0 : List UInt8 := dkwX7_value_0 ++ dktX7_value_1
theorem dksX7_value_0 : cX7_value.data.toList.drop 0 = dktX7_value_0 := by decide +kernel
theorem dksX7_value_1 : cX7_value.data.toList.drop 1 = dktX7_value_1 := dk_seg dksX7_value_0 1 rfl rfl
theorem dksX7_value_2 : cX7_value.data.toList.drop 36 = dktX7_value_2 := dk_seg dksX7_value_1 35 rfl rfl
theorem dksX7_value_3 : cX7_value.data.toList.drop 58 = dktX7_value_3 := dk_seg dksX7_value_2 22 rfl rfl
theorem dX7_value_0 : decode cX7_value 0 = .ok (.iload_n 1, 1) := dk_27 (dk_at dksX7_value_0 0 rfl rfl)
theorem dX7_value_1 : decode cX7_value 1 = .ok (.tableswitch 70 0 4 #[35, 42, 49, 56, 63], 35) := by decide +kernel
theorem dX7_value_36 : decode cX7_value 36 = .ok (.aload_n 0, 1) := dk_42 (dk_at dksX7_value_2 0 rfl rfl)
theorem dX7_value_37 : decode cX7_value 37 = .ok (.getfield 15, 3) := dk_180 0 15 (dk_at dksX7_value_2 1 rfl rfl)
theorem dX7_value_40 : decode cX7_value 40 = .ok (.goto 33, 3) := dk_167 0 33 (dk_at dksX7_value_2 4 rfl rfl)
theorem dX7_value_43 : decode cX7_value 43 = .ok (.aload_n 0, 1) := dk_42 (dk_at dksX7_value_2 7 rfl rfl)
theorem dX7_value_44 : decode cX7_value 44 = .ok (.getfield 21, 3) := dk_180 0 21 (dk_at dksX7_value_2 8 rfl rfl)
theorem dX7_value_47 : decode cX7_value 47 = .ok (.goto 26, 3) := dk_167 0 26 (dk_at dksX7_value_2 11 rfl rfl)
theorem dX7_value_50 : decode cX7_value 50 = .ok (.aload_n 0, 1) := dk_42 (dk_at dksX7_value_2 14 rfl rfl)
theorem dX7_value_51 : decode cX7_value 51 = .ok (.invokevirtual 48, 3) := dk_182 0 48 (dk_at dksX7_value_2 15 rfl rfl)
theorem dX7_value_54 : decode cX7_value 54 = .ok (.goto 19, 3) := dk_167 0 19 (dk_at dksX7_value_2 18 rfl rfl)
theorem dX7_value_57 : decode cX7_value 57 = .ok (.aload_n 0, 1) := dk_42 (dk_at dksX7_value_2 21 rfl rfl)
theorem dX7_value_58 : decode cX7_value 58 = .ok (.getfield 27, 3) := dk_180 0 27 (dk_at dksX7_value_3 0 rfl rfl)
theorem dX7_value_61 : decode cX7_value 61 = .ok (.goto 12, 3) := dk_167 0 12 (dk_at dksX7_value_3 3 rfl rfl)
theorem dX7_value_64 : decode cX7_value 64 = .ok (.aload_n 0, 1) := dk_42 (dk_at dksX7_value_3 6 rfl rfl)
theorem dX7_value_65 : decode cX7_value 65 = .ok (.getfield 9, 3) := dk_180 0 9 (dk_at dksX7_value_3 7 rfl rfl)
theorem dX7_value_68 : decode cX7_value 68 = .ok (.goto 5, 3) := dk_167 0 5 (dk_at dksX7_value_3 10 rfl rfl)
theorem dX7_value_71 : decode cX7_value 71 = .ok (.bipush (-12), 2) := dk_16 244 (dk_at dksX7_value_3 13 rfl rfl)
theorem dX7_value_73 : decode cX7_value 73 = .ok (.ireturn, 1) := dk_172 (dk_at dksX7_value_3 15 rfl rfl)
theorem q89 : (Jvm.Cond.initialized "GargoyleCopyists$Copyist") ∈ lw_all := lw_g (lw_at lw_m1 26 rfl) rfl
theorem q241 : (Jvm.Cond.selects "GargoyleCopyists$Copyist" ({ cls := "java/lang/Object", name := "getClass", desc := "()Ljava/lang/Class;" } : Jvm.MethodName) ({ cls := "java/lang/Object", name := "getClass", desc := "()Ljava/lang/Class;" } : Jvm.MethodName)) ∈ lw_all := lw_g (lw_at lw_m1 178 rfl) rfl
theorem q626 : (Jvm.Cond.instanceMethod ({ cls := "GargoyleCopyists$Copyist", name := "copy", desc := "()LGargoyleCopyists$Copyist;" } : Jvm.MethodName)) ∈ lw_all := lw_g (lw_at lw_m3 83 rfl) rfl
theorem q627 : (Jvm.Cond.selects "GargoyleCopyists$Copyist" ({ cls := "GargoyleCopyists$Copyist", name := "copy", desc := "()LGargoyleCopyists$Copyist;" } : Jvm.MethodName) ({ cls := "GargoyleCopyists$Copyist", name := "copy", desc := "()LGargoyleCopyists$Copyist;" } : Jvm.MethodName)) ∈ lw_all := lw_g (lw_at lw_m3 84 rfl) rfl
theorem q628 : (Jvm.Cond.code ({ cls := "GargoyleCopyists$Copyist", name := "copy", desc := "()LGargoyleCopyists$Copyist;" } : Jvm.MethodName) prog_6_method_2_code (2 : Nat) (Option.some (Jvm.ClassFile.FieldType.object "GargoyleCopyists$Copyist"))) ∈ lw_all := lw_g (lw_at lw_m3 85 rfl) rfl
theorem q629 : (Jvm.Cond.classLink "GargoyleCopyists$Copyist" (10 : Nat) "GargoyleCopyists$Copyist") ∈ lw_all := lw_g (lw_at lw_m3 86 rfl) rfl
theorem q630 : (Jvm.Cond.instantiable "GargoyleCopyists$Copyist" (5 : Nat)) ∈ lw_all := lw_g (lw_at lw_m3 87 rfl) rfl
theorem q631 : (Jvm.Cond.methodLink "GargoyleCopyists$Copyist" (18 : Nat) ({ cls := "GargoyleCopyists$Copyist", name := "<init>", desc := "(I)V" } : Jvm.MethodName)) ∈ lw_all := lw_g (lw_at lw_m3 88 rfl) rfl
theorem q632 : (Jvm.Cond.instanceMethod ({ cls := "GargoyleCopyists$Copyist", name := "<init>", desc := "(I)V" } : Jvm.MethodName)) ∈ lw_all := lw_g (lw_at lw_m3 89 rfl) rfl
theorem q633 : (Jvm.Cond.code ({ cls := "GargoyleCopyists$Copyist", name := "<init>", desc := "(I)V" } : Jvm.MethodName) prog_6_method_1_code (2 : Nat) (Option.none : Option Jvm.ClassFile.FieldType)) ∈ lw_all := lw_g (lw_at lw_m3 90 rfl) rfl
theorem q634 : (Jvm.Cond.methodLink "GargoyleCopyists$Copyist" (3 : Nat) ({ cls := "java/lang/Object", name := "<init>", desc := "()V" } : Jvm.MethodName)) ∈ lw_all := lw_g (lw_at lw_m3 91 rfl) rfl
theorem q635 : (Jvm.Cond.fieldLink "GargoyleCopyists$Copyist" (15 : Nat) "GargoyleCopyists$Copyist" "hand" "I") ∈ lw_all := lw_g (lw_at lw_m3 92 rfl) rfl
theorem q636 : (Jvm.Cond.fieldLink "GargoyleCopyists$Copyist" (21 : Nat) "GargoyleCopyists$Copyist" "worn" "I") ∈ lw_all := lw_g (lw_at lw_m3 93 rfl) rfl
theorem q638 : (Jvm.Cond.fieldLink "GargoyleCopyists$Copyist" (24 : Nat) "GargoyleCopyists$Copyist" "spent" "I") ∈ lw_all := lw_g (lw_at lw_m3 95 rfl) rfl
theorem q640 : (Jvm.Cond.fieldLink "GargoyleCopyists$Copyist" (27 : Nat) "GargoyleCopyists$Copyist" "points" "I") ∈ lw_all := lw_g (lw_at lw_m3 97 rfl) rfl
theorem q642 : (Jvm.Cond.fieldLink "GargoyleCopyists$Copyist" (9 : Nat) "GargoyleCopyists$Copyist" "needles" "I") ∈ lw_all := lw_g (lw_at lw_m3 99 rfl) rfl
theorem q644 : (Jvm.Cond.laysFinal "GargoyleCopyists$Copyist" "GargoyleCopyists$Copyist" "hand" "I") ∈ lw_all := lw_g (lw_at lw_m3 101 rfl) rfl
theorem q645 : (Jvm.Cond.soleField "GargoyleCopyists$Copyist" "hand") ∈ lw_all := lw_g (lw_at lw_m3 102 rfl) rfl
theorem q646 : (Jvm.Cond.lays "GargoyleCopyists$Copyist" "GargoyleCopyists$Copyist" "worn" "I") ∈ lw_all := lw_g (lw_at lw_m3 103 rfl) rfl
theorem q647 : (Jvm.Cond.soleField "GargoyleCopyists$Copyist" "worn") ∈ lw_all := lw_g (lw_at lw_m3 104 rfl) rfl
theorem q648 : (Jvm.Cond.lays "GargoyleCopyists$Copyist" "GargoyleCopyists$Copyist" "spent" "I") ∈ lw_all := lw_g (lw_at lw_m3 105 rfl) rfl
theorem q649 : (Jvm.Cond.soleField "GargoyleCopyists$Copyist" "spent") ∈ lw_all := lw_g (lw_at lw_m3 106 rfl) rfl
theorem q650 : (Jvm.Cond.lays "GargoyleCopyists$Copyist" "GargoyleCopyists$Copyist" "points" "I") ∈ lw_all := lw_g (lw_at lw_m3 107 rfl) rfl
theorem q651 : (Jvm.Cond.soleField "GargoyleCopyists$Copyist" "points") ∈ lw_all := lw_g (lw_at lw_m3 108 rfl) rfl
theorem q652 : (Jvm.Cond.lays "GargoyleCopyists$Copyist" "GargoyleCopyists$Copyist" "needles" "I") ∈ lw_all := lw_g (lw_at lw_m3 109 rfl) rfl
theorem q653 : (Jvm.Cond.soleField "GargoyleCopyists$Copyist" "needles") ∈ lw_all := lw_g (lw_at lw_m3 110 rfl) rfl
theorem q654 : (Jvm.Cond.superclass "GargoyleCopyists$Copyist" "java/lang/Object") ∈ lw_all := lw_g (lw_at lw_m3 111 rfl) rfl
theorem q839 : (Jvm.Cond.instanceMethod ({ cls := "GargoyleCopyists$Copyist", name := "wouldCut", desc := "(I[LGargoyleCopyists$Cut;)I" } : Jvm.MethodName)) ∈ lw_all := lw_g (lw_at lw_m4 56 rfl) rfl
theorem q840 : (Jvm.Cond.selects "GargoyleCopyists$Copyist" ({ cls := "GargoyleCopyists$Copyist", name := "wouldCut", desc := "(I[LGargoyleCopyists$Cut;)I" } : Jvm.MethodName) ({ cls := "GargoyleCopyists$Copyist", name := "wouldCut", desc := "(I[LGargoyleCopyists$Cut;)I" } : Jvm.MethodName)) ∈ lw_all := lw_g (lw_at lw_m4 57 rfl) rfl
theorem q841 : (Jvm.Cond.code ({ cls := "GargoyleCopyists$Copyist", name := "wouldCut", desc := "(I[LGargoyleCopyists$Cut;)I" } : Jvm.MethodName) prog_6_method_4_code (3 : Nat) (Option.some Jvm.ClassFile.FieldType.int)) ∈ lw_all := lw_g (lw_at lw_m4 58 rfl) rfl
theorem q842 : (Jvm.Cond.interfaceEntry "GargoyleCopyists$Copyist" (30 : Nat)) ∈ lw_tbl := lw_at lw_m4 59 rfl
theorem q843 : (Jvm.Cond.methodLink "GargoyleCopyists$Copyist" (30 : Nat) ({ cls := "GargoyleCopyists$Cut", name := "more", desc := "(I)I" } : Jvm.MethodName)) ∈ lw_all := lw_g (lw_at lw_m4 60 rfl) rfl
theorem q846 : (Jvm.Cond.methodLink "GargoyleCopyists$Copyist" (36 : Nat) ({ cls := "java/lang/Math", name := "max", desc := "(II)I" } : Jvm.MethodName)) ∈ lw_all := lw_g (lw_at lw_m4 63 rfl) rfl
theorem q866 : (Jvm.Cond.instanceMethod ({ cls := "GargoyleCopyists$Copyist", name := "minutes", desc := "(I)I" } : Jvm.MethodName)) ∈ lw_all := lw_g (lw_at lw_m4 83 rfl) rfl
theorem q867 : (Jvm.Cond.selects "GargoyleCopyists$Copyist" ({ cls := "GargoyleCopyists$Copyist", name := "minutes", desc := "(I)I" } : Jvm.MethodName) ({ cls := "GargoyleCopyists$Copyist", name := "minutes", desc := "(I)I" } : Jvm.MethodName)) ∈ lw_all := lw_g (lw_at lw_m4 84 rfl) rfl
theorem q868 : (Jvm.Cond.code ({ cls := "GargoyleCopyists$Copyist", name := "minutes", desc := "(I)I" } : Jvm.MethodName) prog_6_method_5_code (2 : Nat) (Option.some Jvm.ClassFile.FieldType.int)) ∈ lw_all := lw_g (lw_at lw_m4 85 rfl) rfl
theorem q870 : (Jvm.Cond.instanceMethod ({ cls := "GargoyleCopyists$Copyist", name := "left", desc := "()I" } : Jvm.MethodName)) ∈ lw_all := lw_g (lw_at lw_m4 87 rfl) rfl
theorem q871 : (Jvm.Cond.selects "GargoyleCopyists$Copyist" ({ cls := "GargoyleCopyists$Copyist", name := "left", desc := "()I" } : Jvm.MethodName) ({ cls := "GargoyleCopyists$Copyist", name := "left", desc := "()I" } : Jvm.MethodName)) ∈ lw_all := lw_g (lw_at lw_m4 88 rfl) rfl
theorem q872 : (Jvm.Cond.code ({ cls := "GargoyleCopyists$Copyist", name := "left", desc := "()I" } : Jvm.MethodName) prog_6_method_3_code (1 : Nat) (Option.some Jvm.ClassFile.FieldType.int)) ∈ lw_all := lw_g (lw_at lw_m4 89 rfl) rfl
theorem q874 : (Jvm.Cond.instanceMethod ({ cls := "GargoyleCopyists$Copyist", name := "hasCut", desc := "(I)V" } : Jvm.MethodName)) ∈ lw_all := lw_g (lw_at lw_m4 91 rfl) rfl
theorem q875 : (Jvm.Cond.selects "GargoyleCopyists$Copyist" ({ cls := "GargoyleCopyists$Copyist", name := "hasCut", desc := "(I)V" } : Jvm.MethodName) ({ cls := "GargoyleCopyists$Copyist", name := "hasCut", desc := "(I)V" } : Jvm.MethodName)) ∈ lw_all := lw_g (lw_at lw_m4 92 rfl) rfl
theorem q876 : (Jvm.Cond.code ({ cls := "GargoyleCopyists$Copyist", name := "hasCut", desc := "(I)V" } : Jvm.MethodName) prog_6_method_6_code (2 : Nat) (Option.none : Option Jvm.ClassFile.FieldType)) ∈ lw_all := lw_g (lw_at lw_m4 93 rfl) rfl
theorem q877 : (Jvm.Cond.methodLink "GargoyleCopyists$Copyist" (42 : Nat) ({ cls := "java/lang/Math", name := "min", desc := "(II)I" } : Jvm.MethodName)) ∈ lw_all := lw_g (lw_at lw_m4 94 rfl) rfl
theorem q878 : (Jvm.Cond.methodLink "GargoyleCopyists$Copyist" (45 : Nat) ({ cls := "GargoyleCopyists$Copyist", name := "minutes", desc := "(I)I" } : Jvm.MethodName)) ∈ lw_all := lw_g (lw_at lw_m4 95 rfl) rfl
theorem q899 : (Jvm.Cond.instanceMethod ({ cls := "GargoyleCopyists$Copyist", name := "value", desc := "(I)I" } : Jvm.MethodName)) ∈ lw_all := lw_g (lw_at lw_m4 116 rfl) rfl
theorem q900 : (Jvm.Cond.selects "GargoyleCopyists$Copyist" ({ cls := "GargoyleCopyists$Copyist", name := "value", desc := "(I)I" } : Jvm.MethodName) ({ cls := "GargoyleCopyists$Copyist", name := "value", desc := "(I)I" } : Jvm.MethodName)) ∈ lw_all := lw_g (lw_at lw_m4 117 rfl) rfl
theorem q901 : (Jvm.Cond.code ({ cls := "GargoyleCopyists$Copyist", name := "value", desc := "(I)I" } : Jvm.MethodName) prog_6_method_7_code (2 : Nat) (Option.some Jvm.ClassFile.FieldType.int)) ∈ lw_all := lw_g (lw_at lw_m4 118 rfl) rfl
theorem q902 : (Jvm.Cond.methodLink "GargoyleCopyists$Copyist" (48 : Nat) ({ cls := "GargoyleCopyists$Copyist", name := "left", desc := "()I" } : Jvm.MethodName)) ∈ lw_all := lw_g (lw_at lw_m4 119 rfl) rfl
theorem q2250 : (Jvm.Cond.castable "GargoyleCopyists$Copyist" "java/lang/Object") ∈ lw_tbl := lw_at lw_m10 27 rfl
theorem in_X7 : ∀ w ∈ wsX70, w ∈ lw_all := lw_in wsX70 [644, 646, 648, 650, 652] (by decide +kernel) (by decide +kernel)

/-! GargoyleCopyists$Copy -/
set_option maxRecDepth 100000
def RX8 : String := "GargoyleCopyists$Copy"
def TX8 : u_T := fun k => match k with
  | 0 => ("GargoyleCopyists$Copy", "number", "I", true)
  | 1 => ("GargoyleCopyists$Copy", "cast", "I", true)
  | 2 => ("GargoyleCopyists$Copy", "depths", "[I", true)
  | _ => ("GargoyleCopyists$Copy", "isUp", "Z", false)
def tyX8 : Nat → FieldType := fun k => match k with
  | 0 => .int
  | 1 => .int
  | 2 => .array .int
  | _ => .boolean
abbrev wsX80 : List Cond := u_ws RX8 TX8 4
theorem nmX8 : ∀ a, a < 4 → ∀ b, b < 4 → a ≠ b → (TX8 a).2.1 ≠ (TX8 b).2.1 := by decide +kernel
theorem tyX8_ok : ∀ k, k < 4 → parseFieldDescriptor (TX8 k).2.2.1 = some (tyX8 k) := by decide +kernel
abbrev cX8_depth : ByteArray := prog_4_method_3_code
def yX8_depth : MethodName := ⟨RX8, "depth", "(I)I"⟩
def dkwX8_depth_0 : List UInt8 := [42, 180, 0, 9, 27, 46, 172]
abbrev dktX8_depth_0 : List UInt8 := dkwX8_depth_0 ++ []
theorem dksX8_depth_0 : cX8_depth.data.toList.drop 0 = dktX8_depth_0 := by decide +kernel
theorem dX8_depth_0 : decode cX8_depth 0 = .ok (.aload_n 0, 1) := dk_42 (dk_at dksX8_depth_0 0 rfl rfl)
theorem dX8_depth_1 : decode cX8_depth 1 = .ok (.getfield 9, 3) := dk_180 0 9 (dk_at dksX8_depth_0 1 rfl rfl)
theorem dX8_depth_4 : decode cX8_depth 4 = .ok (.iload_n 1, 1) := dk_27 (dk_at dksX8_depth_0 4 rfl rfl)
theorem dX8_depth_5 : decode cX8_depth 5 = .ok (.iaload, 1) := dk_46 (dk_at dksX8_depth_0 5 rfl rfl)
theorem dX8_depth_6 : decode cX8_depth 6 = .ok (.ireturn, 1) := dk_172 (dk_at dksX8_depth_0 6 rfl rfl)
abbrev cX8_copy : ByteArray := prog_4_method_2_code
def yX8_copy : MethodName := ⟨RX8, "copy", "()LGargoyleCopyists$Copy;"⟩
def dkwX8_copy_1 : List UInt8 := [180, 0, 9, 3, 16, 10, 184, 0, 25, 43, 42, 180, 0, 31, 181, 0, 31, 43, 176]
abbrev dktX8_copy_1 : List UInt8 := dkwX8_copy_1 ++ []
def dkwX8_copy_0 : List UInt8 := [187, 0, 10, 89, 42, 180, 0, 15, 42, 180, 0, 19, 183, 0, 22, 76, 42, 180, 0, 9, 3, 43]
abbrev dktX8_copy_0 : List UInt8 := dkwX8_copy_0 ++ dktX8_copy_1
theorem dksX8_copy_0 : cX8_copy.data.toList.drop 0 = dktX8_copy_0 := by decide +kernel
theorem dksX8_copy_1 : cX8_copy.data.toList.drop 22 = dktX8_copy_1 := dk_seg dksX8_copy_0 22 rfl rfl
theorem dX8_copy_0 : decode cX8_copy 0 = .ok (.new 10, 3) := dk_187 0 10 (dk_at dksX8_copy_0 0 rfl rfl)
theorem dX8_copy_3 : decode cX8_copy 3 = .ok (.dup, 1) := dk_89 (dk_at dksX8_copy_0 3 rfl rfl)
theorem dX8_copy_4 : decode cX8_copy 4 = .ok (.aload_n 0, 1) := dk_42 (dk_at dksX8_copy_0 4 rfl rfl)
theorem dX8_copy_5 : decode cX8_copy 5 = .ok (.getfield 15, 3) := dk_180 0 15 (dk_at dksX8_copy_0 5 rfl rfl)
theorem dX8_copy_8 : decode cX8_copy 8 = .ok (.aload_n 0, 1) := dk_42 (dk_at dksX8_copy_0 8 rfl rfl)
theorem dX8_copy_9 : decode cX8_copy 9 = .ok (.getfield 19, 3) := dk_180 0 19 (dk_at dksX8_copy_0 9 rfl rfl)
theorem dX8_copy_12 : decode cX8_copy 12 = .ok (.invokespecial 22, 3) := dk_183 0 22 (dk_at dksX8_copy_0 12 rfl rfl)
theorem dX8_copy_15 : decode cX8_copy 15 = .ok (.astore_n 1, 1) := dk_76 (dk_at dksX8_copy_0 15 rfl rfl)
theorem dX8_copy_16 : decode cX8_copy 16 = .ok (.aload_n 0, 1) := dk_42 (dk_at dksX8_copy_0 16 rfl rfl)
theorem dX8_copy_17 : decode cX8_copy 17 = .ok (.getfield 9, 3) := dk_180 0 9 (dk_at dksX8_copy_0 17 rfl rfl)
theorem dX8_copy_20 : decode cX8_copy 20 = .ok (.iconst 0, 1) := dk_3 (dk_at dksX8_copy_0 20 rfl rfl)
theorem dX8_copy_21 : decode cX8_copy 21 = .ok (.aload_n 1, 1) := dk_43 (dk_at dksX8_copy_0 21 rfl rfl)
theorem dX8_copy_22 : decode cX8_copy 22 = .ok (.getfield 9, 3) := dk_180 0 9 (dk_at dksX8_copy_1 0 rfl rfl)
theorem dX8_copy_25 : decode cX8_copy 25 = .ok (.iconst 0, 1) := dk_3 (dk_at dksX8_copy_1 3 rfl rfl)
theorem dX8_copy_26 : decode cX8_copy 26 = .ok (.bipush 10, 2) := dk_16 10 (dk_at dksX8_copy_1 4 rfl rfl)
theorem dX8_copy_28 : decode cX8_copy 28 = .ok (.invokestatic 25, 3) := dk_184 0 25 (dk_at dksX8_copy_1 6 rfl rfl)
theorem dX8_copy_31 : decode cX8_copy 31 = .ok (.aload_n 1, 1) := dk_43 (dk_at dksX8_copy_1 9 rfl rfl)
theorem dX8_copy_32 : decode cX8_copy 32 = .ok (.aload_n 0, 1) := dk_42 (dk_at dksX8_copy_1 10 rfl rfl)
theorem dX8_copy_33 : decode cX8_copy 33 = .ok (.getfield 31, 3) := dk_180 0 31 (dk_at dksX8_copy_1 11 rfl rfl)
theorem dX8_copy_36 : decode cX8_copy 36 = .ok (.putfield 31, 3) := dk_181 0 31 (dk_at dksX8_copy_1 14 rfl rfl)
theorem dX8_copy_39 : decode cX8_copy 39 = .ok (.aload_n 1, 1) := dk_43 (dk_at dksX8_copy_1 17 rfl rfl)
theorem dX8_copy_40 : decode cX8_copy 40 = .ok (.areturn, 1) := dk_176 (dk_at dksX8_copy_1 18 rfl rfl)
abbrev cX8_init : ByteArray := prog_4_method_1_code
def yX8_init : MethodName := ⟨RX8, "<init>", "(II)V"⟩
def dkwX8_init_1 : List UInt8 := [29, 16, 10, 162, 0, 16, 42, 180, 0, 9, 29, 2, 79, 132, 3, 1, 167, 255, 240, 177]
abbrev dktX8_init_1 : List UInt8 := dkwX8_init_1 ++ []
def dkwX8_init_0 : List UInt8 := [42, 183, 0, 3, 42, 16, 10, 188, 10, 181, 0, 9, 42, 27, 181, 0, 15, 42, 28, 181, 0, 19, 3, 62]
abbrev dktX8_init_0 : List UInt8 := dkwX8_init_0 ++ dktX8_init_1
theorem dksX8_init_0 : cX8_init.data.toList.drop 0 = dktX8_init_0 := by decide +kernel
theorem dksX8_init_1 : cX8_init.data.toList.drop 24 = dktX8_init_1 := dk_seg dksX8_init_0 24 rfl rfl
theorem dX8_init_0 : decode cX8_init 0 = .ok (.aload_n 0, 1) := dk_42 (dk_at dksX8_init_0 0 rfl rfl)
theorem dX8_init_1 : decode cX8_init 1 = .ok (.invokespecial 3, 3) := dk_183 0 3 (dk_at dksX8_init_0 1 rfl rfl)
theorem dX8_init_4 : decode cX8_init 4 = .ok (.aload_n 0, 1) := dk_42 (dk_at dksX8_init_0 4 rfl rfl)
theorem dX8_init_5 : decode cX8_init 5 = .ok (.bipush 10, 2) := dk_16 10 (dk_at dksX8_init_0 5 rfl rfl)
theorem dX8_init_7 : decode cX8_init 7 = .ok (.newarray .int, 2) := dk_188_10 (dk_at dksX8_init_0 7 rfl rfl)
theorem dX8_init_9 : decode cX8_init 9 = .ok (.putfield 9, 3) := dk_181 0 9 (dk_at dksX8_init_0 9 rfl rfl)
theorem dX8_init_12 : decode cX8_init 12 = .ok (.aload_n 0, 1) := dk_42 (dk_at dksX8_init_0 12 rfl rfl)
theorem dX8_init_13 : decode cX8_init 13 = .ok (.iload_n 1, 1) := dk_27 (dk_at dksX8_init_0 13 rfl rfl)
theorem dX8_init_14 : decode cX8_init 14 = .ok (.putfield 15, 3) := dk_181 0 15 (dk_at dksX8_init_0 14 rfl rfl)
theorem dX8_init_17 : decode cX8_init 17 = .ok (.aload_n 0, 1) := dk_42 (dk_at dksX8_init_0 17 rfl rfl)
theorem dX8_init_18 : decode cX8_init 18 = .ok (.iload_n 2, 1) := dk_28 (dk_at dksX8_init_0 18 rfl rfl)
theorem dX8_init_19 : decode cX8_init 19 = .ok (.putfield 19, 3) := dk_181 0 19 (dk_at dksX8_init_0 19 rfl rfl)
theorem dX8_init_22 : decode cX8_init 22 = .ok (.iconst 0, 1) := dk_3 (dk_at dksX8_init_0 22 rfl rfl)
theorem dX8_init_23 : decode cX8_init 23 = .ok (.istore_n 3, 1) := dk_62 (dk_at dksX8_init_0 23 rfl rfl)
theorem dX8_init_24 : decode cX8_init 24 = .ok (.iload_n 3, 1) := dk_29 (dk_at dksX8_init_1 0 rfl rfl)
theorem dX8_init_25 : decode cX8_init 25 = .ok (.bipush 10, 2) := dk_16 10 (dk_at dksX8_init_1 1 rfl rfl)
theorem dX8_init_27 : decode cX8_init 27 = .ok (.if_icmp .ge 16, 3) := dk_162 0 16 (dk_at dksX8_init_1 3 rfl rfl)
theorem dX8_init_30 : decode cX8_init 30 = .ok (.aload_n 0, 1) := dk_42 (dk_at dksX8_init_1 6 rfl rfl)
theorem dX8_init_31 : decode cX8_init 31 = .ok (.getfield 9, 3) := dk_180 0 9 (dk_at dksX8_init_1 7 rfl rfl)
theorem dX8_init_34 : decode cX8_init 34 = .ok (.iload_n 3, 1) := dk_29 (dk_at dksX8_init_1 10 rfl rfl)
theorem dX8_init_35 : decode cX8_init 35 = .ok (.iconst (-1), 1) := dk_2 (dk_at dksX8_init_1 11 rfl rfl)
theorem dX8_init_36 : decode cX8_init 36 = .ok (.iastore, 1) := dk_79 (dk_at dksX8_init_1 12 rfl rfl)
theorem dX8_init_37 : decode cX8_init 37 = .ok (.iinc 3 1, 3) := dk_132 3 1 (dk_at dksX8_init_1 13 rfl rfl)
theorem dX8_init_40 : decode cX8_init 40 = .ok (.goto (-16), 3) := dk_167 255 240 (dk_at dksX8_init_1 16 rfl rfl)
theorem dX8_init_43 : decode cX8_init 43 = .ok (.return_, 1) := dk_177 (dk_at dksX8_init_1 19 rfl rfl)
abbrev cX8_isCut : ByteArray := prog_4_method_4_code
def yX8_isCut : MethodName := ⟨RX8, "isCut", "(I)Z"⟩
def dkwX8_isCut_0 : List UInt8 := [42, 180, 0, 9, 27, 46, 2, 159, 0, 7, 4, 167, 0, 4, 3, 172]
abbrev dktX8_isCut_0 : List UInt8 := dkwX8_isCut_0 ++ []
theorem dksX8_isCut_0 : cX8_isCut.data.toList.drop 0 = dktX8_isCut_0 := by decide +kernel
theorem dX8_isCut_0 : decode cX8_isCut 0 = .ok (.aload_n 0, 1) := dk_42 (dk_at dksX8_isCut_0 0 rfl rfl)
theorem dX8_isCut_1 : decode cX8_isCut 1 = .ok (.getfield 9, 3) := dk_180 0 9 (dk_at dksX8_isCut_0 1 rfl rfl)
theorem dX8_isCut_4 : decode cX8_isCut 4 = .ok (.iload_n 1, 1) := dk_27 (dk_at dksX8_isCut_0 4 rfl rfl)
theorem dX8_isCut_5 : decode cX8_isCut 5 = .ok (.iaload, 1) := dk_46 (dk_at dksX8_isCut_0 5 rfl rfl)
theorem dX8_isCut_6 : decode cX8_isCut 6 = .ok (.iconst (-1), 1) := dk_2 (dk_at dksX8_isCut_0 6 rfl rfl)
theorem dX8_isCut_7 : decode cX8_isCut 7 = .ok (.if_icmp .eq 7, 3) := dk_159 0 7 (dk_at dksX8_isCut_0 7 rfl rfl)
theorem dX8_isCut_10 : decode cX8_isCut 10 = .ok (.iconst 1, 1) := dk_4 (dk_at dksX8_isCut_0 10 rfl rfl)
theorem dX8_isCut_11 : decode cX8_isCut 11 = .ok (.goto 4, 3) := dk_167 0 4 (dk_at dksX8_isCut_0 11 rfl rfl)
theorem dX8_isCut_14 : decode cX8_isCut 14 = .ok (.iconst 0, 1) := dk_3 (dk_at dksX8_isCut_0 14 rfl rfl)
theorem dX8_isCut_15 : decode cX8_isCut 15 = .ok (.ireturn, 1) := dk_172 (dk_at dksX8_isCut_0 15 rfl rfl)
abbrev cX8_cut : ByteArray := prog_4_method_5_code
def yX8_cut : MethodName := ⟨RX8, "cut", "()I"⟩
def dkwX8_cut_1 : List UInt8 := [96, 60, 132, 2, 1, 167, 255, 231, 27, 172]
abbrev dktX8_cut_1 : List UInt8 := dkwX8_cut_1 ++ []
def dkwX8_cut_0 : List UInt8 := [3, 60, 3, 61, 28, 16, 10, 162, 0, 25, 27, 42, 28, 182, 0, 35, 153, 0, 7, 4, 167, 0, 4, 3]
abbrev dktX8_cut_0 : List UInt8 := dkwX8_cut_0 ++ dktX8_cut_1
theorem dksX8_cut_0 : cX8_cut.data.toList.drop 0 = dktX8_cut_0 := by decide +kernel
theorem dksX8_cut_1 : cX8_cut.data.toList.drop 24 = dktX8_cut_1 := dk_seg dksX8_cut_0 24 rfl rfl
theorem dX8_cut_0 : decode cX8_cut 0 = .ok (.iconst 0, 1) := dk_3 (dk_at dksX8_cut_0 0 rfl rfl)
theorem dX8_cut_1 : decode cX8_cut 1 = .ok (.istore_n 1, 1) := dk_60 (dk_at dksX8_cut_0 1 rfl rfl)
theorem dX8_cut_2 : decode cX8_cut 2 = .ok (.iconst 0, 1) := dk_3 (dk_at dksX8_cut_0 2 rfl rfl)
theorem dX8_cut_3 : decode cX8_cut 3 = .ok (.istore_n 2, 1) := dk_61 (dk_at dksX8_cut_0 3 rfl rfl)
theorem dX8_cut_4 : decode cX8_cut 4 = .ok (.iload_n 2, 1) := dk_28 (dk_at dksX8_cut_0 4 rfl rfl)
theorem dX8_cut_5 : decode cX8_cut 5 = .ok (.bipush 10, 2) := dk_16 10 (dk_at dksX8_cut_0 5 rfl rfl)
theorem dX8_cut_7 : decode cX8_cut 7 = .ok (.if_icmp .ge 25, 3) := dk_162 0 25 (dk_at dksX8_cut_0 7 rfl rfl)
theorem dX8_cut_10 : decode cX8_cut 10 = .ok (.iload_n 1, 1) := dk_27 (dk_at dksX8_cut_0 10 rfl rfl)
theorem dX8_cut_11 : decode cX8_cut 11 = .ok (.aload_n 0, 1) := dk_42 (dk_at dksX8_cut_0 11 rfl rfl)
theorem dX8_cut_12 : decode cX8_cut 12 = .ok (.iload_n 2, 1) := dk_28 (dk_at dksX8_cut_0 12 rfl rfl)
theorem dX8_cut_13 : decode cX8_cut 13 = .ok (.invokevirtual 35, 3) := dk_182 0 35 (dk_at dksX8_cut_0 13 rfl rfl)
theorem dX8_cut_16 : decode cX8_cut 16 = .ok (.ifCond .eq 7, 3) := dk_153 0 7 (dk_at dksX8_cut_0 16 rfl rfl)
theorem dX8_cut_19 : decode cX8_cut 19 = .ok (.iconst 1, 1) := dk_4 (dk_at dksX8_cut_0 19 rfl rfl)
theorem dX8_cut_20 : decode cX8_cut 20 = .ok (.goto 4, 3) := dk_167 0 4 (dk_at dksX8_cut_0 20 rfl rfl)
theorem dX8_cut_23 : decode cX8_cut 23 = .ok (.iconst 0, 1) := dk_3 (dk_at dksX8_cut_0 23 rfl rfl)
theorem dX8_cut_24 : decode cX8_cut 24 = .ok (.iadd, 1) := dk_96 (dk_at dksX8_cut_1 0 rfl rfl)
theorem dX8_cut_25 : decode cX8_cut 25 = .ok (.istore_n 1, 1) := dk_60 (dk_at dksX8_cut_1 1 rfl rfl)
theorem dX8_cut_26 : decode cX8_cut 26 = .ok (.iinc 2 1, 3) := dk_132 2 1 (dk_at dksX8_cut_1 2 rfl rfl)
theorem dX8_cut_29 : decode cX8_cut 29 = .ok (.goto (-25), 3) := dk_167 255 231 (dk_at dksX8_cut_1 5 rfl rfl)
theorem dX8_cut_32 : decode cX8_cut 32 = .ok (.iload_n 1, 1) := dk_27 (dk_at dksX8_cut_1 8 rfl rfl)
theorem dX8_cut_33 : decode cX8_cut 33 = .ok (.ireturn, 1) := dk_172 (dk_at dksX8_cut_1 9 rfl rfl)
abbrev cX8_right : ByteArray := prog_4_method_7_code
def yX8_right : MethodName := ⟨RX8, "right", "(LGargoyleCopyists$Pointed;)I"⟩
def dkwX8_right_1 : List UInt8 := [184, 0, 39, 154, 0, 7, 4, 167, 0, 4, 3, 96, 61, 132, 3, 1, 167, 255, 222, 28, 172]
abbrev dktX8_right_1 : List UInt8 := dkwX8_right_1 ++ []
def dkwX8_right_0 : List UInt8 := [3, 61, 3, 62, 29, 16, 10, 162, 0, 34, 28, 42, 29, 182, 0, 35, 153, 0, 16, 42, 43, 29]
abbrev dktX8_right_0 : List UInt8 := dkwX8_right_0 ++ dktX8_right_1
theorem dksX8_right_0 : cX8_right.data.toList.drop 0 = dktX8_right_0 := by decide +kernel
theorem dksX8_right_1 : cX8_right.data.toList.drop 22 = dktX8_right_1 := dk_seg dksX8_right_0 22 rfl rfl
theorem dX8_right_0 : decode cX8_right 0 = .ok (.iconst 0, 1) := dk_3 (dk_at dksX8_right_0 0 rfl rfl)
theorem dX8_right_1 : decode cX8_right 1 = .ok (.istore_n 2, 1) := dk_61 (dk_at dksX8_right_0 1 rfl rfl)
theorem dX8_right_2 : decode cX8_right 2 = .ok (.iconst 0, 1) := dk_3 (dk_at dksX8_right_0 2 rfl rfl)
theorem dX8_right_3 : decode cX8_right 3 = .ok (.istore_n 3, 1) := dk_62 (dk_at dksX8_right_0 3 rfl rfl)
theorem dX8_right_4 : decode cX8_right 4 = .ok (.iload_n 3, 1) := dk_29 (dk_at dksX8_right_0 4 rfl rfl)
theorem dX8_right_5 : decode cX8_right 5 = .ok (.bipush 10, 2) := dk_16 10 (dk_at dksX8_right_0 5 rfl rfl)
theorem dX8_right_7 : decode cX8_right 7 = .ok (.if_icmp .ge 34, 3) := dk_162 0 34 (dk_at dksX8_right_0 7 rfl rfl)
theorem dX8_right_10 : decode cX8_right 10 = .ok (.iload_n 2, 1) := dk_28 (dk_at dksX8_right_0 10 rfl rfl)
theorem dX8_right_11 : decode cX8_right 11 = .ok (.aload_n 0, 1) := dk_42 (dk_at dksX8_right_0 11 rfl rfl)
theorem dX8_right_12 : decode cX8_right 12 = .ok (.iload_n 3, 1) := dk_29 (dk_at dksX8_right_0 12 rfl rfl)
theorem dX8_right_13 : decode cX8_right 13 = .ok (.invokevirtual 35, 3) := dk_182 0 35 (dk_at dksX8_right_0 13 rfl rfl)
theorem dX8_right_16 : decode cX8_right 16 = .ok (.ifCond .eq 16, 3) := dk_153 0 16 (dk_at dksX8_right_0 16 rfl rfl)
theorem dX8_right_19 : decode cX8_right 19 = .ok (.aload_n 0, 1) := dk_42 (dk_at dksX8_right_0 19 rfl rfl)
theorem dX8_right_20 : decode cX8_right 20 = .ok (.aload_n 1, 1) := dk_43 (dk_at dksX8_right_0 20 rfl rfl)
theorem dX8_right_21 : decode cX8_right 21 = .ok (.iload_n 3, 1) := dk_29 (dk_at dksX8_right_0 21 rfl rfl)
theorem dX8_right_22 : decode cX8_right 22 = .ok (.invokestatic 39, 3) := dk_184 0 39 (dk_at dksX8_right_1 0 rfl rfl)
theorem dX8_right_25 : decode cX8_right 25 = .ok (.ifCond .ne 7, 3) := dk_154 0 7 (dk_at dksX8_right_1 3 rfl rfl)
theorem dX8_right_28 : decode cX8_right 28 = .ok (.iconst 1, 1) := dk_4 (dk_at dksX8_right_1 6 rfl rfl)
theorem dX8_right_29 : decode cX8_right 29 = .ok (.goto 4, 3) := dk_167 0 4 (dk_at dksX8_right_1 7 rfl rfl)
theorem dX8_right_32 : decode cX8_right 32 = .ok (.iconst 0, 1) := dk_3 (dk_at dksX8_right_1 10 rfl rfl)
theorem dX8_right_33 : decode cX8_right 33 = .ok (.iadd, 1) := dk_96 (dk_at dksX8_right_1 11 rfl rfl)
theorem dX8_right_34 : decode cX8_right 34 = .ok (.istore_n 2, 1) := dk_61 (dk_at dksX8_right_1 12 rfl rfl)
theorem dX8_right_35 : decode cX8_right 35 = .ok (.iinc 3 1, 3) := dk_132 3 1 (dk_at dksX8_right_1 13 rfl rfl)
theorem dX8_right_38 : decode cX8_right 38 = .ok (.goto (-34), 3) := dk_167 255 222 (dk_at dksX8_right_1 16 rfl rfl)
theorem dX8_right_41 : decode cX8_right 41 = .ok (.iload_n 2, 1) := dk_28 (dk_at dksX8_right_1 19 rfl rfl)
theorem dX8_right_42 : decode cX8_right 42 = .ok (.ireturn, 1) := dk_172 (dk_at dksX8_right_1 20 rfl rfl)
abbrev cX8_weight : ByteArray := prog_4_method_8_code
def yX8_weight : MethodName := ⟨RX8, "weight", "()I"⟩
def dkwX8_weight_0 : List UInt8 := [16, 120, 42, 182, 0, 45, 16, 10, 108, 100, 172]
abbrev dktX8_weight_0 : List UInt8 := dkwX8_weight_0 ++ []
theorem dksX8_weight_0 : cX8_weight.data.toList.drop 0 = dktX8_weight_0 := by decide +kernel
theorem dX8_weight_0 : decode cX8_weight 0 = .ok (.bipush 120, 2) := dk_16 120 (dk_at dksX8_weight_0 0 rfl rfl)
theorem dX8_weight_2 : decode cX8_weight 2 = .ok (.aload_n 0, 1) := dk_42 (dk_at dksX8_weight_0 2 rfl rfl)
theorem dX8_weight_3 : decode cX8_weight 3 = .ok (.invokevirtual 45, 3) := dk_182 0 45 (dk_at dksX8_weight_0 3 rfl rfl)
theorem dX8_weight_6 : decode cX8_weight 6 = .ok (.bipush 10, 2) := dk_16 10 (dk_at dksX8_weight_0 6 rfl rfl)
theorem dX8_weight_8 : decode cX8_weight 8 = .ok (.idiv, 1) := dk_108 (dk_at dksX8_weight_0 8 rfl rfl)
theorem dX8_weight_9 : decode cX8_weight 9 = .ok (.isub, 1) := dk_100 (dk_at dksX8_weight_0 9 rfl rfl)
theorem dX8_weight_10 : decode cX8_weight 10 = .ok (.ireturn, 1) := dk_172 (dk_at dksX8_weight_0 10 rfl rfl)
abbrev cX8_wrong : ByteArray := prog_4_method_9_code
def yX8_wrong : MethodName := ⟨RX8, "wrong", "(LGargoyleCopyists$Pointed;)I"⟩
def dkwX8_wrong_1 : List UInt8 := [184, 0, 39, 184, 0, 49, 167, 0, 4, 3, 96, 61, 132, 3, 1, 167, 255, 223, 28, 172]
abbrev dktX8_wrong_1 : List UInt8 := dkwX8_wrong_1 ++ []
def dkwX8_wrong_0 : List UInt8 := [3, 61, 3, 62, 29, 16, 10, 162, 0, 33, 28, 42, 29, 182, 0, 35, 153, 0, 15, 42, 43, 29]
abbrev dktX8_wrong_0 : List UInt8 := dkwX8_wrong_0 ++ dktX8_wrong_1
theorem dksX8_wrong_0 : cX8_wrong.data.toList.drop 0 = dktX8_wrong_0 := by decide +kernel
theorem dksX8_wrong_1 : cX8_wrong.data.toList.drop 22 = dktX8_wrong_1 := dk_seg dksX8_wrong_0 22 rfl rfl
theorem dX8_wrong_0 : decode cX8_wrong 0 = .ok (.iconst 0, 1) := dk_3 (dk_at dksX8_wrong_0 0 rfl rfl)
theorem dX8_wrong_1 : decode cX8_wrong 1 = .ok (.istore_n 2, 1) := dk_61 (dk_at dksX8_wrong_0 1 rfl rfl)
theorem dX8_wrong_2 : decode cX8_wrong 2 = .ok (.iconst 0, 1) := dk_3 (dk_at dksX8_wrong_0 2 rfl rfl)
theorem dX8_wrong_3 : decode cX8_wrong 3 = .ok (.istore_n 3, 1) := dk_62 (dk_at dksX8_wrong_0 3 rfl rfl)
theorem dX8_wrong_4 : decode cX8_wrong 4 = .ok (.iload_n 3, 1) := dk_29 (dk_at dksX8_wrong_0 4 rfl rfl)
theorem dX8_wrong_5 : decode cX8_wrong 5 = .ok (.bipush 10, 2) := dk_16 10 (dk_at dksX8_wrong_0 5 rfl rfl)
theorem dX8_wrong_7 : decode cX8_wrong 7 = .ok (.if_icmp .ge 33, 3) := dk_162 0 33 (dk_at dksX8_wrong_0 7 rfl rfl)
theorem dX8_wrong_10 : decode cX8_wrong 10 = .ok (.iload_n 2, 1) := dk_28 (dk_at dksX8_wrong_0 10 rfl rfl)
theorem dX8_wrong_11 : decode cX8_wrong 11 = .ok (.aload_n 0, 1) := dk_42 (dk_at dksX8_wrong_0 11 rfl rfl)
theorem dX8_wrong_12 : decode cX8_wrong 12 = .ok (.iload_n 3, 1) := dk_29 (dk_at dksX8_wrong_0 12 rfl rfl)
theorem dX8_wrong_13 : decode cX8_wrong 13 = .ok (.invokevirtual 35, 3) := dk_182 0 35 (dk_at dksX8_wrong_0 13 rfl rfl)
theorem dX8_wrong_16 : decode cX8_wrong 16 = .ok (.ifCond .eq 15, 3) := dk_153 0 15 (dk_at dksX8_wrong_0 16 rfl rfl)
theorem dX8_wrong_19 : decode cX8_wrong 19 = .ok (.aload_n 0, 1) := dk_42 (dk_at dksX8_wrong_0 19 rfl rfl)
theorem dX8_wrong_20 : decode cX8_wrong 20 = .ok (.aload_n 1, 1) := dk_43 (dk_at dksX8_wrong_0 20 rfl rfl)
theorem dX8_wrong_21 : decode cX8_wrong 21 = .ok (.iload_n 3, 1) := dk_29 (dk_at dksX8_wrong_0 21 rfl rfl)
theorem dX8_wrong_22 : decode cX8_wrong 22 = .ok (.invokestatic 39, 3) := dk_184 0 39 (dk_at dksX8_wrong_1 0 rfl rfl)
theorem dX8_wrong_25 : decode cX8_wrong 25 = .ok (.invokestatic 49, 3) := dk_184 0 49 (dk_at dksX8_wrong_1 3 rfl rfl)
theorem dX8_wrong_28 : decode cX8_wrong 28 = .ok (.goto 4, 3) := dk_167 0 4 (dk_at dksX8_wrong_1 6 rfl rfl)
theorem dX8_wrong_31 : decode cX8_wrong 31 = .ok (.iconst 0, 1) := dk_3 (dk_at dksX8_wrong_1 9 rfl rfl)
theorem dX8_wrong_32 : decode cX8_wrong 32 = .ok (.iadd, 1) := dk_96 (dk_at dksX8_wrong_1 10 rfl rfl)
theorem dX8_wrong_33 : decode cX8_wrong 33 = .ok (.istore_n 2, 1) := dk_61 (dk_at dksX8_wrong_1 11 rfl rfl)
theorem dX8_wrong_34 : decode cX8_wrong 34 = .ok (.iinc 3 1, 3) := dk_132 3 1 (dk_at dksX8_wrong_1 12 rfl rfl)
theorem dX8_wrong_37 : decode cX8_wrong 37 = .ok (.goto (-33), 3) := dk_167 255 223 (dk_at dksX8_wrong_1 15 rfl rfl)
theorem dX8_wrong_40 : decode cX8_wrong 40 = .ok (.iload_n 2, 1) := dk_28 (dk_at dksX8_wrong_1 18 rfl rfl)
theorem dX8_wrong_41 : decode cX8_wrong 41 = .ok (.ireturn, 1) := dk_172 (dk_at dksX8_wrong_1 19 rfl rfl)
abbrev cX8_wrongAgain : ByteArray := prog_4_method_10_code
def yX8_wrongAgain : MethodName := ⟨RX8, "wrongAgain", "(LGargoyleCopyists$Pointed;)I"⟩
def dkwX8_wrongAgain_2 : List UInt8 := [180, 0, 67, 100, 172]
abbrev dktX8_wrongAgain_2 : List UInt8 := dkwX8_wrongAgain_2 ++ []
def dkwX8_wrongAgain_1 : List UInt8 := [153, 0, 13, 44, 42, 43, 29, 184, 0, 39, 182, 0, 60, 132, 3, 1, 167, 255, 229, 44, 180, 0, 64, 44]
abbrev dktX8_wrongAgain_1 : List UInt8 := dkwX8_wrongAgain_1 ++ dktX8_wrongAgain_2
def dkwX8_wrongAgain_0 : List UInt8 := [187, 0, 55, 89, 42, 183, 0, 57, 77, 3, 62, 29, 16, 10, 162, 0, 27, 42, 29, 182, 0, 35]
abbrev dktX8_wrongAgain_0 : List UInt8 := dkwX8_wrongAgain_0 ++ dktX8_wrongAgain_1
theorem dksX8_wrongAgain_0 : cX8_wrongAgain.data.toList.drop 0 = dktX8_wrongAgain_0 := by decide +kernel
theorem dksX8_wrongAgain_1 : cX8_wrongAgain.data.toList.drop 22 = dktX8_wrongAgain_1 := dk_seg dksX8_wrongAgain_0 22 rfl rfl
theorem dksX8_wrongAgain_2 : cX8_wrongAgain.data.toList.drop 46 = dktX8_wrongAgain_2 := dk_seg dksX8_wrongAgain_1 24 rfl rfl
theorem dX8_wrongAgain_0 : decode cX8_wrongAgain 0 = .ok (.new 55, 3) := dk_187 0 55 (dk_at dksX8_wrongAgain_0 0 rfl rfl)
theorem dX8_wrongAgain_3 : decode cX8_wrongAgain 3 = .ok (.dup, 1) := dk_89 (dk_at dksX8_wrongAgain_0 3 rfl rfl)
theorem dX8_wrongAgain_4 : decode cX8_wrongAgain 4 = .ok (.aload_n 0, 1) := dk_42 (dk_at dksX8_wrongAgain_0 4 rfl rfl)
theorem dX8_wrongAgain_5 : decode cX8_wrongAgain 5 = .ok (.invokespecial 57, 3) := dk_183 0 57 (dk_at dksX8_wrongAgain_0 5 rfl rfl)
theorem dX8_wrongAgain_8 : decode cX8_wrongAgain 8 = .ok (.astore_n 2, 1) := dk_77 (dk_at dksX8_wrongAgain_0 8 rfl rfl)
theorem dX8_wrongAgain_9 : decode cX8_wrongAgain 9 = .ok (.iconst 0, 1) := dk_3 (dk_at dksX8_wrongAgain_0 9 rfl rfl)
theorem dX8_wrongAgain_10 : decode cX8_wrongAgain 10 = .ok (.istore_n 3, 1) := dk_62 (dk_at dksX8_wrongAgain_0 10 rfl rfl)
theorem dX8_wrongAgain_11 : decode cX8_wrongAgain 11 = .ok (.iload_n 3, 1) := dk_29 (dk_at dksX8_wrongAgain_0 11 rfl rfl)
theorem dX8_wrongAgain_12 : decode cX8_wrongAgain 12 = .ok (.bipush 10, 2) := dk_16 10 (dk_at dksX8_wrongAgain_0 12 rfl rfl)
theorem dX8_wrongAgain_14 : decode cX8_wrongAgain 14 = .ok (.if_icmp .ge 27, 3) := dk_162 0 27 (dk_at dksX8_wrongAgain_0 14 rfl rfl)
theorem dX8_wrongAgain_17 : decode cX8_wrongAgain 17 = .ok (.aload_n 0, 1) := dk_42 (dk_at dksX8_wrongAgain_0 17 rfl rfl)
theorem dX8_wrongAgain_18 : decode cX8_wrongAgain 18 = .ok (.iload_n 3, 1) := dk_29 (dk_at dksX8_wrongAgain_0 18 rfl rfl)
theorem dX8_wrongAgain_19 : decode cX8_wrongAgain 19 = .ok (.invokevirtual 35, 3) := dk_182 0 35 (dk_at dksX8_wrongAgain_0 19 rfl rfl)
theorem dX8_wrongAgain_22 : decode cX8_wrongAgain 22 = .ok (.ifCond .eq 13, 3) := dk_153 0 13 (dk_at dksX8_wrongAgain_1 0 rfl rfl)
theorem dX8_wrongAgain_25 : decode cX8_wrongAgain 25 = .ok (.aload_n 2, 1) := dk_44 (dk_at dksX8_wrongAgain_1 3 rfl rfl)
theorem dX8_wrongAgain_26 : decode cX8_wrongAgain 26 = .ok (.aload_n 0, 1) := dk_42 (dk_at dksX8_wrongAgain_1 4 rfl rfl)
theorem dX8_wrongAgain_27 : decode cX8_wrongAgain 27 = .ok (.aload_n 1, 1) := dk_43 (dk_at dksX8_wrongAgain_1 5 rfl rfl)
theorem dX8_wrongAgain_28 : decode cX8_wrongAgain 28 = .ok (.iload_n 3, 1) := dk_29 (dk_at dksX8_wrongAgain_1 6 rfl rfl)
theorem dX8_wrongAgain_29 : decode cX8_wrongAgain 29 = .ok (.invokestatic 39, 3) := dk_184 0 39 (dk_at dksX8_wrongAgain_1 7 rfl rfl)
theorem dX8_wrongAgain_32 : decode cX8_wrongAgain 32 = .ok (.invokevirtual 60, 3) := dk_182 0 60 (dk_at dksX8_wrongAgain_1 10 rfl rfl)
theorem dX8_wrongAgain_35 : decode cX8_wrongAgain 35 = .ok (.iinc 3 1, 3) := dk_132 3 1 (dk_at dksX8_wrongAgain_1 13 rfl rfl)
theorem dX8_wrongAgain_38 : decode cX8_wrongAgain 38 = .ok (.goto (-27), 3) := dk_167 255 229 (dk_at dksX8_wrongAgain_1 16 rfl rfl)
theorem dX8_wrongAgain_41 : decode cX8_wrongAgain 41 = .ok (.aload_n 2, 1) := dk_44 (dk_at dksX8_wrongAgain_1 19 rfl rfl)
theorem dX8_wrongAgain_42 : decode cX8_wrongAgain 42 = .ok (.getfield 64, 3) := dk_180 0 64 (dk_at dksX8_wrongAgain_1 20 rfl rfl)
theorem dX8_wrongAgain_45 : decode cX8_wrongAgain 45 = .ok (.aload_n 2, 1) := dk_44 (dk_at dksX8_wrongAgain_1 23 rfl rfl)
theorem dX8_wrongAgain_46 : decode cX8_wrongAgain 46 = .ok (.getfield 67, 3) := dk_180 0 67 (dk_at dksX8_wrongAgain_2 0 rfl rfl)
theorem dX8_wrongAgain_49 : decode cX8_wrongAgain 49 = .ok (.isub, 1) := dk_100 (dk_at dksX8_wrongAgain_2 3 rfl rfl)
theorem dX8_wrongAgain_50 : decode cX8_wrongAgain 50 = .ok (.ireturn, 1) := dk_172 (dk_at dksX8_wrongAgain_2 4 rfl rfl)
abbrev cX8_firstNotCut : ByteArray := prog_4_method_6_code
def yX8_firstNotCut : MethodName := ⟨RX8, "firstNotCut", "()I"⟩
def dkwX8_firstNotCut_0 : List UInt8 := [3, 60, 27, 16, 10, 162, 0, 17, 42, 27, 182, 0, 35, 153, 0, 9, 132, 1, 1, 167, 255, 239, 27, 172]
abbrev dktX8_firstNotCut_0 : List UInt8 := dkwX8_firstNotCut_0 ++ []
theorem dksX8_firstNotCut_0 : cX8_firstNotCut.data.toList.drop 0 = dktX8_firstNotCut_0 := by decide +kernel
theorem dX8_firstNotCut_0 : decode cX8_firstNotCut 0 = .ok (.iconst 0, 1) := dk_3 (dk_at dksX8_firstNotCut_0 0 rfl rfl)
theorem dX8_firstNotCut_1 : decode cX8_firstNotCut 1 = .ok (.istore_n 1, 1) := dk_60 (dk_at dksX8_firstNotCut_0 1 rfl rfl)
theorem dX8_firstNotCut_2 : decode cX8_firstNotCut 2 = .ok (.iload_n 1, 1) := dk_27 (dk_at dksX8_firstNotCut_0 2 rfl rfl)
theorem dX8_firstNotCut_3 : decode cX8_firstNotCut 3 = .ok (.bipush 10, 2) := dk_16 10 (dk_at dksX8_firstNotCut_0 3 rfl rfl)
theorem dX8_firstNotCut_5 : decode cX8_firstNotCut 5 = .ok (.if_icmp .ge 17, 3) := dk_162 0 17 (dk_at dksX8_firstNotCut_0 5 rfl rfl)
theorem dX8_firstNotCut_8 : decode cX8_firstNotCut 8 = .ok (.aload_n 0, 1) := dk_42 (dk_at dksX8_firstNotCut_0 8 rfl rfl)
theorem dX8_firstNotCut_9 : decode cX8_firstNotCut 9 = .ok (.iload_n 1, 1) := dk_27 (dk_at dksX8_firstNotCut_0 9 rfl rfl)
theorem dX8_firstNotCut_10 : decode cX8_firstNotCut 10 = .ok (.invokevirtual 35, 3) := dk_182 0 35 (dk_at dksX8_firstNotCut_0 10 rfl rfl)
theorem dX8_firstNotCut_13 : decode cX8_firstNotCut 13 = .ok (.ifCond .eq 9, 3) := dk_153 0 9 (dk_at dksX8_firstNotCut_0 13 rfl rfl)
theorem dX8_firstNotCut_16 : decode cX8_firstNotCut 16 = .ok (.iinc 1 1, 3) := dk_132 1 1 (dk_at dksX8_firstNotCut_0 16 rfl rfl)
theorem dX8_firstNotCut_19 : decode cX8_firstNotCut 19 = .ok (.goto (-17), 3) := dk_167 255 239 (dk_at dksX8_firstNotCut_0 19 rfl rfl)
theorem dX8_firstNotCut_22 : decode cX8_firstNotCut 22 = .ok (.iload_n 1, 1) := dk_27 (dk_at dksX8_firstNotCut_0 22 rfl rfl)
theorem dX8_firstNotCut_23 : decode cX8_firstNotCut 23 = .ok (.ireturn, 1) := dk_172 (dk_at dksX8_firstNotCut_0 23 rfl rfl)
abbrev cX8_text : ByteArray := prog_4_method_11_code
def yX8_text : MethodName := ⟨RX8, "text", "(LGargoyleCopyists$Pointed;)Ljava/lang/String;"⟩
def dkwX8_text_5 : List UInt8 := [176]
abbrev dktX8_text_5 : List UInt8 := dkwX8_text_5 ++ []
def dkwX8_text_4 : List UInt8 := [167, 255, 199, 44, 42, 180, 0, 31, 153, 0, 8, 18, 89, 167, 0, 5, 18, 91, 182, 0, 86, 182, 0, 93]
abbrev dktX8_text_4 : List UInt8 := dkwX8_text_4 ++ dktX8_text_5
def dkwX8_text_3 : List UInt8 := [16, 61, 167, 0, 15, 21, 4, 158, 0, 8, 16, 43, 167, 0, 5, 16, 45, 182, 0, 81, 87, 132, 3, 1]
abbrev dktX8_text_3 : List UInt8 := dkwX8_text_3 ++ dktX8_text_4
def dkwX8_text_2 : List UInt8 := [184, 0, 39, 54, 4, 44, 42, 29, 182, 0, 35, 154, 0, 8, 16, 46, 167, 0, 25, 21, 4, 154, 0, 8]
abbrev dktX8_text_2 : List UInt8 := dkwX8_text_2 ++ dktX8_text_3
def dkwX8_text_1 : List UInt8 := [180, 0, 19, 182, 0, 77, 18, 84, 182, 0, 86, 77, 3, 62, 29, 16, 10, 162, 0, 57, 42, 43, 29]
abbrev dktX8_text_1 : List UInt8 := dkwX8_text_1 ++ dktX8_text_2
def dkwX8_text_0 : List UInt8 := [187, 0, 70, 89, 18, 72, 183, 0, 74, 42, 180, 0, 15, 182, 0, 77, 16, 47, 182, 0, 81, 42]
abbrev dktX8_text_0 : List UInt8 := dkwX8_text_0 ++ dktX8_text_1
theorem dksX8_text_0 : cX8_text.data.toList.drop 0 = dktX8_text_0 := by decide +kernel
theorem dksX8_text_1 : cX8_text.data.toList.drop 22 = dktX8_text_1 := dk_seg dksX8_text_0 22 rfl rfl
theorem dksX8_text_2 : cX8_text.data.toList.drop 45 = dktX8_text_2 := dk_seg dksX8_text_1 23 rfl rfl
theorem dksX8_text_3 : cX8_text.data.toList.drop 69 = dktX8_text_3 := dk_seg dksX8_text_2 24 rfl rfl
theorem dksX8_text_4 : cX8_text.data.toList.drop 93 = dktX8_text_4 := dk_seg dksX8_text_3 24 rfl rfl
theorem dksX8_text_5 : cX8_text.data.toList.drop 117 = dktX8_text_5 := dk_seg dksX8_text_4 24 rfl rfl
theorem dX8_text_0 : decode cX8_text 0 = .ok (.new 70, 3) := dk_187 0 70 (dk_at dksX8_text_0 0 rfl rfl)
theorem dX8_text_3 : decode cX8_text 3 = .ok (.dup, 1) := dk_89 (dk_at dksX8_text_0 3 rfl rfl)
theorem dX8_text_4 : decode cX8_text 4 = .ok (.ldc 72, 2) := dk_18 72 (dk_at dksX8_text_0 4 rfl rfl)
theorem dX8_text_6 : decode cX8_text 6 = .ok (.invokespecial 74, 3) := dk_183 0 74 (dk_at dksX8_text_0 6 rfl rfl)
theorem dX8_text_9 : decode cX8_text 9 = .ok (.aload_n 0, 1) := dk_42 (dk_at dksX8_text_0 9 rfl rfl)
theorem dX8_text_10 : decode cX8_text 10 = .ok (.getfield 15, 3) := dk_180 0 15 (dk_at dksX8_text_0 10 rfl rfl)
theorem dX8_text_13 : decode cX8_text 13 = .ok (.invokevirtual 77, 3) := dk_182 0 77 (dk_at dksX8_text_0 13 rfl rfl)
theorem dX8_text_16 : decode cX8_text 16 = .ok (.bipush 47, 2) := dk_16 47 (dk_at dksX8_text_0 16 rfl rfl)
theorem dX8_text_18 : decode cX8_text 18 = .ok (.invokevirtual 81, 3) := dk_182 0 81 (dk_at dksX8_text_0 18 rfl rfl)
theorem dX8_text_21 : decode cX8_text 21 = .ok (.aload_n 0, 1) := dk_42 (dk_at dksX8_text_0 21 rfl rfl)
theorem dX8_text_22 : decode cX8_text 22 = .ok (.getfield 19, 3) := dk_180 0 19 (dk_at dksX8_text_1 0 rfl rfl)
theorem dX8_text_25 : decode cX8_text 25 = .ok (.invokevirtual 77, 3) := dk_182 0 77 (dk_at dksX8_text_1 3 rfl rfl)
theorem dX8_text_28 : decode cX8_text 28 = .ok (.ldc 84, 2) := dk_18 84 (dk_at dksX8_text_1 6 rfl rfl)
theorem dX8_text_30 : decode cX8_text 30 = .ok (.invokevirtual 86, 3) := dk_182 0 86 (dk_at dksX8_text_1 8 rfl rfl)
theorem dX8_text_33 : decode cX8_text 33 = .ok (.astore_n 2, 1) := dk_77 (dk_at dksX8_text_1 11 rfl rfl)
theorem dX8_text_34 : decode cX8_text 34 = .ok (.iconst 0, 1) := dk_3 (dk_at dksX8_text_1 12 rfl rfl)
theorem dX8_text_35 : decode cX8_text 35 = .ok (.istore_n 3, 1) := dk_62 (dk_at dksX8_text_1 13 rfl rfl)
theorem dX8_text_36 : decode cX8_text 36 = .ok (.iload_n 3, 1) := dk_29 (dk_at dksX8_text_1 14 rfl rfl)
theorem dX8_text_37 : decode cX8_text 37 = .ok (.bipush 10, 2) := dk_16 10 (dk_at dksX8_text_1 15 rfl rfl)
theorem dX8_text_39 : decode cX8_text 39 = .ok (.if_icmp .ge 57, 3) := dk_162 0 57 (dk_at dksX8_text_1 17 rfl rfl)
theorem dX8_text_42 : decode cX8_text 42 = .ok (.aload_n 0, 1) := dk_42 (dk_at dksX8_text_1 20 rfl rfl)
theorem dX8_text_43 : decode cX8_text 43 = .ok (.aload_n 1, 1) := dk_43 (dk_at dksX8_text_1 21 rfl rfl)
theorem dX8_text_44 : decode cX8_text 44 = .ok (.iload_n 3, 1) := dk_29 (dk_at dksX8_text_1 22 rfl rfl)
theorem dX8_text_45 : decode cX8_text 45 = .ok (.invokestatic 39, 3) := dk_184 0 39 (dk_at dksX8_text_2 0 rfl rfl)
theorem dX8_text_48 : decode cX8_text 48 = .ok (.istore 4, 2) := dk_54 4 (dk_at dksX8_text_2 3 rfl rfl)
theorem dX8_text_50 : decode cX8_text 50 = .ok (.aload_n 2, 1) := dk_44 (dk_at dksX8_text_2 5 rfl rfl)
theorem dX8_text_51 : decode cX8_text 51 = .ok (.aload_n 0, 1) := dk_42 (dk_at dksX8_text_2 6 rfl rfl)
theorem dX8_text_52 : decode cX8_text 52 = .ok (.iload_n 3, 1) := dk_29 (dk_at dksX8_text_2 7 rfl rfl)
theorem dX8_text_53 : decode cX8_text 53 = .ok (.invokevirtual 35, 3) := dk_182 0 35 (dk_at dksX8_text_2 8 rfl rfl)
theorem dX8_text_56 : decode cX8_text 56 = .ok (.ifCond .ne 8, 3) := dk_154 0 8 (dk_at dksX8_text_2 11 rfl rfl)
theorem dX8_text_59 : decode cX8_text 59 = .ok (.bipush 46, 2) := dk_16 46 (dk_at dksX8_text_2 14 rfl rfl)
theorem dX8_text_61 : decode cX8_text 61 = .ok (.goto 25, 3) := dk_167 0 25 (dk_at dksX8_text_2 16 rfl rfl)
theorem dX8_text_64 : decode cX8_text 64 = .ok (.iload 4, 2) := dk_21 4 (dk_at dksX8_text_2 19 rfl rfl)
theorem dX8_text_66 : decode cX8_text 66 = .ok (.ifCond .ne 8, 3) := dk_154 0 8 (dk_at dksX8_text_2 21 rfl rfl)
theorem dX8_text_69 : decode cX8_text 69 = .ok (.bipush 61, 2) := dk_16 61 (dk_at dksX8_text_3 0 rfl rfl)
theorem dX8_text_71 : decode cX8_text 71 = .ok (.goto 15, 3) := dk_167 0 15 (dk_at dksX8_text_3 2 rfl rfl)
theorem dX8_text_74 : decode cX8_text 74 = .ok (.iload 4, 2) := dk_21 4 (dk_at dksX8_text_3 5 rfl rfl)
theorem dX8_text_76 : decode cX8_text 76 = .ok (.ifCond .le 8, 3) := dk_158 0 8 (dk_at dksX8_text_3 7 rfl rfl)
theorem dX8_text_79 : decode cX8_text 79 = .ok (.bipush 43, 2) := dk_16 43 (dk_at dksX8_text_3 10 rfl rfl)
theorem dX8_text_81 : decode cX8_text 81 = .ok (.goto 5, 3) := dk_167 0 5 (dk_at dksX8_text_3 12 rfl rfl)
theorem dX8_text_84 : decode cX8_text 84 = .ok (.bipush 45, 2) := dk_16 45 (dk_at dksX8_text_3 15 rfl rfl)
theorem dX8_text_86 : decode cX8_text 86 = .ok (.invokevirtual 81, 3) := dk_182 0 81 (dk_at dksX8_text_3 17 rfl rfl)
theorem dX8_text_89 : decode cX8_text 89 = .ok (.pop, 1) := dk_87 (dk_at dksX8_text_3 20 rfl rfl)
theorem dX8_text_90 : decode cX8_text 90 = .ok (.iinc 3 1, 3) := dk_132 3 1 (dk_at dksX8_text_3 21 rfl rfl)
theorem dX8_text_93 : decode cX8_text 93 = .ok (.goto (-57), 3) := dk_167 255 199 (dk_at dksX8_text_4 0 rfl rfl)
theorem dX8_text_96 : decode cX8_text 96 = .ok (.aload_n 2, 1) := dk_44 (dk_at dksX8_text_4 3 rfl rfl)
theorem dX8_text_97 : decode cX8_text 97 = .ok (.aload_n 0, 1) := dk_42 (dk_at dksX8_text_4 4 rfl rfl)
theorem dX8_text_98 : decode cX8_text 98 = .ok (.getfield 31, 3) := dk_180 0 31 (dk_at dksX8_text_4 5 rfl rfl)
theorem dX8_text_101 : decode cX8_text 101 = .ok (.ifCond .eq 8, 3) := dk_153 0 8 (dk_at dksX8_text_4 8 rfl rfl)
theorem dX8_text_104 : decode cX8_text 104 = .ok (.ldc 89, 2) := dk_18 89 (dk_at dksX8_text_4 11 rfl rfl)
theorem dX8_text_106 : decode cX8_text 106 = .ok (.goto 5, 3) := dk_167 0 5 (dk_at dksX8_text_4 13 rfl rfl)
theorem dX8_text_109 : decode cX8_text 109 = .ok (.ldc 91, 2) := dk_18 91 (dk_at dksX8_text_4 16 rfl rfl)
theorem dX8_text_111 : decode cX8_text 111 = .ok (.invokevirtual 86, 3) := dk_182 0 86 (dk_at dksX8_text_4 18 rfl rfl)
theorem dX8_text_114 : decode cX8_text 114 = .ok (.invokevirtual 93, 3) := dk_182 0 93 (dk_at dksX8_text_4 21 rfl rfl)
theorem dX8_text_117 : decode cX8_text 117 = .ok (.areturn, 1) := dk_176 (dk_at dksX8_text_5 0 rfl rfl)
theorem q90 : (Jvm.Cond.initialized "GargoyleCopyists$Copy") ∈ lw_all := lw_g (lw_at lw_m1 27 rfl) rfl
theorem q239 : (Jvm.Cond.selects "GargoyleCopyists$Copy" ({ cls := "java/lang/Object", name := "getClass", desc := "()Ljava/lang/Class;" } : Jvm.MethodName) ({ cls := "java/lang/Object", name := "getClass", desc := "()Ljava/lang/Class;" } : Jvm.MethodName)) ∈ lw_all := lw_g (lw_at lw_m1 176 rfl) rfl
theorem q597 : (Jvm.Cond.castable "GargoyleCopyists$Copy" "GargoyleCopyists$Pointed") ∈ lw_tbl := lw_at lw_m3 54 rfl
theorem q598 : (Jvm.Cond.selects "GargoyleCopyists$Copy" ({ cls := "GargoyleCopyists$Pointed", name := "depth", desc := "(I)I" } : Jvm.MethodName) ({ cls := "GargoyleCopyists$Copy", name := "depth", desc := "(I)I" } : Jvm.MethodName)) ∈ lw_all := lw_g (lw_at lw_m3 55 rfl) rfl
theorem q599 : (Jvm.Cond.unhidden "GargoyleCopyists$Copy" "depth" "(I)I") ∈ lw_tbl := lw_at lw_m3 56 rfl
theorem q600 : (Jvm.Cond.instanceMethod ({ cls := "GargoyleCopyists$Copy", name := "depth", desc := "(I)I" } : Jvm.MethodName)) ∈ lw_all := lw_g (lw_at lw_m3 57 rfl) rfl
theorem q601 : (Jvm.Cond.publicMethod ({ cls := "GargoyleCopyists$Copy", name := "depth", desc := "(I)I" } : Jvm.MethodName)) ∈ lw_tbl := lw_at lw_m3 58 rfl
theorem q602 : (Jvm.Cond.code ({ cls := "GargoyleCopyists$Copy", name := "depth", desc := "(I)I" } : Jvm.MethodName) prog_4_method_3_code (2 : Nat) (Option.some Jvm.ClassFile.FieldType.int)) ∈ lw_all := lw_g (lw_at lw_m3 59 rfl) rfl
theorem q657 : (Jvm.Cond.instanceMethod ({ cls := "GargoyleCopyists$Copy", name := "copy", desc := "()LGargoyleCopyists$Copy;" } : Jvm.MethodName)) ∈ lw_all := lw_g (lw_at lw_m3 114 rfl) rfl
theorem q658 : (Jvm.Cond.selects "GargoyleCopyists$Copy" ({ cls := "GargoyleCopyists$Copy", name := "copy", desc := "()LGargoyleCopyists$Copy;" } : Jvm.MethodName) ({ cls := "GargoyleCopyists$Copy", name := "copy", desc := "()LGargoyleCopyists$Copy;" } : Jvm.MethodName)) ∈ lw_all := lw_g (lw_at lw_m3 115 rfl) rfl
theorem q659 : (Jvm.Cond.code ({ cls := "GargoyleCopyists$Copy", name := "copy", desc := "()LGargoyleCopyists$Copy;" } : Jvm.MethodName) prog_4_method_2_code (2 : Nat) (Option.some (Jvm.ClassFile.FieldType.object "GargoyleCopyists$Copy"))) ∈ lw_all := lw_g (lw_at lw_m3 116 rfl) rfl
theorem q660 : (Jvm.Cond.classLink "GargoyleCopyists$Copy" (10 : Nat) "GargoyleCopyists$Copy") ∈ lw_all := lw_g (lw_at lw_m3 117 rfl) rfl
theorem q661 : (Jvm.Cond.instantiable "GargoyleCopyists$Copy" (4 : Nat)) ∈ lw_all := lw_g (lw_at lw_m3 118 rfl) rfl
theorem q662 : (Jvm.Cond.methodLink "GargoyleCopyists$Copy" (22 : Nat) ({ cls := "GargoyleCopyists$Copy", name := "<init>", desc := "(II)V" } : Jvm.MethodName)) ∈ lw_all := lw_g (lw_at lw_m3 119 rfl) rfl
theorem q663 : (Jvm.Cond.instanceMethod ({ cls := "GargoyleCopyists$Copy", name := "<init>", desc := "(II)V" } : Jvm.MethodName)) ∈ lw_all := lw_g (lw_at lw_m3 120 rfl) rfl
theorem q664 : (Jvm.Cond.code ({ cls := "GargoyleCopyists$Copy", name := "<init>", desc := "(II)V" } : Jvm.MethodName) prog_4_method_1_code (4 : Nat) (Option.none : Option Jvm.ClassFile.FieldType)) ∈ lw_all := lw_g (lw_at lw_m3 121 rfl) rfl
theorem q665 : (Jvm.Cond.methodLink "GargoyleCopyists$Copy" (3 : Nat) ({ cls := "java/lang/Object", name := "<init>", desc := "()V" } : Jvm.MethodName)) ∈ lw_all := lw_g (lw_at lw_m3 122 rfl) rfl
theorem q666 : (Jvm.Cond.fieldLink "GargoyleCopyists$Copy" (15 : Nat) "GargoyleCopyists$Copy" "number" "I") ∈ lw_all := lw_g (lw_at lw_m3 123 rfl) rfl
theorem q667 : (Jvm.Cond.fieldLink "GargoyleCopyists$Copy" (19 : Nat) "GargoyleCopyists$Copy" "cast" "I") ∈ lw_all := lw_g (lw_at lw_m3 124 rfl) rfl
theorem q670 : (Jvm.Cond.fieldLink "GargoyleCopyists$Copy" (9 : Nat) "GargoyleCopyists$Copy" "depths" "[I") ∈ lw_all := lw_g (lw_at lw_m3 127 rfl) rfl
theorem q672 : (Jvm.Cond.fieldLink "GargoyleCopyists$Copy" (31 : Nat) "GargoyleCopyists$Copy" "isUp" "Z") ∈ lw_all := lw_g (lw_at lw_m3 129 rfl) rfl
theorem q674 : (Jvm.Cond.laysFinal "GargoyleCopyists$Copy" "GargoyleCopyists$Copy" "number" "I") ∈ lw_all := lw_g (lw_at lw_m3 131 rfl) rfl
theorem q675 : (Jvm.Cond.soleField "GargoyleCopyists$Copy" "number") ∈ lw_all := lw_g (lw_at lw_m3 132 rfl) rfl
theorem q676 : (Jvm.Cond.laysFinal "GargoyleCopyists$Copy" "GargoyleCopyists$Copy" "cast" "I") ∈ lw_all := lw_g (lw_at lw_m3 133 rfl) rfl
theorem q677 : (Jvm.Cond.soleField "GargoyleCopyists$Copy" "cast") ∈ lw_all := lw_g (lw_at lw_m3 134 rfl) rfl
theorem q678 : (Jvm.Cond.laysFinal "GargoyleCopyists$Copy" "GargoyleCopyists$Copy" "depths" "[I") ∈ lw_all := lw_g (lw_at lw_m3 135 rfl) rfl
theorem q679 : (Jvm.Cond.soleField "GargoyleCopyists$Copy" "depths") ∈ lw_all := lw_g (lw_at lw_m3 136 rfl) rfl
theorem q680 : (Jvm.Cond.lays "GargoyleCopyists$Copy" "GargoyleCopyists$Copy" "isUp" "Z") ∈ lw_all := lw_g (lw_at lw_m3 137 rfl) rfl
theorem q681 : (Jvm.Cond.soleField "GargoyleCopyists$Copy" "isUp") ∈ lw_all := lw_g (lw_at lw_m3 138 rfl) rfl
theorem q682 : (Jvm.Cond.superclass "GargoyleCopyists$Copy" "java/lang/Object") ∈ lw_all := lw_g (lw_at lw_m3 139 rfl) rfl
theorem q683 : (Jvm.Cond.methodLink "GargoyleCopyists$Copy" (25 : Nat) ({ cls := "java/lang/System", name := "arraycopy", desc := "(Ljava/lang/Object;ILjava/lang/Object;II)V" } : Jvm.MethodName)) ∈ lw_all := lw_g (lw_at lw_m3 140 rfl) rfl
theorem q860 : (Jvm.Cond.instanceMethod ({ cls := "GargoyleCopyists$Copy", name := "isCut", desc := "(I)Z" } : Jvm.MethodName)) ∈ lw_all := lw_g (lw_at lw_m4 77 rfl) rfl
theorem q861 : (Jvm.Cond.selects "GargoyleCopyists$Copy" ({ cls := "GargoyleCopyists$Copy", name := "isCut", desc := "(I)Z" } : Jvm.MethodName) ({ cls := "GargoyleCopyists$Copy", name := "isCut", desc := "(I)Z" } : Jvm.MethodName)) ∈ lw_all := lw_g (lw_at lw_m4 78 rfl) rfl
theorem q862 : (Jvm.Cond.code ({ cls := "GargoyleCopyists$Copy", name := "isCut", desc := "(I)Z" } : Jvm.MethodName) prog_4_method_4_code (2 : Nat) (Option.some Jvm.ClassFile.FieldType.boolean)) ∈ lw_all := lw_g (lw_at lw_m4 79 rfl) rfl
theorem q921 : (Jvm.Cond.instanceMethod ({ cls := "GargoyleCopyists$Copy", name := "cut", desc := "()I" } : Jvm.MethodName)) ∈ lw_all := lw_g (lw_at lw_m4 138 rfl) rfl
theorem q922 : (Jvm.Cond.selects "GargoyleCopyists$Copy" ({ cls := "GargoyleCopyists$Copy", name := "cut", desc := "()I" } : Jvm.MethodName) ({ cls := "GargoyleCopyists$Copy", name := "cut", desc := "()I" } : Jvm.MethodName)) ∈ lw_all := lw_g (lw_at lw_m4 139 rfl) rfl
theorem q923 : (Jvm.Cond.code ({ cls := "GargoyleCopyists$Copy", name := "cut", desc := "()I" } : Jvm.MethodName) prog_4_method_5_code (3 : Nat) (Option.some Jvm.ClassFile.FieldType.int)) ∈ lw_all := lw_g (lw_at lw_m4 140 rfl) rfl
theorem q924 : (Jvm.Cond.methodLink "GargoyleCopyists$Copy" (35 : Nat) ({ cls := "GargoyleCopyists$Copy", name := "isCut", desc := "(I)Z" } : Jvm.MethodName)) ∈ lw_all := lw_g (lw_at lw_m4 141 rfl) rfl
theorem q927 : (Jvm.Cond.instanceMethod ({ cls := "GargoyleCopyists$Copy", name := "right", desc := "(LGargoyleCopyists$Pointed;)I" } : Jvm.MethodName)) ∈ lw_all := lw_g (lw_at lw_m4 144 rfl) rfl
theorem q928 : (Jvm.Cond.selects "GargoyleCopyists$Copy" ({ cls := "GargoyleCopyists$Copy", name := "right", desc := "(LGargoyleCopyists$Pointed;)I" } : Jvm.MethodName) ({ cls := "GargoyleCopyists$Copy", name := "right", desc := "(LGargoyleCopyists$Pointed;)I" } : Jvm.MethodName)) ∈ lw_all := lw_g (lw_at lw_m4 145 rfl) rfl
theorem q929 : (Jvm.Cond.code ({ cls := "GargoyleCopyists$Copy", name := "right", desc := "(LGargoyleCopyists$Pointed;)I" } : Jvm.MethodName) prog_4_method_7_code (4 : Nat) (Option.some Jvm.ClassFile.FieldType.int)) ∈ lw_all := lw_g (lw_at lw_m4 146 rfl) rfl
theorem q930 : (Jvm.Cond.methodLink "GargoyleCopyists$Copy" (39 : Nat) ({ cls := "GargoyleCopyists$Pointed", name := "difference", desc := "(LGargoyleCopyists$Pointed;LGargoyleCopyists$Pointed;I)I" } : Jvm.MethodName)) ∈ lw_all := lw_g (lw_at lw_m4 147 rfl) rfl
theorem q936 : (Jvm.Cond.instanceMethod ({ cls := "GargoyleCopyists$Copy", name := "weight", desc := "()I" } : Jvm.MethodName)) ∈ lw_all := lw_g (lw_at lw_m4 153 rfl) rfl
theorem q937 : (Jvm.Cond.selects "GargoyleCopyists$Copy" ({ cls := "GargoyleCopyists$Copy", name := "weight", desc := "()I" } : Jvm.MethodName) ({ cls := "GargoyleCopyists$Copy", name := "weight", desc := "()I" } : Jvm.MethodName)) ∈ lw_all := lw_g (lw_at lw_m4 154 rfl) rfl
theorem q938 : (Jvm.Cond.code ({ cls := "GargoyleCopyists$Copy", name := "weight", desc := "()I" } : Jvm.MethodName) prog_4_method_8_code (1 : Nat) (Option.some Jvm.ClassFile.FieldType.int)) ∈ lw_all := lw_g (lw_at lw_m4 155 rfl) rfl
theorem q940 : (Jvm.Cond.unhidden "GargoyleCopyists$Copy" "sum" "()I") ∈ lw_tbl := lw_at lw_m4 157 rfl
theorem q957 : (Jvm.Cond.instanceMethod ({ cls := "GargoyleCopyists$Copy", name := "wrong", desc := "(LGargoyleCopyists$Pointed;)I" } : Jvm.MethodName)) ∈ lw_all := lw_g (lw_at lw_m4 174 rfl) rfl
theorem q958 : (Jvm.Cond.selects "GargoyleCopyists$Copy" ({ cls := "GargoyleCopyists$Copy", name := "wrong", desc := "(LGargoyleCopyists$Pointed;)I" } : Jvm.MethodName) ({ cls := "GargoyleCopyists$Copy", name := "wrong", desc := "(LGargoyleCopyists$Pointed;)I" } : Jvm.MethodName)) ∈ lw_all := lw_g (lw_at lw_m4 175 rfl) rfl
theorem q959 : (Jvm.Cond.code ({ cls := "GargoyleCopyists$Copy", name := "wrong", desc := "(LGargoyleCopyists$Pointed;)I" } : Jvm.MethodName) prog_4_method_9_code (4 : Nat) (Option.some Jvm.ClassFile.FieldType.int)) ∈ lw_all := lw_g (lw_at lw_m4 176 rfl) rfl
theorem q960 : (Jvm.Cond.methodLink "GargoyleCopyists$Copy" (49 : Nat) ({ cls := "java/lang/Math", name := "abs", desc := "(I)I" } : Jvm.MethodName)) ∈ lw_all := lw_g (lw_at lw_m4 177 rfl) rfl
theorem q966 : (Jvm.Cond.instanceMethod ({ cls := "GargoyleCopyists$Copy", name := "wrongAgain", desc := "(LGargoyleCopyists$Pointed;)I" } : Jvm.MethodName)) ∈ lw_all := lw_g (lw_at lw_m4 183 rfl) rfl
theorem q967 : (Jvm.Cond.selects "GargoyleCopyists$Copy" ({ cls := "GargoyleCopyists$Copy", name := "wrongAgain", desc := "(LGargoyleCopyists$Pointed;)I" } : Jvm.MethodName) ({ cls := "GargoyleCopyists$Copy", name := "wrongAgain", desc := "(LGargoyleCopyists$Pointed;)I" } : Jvm.MethodName)) ∈ lw_all := lw_g (lw_at lw_m4 184 rfl) rfl
theorem q968 : (Jvm.Cond.code ({ cls := "GargoyleCopyists$Copy", name := "wrongAgain", desc := "(LGargoyleCopyists$Pointed;)I" } : Jvm.MethodName) prog_4_method_10_code (4 : Nat) (Option.some Jvm.ClassFile.FieldType.int)) ∈ lw_all := lw_g (lw_at lw_m4 185 rfl) rfl
theorem q969 : (Jvm.Cond.classLink "GargoyleCopyists$Copy" (55 : Nat) "GargoyleCopyists$Copy$1Both") ∈ lw_all := lw_g (lw_at lw_m4 186 rfl) rfl
theorem q971 : (Jvm.Cond.methodLink "GargoyleCopyists$Copy" (57 : Nat) ({ cls := "GargoyleCopyists$Copy$1Both", name := "<init>", desc := "(LGargoyleCopyists$Copy;)V" } : Jvm.MethodName)) ∈ lw_all := lw_g (lw_at lw_m4 188 rfl) rfl
theorem q976 : (Jvm.Cond.fieldLinkNest "GargoyleCopyists$Copy" (64 : Nat) "GargoyleCopyists$Copy$1Both" "great" "I" "GargoyleCopyists") ∈ lw_tbl := lw_at lw_m4 193 rfl
theorem q978 : (Jvm.Cond.fieldLinkNest "GargoyleCopyists$Copy" (67 : Nat) "GargoyleCopyists$Copy$1Both" "small" "I" "GargoyleCopyists") ∈ lw_tbl := lw_at lw_m4 195 rfl
theorem q987 : (Jvm.Cond.methodLink "GargoyleCopyists$Copy" (60 : Nat) ({ cls := "GargoyleCopyists$Copy$1Both", name := "takes", desc := "(I)V" } : Jvm.MethodName)) ∈ lw_all := lw_g (lw_at lw_m4 204 rfl) rfl
theorem q1008 : (Jvm.Cond.instanceMethod ({ cls := "GargoyleCopyists$Copy", name := "firstNotCut", desc := "()I" } : Jvm.MethodName)) ∈ lw_all := lw_g (lw_at lw_m4 225 rfl) rfl
theorem q1009 : (Jvm.Cond.selects "GargoyleCopyists$Copy" ({ cls := "GargoyleCopyists$Copy", name := "firstNotCut", desc := "()I" } : Jvm.MethodName) ({ cls := "GargoyleCopyists$Copy", name := "firstNotCut", desc := "()I" } : Jvm.MethodName)) ∈ lw_all := lw_g (lw_at lw_m4 226 rfl) rfl
theorem q1010 : (Jvm.Cond.code ({ cls := "GargoyleCopyists$Copy", name := "firstNotCut", desc := "()I" } : Jvm.MethodName) prog_4_method_6_code (2 : Nat) (Option.some Jvm.ClassFile.FieldType.int)) ∈ lw_all := lw_g (lw_at lw_m4 227 rfl) rfl
theorem q1672 : (Jvm.Cond.instanceMethod ({ cls := "GargoyleCopyists$Copy", name := "text", desc := "(LGargoyleCopyists$Pointed;)Ljava/lang/String;" } : Jvm.MethodName)) ∈ lw_all := lw_g (lw_at lw_m7 169 rfl) rfl
theorem q1673 : (Jvm.Cond.selects "GargoyleCopyists$Copy" ({ cls := "GargoyleCopyists$Copy", name := "text", desc := "(LGargoyleCopyists$Pointed;)Ljava/lang/String;" } : Jvm.MethodName) ({ cls := "GargoyleCopyists$Copy", name := "text", desc := "(LGargoyleCopyists$Pointed;)Ljava/lang/String;" } : Jvm.MethodName)) ∈ lw_all := lw_g (lw_at lw_m7 170 rfl) rfl
theorem q1674 : (Jvm.Cond.code ({ cls := "GargoyleCopyists$Copy", name := "text", desc := "(LGargoyleCopyists$Pointed;)Ljava/lang/String;" } : Jvm.MethodName) prog_4_method_11_code (5 : Nat) (Option.some (Jvm.ClassFile.FieldType.object "java/lang/String"))) ∈ lw_all := lw_g (lw_at lw_m7 171 rfl) rfl
theorem q1675 : (Jvm.Cond.classLink "GargoyleCopyists$Copy" (70 : Nat) "java/lang/StringBuilder") ∈ lw_all := lw_g (lw_at lw_m7 172 rfl) rfl
theorem q1676 : (Jvm.Cond.stringRef "GargoyleCopyists$Copy" (72 : Nat) "copy ") ∈ lw_tbl := lw_at lw_m7 173 rfl
theorem q1677 : (Jvm.Cond.methodLink "GargoyleCopyists$Copy" (74 : Nat) ({ cls := "java/lang/StringBuilder", name := "<init>", desc := "(Ljava/lang/String;)V" } : Jvm.MethodName)) ∈ lw_all := lw_g (lw_at lw_m7 174 rfl) rfl
theorem q1688 : (Jvm.Cond.methodLink "GargoyleCopyists$Copy" (77 : Nat) ({ cls := "java/lang/StringBuilder", name := "append", desc := "(I)Ljava/lang/StringBuilder;" } : Jvm.MethodName)) ∈ lw_all := lw_g (lw_at lw_m7 185 rfl) rfl
theorem q1713 : (Jvm.Cond.methodLink "GargoyleCopyists$Copy" (81 : Nat) ({ cls := "java/lang/StringBuilder", name := "append", desc := "(C)Ljava/lang/StringBuilder;" } : Jvm.MethodName)) ∈ lw_all := lw_g (lw_at lw_m7 210 rfl) rfl
theorem q1714 : (Jvm.Cond.stringRef "GargoyleCopyists$Copy" (84 : Nat) ": ") ∈ lw_tbl := lw_at lw_m7 211 rfl
theorem q1715 : (Jvm.Cond.methodLink "GargoyleCopyists$Copy" (86 : Nat) ({ cls := "java/lang/StringBuilder", name := "append", desc := "(Ljava/lang/String;)Ljava/lang/StringBuilder;" } : Jvm.MethodName)) ∈ lw_all := lw_g (lw_at lw_m7 212 rfl) rfl
theorem q1716 : (Jvm.Cond.stringRef "GargoyleCopyists$Copy" (89 : Nat) "^") ∈ lw_tbl := lw_at lw_m7 213 rfl
theorem q1717 : (Jvm.Cond.stringRef "GargoyleCopyists$Copy" (91 : Nat) "") ∈ lw_tbl := lw_at lw_m7 214 rfl
theorem q1718 : (Jvm.Cond.methodLink "GargoyleCopyists$Copy" (93 : Nat) ({ cls := "java/lang/StringBuilder", name := "toString", desc := "()Ljava/lang/String;" } : Jvm.MethodName)) ∈ lw_all := lw_g (lw_at lw_m7 215 rfl) rfl
theorem q2219 : (Jvm.Cond.selects "GargoyleCopyists$Copy" ({ cls := "GargoyleCopyists$Copy", name := "depth", desc := "(I)I" } : Jvm.MethodName) ({ cls := "GargoyleCopyists$Copy", name := "depth", desc := "(I)I" } : Jvm.MethodName)) ∈ lw_all := lw_g (lw_at lw_m9 236 rfl) rfl
theorem q2251 : (Jvm.Cond.castable "GargoyleCopyists$Copy" "java/lang/Object") ∈ lw_tbl := lw_at lw_m10 28 rfl
theorem in_X8 : ∀ w ∈ wsX80, w ∈ lw_all := lw_in wsX80 [674, 676, 678, 680] (by decide +kernel) (by decide +kernel)

/-! GargoyleCopyists$Refused -/
set_option maxRecDepth 100000
def RX9 : String := "GargoyleCopyists$Refused"
def TX9 : u_T := fun k => match k with
  | 0 => ("java/lang/Throwable", "cause", "Ljava/lang/Throwable;", false)
  | 1 => ("java/lang/Throwable", "stackTrace", "[Ljava/lang/StackTraceElement;", false)
  | 2 => ("java/lang/Throwable", "suppressedExceptions", "Ljava/util/List;", false)
  | 3 => ("java/lang/Throwable", "detailMessage", "Ljava/lang/String;", false)
  | 4 => ("java/lang/Throwable", "backtrace", "Ljava/lang/Object;", false)
  | 5 => ("java/lang/Throwable", "depth", "I", false)
  | 6 => ("GargoyleCopyists$Refused", "reason", "I", true)
  | _ => ("GargoyleCopyists$Refused", "detail", "I", true)
def tyX9 : Nat → FieldType := fun k => match k with
  | 0 => .object "java/lang/Throwable"
  | 1 => .array (.object "java/lang/StackTraceElement")
  | 2 => .object "java/util/List"
  | 3 => .object "java/lang/String"
  | 4 => .object "java/lang/Object"
  | 5 => .int
  | 6 => .int
  | _ => .int
abbrev wsX90 : List Cond := u_ws RX9 TX9 8
theorem nmX9 : ∀ a, a < 8 → ∀ b, b < 8 → a ≠ b → (TX9 a).2.1 ≠ (TX9 b).2.1 := by decide +kernel
theorem tyX9_ok : ∀ k, k < 8 → parseFieldDescriptor (TX9 k).2.2.1 = some (tyX9 k) := by decide +kernel
abbrev cX9_init : ByteArray := prog_12_method_1_code
def yX9_init : MethodName := ⟨RX9, "<init>", "(II)V"⟩
def dkwX9_init_0 : List UInt8 := [42, 1, 1, 3, 3, 183, 0, 1, 42, 27, 181, 0, 7, 42, 28, 181, 0, 13, 177]
abbrev dktX9_init_0 : List UInt8 := dkwX9_init_0 ++ []
theorem dksX9_init_0 : cX9_init.data.toList.drop 0 = dktX9_init_0 := by decide +kernel
theorem dX9_init_0 : decode cX9_init 0 = .ok (.aload_n 0, 1) := dk_42 (dk_at dksX9_init_0 0 rfl rfl)
theorem dX9_init_1 : decode cX9_init 1 = .ok (.aconst_null, 1) := dk_1 (dk_at dksX9_init_0 1 rfl rfl)
theorem dX9_init_2 : decode cX9_init 2 = .ok (.aconst_null, 1) := dk_1 (dk_at dksX9_init_0 2 rfl rfl)
theorem dX9_init_3 : decode cX9_init 3 = .ok (.iconst 0, 1) := dk_3 (dk_at dksX9_init_0 3 rfl rfl)
theorem dX9_init_4 : decode cX9_init 4 = .ok (.iconst 0, 1) := dk_3 (dk_at dksX9_init_0 4 rfl rfl)
theorem dX9_init_5 : decode cX9_init 5 = .ok (.invokespecial 1, 3) := dk_183 0 1 (dk_at dksX9_init_0 5 rfl rfl)
theorem dX9_init_8 : decode cX9_init 8 = .ok (.aload_n 0, 1) := dk_42 (dk_at dksX9_init_0 8 rfl rfl)
theorem dX9_init_9 : decode cX9_init 9 = .ok (.iload_n 1, 1) := dk_27 (dk_at dksX9_init_0 9 rfl rfl)
theorem dX9_init_10 : decode cX9_init 10 = .ok (.putfield 7, 3) := dk_181 0 7 (dk_at dksX9_init_0 10 rfl rfl)
theorem dX9_init_13 : decode cX9_init 13 = .ok (.aload_n 0, 1) := dk_42 (dk_at dksX9_init_0 13 rfl rfl)
theorem dX9_init_14 : decode cX9_init 14 = .ok (.iload_n 2, 1) := dk_28 (dk_at dksX9_init_0 14 rfl rfl)
theorem dX9_init_15 : decode cX9_init 15 = .ok (.putfield 13, 3) := dk_181 0 13 (dk_at dksX9_init_0 15 rfl rfl)
theorem dX9_init_18 : decode cX9_init 18 = .ok (.return_, 1) := dk_177 (dk_at dksX9_init_0 18 rfl rfl)
theorem q91 : (Jvm.Cond.initialized "GargoyleCopyists$Refused") ∈ lw_all := lw_g (lw_at lw_m1 28 rfl) rfl
theorem q245 : (Jvm.Cond.selects "GargoyleCopyists$Refused" ({ cls := "java/lang/Object", name := "getClass", desc := "()Ljava/lang/Class;" } : Jvm.MethodName) ({ cls := "java/lang/Object", name := "getClass", desc := "()Ljava/lang/Class;" } : Jvm.MethodName)) ∈ lw_all := lw_g (lw_at lw_m1 182 rfl) rfl
theorem q538 : (Jvm.Cond.selects "GargoyleCopyists$Refused" ({ cls := "java/lang/Throwable", name := "fillInStackTrace", desc := "()Ljava/lang/Throwable;" } : Jvm.MethodName) ({ cls := "java/lang/Throwable", name := "fillInStackTrace", desc := "()Ljava/lang/Throwable;" } : Jvm.MethodName)) ∈ lw_all := lw_g (lw_at lw_m2 235 rfl) rfl
theorem q699 : (Jvm.Cond.instantiable "GargoyleCopyists$Refused" (8 : Nat)) ∈ lw_all := lw_g (lw_at lw_m3 156 rfl) rfl
theorem q700 : (Jvm.Cond.castable "GargoyleCopyists$Refused" "GargoyleCopyists$Refused") ∈ lw_tbl := lw_at lw_m3 157 rfl
theorem q701 : (Jvm.Cond.selects "GargoyleCopyists$Refused" ({ cls := "java/lang/Throwable", name := "fillInStackTrace", desc := "(I)Ljava/lang/Throwable;" } : Jvm.MethodName) ({ cls := "java/lang/Throwable", name := "fillInStackTrace", desc := "(I)Ljava/lang/Throwable;" } : Jvm.MethodName)) ∈ lw_all := lw_g (lw_at lw_m3 158 rfl) rfl
theorem q702 : (Jvm.Cond.lays "GargoyleCopyists$Refused" "java/lang/Throwable" "cause" "Ljava/lang/Throwable;") ∈ lw_all := lw_g (lw_at lw_m3 159 rfl) rfl
theorem q703 : (Jvm.Cond.lays "GargoyleCopyists$Refused" "java/lang/Throwable" "stackTrace" "[Ljava/lang/StackTraceElement;") ∈ lw_all := lw_g (lw_at lw_m3 160 rfl) rfl
theorem q704 : (Jvm.Cond.lays "GargoyleCopyists$Refused" "java/lang/Throwable" "suppressedExceptions" "Ljava/util/List;") ∈ lw_all := lw_g (lw_at lw_m3 161 rfl) rfl
theorem q705 : (Jvm.Cond.lays "GargoyleCopyists$Refused" "java/lang/Throwable" "detailMessage" "Ljava/lang/String;") ∈ lw_all := lw_g (lw_at lw_m3 162 rfl) rfl
theorem q706 : (Jvm.Cond.lays "GargoyleCopyists$Refused" "java/lang/Throwable" "backtrace" "Ljava/lang/Object;") ∈ lw_all := lw_g (lw_at lw_m3 163 rfl) rfl
theorem q708 : (Jvm.Cond.instanceMethod ({ cls := "GargoyleCopyists$Refused", name := "<init>", desc := "(II)V" } : Jvm.MethodName)) ∈ lw_all := lw_g (lw_at lw_m3 165 rfl) rfl
theorem q709 : (Jvm.Cond.code ({ cls := "GargoyleCopyists$Refused", name := "<init>", desc := "(II)V" } : Jvm.MethodName) prog_12_method_1_code (3 : Nat) (Option.none : Option Jvm.ClassFile.FieldType)) ∈ lw_all := lw_g (lw_at lw_m3 166 rfl) rfl
theorem q710 : (Jvm.Cond.methodLink "GargoyleCopyists$Refused" (1 : Nat) ({ cls := "java/lang/Exception", name := "<init>", desc := "(Ljava/lang/String;Ljava/lang/Throwable;ZZ)V" } : Jvm.MethodName)) ∈ lw_all := lw_g (lw_at lw_m3 167 rfl) rfl
theorem q716 : (Jvm.Cond.fieldLink "GargoyleCopyists$Refused" (7 : Nat) "GargoyleCopyists$Refused" "reason" "I") ∈ lw_all := lw_g (lw_at lw_m3 173 rfl) rfl
theorem q718 : (Jvm.Cond.fieldLink "GargoyleCopyists$Refused" (13 : Nat) "GargoyleCopyists$Refused" "detail" "I") ∈ lw_all := lw_g (lw_at lw_m3 175 rfl) rfl
theorem q720 : (Jvm.Cond.laysFinal "GargoyleCopyists$Refused" "GargoyleCopyists$Refused" "reason" "I") ∈ lw_all := lw_g (lw_at lw_m3 177 rfl) rfl
theorem q721 : (Jvm.Cond.soleField "GargoyleCopyists$Refused" "reason") ∈ lw_all := lw_g (lw_at lw_m3 178 rfl) rfl
theorem q722 : (Jvm.Cond.laysFinal "GargoyleCopyists$Refused" "GargoyleCopyists$Refused" "detail" "I") ∈ lw_all := lw_g (lw_at lw_m3 179 rfl) rfl
theorem q723 : (Jvm.Cond.soleField "GargoyleCopyists$Refused" "detail") ∈ lw_all := lw_g (lw_at lw_m3 180 rfl) rfl
theorem q724 : (Jvm.Cond.lays "GargoyleCopyists$Refused" "java/lang/Throwable" "depth" "I") ∈ lw_all := lw_g (lw_at lw_m3 181 rfl) rfl
theorem q725 : (Jvm.Cond.superclass "GargoyleCopyists$Refused" "java/lang/Exception") ∈ lw_all := lw_g (lw_at lw_m3 182 rfl) rfl
theorem q2252 : (Jvm.Cond.castable "GargoyleCopyists$Refused" "java/lang/Object") ∈ lw_tbl := lw_at lw_m10 29 rfl
theorem in_X9 : ∀ w ∈ wsX90, w ∈ lw_all := lw_in wsX90 [702, 703, 704, 705, 706, 724, 720, 722] (by decide +kernel) (by decide +kernel)

/-! GargoyleCopyists$Pointed -/
set_option maxRecDepth 100000
def RX10 : String := "GargoyleCopyists$Pointed"
abbrev cX10_difference : ByteArray := prog_10_method_3_code
def yX10_difference : MethodName := ⟨RX10, "difference", "(LGargoyleCopyists$Pointed;LGargoyleCopyists$Pointed;I)I"⟩
def dkwX10_difference_0 : List UInt8 := [42, 28, 185, 0, 3, 2, 0, 43, 28, 185, 0, 3, 2, 0, 100, 172]
abbrev dktX10_difference_0 : List UInt8 := dkwX10_difference_0 ++ []
theorem dksX10_difference_0 : cX10_difference.data.toList.drop 0 = dktX10_difference_0 := by decide +kernel
theorem dX10_difference_0 : decode cX10_difference 0 = .ok (.aload_n 0, 1) := dk_42 (dk_at dksX10_difference_0 0 rfl rfl)
theorem dX10_difference_1 : decode cX10_difference 1 = .ok (.iload_n 2, 1) := dk_28 (dk_at dksX10_difference_0 1 rfl rfl)
theorem dX10_difference_2 : decode cX10_difference 2 = .ok (.invokeinterface 3 2, 5) := by decide +kernel
theorem dX10_difference_7 : decode cX10_difference 7 = .ok (.aload_n 1, 1) := dk_43 (dk_at dksX10_difference_0 7 rfl rfl)
theorem dX10_difference_8 : decode cX10_difference 8 = .ok (.iload_n 2, 1) := dk_28 (dk_at dksX10_difference_0 8 rfl rfl)
theorem dX10_difference_9 : decode cX10_difference 9 = .ok (.invokeinterface 3 2, 5) := by decide +kernel
theorem dX10_difference_14 : decode cX10_difference 14 = .ok (.isub, 1) := dk_100 (dk_at dksX10_difference_0 14 rfl rfl)
theorem dX10_difference_15 : decode cX10_difference 15 = .ok (.ireturn, 1) := dk_172 (dk_at dksX10_difference_0 15 rfl rfl)
abbrev cX10_sum : ByteArray := prog_10_method_2_code
def yX10_sum : MethodName := ⟨RX10, "sum", "()I"⟩
def dkwX10_sum_1 : List UInt8 := [132, 2, 1, 167, 255, 233, 27, 172]
abbrev dktX10_sum_1 : List UInt8 := dkwX10_sum_1 ++ []
def dkwX10_sum_0 : List UInt8 := [3, 60, 3, 61, 28, 16, 10, 162, 0, 23, 27, 3, 42, 28, 185, 0, 3, 2, 0, 184, 0, 9, 96, 60]
abbrev dktX10_sum_0 : List UInt8 := dkwX10_sum_0 ++ dktX10_sum_1
theorem dksX10_sum_0 : cX10_sum.data.toList.drop 0 = dktX10_sum_0 := by decide +kernel
theorem dksX10_sum_1 : cX10_sum.data.toList.drop 24 = dktX10_sum_1 := dk_seg dksX10_sum_0 24 rfl rfl
theorem dX10_sum_0 : decode cX10_sum 0 = .ok (.iconst 0, 1) := dk_3 (dk_at dksX10_sum_0 0 rfl rfl)
theorem dX10_sum_1 : decode cX10_sum 1 = .ok (.istore_n 1, 1) := dk_60 (dk_at dksX10_sum_0 1 rfl rfl)
theorem dX10_sum_2 : decode cX10_sum 2 = .ok (.iconst 0, 1) := dk_3 (dk_at dksX10_sum_0 2 rfl rfl)
theorem dX10_sum_3 : decode cX10_sum 3 = .ok (.istore_n 2, 1) := dk_61 (dk_at dksX10_sum_0 3 rfl rfl)
theorem dX10_sum_4 : decode cX10_sum 4 = .ok (.iload_n 2, 1) := dk_28 (dk_at dksX10_sum_0 4 rfl rfl)
theorem dX10_sum_5 : decode cX10_sum 5 = .ok (.bipush 10, 2) := dk_16 10 (dk_at dksX10_sum_0 5 rfl rfl)
theorem dX10_sum_7 : decode cX10_sum 7 = .ok (.if_icmp .ge 23, 3) := dk_162 0 23 (dk_at dksX10_sum_0 7 rfl rfl)
theorem dX10_sum_10 : decode cX10_sum 10 = .ok (.iload_n 1, 1) := dk_27 (dk_at dksX10_sum_0 10 rfl rfl)
theorem dX10_sum_11 : decode cX10_sum 11 = .ok (.iconst 0, 1) := dk_3 (dk_at dksX10_sum_0 11 rfl rfl)
theorem dX10_sum_12 : decode cX10_sum 12 = .ok (.aload_n 0, 1) := dk_42 (dk_at dksX10_sum_0 12 rfl rfl)
theorem dX10_sum_13 : decode cX10_sum 13 = .ok (.iload_n 2, 1) := dk_28 (dk_at dksX10_sum_0 13 rfl rfl)
theorem dX10_sum_14 : decode cX10_sum 14 = .ok (.invokeinterface 3 2, 5) := by decide +kernel
theorem dX10_sum_19 : decode cX10_sum 19 = .ok (.invokestatic 9, 3) := dk_184 0 9 (dk_at dksX10_sum_0 19 rfl rfl)
theorem dX10_sum_22 : decode cX10_sum 22 = .ok (.iadd, 1) := dk_96 (dk_at dksX10_sum_0 22 rfl rfl)
theorem dX10_sum_23 : decode cX10_sum 23 = .ok (.istore_n 1, 1) := dk_60 (dk_at dksX10_sum_0 23 rfl rfl)
theorem dX10_sum_24 : decode cX10_sum 24 = .ok (.iinc 2 1, 3) := dk_132 2 1 (dk_at dksX10_sum_1 0 rfl rfl)
theorem dX10_sum_27 : decode cX10_sum 27 = .ok (.goto (-23), 3) := dk_167 255 233 (dk_at dksX10_sum_1 3 rfl rfl)
theorem dX10_sum_30 : decode cX10_sum 30 = .ok (.iload_n 1, 1) := dk_27 (dk_at dksX10_sum_1 6 rfl rfl)
theorem dX10_sum_31 : decode cX10_sum 31 = .ok (.ireturn, 1) := dk_172 (dk_at dksX10_sum_1 7 rfl rfl)
theorem q92 : (Jvm.Cond.initialized "GargoyleCopyists$Pointed") ∈ lw_all := lw_g (lw_at lw_m1 29 rfl) rfl
theorem q589 : (Jvm.Cond.interfaceMethod "GargoyleCopyists$Pointed" "GargoyleCopyists$Pointed" "depth" "(I)I") ∈ lw_tbl := lw_at lw_m3 46 rfl
theorem q590 : (Jvm.Cond.declares ({ cls := "GargoyleCopyists$Pointed", name := "depth", desc := "(I)I" } : Jvm.MethodName)) ∈ lw_tbl := lw_at lw_m3 47 rfl
theorem q931 : (Jvm.Cond.static ({ cls := "GargoyleCopyists$Pointed", name := "difference", desc := "(LGargoyleCopyists$Pointed;LGargoyleCopyists$Pointed;I)I" } : Jvm.MethodName)) ∈ lw_all := lw_g (lw_at lw_m4 148 rfl) rfl
theorem q932 : (Jvm.Cond.code ({ cls := "GargoyleCopyists$Pointed", name := "difference", desc := "(LGargoyleCopyists$Pointed;LGargoyleCopyists$Pointed;I)I" } : Jvm.MethodName) prog_10_method_3_code (3 : Nat) (Option.some Jvm.ClassFile.FieldType.int)) ∈ lw_all := lw_g (lw_at lw_m4 149 rfl) rfl
theorem q933 : (Jvm.Cond.interfaceEntry "GargoyleCopyists$Pointed" (3 : Nat)) ∈ lw_tbl := lw_at lw_m4 150 rfl
theorem q934 : (Jvm.Cond.methodLink "GargoyleCopyists$Pointed" (3 : Nat) ({ cls := "GargoyleCopyists$Pointed", name := "depth", desc := "(I)I" } : Jvm.MethodName)) ∈ lw_all := lw_g (lw_at lw_m4 151 rfl) rfl
theorem q939 : (Jvm.Cond.declares ({ cls := "GargoyleCopyists$Pointed", name := "sum", desc := "()I" } : Jvm.MethodName)) ∈ lw_tbl := lw_at lw_m4 156 rfl
theorem q941 : (Jvm.Cond.instanceMethod ({ cls := "GargoyleCopyists$Pointed", name := "sum", desc := "()I" } : Jvm.MethodName)) ∈ lw_all := lw_g (lw_at lw_m4 158 rfl) rfl
theorem q942 : (Jvm.Cond.publicMethod ({ cls := "GargoyleCopyists$Pointed", name := "sum", desc := "()I" } : Jvm.MethodName)) ∈ lw_tbl := lw_at lw_m4 159 rfl
theorem q943 : (Jvm.Cond.code ({ cls := "GargoyleCopyists$Pointed", name := "sum", desc := "()I" } : Jvm.MethodName) prog_10_method_2_code (3 : Nat) (Option.some Jvm.ClassFile.FieldType.int)) ∈ lw_all := lw_g (lw_at lw_m4 160 rfl) rfl
theorem q944 : (Jvm.Cond.methodLink "GargoyleCopyists$Pointed" (9 : Nat) ({ cls := "java/lang/Math", name := "max", desc := "(II)I" } : Jvm.MethodName)) ∈ lw_all := lw_g (lw_at lw_m4 161 rfl) rfl

/-! GargoyleCopyists$Copy$1Both -/
set_option maxRecDepth 100000
def RX11 : String := "GargoyleCopyists$Copy$1Both"
def TX11 : u_T := fun k => match k with
  | 0 => ("GargoyleCopyists$Copy$1Both", "great", "I", false)
  | 1 => ("GargoyleCopyists$Copy$1Both", "small", "I", false)
  | _ => ("GargoyleCopyists$Copy$1Both", "this$0", "LGargoyleCopyists$Copy;", true)
def tyX11 : Nat → FieldType := fun k => match k with
  | 0 => .int
  | 1 => .int
  | _ => .object "GargoyleCopyists$Copy"
abbrev wsX110 : List Cond := u_ws RX11 TX11 3
theorem nmX11 : ∀ a, a < 3 → ∀ b, b < 3 → a ≠ b → (TX11 a).2.1 ≠ (TX11 b).2.1 := by decide +kernel
theorem tyX11_ok : ∀ k, k < 3 → parseFieldDescriptor (TX11 k).2.2.1 = some (tyX11 k) := by decide +kernel
abbrev cX11_init : ByteArray := prog_5_method_1_code
def yX11_init : MethodName := ⟨RX11, "<init>", "(LGargoyleCopyists$Copy;)V"⟩
def dkwX11_init_0 : List UInt8 := [42, 43, 181, 0, 1, 42, 183, 0, 7, 177]
abbrev dktX11_init_0 : List UInt8 := dkwX11_init_0 ++ []
theorem dksX11_init_0 : cX11_init.data.toList.drop 0 = dktX11_init_0 := by decide +kernel
theorem dX11_init_0 : decode cX11_init 0 = .ok (.aload_n 0, 1) := dk_42 (dk_at dksX11_init_0 0 rfl rfl)
theorem dX11_init_1 : decode cX11_init 1 = .ok (.aload_n 1, 1) := dk_43 (dk_at dksX11_init_0 1 rfl rfl)
theorem dX11_init_2 : decode cX11_init 2 = .ok (.putfield 1, 3) := dk_181 0 1 (dk_at dksX11_init_0 2 rfl rfl)
theorem dX11_init_5 : decode cX11_init 5 = .ok (.aload_n 0, 1) := dk_42 (dk_at dksX11_init_0 5 rfl rfl)
theorem dX11_init_6 : decode cX11_init 6 = .ok (.invokespecial 7, 3) := dk_183 0 7 (dk_at dksX11_init_0 6 rfl rfl)
theorem dX11_init_9 : decode cX11_init 9 = .ok (.return_, 1) := dk_177 (dk_at dksX11_init_0 9 rfl rfl)
abbrev cX11_takes : ByteArray := prog_5_method_2_code
def yX11_takes : MethodName := ⟨RX11, "takes", "(I)V"⟩
def dkwX11_takes_1 : List UInt8 := [156, 0, 7, 27, 167, 0, 4, 3, 96, 181, 0, 17, 177]
abbrev dktX11_takes_1 : List UInt8 := dkwX11_takes_1 ++ []
def dkwX11_takes_0 : List UInt8 := [42, 89, 180, 0, 13, 27, 158, 0, 7, 27, 167, 0, 4, 3, 96, 181, 0, 13, 42, 89, 180, 0, 17, 27]
abbrev dktX11_takes_0 : List UInt8 := dkwX11_takes_0 ++ dktX11_takes_1
theorem dksX11_takes_0 : cX11_takes.data.toList.drop 0 = dktX11_takes_0 := by decide +kernel
theorem dksX11_takes_1 : cX11_takes.data.toList.drop 24 = dktX11_takes_1 := dk_seg dksX11_takes_0 24 rfl rfl
theorem dX11_takes_0 : decode cX11_takes 0 = .ok (.aload_n 0, 1) := dk_42 (dk_at dksX11_takes_0 0 rfl rfl)
theorem dX11_takes_1 : decode cX11_takes 1 = .ok (.dup, 1) := dk_89 (dk_at dksX11_takes_0 1 rfl rfl)
theorem dX11_takes_2 : decode cX11_takes 2 = .ok (.getfield 13, 3) := dk_180 0 13 (dk_at dksX11_takes_0 2 rfl rfl)
theorem dX11_takes_5 : decode cX11_takes 5 = .ok (.iload_n 1, 1) := dk_27 (dk_at dksX11_takes_0 5 rfl rfl)
theorem dX11_takes_6 : decode cX11_takes 6 = .ok (.ifCond .le 7, 3) := dk_158 0 7 (dk_at dksX11_takes_0 6 rfl rfl)
theorem dX11_takes_9 : decode cX11_takes 9 = .ok (.iload_n 1, 1) := dk_27 (dk_at dksX11_takes_0 9 rfl rfl)
theorem dX11_takes_10 : decode cX11_takes 10 = .ok (.goto 4, 3) := dk_167 0 4 (dk_at dksX11_takes_0 10 rfl rfl)
theorem dX11_takes_13 : decode cX11_takes 13 = .ok (.iconst 0, 1) := dk_3 (dk_at dksX11_takes_0 13 rfl rfl)
theorem dX11_takes_14 : decode cX11_takes 14 = .ok (.iadd, 1) := dk_96 (dk_at dksX11_takes_0 14 rfl rfl)
theorem dX11_takes_15 : decode cX11_takes 15 = .ok (.putfield 13, 3) := dk_181 0 13 (dk_at dksX11_takes_0 15 rfl rfl)
theorem dX11_takes_18 : decode cX11_takes 18 = .ok (.aload_n 0, 1) := dk_42 (dk_at dksX11_takes_0 18 rfl rfl)
theorem dX11_takes_19 : decode cX11_takes 19 = .ok (.dup, 1) := dk_89 (dk_at dksX11_takes_0 19 rfl rfl)
theorem dX11_takes_20 : decode cX11_takes 20 = .ok (.getfield 17, 3) := dk_180 0 17 (dk_at dksX11_takes_0 20 rfl rfl)
theorem dX11_takes_23 : decode cX11_takes 23 = .ok (.iload_n 1, 1) := dk_27 (dk_at dksX11_takes_0 23 rfl rfl)
theorem dX11_takes_24 : decode cX11_takes 24 = .ok (.ifCond .ge 7, 3) := dk_156 0 7 (dk_at dksX11_takes_1 0 rfl rfl)
theorem dX11_takes_27 : decode cX11_takes 27 = .ok (.iload_n 1, 1) := dk_27 (dk_at dksX11_takes_1 3 rfl rfl)
theorem dX11_takes_28 : decode cX11_takes 28 = .ok (.goto 4, 3) := dk_167 0 4 (dk_at dksX11_takes_1 4 rfl rfl)
theorem dX11_takes_31 : decode cX11_takes 31 = .ok (.iconst 0, 1) := dk_3 (dk_at dksX11_takes_1 7 rfl rfl)
theorem dX11_takes_32 : decode cX11_takes 32 = .ok (.iadd, 1) := dk_96 (dk_at dksX11_takes_1 8 rfl rfl)
theorem dX11_takes_33 : decode cX11_takes 33 = .ok (.putfield 17, 3) := dk_181 0 17 (dk_at dksX11_takes_1 9 rfl rfl)
theorem dX11_takes_36 : decode cX11_takes 36 = .ok (.return_, 1) := dk_177 (dk_at dksX11_takes_1 12 rfl rfl)
theorem q93 : (Jvm.Cond.initialized "GargoyleCopyists$Copy$1Both") ∈ lw_all := lw_g (lw_at lw_m1 30 rfl) rfl
theorem q240 : (Jvm.Cond.selects "GargoyleCopyists$Copy$1Both" ({ cls := "java/lang/Object", name := "getClass", desc := "()Ljava/lang/Class;" } : Jvm.MethodName) ({ cls := "java/lang/Object", name := "getClass", desc := "()Ljava/lang/Class;" } : Jvm.MethodName)) ∈ lw_all := lw_g (lw_at lw_m1 177 rfl) rfl
theorem q970 : (Jvm.Cond.instantiable "GargoyleCopyists$Copy$1Both" (3 : Nat)) ∈ lw_all := lw_g (lw_at lw_m4 187 rfl) rfl
theorem q972 : (Jvm.Cond.instanceMethod ({ cls := "GargoyleCopyists$Copy$1Both", name := "<init>", desc := "(LGargoyleCopyists$Copy;)V" } : Jvm.MethodName)) ∈ lw_all := lw_g (lw_at lw_m4 189 rfl) rfl
theorem q973 : (Jvm.Cond.code ({ cls := "GargoyleCopyists$Copy$1Both", name := "<init>", desc := "(LGargoyleCopyists$Copy;)V" } : Jvm.MethodName) prog_5_method_1_code (2 : Nat) (Option.none : Option Jvm.ClassFile.FieldType)) ∈ lw_all := lw_g (lw_at lw_m4 190 rfl) rfl
theorem q974 : (Jvm.Cond.methodLink "GargoyleCopyists$Copy$1Both" (7 : Nat) ({ cls := "java/lang/Object", name := "<init>", desc := "()V" } : Jvm.MethodName)) ∈ lw_all := lw_g (lw_at lw_m4 191 rfl) rfl
theorem q975 : (Jvm.Cond.fieldLink "GargoyleCopyists$Copy$1Both" (13 : Nat) "GargoyleCopyists$Copy$1Both" "great" "I") ∈ lw_all := lw_g (lw_at lw_m4 192 rfl) rfl
theorem q977 : (Jvm.Cond.fieldLink "GargoyleCopyists$Copy$1Both" (17 : Nat) "GargoyleCopyists$Copy$1Both" "small" "I") ∈ lw_all := lw_g (lw_at lw_m4 194 rfl) rfl
theorem q979 : (Jvm.Cond.fieldLink "GargoyleCopyists$Copy$1Both" (1 : Nat) "GargoyleCopyists$Copy$1Both" "this$0" "LGargoyleCopyists$Copy;") ∈ lw_all := lw_g (lw_at lw_m4 196 rfl) rfl
theorem q980 : (Jvm.Cond.lays "GargoyleCopyists$Copy$1Both" "GargoyleCopyists$Copy$1Both" "great" "I") ∈ lw_all := lw_g (lw_at lw_m4 197 rfl) rfl
theorem q981 : (Jvm.Cond.soleField "GargoyleCopyists$Copy$1Both" "great") ∈ lw_all := lw_g (lw_at lw_m4 198 rfl) rfl
theorem q982 : (Jvm.Cond.lays "GargoyleCopyists$Copy$1Both" "GargoyleCopyists$Copy$1Both" "small" "I") ∈ lw_all := lw_g (lw_at lw_m4 199 rfl) rfl
theorem q983 : (Jvm.Cond.soleField "GargoyleCopyists$Copy$1Both" "small") ∈ lw_all := lw_g (lw_at lw_m4 200 rfl) rfl
theorem q984 : (Jvm.Cond.laysFinal "GargoyleCopyists$Copy$1Both" "GargoyleCopyists$Copy$1Both" "this$0" "LGargoyleCopyists$Copy;") ∈ lw_all := lw_g (lw_at lw_m4 201 rfl) rfl
theorem q985 : (Jvm.Cond.soleField "GargoyleCopyists$Copy$1Both" "this$0") ∈ lw_all := lw_g (lw_at lw_m4 202 rfl) rfl
theorem q986 : (Jvm.Cond.superclass "GargoyleCopyists$Copy$1Both" "java/lang/Object") ∈ lw_all := lw_g (lw_at lw_m4 203 rfl) rfl
theorem q988 : (Jvm.Cond.instanceMethod ({ cls := "GargoyleCopyists$Copy$1Both", name := "takes", desc := "(I)V" } : Jvm.MethodName)) ∈ lw_all := lw_g (lw_at lw_m4 205 rfl) rfl
theorem q989 : (Jvm.Cond.selects "GargoyleCopyists$Copy$1Both" ({ cls := "GargoyleCopyists$Copy$1Both", name := "takes", desc := "(I)V" } : Jvm.MethodName) ({ cls := "GargoyleCopyists$Copy$1Both", name := "takes", desc := "(I)V" } : Jvm.MethodName)) ∈ lw_all := lw_g (lw_at lw_m4 206 rfl) rfl
theorem q990 : (Jvm.Cond.code ({ cls := "GargoyleCopyists$Copy$1Both", name := "takes", desc := "(I)V" } : Jvm.MethodName) prog_5_method_2_code (2 : Nat) (Option.none : Option Jvm.ClassFile.FieldType)) ∈ lw_all := lw_g (lw_at lw_m4 207 rfl) rfl
theorem q2253 : (Jvm.Cond.castable "GargoyleCopyists$Copy$1Both" "java/lang/Object") ∈ lw_tbl := lw_at lw_m10 30 rfl
theorem in_X11 : ∀ w ∈ wsX110, w ∈ lw_all := lw_in wsX110 [980, 982, 984] (by decide +kernel) (by decide +kernel)

/-! GargoyleCopyists$Reader -/
set_option maxRecDepth 100000
def RX12 : String := "GargoyleCopyists$Reader"
def TX12 : u_T := fun k => match k with
  | 0 => ("GargoyleCopyists$Reader", "words", "[Ljava/lang/String;", true)
  | 1 => ("GargoyleCopyists$Reader", "text", "Ljava/lang/CharSequence;", true)
  | _ => ("GargoyleCopyists$Reader", "at", "I", false)
def tyX12 : Nat → FieldType := fun k => match k with
  | 0 => .array (.object "java/lang/String")
  | 1 => .object "java/lang/CharSequence"
  | _ => .int
abbrev wsX120 : List Cond := u_ws RX12 TX12 3
theorem nmX12 : ∀ a, a < 3 → ∀ b, b < 3 → a ≠ b → (TX12 a).2.1 ≠ (TX12 b).2.1 := by decide +kernel
theorem tyX12_ok : ∀ k, k < 3 → parseFieldDescriptor (TX12 k).2.2.1 = some (tyX12 k) := by decide +kernel
abbrev cX12_init : ByteArray := prog_11_method_1_code
def yX12_init : MethodName := ⟨RX12, "<init>", "(Ljava/lang/CharSequence;)V"⟩
def dkwX12_init_2 : List UInt8 := [16, 7, 18, 25, 83, 89, 16, 8, 18, 27, 83, 181, 0, 29, 42, 43, 181, 0, 35, 177]
abbrev dktX12_init_2 : List UInt8 := dkwX12_init_2 ++ []
def dkwX12_init_1 : List UInt8 := [83, 89, 6, 18, 17, 83, 89, 7, 18, 19, 83, 89, 8, 18, 21, 83, 89, 16, 6, 18, 23, 83, 89]
abbrev dktX12_init_1 : List UInt8 := dkwX12_init_1 ++ dktX12_init_2
def dkwX12_init_0 : List UInt8 := [42, 183, 0, 3, 42, 16, 9, 189, 0, 9, 89, 3, 18, 11, 83, 89, 4, 18, 13, 83, 89, 5, 18, 15]
abbrev dktX12_init_0 : List UInt8 := dkwX12_init_0 ++ dktX12_init_1
theorem dksX12_init_0 : cX12_init.data.toList.drop 0 = dktX12_init_0 := by decide +kernel
theorem dksX12_init_1 : cX12_init.data.toList.drop 24 = dktX12_init_1 := dk_seg dksX12_init_0 24 rfl rfl
theorem dksX12_init_2 : cX12_init.data.toList.drop 47 = dktX12_init_2 := dk_seg dksX12_init_1 23 rfl rfl
theorem dX12_init_0 : decode cX12_init 0 = .ok (.aload_n 0, 1) := dk_42 (dk_at dksX12_init_0 0 rfl rfl)
theorem dX12_init_1 : decode cX12_init 1 = .ok (.invokespecial 3, 3) := dk_183 0 3 (dk_at dksX12_init_0 1 rfl rfl)
theorem dX12_init_4 : decode cX12_init 4 = .ok (.aload_n 0, 1) := dk_42 (dk_at dksX12_init_0 4 rfl rfl)
theorem dX12_init_5 : decode cX12_init 5 = .ok (.bipush 9, 2) := dk_16 9 (dk_at dksX12_init_0 5 rfl rfl)
theorem dX12_init_7 : decode cX12_init 7 = .ok (.anewarray 9, 3) := dk_189 0 9 (dk_at dksX12_init_0 7 rfl rfl)
theorem dX12_init_10 : decode cX12_init 10 = .ok (.dup, 1) := dk_89 (dk_at dksX12_init_0 10 rfl rfl)
theorem dX12_init_11 : decode cX12_init 11 = .ok (.iconst 0, 1) := dk_3 (dk_at dksX12_init_0 11 rfl rfl)
theorem dX12_init_12 : decode cX12_init 12 = .ok (.ldc 11, 2) := dk_18 11 (dk_at dksX12_init_0 12 rfl rfl)
theorem dX12_init_14 : decode cX12_init 14 = .ok (.aastore, 1) := dk_83 (dk_at dksX12_init_0 14 rfl rfl)
theorem dX12_init_15 : decode cX12_init 15 = .ok (.dup, 1) := dk_89 (dk_at dksX12_init_0 15 rfl rfl)
theorem dX12_init_16 : decode cX12_init 16 = .ok (.iconst 1, 1) := dk_4 (dk_at dksX12_init_0 16 rfl rfl)
theorem dX12_init_17 : decode cX12_init 17 = .ok (.ldc 13, 2) := dk_18 13 (dk_at dksX12_init_0 17 rfl rfl)
theorem dX12_init_19 : decode cX12_init 19 = .ok (.aastore, 1) := dk_83 (dk_at dksX12_init_0 19 rfl rfl)
theorem dX12_init_20 : decode cX12_init 20 = .ok (.dup, 1) := dk_89 (dk_at dksX12_init_0 20 rfl rfl)
theorem dX12_init_21 : decode cX12_init 21 = .ok (.iconst 2, 1) := dk_5 (dk_at dksX12_init_0 21 rfl rfl)
theorem dX12_init_22 : decode cX12_init 22 = .ok (.ldc 15, 2) := dk_18 15 (dk_at dksX12_init_0 22 rfl rfl)
theorem dX12_init_24 : decode cX12_init 24 = .ok (.aastore, 1) := dk_83 (dk_at dksX12_init_1 0 rfl rfl)
theorem dX12_init_25 : decode cX12_init 25 = .ok (.dup, 1) := dk_89 (dk_at dksX12_init_1 1 rfl rfl)
theorem dX12_init_26 : decode cX12_init 26 = .ok (.iconst 3, 1) := dk_6 (dk_at dksX12_init_1 2 rfl rfl)
theorem dX12_init_27 : decode cX12_init 27 = .ok (.ldc 17, 2) := dk_18 17 (dk_at dksX12_init_1 3 rfl rfl)
theorem dX12_init_29 : decode cX12_init 29 = .ok (.aastore, 1) := dk_83 (dk_at dksX12_init_1 5 rfl rfl)
theorem dX12_init_30 : decode cX12_init 30 = .ok (.dup, 1) := dk_89 (dk_at dksX12_init_1 6 rfl rfl)
theorem dX12_init_31 : decode cX12_init 31 = .ok (.iconst 4, 1) := dk_7 (dk_at dksX12_init_1 7 rfl rfl)
theorem dX12_init_32 : decode cX12_init 32 = .ok (.ldc 19, 2) := dk_18 19 (dk_at dksX12_init_1 8 rfl rfl)
theorem dX12_init_34 : decode cX12_init 34 = .ok (.aastore, 1) := dk_83 (dk_at dksX12_init_1 10 rfl rfl)
theorem dX12_init_35 : decode cX12_init 35 = .ok (.dup, 1) := dk_89 (dk_at dksX12_init_1 11 rfl rfl)
theorem dX12_init_36 : decode cX12_init 36 = .ok (.iconst 5, 1) := dk_8 (dk_at dksX12_init_1 12 rfl rfl)
theorem dX12_init_37 : decode cX12_init 37 = .ok (.ldc 21, 2) := dk_18 21 (dk_at dksX12_init_1 13 rfl rfl)
theorem dX12_init_39 : decode cX12_init 39 = .ok (.aastore, 1) := dk_83 (dk_at dksX12_init_1 15 rfl rfl)
theorem dX12_init_40 : decode cX12_init 40 = .ok (.dup, 1) := dk_89 (dk_at dksX12_init_1 16 rfl rfl)
theorem dX12_init_41 : decode cX12_init 41 = .ok (.bipush 6, 2) := dk_16 6 (dk_at dksX12_init_1 17 rfl rfl)
theorem dX12_init_43 : decode cX12_init 43 = .ok (.ldc 23, 2) := dk_18 23 (dk_at dksX12_init_1 19 rfl rfl)
theorem dX12_init_45 : decode cX12_init 45 = .ok (.aastore, 1) := dk_83 (dk_at dksX12_init_1 21 rfl rfl)
theorem dX12_init_46 : decode cX12_init 46 = .ok (.dup, 1) := dk_89 (dk_at dksX12_init_1 22 rfl rfl)
theorem dX12_init_47 : decode cX12_init 47 = .ok (.bipush 7, 2) := dk_16 7 (dk_at dksX12_init_2 0 rfl rfl)
theorem dX12_init_49 : decode cX12_init 49 = .ok (.ldc 25, 2) := dk_18 25 (dk_at dksX12_init_2 2 rfl rfl)
theorem dX12_init_51 : decode cX12_init 51 = .ok (.aastore, 1) := dk_83 (dk_at dksX12_init_2 4 rfl rfl)
theorem dX12_init_52 : decode cX12_init 52 = .ok (.dup, 1) := dk_89 (dk_at dksX12_init_2 5 rfl rfl)
theorem dX12_init_53 : decode cX12_init 53 = .ok (.bipush 8, 2) := dk_16 8 (dk_at dksX12_init_2 6 rfl rfl)
theorem dX12_init_55 : decode cX12_init 55 = .ok (.ldc 27, 2) := dk_18 27 (dk_at dksX12_init_2 8 rfl rfl)
theorem dX12_init_57 : decode cX12_init 57 = .ok (.aastore, 1) := dk_83 (dk_at dksX12_init_2 10 rfl rfl)
theorem dX12_init_58 : decode cX12_init 58 = .ok (.putfield 29, 3) := dk_181 0 29 (dk_at dksX12_init_2 11 rfl rfl)
theorem dX12_init_61 : decode cX12_init 61 = .ok (.aload_n 0, 1) := dk_42 (dk_at dksX12_init_2 14 rfl rfl)
theorem dX12_init_62 : decode cX12_init 62 = .ok (.aload_n 1, 1) := dk_43 (dk_at dksX12_init_2 15 rfl rfl)
theorem dX12_init_63 : decode cX12_init 63 = .ok (.putfield 35, 3) := dk_181 0 35 (dk_at dksX12_init_2 16 rfl rfl)
theorem dX12_init_66 : decode cX12_init 66 = .ok (.return_, 1) := dk_177 (dk_at dksX12_init_2 19 rfl rfl)
abbrev cX12_orders : ByteArray := prog_11_method_11_code
def yX12_orders : MethodName := ⟨RX12, "orders", "()Ljava/util/ArrayList;"⟩
def dkwX12_orders_2 : List UInt8 := [185, 0, 43, 1, 0, 160, 0, 7, 4, 167, 0, 4, 3, 182, 0, 91, 43, 176]
abbrev dktX12_orders_2 : List UInt8 := dkwX12_orders_2 ++ []
def dkwX12_orders_1 : List UInt8 := [153, 0, 15, 43, 42, 182, 0, 137, 182, 0, 141, 87, 167, 255, 238, 42, 42, 180, 0, 39, 42, 180, 0, 35]
abbrev dktX12_orders_1 : List UInt8 := dkwX12_orders_1 ++ dktX12_orders_2
def dkwX12_orders_0 : List UInt8 := [187, 0, 134, 89, 183, 0, 136, 76, 43, 42, 182, 0, 137, 182, 0, 141, 87, 42, 16, 59, 182, 0, 99]
abbrev dktX12_orders_0 : List UInt8 := dkwX12_orders_0 ++ dktX12_orders_1
theorem dksX12_orders_0 : cX12_orders.data.toList.drop 0 = dktX12_orders_0 := by decide +kernel
theorem dksX12_orders_1 : cX12_orders.data.toList.drop 23 = dktX12_orders_1 := dk_seg dksX12_orders_0 23 rfl rfl
theorem dksX12_orders_2 : cX12_orders.data.toList.drop 47 = dktX12_orders_2 := dk_seg dksX12_orders_1 24 rfl rfl
theorem dX12_orders_0 : decode cX12_orders 0 = .ok (.new 134, 3) := dk_187 0 134 (dk_at dksX12_orders_0 0 rfl rfl)
theorem dX12_orders_3 : decode cX12_orders 3 = .ok (.dup, 1) := dk_89 (dk_at dksX12_orders_0 3 rfl rfl)
theorem dX12_orders_4 : decode cX12_orders 4 = .ok (.invokespecial 136, 3) := dk_183 0 136 (dk_at dksX12_orders_0 4 rfl rfl)
theorem dX12_orders_7 : decode cX12_orders 7 = .ok (.astore_n 1, 1) := dk_76 (dk_at dksX12_orders_0 7 rfl rfl)
theorem dX12_orders_8 : decode cX12_orders 8 = .ok (.aload_n 1, 1) := dk_43 (dk_at dksX12_orders_0 8 rfl rfl)
theorem dX12_orders_9 : decode cX12_orders 9 = .ok (.aload_n 0, 1) := dk_42 (dk_at dksX12_orders_0 9 rfl rfl)
theorem dX12_orders_10 : decode cX12_orders 10 = .ok (.invokevirtual 137, 3) := dk_182 0 137 (dk_at dksX12_orders_0 10 rfl rfl)
theorem dX12_orders_13 : decode cX12_orders 13 = .ok (.invokevirtual 141, 3) := dk_182 0 141 (dk_at dksX12_orders_0 13 rfl rfl)
theorem dX12_orders_16 : decode cX12_orders 16 = .ok (.pop, 1) := dk_87 (dk_at dksX12_orders_0 16 rfl rfl)
theorem dX12_orders_17 : decode cX12_orders 17 = .ok (.aload_n 0, 1) := dk_42 (dk_at dksX12_orders_0 17 rfl rfl)
theorem dX12_orders_18 : decode cX12_orders 18 = .ok (.bipush 59, 2) := dk_16 59 (dk_at dksX12_orders_0 18 rfl rfl)
theorem dX12_orders_20 : decode cX12_orders 20 = .ok (.invokevirtual 99, 3) := dk_182 0 99 (dk_at dksX12_orders_0 20 rfl rfl)
theorem dX12_orders_23 : decode cX12_orders 23 = .ok (.ifCond .eq 15, 3) := dk_153 0 15 (dk_at dksX12_orders_1 0 rfl rfl)
theorem dX12_orders_26 : decode cX12_orders 26 = .ok (.aload_n 1, 1) := dk_43 (dk_at dksX12_orders_1 3 rfl rfl)
theorem dX12_orders_27 : decode cX12_orders 27 = .ok (.aload_n 0, 1) := dk_42 (dk_at dksX12_orders_1 4 rfl rfl)
theorem dX12_orders_28 : decode cX12_orders 28 = .ok (.invokevirtual 137, 3) := dk_182 0 137 (dk_at dksX12_orders_1 5 rfl rfl)
theorem dX12_orders_31 : decode cX12_orders 31 = .ok (.invokevirtual 141, 3) := dk_182 0 141 (dk_at dksX12_orders_1 8 rfl rfl)
theorem dX12_orders_34 : decode cX12_orders 34 = .ok (.pop, 1) := dk_87 (dk_at dksX12_orders_1 11 rfl rfl)
theorem dX12_orders_35 : decode cX12_orders 35 = .ok (.goto (-18), 3) := dk_167 255 238 (dk_at dksX12_orders_1 12 rfl rfl)
theorem dX12_orders_38 : decode cX12_orders 38 = .ok (.aload_n 0, 1) := dk_42 (dk_at dksX12_orders_1 15 rfl rfl)
theorem dX12_orders_39 : decode cX12_orders 39 = .ok (.aload_n 0, 1) := dk_42 (dk_at dksX12_orders_1 16 rfl rfl)
theorem dX12_orders_40 : decode cX12_orders 40 = .ok (.getfield 39, 3) := dk_180 0 39 (dk_at dksX12_orders_1 17 rfl rfl)
theorem dX12_orders_43 : decode cX12_orders 43 = .ok (.aload_n 0, 1) := dk_42 (dk_at dksX12_orders_1 20 rfl rfl)
theorem dX12_orders_44 : decode cX12_orders 44 = .ok (.getfield 35, 3) := dk_180 0 35 (dk_at dksX12_orders_1 21 rfl rfl)
theorem dX12_orders_47 : decode cX12_orders 47 = .ok (.invokeinterface 43 1, 5) := by decide +kernel
theorem dX12_orders_52 : decode cX12_orders 52 = .ok (.if_icmp .ne 7, 3) := dk_160 0 7 (dk_at dksX12_orders_2 5 rfl rfl)
theorem dX12_orders_55 : decode cX12_orders 55 = .ok (.iconst 1, 1) := dk_4 (dk_at dksX12_orders_2 8 rfl rfl)
theorem dX12_orders_56 : decode cX12_orders 56 = .ok (.goto 4, 3) := dk_167 0 4 (dk_at dksX12_orders_2 9 rfl rfl)
theorem dX12_orders_59 : decode cX12_orders 59 = .ok (.iconst 0, 1) := dk_3 (dk_at dksX12_orders_2 12 rfl rfl)
theorem dX12_orders_60 : decode cX12_orders 60 = .ok (.invokevirtual 91, 3) := dk_182 0 91 (dk_at dksX12_orders_2 13 rfl rfl)
theorem dX12_orders_63 : decode cX12_orders 63 = .ok (.aload_n 1, 1) := dk_43 (dk_at dksX12_orders_2 16 rfl rfl)
theorem dX12_orders_64 : decode cX12_orders 64 = .ok (.areturn, 1) := dk_176 (dk_at dksX12_orders_2 17 rfl rfl)
abbrev cX12_order : ByteArray := prog_11_method_10_code
def yX12_order : MethodName := ⟨RX12, "order", "()LGargoyleCopyists$Order;"⟩
def dkwX12_order_8 : List UInt8 := [42, 4, 182, 0, 103, 181, 0, 128, 167, 0, 3, 43, 176]
abbrev dktX12_order_8 : List UInt8 := dkwX12_order_8 ++ []
def dkwX12_order_7 : List UInt8 := [43, 42, 16, 58, 182, 0, 124, 181, 0, 128, 43, 42, 16, 46, 182, 0, 124, 181, 0, 131, 167, 0, 15, 43]
abbrev dktX12_order_7 : List UInt8 := dkwX12_order_7 ++ dktX12_order_8
def dkwX12_order_6 : List UInt8 := [171, 0, 0, 0, 0, 61, 0, 0, 0, 2, 0, 0, 0, 0, 0, 0, 0, 26, 0, 0, 0, 1, 0, 0, 0, 49]
abbrev dktX12_order_6 : List UInt8 := dkwX12_order_6 ++ dktX12_order_7
def dkwX12_order_5 : List UInt8 := [62, 29]
abbrev dktX12_order_5 : List UInt8 := dkwX12_order_5 ++ dktX12_order_6
def dkwX12_order_4 : List UInt8 := [44, 18, 15, 182, 0, 65, 153, 0, 19, 3, 62, 167, 0, 14, 44, 18, 25, 182, 0, 65, 153, 0, 5, 4]
abbrev dktX12_order_4 : List UInt8 := dkwX12_order_4 ++ dktX12_order_5
def dkwX12_order_3 : List UInt8 := [171, 0, 0, 0, 0, 0, 0, 53, 0, 0, 0, 2, 0, 46, 198, 30, 0, 0, 0, 28, 0, 53, 231, 31, 0, 0, 0, 42]
abbrev dktX12_order_3 : List UInt8 := dkwX12_order_3 ++ dktX12_order_4
def dkwX12_order_2 : List UInt8 := [182, 0, 121]
abbrev dktX12_order_2 : List UInt8 := dkwX12_order_2 ++ dktX12_order_3
def dkwX12_order_1 : List UInt8 := [153, 0, 7, 5, 167, 0, 4, 4, 182, 0, 103, 181, 0, 118, 43, 180, 0, 115, 77, 2, 62, 44]
abbrev dktX12_order_1 : List UInt8 := dkwX12_order_1 ++ dktX12_order_2
def dkwX12_order_0 : List UInt8 := [187, 0, 107, 89, 42, 182, 0, 109, 183, 0, 112, 76, 43, 42, 43, 180, 0, 115, 18, 27, 182, 0, 65]
abbrev dktX12_order_0 : List UInt8 := dkwX12_order_0 ++ dktX12_order_1
theorem dksX12_order_0 : cX12_order.data.toList.drop 0 = dktX12_order_0 := by decide +kernel
theorem dksX12_order_1 : cX12_order.data.toList.drop 23 = dktX12_order_1 := dk_seg dksX12_order_0 23 rfl rfl
theorem dksX12_order_2 : cX12_order.data.toList.drop 45 = dktX12_order_2 := dk_seg dksX12_order_1 22 rfl rfl
theorem dksX12_order_3 : cX12_order.data.toList.drop 48 = dktX12_order_3 := dk_seg dksX12_order_2 3 rfl rfl
theorem dksX12_order_4 : cX12_order.data.toList.drop 76 = dktX12_order_4 := dk_seg dksX12_order_3 28 rfl rfl
theorem dksX12_order_5 : cX12_order.data.toList.drop 100 = dktX12_order_5 := dk_seg dksX12_order_4 24 rfl rfl
theorem dksX12_order_6 : cX12_order.data.toList.drop 102 = dktX12_order_6 := dk_seg dksX12_order_5 2 rfl rfl
theorem dksX12_order_7 : cX12_order.data.toList.drop 128 = dktX12_order_7 := dk_seg dksX12_order_6 26 rfl rfl
theorem dksX12_order_8 : cX12_order.data.toList.drop 152 = dktX12_order_8 := dk_seg dksX12_order_7 24 rfl rfl
theorem dX12_order_0 : decode cX12_order 0 = .ok (.new 107, 3) := dk_187 0 107 (dk_at dksX12_order_0 0 rfl rfl)
theorem dX12_order_3 : decode cX12_order 3 = .ok (.dup, 1) := dk_89 (dk_at dksX12_order_0 3 rfl rfl)
theorem dX12_order_4 : decode cX12_order 4 = .ok (.aload_n 0, 1) := dk_42 (dk_at dksX12_order_0 4 rfl rfl)
theorem dX12_order_5 : decode cX12_order 5 = .ok (.invokevirtual 109, 3) := dk_182 0 109 (dk_at dksX12_order_0 5 rfl rfl)
theorem dX12_order_8 : decode cX12_order 8 = .ok (.invokespecial 112, 3) := dk_183 0 112 (dk_at dksX12_order_0 8 rfl rfl)
theorem dX12_order_11 : decode cX12_order 11 = .ok (.astore_n 1, 1) := dk_76 (dk_at dksX12_order_0 11 rfl rfl)
theorem dX12_order_12 : decode cX12_order 12 = .ok (.aload_n 1, 1) := dk_43 (dk_at dksX12_order_0 12 rfl rfl)
theorem dX12_order_13 : decode cX12_order 13 = .ok (.aload_n 0, 1) := dk_42 (dk_at dksX12_order_0 13 rfl rfl)
theorem dX12_order_14 : decode cX12_order 14 = .ok (.aload_n 1, 1) := dk_43 (dk_at dksX12_order_0 14 rfl rfl)
theorem dX12_order_15 : decode cX12_order 15 = .ok (.getfield 115, 3) := dk_180 0 115 (dk_at dksX12_order_0 15 rfl rfl)
theorem dX12_order_18 : decode cX12_order 18 = .ok (.ldc 27, 2) := dk_18 27 (dk_at dksX12_order_0 18 rfl rfl)
theorem dX12_order_20 : decode cX12_order 20 = .ok (.invokevirtual 65, 3) := dk_182 0 65 (dk_at dksX12_order_0 20 rfl rfl)
theorem dX12_order_23 : decode cX12_order 23 = .ok (.ifCond .eq 7, 3) := dk_153 0 7 (dk_at dksX12_order_1 0 rfl rfl)
theorem dX12_order_26 : decode cX12_order 26 = .ok (.iconst 2, 1) := dk_5 (dk_at dksX12_order_1 3 rfl rfl)
theorem dX12_order_27 : decode cX12_order 27 = .ok (.goto 4, 3) := dk_167 0 4 (dk_at dksX12_order_1 4 rfl rfl)
theorem dX12_order_30 : decode cX12_order 30 = .ok (.iconst 1, 1) := dk_4 (dk_at dksX12_order_1 7 rfl rfl)
theorem dX12_order_31 : decode cX12_order 31 = .ok (.invokevirtual 103, 3) := dk_182 0 103 (dk_at dksX12_order_1 8 rfl rfl)
theorem dX12_order_34 : decode cX12_order 34 = .ok (.putfield 118, 3) := dk_181 0 118 (dk_at dksX12_order_1 11 rfl rfl)
theorem dX12_order_37 : decode cX12_order 37 = .ok (.aload_n 1, 1) := dk_43 (dk_at dksX12_order_1 14 rfl rfl)
theorem dX12_order_38 : decode cX12_order 38 = .ok (.getfield 115, 3) := dk_180 0 115 (dk_at dksX12_order_1 15 rfl rfl)
theorem dX12_order_41 : decode cX12_order 41 = .ok (.astore_n 2, 1) := dk_77 (dk_at dksX12_order_1 18 rfl rfl)
theorem dX12_order_42 : decode cX12_order 42 = .ok (.iconst (-1), 1) := dk_2 (dk_at dksX12_order_1 19 rfl rfl)
theorem dX12_order_43 : decode cX12_order 43 = .ok (.istore_n 3, 1) := dk_62 (dk_at dksX12_order_1 20 rfl rfl)
theorem dX12_order_44 : decode cX12_order 44 = .ok (.aload_n 2, 1) := dk_44 (dk_at dksX12_order_1 21 rfl rfl)
theorem dX12_order_45 : decode cX12_order 45 = .ok (.invokevirtual 121, 3) := dk_182 0 121 (dk_at dksX12_order_2 0 rfl rfl)
theorem dX12_order_48 : decode cX12_order 48 = .ok (.lookupswitch 53 #[(3065374, 28), (3532575, 42)], 28) := by decide +kernel
theorem dX12_order_76 : decode cX12_order 76 = .ok (.aload_n 2, 1) := dk_44 (dk_at dksX12_order_4 0 rfl rfl)
theorem dX12_order_77 : decode cX12_order 77 = .ok (.ldc 15, 2) := dk_18 15 (dk_at dksX12_order_4 1 rfl rfl)
theorem dX12_order_79 : decode cX12_order 79 = .ok (.invokevirtual 65, 3) := dk_182 0 65 (dk_at dksX12_order_4 3 rfl rfl)
theorem dX12_order_82 : decode cX12_order 82 = .ok (.ifCond .eq 19, 3) := dk_153 0 19 (dk_at dksX12_order_4 6 rfl rfl)
theorem dX12_order_85 : decode cX12_order 85 = .ok (.iconst 0, 1) := dk_3 (dk_at dksX12_order_4 9 rfl rfl)
theorem dX12_order_86 : decode cX12_order 86 = .ok (.istore_n 3, 1) := dk_62 (dk_at dksX12_order_4 10 rfl rfl)
theorem dX12_order_87 : decode cX12_order 87 = .ok (.goto 14, 3) := dk_167 0 14 (dk_at dksX12_order_4 11 rfl rfl)
theorem dX12_order_90 : decode cX12_order 90 = .ok (.aload_n 2, 1) := dk_44 (dk_at dksX12_order_4 14 rfl rfl)
theorem dX12_order_91 : decode cX12_order 91 = .ok (.ldc 25, 2) := dk_18 25 (dk_at dksX12_order_4 15 rfl rfl)
theorem dX12_order_93 : decode cX12_order 93 = .ok (.invokevirtual 65, 3) := dk_182 0 65 (dk_at dksX12_order_4 17 rfl rfl)
theorem dX12_order_96 : decode cX12_order 96 = .ok (.ifCond .eq 5, 3) := dk_153 0 5 (dk_at dksX12_order_4 20 rfl rfl)
theorem dX12_order_99 : decode cX12_order 99 = .ok (.iconst 1, 1) := dk_4 (dk_at dksX12_order_4 23 rfl rfl)
theorem dX12_order_100 : decode cX12_order 100 = .ok (.istore_n 3, 1) := dk_62 (dk_at dksX12_order_5 0 rfl rfl)
theorem dX12_order_101 : decode cX12_order 101 = .ok (.iload_n 3, 1) := dk_29 (dk_at dksX12_order_5 1 rfl rfl)
theorem dX12_order_102 : decode cX12_order 102 = .ok (.lookupswitch 61 #[(0, 26), (1, 49)], 26) := by decide +kernel
theorem dX12_order_128 : decode cX12_order 128 = .ok (.aload_n 1, 1) := dk_43 (dk_at dksX12_order_7 0 rfl rfl)
theorem dX12_order_129 : decode cX12_order 129 = .ok (.aload_n 0, 1) := dk_42 (dk_at dksX12_order_7 1 rfl rfl)
theorem dX12_order_130 : decode cX12_order 130 = .ok (.bipush 58, 2) := dk_16 58 (dk_at dksX12_order_7 2 rfl rfl)
theorem dX12_order_132 : decode cX12_order 132 = .ok (.invokevirtual 124, 3) := dk_182 0 124 (dk_at dksX12_order_7 4 rfl rfl)
theorem dX12_order_135 : decode cX12_order 135 = .ok (.putfield 128, 3) := dk_181 0 128 (dk_at dksX12_order_7 7 rfl rfl)
theorem dX12_order_138 : decode cX12_order 138 = .ok (.aload_n 1, 1) := dk_43 (dk_at dksX12_order_7 10 rfl rfl)
theorem dX12_order_139 : decode cX12_order 139 = .ok (.aload_n 0, 1) := dk_42 (dk_at dksX12_order_7 11 rfl rfl)
theorem dX12_order_140 : decode cX12_order 140 = .ok (.bipush 46, 2) := dk_16 46 (dk_at dksX12_order_7 12 rfl rfl)
theorem dX12_order_142 : decode cX12_order 142 = .ok (.invokevirtual 124, 3) := dk_182 0 124 (dk_at dksX12_order_7 14 rfl rfl)
theorem dX12_order_145 : decode cX12_order 145 = .ok (.putfield 131, 3) := dk_181 0 131 (dk_at dksX12_order_7 17 rfl rfl)
theorem dX12_order_148 : decode cX12_order 148 = .ok (.goto 15, 3) := dk_167 0 15 (dk_at dksX12_order_7 20 rfl rfl)
theorem dX12_order_151 : decode cX12_order 151 = .ok (.aload_n 1, 1) := dk_43 (dk_at dksX12_order_7 23 rfl rfl)
theorem dX12_order_152 : decode cX12_order 152 = .ok (.aload_n 0, 1) := dk_42 (dk_at dksX12_order_8 0 rfl rfl)
theorem dX12_order_153 : decode cX12_order 153 = .ok (.iconst 1, 1) := dk_4 (dk_at dksX12_order_8 1 rfl rfl)
theorem dX12_order_154 : decode cX12_order 154 = .ok (.invokevirtual 103, 3) := dk_182 0 103 (dk_at dksX12_order_8 2 rfl rfl)
theorem dX12_order_157 : decode cX12_order 157 = .ok (.putfield 128, 3) := dk_181 0 128 (dk_at dksX12_order_8 5 rfl rfl)
theorem dX12_order_160 : decode cX12_order 160 = .ok (.goto 3, 3) := dk_167 0 3 (dk_at dksX12_order_8 8 rfl rfl)
theorem dX12_order_163 : decode cX12_order 163 = .ok (.aload_n 1, 1) := dk_43 (dk_at dksX12_order_8 11 rfl rfl)
theorem dX12_order_164 : decode cX12_order 164 = .ok (.areturn, 1) := dk_176 (dk_at dksX12_order_8 12 rfl rfl)
abbrev cX12_word : ByteArray := prog_11_method_7_code
def yX12_word : MethodName := ⟨RX12, "word", "()Ljava/lang/String;"⟩
def dkwX12_word_4 : List UInt8 := [181, 0, 39, 167, 255, 168, 43, 176]
abbrev dktX12_word_4 : List UInt8 := dkwX12_word_4 ++ []
def dkwX12_word_3 : List UInt8 := [182, 0, 77, 42, 182, 0, 58, 146, 182, 0, 81, 182, 0, 84, 76, 42, 89, 180, 0, 39, 4, 96]
abbrev dktX12_word_3 : List UInt8 := dkwX12_word_3 ++ dktX12_word_4
def dkwX12_word_2 : List UInt8 := [182, 0, 88, 153, 0, 7, 4, 167, 0, 4, 3, 182, 0, 91, 187, 0, 74, 89, 183, 0, 76, 43]
abbrev dktX12_word_2 : List UInt8 := dkwX12_word_2 ++ dktX12_word_3
def dkwX12_word_1 : List UInt8 := [187, 0, 74, 89, 183, 0, 76, 43, 182, 0, 77, 42, 182, 0, 58, 146, 182, 0, 81, 182, 0, 84]
abbrev dktX12_word_1 : List UInt8 := dkwX12_word_1 ++ dktX12_word_2
def dkwX12_word_0 : List UInt8 := [18, 69, 76, 42, 43, 182, 0, 71, 154, 0, 86, 42, 42, 182, 0, 58, 16, 245, 159, 0, 36, 42]
abbrev dktX12_word_0 : List UInt8 := dkwX12_word_0 ++ dktX12_word_1
theorem dksX12_word_0 : cX12_word.data.toList.drop 0 = dktX12_word_0 := by decide +kernel
theorem dksX12_word_1 : cX12_word.data.toList.drop 22 = dktX12_word_1 := dk_seg dksX12_word_0 22 rfl rfl
theorem dksX12_word_2 : cX12_word.data.toList.drop 44 = dktX12_word_2 := dk_seg dksX12_word_1 22 rfl rfl
theorem dksX12_word_3 : cX12_word.data.toList.drop 66 = dktX12_word_3 := dk_seg dksX12_word_2 22 rfl rfl
theorem dksX12_word_4 : cX12_word.data.toList.drop 88 = dktX12_word_4 := dk_seg dksX12_word_3 22 rfl rfl
theorem dX12_word_0 : decode cX12_word 0 = .ok (.ldc 69, 2) := dk_18 69 (dk_at dksX12_word_0 0 rfl rfl)
theorem dX12_word_2 : decode cX12_word 2 = .ok (.astore_n 1, 1) := dk_76 (dk_at dksX12_word_0 2 rfl rfl)
theorem dX12_word_3 : decode cX12_word 3 = .ok (.aload_n 0, 1) := dk_42 (dk_at dksX12_word_0 3 rfl rfl)
theorem dX12_word_4 : decode cX12_word 4 = .ok (.aload_n 1, 1) := dk_43 (dk_at dksX12_word_0 4 rfl rfl)
theorem dX12_word_5 : decode cX12_word 5 = .ok (.invokevirtual 71, 3) := dk_182 0 71 (dk_at dksX12_word_0 5 rfl rfl)
theorem dX12_word_8 : decode cX12_word 8 = .ok (.ifCond .ne 86, 3) := dk_154 0 86 (dk_at dksX12_word_0 8 rfl rfl)
theorem dX12_word_11 : decode cX12_word 11 = .ok (.aload_n 0, 1) := dk_42 (dk_at dksX12_word_0 11 rfl rfl)
theorem dX12_word_12 : decode cX12_word 12 = .ok (.aload_n 0, 1) := dk_42 (dk_at dksX12_word_0 12 rfl rfl)
theorem dX12_word_13 : decode cX12_word 13 = .ok (.invokevirtual 58, 3) := dk_182 0 58 (dk_at dksX12_word_0 13 rfl rfl)
theorem dX12_word_16 : decode cX12_word 16 = .ok (.bipush (-11), 2) := dk_16 245 (dk_at dksX12_word_0 16 rfl rfl)
theorem dX12_word_18 : decode cX12_word 18 = .ok (.if_icmp .eq 36, 3) := dk_159 0 36 (dk_at dksX12_word_0 18 rfl rfl)
theorem dX12_word_21 : decode cX12_word 21 = .ok (.aload_n 0, 1) := dk_42 (dk_at dksX12_word_0 21 rfl rfl)
theorem dX12_word_22 : decode cX12_word 22 = .ok (.new 74, 3) := dk_187 0 74 (dk_at dksX12_word_1 0 rfl rfl)
theorem dX12_word_25 : decode cX12_word 25 = .ok (.dup, 1) := dk_89 (dk_at dksX12_word_1 3 rfl rfl)
theorem dX12_word_26 : decode cX12_word 26 = .ok (.invokespecial 76, 3) := dk_183 0 76 (dk_at dksX12_word_1 4 rfl rfl)
theorem dX12_word_29 : decode cX12_word 29 = .ok (.aload_n 1, 1) := dk_43 (dk_at dksX12_word_1 7 rfl rfl)
theorem dX12_word_30 : decode cX12_word 30 = .ok (.invokevirtual 77, 3) := dk_182 0 77 (dk_at dksX12_word_1 8 rfl rfl)
theorem dX12_word_33 : decode cX12_word 33 = .ok (.aload_n 0, 1) := dk_42 (dk_at dksX12_word_1 11 rfl rfl)
theorem dX12_word_34 : decode cX12_word 34 = .ok (.invokevirtual 58, 3) := dk_182 0 58 (dk_at dksX12_word_1 12 rfl rfl)
theorem dX12_word_37 : decode cX12_word 37 = .ok (.i2c, 1) := dk_146 (dk_at dksX12_word_1 15 rfl rfl)
theorem dX12_word_38 : decode cX12_word 38 = .ok (.invokevirtual 81, 3) := dk_182 0 81 (dk_at dksX12_word_1 16 rfl rfl)
theorem dX12_word_41 : decode cX12_word 41 = .ok (.invokevirtual 84, 3) := dk_182 0 84 (dk_at dksX12_word_1 19 rfl rfl)
theorem dX12_word_44 : decode cX12_word 44 = .ok (.invokevirtual 88, 3) := dk_182 0 88 (dk_at dksX12_word_2 0 rfl rfl)
theorem dX12_word_47 : decode cX12_word 47 = .ok (.ifCond .eq 7, 3) := dk_153 0 7 (dk_at dksX12_word_2 3 rfl rfl)
theorem dX12_word_50 : decode cX12_word 50 = .ok (.iconst 1, 1) := dk_4 (dk_at dksX12_word_2 6 rfl rfl)
theorem dX12_word_51 : decode cX12_word 51 = .ok (.goto 4, 3) := dk_167 0 4 (dk_at dksX12_word_2 7 rfl rfl)
theorem dX12_word_54 : decode cX12_word 54 = .ok (.iconst 0, 1) := dk_3 (dk_at dksX12_word_2 10 rfl rfl)
theorem dX12_word_55 : decode cX12_word 55 = .ok (.invokevirtual 91, 3) := dk_182 0 91 (dk_at dksX12_word_2 11 rfl rfl)
theorem dX12_word_58 : decode cX12_word 58 = .ok (.new 74, 3) := dk_187 0 74 (dk_at dksX12_word_2 14 rfl rfl)
theorem dX12_word_61 : decode cX12_word 61 = .ok (.dup, 1) := dk_89 (dk_at dksX12_word_2 17 rfl rfl)
theorem dX12_word_62 : decode cX12_word 62 = .ok (.invokespecial 76, 3) := dk_183 0 76 (dk_at dksX12_word_2 18 rfl rfl)
theorem dX12_word_65 : decode cX12_word 65 = .ok (.aload_n 1, 1) := dk_43 (dk_at dksX12_word_2 21 rfl rfl)
theorem dX12_word_66 : decode cX12_word 66 = .ok (.invokevirtual 77, 3) := dk_182 0 77 (dk_at dksX12_word_3 0 rfl rfl)
theorem dX12_word_69 : decode cX12_word 69 = .ok (.aload_n 0, 1) := dk_42 (dk_at dksX12_word_3 3 rfl rfl)
theorem dX12_word_70 : decode cX12_word 70 = .ok (.invokevirtual 58, 3) := dk_182 0 58 (dk_at dksX12_word_3 4 rfl rfl)
theorem dX12_word_73 : decode cX12_word 73 = .ok (.i2c, 1) := dk_146 (dk_at dksX12_word_3 7 rfl rfl)
theorem dX12_word_74 : decode cX12_word 74 = .ok (.invokevirtual 81, 3) := dk_182 0 81 (dk_at dksX12_word_3 8 rfl rfl)
theorem dX12_word_77 : decode cX12_word 77 = .ok (.invokevirtual 84, 3) := dk_182 0 84 (dk_at dksX12_word_3 11 rfl rfl)
theorem dX12_word_80 : decode cX12_word 80 = .ok (.astore_n 1, 1) := dk_76 (dk_at dksX12_word_3 14 rfl rfl)
theorem dX12_word_81 : decode cX12_word 81 = .ok (.aload_n 0, 1) := dk_42 (dk_at dksX12_word_3 15 rfl rfl)
theorem dX12_word_82 : decode cX12_word 82 = .ok (.dup, 1) := dk_89 (dk_at dksX12_word_3 16 rfl rfl)
theorem dX12_word_83 : decode cX12_word 83 = .ok (.getfield 39, 3) := dk_180 0 39 (dk_at dksX12_word_3 17 rfl rfl)
theorem dX12_word_86 : decode cX12_word 86 = .ok (.iconst 1, 1) := dk_4 (dk_at dksX12_word_3 20 rfl rfl)
theorem dX12_word_87 : decode cX12_word 87 = .ok (.iadd, 1) := dk_96 (dk_at dksX12_word_3 21 rfl rfl)
theorem dX12_word_88 : decode cX12_word 88 = .ok (.putfield 39, 3) := dk_181 0 39 (dk_at dksX12_word_4 0 rfl rfl)
theorem dX12_word_91 : decode cX12_word 91 = .ok (.goto (-88), 3) := dk_167 255 168 (dk_at dksX12_word_4 3 rfl rfl)
theorem dX12_word_94 : decode cX12_word 94 = .ok (.aload_n 1, 1) := dk_43 (dk_at dksX12_word_4 6 rfl rfl)
theorem dX12_word_95 : decode cX12_word 95 = .ok (.areturn, 1) := dk_176 (dk_at dksX12_word_4 7 rfl rfl)
abbrev cX12_isWord : ByteArray := prog_11_method_6_code
def yX12_isWord : MethodName := ⟨RX12, "isWord", "(Ljava/lang/String;)Z"⟩
def dkwX12_isWord_1 : List UInt8 := [50, 58, 6, 28, 25, 6, 43, 182, 0, 65, 128, 61, 132, 5, 1, 167, 255, 231, 28, 172]
abbrev dktX12_isWord_1 : List UInt8 := dkwX12_isWord_1 ++ []
def dkwX12_isWord_0 : List UInt8 := [3, 61, 42, 180, 0, 29, 78, 45, 190, 54, 4, 3, 54, 5, 21, 5, 21, 4, 162, 0, 24, 45, 21, 5]
abbrev dktX12_isWord_0 : List UInt8 := dkwX12_isWord_0 ++ dktX12_isWord_1
theorem dksX12_isWord_0 : cX12_isWord.data.toList.drop 0 = dktX12_isWord_0 := by decide +kernel
theorem dksX12_isWord_1 : cX12_isWord.data.toList.drop 24 = dktX12_isWord_1 := dk_seg dksX12_isWord_0 24 rfl rfl
theorem dX12_isWord_0 : decode cX12_isWord 0 = .ok (.iconst 0, 1) := dk_3 (dk_at dksX12_isWord_0 0 rfl rfl)
theorem dX12_isWord_1 : decode cX12_isWord 1 = .ok (.istore_n 2, 1) := dk_61 (dk_at dksX12_isWord_0 1 rfl rfl)
theorem dX12_isWord_2 : decode cX12_isWord 2 = .ok (.aload_n 0, 1) := dk_42 (dk_at dksX12_isWord_0 2 rfl rfl)
theorem dX12_isWord_3 : decode cX12_isWord 3 = .ok (.getfield 29, 3) := dk_180 0 29 (dk_at dksX12_isWord_0 3 rfl rfl)
theorem dX12_isWord_6 : decode cX12_isWord 6 = .ok (.astore_n 3, 1) := dk_78 (dk_at dksX12_isWord_0 6 rfl rfl)
theorem dX12_isWord_7 : decode cX12_isWord 7 = .ok (.aload_n 3, 1) := dk_45 (dk_at dksX12_isWord_0 7 rfl rfl)
theorem dX12_isWord_8 : decode cX12_isWord 8 = .ok (.arraylength, 1) := dk_190 (dk_at dksX12_isWord_0 8 rfl rfl)
theorem dX12_isWord_9 : decode cX12_isWord 9 = .ok (.istore 4, 2) := dk_54 4 (dk_at dksX12_isWord_0 9 rfl rfl)
theorem dX12_isWord_11 : decode cX12_isWord 11 = .ok (.iconst 0, 1) := dk_3 (dk_at dksX12_isWord_0 11 rfl rfl)
theorem dX12_isWord_12 : decode cX12_isWord 12 = .ok (.istore 5, 2) := dk_54 5 (dk_at dksX12_isWord_0 12 rfl rfl)
theorem dX12_isWord_14 : decode cX12_isWord 14 = .ok (.iload 5, 2) := dk_21 5 (dk_at dksX12_isWord_0 14 rfl rfl)
theorem dX12_isWord_16 : decode cX12_isWord 16 = .ok (.iload 4, 2) := dk_21 4 (dk_at dksX12_isWord_0 16 rfl rfl)
theorem dX12_isWord_18 : decode cX12_isWord 18 = .ok (.if_icmp .ge 24, 3) := dk_162 0 24 (dk_at dksX12_isWord_0 18 rfl rfl)
theorem dX12_isWord_21 : decode cX12_isWord 21 = .ok (.aload_n 3, 1) := dk_45 (dk_at dksX12_isWord_0 21 rfl rfl)
theorem dX12_isWord_22 : decode cX12_isWord 22 = .ok (.iload 5, 2) := dk_21 5 (dk_at dksX12_isWord_0 22 rfl rfl)
theorem dX12_isWord_24 : decode cX12_isWord 24 = .ok (.aaload, 1) := dk_50 (dk_at dksX12_isWord_1 0 rfl rfl)
theorem dX12_isWord_25 : decode cX12_isWord 25 = .ok (.astore 6, 2) := dk_58 6 (dk_at dksX12_isWord_1 1 rfl rfl)
theorem dX12_isWord_27 : decode cX12_isWord 27 = .ok (.iload_n 2, 1) := dk_28 (dk_at dksX12_isWord_1 3 rfl rfl)
theorem dX12_isWord_28 : decode cX12_isWord 28 = .ok (.aload 6, 2) := dk_25 6 (dk_at dksX12_isWord_1 4 rfl rfl)
theorem dX12_isWord_30 : decode cX12_isWord 30 = .ok (.aload_n 1, 1) := dk_43 (dk_at dksX12_isWord_1 6 rfl rfl)
theorem dX12_isWord_31 : decode cX12_isWord 31 = .ok (.invokevirtual 65, 3) := dk_182 0 65 (dk_at dksX12_isWord_1 7 rfl rfl)
theorem dX12_isWord_34 : decode cX12_isWord 34 = .ok (.ior, 1) := dk_128 (dk_at dksX12_isWord_1 10 rfl rfl)
theorem dX12_isWord_35 : decode cX12_isWord 35 = .ok (.istore_n 2, 1) := dk_61 (dk_at dksX12_isWord_1 11 rfl rfl)
theorem dX12_isWord_36 : decode cX12_isWord 36 = .ok (.iinc 5 1, 3) := dk_132 5 1 (dk_at dksX12_isWord_1 12 rfl rfl)
theorem dX12_isWord_39 : decode cX12_isWord 39 = .ok (.goto (-25), 3) := dk_167 255 231 (dk_at dksX12_isWord_1 15 rfl rfl)
theorem dX12_isWord_42 : decode cX12_isWord 42 = .ok (.iload_n 2, 1) := dk_28 (dk_at dksX12_isWord_1 18 rfl rfl)
theorem dX12_isWord_43 : decode cX12_isWord 43 = .ok (.ireturn, 1) := dk_172 (dk_at dksX12_isWord_1 19 rfl rfl)
abbrev cX12_here : ByteArray := prog_11_method_2_code
def yX12_here : MethodName := ⟨RX12, "here", "()I"⟩
def dkwX12_here_1 : List UInt8 := [185, 0, 49, 2, 0, 167, 0, 5, 16, 245, 172]
abbrev dktX12_here_1 : List UInt8 := dkwX12_here_1 ++ []
def dkwX12_here_0 : List UInt8 := [42, 180, 0, 39, 42, 180, 0, 35, 185, 0, 43, 1, 0, 162, 0, 19, 42, 180, 0, 35, 42, 180, 0, 39]
abbrev dktX12_here_0 : List UInt8 := dkwX12_here_0 ++ dktX12_here_1
theorem dksX12_here_0 : cX12_here.data.toList.drop 0 = dktX12_here_0 := by decide +kernel
theorem dksX12_here_1 : cX12_here.data.toList.drop 24 = dktX12_here_1 := dk_seg dksX12_here_0 24 rfl rfl
theorem dX12_here_0 : decode cX12_here 0 = .ok (.aload_n 0, 1) := dk_42 (dk_at dksX12_here_0 0 rfl rfl)
theorem dX12_here_1 : decode cX12_here 1 = .ok (.getfield 39, 3) := dk_180 0 39 (dk_at dksX12_here_0 1 rfl rfl)
theorem dX12_here_4 : decode cX12_here 4 = .ok (.aload_n 0, 1) := dk_42 (dk_at dksX12_here_0 4 rfl rfl)
theorem dX12_here_5 : decode cX12_here 5 = .ok (.getfield 35, 3) := dk_180 0 35 (dk_at dksX12_here_0 5 rfl rfl)
theorem dX12_here_8 : decode cX12_here 8 = .ok (.invokeinterface 43 1, 5) := by decide +kernel
theorem dX12_here_13 : decode cX12_here 13 = .ok (.if_icmp .ge 19, 3) := dk_162 0 19 (dk_at dksX12_here_0 13 rfl rfl)
theorem dX12_here_16 : decode cX12_here 16 = .ok (.aload_n 0, 1) := dk_42 (dk_at dksX12_here_0 16 rfl rfl)
theorem dX12_here_17 : decode cX12_here 17 = .ok (.getfield 35, 3) := dk_180 0 35 (dk_at dksX12_here_0 17 rfl rfl)
theorem dX12_here_20 : decode cX12_here 20 = .ok (.aload_n 0, 1) := dk_42 (dk_at dksX12_here_0 20 rfl rfl)
theorem dX12_here_21 : decode cX12_here 21 = .ok (.getfield 39, 3) := dk_180 0 39 (dk_at dksX12_here_0 21 rfl rfl)
theorem dX12_here_24 : decode cX12_here 24 = .ok (.invokeinterface 49 2, 5) := by decide +kernel
theorem dX12_here_29 : decode cX12_here 29 = .ok (.goto 5, 3) := dk_167 0 5 (dk_at dksX12_here_1 5 rfl rfl)
theorem dX12_here_32 : decode cX12_here 32 = .ok (.bipush (-11), 2) := dk_16 245 (dk_at dksX12_here_1 8 rfl rfl)
theorem dX12_here_34 : decode cX12_here 34 = .ok (.ireturn, 1) := dk_172 (dk_at dksX12_here_1 10 rfl rfl)
abbrev cX12_isBeginning : ByteArray := prog_11_method_5_code
def yX12_isBeginning : MethodName := ⟨RX12, "isBeginning", "(Ljava/lang/String;)Z"⟩
def dkwX12_isBeginning_1 : List UInt8 := [50, 58, 6, 28, 25, 6, 43, 182, 0, 61, 128, 61, 132, 5, 1, 167, 255, 231, 28, 172]
abbrev dktX12_isBeginning_1 : List UInt8 := dkwX12_isBeginning_1 ++ []
def dkwX12_isBeginning_0 : List UInt8 := [3, 61, 42, 180, 0, 29, 78, 45, 190, 54, 4, 3, 54, 5, 21, 5, 21, 4, 162, 0, 24, 45, 21, 5]
abbrev dktX12_isBeginning_0 : List UInt8 := dkwX12_isBeginning_0 ++ dktX12_isBeginning_1
theorem dksX12_isBeginning_0 : cX12_isBeginning.data.toList.drop 0 = dktX12_isBeginning_0 := by decide +kernel
theorem dksX12_isBeginning_1 : cX12_isBeginning.data.toList.drop 24 = dktX12_isBeginning_1 := dk_seg dksX12_isBeginning_0 24 rfl rfl
theorem dX12_isBeginning_0 : decode cX12_isBeginning 0 = .ok (.iconst 0, 1) := dk_3 (dk_at dksX12_isBeginning_0 0 rfl rfl)
theorem dX12_isBeginning_1 : decode cX12_isBeginning 1 = .ok (.istore_n 2, 1) := dk_61 (dk_at dksX12_isBeginning_0 1 rfl rfl)
theorem dX12_isBeginning_2 : decode cX12_isBeginning 2 = .ok (.aload_n 0, 1) := dk_42 (dk_at dksX12_isBeginning_0 2 rfl rfl)
theorem dX12_isBeginning_3 : decode cX12_isBeginning 3 = .ok (.getfield 29, 3) := dk_180 0 29 (dk_at dksX12_isBeginning_0 3 rfl rfl)
theorem dX12_isBeginning_6 : decode cX12_isBeginning 6 = .ok (.astore_n 3, 1) := dk_78 (dk_at dksX12_isBeginning_0 6 rfl rfl)
theorem dX12_isBeginning_7 : decode cX12_isBeginning 7 = .ok (.aload_n 3, 1) := dk_45 (dk_at dksX12_isBeginning_0 7 rfl rfl)
theorem dX12_isBeginning_8 : decode cX12_isBeginning 8 = .ok (.arraylength, 1) := dk_190 (dk_at dksX12_isBeginning_0 8 rfl rfl)
theorem dX12_isBeginning_9 : decode cX12_isBeginning 9 = .ok (.istore 4, 2) := dk_54 4 (dk_at dksX12_isBeginning_0 9 rfl rfl)
theorem dX12_isBeginning_11 : decode cX12_isBeginning 11 = .ok (.iconst 0, 1) := dk_3 (dk_at dksX12_isBeginning_0 11 rfl rfl)
theorem dX12_isBeginning_12 : decode cX12_isBeginning 12 = .ok (.istore 5, 2) := dk_54 5 (dk_at dksX12_isBeginning_0 12 rfl rfl)
theorem dX12_isBeginning_14 : decode cX12_isBeginning 14 = .ok (.iload 5, 2) := dk_21 5 (dk_at dksX12_isBeginning_0 14 rfl rfl)
theorem dX12_isBeginning_16 : decode cX12_isBeginning 16 = .ok (.iload 4, 2) := dk_21 4 (dk_at dksX12_isBeginning_0 16 rfl rfl)
theorem dX12_isBeginning_18 : decode cX12_isBeginning 18 = .ok (.if_icmp .ge 24, 3) := dk_162 0 24 (dk_at dksX12_isBeginning_0 18 rfl rfl)
theorem dX12_isBeginning_21 : decode cX12_isBeginning 21 = .ok (.aload_n 3, 1) := dk_45 (dk_at dksX12_isBeginning_0 21 rfl rfl)
theorem dX12_isBeginning_22 : decode cX12_isBeginning 22 = .ok (.iload 5, 2) := dk_21 5 (dk_at dksX12_isBeginning_0 22 rfl rfl)
theorem dX12_isBeginning_24 : decode cX12_isBeginning 24 = .ok (.aaload, 1) := dk_50 (dk_at dksX12_isBeginning_1 0 rfl rfl)
theorem dX12_isBeginning_25 : decode cX12_isBeginning 25 = .ok (.astore 6, 2) := dk_58 6 (dk_at dksX12_isBeginning_1 1 rfl rfl)
theorem dX12_isBeginning_27 : decode cX12_isBeginning 27 = .ok (.iload_n 2, 1) := dk_28 (dk_at dksX12_isBeginning_1 3 rfl rfl)
theorem dX12_isBeginning_28 : decode cX12_isBeginning 28 = .ok (.aload 6, 2) := dk_25 6 (dk_at dksX12_isBeginning_1 4 rfl rfl)
theorem dX12_isBeginning_30 : decode cX12_isBeginning 30 = .ok (.aload_n 1, 1) := dk_43 (dk_at dksX12_isBeginning_1 6 rfl rfl)
theorem dX12_isBeginning_31 : decode cX12_isBeginning 31 = .ok (.invokevirtual 61, 3) := dk_182 0 61 (dk_at dksX12_isBeginning_1 7 rfl rfl)
theorem dX12_isBeginning_34 : decode cX12_isBeginning 34 = .ok (.ior, 1) := dk_128 (dk_at dksX12_isBeginning_1 10 rfl rfl)
theorem dX12_isBeginning_35 : decode cX12_isBeginning 35 = .ok (.istore_n 2, 1) := dk_61 (dk_at dksX12_isBeginning_1 11 rfl rfl)
theorem dX12_isBeginning_36 : decode cX12_isBeginning 36 = .ok (.iinc 5 1, 3) := dk_132 5 1 (dk_at dksX12_isBeginning_1 12 rfl rfl)
theorem dX12_isBeginning_39 : decode cX12_isBeginning 39 = .ok (.goto (-25), 3) := dk_167 255 231 (dk_at dksX12_isBeginning_1 15 rfl rfl)
theorem dX12_isBeginning_42 : decode cX12_isBeginning 42 = .ok (.iload_n 2, 1) := dk_28 (dk_at dksX12_isBeginning_1 18 rfl rfl)
theorem dX12_isBeginning_43 : decode cX12_isBeginning 43 = .ok (.ireturn, 1) := dk_172 (dk_at dksX12_isBeginning_1 19 rfl rfl)
abbrev cX12_needs : ByteArray := prog_11_method_3_code
def yX12_needs : MethodName := ⟨RX12, "needs", "(Z)V"⟩
def dkwX12_needs_0 : List UInt8 := [27, 154, 0, 15, 187, 0, 53, 89, 42, 180, 0, 39, 183, 0, 55, 191, 177]
abbrev dktX12_needs_0 : List UInt8 := dkwX12_needs_0 ++ []
theorem dksX12_needs_0 : cX12_needs.data.toList.drop 0 = dktX12_needs_0 := by decide +kernel
theorem dX12_needs_0 : decode cX12_needs 0 = .ok (.iload_n 1, 1) := dk_27 (dk_at dksX12_needs_0 0 rfl rfl)
theorem dX12_needs_1 : decode cX12_needs 1 = .ok (.ifCond .ne 15, 3) := dk_154 0 15 (dk_at dksX12_needs_0 1 rfl rfl)
theorem dX12_needs_4 : decode cX12_needs 4 = .ok (.new 53, 3) := dk_187 0 53 (dk_at dksX12_needs_0 4 rfl rfl)
theorem dX12_needs_7 : decode cX12_needs 7 = .ok (.dup, 1) := dk_89 (dk_at dksX12_needs_0 7 rfl rfl)
theorem dX12_needs_8 : decode cX12_needs 8 = .ok (.aload_n 0, 1) := dk_42 (dk_at dksX12_needs_0 8 rfl rfl)
theorem dX12_needs_9 : decode cX12_needs 9 = .ok (.getfield 39, 3) := dk_180 0 39 (dk_at dksX12_needs_0 9 rfl rfl)
theorem dX12_needs_12 : decode cX12_needs 12 = .ok (.invokespecial 55, 3) := dk_183 0 55 (dk_at dksX12_needs_0 12 rfl rfl)
theorem dX12_needs_15 : decode cX12_needs 15 = .ok (.athrow, 1) := dk_191 (dk_at dksX12_needs_0 15 rfl rfl)
theorem dX12_needs_16 : decode cX12_needs 16 = .ok (.return_, 1) := dk_177 (dk_at dksX12_needs_0 16 rfl rfl)
abbrev cX12_number : ByteArray := prog_11_method_8_code
def yX12_number : MethodName := ⟨RX12, "number", "(I)I"⟩
def dkwX12_number_2 : List UInt8 := [16, 48, 100, 61, 42, 89, 180, 0, 39, 4, 96, 181, 0, 39, 132, 3, 1, 167, 255, 211, 28, 172]
abbrev dktX12_number_2 : List UInt8 := dkwX12_number_2 ++ []
def dkwX12_number_1 : List UInt8 := [42, 182, 0, 58, 16, 48, 16, 57, 184, 0, 95, 153, 0, 32, 16, 10, 28, 104, 42, 182, 0, 58, 96]
abbrev dktX12_number_1 : List UInt8 := dkwX12_number_1 ++ dktX12_number_2
def dkwX12_number_0 : List UInt8 := [42, 42, 182, 0, 58, 16, 48, 16, 57, 184, 0, 95, 182, 0, 91, 3, 61, 3, 62, 29, 27, 162, 0, 46]
abbrev dktX12_number_0 : List UInt8 := dkwX12_number_0 ++ dktX12_number_1
theorem dksX12_number_0 : cX12_number.data.toList.drop 0 = dktX12_number_0 := by decide +kernel
theorem dksX12_number_1 : cX12_number.data.toList.drop 24 = dktX12_number_1 := dk_seg dksX12_number_0 24 rfl rfl
theorem dksX12_number_2 : cX12_number.data.toList.drop 47 = dktX12_number_2 := dk_seg dksX12_number_1 23 rfl rfl
theorem dX12_number_0 : decode cX12_number 0 = .ok (.aload_n 0, 1) := dk_42 (dk_at dksX12_number_0 0 rfl rfl)
theorem dX12_number_1 : decode cX12_number 1 = .ok (.aload_n 0, 1) := dk_42 (dk_at dksX12_number_0 1 rfl rfl)
theorem dX12_number_2 : decode cX12_number 2 = .ok (.invokevirtual 58, 3) := dk_182 0 58 (dk_at dksX12_number_0 2 rfl rfl)
theorem dX12_number_5 : decode cX12_number 5 = .ok (.bipush 48, 2) := dk_16 48 (dk_at dksX12_number_0 5 rfl rfl)
theorem dX12_number_7 : decode cX12_number 7 = .ok (.bipush 57, 2) := dk_16 57 (dk_at dksX12_number_0 7 rfl rfl)
theorem dX12_number_9 : decode cX12_number 9 = .ok (.invokestatic 95, 3) := dk_184 0 95 (dk_at dksX12_number_0 9 rfl rfl)
theorem dX12_number_12 : decode cX12_number 12 = .ok (.invokevirtual 91, 3) := dk_182 0 91 (dk_at dksX12_number_0 12 rfl rfl)
theorem dX12_number_15 : decode cX12_number 15 = .ok (.iconst 0, 1) := dk_3 (dk_at dksX12_number_0 15 rfl rfl)
theorem dX12_number_16 : decode cX12_number 16 = .ok (.istore_n 2, 1) := dk_61 (dk_at dksX12_number_0 16 rfl rfl)
theorem dX12_number_17 : decode cX12_number 17 = .ok (.iconst 0, 1) := dk_3 (dk_at dksX12_number_0 17 rfl rfl)
theorem dX12_number_18 : decode cX12_number 18 = .ok (.istore_n 3, 1) := dk_62 (dk_at dksX12_number_0 18 rfl rfl)
theorem dX12_number_19 : decode cX12_number 19 = .ok (.iload_n 3, 1) := dk_29 (dk_at dksX12_number_0 19 rfl rfl)
theorem dX12_number_20 : decode cX12_number 20 = .ok (.iload_n 1, 1) := dk_27 (dk_at dksX12_number_0 20 rfl rfl)
theorem dX12_number_21 : decode cX12_number 21 = .ok (.if_icmp .ge 46, 3) := dk_162 0 46 (dk_at dksX12_number_0 21 rfl rfl)
theorem dX12_number_24 : decode cX12_number 24 = .ok (.aload_n 0, 1) := dk_42 (dk_at dksX12_number_1 0 rfl rfl)
theorem dX12_number_25 : decode cX12_number 25 = .ok (.invokevirtual 58, 3) := dk_182 0 58 (dk_at dksX12_number_1 1 rfl rfl)
theorem dX12_number_28 : decode cX12_number 28 = .ok (.bipush 48, 2) := dk_16 48 (dk_at dksX12_number_1 4 rfl rfl)
theorem dX12_number_30 : decode cX12_number 30 = .ok (.bipush 57, 2) := dk_16 57 (dk_at dksX12_number_1 6 rfl rfl)
theorem dX12_number_32 : decode cX12_number 32 = .ok (.invokestatic 95, 3) := dk_184 0 95 (dk_at dksX12_number_1 8 rfl rfl)
theorem dX12_number_35 : decode cX12_number 35 = .ok (.ifCond .eq 32, 3) := dk_153 0 32 (dk_at dksX12_number_1 11 rfl rfl)
theorem dX12_number_38 : decode cX12_number 38 = .ok (.bipush 10, 2) := dk_16 10 (dk_at dksX12_number_1 14 rfl rfl)
theorem dX12_number_40 : decode cX12_number 40 = .ok (.iload_n 2, 1) := dk_28 (dk_at dksX12_number_1 16 rfl rfl)
theorem dX12_number_41 : decode cX12_number 41 = .ok (.imul, 1) := dk_104 (dk_at dksX12_number_1 17 rfl rfl)
theorem dX12_number_42 : decode cX12_number 42 = .ok (.aload_n 0, 1) := dk_42 (dk_at dksX12_number_1 18 rfl rfl)
theorem dX12_number_43 : decode cX12_number 43 = .ok (.invokevirtual 58, 3) := dk_182 0 58 (dk_at dksX12_number_1 19 rfl rfl)
theorem dX12_number_46 : decode cX12_number 46 = .ok (.iadd, 1) := dk_96 (dk_at dksX12_number_1 22 rfl rfl)
theorem dX12_number_47 : decode cX12_number 47 = .ok (.bipush 48, 2) := dk_16 48 (dk_at dksX12_number_2 0 rfl rfl)
theorem dX12_number_49 : decode cX12_number 49 = .ok (.isub, 1) := dk_100 (dk_at dksX12_number_2 2 rfl rfl)
theorem dX12_number_50 : decode cX12_number 50 = .ok (.istore_n 2, 1) := dk_61 (dk_at dksX12_number_2 3 rfl rfl)
theorem dX12_number_51 : decode cX12_number 51 = .ok (.aload_n 0, 1) := dk_42 (dk_at dksX12_number_2 4 rfl rfl)
theorem dX12_number_52 : decode cX12_number 52 = .ok (.dup, 1) := dk_89 (dk_at dksX12_number_2 5 rfl rfl)
theorem dX12_number_53 : decode cX12_number 53 = .ok (.getfield 39, 3) := dk_180 0 39 (dk_at dksX12_number_2 6 rfl rfl)
theorem dX12_number_56 : decode cX12_number 56 = .ok (.iconst 1, 1) := dk_4 (dk_at dksX12_number_2 9 rfl rfl)
theorem dX12_number_57 : decode cX12_number 57 = .ok (.iadd, 1) := dk_96 (dk_at dksX12_number_2 10 rfl rfl)
theorem dX12_number_58 : decode cX12_number 58 = .ok (.putfield 39, 3) := dk_181 0 39 (dk_at dksX12_number_2 11 rfl rfl)
theorem dX12_number_61 : decode cX12_number 61 = .ok (.iinc 3 1, 3) := dk_132 3 1 (dk_at dksX12_number_2 14 rfl rfl)
theorem dX12_number_64 : decode cX12_number 64 = .ok (.goto (-45), 3) := dk_167 255 211 (dk_at dksX12_number_2 17 rfl rfl)
theorem dX12_number_67 : decode cX12_number 67 = .ok (.iload_n 2, 1) := dk_28 (dk_at dksX12_number_2 20 rfl rfl)
theorem dX12_number_68 : decode cX12_number 68 = .ok (.ireturn, 1) := dk_172 (dk_at dksX12_number_2 21 rfl rfl)
abbrev cX12_behind : ByteArray := prog_11_method_9_code
def yX12_behind : MethodName := ⟨RX12, "behind", "(C)I"⟩
def dkwX12_behind_0 : List UInt8 := [42, 42, 27, 182, 0, 99, 182, 0, 91, 42, 4, 182, 0, 103, 172]
abbrev dktX12_behind_0 : List UInt8 := dkwX12_behind_0 ++ []
theorem dksX12_behind_0 : cX12_behind.data.toList.drop 0 = dktX12_behind_0 := by decide +kernel
theorem dX12_behind_0 : decode cX12_behind 0 = .ok (.aload_n 0, 1) := dk_42 (dk_at dksX12_behind_0 0 rfl rfl)
theorem dX12_behind_1 : decode cX12_behind 1 = .ok (.aload_n 0, 1) := dk_42 (dk_at dksX12_behind_0 1 rfl rfl)
theorem dX12_behind_2 : decode cX12_behind 2 = .ok (.iload_n 1, 1) := dk_27 (dk_at dksX12_behind_0 2 rfl rfl)
theorem dX12_behind_3 : decode cX12_behind 3 = .ok (.invokevirtual 99, 3) := dk_182 0 99 (dk_at dksX12_behind_0 3 rfl rfl)
theorem dX12_behind_6 : decode cX12_behind 6 = .ok (.invokevirtual 91, 3) := dk_182 0 91 (dk_at dksX12_behind_0 6 rfl rfl)
theorem dX12_behind_9 : decode cX12_behind 9 = .ok (.aload_n 0, 1) := dk_42 (dk_at dksX12_behind_0 9 rfl rfl)
theorem dX12_behind_10 : decode cX12_behind 10 = .ok (.iconst 1, 1) := dk_4 (dk_at dksX12_behind_0 10 rfl rfl)
theorem dX12_behind_11 : decode cX12_behind 11 = .ok (.invokevirtual 103, 3) := dk_182 0 103 (dk_at dksX12_behind_0 11 rfl rfl)
theorem dX12_behind_14 : decode cX12_behind 14 = .ok (.ireturn, 1) := dk_172 (dk_at dksX12_behind_0 14 rfl rfl)
abbrev cX12_takes : ByteArray := prog_11_method_4_code
def yX12_takes : MethodName := ⟨RX12, "takes", "(I)Z"⟩
def dkwX12_takes_1 : List UInt8 := [167, 0, 4, 3, 96, 181, 0, 39, 28, 172]
abbrev dktX12_takes_1 : List UInt8 := dkwX12_takes_1 ++ []
def dkwX12_takes_0 : List UInt8 := [42, 182, 0, 58, 27, 160, 0, 7, 4, 167, 0, 4, 3, 61, 42, 89, 180, 0, 39, 28, 153, 0, 7, 4]
abbrev dktX12_takes_0 : List UInt8 := dkwX12_takes_0 ++ dktX12_takes_1
theorem dksX12_takes_0 : cX12_takes.data.toList.drop 0 = dktX12_takes_0 := by decide +kernel
theorem dksX12_takes_1 : cX12_takes.data.toList.drop 24 = dktX12_takes_1 := dk_seg dksX12_takes_0 24 rfl rfl
theorem dX12_takes_0 : decode cX12_takes 0 = .ok (.aload_n 0, 1) := dk_42 (dk_at dksX12_takes_0 0 rfl rfl)
theorem dX12_takes_1 : decode cX12_takes 1 = .ok (.invokevirtual 58, 3) := dk_182 0 58 (dk_at dksX12_takes_0 1 rfl rfl)
theorem dX12_takes_4 : decode cX12_takes 4 = .ok (.iload_n 1, 1) := dk_27 (dk_at dksX12_takes_0 4 rfl rfl)
theorem dX12_takes_5 : decode cX12_takes 5 = .ok (.if_icmp .ne 7, 3) := dk_160 0 7 (dk_at dksX12_takes_0 5 rfl rfl)
theorem dX12_takes_8 : decode cX12_takes 8 = .ok (.iconst 1, 1) := dk_4 (dk_at dksX12_takes_0 8 rfl rfl)
theorem dX12_takes_9 : decode cX12_takes 9 = .ok (.goto 4, 3) := dk_167 0 4 (dk_at dksX12_takes_0 9 rfl rfl)
theorem dX12_takes_12 : decode cX12_takes 12 = .ok (.iconst 0, 1) := dk_3 (dk_at dksX12_takes_0 12 rfl rfl)
theorem dX12_takes_13 : decode cX12_takes 13 = .ok (.istore_n 2, 1) := dk_61 (dk_at dksX12_takes_0 13 rfl rfl)
theorem dX12_takes_14 : decode cX12_takes 14 = .ok (.aload_n 0, 1) := dk_42 (dk_at dksX12_takes_0 14 rfl rfl)
theorem dX12_takes_15 : decode cX12_takes 15 = .ok (.dup, 1) := dk_89 (dk_at dksX12_takes_0 15 rfl rfl)
theorem dX12_takes_16 : decode cX12_takes 16 = .ok (.getfield 39, 3) := dk_180 0 39 (dk_at dksX12_takes_0 16 rfl rfl)
theorem dX12_takes_19 : decode cX12_takes 19 = .ok (.iload_n 2, 1) := dk_28 (dk_at dksX12_takes_0 19 rfl rfl)
theorem dX12_takes_20 : decode cX12_takes 20 = .ok (.ifCond .eq 7, 3) := dk_153 0 7 (dk_at dksX12_takes_0 20 rfl rfl)
theorem dX12_takes_23 : decode cX12_takes 23 = .ok (.iconst 1, 1) := dk_4 (dk_at dksX12_takes_0 23 rfl rfl)
theorem dX12_takes_24 : decode cX12_takes 24 = .ok (.goto 4, 3) := dk_167 0 4 (dk_at dksX12_takes_1 0 rfl rfl)
theorem dX12_takes_27 : decode cX12_takes 27 = .ok (.iconst 0, 1) := dk_3 (dk_at dksX12_takes_1 3 rfl rfl)
theorem dX12_takes_28 : decode cX12_takes 28 = .ok (.iadd, 1) := dk_96 (dk_at dksX12_takes_1 4 rfl rfl)
theorem dX12_takes_29 : decode cX12_takes 29 = .ok (.putfield 39, 3) := dk_181 0 39 (dk_at dksX12_takes_1 5 rfl rfl)
theorem dX12_takes_32 : decode cX12_takes 32 = .ok (.iload_n 2, 1) := dk_28 (dk_at dksX12_takes_1 8 rfl rfl)
theorem dX12_takes_33 : decode cX12_takes 33 = .ok (.ireturn, 1) := dk_172 (dk_at dksX12_takes_1 9 rfl rfl)
theorem q95 : (Jvm.Cond.initialized "GargoyleCopyists$Reader") ∈ lw_all := lw_g (lw_at lw_m1 32 rfl) rfl
theorem q244 : (Jvm.Cond.selects "GargoyleCopyists$Reader" ({ cls := "java/lang/Object", name := "getClass", desc := "()Ljava/lang/Class;" } : Jvm.MethodName) ({ cls := "java/lang/Object", name := "getClass", desc := "()Ljava/lang/Class;" } : Jvm.MethodName)) ∈ lw_all := lw_g (lw_at lw_m1 181 rfl) rfl
theorem q1178 : (Jvm.Cond.instantiable "GargoyleCopyists$Reader" (3 : Nat)) ∈ lw_all := lw_g (lw_at lw_m5 155 rfl) rfl
theorem q1180 : (Jvm.Cond.instanceMethod ({ cls := "GargoyleCopyists$Reader", name := "<init>", desc := "(Ljava/lang/CharSequence;)V" } : Jvm.MethodName)) ∈ lw_all := lw_g (lw_at lw_m5 157 rfl) rfl
theorem q1181 : (Jvm.Cond.code ({ cls := "GargoyleCopyists$Reader", name := "<init>", desc := "(Ljava/lang/CharSequence;)V" } : Jvm.MethodName) prog_11_method_1_code (2 : Nat) (Option.none : Option Jvm.ClassFile.FieldType)) ∈ lw_all := lw_g (lw_at lw_m5 158 rfl) rfl
theorem q1182 : (Jvm.Cond.methodLink "GargoyleCopyists$Reader" (3 : Nat) ({ cls := "java/lang/Object", name := "<init>", desc := "()V" } : Jvm.MethodName)) ∈ lw_all := lw_g (lw_at lw_m5 159 rfl) rfl
theorem q1183 : (Jvm.Cond.classLink "GargoyleCopyists$Reader" (9 : Nat) "java/lang/String") ∈ lw_all := lw_g (lw_at lw_m5 160 rfl) rfl
theorem q1185 : (Jvm.Cond.stringRef "GargoyleCopyists$Reader" (11 : Nat) "cast ") ∈ lw_tbl := lw_at lw_m5 162 rfl
theorem q1186 : (Jvm.Cond.stringRef "GargoyleCopyists$Reader" (13 : Nat) "begin ") ∈ lw_tbl := lw_at lw_m5 163 rfl
theorem q1187 : (Jvm.Cond.stringRef "GargoyleCopyists$Reader" (15 : Nat) "cut ") ∈ lw_tbl := lw_at lw_m5 164 rfl
theorem q1188 : (Jvm.Cond.stringRef "GargoyleCopyists$Reader" (17 : Nat) "down ") ∈ lw_tbl := lw_at lw_m5 165 rfl
theorem q1189 : (Jvm.Cond.stringRef "GargoyleCopyists$Reader" (19 : Nat) "lift ") ∈ lw_tbl := lw_at lw_m5 166 rfl
theorem q1190 : (Jvm.Cond.stringRef "GargoyleCopyists$Reader" (21 : Nat) "needle ") ∈ lw_tbl := lw_at lw_m5 167 rfl
theorem q1191 : (Jvm.Cond.stringRef "GargoyleCopyists$Reader" (23 : Nat) "drive ") ∈ lw_tbl := lw_at lw_m5 168 rfl
theorem q1192 : (Jvm.Cond.stringRef "GargoyleCopyists$Reader" (25 : Nat) "sky ") ∈ lw_tbl := lw_at lw_m5 169 rfl
theorem q1193 : (Jvm.Cond.stringRef "GargoyleCopyists$Reader" (27 : Nat) "wait ") ∈ lw_tbl := lw_at lw_m5 170 rfl
theorem q1194 : (Jvm.Cond.fieldLink "GargoyleCopyists$Reader" (29 : Nat) "GargoyleCopyists$Reader" "words" "[Ljava/lang/String;") ∈ lw_all := lw_g (lw_at lw_m5 171 rfl) rfl
theorem q1195 : (Jvm.Cond.fieldLink "GargoyleCopyists$Reader" (35 : Nat) "GargoyleCopyists$Reader" "text" "Ljava/lang/CharSequence;") ∈ lw_all := lw_g (lw_at lw_m5 172 rfl) rfl
theorem q1196 : (Jvm.Cond.fieldLink "GargoyleCopyists$Reader" (39 : Nat) "GargoyleCopyists$Reader" "at" "I") ∈ lw_all := lw_g (lw_at lw_m5 173 rfl) rfl
theorem q1197 : (Jvm.Cond.laysFinal "GargoyleCopyists$Reader" "GargoyleCopyists$Reader" "words" "[Ljava/lang/String;") ∈ lw_all := lw_g (lw_at lw_m5 174 rfl) rfl
theorem q1198 : (Jvm.Cond.soleField "GargoyleCopyists$Reader" "words") ∈ lw_all := lw_g (lw_at lw_m5 175 rfl) rfl
theorem q1199 : (Jvm.Cond.laysFinal "GargoyleCopyists$Reader" "GargoyleCopyists$Reader" "text" "Ljava/lang/CharSequence;") ∈ lw_all := lw_g (lw_at lw_m5 176 rfl) rfl
theorem q1200 : (Jvm.Cond.soleField "GargoyleCopyists$Reader" "text") ∈ lw_all := lw_g (lw_at lw_m5 177 rfl) rfl
theorem q1201 : (Jvm.Cond.lays "GargoyleCopyists$Reader" "GargoyleCopyists$Reader" "at" "I") ∈ lw_all := lw_g (lw_at lw_m5 178 rfl) rfl
theorem q1202 : (Jvm.Cond.soleField "GargoyleCopyists$Reader" "at") ∈ lw_all := lw_g (lw_at lw_m5 179 rfl) rfl
theorem q1203 : (Jvm.Cond.superclass "GargoyleCopyists$Reader" "java/lang/Object") ∈ lw_all := lw_g (lw_at lw_m5 180 rfl) rfl
theorem q1205 : (Jvm.Cond.instanceMethod ({ cls := "GargoyleCopyists$Reader", name := "orders", desc := "()Ljava/util/ArrayList;" } : Jvm.MethodName)) ∈ lw_all := lw_g (lw_at lw_m5 182 rfl) rfl
theorem q1206 : (Jvm.Cond.selects "GargoyleCopyists$Reader" ({ cls := "GargoyleCopyists$Reader", name := "orders", desc := "()Ljava/util/ArrayList;" } : Jvm.MethodName) ({ cls := "GargoyleCopyists$Reader", name := "orders", desc := "()Ljava/util/ArrayList;" } : Jvm.MethodName)) ∈ lw_all := lw_g (lw_at lw_m5 183 rfl) rfl
theorem q1207 : (Jvm.Cond.code ({ cls := "GargoyleCopyists$Reader", name := "orders", desc := "()Ljava/util/ArrayList;" } : Jvm.MethodName) prog_11_method_11_code (2 : Nat) (Option.some (Jvm.ClassFile.FieldType.object "java/util/ArrayList"))) ∈ lw_all := lw_g (lw_at lw_m5 184 rfl) rfl
theorem q1208 : (Jvm.Cond.classLink "GargoyleCopyists$Reader" (134 : Nat) "java/util/ArrayList") ∈ lw_all := lw_g (lw_at lw_m5 185 rfl) rfl
theorem q1209 : (Jvm.Cond.methodLink "GargoyleCopyists$Reader" (136 : Nat) ({ cls := "java/util/ArrayList", name := "<init>", desc := "()V" } : Jvm.MethodName)) ∈ lw_all := lw_g (lw_at lw_m5 186 rfl) rfl
theorem q1212 : (Jvm.Cond.methodLink "GargoyleCopyists$Reader" (137 : Nat) ({ cls := "GargoyleCopyists$Reader", name := "order", desc := "()LGargoyleCopyists$Order;" } : Jvm.MethodName)) ∈ lw_all := lw_g (lw_at lw_m5 189 rfl) rfl
theorem q1213 : (Jvm.Cond.privateMethod ({ cls := "GargoyleCopyists$Reader", name := "order", desc := "()LGargoyleCopyists$Order;" } : Jvm.MethodName)) ∈ lw_tbl := lw_at lw_m5 190 rfl
theorem q1214 : (Jvm.Cond.instanceMethod ({ cls := "GargoyleCopyists$Reader", name := "order", desc := "()LGargoyleCopyists$Order;" } : Jvm.MethodName)) ∈ lw_all := lw_g (lw_at lw_m5 191 rfl) rfl
theorem q1215 : (Jvm.Cond.code ({ cls := "GargoyleCopyists$Reader", name := "order", desc := "()LGargoyleCopyists$Order;" } : Jvm.MethodName) prog_11_method_10_code (4 : Nat) (Option.some (Jvm.ClassFile.FieldType.object "GargoyleCopyists$Order"))) ∈ lw_all := lw_g (lw_at lw_m5 192 rfl) rfl
theorem q1216 : (Jvm.Cond.classLink "GargoyleCopyists$Reader" (107 : Nat) "GargoyleCopyists$Order") ∈ lw_all := lw_g (lw_at lw_m5 193 rfl) rfl
theorem q1218 : (Jvm.Cond.methodLink "GargoyleCopyists$Reader" (109 : Nat) ({ cls := "GargoyleCopyists$Reader", name := "word", desc := "()Ljava/lang/String;" } : Jvm.MethodName)) ∈ lw_all := lw_g (lw_at lw_m5 195 rfl) rfl
theorem q1219 : (Jvm.Cond.privateMethod ({ cls := "GargoyleCopyists$Reader", name := "word", desc := "()Ljava/lang/String;" } : Jvm.MethodName)) ∈ lw_tbl := lw_at lw_m5 196 rfl
theorem q1220 : (Jvm.Cond.instanceMethod ({ cls := "GargoyleCopyists$Reader", name := "word", desc := "()Ljava/lang/String;" } : Jvm.MethodName)) ∈ lw_all := lw_g (lw_at lw_m5 197 rfl) rfl
theorem q1221 : (Jvm.Cond.code ({ cls := "GargoyleCopyists$Reader", name := "word", desc := "()Ljava/lang/String;" } : Jvm.MethodName) prog_11_method_7_code (2 : Nat) (Option.some (Jvm.ClassFile.FieldType.object "java/lang/String"))) ∈ lw_all := lw_g (lw_at lw_m5 198 rfl) rfl
theorem q1222 : (Jvm.Cond.stringRef "GargoyleCopyists$Reader" (69 : Nat) "") ∈ lw_tbl := lw_at lw_m5 199 rfl
theorem q1223 : (Jvm.Cond.methodLink "GargoyleCopyists$Reader" (71 : Nat) ({ cls := "GargoyleCopyists$Reader", name := "isWord", desc := "(Ljava/lang/String;)Z" } : Jvm.MethodName)) ∈ lw_all := lw_g (lw_at lw_m5 200 rfl) rfl
theorem q1224 : (Jvm.Cond.privateMethod ({ cls := "GargoyleCopyists$Reader", name := "isWord", desc := "(Ljava/lang/String;)Z" } : Jvm.MethodName)) ∈ lw_tbl := lw_at lw_m5 201 rfl
theorem q1225 : (Jvm.Cond.instanceMethod ({ cls := "GargoyleCopyists$Reader", name := "isWord", desc := "(Ljava/lang/String;)Z" } : Jvm.MethodName)) ∈ lw_all := lw_g (lw_at lw_m5 202 rfl) rfl
theorem q1226 : (Jvm.Cond.code ({ cls := "GargoyleCopyists$Reader", name := "isWord", desc := "(Ljava/lang/String;)Z" } : Jvm.MethodName) prog_11_method_6_code (7 : Nat) (Option.some Jvm.ClassFile.FieldType.boolean)) ∈ lw_all := lw_g (lw_at lw_m5 203 rfl) rfl
theorem q1227 : (Jvm.Cond.methodLink "GargoyleCopyists$Reader" (65 : Nat) ({ cls := "java/lang/String", name := "equals", desc := "(Ljava/lang/Object;)Z" } : Jvm.MethodName)) ∈ lw_all := lw_g (lw_at lw_m5 204 rfl) rfl
theorem q1236 : (Jvm.Cond.methodLink "GargoyleCopyists$Reader" (58 : Nat) ({ cls := "GargoyleCopyists$Reader", name := "here", desc := "()I" } : Jvm.MethodName)) ∈ lw_all := lw_g (lw_at lw_m5 213 rfl) rfl
theorem q1237 : (Jvm.Cond.privateMethod ({ cls := "GargoyleCopyists$Reader", name := "here", desc := "()I" } : Jvm.MethodName)) ∈ lw_tbl := lw_at lw_m5 214 rfl
theorem q1238 : (Jvm.Cond.instanceMethod ({ cls := "GargoyleCopyists$Reader", name := "here", desc := "()I" } : Jvm.MethodName)) ∈ lw_all := lw_g (lw_at lw_m5 215 rfl) rfl
theorem q1239 : (Jvm.Cond.code ({ cls := "GargoyleCopyists$Reader", name := "here", desc := "()I" } : Jvm.MethodName) prog_11_method_2_code (1 : Nat) (Option.some Jvm.ClassFile.FieldType.int)) ∈ lw_all := lw_g (lw_at lw_m5 216 rfl) rfl
theorem q1240 : (Jvm.Cond.interfaceEntry "GargoyleCopyists$Reader" (43 : Nat)) ∈ lw_tbl := lw_at lw_m5 217 rfl
theorem q1241 : (Jvm.Cond.methodLink "GargoyleCopyists$Reader" (43 : Nat) ({ cls := "java/lang/CharSequence", name := "length", desc := "()I" } : Jvm.MethodName)) ∈ lw_all := lw_g (lw_at lw_m5 218 rfl) rfl
theorem q1258 : (Jvm.Cond.interfaceEntry "GargoyleCopyists$Reader" (49 : Nat)) ∈ lw_tbl := lw_at lw_m5 235 rfl
theorem q1259 : (Jvm.Cond.methodLink "GargoyleCopyists$Reader" (49 : Nat) ({ cls := "java/lang/CharSequence", name := "charAt", desc := "(I)C" } : Jvm.MethodName)) ∈ lw_all := lw_g (lw_at lw_m5 236 rfl) rfl
theorem q1292 : (Jvm.Cond.classLink "GargoyleCopyists$Reader" (74 : Nat) "java/lang/StringBuilder") ∈ lw_all := lw_g (lw_at lw_m6 29 rfl) rfl
theorem q1293 : (Jvm.Cond.methodLink "GargoyleCopyists$Reader" (76 : Nat) ({ cls := "java/lang/StringBuilder", name := "<init>", desc := "()V" } : Jvm.MethodName)) ∈ lw_all := lw_g (lw_at lw_m6 30 rfl) rfl
theorem q1294 : (Jvm.Cond.methodLink "GargoyleCopyists$Reader" (77 : Nat) ({ cls := "java/lang/StringBuilder", name := "append", desc := "(Ljava/lang/String;)Ljava/lang/StringBuilder;" } : Jvm.MethodName)) ∈ lw_all := lw_g (lw_at lw_m6 31 rfl) rfl
theorem q1333 : (Jvm.Cond.methodLink "GargoyleCopyists$Reader" (81 : Nat) ({ cls := "java/lang/StringBuilder", name := "append", desc := "(C)Ljava/lang/StringBuilder;" } : Jvm.MethodName)) ∈ lw_all := lw_g (lw_at lw_m6 70 rfl) rfl
theorem q1334 : (Jvm.Cond.methodLink "GargoyleCopyists$Reader" (84 : Nat) ({ cls := "java/lang/StringBuilder", name := "toString", desc := "()Ljava/lang/String;" } : Jvm.MethodName)) ∈ lw_all := lw_g (lw_at lw_m6 71 rfl) rfl
theorem q1386 : (Jvm.Cond.methodLink "GargoyleCopyists$Reader" (88 : Nat) ({ cls := "GargoyleCopyists$Reader", name := "isBeginning", desc := "(Ljava/lang/String;)Z" } : Jvm.MethodName)) ∈ lw_all := lw_g (lw_at lw_m6 123 rfl) rfl
theorem q1387 : (Jvm.Cond.privateMethod ({ cls := "GargoyleCopyists$Reader", name := "isBeginning", desc := "(Ljava/lang/String;)Z" } : Jvm.MethodName)) ∈ lw_tbl := lw_at lw_m6 124 rfl
theorem q1388 : (Jvm.Cond.instanceMethod ({ cls := "GargoyleCopyists$Reader", name := "isBeginning", desc := "(Ljava/lang/String;)Z" } : Jvm.MethodName)) ∈ lw_all := lw_g (lw_at lw_m6 125 rfl) rfl
theorem q1389 : (Jvm.Cond.code ({ cls := "GargoyleCopyists$Reader", name := "isBeginning", desc := "(Ljava/lang/String;)Z" } : Jvm.MethodName) prog_11_method_5_code (7 : Nat) (Option.some Jvm.ClassFile.FieldType.boolean)) ∈ lw_all := lw_g (lw_at lw_m6 126 rfl) rfl
theorem q1390 : (Jvm.Cond.methodLink "GargoyleCopyists$Reader" (61 : Nat) ({ cls := "java/lang/String", name := "startsWith", desc := "(Ljava/lang/String;)Z" } : Jvm.MethodName)) ∈ lw_all := lw_g (lw_at lw_m6 127 rfl) rfl
theorem q1504 : (Jvm.Cond.methodLink "GargoyleCopyists$Reader" (91 : Nat) ({ cls := "GargoyleCopyists$Reader", name := "needs", desc := "(Z)V" } : Jvm.MethodName)) ∈ lw_all := lw_g (lw_at lw_m7 1 rfl) rfl
theorem q1505 : (Jvm.Cond.privateMethod ({ cls := "GargoyleCopyists$Reader", name := "needs", desc := "(Z)V" } : Jvm.MethodName)) ∈ lw_tbl := lw_at lw_m7 2 rfl
theorem q1506 : (Jvm.Cond.instanceMethod ({ cls := "GargoyleCopyists$Reader", name := "needs", desc := "(Z)V" } : Jvm.MethodName)) ∈ lw_all := lw_g (lw_at lw_m7 3 rfl) rfl
theorem q1507 : (Jvm.Cond.code ({ cls := "GargoyleCopyists$Reader", name := "needs", desc := "(Z)V" } : Jvm.MethodName) prog_11_method_3_code (2 : Nat) (Option.none : Option Jvm.ClassFile.FieldType)) ∈ lw_all := lw_g (lw_at lw_m7 4 rfl) rfl
theorem q1508 : (Jvm.Cond.classLink "GargoyleCopyists$Reader" (53 : Nat) "GargoyleCopyists$Wrong") ∈ lw_all := lw_g (lw_at lw_m7 5 rfl) rfl
theorem q1517 : (Jvm.Cond.methodLink "GargoyleCopyists$Reader" (55 : Nat) ({ cls := "GargoyleCopyists$Wrong", name := "<init>", desc := "(I)V" } : Jvm.MethodName)) ∈ lw_all := lw_g (lw_at lw_m7 14 rfl) rfl
theorem q1527 : (Jvm.Cond.methodLink "GargoyleCopyists$Reader" (112 : Nat) ({ cls := "GargoyleCopyists$Order", name := "<init>", desc := "(Ljava/lang/String;)V" } : Jvm.MethodName)) ∈ lw_all := lw_g (lw_at lw_m7 24 rfl) rfl
theorem q1532 : (Jvm.Cond.fieldLinkNest "GargoyleCopyists$Reader" (115 : Nat) "GargoyleCopyists$Order" "word" "Ljava/lang/String;" "GargoyleCopyists") ∈ lw_tbl := lw_at lw_m7 29 rfl
theorem q1534 : (Jvm.Cond.fieldLinkNest "GargoyleCopyists$Reader" (118 : Nat) "GargoyleCopyists$Order" "one" "I" "GargoyleCopyists") ∈ lw_tbl := lw_at lw_m7 31 rfl
theorem q1536 : (Jvm.Cond.fieldLinkNest "GargoyleCopyists$Reader" (128 : Nat) "GargoyleCopyists$Order" "two" "I" "GargoyleCopyists") ∈ lw_tbl := lw_at lw_m7 33 rfl
theorem q1538 : (Jvm.Cond.fieldLinkNest "GargoyleCopyists$Reader" (131 : Nat) "GargoyleCopyists$Order" "three" "I" "GargoyleCopyists") ∈ lw_tbl := lw_at lw_m7 35 rfl
theorem q1548 : (Jvm.Cond.methodLink "GargoyleCopyists$Reader" (103 : Nat) ({ cls := "GargoyleCopyists$Reader", name := "number", desc := "(I)I" } : Jvm.MethodName)) ∈ lw_all := lw_g (lw_at lw_m7 45 rfl) rfl
theorem q1549 : (Jvm.Cond.privateMethod ({ cls := "GargoyleCopyists$Reader", name := "number", desc := "(I)I" } : Jvm.MethodName)) ∈ lw_tbl := lw_at lw_m7 46 rfl
theorem q1550 : (Jvm.Cond.instanceMethod ({ cls := "GargoyleCopyists$Reader", name := "number", desc := "(I)I" } : Jvm.MethodName)) ∈ lw_all := lw_g (lw_at lw_m7 47 rfl) rfl
theorem q1551 : (Jvm.Cond.code ({ cls := "GargoyleCopyists$Reader", name := "number", desc := "(I)I" } : Jvm.MethodName) prog_11_method_8_code (4 : Nat) (Option.some Jvm.ClassFile.FieldType.int)) ∈ lw_all := lw_g (lw_at lw_m7 48 rfl) rfl
theorem q1552 : (Jvm.Cond.methodLinkNest "GargoyleCopyists$Reader" (95 : Nat) ({ cls := "GargoyleCopyists", name := "isIn", desc := "(III)Z" } : Jvm.MethodName) "GargoyleCopyists") ∈ lw_tbl := lw_at lw_m7 49 rfl
theorem q1553 : (Jvm.Cond.methodLink "GargoyleCopyists$Reader" (121 : Nat) ({ cls := "java/lang/String", name := "hashCode", desc := "()I" } : Jvm.MethodName)) ∈ lw_all := lw_g (lw_at lw_m7 50 rfl) rfl
theorem q1602 : (Jvm.Cond.methodLink "GargoyleCopyists$Reader" (124 : Nat) ({ cls := "GargoyleCopyists$Reader", name := "behind", desc := "(C)I" } : Jvm.MethodName)) ∈ lw_all := lw_g (lw_at lw_m7 99 rfl) rfl
theorem q1603 : (Jvm.Cond.privateMethod ({ cls := "GargoyleCopyists$Reader", name := "behind", desc := "(C)I" } : Jvm.MethodName)) ∈ lw_tbl := lw_at lw_m7 100 rfl
theorem q1604 : (Jvm.Cond.instanceMethod ({ cls := "GargoyleCopyists$Reader", name := "behind", desc := "(C)I" } : Jvm.MethodName)) ∈ lw_all := lw_g (lw_at lw_m7 101 rfl) rfl
theorem q1605 : (Jvm.Cond.code ({ cls := "GargoyleCopyists$Reader", name := "behind", desc := "(C)I" } : Jvm.MethodName) prog_11_method_9_code (2 : Nat) (Option.some Jvm.ClassFile.FieldType.int)) ∈ lw_all := lw_g (lw_at lw_m7 102 rfl) rfl
theorem q1606 : (Jvm.Cond.methodLink "GargoyleCopyists$Reader" (99 : Nat) ({ cls := "GargoyleCopyists$Reader", name := "takes", desc := "(I)Z" } : Jvm.MethodName)) ∈ lw_all := lw_g (lw_at lw_m7 103 rfl) rfl
theorem q1607 : (Jvm.Cond.privateMethod ({ cls := "GargoyleCopyists$Reader", name := "takes", desc := "(I)Z" } : Jvm.MethodName)) ∈ lw_tbl := lw_at lw_m7 104 rfl
theorem q1608 : (Jvm.Cond.instanceMethod ({ cls := "GargoyleCopyists$Reader", name := "takes", desc := "(I)Z" } : Jvm.MethodName)) ∈ lw_all := lw_g (lw_at lw_m7 105 rfl) rfl
theorem q1609 : (Jvm.Cond.code ({ cls := "GargoyleCopyists$Reader", name := "takes", desc := "(I)Z" } : Jvm.MethodName) prog_11_method_4_code (3 : Nat) (Option.some Jvm.ClassFile.FieldType.boolean)) ∈ lw_all := lw_g (lw_at lw_m7 106 rfl) rfl
theorem q1610 : (Jvm.Cond.methodLink "GargoyleCopyists$Reader" (141 : Nat) ({ cls := "java/util/ArrayList", name := "add", desc := "(Ljava/lang/Object;)Z" } : Jvm.MethodName)) ∈ lw_all := lw_g (lw_at lw_m7 107 rfl) rfl
theorem q2254 : (Jvm.Cond.castable "GargoyleCopyists$Reader" "java/lang/Object") ∈ lw_tbl := lw_at lw_m10 31 rfl
theorem in_X12 : ∀ w ∈ wsX120, w ∈ lw_all := lw_in wsX120 [1197, 1199, 1201] (by decide +kernel) (by decide +kernel)

/-! GargoyleCopyists$Order -/
set_option maxRecDepth 100000
def RX13 : String := "GargoyleCopyists$Order"
def TX13 : u_T := fun k => match k with
  | 0 => ("GargoyleCopyists$Order", "word", "Ljava/lang/String;", true)
  | 1 => ("GargoyleCopyists$Order", "one", "I", false)
  | 2 => ("GargoyleCopyists$Order", "two", "I", false)
  | _ => ("GargoyleCopyists$Order", "three", "I", false)
def tyX13 : Nat → FieldType := fun k => match k with
  | 0 => .object "java/lang/String"
  | 1 => .int
  | 2 => .int
  | _ => .int
abbrev wsX130 : List Cond := u_ws RX13 TX13 4
theorem nmX13 : ∀ a, a < 4 → ∀ b, b < 4 → a ≠ b → (TX13 a).2.1 ≠ (TX13 b).2.1 := by decide +kernel
theorem tyX13_ok : ∀ k, k < 4 → parseFieldDescriptor (TX13 k).2.2.1 = some (tyX13 k) := by decide +kernel
abbrev cX13_init : ByteArray := prog_9_method_1_code
def yX13_init : MethodName := ⟨RX13, "<init>", "(Ljava/lang/String;)V"⟩
def dkwX13_init_0 : List UInt8 := [42, 183, 0, 3, 42, 43, 181, 0, 9, 177]
abbrev dktX13_init_0 : List UInt8 := dkwX13_init_0 ++ []
theorem dksX13_init_0 : cX13_init.data.toList.drop 0 = dktX13_init_0 := by decide +kernel
theorem dX13_init_0 : decode cX13_init 0 = .ok (.aload_n 0, 1) := dk_42 (dk_at dksX13_init_0 0 rfl rfl)
theorem dX13_init_1 : decode cX13_init 1 = .ok (.invokespecial 3, 3) := dk_183 0 3 (dk_at dksX13_init_0 1 rfl rfl)
theorem dX13_init_4 : decode cX13_init 4 = .ok (.aload_n 0, 1) := dk_42 (dk_at dksX13_init_0 4 rfl rfl)
theorem dX13_init_5 : decode cX13_init 5 = .ok (.aload_n 1, 1) := dk_43 (dk_at dksX13_init_0 5 rfl rfl)
theorem dX13_init_6 : decode cX13_init 6 = .ok (.putfield 9, 3) := dk_181 0 9 (dk_at dksX13_init_0 6 rfl rfl)
theorem dX13_init_9 : decode cX13_init 9 = .ok (.return_, 1) := dk_177 (dk_at dksX13_init_0 9 rfl rfl)
abbrev cX13_isDone : ByteArray := prog_9_method_3_code
def yX13_isDone : MethodName := ⟨RX13, "isDone", "(LGargoyleCopyists$Church;[LGargoyleCopyists$Cut;)Z"⟩
def dkwX13_isDone_0 : List UInt8 := [42, 43, 44, 182, 0, 109, 155, 0, 7, 4, 167, 0, 4, 3, 172, 78, 3, 172]
abbrev dktX13_isDone_0 : List UInt8 := dkwX13_isDone_0 ++ []
theorem dksX13_isDone_0 : cX13_isDone.data.toList.drop 0 = dktX13_isDone_0 := by decide +kernel
theorem dX13_isDone_0 : decode cX13_isDone 0 = .ok (.aload_n 0, 1) := dk_42 (dk_at dksX13_isDone_0 0 rfl rfl)
theorem dX13_isDone_1 : decode cX13_isDone 1 = .ok (.aload_n 1, 1) := dk_43 (dk_at dksX13_isDone_0 1 rfl rfl)
theorem dX13_isDone_2 : decode cX13_isDone 2 = .ok (.aload_n 2, 1) := dk_44 (dk_at dksX13_isDone_0 2 rfl rfl)
theorem dX13_isDone_3 : decode cX13_isDone 3 = .ok (.invokevirtual 109, 3) := dk_182 0 109 (dk_at dksX13_isDone_0 3 rfl rfl)
theorem dX13_isDone_6 : decode cX13_isDone 6 = .ok (.ifCond .lt 7, 3) := dk_155 0 7 (dk_at dksX13_isDone_0 6 rfl rfl)
theorem dX13_isDone_9 : decode cX13_isDone 9 = .ok (.iconst 1, 1) := dk_4 (dk_at dksX13_isDone_0 9 rfl rfl)
theorem dX13_isDone_10 : decode cX13_isDone 10 = .ok (.goto 4, 3) := dk_167 0 4 (dk_at dksX13_isDone_0 10 rfl rfl)
theorem dX13_isDone_13 : decode cX13_isDone 13 = .ok (.iconst 0, 1) := dk_3 (dk_at dksX13_isDone_0 13 rfl rfl)
theorem dX13_isDone_14 : decode cX13_isDone 14 = .ok (.ireturn, 1) := dk_172 (dk_at dksX13_isDone_0 14 rfl rfl)
theorem dX13_isDone_15 : decode cX13_isDone 15 = .ok (.astore_n 3, 1) := dk_78 (dk_at dksX13_isDone_0 15 rfl rfl)
theorem dX13_isDone_16 : decode cX13_isDone 16 = .ok (.iconst 0, 1) := dk_3 (dk_at dksX13_isDone_0 16 rfl rfl)
theorem dX13_isDone_17 : decode cX13_isDone 17 = .ok (.ireturn, 1) := dk_172 (dk_at dksX13_isDone_0 17 rfl rfl)
abbrev cX13_does : ByteArray := prog_9_method_2_code
def yX13_does : MethodName := ⟨RX13, "does", "(LGargoyleCopyists$Church;[LGargoyleCopyists$Cut;)I"⟩
def dkwX13_does_19 : List UInt8 := [167, 0, 5, 16, 244, 172]
abbrev dktX13_does_19 : List UInt8 := dkwX13_does_19 ++ []
def dkwX13_does_18 : List UInt8 := [182, 0, 99, 172, 42, 180, 0, 41, 184, 0, 103, 153, 0, 14, 43, 42, 180, 0, 41, 182, 0, 106]
abbrev dktX13_does_18 : List UInt8 := dkwX13_does_18 ++ dktX13_does_19
def dkwX13_does_17 : List UInt8 := [42, 180, 0, 41, 182, 0, 96, 167, 0, 5, 16, 245, 172, 43, 42, 180, 0, 41, 42, 180, 0, 67]
abbrev dktX13_does_17 : List UInt8 := dkwX13_does_17 ++ dktX13_does_18
def dkwX13_does_16 : List UInt8 := [42, 180, 0, 41, 182, 0, 93, 167, 0, 5, 16, 245, 172, 42, 180, 0, 41, 184, 0, 45, 153, 0, 14, 43]
abbrev dktX13_does_16 : List UInt8 := dkwX13_does_16 ++ dktX13_does_17
def dkwX13_does_15 : List UInt8 := [182, 0, 87, 167, 0, 5, 16, 245, 172, 43, 180, 0, 90, 42, 180, 0, 41, 182, 0, 59, 153, 0, 14, 43]
abbrev dktX13_does_15 : List UInt8 := dkwX13_does_15 ++ dktX13_does_16
def dkwX13_does_14 : List UInt8 := [16, 245, 172, 43, 180, 0, 84, 42, 180, 0, 41, 182, 0, 59, 153, 0, 14, 43, 42, 180, 0, 41]
abbrev dktX13_does_14 : List UInt8 := dkwX13_does_14 ++ dktX13_does_15
def dkwX13_does_13 : List UInt8 := [16, 245, 172, 42, 180, 0, 41, 184, 0, 45, 153, 0, 14, 43, 42, 180, 0, 41, 182, 0, 81, 167, 0, 5]
abbrev dktX13_does_13 : List UInt8 := dkwX13_does_13 ++ dktX13_does_14
def dkwX13_does_12 : List UInt8 := [153, 0, 23, 43, 42, 180, 0, 41, 42, 180, 0, 67, 42, 180, 0, 70, 44, 182, 0, 77, 167, 0, 5]
abbrev dktX13_does_12 : List UInt8 := dkwX13_does_12 ++ dktX13_does_13
def dkwX13_does_11 : List UInt8 := [167, 0, 5, 16, 245, 172, 43, 42, 180, 0, 41, 42, 180, 0, 67, 42, 180, 0, 70, 184, 0, 73]
abbrev dktX13_does_11 : List UInt8 := dkwX13_does_11 ++ dktX13_does_12
def dkwX13_does_10 : List UInt8 := [43, 180, 0, 55, 42, 180, 0, 41, 182, 0, 59, 153, 0, 14, 43, 42, 180, 0, 41, 182, 0, 64]
abbrev dktX13_does_10 : List UInt8 := dkwX13_does_10 ++ dktX13_does_11
def dkwX13_does_9 : List UInt8 := [42, 180, 0, 41, 184, 0, 45, 153, 0, 14, 43, 42, 180, 0, 41, 182, 0, 49, 167, 0, 5, 16, 245, 172]
abbrev dktX13_does_9 : List UInt8 := dkwX13_does_9 ++ dktX13_does_10
def dkwX13_does_8 : List UInt8 := [170, 0, 0, 0, 0, 1, 2, 0, 0, 0, 0, 0, 0, 0, 7, 0, 0, 0, 47, 0, 0, 0, 71, 0, 0, 0, 99, 0, 0, 0, 141, 0, 0, 0, 165, 0, 0, 0, 193, 0, 0, 0, 221, 0, 0, 0, 245]
abbrev dktX13_does_8 : List UInt8 := dkwX13_does_8 ++ dktX13_does_9
def dkwX13_does_7 : List UInt8 := [21, 4]
abbrev dktX13_does_7 : List UInt8 := dkwX13_does_7 ++ dktX13_does_8
def dkwX13_does_6 : List UInt8 := [153, 0, 23, 16, 6, 54, 4, 167, 0, 16, 45, 18, 39, 182, 0, 23, 153, 0, 7, 16, 7, 54, 4]
abbrev dktX13_does_6 : List UInt8 := dkwX13_does_6 ++ dktX13_does_7
def dkwX13_does_5 : List UInt8 := [167, 0, 47, 45, 18, 35, 182, 0, 23, 153, 0, 38, 8, 54, 4, 167, 0, 32, 45, 18, 37, 182, 0, 23]
abbrev dktX13_does_5 : List UInt8 := dkwX13_does_5 ++ dktX13_does_6
def dkwX13_does_4 : List UInt8 := [182, 0, 23, 153, 0, 68, 6, 54, 4, 167, 0, 62, 45, 18, 33, 182, 0, 23, 153, 0, 53, 7, 54, 4]
abbrev dktX13_does_4 : List UInt8 := dkwX13_does_4 ++ dktX13_does_5
def dkwX13_does_3 : List UInt8 := [4, 54, 4, 167, 0, 92, 45, 18, 29, 182, 0, 23, 153, 0, 83, 5, 54, 4, 167, 0, 77, 45, 18, 31]
abbrev dktX13_does_3 : List UInt8 := dkwX13_does_3 ++ dktX13_does_4
def dkwX13_does_2 : List UInt8 := [45, 18, 21, 182, 0, 23, 153, 0, 113, 3, 54, 4, 167, 0, 107, 45, 18, 27, 182, 0, 23, 153, 0, 98]
abbrev dktX13_does_2 : List UInt8 := dkwX13_does_2 ++ dktX13_does_3
def dkwX13_does_1 : List UInt8 := [171, 0, 0, 0, 0, 0, 0, 195, 0, 0, 0, 8, 172, 250, 156, 151, 0, 0, 0, 91, 177, 28, 151, 214, 0, 0, 0, 166, 0, 46, 198, 30, 0, 0, 0, 106, 0, 53, 231, 31, 0, 0, 0, 182, 5, 160, 236, 193, 0, 0, 0, 76, 5, 181, 111, 190, 0, 0, 0, 121, 6, 35, 50, 117, 0, 0, 0, 136, 109, 5, 73, 113, 0, 0, 0, 151]
abbrev dktX13_does_1 : List UInt8 := dkwX13_does_1 ++ dktX13_does_2
def dkwX13_does_0 : List UInt8 := [42, 180, 0, 9, 78, 2, 54, 4, 45, 182, 0, 15]
abbrev dktX13_does_0 : List UInt8 := dkwX13_does_0 ++ dktX13_does_1
theorem dksX13_does_0 : cX13_does.data.toList.drop 0 = dktX13_does_0 := by decide +kernel
theorem dksX13_does_1 : cX13_does.data.toList.drop 12 = dktX13_does_1 := dk_seg dksX13_does_0 12 rfl rfl
theorem dksX13_does_2 : cX13_does.data.toList.drop 88 = dktX13_does_2 := dk_seg dksX13_does_1 76 rfl rfl
theorem dksX13_does_3 : cX13_does.data.toList.drop 112 = dktX13_does_3 := dk_seg dksX13_does_2 24 rfl rfl
theorem dksX13_does_4 : cX13_does.data.toList.drop 136 = dktX13_does_4 := dk_seg dksX13_does_3 24 rfl rfl
theorem dksX13_does_5 : cX13_does.data.toList.drop 160 = dktX13_does_5 := dk_seg dksX13_does_4 24 rfl rfl
theorem dksX13_does_6 : cX13_does.data.toList.drop 184 = dktX13_does_6 := dk_seg dksX13_does_5 24 rfl rfl
theorem dksX13_does_7 : cX13_does.data.toList.drop 207 = dktX13_does_7 := dk_seg dksX13_does_6 23 rfl rfl
theorem dksX13_does_8 : cX13_does.data.toList.drop 209 = dktX13_does_8 := dk_seg dksX13_does_7 2 rfl rfl
theorem dksX13_does_9 : cX13_does.data.toList.drop 256 = dktX13_does_9 := dk_seg dksX13_does_8 47 rfl rfl
theorem dksX13_does_10 : cX13_does.data.toList.drop 280 = dktX13_does_10 := dk_seg dksX13_does_9 24 rfl rfl
theorem dksX13_does_11 : cX13_does.data.toList.drop 302 = dktX13_does_11 := dk_seg dksX13_does_10 22 rfl rfl
theorem dksX13_does_12 : cX13_does.data.toList.drop 324 = dktX13_does_12 := dk_seg dksX13_does_11 22 rfl rfl
theorem dksX13_does_13 : cX13_does.data.toList.drop 347 = dktX13_does_13 := dk_seg dksX13_does_12 23 rfl rfl
theorem dksX13_does_14 : cX13_does.data.toList.drop 371 = dktX13_does_14 := dk_seg dksX13_does_13 24 rfl rfl
theorem dksX13_does_15 : cX13_does.data.toList.drop 393 = dktX13_does_15 := dk_seg dksX13_does_14 22 rfl rfl
theorem dksX13_does_16 : cX13_does.data.toList.drop 417 = dktX13_does_16 := dk_seg dksX13_does_15 24 rfl rfl
theorem dksX13_does_17 : cX13_does.data.toList.drop 441 = dktX13_does_17 := dk_seg dksX13_does_16 24 rfl rfl
theorem dksX13_does_18 : cX13_does.data.toList.drop 463 = dktX13_does_18 := dk_seg dksX13_does_17 22 rfl rfl
theorem dksX13_does_19 : cX13_does.data.toList.drop 485 = dktX13_does_19 := dk_seg dksX13_does_18 22 rfl rfl
theorem dX13_does_0 : decode cX13_does 0 = .ok (.aload_n 0, 1) := dk_42 (dk_at dksX13_does_0 0 rfl rfl)
theorem dX13_does_1 : decode cX13_does 1 = .ok (.getfield 9, 3) := dk_180 0 9 (dk_at dksX13_does_0 1 rfl rfl)
theorem dX13_does_4 : decode cX13_does 4 = .ok (.astore_n 3, 1) := dk_78 (dk_at dksX13_does_0 4 rfl rfl)
theorem dX13_does_5 : decode cX13_does 5 = .ok (.iconst (-1), 1) := dk_2 (dk_at dksX13_does_0 5 rfl rfl)
theorem dX13_does_6 : decode cX13_does 6 = .ok (.istore 4, 2) := dk_54 4 (dk_at dksX13_does_0 6 rfl rfl)
theorem dX13_does_8 : decode cX13_does 8 = .ok (.aload_n 3, 1) := dk_45 (dk_at dksX13_does_0 8 rfl rfl)
theorem dX13_does_9 : decode cX13_does 9 = .ok (.invokevirtual 15, 3) := dk_182 0 15 (dk_at dksX13_does_0 9 rfl rfl)
theorem dX13_does_12 : decode cX13_does 12 = .ok (.lookupswitch 195 #[(-1392862057, 91), (-1323526186, 166), (3065374, 106), (3532575, 182), (94432449, 76), (95776702, 121), (102969973, 136), (1829063025, 151)], 76) := by decide +kernel
theorem dX13_does_88 : decode cX13_does 88 = .ok (.aload_n 3, 1) := dk_45 (dk_at dksX13_does_2 0 rfl rfl)
theorem dX13_does_89 : decode cX13_does 89 = .ok (.ldc 21, 2) := dk_18 21 (dk_at dksX13_does_2 1 rfl rfl)
theorem dX13_does_91 : decode cX13_does 91 = .ok (.invokevirtual 23, 3) := dk_182 0 23 (dk_at dksX13_does_2 3 rfl rfl)
theorem dX13_does_94 : decode cX13_does 94 = .ok (.ifCond .eq 113, 3) := dk_153 0 113 (dk_at dksX13_does_2 6 rfl rfl)
theorem dX13_does_97 : decode cX13_does 97 = .ok (.iconst 0, 1) := dk_3 (dk_at dksX13_does_2 9 rfl rfl)
theorem dX13_does_98 : decode cX13_does 98 = .ok (.istore 4, 2) := dk_54 4 (dk_at dksX13_does_2 10 rfl rfl)
theorem dX13_does_100 : decode cX13_does 100 = .ok (.goto 107, 3) := dk_167 0 107 (dk_at dksX13_does_2 12 rfl rfl)
theorem dX13_does_103 : decode cX13_does 103 = .ok (.aload_n 3, 1) := dk_45 (dk_at dksX13_does_2 15 rfl rfl)
theorem dX13_does_104 : decode cX13_does 104 = .ok (.ldc 27, 2) := dk_18 27 (dk_at dksX13_does_2 16 rfl rfl)
theorem dX13_does_106 : decode cX13_does 106 = .ok (.invokevirtual 23, 3) := dk_182 0 23 (dk_at dksX13_does_2 18 rfl rfl)
theorem dX13_does_109 : decode cX13_does 109 = .ok (.ifCond .eq 98, 3) := dk_153 0 98 (dk_at dksX13_does_2 21 rfl rfl)
theorem dX13_does_112 : decode cX13_does 112 = .ok (.iconst 1, 1) := dk_4 (dk_at dksX13_does_3 0 rfl rfl)
theorem dX13_does_113 : decode cX13_does 113 = .ok (.istore 4, 2) := dk_54 4 (dk_at dksX13_does_3 1 rfl rfl)
theorem dX13_does_115 : decode cX13_does 115 = .ok (.goto 92, 3) := dk_167 0 92 (dk_at dksX13_does_3 3 rfl rfl)
theorem dX13_does_118 : decode cX13_does 118 = .ok (.aload_n 3, 1) := dk_45 (dk_at dksX13_does_3 6 rfl rfl)
theorem dX13_does_119 : decode cX13_does 119 = .ok (.ldc 29, 2) := dk_18 29 (dk_at dksX13_does_3 7 rfl rfl)
theorem dX13_does_121 : decode cX13_does 121 = .ok (.invokevirtual 23, 3) := dk_182 0 23 (dk_at dksX13_does_3 9 rfl rfl)
theorem dX13_does_124 : decode cX13_does 124 = .ok (.ifCond .eq 83, 3) := dk_153 0 83 (dk_at dksX13_does_3 12 rfl rfl)
theorem dX13_does_127 : decode cX13_does 127 = .ok (.iconst 2, 1) := dk_5 (dk_at dksX13_does_3 15 rfl rfl)
theorem dX13_does_128 : decode cX13_does 128 = .ok (.istore 4, 2) := dk_54 4 (dk_at dksX13_does_3 16 rfl rfl)
theorem dX13_does_130 : decode cX13_does 130 = .ok (.goto 77, 3) := dk_167 0 77 (dk_at dksX13_does_3 18 rfl rfl)
theorem dX13_does_133 : decode cX13_does 133 = .ok (.aload_n 3, 1) := dk_45 (dk_at dksX13_does_3 21 rfl rfl)
theorem dX13_does_134 : decode cX13_does 134 = .ok (.ldc 31, 2) := dk_18 31 (dk_at dksX13_does_3 22 rfl rfl)
theorem dX13_does_136 : decode cX13_does 136 = .ok (.invokevirtual 23, 3) := dk_182 0 23 (dk_at dksX13_does_4 0 rfl rfl)
theorem dX13_does_139 : decode cX13_does 139 = .ok (.ifCond .eq 68, 3) := dk_153 0 68 (dk_at dksX13_does_4 3 rfl rfl)
theorem dX13_does_142 : decode cX13_does 142 = .ok (.iconst 3, 1) := dk_6 (dk_at dksX13_does_4 6 rfl rfl)
theorem dX13_does_143 : decode cX13_does 143 = .ok (.istore 4, 2) := dk_54 4 (dk_at dksX13_does_4 7 rfl rfl)
theorem dX13_does_145 : decode cX13_does 145 = .ok (.goto 62, 3) := dk_167 0 62 (dk_at dksX13_does_4 9 rfl rfl)
theorem dX13_does_148 : decode cX13_does 148 = .ok (.aload_n 3, 1) := dk_45 (dk_at dksX13_does_4 12 rfl rfl)
theorem dX13_does_149 : decode cX13_does 149 = .ok (.ldc 33, 2) := dk_18 33 (dk_at dksX13_does_4 13 rfl rfl)
theorem dX13_does_151 : decode cX13_does 151 = .ok (.invokevirtual 23, 3) := dk_182 0 23 (dk_at dksX13_does_4 15 rfl rfl)
theorem dX13_does_154 : decode cX13_does 154 = .ok (.ifCond .eq 53, 3) := dk_153 0 53 (dk_at dksX13_does_4 18 rfl rfl)
theorem dX13_does_157 : decode cX13_does 157 = .ok (.iconst 4, 1) := dk_7 (dk_at dksX13_does_4 21 rfl rfl)
theorem dX13_does_158 : decode cX13_does 158 = .ok (.istore 4, 2) := dk_54 4 (dk_at dksX13_does_4 22 rfl rfl)
theorem dX13_does_160 : decode cX13_does 160 = .ok (.goto 47, 3) := dk_167 0 47 (dk_at dksX13_does_5 0 rfl rfl)
theorem dX13_does_163 : decode cX13_does 163 = .ok (.aload_n 3, 1) := dk_45 (dk_at dksX13_does_5 3 rfl rfl)
theorem dX13_does_164 : decode cX13_does 164 = .ok (.ldc 35, 2) := dk_18 35 (dk_at dksX13_does_5 4 rfl rfl)
theorem dX13_does_166 : decode cX13_does 166 = .ok (.invokevirtual 23, 3) := dk_182 0 23 (dk_at dksX13_does_5 6 rfl rfl)
theorem dX13_does_169 : decode cX13_does 169 = .ok (.ifCond .eq 38, 3) := dk_153 0 38 (dk_at dksX13_does_5 9 rfl rfl)
theorem dX13_does_172 : decode cX13_does 172 = .ok (.iconst 5, 1) := dk_8 (dk_at dksX13_does_5 12 rfl rfl)
theorem dX13_does_173 : decode cX13_does 173 = .ok (.istore 4, 2) := dk_54 4 (dk_at dksX13_does_5 13 rfl rfl)
theorem dX13_does_175 : decode cX13_does 175 = .ok (.goto 32, 3) := dk_167 0 32 (dk_at dksX13_does_5 15 rfl rfl)
theorem dX13_does_178 : decode cX13_does 178 = .ok (.aload_n 3, 1) := dk_45 (dk_at dksX13_does_5 18 rfl rfl)
theorem dX13_does_179 : decode cX13_does 179 = .ok (.ldc 37, 2) := dk_18 37 (dk_at dksX13_does_5 19 rfl rfl)
theorem dX13_does_181 : decode cX13_does 181 = .ok (.invokevirtual 23, 3) := dk_182 0 23 (dk_at dksX13_does_5 21 rfl rfl)
theorem dX13_does_184 : decode cX13_does 184 = .ok (.ifCond .eq 23, 3) := dk_153 0 23 (dk_at dksX13_does_6 0 rfl rfl)
theorem dX13_does_187 : decode cX13_does 187 = .ok (.bipush 6, 2) := dk_16 6 (dk_at dksX13_does_6 3 rfl rfl)
theorem dX13_does_189 : decode cX13_does 189 = .ok (.istore 4, 2) := dk_54 4 (dk_at dksX13_does_6 5 rfl rfl)
theorem dX13_does_191 : decode cX13_does 191 = .ok (.goto 16, 3) := dk_167 0 16 (dk_at dksX13_does_6 7 rfl rfl)
theorem dX13_does_194 : decode cX13_does 194 = .ok (.aload_n 3, 1) := dk_45 (dk_at dksX13_does_6 10 rfl rfl)
theorem dX13_does_195 : decode cX13_does 195 = .ok (.ldc 39, 2) := dk_18 39 (dk_at dksX13_does_6 11 rfl rfl)
theorem dX13_does_197 : decode cX13_does 197 = .ok (.invokevirtual 23, 3) := dk_182 0 23 (dk_at dksX13_does_6 13 rfl rfl)
theorem dX13_does_200 : decode cX13_does 200 = .ok (.ifCond .eq 7, 3) := dk_153 0 7 (dk_at dksX13_does_6 16 rfl rfl)
theorem dX13_does_203 : decode cX13_does 203 = .ok (.bipush 7, 2) := dk_16 7 (dk_at dksX13_does_6 19 rfl rfl)
theorem dX13_does_205 : decode cX13_does 205 = .ok (.istore 4, 2) := dk_54 4 (dk_at dksX13_does_6 21 rfl rfl)
theorem dX13_does_207 : decode cX13_does 207 = .ok (.iload 4, 2) := dk_21 4 (dk_at dksX13_does_7 0 rfl rfl)
theorem dX13_does_209 : decode cX13_does 209 = .ok (.tableswitch 258 0 7 #[47, 71, 99, 141, 165, 193, 221, 245], 47) := by decide +kernel
theorem dX13_does_256 : decode cX13_does 256 = .ok (.aload_n 0, 1) := dk_42 (dk_at dksX13_does_9 0 rfl rfl)
theorem dX13_does_257 : decode cX13_does 257 = .ok (.getfield 41, 3) := dk_180 0 41 (dk_at dksX13_does_9 1 rfl rfl)
theorem dX13_does_260 : decode cX13_does 260 = .ok (.invokestatic 45, 3) := dk_184 0 45 (dk_at dksX13_does_9 4 rfl rfl)
theorem dX13_does_263 : decode cX13_does 263 = .ok (.ifCond .eq 14, 3) := dk_153 0 14 (dk_at dksX13_does_9 7 rfl rfl)
theorem dX13_does_266 : decode cX13_does 266 = .ok (.aload_n 1, 1) := dk_43 (dk_at dksX13_does_9 10 rfl rfl)
theorem dX13_does_267 : decode cX13_does 267 = .ok (.aload_n 0, 1) := dk_42 (dk_at dksX13_does_9 11 rfl rfl)
theorem dX13_does_268 : decode cX13_does 268 = .ok (.getfield 41, 3) := dk_180 0 41 (dk_at dksX13_does_9 12 rfl rfl)
theorem dX13_does_271 : decode cX13_does 271 = .ok (.invokevirtual 49, 3) := dk_182 0 49 (dk_at dksX13_does_9 15 rfl rfl)
theorem dX13_does_274 : decode cX13_does 274 = .ok (.goto 5, 3) := dk_167 0 5 (dk_at dksX13_does_9 18 rfl rfl)
theorem dX13_does_277 : decode cX13_does 277 = .ok (.bipush (-11), 2) := dk_16 245 (dk_at dksX13_does_9 21 rfl rfl)
theorem dX13_does_279 : decode cX13_does 279 = .ok (.ireturn, 1) := dk_172 (dk_at dksX13_does_9 23 rfl rfl)
theorem dX13_does_280 : decode cX13_does 280 = .ok (.aload_n 1, 1) := dk_43 (dk_at dksX13_does_10 0 rfl rfl)
theorem dX13_does_281 : decode cX13_does 281 = .ok (.getfield 55, 3) := dk_180 0 55 (dk_at dksX13_does_10 1 rfl rfl)
theorem dX13_does_284 : decode cX13_does 284 = .ok (.aload_n 0, 1) := dk_42 (dk_at dksX13_does_10 4 rfl rfl)
theorem dX13_does_285 : decode cX13_does 285 = .ok (.getfield 41, 3) := dk_180 0 41 (dk_at dksX13_does_10 5 rfl rfl)
theorem dX13_does_288 : decode cX13_does 288 = .ok (.invokevirtual 59, 3) := dk_182 0 59 (dk_at dksX13_does_10 8 rfl rfl)
theorem dX13_does_291 : decode cX13_does 291 = .ok (.ifCond .eq 14, 3) := dk_153 0 14 (dk_at dksX13_does_10 11 rfl rfl)
theorem dX13_does_294 : decode cX13_does 294 = .ok (.aload_n 1, 1) := dk_43 (dk_at dksX13_does_10 14 rfl rfl)
theorem dX13_does_295 : decode cX13_does 295 = .ok (.aload_n 0, 1) := dk_42 (dk_at dksX13_does_10 15 rfl rfl)
theorem dX13_does_296 : decode cX13_does 296 = .ok (.getfield 41, 3) := dk_180 0 41 (dk_at dksX13_does_10 16 rfl rfl)
theorem dX13_does_299 : decode cX13_does 299 = .ok (.invokevirtual 64, 3) := dk_182 0 64 (dk_at dksX13_does_10 19 rfl rfl)
theorem dX13_does_302 : decode cX13_does 302 = .ok (.goto 5, 3) := dk_167 0 5 (dk_at dksX13_does_11 0 rfl rfl)
theorem dX13_does_305 : decode cX13_does 305 = .ok (.bipush (-11), 2) := dk_16 245 (dk_at dksX13_does_11 3 rfl rfl)
theorem dX13_does_307 : decode cX13_does 307 = .ok (.ireturn, 1) := dk_172 (dk_at dksX13_does_11 5 rfl rfl)
theorem dX13_does_308 : decode cX13_does 308 = .ok (.aload_n 1, 1) := dk_43 (dk_at dksX13_does_11 6 rfl rfl)
theorem dX13_does_309 : decode cX13_does 309 = .ok (.aload_n 0, 1) := dk_42 (dk_at dksX13_does_11 7 rfl rfl)
theorem dX13_does_310 : decode cX13_does 310 = .ok (.getfield 41, 3) := dk_180 0 41 (dk_at dksX13_does_11 8 rfl rfl)
theorem dX13_does_313 : decode cX13_does 313 = .ok (.aload_n 0, 1) := dk_42 (dk_at dksX13_does_11 11 rfl rfl)
theorem dX13_does_314 : decode cX13_does 314 = .ok (.getfield 67, 3) := dk_180 0 67 (dk_at dksX13_does_11 12 rfl rfl)
theorem dX13_does_317 : decode cX13_does 317 = .ok (.aload_n 0, 1) := dk_42 (dk_at dksX13_does_11 15 rfl rfl)
theorem dX13_does_318 : decode cX13_does 318 = .ok (.getfield 70, 3) := dk_180 0 70 (dk_at dksX13_does_11 16 rfl rfl)
theorem dX13_does_321 : decode cX13_does 321 = .ok (.invokestatic 73, 3) := dk_184 0 73 (dk_at dksX13_does_11 19 rfl rfl)
theorem dX13_does_324 : decode cX13_does 324 = .ok (.ifCond .eq 23, 3) := dk_153 0 23 (dk_at dksX13_does_12 0 rfl rfl)
theorem dX13_does_327 : decode cX13_does 327 = .ok (.aload_n 1, 1) := dk_43 (dk_at dksX13_does_12 3 rfl rfl)
theorem dX13_does_328 : decode cX13_does 328 = .ok (.aload_n 0, 1) := dk_42 (dk_at dksX13_does_12 4 rfl rfl)
theorem dX13_does_329 : decode cX13_does 329 = .ok (.getfield 41, 3) := dk_180 0 41 (dk_at dksX13_does_12 5 rfl rfl)
theorem dX13_does_332 : decode cX13_does 332 = .ok (.aload_n 0, 1) := dk_42 (dk_at dksX13_does_12 8 rfl rfl)
theorem dX13_does_333 : decode cX13_does 333 = .ok (.getfield 67, 3) := dk_180 0 67 (dk_at dksX13_does_12 9 rfl rfl)
theorem dX13_does_336 : decode cX13_does 336 = .ok (.aload_n 0, 1) := dk_42 (dk_at dksX13_does_12 12 rfl rfl)
theorem dX13_does_337 : decode cX13_does 337 = .ok (.getfield 70, 3) := dk_180 0 70 (dk_at dksX13_does_12 13 rfl rfl)
theorem dX13_does_340 : decode cX13_does 340 = .ok (.aload_n 2, 1) := dk_44 (dk_at dksX13_does_12 16 rfl rfl)
theorem dX13_does_341 : decode cX13_does 341 = .ok (.invokevirtual 77, 3) := dk_182 0 77 (dk_at dksX13_does_12 17 rfl rfl)
theorem dX13_does_344 : decode cX13_does 344 = .ok (.goto 5, 3) := dk_167 0 5 (dk_at dksX13_does_12 20 rfl rfl)
theorem dX13_does_347 : decode cX13_does 347 = .ok (.bipush (-11), 2) := dk_16 245 (dk_at dksX13_does_13 0 rfl rfl)
theorem dX13_does_349 : decode cX13_does 349 = .ok (.ireturn, 1) := dk_172 (dk_at dksX13_does_13 2 rfl rfl)
theorem dX13_does_350 : decode cX13_does 350 = .ok (.aload_n 0, 1) := dk_42 (dk_at dksX13_does_13 3 rfl rfl)
theorem dX13_does_351 : decode cX13_does 351 = .ok (.getfield 41, 3) := dk_180 0 41 (dk_at dksX13_does_13 4 rfl rfl)
theorem dX13_does_354 : decode cX13_does 354 = .ok (.invokestatic 45, 3) := dk_184 0 45 (dk_at dksX13_does_13 7 rfl rfl)
theorem dX13_does_357 : decode cX13_does 357 = .ok (.ifCond .eq 14, 3) := dk_153 0 14 (dk_at dksX13_does_13 10 rfl rfl)
theorem dX13_does_360 : decode cX13_does 360 = .ok (.aload_n 1, 1) := dk_43 (dk_at dksX13_does_13 13 rfl rfl)
theorem dX13_does_361 : decode cX13_does 361 = .ok (.aload_n 0, 1) := dk_42 (dk_at dksX13_does_13 14 rfl rfl)
theorem dX13_does_362 : decode cX13_does 362 = .ok (.getfield 41, 3) := dk_180 0 41 (dk_at dksX13_does_13 15 rfl rfl)
theorem dX13_does_365 : decode cX13_does 365 = .ok (.invokevirtual 81, 3) := dk_182 0 81 (dk_at dksX13_does_13 18 rfl rfl)
theorem dX13_does_368 : decode cX13_does 368 = .ok (.goto 5, 3) := dk_167 0 5 (dk_at dksX13_does_13 21 rfl rfl)
theorem dX13_does_371 : decode cX13_does 371 = .ok (.bipush (-11), 2) := dk_16 245 (dk_at dksX13_does_14 0 rfl rfl)
theorem dX13_does_373 : decode cX13_does 373 = .ok (.ireturn, 1) := dk_172 (dk_at dksX13_does_14 2 rfl rfl)
theorem dX13_does_374 : decode cX13_does 374 = .ok (.aload_n 1, 1) := dk_43 (dk_at dksX13_does_14 3 rfl rfl)
theorem dX13_does_375 : decode cX13_does 375 = .ok (.getfield 84, 3) := dk_180 0 84 (dk_at dksX13_does_14 4 rfl rfl)
theorem dX13_does_378 : decode cX13_does 378 = .ok (.aload_n 0, 1) := dk_42 (dk_at dksX13_does_14 7 rfl rfl)
theorem dX13_does_379 : decode cX13_does 379 = .ok (.getfield 41, 3) := dk_180 0 41 (dk_at dksX13_does_14 8 rfl rfl)
theorem dX13_does_382 : decode cX13_does 382 = .ok (.invokevirtual 59, 3) := dk_182 0 59 (dk_at dksX13_does_14 11 rfl rfl)
theorem dX13_does_385 : decode cX13_does 385 = .ok (.ifCond .eq 14, 3) := dk_153 0 14 (dk_at dksX13_does_14 14 rfl rfl)
theorem dX13_does_388 : decode cX13_does 388 = .ok (.aload_n 1, 1) := dk_43 (dk_at dksX13_does_14 17 rfl rfl)
theorem dX13_does_389 : decode cX13_does 389 = .ok (.aload_n 0, 1) := dk_42 (dk_at dksX13_does_14 18 rfl rfl)
theorem dX13_does_390 : decode cX13_does 390 = .ok (.getfield 41, 3) := dk_180 0 41 (dk_at dksX13_does_14 19 rfl rfl)
theorem dX13_does_393 : decode cX13_does 393 = .ok (.invokevirtual 87, 3) := dk_182 0 87 (dk_at dksX13_does_15 0 rfl rfl)
theorem dX13_does_396 : decode cX13_does 396 = .ok (.goto 5, 3) := dk_167 0 5 (dk_at dksX13_does_15 3 rfl rfl)
theorem dX13_does_399 : decode cX13_does 399 = .ok (.bipush (-11), 2) := dk_16 245 (dk_at dksX13_does_15 6 rfl rfl)
theorem dX13_does_401 : decode cX13_does 401 = .ok (.ireturn, 1) := dk_172 (dk_at dksX13_does_15 8 rfl rfl)
theorem dX13_does_402 : decode cX13_does 402 = .ok (.aload_n 1, 1) := dk_43 (dk_at dksX13_does_15 9 rfl rfl)
theorem dX13_does_403 : decode cX13_does 403 = .ok (.getfield 90, 3) := dk_180 0 90 (dk_at dksX13_does_15 10 rfl rfl)
theorem dX13_does_406 : decode cX13_does 406 = .ok (.aload_n 0, 1) := dk_42 (dk_at dksX13_does_15 13 rfl rfl)
theorem dX13_does_407 : decode cX13_does 407 = .ok (.getfield 41, 3) := dk_180 0 41 (dk_at dksX13_does_15 14 rfl rfl)
theorem dX13_does_410 : decode cX13_does 410 = .ok (.invokevirtual 59, 3) := dk_182 0 59 (dk_at dksX13_does_15 17 rfl rfl)
theorem dX13_does_413 : decode cX13_does 413 = .ok (.ifCond .eq 14, 3) := dk_153 0 14 (dk_at dksX13_does_15 20 rfl rfl)
theorem dX13_does_416 : decode cX13_does 416 = .ok (.aload_n 1, 1) := dk_43 (dk_at dksX13_does_15 23 rfl rfl)
theorem dX13_does_417 : decode cX13_does 417 = .ok (.aload_n 0, 1) := dk_42 (dk_at dksX13_does_16 0 rfl rfl)
theorem dX13_does_418 : decode cX13_does 418 = .ok (.getfield 41, 3) := dk_180 0 41 (dk_at dksX13_does_16 1 rfl rfl)
theorem dX13_does_421 : decode cX13_does 421 = .ok (.invokevirtual 93, 3) := dk_182 0 93 (dk_at dksX13_does_16 4 rfl rfl)
theorem dX13_does_424 : decode cX13_does 424 = .ok (.goto 5, 3) := dk_167 0 5 (dk_at dksX13_does_16 7 rfl rfl)
theorem dX13_does_427 : decode cX13_does 427 = .ok (.bipush (-11), 2) := dk_16 245 (dk_at dksX13_does_16 10 rfl rfl)
theorem dX13_does_429 : decode cX13_does 429 = .ok (.ireturn, 1) := dk_172 (dk_at dksX13_does_16 12 rfl rfl)
theorem dX13_does_430 : decode cX13_does 430 = .ok (.aload_n 0, 1) := dk_42 (dk_at dksX13_does_16 13 rfl rfl)
theorem dX13_does_431 : decode cX13_does 431 = .ok (.getfield 41, 3) := dk_180 0 41 (dk_at dksX13_does_16 14 rfl rfl)
theorem dX13_does_434 : decode cX13_does 434 = .ok (.invokestatic 45, 3) := dk_184 0 45 (dk_at dksX13_does_16 17 rfl rfl)
theorem dX13_does_437 : decode cX13_does 437 = .ok (.ifCond .eq 14, 3) := dk_153 0 14 (dk_at dksX13_does_16 20 rfl rfl)
theorem dX13_does_440 : decode cX13_does 440 = .ok (.aload_n 1, 1) := dk_43 (dk_at dksX13_does_16 23 rfl rfl)
theorem dX13_does_441 : decode cX13_does 441 = .ok (.aload_n 0, 1) := dk_42 (dk_at dksX13_does_17 0 rfl rfl)
theorem dX13_does_442 : decode cX13_does 442 = .ok (.getfield 41, 3) := dk_180 0 41 (dk_at dksX13_does_17 1 rfl rfl)
theorem dX13_does_445 : decode cX13_does 445 = .ok (.invokevirtual 96, 3) := dk_182 0 96 (dk_at dksX13_does_17 4 rfl rfl)
theorem dX13_does_448 : decode cX13_does 448 = .ok (.goto 5, 3) := dk_167 0 5 (dk_at dksX13_does_17 7 rfl rfl)
theorem dX13_does_451 : decode cX13_does 451 = .ok (.bipush (-11), 2) := dk_16 245 (dk_at dksX13_does_17 10 rfl rfl)
theorem dX13_does_453 : decode cX13_does 453 = .ok (.ireturn, 1) := dk_172 (dk_at dksX13_does_17 12 rfl rfl)
theorem dX13_does_454 : decode cX13_does 454 = .ok (.aload_n 1, 1) := dk_43 (dk_at dksX13_does_17 13 rfl rfl)
theorem dX13_does_455 : decode cX13_does 455 = .ok (.aload_n 0, 1) := dk_42 (dk_at dksX13_does_17 14 rfl rfl)
theorem dX13_does_456 : decode cX13_does 456 = .ok (.getfield 41, 3) := dk_180 0 41 (dk_at dksX13_does_17 15 rfl rfl)
theorem dX13_does_459 : decode cX13_does 459 = .ok (.aload_n 0, 1) := dk_42 (dk_at dksX13_does_17 18 rfl rfl)
theorem dX13_does_460 : decode cX13_does 460 = .ok (.getfield 67, 3) := dk_180 0 67 (dk_at dksX13_does_17 19 rfl rfl)
theorem dX13_does_463 : decode cX13_does 463 = .ok (.invokevirtual 99, 3) := dk_182 0 99 (dk_at dksX13_does_18 0 rfl rfl)
theorem dX13_does_466 : decode cX13_does 466 = .ok (.ireturn, 1) := dk_172 (dk_at dksX13_does_18 3 rfl rfl)
theorem dX13_does_467 : decode cX13_does 467 = .ok (.aload_n 0, 1) := dk_42 (dk_at dksX13_does_18 4 rfl rfl)
theorem dX13_does_468 : decode cX13_does 468 = .ok (.getfield 41, 3) := dk_180 0 41 (dk_at dksX13_does_18 5 rfl rfl)
theorem dX13_does_471 : decode cX13_does 471 = .ok (.invokestatic 103, 3) := dk_184 0 103 (dk_at dksX13_does_18 8 rfl rfl)
theorem dX13_does_474 : decode cX13_does 474 = .ok (.ifCond .eq 14, 3) := dk_153 0 14 (dk_at dksX13_does_18 11 rfl rfl)
theorem dX13_does_477 : decode cX13_does 477 = .ok (.aload_n 1, 1) := dk_43 (dk_at dksX13_does_18 14 rfl rfl)
theorem dX13_does_478 : decode cX13_does 478 = .ok (.aload_n 0, 1) := dk_42 (dk_at dksX13_does_18 15 rfl rfl)
theorem dX13_does_479 : decode cX13_does 479 = .ok (.getfield 41, 3) := dk_180 0 41 (dk_at dksX13_does_18 16 rfl rfl)
theorem dX13_does_482 : decode cX13_does 482 = .ok (.invokevirtual 106, 3) := dk_182 0 106 (dk_at dksX13_does_18 19 rfl rfl)
theorem dX13_does_485 : decode cX13_does 485 = .ok (.goto 5, 3) := dk_167 0 5 (dk_at dksX13_does_19 0 rfl rfl)
theorem dX13_does_488 : decode cX13_does 488 = .ok (.bipush (-12), 2) := dk_16 244 (dk_at dksX13_does_19 3 rfl rfl)
theorem dX13_does_490 : decode cX13_does 490 = .ok (.ireturn, 1) := dk_172 (dk_at dksX13_does_19 5 rfl rfl)
theorem q96 : (Jvm.Cond.initialized "GargoyleCopyists$Order") ∈ lw_all := lw_g (lw_at lw_m1 33 rfl) rfl
theorem q243 : (Jvm.Cond.selects "GargoyleCopyists$Order" ({ cls := "java/lang/Object", name := "getClass", desc := "()Ljava/lang/Class;" } : Jvm.MethodName) ({ cls := "java/lang/Object", name := "getClass", desc := "()Ljava/lang/Class;" } : Jvm.MethodName)) ∈ lw_all := lw_g (lw_at lw_m1 180 rfl) rfl
theorem q277 : (Jvm.Cond.fieldLinkNest "GargoyleCopyists$Order" (55 : Nat) "GargoyleCopyists$Church" "casts" "LGargoyleCopyists$Row;" "GargoyleCopyists") ∈ lw_tbl := lw_at lw_m1 214 rfl
theorem q280 : (Jvm.Cond.fieldLinkNest "GargoyleCopyists$Order" (90 : Nat) "GargoyleCopyists$Church" "copyists" "LGargoyleCopyists$Row;" "GargoyleCopyists") ∈ lw_tbl := lw_at lw_m1 217 rfl
theorem q283 : (Jvm.Cond.fieldLinkNest "GargoyleCopyists$Order" (84 : Nat) "GargoyleCopyists$Church" "copies" "LGargoyleCopyists$Row;" "GargoyleCopyists") ∈ lw_tbl := lw_at lw_m1 220 rfl
theorem q1217 : (Jvm.Cond.instantiable "GargoyleCopyists$Order" (4 : Nat)) ∈ lw_all := lw_g (lw_at lw_m5 194 rfl) rfl
theorem q1528 : (Jvm.Cond.instanceMethod ({ cls := "GargoyleCopyists$Order", name := "<init>", desc := "(Ljava/lang/String;)V" } : Jvm.MethodName)) ∈ lw_all := lw_g (lw_at lw_m7 25 rfl) rfl
theorem q1529 : (Jvm.Cond.code ({ cls := "GargoyleCopyists$Order", name := "<init>", desc := "(Ljava/lang/String;)V" } : Jvm.MethodName) prog_9_method_1_code (2 : Nat) (Option.none : Option Jvm.ClassFile.FieldType)) ∈ lw_all := lw_g (lw_at lw_m7 26 rfl) rfl
theorem q1530 : (Jvm.Cond.methodLink "GargoyleCopyists$Order" (3 : Nat) ({ cls := "java/lang/Object", name := "<init>", desc := "()V" } : Jvm.MethodName)) ∈ lw_all := lw_g (lw_at lw_m7 27 rfl) rfl
theorem q1531 : (Jvm.Cond.fieldLink "GargoyleCopyists$Order" (9 : Nat) "GargoyleCopyists$Order" "word" "Ljava/lang/String;") ∈ lw_all := lw_g (lw_at lw_m7 28 rfl) rfl
theorem q1533 : (Jvm.Cond.fieldLink "GargoyleCopyists$Order" (41 : Nat) "GargoyleCopyists$Order" "one" "I") ∈ lw_all := lw_g (lw_at lw_m7 30 rfl) rfl
theorem q1535 : (Jvm.Cond.fieldLink "GargoyleCopyists$Order" (67 : Nat) "GargoyleCopyists$Order" "two" "I") ∈ lw_all := lw_g (lw_at lw_m7 32 rfl) rfl
theorem q1537 : (Jvm.Cond.fieldLink "GargoyleCopyists$Order" (70 : Nat) "GargoyleCopyists$Order" "three" "I") ∈ lw_all := lw_g (lw_at lw_m7 34 rfl) rfl
theorem q1539 : (Jvm.Cond.laysFinal "GargoyleCopyists$Order" "GargoyleCopyists$Order" "word" "Ljava/lang/String;") ∈ lw_all := lw_g (lw_at lw_m7 36 rfl) rfl
theorem q1540 : (Jvm.Cond.soleField "GargoyleCopyists$Order" "word") ∈ lw_all := lw_g (lw_at lw_m7 37 rfl) rfl
theorem q1541 : (Jvm.Cond.lays "GargoyleCopyists$Order" "GargoyleCopyists$Order" "one" "I") ∈ lw_all := lw_g (lw_at lw_m7 38 rfl) rfl
theorem q1542 : (Jvm.Cond.soleField "GargoyleCopyists$Order" "one") ∈ lw_all := lw_g (lw_at lw_m7 39 rfl) rfl
theorem q1543 : (Jvm.Cond.lays "GargoyleCopyists$Order" "GargoyleCopyists$Order" "two" "I") ∈ lw_all := lw_g (lw_at lw_m7 40 rfl) rfl
theorem q1544 : (Jvm.Cond.soleField "GargoyleCopyists$Order" "two") ∈ lw_all := lw_g (lw_at lw_m7 41 rfl) rfl
theorem q1545 : (Jvm.Cond.lays "GargoyleCopyists$Order" "GargoyleCopyists$Order" "three" "I") ∈ lw_all := lw_g (lw_at lw_m7 42 rfl) rfl
theorem q1546 : (Jvm.Cond.soleField "GargoyleCopyists$Order" "three") ∈ lw_all := lw_g (lw_at lw_m7 43 rfl) rfl
theorem q1547 : (Jvm.Cond.superclass "GargoyleCopyists$Order" "java/lang/Object") ∈ lw_all := lw_g (lw_at lw_m7 44 rfl) rfl
theorem q1615 : (Jvm.Cond.instanceMethod ({ cls := "GargoyleCopyists$Order", name := "isDone", desc := "(LGargoyleCopyists$Church;[LGargoyleCopyists$Cut;)Z" } : Jvm.MethodName)) ∈ lw_all := lw_g (lw_at lw_m7 112 rfl) rfl
theorem q1616 : (Jvm.Cond.selects "GargoyleCopyists$Order" ({ cls := "GargoyleCopyists$Order", name := "isDone", desc := "(LGargoyleCopyists$Church;[LGargoyleCopyists$Cut;)Z" } : Jvm.MethodName) ({ cls := "GargoyleCopyists$Order", name := "isDone", desc := "(LGargoyleCopyists$Church;[LGargoyleCopyists$Cut;)Z" } : Jvm.MethodName)) ∈ lw_all := lw_g (lw_at lw_m7 113 rfl) rfl
theorem q1617 : (Jvm.Cond.codeWith ({ cls := "GargoyleCopyists$Order", name := "isDone", desc := "(LGargoyleCopyists$Church;[LGargoyleCopyists$Cut;)Z" } : Jvm.MethodName) prog_9_method_3_code (4 : Nat) (Option.some Jvm.ClassFile.FieldType.boolean) [((0 : Nat), (14 : Nat), (15 : Nat), (113 : Nat))]) ∈ lw_all := lw_g (lw_at lw_m7 114 rfl) rfl
theorem q1618 : (Jvm.Cond.classLink "GargoyleCopyists$Order" (113 : Nat) "GargoyleCopyists$Refused") ∈ lw_all := lw_g (lw_at lw_m7 115 rfl) rfl
theorem q1619 : (Jvm.Cond.methodLink "GargoyleCopyists$Order" (109 : Nat) ({ cls := "GargoyleCopyists$Order", name := "does", desc := "(LGargoyleCopyists$Church;[LGargoyleCopyists$Cut;)I" } : Jvm.MethodName)) ∈ lw_all := lw_g (lw_at lw_m7 116 rfl) rfl
theorem q1620 : (Jvm.Cond.privateMethod ({ cls := "GargoyleCopyists$Order", name := "does", desc := "(LGargoyleCopyists$Church;[LGargoyleCopyists$Cut;)I" } : Jvm.MethodName)) ∈ lw_tbl := lw_at lw_m7 117 rfl
theorem q1621 : (Jvm.Cond.instanceMethod ({ cls := "GargoyleCopyists$Order", name := "does", desc := "(LGargoyleCopyists$Church;[LGargoyleCopyists$Cut;)I" } : Jvm.MethodName)) ∈ lw_all := lw_g (lw_at lw_m7 118 rfl) rfl
theorem q1622 : (Jvm.Cond.code ({ cls := "GargoyleCopyists$Order", name := "does", desc := "(LGargoyleCopyists$Church;[LGargoyleCopyists$Cut;)I" } : Jvm.MethodName) prog_9_method_2_code (5 : Nat) (Option.some Jvm.ClassFile.FieldType.int)) ∈ lw_all := lw_g (lw_at lw_m7 119 rfl) rfl
theorem q1623 : (Jvm.Cond.methodLink "GargoyleCopyists$Order" (15 : Nat) ({ cls := "java/lang/String", name := "hashCode", desc := "()I" } : Jvm.MethodName)) ∈ lw_all := lw_g (lw_at lw_m7 120 rfl) rfl
theorem q1624 : (Jvm.Cond.stringRef "GargoyleCopyists$Order" (21 : Nat) "cast ") ∈ lw_tbl := lw_at lw_m7 121 rfl
theorem q1625 : (Jvm.Cond.methodLink "GargoyleCopyists$Order" (23 : Nat) ({ cls := "java/lang/String", name := "equals", desc := "(Ljava/lang/Object;)Z" } : Jvm.MethodName)) ∈ lw_all := lw_g (lw_at lw_m7 122 rfl) rfl
theorem q1626 : (Jvm.Cond.stringRef "GargoyleCopyists$Order" (27 : Nat) "begin ") ∈ lw_tbl := lw_at lw_m7 123 rfl
theorem q1627 : (Jvm.Cond.stringRef "GargoyleCopyists$Order" (29 : Nat) "cut ") ∈ lw_tbl := lw_at lw_m7 124 rfl
theorem q1628 : (Jvm.Cond.stringRef "GargoyleCopyists$Order" (31 : Nat) "down ") ∈ lw_tbl := lw_at lw_m7 125 rfl
theorem q1629 : (Jvm.Cond.stringRef "GargoyleCopyists$Order" (33 : Nat) "lift ") ∈ lw_tbl := lw_at lw_m7 126 rfl
theorem q1630 : (Jvm.Cond.stringRef "GargoyleCopyists$Order" (35 : Nat) "needle ") ∈ lw_tbl := lw_at lw_m7 127 rfl
theorem q1631 : (Jvm.Cond.stringRef "GargoyleCopyists$Order" (37 : Nat) "drive ") ∈ lw_tbl := lw_at lw_m7 128 rfl
theorem q1632 : (Jvm.Cond.stringRef "GargoyleCopyists$Order" (39 : Nat) "sky ") ∈ lw_tbl := lw_at lw_m7 129 rfl
theorem q1633 : (Jvm.Cond.methodLinkNest "GargoyleCopyists$Order" (45 : Nat) ({ cls := "GargoyleCopyists", name := "isLedge", desc := "(I)Z" } : Jvm.MethodName) "GargoyleCopyists") ∈ lw_tbl := lw_at lw_m7 130 rfl
theorem q1634 : (Jvm.Cond.methodLink "GargoyleCopyists$Order" (49 : Nat) ({ cls := "GargoyleCopyists$Church", name := "takesCast", desc := "(I)I" } : Jvm.MethodName)) ∈ lw_all := lw_g (lw_at lw_m7 131 rfl) rfl
theorem q1635 : (Jvm.Cond.methodLink "GargoyleCopyists$Order" (59 : Nat) ({ cls := "GargoyleCopyists$Row", name := "has", desc := "(I)Z" } : Jvm.MethodName)) ∈ lw_all := lw_g (lw_at lw_m7 132 rfl) rfl
theorem q1636 : (Jvm.Cond.methodLink "GargoyleCopyists$Order" (64 : Nat) ({ cls := "GargoyleCopyists$Church", name := "begins", desc := "(I)I" } : Jvm.MethodName)) ∈ lw_all := lw_g (lw_at lw_m7 133 rfl) rfl
theorem q1637 : (Jvm.Cond.methodLinkNest "GargoyleCopyists$Order" (73 : Nat) ({ cls := "GargoyleCopyists", name := "areThere", desc := "(LGargoyleCopyists$Church;III)Z" } : Jvm.MethodName) "GargoyleCopyists") ∈ lw_tbl := lw_at lw_m7 134 rfl
theorem q1638 : (Jvm.Cond.methodLink "GargoyleCopyists$Order" (77 : Nat) ({ cls := "GargoyleCopyists$Church", name := "cuts", desc := "(III[LGargoyleCopyists$Cut;)I" } : Jvm.MethodName)) ∈ lw_all := lw_g (lw_at lw_m7 135 rfl) rfl
theorem q1639 : (Jvm.Cond.methodLink "GargoyleCopyists$Order" (81 : Nat) ({ cls := "GargoyleCopyists$Church", name := "takesDown", desc := "(I)I" } : Jvm.MethodName)) ∈ lw_all := lw_g (lw_at lw_m7 136 rfl) rfl
theorem q1640 : (Jvm.Cond.methodLink "GargoyleCopyists$Order" (87 : Nat) ({ cls := "GargoyleCopyists$Church", name := "lifts", desc := "(I)I" } : Jvm.MethodName)) ∈ lw_all := lw_g (lw_at lw_m7 137 rfl) rfl
theorem q1641 : (Jvm.Cond.methodLink "GargoyleCopyists$Order" (93 : Nat) ({ cls := "GargoyleCopyists$Church", name := "newNeedle", desc := "(I)I" } : Jvm.MethodName)) ∈ lw_all := lw_g (lw_at lw_m7 138 rfl) rfl
theorem q1642 : (Jvm.Cond.methodLink "GargoyleCopyists$Order" (96 : Nat) ({ cls := "GargoyleCopyists$Church", name := "drives", desc := "(I)I" } : Jvm.MethodName)) ∈ lw_all := lw_g (lw_at lw_m7 139 rfl) rfl
theorem q1643 : (Jvm.Cond.methodLink "GargoyleCopyists$Order" (99 : Nat) ({ cls := "GargoyleCopyists$Church", name := "tells", desc := "(II)I" } : Jvm.MethodName)) ∈ lw_all := lw_g (lw_at lw_m7 140 rfl) rfl
theorem q1644 : (Jvm.Cond.methodLinkNest "GargoyleCopyists$Order" (103 : Nat) ({ cls := "GargoyleCopyists", name := "areHours", desc := "(I)Z" } : Jvm.MethodName) "GargoyleCopyists") ∈ lw_tbl := lw_at lw_m7 141 rfl
theorem q1645 : (Jvm.Cond.methodLink "GargoyleCopyists$Order" (106 : Nat) ({ cls := "GargoyleCopyists$Church", name := "hoursGo", desc := "(I)I" } : Jvm.MethodName)) ∈ lw_all := lw_g (lw_at lw_m7 142 rfl) rfl
theorem q2255 : (Jvm.Cond.castable "GargoyleCopyists$Order" "java/lang/Object") ∈ lw_tbl := lw_at lw_m10 32 rfl
theorem in_X13 : ∀ w ∈ wsX130, w ∈ lw_all := lw_in wsX130 [1539, 1541, 1543, 1545] (by decide +kernel) (by decide +kernel)

/-! GargoyleCopyists$Wrong -/
set_option maxRecDepth 100000
def RX14 : String := "GargoyleCopyists$Wrong"
def TX14 : u_T := fun k => match k with
  | 0 => ("java/lang/Throwable", "cause", "Ljava/lang/Throwable;", false)
  | 1 => ("java/lang/Throwable", "stackTrace", "[Ljava/lang/StackTraceElement;", false)
  | 2 => ("java/lang/Throwable", "suppressedExceptions", "Ljava/util/List;", false)
  | 3 => ("java/lang/Throwable", "detailMessage", "Ljava/lang/String;", false)
  | 4 => ("java/lang/Throwable", "backtrace", "Ljava/lang/Object;", false)
  | 5 => ("java/lang/Throwable", "depth", "I", false)
  | _ => ("GargoyleCopyists$Wrong", "at", "I", true)
def tyX14 : Nat → FieldType := fun k => match k with
  | 0 => .object "java/lang/Throwable"
  | 1 => .array (.object "java/lang/StackTraceElement")
  | 2 => .object "java/util/List"
  | 3 => .object "java/lang/String"
  | 4 => .object "java/lang/Object"
  | 5 => .int
  | _ => .int
abbrev wsX140 : List Cond := u_ws RX14 TX14 7
theorem nmX14 : ∀ a, a < 7 → ∀ b, b < 7 → a ≠ b → (TX14 a).2.1 ≠ (TX14 b).2.1 := by decide +kernel
theorem tyX14_ok : ∀ k, k < 7 → parseFieldDescriptor (TX14 k).2.2.1 = some (tyX14 k) := by decide +kernel
abbrev cX14_init : ByteArray := prog_15_method_1_code
def yX14_init : MethodName := ⟨RX14, "<init>", "(I)V"⟩
def dkwX14_init_0 : List UInt8 := [42, 1, 1, 3, 3, 183, 0, 1, 42, 27, 181, 0, 7, 177]
abbrev dktX14_init_0 : List UInt8 := dkwX14_init_0 ++ []
theorem dksX14_init_0 : cX14_init.data.toList.drop 0 = dktX14_init_0 := by decide +kernel
theorem dX14_init_0 : decode cX14_init 0 = .ok (.aload_n 0, 1) := dk_42 (dk_at dksX14_init_0 0 rfl rfl)
theorem dX14_init_1 : decode cX14_init 1 = .ok (.aconst_null, 1) := dk_1 (dk_at dksX14_init_0 1 rfl rfl)
theorem dX14_init_2 : decode cX14_init 2 = .ok (.aconst_null, 1) := dk_1 (dk_at dksX14_init_0 2 rfl rfl)
theorem dX14_init_3 : decode cX14_init 3 = .ok (.iconst 0, 1) := dk_3 (dk_at dksX14_init_0 3 rfl rfl)
theorem dX14_init_4 : decode cX14_init 4 = .ok (.iconst 0, 1) := dk_3 (dk_at dksX14_init_0 4 rfl rfl)
theorem dX14_init_5 : decode cX14_init 5 = .ok (.invokespecial 1, 3) := dk_183 0 1 (dk_at dksX14_init_0 5 rfl rfl)
theorem dX14_init_8 : decode cX14_init 8 = .ok (.aload_n 0, 1) := dk_42 (dk_at dksX14_init_0 8 rfl rfl)
theorem dX14_init_9 : decode cX14_init 9 = .ok (.iload_n 1, 1) := dk_27 (dk_at dksX14_init_0 9 rfl rfl)
theorem dX14_init_10 : decode cX14_init 10 = .ok (.putfield 7, 3) := dk_181 0 7 (dk_at dksX14_init_0 10 rfl rfl)
theorem dX14_init_13 : decode cX14_init 13 = .ok (.return_, 1) := dk_177 (dk_at dksX14_init_0 13 rfl rfl)
theorem q102 : (Jvm.Cond.initialized "GargoyleCopyists$Wrong") ∈ lw_all := lw_g (lw_at lw_m1 39 rfl) rfl
theorem q248 : (Jvm.Cond.selects "GargoyleCopyists$Wrong" ({ cls := "java/lang/Object", name := "getClass", desc := "()Ljava/lang/Class;" } : Jvm.MethodName) ({ cls := "java/lang/Object", name := "getClass", desc := "()Ljava/lang/Class;" } : Jvm.MethodName)) ∈ lw_all := lw_g (lw_at lw_m1 185 rfl) rfl
theorem q539 : (Jvm.Cond.selects "GargoyleCopyists$Wrong" ({ cls := "java/lang/Throwable", name := "fillInStackTrace", desc := "()Ljava/lang/Throwable;" } : Jvm.MethodName) ({ cls := "java/lang/Throwable", name := "fillInStackTrace", desc := "()Ljava/lang/Throwable;" } : Jvm.MethodName)) ∈ lw_all := lw_g (lw_at lw_m2 236 rfl) rfl
theorem q1509 : (Jvm.Cond.instantiable "GargoyleCopyists$Wrong" (7 : Nat)) ∈ lw_all := lw_g (lw_at lw_m7 6 rfl) rfl
theorem q1510 : (Jvm.Cond.castable "GargoyleCopyists$Wrong" "GargoyleCopyists$Wrong") ∈ lw_tbl := lw_at lw_m7 7 rfl
theorem q1511 : (Jvm.Cond.selects "GargoyleCopyists$Wrong" ({ cls := "java/lang/Throwable", name := "fillInStackTrace", desc := "(I)Ljava/lang/Throwable;" } : Jvm.MethodName) ({ cls := "java/lang/Throwable", name := "fillInStackTrace", desc := "(I)Ljava/lang/Throwable;" } : Jvm.MethodName)) ∈ lw_all := lw_g (lw_at lw_m7 8 rfl) rfl
theorem q1512 : (Jvm.Cond.lays "GargoyleCopyists$Wrong" "java/lang/Throwable" "cause" "Ljava/lang/Throwable;") ∈ lw_all := lw_g (lw_at lw_m7 9 rfl) rfl
theorem q1513 : (Jvm.Cond.lays "GargoyleCopyists$Wrong" "java/lang/Throwable" "stackTrace" "[Ljava/lang/StackTraceElement;") ∈ lw_all := lw_g (lw_at lw_m7 10 rfl) rfl
theorem q1514 : (Jvm.Cond.lays "GargoyleCopyists$Wrong" "java/lang/Throwable" "suppressedExceptions" "Ljava/util/List;") ∈ lw_all := lw_g (lw_at lw_m7 11 rfl) rfl
theorem q1515 : (Jvm.Cond.lays "GargoyleCopyists$Wrong" "java/lang/Throwable" "detailMessage" "Ljava/lang/String;") ∈ lw_all := lw_g (lw_at lw_m7 12 rfl) rfl
theorem q1516 : (Jvm.Cond.lays "GargoyleCopyists$Wrong" "java/lang/Throwable" "backtrace" "Ljava/lang/Object;") ∈ lw_all := lw_g (lw_at lw_m7 13 rfl) rfl
theorem q1518 : (Jvm.Cond.instanceMethod ({ cls := "GargoyleCopyists$Wrong", name := "<init>", desc := "(I)V" } : Jvm.MethodName)) ∈ lw_all := lw_g (lw_at lw_m7 15 rfl) rfl
theorem q1519 : (Jvm.Cond.code ({ cls := "GargoyleCopyists$Wrong", name := "<init>", desc := "(I)V" } : Jvm.MethodName) prog_15_method_1_code (2 : Nat) (Option.none : Option Jvm.ClassFile.FieldType)) ∈ lw_all := lw_g (lw_at lw_m7 16 rfl) rfl
theorem q1520 : (Jvm.Cond.methodLink "GargoyleCopyists$Wrong" (1 : Nat) ({ cls := "java/lang/Exception", name := "<init>", desc := "(Ljava/lang/String;Ljava/lang/Throwable;ZZ)V" } : Jvm.MethodName)) ∈ lw_all := lw_g (lw_at lw_m7 17 rfl) rfl
theorem q1521 : (Jvm.Cond.fieldLink "GargoyleCopyists$Wrong" (7 : Nat) "GargoyleCopyists$Wrong" "at" "I") ∈ lw_all := lw_g (lw_at lw_m7 18 rfl) rfl
theorem q1523 : (Jvm.Cond.laysFinal "GargoyleCopyists$Wrong" "GargoyleCopyists$Wrong" "at" "I") ∈ lw_all := lw_g (lw_at lw_m7 20 rfl) rfl
theorem q1524 : (Jvm.Cond.soleField "GargoyleCopyists$Wrong" "at") ∈ lw_all := lw_g (lw_at lw_m7 21 rfl) rfl
theorem q1525 : (Jvm.Cond.lays "GargoyleCopyists$Wrong" "java/lang/Throwable" "depth" "I") ∈ lw_all := lw_g (lw_at lw_m7 22 rfl) rfl
theorem q1526 : (Jvm.Cond.superclass "GargoyleCopyists$Wrong" "java/lang/Exception") ∈ lw_all := lw_g (lw_at lw_m7 23 rfl) rfl
theorem q2257 : (Jvm.Cond.castable "GargoyleCopyists$Wrong" "java/lang/Object") ∈ lw_tbl := lw_at lw_m10 34 rfl
theorem in_X14 : ∀ w ∈ wsX140, w ∈ lw_all := lw_in wsX140 [1512, 1513, 1514, 1515, 1516, 1525, 1523] (by decide +kernel) (by decide +kernel)

