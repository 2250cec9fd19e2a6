/-! BladeAlgebra -/
set_option maxRecDepth 100000
def RX1 : String := "BladeAlgebra"
def TX1 : u_T := fun k => match k with
  | 0 => ("BladeAlgebra", "twos", "[LBladeAlgebra$Two;", true)
  | 1 => ("BladeAlgebra", "ones", "[LBladeAlgebra$One;", true)
  | 2 => ("BladeAlgebra", "now", "LBladeAlgebra$World;", true)
  | 3 => ("BladeAlgebra", "kept", "[LBladeAlgebra$World;", true)
  | 4 => ("BladeAlgebra", "text", "[B", true)
  | 5 => ("BladeAlgebra", "textLength", "I", false)
  | 6 => ("BladeAlgebra", "errorCode", "I", false)
  | 7 => ("BladeAlgebra", "errorPosition", "I", false)
  | _ => ("BladeAlgebra", "output", "Ljava/lang/StringBuilder;", true)
def tyX1 : Nat → FieldType := fun k => match k with
  | 0 => .array (.object "BladeAlgebra$Two")
  | 1 => .array (.object "BladeAlgebra$One")
  | 2 => .object "BladeAlgebra$World"
  | 3 => .array (.object "BladeAlgebra$World")
  | 4 => .array .byte
  | 5 => .int
  | 6 => .int
  | 7 => .int
  | _ => .object "java/lang/StringBuilder"
abbrev wsX10 : List Cond := u_ws RX1 TX1 9
theorem nmX1 : ∀ a, a < 9 → ∀ b, b < 9 → a ≠ b → (TX1 a).2.1 ≠ (TX1 b).2.1 := by decide +kernel
theorem tyX1_ok : ∀ k, k < 9 → parseFieldDescriptor (TX1 k).2.2.1 = some (tyX1 k) := by decide +kernel
abbrev cX1_init : ByteArray := prog_1_method_9_code
def yX1_init : MethodName := ⟨RX1, "<init>", "()V"⟩
def dkwX1_init_2 : List UInt8 := [2, 181, 0, 89, 42, 187, 0, 93, 89, 183, 0, 95, 181, 0, 96, 177]
abbrev dktX1_init_2 : List UInt8 := dkwX1_init_2 ++ []
def dkwX1_init_1 : List UInt8 := [183, 0, 76, 181, 0, 77, 42, 5, 189, 0, 74, 181, 0, 81, 42, 17, 0, 200, 188, 8, 181, 0, 85, 42]
abbrev dktX1_init_1 : List UInt8 := dkwX1_init_1 ++ dktX1_init_2
def dkwX1_init_0 : List UInt8 := [42, 183, 0, 50, 42, 184, 0, 55, 181, 0, 61, 42, 184, 0, 65, 181, 0, 70, 42, 187, 0, 74, 89]
abbrev dktX1_init_0 : List UInt8 := dkwX1_init_0 ++ dktX1_init_1
theorem dksX1_init_0 : cX1_init.data.toList.drop 0 = dktX1_init_0 := by decide +kernel
theorem dksX1_init_1 : cX1_init.data.toList.drop 23 = dktX1_init_1 := dk_seg dksX1_init_0 23 rfl rfl
theorem dksX1_init_2 : cX1_init.data.toList.drop 47 = dktX1_init_2 := dk_seg dksX1_init_1 24 rfl rfl
theorem dX1_init_0 : decode cX1_init 0 = .ok (.aload_n 0, 1) := dk_42 (dk_at dksX1_init_0 0 rfl rfl)
theorem dX1_init_1 : decode cX1_init 1 = .ok (.invokespecial 50, 3) := dk_183 0 50 (dk_at dksX1_init_0 1 rfl rfl)
theorem dX1_init_4 : decode cX1_init 4 = .ok (.aload_n 0, 1) := dk_42 (dk_at dksX1_init_0 4 rfl rfl)
theorem dX1_init_5 : decode cX1_init 5 = .ok (.invokestatic 55, 3) := dk_184 0 55 (dk_at dksX1_init_0 5 rfl rfl)
theorem dX1_init_8 : decode cX1_init 8 = .ok (.putfield 61, 3) := dk_181 0 61 (dk_at dksX1_init_0 8 rfl rfl)
theorem dX1_init_11 : decode cX1_init 11 = .ok (.aload_n 0, 1) := dk_42 (dk_at dksX1_init_0 11 rfl rfl)
theorem dX1_init_12 : decode cX1_init 12 = .ok (.invokestatic 65, 3) := dk_184 0 65 (dk_at dksX1_init_0 12 rfl rfl)
theorem dX1_init_15 : decode cX1_init 15 = .ok (.putfield 70, 3) := dk_181 0 70 (dk_at dksX1_init_0 15 rfl rfl)
theorem dX1_init_18 : decode cX1_init 18 = .ok (.aload_n 0, 1) := dk_42 (dk_at dksX1_init_0 18 rfl rfl)
theorem dX1_init_19 : decode cX1_init 19 = .ok (.new 74, 3) := dk_187 0 74 (dk_at dksX1_init_0 19 rfl rfl)
theorem dX1_init_22 : decode cX1_init 22 = .ok (.dup, 1) := dk_89 (dk_at dksX1_init_0 22 rfl rfl)
theorem dX1_init_23 : decode cX1_init 23 = .ok (.invokespecial 76, 3) := dk_183 0 76 (dk_at dksX1_init_1 0 rfl rfl)
theorem dX1_init_26 : decode cX1_init 26 = .ok (.putfield 77, 3) := dk_181 0 77 (dk_at dksX1_init_1 3 rfl rfl)
theorem dX1_init_29 : decode cX1_init 29 = .ok (.aload_n 0, 1) := dk_42 (dk_at dksX1_init_1 6 rfl rfl)
theorem dX1_init_30 : decode cX1_init 30 = .ok (.iconst 2, 1) := dk_5 (dk_at dksX1_init_1 7 rfl rfl)
theorem dX1_init_31 : decode cX1_init 31 = .ok (.anewarray 74, 3) := dk_189 0 74 (dk_at dksX1_init_1 8 rfl rfl)
theorem dX1_init_34 : decode cX1_init 34 = .ok (.putfield 81, 3) := dk_181 0 81 (dk_at dksX1_init_1 11 rfl rfl)
theorem dX1_init_37 : decode cX1_init 37 = .ok (.aload_n 0, 1) := dk_42 (dk_at dksX1_init_1 14 rfl rfl)
theorem dX1_init_38 : decode cX1_init 38 = .ok (.sipush 200, 3) := dk_17 0 200 (dk_at dksX1_init_1 15 rfl rfl)
theorem dX1_init_41 : decode cX1_init 41 = .ok (.newarray .byte, 2) := dk_188_8 (dk_at dksX1_init_1 18 rfl rfl)
theorem dX1_init_43 : decode cX1_init 43 = .ok (.putfield 85, 3) := dk_181 0 85 (dk_at dksX1_init_1 20 rfl rfl)
theorem dX1_init_46 : decode cX1_init 46 = .ok (.aload_n 0, 1) := dk_42 (dk_at dksX1_init_1 23 rfl rfl)
theorem dX1_init_47 : decode cX1_init 47 = .ok (.iconst (-1), 1) := dk_2 (dk_at dksX1_init_2 0 rfl rfl)
theorem dX1_init_48 : decode cX1_init 48 = .ok (.putfield 89, 3) := dk_181 0 89 (dk_at dksX1_init_2 1 rfl rfl)
theorem dX1_init_51 : decode cX1_init 51 = .ok (.aload_n 0, 1) := dk_42 (dk_at dksX1_init_2 4 rfl rfl)
theorem dX1_init_52 : decode cX1_init 52 = .ok (.new 93, 3) := dk_187 0 93 (dk_at dksX1_init_2 5 rfl rfl)
theorem dX1_init_55 : decode cX1_init 55 = .ok (.dup, 1) := dk_89 (dk_at dksX1_init_2 8 rfl rfl)
theorem dX1_init_56 : decode cX1_init 56 = .ok (.invokespecial 95, 3) := dk_183 0 95 (dk_at dksX1_init_2 9 rfl rfl)
theorem dX1_init_59 : decode cX1_init 59 = .ok (.putfield 96, 3) := dk_181 0 96 (dk_at dksX1_init_2 12 rfl rfl)
theorem dX1_init_62 : decode cX1_init 62 = .ok (.return_, 1) := dk_177 (dk_at dksX1_init_2 15 rfl rfl)
abbrev cX1_errorCode : ByteArray := prog_1_method_59_code
def yX1_errorCode : MethodName := ⟨RX1, "errorCode", "()I"⟩
theorem dX1_errorCode_0 : decode cX1_errorCode 0 = .ok (.aload_n 0, 1) := by decide +kernel
theorem dX1_errorCode_1 : decode cX1_errorCode 1 = .ok (.getfield 416, 3) := by decide +kernel
theorem dX1_errorCode_4 : decode cX1_errorCode 4 = .ok (.ireturn, 1) := by decide +kernel
abbrev cX1_errorPosition : ByteArray := prog_1_method_60_code
def yX1_errorPosition : MethodName := ⟨RX1, "errorPosition", "()I"⟩
theorem dX1_errorPosition_0 : decode cX1_errorPosition 0 = .ok (.aload_n 0, 1) := by decide +kernel
theorem dX1_errorPosition_1 : decode cX1_errorPosition 1 = .ok (.getfield 89, 3) := by decide +kernel
theorem dX1_errorPosition_4 : decode cX1_errorPosition 4 = .ok (.ireturn, 1) := by decide +kernel
abbrev cX1_setSignature : ByteArray := prog_1_method_13_code
def yX1_setSignature : MethodName := ⟨RX1, "setSignature", "(III)I"⟩
def dkwX1_setSignature_4 : List UInt8 := [4, 96, 172]
abbrev dktX1_setSignature_4 : List UInt8 := dkwX1_setSignature_4 ++ []
def dkwX1_setSignature_3 : List UInt8 := [29, 183, 0, 130, 181, 0, 133, 42, 180, 0, 77, 182, 0, 137, 42, 180, 0, 77, 180, 0, 133, 180, 0, 140]
abbrev dktX1_setSignature_3 : List UInt8 := dkwX1_setSignature_3 ++ dktX1_setSignature_4
def dkwX1_setSignature_2 : List UInt8 := [184, 0, 102, 153, 0, 7, 4, 167, 0, 4, 3, 184, 0, 125, 42, 180, 0, 77, 187, 0, 128, 89, 27, 28]
abbrev dktX1_setSignature_2 : List UInt8 := dkwX1_setSignature_2 ++ dktX1_setSignature_3
def dkwX1_setSignature_1 : List UInt8 := [29, 133, 9, 20, 0, 123, 184, 0, 102, 153, 0, 23, 27, 28, 96, 29, 96, 133, 10, 20, 0, 123]
abbrev dktX1_setSignature_1 : List UInt8 := dkwX1_setSignature_1 ++ dktX1_setSignature_2
def dkwX1_setSignature_0 : List UInt8 := [27, 133, 9, 20, 0, 123, 184, 0, 102, 153, 0, 47, 28, 133, 9, 20, 0, 123, 184, 0, 102, 153, 0, 35]
abbrev dktX1_setSignature_0 : List UInt8 := dkwX1_setSignature_0 ++ dktX1_setSignature_1
theorem dksX1_setSignature_0 : cX1_setSignature.data.toList.drop 0 = dktX1_setSignature_0 := by decide +kernel
theorem dksX1_setSignature_1 : cX1_setSignature.data.toList.drop 24 = dktX1_setSignature_1 := dk_seg dksX1_setSignature_0 24 rfl rfl
theorem dksX1_setSignature_2 : cX1_setSignature.data.toList.drop 46 = dktX1_setSignature_2 := dk_seg dksX1_setSignature_1 22 rfl rfl
theorem dksX1_setSignature_3 : cX1_setSignature.data.toList.drop 70 = dktX1_setSignature_3 := dk_seg dksX1_setSignature_2 24 rfl rfl
theorem dksX1_setSignature_4 : cX1_setSignature.data.toList.drop 94 = dktX1_setSignature_4 := dk_seg dksX1_setSignature_3 24 rfl rfl
theorem dX1_setSignature_0 : decode cX1_setSignature 0 = .ok (.iload_n 1, 1) := dk_27 (dk_at dksX1_setSignature_0 0 rfl rfl)
theorem dX1_setSignature_1 : decode cX1_setSignature 1 = .ok (.i2l, 1) := dk_133 (dk_at dksX1_setSignature_0 1 rfl rfl)
theorem dX1_setSignature_2 : decode cX1_setSignature 2 = .ok (.lconst 0, 1) := dk_9 (dk_at dksX1_setSignature_0 2 rfl rfl)
theorem dX1_setSignature_3 : decode cX1_setSignature 3 = .ok (.ldc2_w 123, 3) := dk_20 0 123 (dk_at dksX1_setSignature_0 3 rfl rfl)
theorem dX1_setSignature_6 : decode cX1_setSignature 6 = .ok (.invokestatic 102, 3) := dk_184 0 102 (dk_at dksX1_setSignature_0 6 rfl rfl)
theorem dX1_setSignature_9 : decode cX1_setSignature 9 = .ok (.ifCond .eq 47, 3) := dk_153 0 47 (dk_at dksX1_setSignature_0 9 rfl rfl)
theorem dX1_setSignature_12 : decode cX1_setSignature 12 = .ok (.iload_n 2, 1) := dk_28 (dk_at dksX1_setSignature_0 12 rfl rfl)
theorem dX1_setSignature_13 : decode cX1_setSignature 13 = .ok (.i2l, 1) := dk_133 (dk_at dksX1_setSignature_0 13 rfl rfl)
theorem dX1_setSignature_14 : decode cX1_setSignature 14 = .ok (.lconst 0, 1) := dk_9 (dk_at dksX1_setSignature_0 14 rfl rfl)
theorem dX1_setSignature_15 : decode cX1_setSignature 15 = .ok (.ldc2_w 123, 3) := dk_20 0 123 (dk_at dksX1_setSignature_0 15 rfl rfl)
theorem dX1_setSignature_18 : decode cX1_setSignature 18 = .ok (.invokestatic 102, 3) := dk_184 0 102 (dk_at dksX1_setSignature_0 18 rfl rfl)
theorem dX1_setSignature_21 : decode cX1_setSignature 21 = .ok (.ifCond .eq 35, 3) := dk_153 0 35 (dk_at dksX1_setSignature_0 21 rfl rfl)
theorem dX1_setSignature_24 : decode cX1_setSignature 24 = .ok (.iload_n 3, 1) := dk_29 (dk_at dksX1_setSignature_1 0 rfl rfl)
theorem dX1_setSignature_25 : decode cX1_setSignature 25 = .ok (.i2l, 1) := dk_133 (dk_at dksX1_setSignature_1 1 rfl rfl)
theorem dX1_setSignature_26 : decode cX1_setSignature 26 = .ok (.lconst 0, 1) := dk_9 (dk_at dksX1_setSignature_1 2 rfl rfl)
theorem dX1_setSignature_27 : decode cX1_setSignature 27 = .ok (.ldc2_w 123, 3) := dk_20 0 123 (dk_at dksX1_setSignature_1 3 rfl rfl)
theorem dX1_setSignature_30 : decode cX1_setSignature 30 = .ok (.invokestatic 102, 3) := dk_184 0 102 (dk_at dksX1_setSignature_1 6 rfl rfl)
theorem dX1_setSignature_33 : decode cX1_setSignature 33 = .ok (.ifCond .eq 23, 3) := dk_153 0 23 (dk_at dksX1_setSignature_1 9 rfl rfl)
theorem dX1_setSignature_36 : decode cX1_setSignature 36 = .ok (.iload_n 1, 1) := dk_27 (dk_at dksX1_setSignature_1 12 rfl rfl)
theorem dX1_setSignature_37 : decode cX1_setSignature 37 = .ok (.iload_n 2, 1) := dk_28 (dk_at dksX1_setSignature_1 13 rfl rfl)
theorem dX1_setSignature_38 : decode cX1_setSignature 38 = .ok (.iadd, 1) := dk_96 (dk_at dksX1_setSignature_1 14 rfl rfl)
theorem dX1_setSignature_39 : decode cX1_setSignature 39 = .ok (.iload_n 3, 1) := dk_29 (dk_at dksX1_setSignature_1 15 rfl rfl)
theorem dX1_setSignature_40 : decode cX1_setSignature 40 = .ok (.iadd, 1) := dk_96 (dk_at dksX1_setSignature_1 16 rfl rfl)
theorem dX1_setSignature_41 : decode cX1_setSignature 41 = .ok (.i2l, 1) := dk_133 (dk_at dksX1_setSignature_1 17 rfl rfl)
theorem dX1_setSignature_42 : decode cX1_setSignature 42 = .ok (.lconst 1, 1) := dk_10 (dk_at dksX1_setSignature_1 18 rfl rfl)
theorem dX1_setSignature_43 : decode cX1_setSignature 43 = .ok (.ldc2_w 123, 3) := dk_20 0 123 (dk_at dksX1_setSignature_1 19 rfl rfl)
theorem dX1_setSignature_46 : decode cX1_setSignature 46 = .ok (.invokestatic 102, 3) := dk_184 0 102 (dk_at dksX1_setSignature_2 0 rfl rfl)
theorem dX1_setSignature_49 : decode cX1_setSignature 49 = .ok (.ifCond .eq 7, 3) := dk_153 0 7 (dk_at dksX1_setSignature_2 3 rfl rfl)
theorem dX1_setSignature_52 : decode cX1_setSignature 52 = .ok (.iconst 1, 1) := dk_4 (dk_at dksX1_setSignature_2 6 rfl rfl)
theorem dX1_setSignature_53 : decode cX1_setSignature 53 = .ok (.goto 4, 3) := dk_167 0 4 (dk_at dksX1_setSignature_2 7 rfl rfl)
theorem dX1_setSignature_56 : decode cX1_setSignature 56 = .ok (.iconst 0, 1) := dk_3 (dk_at dksX1_setSignature_2 10 rfl rfl)
theorem dX1_setSignature_57 : decode cX1_setSignature 57 = .ok (.invokestatic 125, 3) := dk_184 0 125 (dk_at dksX1_setSignature_2 11 rfl rfl)
theorem dX1_setSignature_60 : decode cX1_setSignature 60 = .ok (.aload_n 0, 1) := dk_42 (dk_at dksX1_setSignature_2 14 rfl rfl)
theorem dX1_setSignature_61 : decode cX1_setSignature 61 = .ok (.getfield 77, 3) := dk_180 0 77 (dk_at dksX1_setSignature_2 15 rfl rfl)
theorem dX1_setSignature_64 : decode cX1_setSignature 64 = .ok (.new 128, 3) := dk_187 0 128 (dk_at dksX1_setSignature_2 18 rfl rfl)
theorem dX1_setSignature_67 : decode cX1_setSignature 67 = .ok (.dup, 1) := dk_89 (dk_at dksX1_setSignature_2 21 rfl rfl)
theorem dX1_setSignature_68 : decode cX1_setSignature 68 = .ok (.iload_n 1, 1) := dk_27 (dk_at dksX1_setSignature_2 22 rfl rfl)
theorem dX1_setSignature_69 : decode cX1_setSignature 69 = .ok (.iload_n 2, 1) := dk_28 (dk_at dksX1_setSignature_2 23 rfl rfl)
theorem dX1_setSignature_70 : decode cX1_setSignature 70 = .ok (.iload_n 3, 1) := dk_29 (dk_at dksX1_setSignature_3 0 rfl rfl)
theorem dX1_setSignature_71 : decode cX1_setSignature 71 = .ok (.invokespecial 130, 3) := dk_183 0 130 (dk_at dksX1_setSignature_3 1 rfl rfl)
theorem dX1_setSignature_74 : decode cX1_setSignature 74 = .ok (.putfield 133, 3) := dk_181 0 133 (dk_at dksX1_setSignature_3 4 rfl rfl)
theorem dX1_setSignature_77 : decode cX1_setSignature 77 = .ok (.aload_n 0, 1) := dk_42 (dk_at dksX1_setSignature_3 7 rfl rfl)
theorem dX1_setSignature_78 : decode cX1_setSignature 78 = .ok (.getfield 77, 3) := dk_180 0 77 (dk_at dksX1_setSignature_3 8 rfl rfl)
theorem dX1_setSignature_81 : decode cX1_setSignature 81 = .ok (.invokevirtual 137, 3) := dk_182 0 137 (dk_at dksX1_setSignature_3 11 rfl rfl)
theorem dX1_setSignature_84 : decode cX1_setSignature 84 = .ok (.aload_n 0, 1) := dk_42 (dk_at dksX1_setSignature_3 14 rfl rfl)
theorem dX1_setSignature_85 : decode cX1_setSignature 85 = .ok (.getfield 77, 3) := dk_180 0 77 (dk_at dksX1_setSignature_3 15 rfl rfl)
theorem dX1_setSignature_88 : decode cX1_setSignature 88 = .ok (.getfield 133, 3) := dk_180 0 133 (dk_at dksX1_setSignature_3 18 rfl rfl)
theorem dX1_setSignature_91 : decode cX1_setSignature 91 = .ok (.getfield 140, 3) := dk_180 0 140 (dk_at dksX1_setSignature_3 21 rfl rfl)
theorem dX1_setSignature_94 : decode cX1_setSignature 94 = .ok (.iconst 1, 1) := dk_4 (dk_at dksX1_setSignature_4 0 rfl rfl)
theorem dX1_setSignature_95 : decode cX1_setSignature 95 = .ok (.iadd, 1) := dk_96 (dk_at dksX1_setSignature_4 1 rfl rfl)
theorem dX1_setSignature_96 : decode cX1_setSignature 96 = .ok (.ireturn, 1) := dk_172 (dk_at dksX1_setSignature_4 2 rfl rfl)
abbrev cX1_isIn : ByteArray := prog_1_method_1_code
def yX1_isIn : MethodName := ⟨RX1, "isIn", "(JJJ)Z"⟩
def dkwX1_isIn_0 : List UInt8 := [30, 32, 148, 155, 0, 14, 30, 22, 4, 148, 157, 0, 7, 4, 167, 0, 4, 3, 172]
abbrev dktX1_isIn_0 : List UInt8 := dkwX1_isIn_0 ++ []
theorem dksX1_isIn_0 : cX1_isIn.data.toList.drop 0 = dktX1_isIn_0 := by decide +kernel
theorem dX1_isIn_0 : decode cX1_isIn 0 = .ok (.lload_n 0, 1) := dk_30 (dk_at dksX1_isIn_0 0 rfl rfl)
theorem dX1_isIn_1 : decode cX1_isIn 1 = .ok (.lload_n 2, 1) := dk_32 (dk_at dksX1_isIn_0 1 rfl rfl)
theorem dX1_isIn_2 : decode cX1_isIn 2 = .ok (.lcmp, 1) := dk_148 (dk_at dksX1_isIn_0 2 rfl rfl)
theorem dX1_isIn_3 : decode cX1_isIn 3 = .ok (.ifCond .lt 14, 3) := dk_155 0 14 (dk_at dksX1_isIn_0 3 rfl rfl)
theorem dX1_isIn_6 : decode cX1_isIn 6 = .ok (.lload_n 0, 1) := dk_30 (dk_at dksX1_isIn_0 6 rfl rfl)
theorem dX1_isIn_7 : decode cX1_isIn 7 = .ok (.lload 4, 2) := dk_22 4 (dk_at dksX1_isIn_0 7 rfl rfl)
theorem dX1_isIn_9 : decode cX1_isIn 9 = .ok (.lcmp, 1) := dk_148 (dk_at dksX1_isIn_0 9 rfl rfl)
theorem dX1_isIn_10 : decode cX1_isIn 10 = .ok (.ifCond .gt 7, 3) := dk_157 0 7 (dk_at dksX1_isIn_0 10 rfl rfl)
theorem dX1_isIn_13 : decode cX1_isIn 13 = .ok (.iconst 1, 1) := dk_4 (dk_at dksX1_isIn_0 13 rfl rfl)
theorem dX1_isIn_14 : decode cX1_isIn 14 = .ok (.goto 4, 3) := dk_167 0 4 (dk_at dksX1_isIn_0 14 rfl rfl)
theorem dX1_isIn_17 : decode cX1_isIn 17 = .ok (.iconst 0, 1) := dk_3 (dk_at dksX1_isIn_0 17 rfl rfl)
theorem dX1_isIn_18 : decode cX1_isIn 18 = .ok (.ireturn, 1) := dk_172 (dk_at dksX1_isIn_0 18 rfl rfl)
abbrev cX1_argument : ByteArray := prog_1_method_3_code
def yX1_argument : MethodName := ⟨RX1, "argument", "(Z)V"⟩
def dkwX1_argument_0 : List UInt8 := [26, 154, 0, 13, 187, 0, 11, 89, 18, 13, 183, 0, 15, 191, 177]
abbrev dktX1_argument_0 : List UInt8 := dkwX1_argument_0 ++ []
theorem dksX1_argument_0 : cX1_argument.data.toList.drop 0 = dktX1_argument_0 := by decide +kernel
theorem dX1_argument_0 : decode cX1_argument 0 = .ok (.iload_n 0, 1) := dk_26 (dk_at dksX1_argument_0 0 rfl rfl)
theorem dX1_argument_1 : decode cX1_argument 1 = .ok (.ifCond .ne 13, 3) := dk_154 0 13 (dk_at dksX1_argument_0 1 rfl rfl)
theorem dX1_argument_4 : decode cX1_argument 4 = .ok (.new 11, 3) := dk_187 0 11 (dk_at dksX1_argument_0 4 rfl rfl)
theorem dX1_argument_7 : decode cX1_argument 7 = .ok (.dup, 1) := dk_89 (dk_at dksX1_argument_0 7 rfl rfl)
theorem dX1_argument_8 : decode cX1_argument 8 = .ok (.ldc 13, 2) := dk_18 13 (dk_at dksX1_argument_0 8 rfl rfl)
theorem dX1_argument_10 : decode cX1_argument 10 = .ok (.invokespecial 15, 3) := dk_183 0 15 (dk_at dksX1_argument_0 10 rfl rfl)
theorem dX1_argument_13 : decode cX1_argument 13 = .ok (.athrow, 1) := dk_191 (dk_at dksX1_argument_0 13 rfl rfl)
theorem dX1_argument_14 : decode cX1_argument 14 = .ok (.return_, 1) := dk_177 (dk_at dksX1_argument_0 14 rfl rfl)
abbrev cX1_signature : ByteArray := prog_1_method_14_code
def yX1_signature : MethodName := ⟨RX1, "signature", "(I)I"⟩
def dkwX1_signature_4 : List UInt8 := [180, 0, 154, 172]
abbrev dktX1_signature_4 : List UInt8 := dkwX1_signature_4 ++ []
def dkwX1_signature_3 : List UInt8 := [167, 0, 26, 42, 180, 0, 77, 180, 0, 133, 180, 0, 151, 167, 0, 13, 42, 180, 0, 77, 180, 0, 133]
abbrev dktX1_signature_3 : List UInt8 := dkwX1_signature_3 ++ dktX1_signature_4
def dkwX1_signature_2 : List UInt8 := [42, 180, 0, 77, 180, 0, 133, 180, 0, 145, 167, 0, 39, 42, 180, 0, 77, 180, 0, 133, 180, 0, 148]
abbrev dktX1_signature_2 : List UInt8 := dkwX1_signature_2 ++ dktX1_signature_3
def dkwX1_signature_1 : List UInt8 := [170, 0, 0, 0, 0, 0, 66, 0, 0, 0, 0, 0, 0, 0, 2, 0, 0, 0, 27, 0, 0, 0, 40, 0, 0, 0, 53]
abbrev dktX1_signature_1 : List UInt8 := dkwX1_signature_1 ++ dktX1_signature_2
def dkwX1_signature_0 : List UInt8 := [27, 133, 9, 20, 0, 143, 184, 0, 102, 184, 0, 125, 27]
abbrev dktX1_signature_0 : List UInt8 := dkwX1_signature_0 ++ dktX1_signature_1
theorem dksX1_signature_0 : cX1_signature.data.toList.drop 0 = dktX1_signature_0 := by decide +kernel
theorem dksX1_signature_1 : cX1_signature.data.toList.drop 13 = dktX1_signature_1 := dk_seg dksX1_signature_0 13 rfl rfl
theorem dksX1_signature_2 : cX1_signature.data.toList.drop 40 = dktX1_signature_2 := dk_seg dksX1_signature_1 27 rfl rfl
theorem dksX1_signature_3 : cX1_signature.data.toList.drop 63 = dktX1_signature_3 := dk_seg dksX1_signature_2 23 rfl rfl
theorem dksX1_signature_4 : cX1_signature.data.toList.drop 86 = dktX1_signature_4 := dk_seg dksX1_signature_3 23 rfl rfl
theorem dX1_signature_0 : decode cX1_signature 0 = .ok (.iload_n 1, 1) := dk_27 (dk_at dksX1_signature_0 0 rfl rfl)
theorem dX1_signature_1 : decode cX1_signature 1 = .ok (.i2l, 1) := dk_133 (dk_at dksX1_signature_0 1 rfl rfl)
theorem dX1_signature_2 : decode cX1_signature 2 = .ok (.lconst 0, 1) := dk_9 (dk_at dksX1_signature_0 2 rfl rfl)
theorem dX1_signature_3 : decode cX1_signature 3 = .ok (.ldc2_w 143, 3) := dk_20 0 143 (dk_at dksX1_signature_0 3 rfl rfl)
theorem dX1_signature_6 : decode cX1_signature 6 = .ok (.invokestatic 102, 3) := dk_184 0 102 (dk_at dksX1_signature_0 6 rfl rfl)
theorem dX1_signature_9 : decode cX1_signature 9 = .ok (.invokestatic 125, 3) := dk_184 0 125 (dk_at dksX1_signature_0 9 rfl rfl)
theorem dX1_signature_12 : decode cX1_signature 12 = .ok (.iload_n 1, 1) := dk_27 (dk_at dksX1_signature_0 12 rfl rfl)
theorem dX1_signature_13 : decode cX1_signature 13 = .ok (.tableswitch 66 0 2 #[27, 40, 53], 27) := by decide +kernel
theorem dX1_signature_40 : decode cX1_signature 40 = .ok (.aload_n 0, 1) := dk_42 (dk_at dksX1_signature_2 0 rfl rfl)
theorem dX1_signature_41 : decode cX1_signature 41 = .ok (.getfield 77, 3) := dk_180 0 77 (dk_at dksX1_signature_2 1 rfl rfl)
theorem dX1_signature_44 : decode cX1_signature 44 = .ok (.getfield 133, 3) := dk_180 0 133 (dk_at dksX1_signature_2 4 rfl rfl)
theorem dX1_signature_47 : decode cX1_signature 47 = .ok (.getfield 145, 3) := dk_180 0 145 (dk_at dksX1_signature_2 7 rfl rfl)
theorem dX1_signature_50 : decode cX1_signature 50 = .ok (.goto 39, 3) := dk_167 0 39 (dk_at dksX1_signature_2 10 rfl rfl)
theorem dX1_signature_53 : decode cX1_signature 53 = .ok (.aload_n 0, 1) := dk_42 (dk_at dksX1_signature_2 13 rfl rfl)
theorem dX1_signature_54 : decode cX1_signature 54 = .ok (.getfield 77, 3) := dk_180 0 77 (dk_at dksX1_signature_2 14 rfl rfl)
theorem dX1_signature_57 : decode cX1_signature 57 = .ok (.getfield 133, 3) := dk_180 0 133 (dk_at dksX1_signature_2 17 rfl rfl)
theorem dX1_signature_60 : decode cX1_signature 60 = .ok (.getfield 148, 3) := dk_180 0 148 (dk_at dksX1_signature_2 20 rfl rfl)
theorem dX1_signature_63 : decode cX1_signature 63 = .ok (.goto 26, 3) := dk_167 0 26 (dk_at dksX1_signature_3 0 rfl rfl)
theorem dX1_signature_66 : decode cX1_signature 66 = .ok (.aload_n 0, 1) := dk_42 (dk_at dksX1_signature_3 3 rfl rfl)
theorem dX1_signature_67 : decode cX1_signature 67 = .ok (.getfield 77, 3) := dk_180 0 77 (dk_at dksX1_signature_3 4 rfl rfl)
theorem dX1_signature_70 : decode cX1_signature 70 = .ok (.getfield 133, 3) := dk_180 0 133 (dk_at dksX1_signature_3 7 rfl rfl)
theorem dX1_signature_73 : decode cX1_signature 73 = .ok (.getfield 151, 3) := dk_180 0 151 (dk_at dksX1_signature_3 10 rfl rfl)
theorem dX1_signature_76 : decode cX1_signature 76 = .ok (.goto 13, 3) := dk_167 0 13 (dk_at dksX1_signature_3 13 rfl rfl)
theorem dX1_signature_79 : decode cX1_signature 79 = .ok (.aload_n 0, 1) := dk_42 (dk_at dksX1_signature_3 16 rfl rfl)
theorem dX1_signature_80 : decode cX1_signature 80 = .ok (.getfield 77, 3) := dk_180 0 77 (dk_at dksX1_signature_3 17 rfl rfl)
theorem dX1_signature_83 : decode cX1_signature 83 = .ok (.getfield 133, 3) := dk_180 0 133 (dk_at dksX1_signature_3 20 rfl rfl)
theorem dX1_signature_86 : decode cX1_signature 86 = .ok (.getfield 154, 3) := dk_180 0 154 (dk_at dksX1_signature_4 0 rfl rfl)
theorem dX1_signature_89 : decode cX1_signature 89 = .ok (.ireturn, 1) := dk_172 (dk_at dksX1_signature_4 3 rfl rfl)
abbrev cX1_setCoefficient : ByteArray := prog_1_method_16_code
def yX1_setCoefficient : MethodName := ⟨RX1, "setCoefficient", "(IIII)V"⟩
def dkwX1_setCoefficient_3 : List UInt8 := [21, 4, 133, 182, 0, 175, 83, 167, 0, 9, 58, 5, 184, 0, 181, 191, 177]
abbrev dktX1_setCoefficient_3 : List UInt8 := dkwX1_setCoefficient_3 ++ []
def dkwX1_setCoefficient_2 : List UInt8 := [184, 0, 125, 42, 180, 0, 77, 180, 0, 110, 27, 42, 180, 0, 77, 180, 0, 110, 27, 50, 28, 29, 133]
abbrev dktX1_setCoefficient_2 : List UInt8 := dkwX1_setCoefficient_2 ++ dktX1_setCoefficient_3
def dkwX1_setCoefficient_1 : List UInt8 := [184, 0, 102, 153, 0, 20, 21, 4, 133, 10, 20, 0, 173, 184, 0, 102, 153, 0, 7, 4, 167, 0, 4, 3]
abbrev dktX1_setCoefficient_1 : List UInt8 := dkwX1_setCoefficient_1 ++ dktX1_setCoefficient_2
def dkwX1_setCoefficient_0 : List UInt8 := [4, 188, 10, 89, 3, 27, 79, 184, 0, 161, 42, 28, 182, 0, 165, 29, 133, 20, 0, 169, 20, 0, 171]
abbrev dktX1_setCoefficient_0 : List UInt8 := dkwX1_setCoefficient_0 ++ dktX1_setCoefficient_1
theorem dksX1_setCoefficient_0 : cX1_setCoefficient.data.toList.drop 0 = dktX1_setCoefficient_0 := by decide +kernel
theorem dksX1_setCoefficient_1 : cX1_setCoefficient.data.toList.drop 23 = dktX1_setCoefficient_1 := dk_seg dksX1_setCoefficient_0 23 rfl rfl
theorem dksX1_setCoefficient_2 : cX1_setCoefficient.data.toList.drop 47 = dktX1_setCoefficient_2 := dk_seg dksX1_setCoefficient_1 24 rfl rfl
theorem dksX1_setCoefficient_3 : cX1_setCoefficient.data.toList.drop 70 = dktX1_setCoefficient_3 := dk_seg dksX1_setCoefficient_2 23 rfl rfl
theorem dX1_setCoefficient_0 : decode cX1_setCoefficient 0 = .ok (.iconst 1, 1) := dk_4 (dk_at dksX1_setCoefficient_0 0 rfl rfl)
theorem dX1_setCoefficient_1 : decode cX1_setCoefficient 1 = .ok (.newarray .int, 2) := dk_188_10 (dk_at dksX1_setCoefficient_0 1 rfl rfl)
theorem dX1_setCoefficient_3 : decode cX1_setCoefficient 3 = .ok (.dup, 1) := dk_89 (dk_at dksX1_setCoefficient_0 3 rfl rfl)
theorem dX1_setCoefficient_4 : decode cX1_setCoefficient 4 = .ok (.iconst 0, 1) := dk_3 (dk_at dksX1_setCoefficient_0 4 rfl rfl)
theorem dX1_setCoefficient_5 : decode cX1_setCoefficient 5 = .ok (.iload_n 1, 1) := dk_27 (dk_at dksX1_setCoefficient_0 5 rfl rfl)
theorem dX1_setCoefficient_6 : decode cX1_setCoefficient 6 = .ok (.iastore, 1) := dk_79 (dk_at dksX1_setCoefficient_0 6 rfl rfl)
theorem dX1_setCoefficient_7 : decode cX1_setCoefficient 7 = .ok (.invokestatic 161, 3) := dk_184 0 161 (dk_at dksX1_setCoefficient_0 7 rfl rfl)
theorem dX1_setCoefficient_10 : decode cX1_setCoefficient 10 = .ok (.aload_n 0, 1) := dk_42 (dk_at dksX1_setCoefficient_0 10 rfl rfl)
theorem dX1_setCoefficient_11 : decode cX1_setCoefficient 11 = .ok (.iload_n 2, 1) := dk_28 (dk_at dksX1_setCoefficient_0 11 rfl rfl)
theorem dX1_setCoefficient_12 : decode cX1_setCoefficient 12 = .ok (.invokevirtual 165, 3) := dk_182 0 165 (dk_at dksX1_setCoefficient_0 12 rfl rfl)
theorem dX1_setCoefficient_15 : decode cX1_setCoefficient 15 = .ok (.iload_n 3, 1) := dk_29 (dk_at dksX1_setCoefficient_0 15 rfl rfl)
theorem dX1_setCoefficient_16 : decode cX1_setCoefficient 16 = .ok (.i2l, 1) := dk_133 (dk_at dksX1_setCoefficient_0 16 rfl rfl)
theorem dX1_setCoefficient_17 : decode cX1_setCoefficient 17 = .ok (.ldc2_w 169, 3) := dk_20 0 169 (dk_at dksX1_setCoefficient_0 17 rfl rfl)
theorem dX1_setCoefficient_20 : decode cX1_setCoefficient 20 = .ok (.ldc2_w 171, 3) := dk_20 0 171 (dk_at dksX1_setCoefficient_0 20 rfl rfl)
theorem dX1_setCoefficient_23 : decode cX1_setCoefficient 23 = .ok (.invokestatic 102, 3) := dk_184 0 102 (dk_at dksX1_setCoefficient_1 0 rfl rfl)
theorem dX1_setCoefficient_26 : decode cX1_setCoefficient 26 = .ok (.ifCond .eq 20, 3) := dk_153 0 20 (dk_at dksX1_setCoefficient_1 3 rfl rfl)
theorem dX1_setCoefficient_29 : decode cX1_setCoefficient 29 = .ok (.iload 4, 2) := dk_21 4 (dk_at dksX1_setCoefficient_1 6 rfl rfl)
theorem dX1_setCoefficient_31 : decode cX1_setCoefficient 31 = .ok (.i2l, 1) := dk_133 (dk_at dksX1_setCoefficient_1 8 rfl rfl)
theorem dX1_setCoefficient_32 : decode cX1_setCoefficient 32 = .ok (.lconst 1, 1) := dk_10 (dk_at dksX1_setCoefficient_1 9 rfl rfl)
theorem dX1_setCoefficient_33 : decode cX1_setCoefficient 33 = .ok (.ldc2_w 173, 3) := dk_20 0 173 (dk_at dksX1_setCoefficient_1 10 rfl rfl)
theorem dX1_setCoefficient_36 : decode cX1_setCoefficient 36 = .ok (.invokestatic 102, 3) := dk_184 0 102 (dk_at dksX1_setCoefficient_1 13 rfl rfl)
theorem dX1_setCoefficient_39 : decode cX1_setCoefficient 39 = .ok (.ifCond .eq 7, 3) := dk_153 0 7 (dk_at dksX1_setCoefficient_1 16 rfl rfl)
theorem dX1_setCoefficient_42 : decode cX1_setCoefficient 42 = .ok (.iconst 1, 1) := dk_4 (dk_at dksX1_setCoefficient_1 19 rfl rfl)
theorem dX1_setCoefficient_43 : decode cX1_setCoefficient 43 = .ok (.goto 4, 3) := dk_167 0 4 (dk_at dksX1_setCoefficient_1 20 rfl rfl)
theorem dX1_setCoefficient_46 : decode cX1_setCoefficient 46 = .ok (.iconst 0, 1) := dk_3 (dk_at dksX1_setCoefficient_1 23 rfl rfl)
theorem dX1_setCoefficient_47 : decode cX1_setCoefficient 47 = .ok (.invokestatic 125, 3) := dk_184 0 125 (dk_at dksX1_setCoefficient_2 0 rfl rfl)
theorem dX1_setCoefficient_50 : decode cX1_setCoefficient 50 = .ok (.aload_n 0, 1) := dk_42 (dk_at dksX1_setCoefficient_2 3 rfl rfl)
theorem dX1_setCoefficient_51 : decode cX1_setCoefficient 51 = .ok (.getfield 77, 3) := dk_180 0 77 (dk_at dksX1_setCoefficient_2 4 rfl rfl)
theorem dX1_setCoefficient_54 : decode cX1_setCoefficient 54 = .ok (.getfield 110, 3) := dk_180 0 110 (dk_at dksX1_setCoefficient_2 7 rfl rfl)
theorem dX1_setCoefficient_57 : decode cX1_setCoefficient 57 = .ok (.iload_n 1, 1) := dk_27 (dk_at dksX1_setCoefficient_2 10 rfl rfl)
theorem dX1_setCoefficient_58 : decode cX1_setCoefficient 58 = .ok (.aload_n 0, 1) := dk_42 (dk_at dksX1_setCoefficient_2 11 rfl rfl)
theorem dX1_setCoefficient_59 : decode cX1_setCoefficient 59 = .ok (.getfield 77, 3) := dk_180 0 77 (dk_at dksX1_setCoefficient_2 12 rfl rfl)
theorem dX1_setCoefficient_62 : decode cX1_setCoefficient 62 = .ok (.getfield 110, 3) := dk_180 0 110 (dk_at dksX1_setCoefficient_2 15 rfl rfl)
theorem dX1_setCoefficient_65 : decode cX1_setCoefficient 65 = .ok (.iload_n 1, 1) := dk_27 (dk_at dksX1_setCoefficient_2 18 rfl rfl)
theorem dX1_setCoefficient_66 : decode cX1_setCoefficient 66 = .ok (.aaload, 1) := dk_50 (dk_at dksX1_setCoefficient_2 19 rfl rfl)
theorem dX1_setCoefficient_67 : decode cX1_setCoefficient 67 = .ok (.iload_n 2, 1) := dk_28 (dk_at dksX1_setCoefficient_2 20 rfl rfl)
theorem dX1_setCoefficient_68 : decode cX1_setCoefficient 68 = .ok (.iload_n 3, 1) := dk_29 (dk_at dksX1_setCoefficient_2 21 rfl rfl)
theorem dX1_setCoefficient_69 : decode cX1_setCoefficient 69 = .ok (.i2l, 1) := dk_133 (dk_at dksX1_setCoefficient_2 22 rfl rfl)
theorem dX1_setCoefficient_70 : decode cX1_setCoefficient 70 = .ok (.iload 4, 2) := dk_21 4 (dk_at dksX1_setCoefficient_3 0 rfl rfl)
theorem dX1_setCoefficient_72 : decode cX1_setCoefficient 72 = .ok (.i2l, 1) := dk_133 (dk_at dksX1_setCoefficient_3 2 rfl rfl)
theorem dX1_setCoefficient_73 : decode cX1_setCoefficient 73 = .ok (.invokevirtual 175, 3) := dk_182 0 175 (dk_at dksX1_setCoefficient_3 3 rfl rfl)
theorem dX1_setCoefficient_76 : decode cX1_setCoefficient 76 = .ok (.aastore, 1) := dk_83 (dk_at dksX1_setCoefficient_3 6 rfl rfl)
theorem dX1_setCoefficient_77 : decode cX1_setCoefficient 77 = .ok (.goto 9, 3) := dk_167 0 9 (dk_at dksX1_setCoefficient_3 7 rfl rfl)
theorem dX1_setCoefficient_80 : decode cX1_setCoefficient 80 = .ok (.astore 5, 2) := dk_58 5 (dk_at dksX1_setCoefficient_3 10 rfl rfl)
theorem dX1_setCoefficient_82 : decode cX1_setCoefficient 82 = .ok (.invokestatic 181, 3) := dk_184 0 181 (dk_at dksX1_setCoefficient_3 12 rfl rfl)
theorem dX1_setCoefficient_85 : decode cX1_setCoefficient 85 = .ok (.athrow, 1) := dk_191 (dk_at dksX1_setCoefficient_3 15 rfl rfl)
theorem dX1_setCoefficient_86 : decode cX1_setCoefficient 86 = .ok (.return_, 1) := dk_177 (dk_at dksX1_setCoefficient_3 16 rfl rfl)
abbrev cX1_registers : ByteArray := prog_1_method_10_code
def yX1_registers : MethodName := ⟨RX1, "registers", "([I)V"⟩
def dkwX1_registers_1 : List UInt8 := [132, 1, 1, 167, 255, 233, 177]
abbrev dktX1_registers_1 : List UInt8 := dkwX1_registers_1 ++ []
def dkwX1_registers_0 : List UInt8 := [3, 60, 27, 42, 190, 162, 0, 23, 42, 27, 46, 133, 9, 20, 0, 100, 184, 0, 102, 184, 0, 106]
abbrev dktX1_registers_0 : List UInt8 := dkwX1_registers_0 ++ dktX1_registers_1
theorem dksX1_registers_0 : cX1_registers.data.toList.drop 0 = dktX1_registers_0 := by decide +kernel
theorem dksX1_registers_1 : cX1_registers.data.toList.drop 22 = dktX1_registers_1 := dk_seg dksX1_registers_0 22 rfl rfl
theorem dX1_registers_0 : decode cX1_registers 0 = .ok (.iconst 0, 1) := dk_3 (dk_at dksX1_registers_0 0 rfl rfl)
theorem dX1_registers_1 : decode cX1_registers 1 = .ok (.istore_n 1, 1) := dk_60 (dk_at dksX1_registers_0 1 rfl rfl)
theorem dX1_registers_2 : decode cX1_registers 2 = .ok (.iload_n 1, 1) := dk_27 (dk_at dksX1_registers_0 2 rfl rfl)
theorem dX1_registers_3 : decode cX1_registers 3 = .ok (.aload_n 0, 1) := dk_42 (dk_at dksX1_registers_0 3 rfl rfl)
theorem dX1_registers_4 : decode cX1_registers 4 = .ok (.arraylength, 1) := dk_190 (dk_at dksX1_registers_0 4 rfl rfl)
theorem dX1_registers_5 : decode cX1_registers 5 = .ok (.if_icmp .ge 23, 3) := dk_162 0 23 (dk_at dksX1_registers_0 5 rfl rfl)
theorem dX1_registers_8 : decode cX1_registers 8 = .ok (.aload_n 0, 1) := dk_42 (dk_at dksX1_registers_0 8 rfl rfl)
theorem dX1_registers_9 : decode cX1_registers 9 = .ok (.iload_n 1, 1) := dk_27 (dk_at dksX1_registers_0 9 rfl rfl)
theorem dX1_registers_10 : decode cX1_registers 10 = .ok (.iaload, 1) := dk_46 (dk_at dksX1_registers_0 10 rfl rfl)
theorem dX1_registers_11 : decode cX1_registers 11 = .ok (.i2l, 1) := dk_133 (dk_at dksX1_registers_0 11 rfl rfl)
theorem dX1_registers_12 : decode cX1_registers 12 = .ok (.lconst 0, 1) := dk_9 (dk_at dksX1_registers_0 12 rfl rfl)
theorem dX1_registers_13 : decode cX1_registers 13 = .ok (.ldc2_w 100, 3) := dk_20 0 100 (dk_at dksX1_registers_0 13 rfl rfl)
theorem dX1_registers_16 : decode cX1_registers 16 = .ok (.invokestatic 102, 3) := dk_184 0 102 (dk_at dksX1_registers_0 16 rfl rfl)
theorem dX1_registers_19 : decode cX1_registers 19 = .ok (.invokestatic 106, 3) := dk_184 0 106 (dk_at dksX1_registers_0 19 rfl rfl)
theorem dX1_registers_22 : decode cX1_registers 22 = .ok (.iinc 1 1, 3) := dk_132 1 1 (dk_at dksX1_registers_1 0 rfl rfl)
theorem dX1_registers_25 : decode cX1_registers 25 = .ok (.goto (-23), 3) := dk_167 255 233 (dk_at dksX1_registers_1 3 rfl rfl)
theorem dX1_registers_28 : decode cX1_registers 28 = .ok (.return_, 1) := dk_177 (dk_at dksX1_registers_1 6 rfl rfl)
abbrev cX1_index : ByteArray := prog_1_method_2_code
def yX1_index : MethodName := ⟨RX1, "index", "(Z)V"⟩
def dkwX1_index_0 : List UInt8 := [26, 154, 0, 13, 187, 0, 3, 89, 18, 5, 183, 0, 7, 191, 177]
abbrev dktX1_index_0 : List UInt8 := dkwX1_index_0 ++ []
theorem dksX1_index_0 : cX1_index.data.toList.drop 0 = dktX1_index_0 := by decide +kernel
theorem dX1_index_0 : decode cX1_index 0 = .ok (.iload_n 0, 1) := dk_26 (dk_at dksX1_index_0 0 rfl rfl)
theorem dX1_index_1 : decode cX1_index 1 = .ok (.ifCond .ne 13, 3) := dk_154 0 13 (dk_at dksX1_index_0 1 rfl rfl)
theorem dX1_index_4 : decode cX1_index 4 = .ok (.new 3, 3) := dk_187 0 3 (dk_at dksX1_index_0 4 rfl rfl)
theorem dX1_index_7 : decode cX1_index 7 = .ok (.dup, 1) := dk_89 (dk_at dksX1_index_0 7 rfl rfl)
theorem dX1_index_8 : decode cX1_index 8 = .ok (.ldc 5, 2) := dk_18 5 (dk_at dksX1_index_0 8 rfl rfl)
theorem dX1_index_10 : decode cX1_index 10 = .ok (.invokespecial 7, 3) := dk_183 0 7 (dk_at dksX1_index_0 10 rfl rfl)
theorem dX1_index_13 : decode cX1_index 13 = .ok (.athrow, 1) := dk_191 (dk_at dksX1_index_0 13 rfl rfl)
theorem dX1_index_14 : decode cX1_index 14 = .ok (.return_, 1) := dk_177 (dk_at dksX1_index_0 14 rfl rfl)
abbrev cX1_blade : ByteArray := prog_1_method_15_code
def yX1_blade : MethodName := ⟨RX1, "blade", "(I)V"⟩
def dkwX1_blade_0 : List UInt8 := [42, 180, 0, 77, 180, 0, 133, 27, 182, 0, 157, 184, 0, 106, 177]
abbrev dktX1_blade_0 : List UInt8 := dkwX1_blade_0 ++ []
theorem dksX1_blade_0 : cX1_blade.data.toList.drop 0 = dktX1_blade_0 := by decide +kernel
theorem dX1_blade_0 : decode cX1_blade 0 = .ok (.aload_n 0, 1) := dk_42 (dk_at dksX1_blade_0 0 rfl rfl)
theorem dX1_blade_1 : decode cX1_blade 1 = .ok (.getfield 77, 3) := dk_180 0 77 (dk_at dksX1_blade_0 1 rfl rfl)
theorem dX1_blade_4 : decode cX1_blade 4 = .ok (.getfield 133, 3) := dk_180 0 133 (dk_at dksX1_blade_0 4 rfl rfl)
theorem dX1_blade_7 : decode cX1_blade 7 = .ok (.iload_n 1, 1) := dk_27 (dk_at dksX1_blade_0 7 rfl rfl)
theorem dX1_blade_8 : decode cX1_blade 8 = .ok (.invokevirtual 157, 3) := dk_182 0 157 (dk_at dksX1_blade_0 8 rfl rfl)
theorem dX1_blade_11 : decode cX1_blade 11 = .ok (.invokestatic 106, 3) := dk_184 0 106 (dk_at dksX1_blade_0 11 rfl rfl)
theorem dX1_blade_14 : decode cX1_blade 14 = .ok (.return_, 1) := dk_177 (dk_at dksX1_blade_0 14 rfl rfl)
abbrev cX1_common : ByteArray := prog_1_method_6_code
def yX1_common : MethodName := ⟨RX1, "common", "(JJ)J"⟩
def dkwX1_common_1 : List UInt8 := [55, 8, 22, 6, 55, 4, 22, 8, 55, 6, 167, 255, 234, 22, 4, 173]
abbrev dktX1_common_1 : List UInt8 := dkwX1_common_1 ++ []
def dkwX1_common_0 : List UInt8 := [30, 184, 0, 26, 55, 4, 32, 184, 0, 26, 55, 6, 22, 6, 9, 148, 153, 0, 21, 22, 4, 22, 6, 113]
abbrev dktX1_common_0 : List UInt8 := dkwX1_common_0 ++ dktX1_common_1
theorem dksX1_common_0 : cX1_common.data.toList.drop 0 = dktX1_common_0 := by decide +kernel
theorem dksX1_common_1 : cX1_common.data.toList.drop 24 = dktX1_common_1 := dk_seg dksX1_common_0 24 rfl rfl
theorem dX1_common_0 : decode cX1_common 0 = .ok (.lload_n 0, 1) := dk_30 (dk_at dksX1_common_0 0 rfl rfl)
theorem dX1_common_1 : decode cX1_common 1 = .ok (.invokestatic 26, 3) := dk_184 0 26 (dk_at dksX1_common_0 1 rfl rfl)
theorem dX1_common_4 : decode cX1_common 4 = .ok (.lstore 4, 2) := dk_55 4 (dk_at dksX1_common_0 4 rfl rfl)
theorem dX1_common_6 : decode cX1_common 6 = .ok (.lload_n 2, 1) := dk_32 (dk_at dksX1_common_0 6 rfl rfl)
theorem dX1_common_7 : decode cX1_common 7 = .ok (.invokestatic 26, 3) := dk_184 0 26 (dk_at dksX1_common_0 7 rfl rfl)
theorem dX1_common_10 : decode cX1_common 10 = .ok (.lstore 6, 2) := dk_55 6 (dk_at dksX1_common_0 10 rfl rfl)
theorem dX1_common_12 : decode cX1_common 12 = .ok (.lload 6, 2) := dk_22 6 (dk_at dksX1_common_0 12 rfl rfl)
theorem dX1_common_14 : decode cX1_common 14 = .ok (.lconst 0, 1) := dk_9 (dk_at dksX1_common_0 14 rfl rfl)
theorem dX1_common_15 : decode cX1_common 15 = .ok (.lcmp, 1) := dk_148 (dk_at dksX1_common_0 15 rfl rfl)
theorem dX1_common_16 : decode cX1_common 16 = .ok (.ifCond .eq 21, 3) := dk_153 0 21 (dk_at dksX1_common_0 16 rfl rfl)
theorem dX1_common_19 : decode cX1_common 19 = .ok (.lload 4, 2) := dk_22 4 (dk_at dksX1_common_0 19 rfl rfl)
theorem dX1_common_21 : decode cX1_common 21 = .ok (.lload 6, 2) := dk_22 6 (dk_at dksX1_common_0 21 rfl rfl)
theorem dX1_common_23 : decode cX1_common 23 = .ok (.lrem, 1) := dk_113 (dk_at dksX1_common_0 23 rfl rfl)
theorem dX1_common_24 : decode cX1_common 24 = .ok (.lstore 8, 2) := dk_55 8 (dk_at dksX1_common_1 0 rfl rfl)
theorem dX1_common_26 : decode cX1_common 26 = .ok (.lload 6, 2) := dk_22 6 (dk_at dksX1_common_1 2 rfl rfl)
theorem dX1_common_28 : decode cX1_common 28 = .ok (.lstore 4, 2) := dk_55 4 (dk_at dksX1_common_1 4 rfl rfl)
theorem dX1_common_30 : decode cX1_common 30 = .ok (.lload 8, 2) := dk_22 8 (dk_at dksX1_common_1 6 rfl rfl)
theorem dX1_common_32 : decode cX1_common 32 = .ok (.lstore 6, 2) := dk_55 6 (dk_at dksX1_common_1 8 rfl rfl)
theorem dX1_common_34 : decode cX1_common 34 = .ok (.goto (-22), 3) := dk_167 255 234 (dk_at dksX1_common_1 10 rfl rfl)
theorem dX1_common_37 : decode cX1_common 37 = .ok (.lload 4, 2) := dk_22 4 (dk_at dksX1_common_1 13 rfl rfl)
theorem dX1_common_39 : decode cX1_common 39 = .ok (.lreturn, 1) := dk_173 (dk_at dksX1_common_1 15 rfl rfl)
abbrev cX1_large : ByteArray := prog_1_method_12_code
def yX1_large : MethodName := ⟨RX1, "large", "()Ljava/lang/ArithmeticException;"⟩
def dkwX1_large_0 : List UInt8 := [187, 0, 118, 89, 18, 120, 183, 0, 122, 176]
abbrev dktX1_large_0 : List UInt8 := dkwX1_large_0 ++ []
theorem dksX1_large_0 : cX1_large.data.toList.drop 0 = dktX1_large_0 := by decide +kernel
theorem dX1_large_0 : decode cX1_large 0 = .ok (.new 118, 3) := dk_187 0 118 (dk_at dksX1_large_0 0 rfl rfl)
theorem dX1_large_3 : decode cX1_large 3 = .ok (.dup, 1) := dk_89 (dk_at dksX1_large_0 3 rfl rfl)
theorem dX1_large_4 : decode cX1_large 4 = .ok (.ldc 120, 2) := dk_18 120 (dk_at dksX1_large_0 4 rfl rfl)
theorem dX1_large_6 : decode cX1_large 6 = .ok (.invokespecial 122, 3) := dk_183 0 122 (dk_at dksX1_large_0 6 rfl rfl)
theorem dX1_large_9 : decode cX1_large 9 = .ok (.areturn, 1) := dk_176 (dk_at dksX1_large_0 9 rfl rfl)
abbrev cX1_numerator : ByteArray := prog_1_method_18_code
def yX1_numerator : MethodName := ⟨RX1, "numerator", "(II)I"⟩
def dkwX1_numerator_0 : List UInt8 := [42, 27, 28, 182, 0, 190, 180, 0, 194, 136, 172]
abbrev dktX1_numerator_0 : List UInt8 := dkwX1_numerator_0 ++ []
theorem dksX1_numerator_0 : cX1_numerator.data.toList.drop 0 = dktX1_numerator_0 := by decide +kernel
theorem dX1_numerator_0 : decode cX1_numerator 0 = .ok (.aload_n 0, 1) := dk_42 (dk_at dksX1_numerator_0 0 rfl rfl)
theorem dX1_numerator_1 : decode cX1_numerator 1 = .ok (.iload_n 1, 1) := dk_27 (dk_at dksX1_numerator_0 1 rfl rfl)
theorem dX1_numerator_2 : decode cX1_numerator 2 = .ok (.iload_n 2, 1) := dk_28 (dk_at dksX1_numerator_0 2 rfl rfl)
theorem dX1_numerator_3 : decode cX1_numerator 3 = .ok (.invokevirtual 190, 3) := dk_182 0 190 (dk_at dksX1_numerator_0 3 rfl rfl)
theorem dX1_numerator_6 : decode cX1_numerator 6 = .ok (.getfield 194, 3) := dk_180 0 194 (dk_at dksX1_numerator_0 6 rfl rfl)
theorem dX1_numerator_9 : decode cX1_numerator 9 = .ok (.l2i, 1) := dk_136 (dk_at dksX1_numerator_0 9 rfl rfl)
theorem dX1_numerator_10 : decode cX1_numerator 10 = .ok (.ireturn, 1) := dk_172 (dk_at dksX1_numerator_0 10 rfl rfl)
abbrev cX1_term : ByteArray := prog_1_method_17_code
def yX1_term : MethodName := ⟨RX1, "term", "(II)LBladeAlgebra$Term;"⟩
def dkwX1_term_1 : List UInt8 := [78, 187, 0, 185, 89, 28, 45, 180, 0, 42, 28, 47, 45, 180, 0, 38, 183, 0, 187, 176]
abbrev dktX1_term_1 : List UInt8 := dkwX1_term_1 ++ []
def dkwX1_term_0 : List UInt8 := [4, 188, 10, 89, 3, 27, 79, 184, 0, 161, 42, 28, 182, 0, 165, 42, 180, 0, 77, 180, 0, 110, 27, 50]
abbrev dktX1_term_0 : List UInt8 := dkwX1_term_0 ++ dktX1_term_1
theorem dksX1_term_0 : cX1_term.data.toList.drop 0 = dktX1_term_0 := by decide +kernel
theorem dksX1_term_1 : cX1_term.data.toList.drop 24 = dktX1_term_1 := dk_seg dksX1_term_0 24 rfl rfl
theorem dX1_term_0 : decode cX1_term 0 = .ok (.iconst 1, 1) := dk_4 (dk_at dksX1_term_0 0 rfl rfl)
theorem dX1_term_1 : decode cX1_term 1 = .ok (.newarray .int, 2) := dk_188_10 (dk_at dksX1_term_0 1 rfl rfl)
theorem dX1_term_3 : decode cX1_term 3 = .ok (.dup, 1) := dk_89 (dk_at dksX1_term_0 3 rfl rfl)
theorem dX1_term_4 : decode cX1_term 4 = .ok (.iconst 0, 1) := dk_3 (dk_at dksX1_term_0 4 rfl rfl)
theorem dX1_term_5 : decode cX1_term 5 = .ok (.iload_n 1, 1) := dk_27 (dk_at dksX1_term_0 5 rfl rfl)
theorem dX1_term_6 : decode cX1_term 6 = .ok (.iastore, 1) := dk_79 (dk_at dksX1_term_0 6 rfl rfl)
theorem dX1_term_7 : decode cX1_term 7 = .ok (.invokestatic 161, 3) := dk_184 0 161 (dk_at dksX1_term_0 7 rfl rfl)
theorem dX1_term_10 : decode cX1_term 10 = .ok (.aload_n 0, 1) := dk_42 (dk_at dksX1_term_0 10 rfl rfl)
theorem dX1_term_11 : decode cX1_term 11 = .ok (.iload_n 2, 1) := dk_28 (dk_at dksX1_term_0 11 rfl rfl)
theorem dX1_term_12 : decode cX1_term 12 = .ok (.invokevirtual 165, 3) := dk_182 0 165 (dk_at dksX1_term_0 12 rfl rfl)
theorem dX1_term_15 : decode cX1_term 15 = .ok (.aload_n 0, 1) := dk_42 (dk_at dksX1_term_0 15 rfl rfl)
theorem dX1_term_16 : decode cX1_term 16 = .ok (.getfield 77, 3) := dk_180 0 77 (dk_at dksX1_term_0 16 rfl rfl)
theorem dX1_term_19 : decode cX1_term 19 = .ok (.getfield 110, 3) := dk_180 0 110 (dk_at dksX1_term_0 19 rfl rfl)
theorem dX1_term_22 : decode cX1_term 22 = .ok (.iload_n 1, 1) := dk_27 (dk_at dksX1_term_0 22 rfl rfl)
theorem dX1_term_23 : decode cX1_term 23 = .ok (.aaload, 1) := dk_50 (dk_at dksX1_term_0 23 rfl rfl)
theorem dX1_term_24 : decode cX1_term 24 = .ok (.astore_n 3, 1) := dk_78 (dk_at dksX1_term_1 0 rfl rfl)
theorem dX1_term_25 : decode cX1_term 25 = .ok (.new 185, 3) := dk_187 0 185 (dk_at dksX1_term_1 1 rfl rfl)
theorem dX1_term_28 : decode cX1_term 28 = .ok (.dup, 1) := dk_89 (dk_at dksX1_term_1 4 rfl rfl)
theorem dX1_term_29 : decode cX1_term 29 = .ok (.iload_n 2, 1) := dk_28 (dk_at dksX1_term_1 5 rfl rfl)
theorem dX1_term_30 : decode cX1_term 30 = .ok (.aload_n 3, 1) := dk_45 (dk_at dksX1_term_1 6 rfl rfl)
theorem dX1_term_31 : decode cX1_term 31 = .ok (.getfield 42, 3) := dk_180 0 42 (dk_at dksX1_term_1 7 rfl rfl)
theorem dX1_term_34 : decode cX1_term 34 = .ok (.iload_n 2, 1) := dk_28 (dk_at dksX1_term_1 10 rfl rfl)
theorem dX1_term_35 : decode cX1_term 35 = .ok (.laload, 1) := dk_47 (dk_at dksX1_term_1 11 rfl rfl)
theorem dX1_term_36 : decode cX1_term 36 = .ok (.aload_n 3, 1) := dk_45 (dk_at dksX1_term_1 12 rfl rfl)
theorem dX1_term_37 : decode cX1_term 37 = .ok (.getfield 38, 3) := dk_180 0 38 (dk_at dksX1_term_1 13 rfl rfl)
theorem dX1_term_40 : decode cX1_term 40 = .ok (.invokespecial 187, 3) := dk_183 0 187 (dk_at dksX1_term_1 16 rfl rfl)
theorem dX1_term_43 : decode cX1_term 43 = .ok (.areturn, 1) := dk_176 (dk_at dksX1_term_1 19 rfl rfl)
abbrev cX1_denominator : ByteArray := prog_1_method_19_code
def yX1_denominator : MethodName := ⟨RX1, "denominator", "(II)I"⟩
def dkwX1_denominator_0 : List UInt8 := [42, 27, 28, 182, 0, 190, 180, 0, 197, 136, 172]
abbrev dktX1_denominator_0 : List UInt8 := dkwX1_denominator_0 ++ []
theorem dksX1_denominator_0 : cX1_denominator.data.toList.drop 0 = dktX1_denominator_0 := by decide +kernel
theorem dX1_denominator_0 : decode cX1_denominator 0 = .ok (.aload_n 0, 1) := dk_42 (dk_at dksX1_denominator_0 0 rfl rfl)
theorem dX1_denominator_1 : decode cX1_denominator 1 = .ok (.iload_n 1, 1) := dk_27 (dk_at dksX1_denominator_0 1 rfl rfl)
theorem dX1_denominator_2 : decode cX1_denominator 2 = .ok (.iload_n 2, 1) := dk_28 (dk_at dksX1_denominator_0 2 rfl rfl)
theorem dX1_denominator_3 : decode cX1_denominator 3 = .ok (.invokevirtual 190, 3) := dk_182 0 190 (dk_at dksX1_denominator_0 3 rfl rfl)
theorem dX1_denominator_6 : decode cX1_denominator 6 = .ok (.getfield 197, 3) := dk_180 0 197 (dk_at dksX1_denominator_0 6 rfl rfl)
theorem dX1_denominator_9 : decode cX1_denominator 9 = .ok (.l2i, 1) := dk_136 (dk_at dksX1_denominator_0 9 rfl rfl)
theorem dX1_denominator_10 : decode cX1_denominator 10 = .ok (.ireturn, 1) := dk_172 (dk_at dksX1_denominator_0 10 rfl rfl)
abbrev cX1_commonDenominator : ByteArray := prog_1_method_20_code
def yX1_commonDenominator : MethodName := ⟨RX1, "commonDenominator", "(I)I"⟩
def dkwX1_commonDenominator_0 : List UInt8 := [4, 188, 10, 89, 3, 27, 79, 184, 0, 161, 42, 180, 0, 77, 180, 0, 110, 27, 50, 180, 0, 38, 136, 172]
abbrev dktX1_commonDenominator_0 : List UInt8 := dkwX1_commonDenominator_0 ++ []
theorem dksX1_commonDenominator_0 : cX1_commonDenominator.data.toList.drop 0 = dktX1_commonDenominator_0 := by decide +kernel
theorem dX1_commonDenominator_0 : decode cX1_commonDenominator 0 = .ok (.iconst 1, 1) := dk_4 (dk_at dksX1_commonDenominator_0 0 rfl rfl)
theorem dX1_commonDenominator_1 : decode cX1_commonDenominator 1 = .ok (.newarray .int, 2) := dk_188_10 (dk_at dksX1_commonDenominator_0 1 rfl rfl)
theorem dX1_commonDenominator_3 : decode cX1_commonDenominator 3 = .ok (.dup, 1) := dk_89 (dk_at dksX1_commonDenominator_0 3 rfl rfl)
theorem dX1_commonDenominator_4 : decode cX1_commonDenominator 4 = .ok (.iconst 0, 1) := dk_3 (dk_at dksX1_commonDenominator_0 4 rfl rfl)
theorem dX1_commonDenominator_5 : decode cX1_commonDenominator 5 = .ok (.iload_n 1, 1) := dk_27 (dk_at dksX1_commonDenominator_0 5 rfl rfl)
theorem dX1_commonDenominator_6 : decode cX1_commonDenominator 6 = .ok (.iastore, 1) := dk_79 (dk_at dksX1_commonDenominator_0 6 rfl rfl)
theorem dX1_commonDenominator_7 : decode cX1_commonDenominator 7 = .ok (.invokestatic 161, 3) := dk_184 0 161 (dk_at dksX1_commonDenominator_0 7 rfl rfl)
theorem dX1_commonDenominator_10 : decode cX1_commonDenominator 10 = .ok (.aload_n 0, 1) := dk_42 (dk_at dksX1_commonDenominator_0 10 rfl rfl)
theorem dX1_commonDenominator_11 : decode cX1_commonDenominator 11 = .ok (.getfield 77, 3) := dk_180 0 77 (dk_at dksX1_commonDenominator_0 11 rfl rfl)
theorem dX1_commonDenominator_14 : decode cX1_commonDenominator 14 = .ok (.getfield 110, 3) := dk_180 0 110 (dk_at dksX1_commonDenominator_0 14 rfl rfl)
theorem dX1_commonDenominator_17 : decode cX1_commonDenominator 17 = .ok (.iload_n 1, 1) := dk_27 (dk_at dksX1_commonDenominator_0 17 rfl rfl)
theorem dX1_commonDenominator_18 : decode cX1_commonDenominator 18 = .ok (.aaload, 1) := dk_50 (dk_at dksX1_commonDenominator_0 18 rfl rfl)
theorem dX1_commonDenominator_19 : decode cX1_commonDenominator 19 = .ok (.getfield 38, 3) := dk_180 0 38 (dk_at dksX1_commonDenominator_0 19 rfl rfl)
theorem dX1_commonDenominator_22 : decode cX1_commonDenominator 22 = .ok (.l2i, 1) := dk_136 (dk_at dksX1_commonDenominator_0 22 rfl rfl)
theorem dX1_commonDenominator_23 : decode cX1_commonDenominator 23 = .ok (.ireturn, 1) := dk_172 (dk_at dksX1_commonDenominator_0 23 rfl rfl)
abbrev cX1_sign : ByteArray := prog_1_method_21_code
def yX1_sign : MethodName := ⟨RX1, "sign", "(II)I"⟩
def dkwX1_sign_1 : List UInt8 := [172]
abbrev dktX1_sign_1 : List UInt8 := dkwX1_sign_1 ++ []
def dkwX1_sign_0 : List UInt8 := [42, 27, 182, 0, 165, 42, 28, 182, 0, 165, 42, 180, 0, 77, 180, 0, 133, 180, 0, 200, 27, 50, 28, 46]
abbrev dktX1_sign_0 : List UInt8 := dkwX1_sign_0 ++ dktX1_sign_1
theorem dksX1_sign_0 : cX1_sign.data.toList.drop 0 = dktX1_sign_0 := by decide +kernel
theorem dksX1_sign_1 : cX1_sign.data.toList.drop 24 = dktX1_sign_1 := dk_seg dksX1_sign_0 24 rfl rfl
theorem dX1_sign_0 : decode cX1_sign 0 = .ok (.aload_n 0, 1) := dk_42 (dk_at dksX1_sign_0 0 rfl rfl)
theorem dX1_sign_1 : decode cX1_sign 1 = .ok (.iload_n 1, 1) := dk_27 (dk_at dksX1_sign_0 1 rfl rfl)
theorem dX1_sign_2 : decode cX1_sign 2 = .ok (.invokevirtual 165, 3) := dk_182 0 165 (dk_at dksX1_sign_0 2 rfl rfl)
theorem dX1_sign_5 : decode cX1_sign 5 = .ok (.aload_n 0, 1) := dk_42 (dk_at dksX1_sign_0 5 rfl rfl)
theorem dX1_sign_6 : decode cX1_sign 6 = .ok (.iload_n 2, 1) := dk_28 (dk_at dksX1_sign_0 6 rfl rfl)
theorem dX1_sign_7 : decode cX1_sign 7 = .ok (.invokevirtual 165, 3) := dk_182 0 165 (dk_at dksX1_sign_0 7 rfl rfl)
theorem dX1_sign_10 : decode cX1_sign 10 = .ok (.aload_n 0, 1) := dk_42 (dk_at dksX1_sign_0 10 rfl rfl)
theorem dX1_sign_11 : decode cX1_sign 11 = .ok (.getfield 77, 3) := dk_180 0 77 (dk_at dksX1_sign_0 11 rfl rfl)
theorem dX1_sign_14 : decode cX1_sign 14 = .ok (.getfield 133, 3) := dk_180 0 133 (dk_at dksX1_sign_0 14 rfl rfl)
theorem dX1_sign_17 : decode cX1_sign 17 = .ok (.getfield 200, 3) := dk_180 0 200 (dk_at dksX1_sign_0 17 rfl rfl)
theorem dX1_sign_20 : decode cX1_sign 20 = .ok (.iload_n 1, 1) := dk_27 (dk_at dksX1_sign_0 20 rfl rfl)
theorem dX1_sign_21 : decode cX1_sign 21 = .ok (.aaload, 1) := dk_50 (dk_at dksX1_sign_0 21 rfl rfl)
theorem dX1_sign_22 : decode cX1_sign 22 = .ok (.iload_n 2, 1) := dk_28 (dk_at dksX1_sign_0 22 rfl rfl)
theorem dX1_sign_23 : decode cX1_sign 23 = .ok (.iaload, 1) := dk_46 (dk_at dksX1_sign_0 23 rfl rfl)
theorem dX1_sign_24 : decode cX1_sign 24 = .ok (.ireturn, 1) := dk_172 (dk_at dksX1_sign_1 0 rfl rfl)
abbrev cX1_copy : ByteArray := prog_1_method_22_code
def yX1_copy : MethodName := ⟨RX1, "copy", "(II)V"⟩
def dkwX1_copy_1 : List UInt8 := [180, 0, 77, 180, 0, 110, 28, 50, 83, 177]
abbrev dktX1_copy_1 : List UInt8 := dkwX1_copy_1 ++ []
def dkwX1_copy_0 : List UInt8 := [5, 188, 10, 89, 3, 27, 79, 89, 4, 28, 79, 184, 0, 161, 42, 180, 0, 77, 180, 0, 110, 27, 42]
abbrev dktX1_copy_0 : List UInt8 := dkwX1_copy_0 ++ dktX1_copy_1
theorem dksX1_copy_0 : cX1_copy.data.toList.drop 0 = dktX1_copy_0 := by decide +kernel
theorem dksX1_copy_1 : cX1_copy.data.toList.drop 23 = dktX1_copy_1 := dk_seg dksX1_copy_0 23 rfl rfl
theorem dX1_copy_0 : decode cX1_copy 0 = .ok (.iconst 2, 1) := dk_5 (dk_at dksX1_copy_0 0 rfl rfl)
theorem dX1_copy_1 : decode cX1_copy 1 = .ok (.newarray .int, 2) := dk_188_10 (dk_at dksX1_copy_0 1 rfl rfl)
theorem dX1_copy_3 : decode cX1_copy 3 = .ok (.dup, 1) := dk_89 (dk_at dksX1_copy_0 3 rfl rfl)
theorem dX1_copy_4 : decode cX1_copy 4 = .ok (.iconst 0, 1) := dk_3 (dk_at dksX1_copy_0 4 rfl rfl)
theorem dX1_copy_5 : decode cX1_copy 5 = .ok (.iload_n 1, 1) := dk_27 (dk_at dksX1_copy_0 5 rfl rfl)
theorem dX1_copy_6 : decode cX1_copy 6 = .ok (.iastore, 1) := dk_79 (dk_at dksX1_copy_0 6 rfl rfl)
theorem dX1_copy_7 : decode cX1_copy 7 = .ok (.dup, 1) := dk_89 (dk_at dksX1_copy_0 7 rfl rfl)
theorem dX1_copy_8 : decode cX1_copy 8 = .ok (.iconst 1, 1) := dk_4 (dk_at dksX1_copy_0 8 rfl rfl)
theorem dX1_copy_9 : decode cX1_copy 9 = .ok (.iload_n 2, 1) := dk_28 (dk_at dksX1_copy_0 9 rfl rfl)
theorem dX1_copy_10 : decode cX1_copy 10 = .ok (.iastore, 1) := dk_79 (dk_at dksX1_copy_0 10 rfl rfl)
theorem dX1_copy_11 : decode cX1_copy 11 = .ok (.invokestatic 161, 3) := dk_184 0 161 (dk_at dksX1_copy_0 11 rfl rfl)
theorem dX1_copy_14 : decode cX1_copy 14 = .ok (.aload_n 0, 1) := dk_42 (dk_at dksX1_copy_0 14 rfl rfl)
theorem dX1_copy_15 : decode cX1_copy 15 = .ok (.getfield 77, 3) := dk_180 0 77 (dk_at dksX1_copy_0 15 rfl rfl)
theorem dX1_copy_18 : decode cX1_copy 18 = .ok (.getfield 110, 3) := dk_180 0 110 (dk_at dksX1_copy_0 18 rfl rfl)
theorem dX1_copy_21 : decode cX1_copy 21 = .ok (.iload_n 1, 1) := dk_27 (dk_at dksX1_copy_0 21 rfl rfl)
theorem dX1_copy_22 : decode cX1_copy 22 = .ok (.aload_n 0, 1) := dk_42 (dk_at dksX1_copy_0 22 rfl rfl)
theorem dX1_copy_23 : decode cX1_copy 23 = .ok (.getfield 77, 3) := dk_180 0 77 (dk_at dksX1_copy_1 0 rfl rfl)
theorem dX1_copy_26 : decode cX1_copy 26 = .ok (.getfield 110, 3) := dk_180 0 110 (dk_at dksX1_copy_1 3 rfl rfl)
theorem dX1_copy_29 : decode cX1_copy 29 = .ok (.iload_n 2, 1) := dk_28 (dk_at dksX1_copy_1 6 rfl rfl)
theorem dX1_copy_30 : decode cX1_copy 30 = .ok (.aaload, 1) := dk_50 (dk_at dksX1_copy_1 7 rfl rfl)
theorem dX1_copy_31 : decode cX1_copy 31 = .ok (.aastore, 1) := dk_83 (dk_at dksX1_copy_1 8 rfl rfl)
theorem dX1_copy_32 : decode cX1_copy 32 = .ok (.return_, 1) := dk_177 (dk_at dksX1_copy_1 9 rfl rfl)
abbrev cX1_combine : ByteArray := prog_1_method_23_code
def yX1_combine : MethodName := ⟨RX1, "combine", "(IIII)I"⟩
def dkwX1_combine_3 : List UInt8 := [182, 0, 204, 182, 0, 208, 172, 58, 5, 184, 0, 181, 191]
abbrev dktX1_combine_3 : List UInt8 := dkwX1_combine_3 ++ []
def dkwX1_combine_2 : List UInt8 := [180, 0, 133, 42, 180, 0, 77, 180, 0, 110, 29, 50, 42, 180, 0, 77, 180, 0, 110, 21, 4, 50]
abbrev dktX1_combine_2 : List UInt8 := dkwX1_combine_2 ++ dktX1_combine_3
def dkwX1_combine_1 : List UInt8 := [89, 4, 29, 79, 89, 5, 21, 4, 79, 184, 0, 161, 42, 28, 42, 180, 0, 61, 27, 50, 42, 180, 0, 77]
abbrev dktX1_combine_1 : List UInt8 := dkwX1_combine_1 ++ dktX1_combine_2
def dkwX1_combine_0 : List UInt8 := [27, 133, 9, 42, 180, 0, 61, 190, 4, 100, 133, 184, 0, 102, 184, 0, 125, 6, 188, 10, 89, 3, 28, 79]
abbrev dktX1_combine_0 : List UInt8 := dkwX1_combine_0 ++ dktX1_combine_1
theorem dksX1_combine_0 : cX1_combine.data.toList.drop 0 = dktX1_combine_0 := by decide +kernel
theorem dksX1_combine_1 : cX1_combine.data.toList.drop 24 = dktX1_combine_1 := dk_seg dksX1_combine_0 24 rfl rfl
theorem dksX1_combine_2 : cX1_combine.data.toList.drop 48 = dktX1_combine_2 := dk_seg dksX1_combine_1 24 rfl rfl
theorem dksX1_combine_3 : cX1_combine.data.toList.drop 70 = dktX1_combine_3 := dk_seg dksX1_combine_2 22 rfl rfl
theorem dX1_combine_0 : decode cX1_combine 0 = .ok (.iload_n 1, 1) := dk_27 (dk_at dksX1_combine_0 0 rfl rfl)
theorem dX1_combine_1 : decode cX1_combine 1 = .ok (.i2l, 1) := dk_133 (dk_at dksX1_combine_0 1 rfl rfl)
theorem dX1_combine_2 : decode cX1_combine 2 = .ok (.lconst 0, 1) := dk_9 (dk_at dksX1_combine_0 2 rfl rfl)
theorem dX1_combine_3 : decode cX1_combine 3 = .ok (.aload_n 0, 1) := dk_42 (dk_at dksX1_combine_0 3 rfl rfl)
theorem dX1_combine_4 : decode cX1_combine 4 = .ok (.getfield 61, 3) := dk_180 0 61 (dk_at dksX1_combine_0 4 rfl rfl)
theorem dX1_combine_7 : decode cX1_combine 7 = .ok (.arraylength, 1) := dk_190 (dk_at dksX1_combine_0 7 rfl rfl)
theorem dX1_combine_8 : decode cX1_combine 8 = .ok (.iconst 1, 1) := dk_4 (dk_at dksX1_combine_0 8 rfl rfl)
theorem dX1_combine_9 : decode cX1_combine 9 = .ok (.isub, 1) := dk_100 (dk_at dksX1_combine_0 9 rfl rfl)
theorem dX1_combine_10 : decode cX1_combine 10 = .ok (.i2l, 1) := dk_133 (dk_at dksX1_combine_0 10 rfl rfl)
theorem dX1_combine_11 : decode cX1_combine 11 = .ok (.invokestatic 102, 3) := dk_184 0 102 (dk_at dksX1_combine_0 11 rfl rfl)
theorem dX1_combine_14 : decode cX1_combine 14 = .ok (.invokestatic 125, 3) := dk_184 0 125 (dk_at dksX1_combine_0 14 rfl rfl)
theorem dX1_combine_17 : decode cX1_combine 17 = .ok (.iconst 3, 1) := dk_6 (dk_at dksX1_combine_0 17 rfl rfl)
theorem dX1_combine_18 : decode cX1_combine 18 = .ok (.newarray .int, 2) := dk_188_10 (dk_at dksX1_combine_0 18 rfl rfl)
theorem dX1_combine_20 : decode cX1_combine 20 = .ok (.dup, 1) := dk_89 (dk_at dksX1_combine_0 20 rfl rfl)
theorem dX1_combine_21 : decode cX1_combine 21 = .ok (.iconst 0, 1) := dk_3 (dk_at dksX1_combine_0 21 rfl rfl)
theorem dX1_combine_22 : decode cX1_combine 22 = .ok (.iload_n 2, 1) := dk_28 (dk_at dksX1_combine_0 22 rfl rfl)
theorem dX1_combine_23 : decode cX1_combine 23 = .ok (.iastore, 1) := dk_79 (dk_at dksX1_combine_0 23 rfl rfl)
theorem dX1_combine_24 : decode cX1_combine 24 = .ok (.dup, 1) := dk_89 (dk_at dksX1_combine_1 0 rfl rfl)
theorem dX1_combine_25 : decode cX1_combine 25 = .ok (.iconst 1, 1) := dk_4 (dk_at dksX1_combine_1 1 rfl rfl)
theorem dX1_combine_26 : decode cX1_combine 26 = .ok (.iload_n 3, 1) := dk_29 (dk_at dksX1_combine_1 2 rfl rfl)
theorem dX1_combine_27 : decode cX1_combine 27 = .ok (.iastore, 1) := dk_79 (dk_at dksX1_combine_1 3 rfl rfl)
theorem dX1_combine_28 : decode cX1_combine 28 = .ok (.dup, 1) := dk_89 (dk_at dksX1_combine_1 4 rfl rfl)
theorem dX1_combine_29 : decode cX1_combine 29 = .ok (.iconst 2, 1) := dk_5 (dk_at dksX1_combine_1 5 rfl rfl)
theorem dX1_combine_30 : decode cX1_combine 30 = .ok (.iload 4, 2) := dk_21 4 (dk_at dksX1_combine_1 6 rfl rfl)
theorem dX1_combine_32 : decode cX1_combine 32 = .ok (.iastore, 1) := dk_79 (dk_at dksX1_combine_1 8 rfl rfl)
theorem dX1_combine_33 : decode cX1_combine 33 = .ok (.invokestatic 161, 3) := dk_184 0 161 (dk_at dksX1_combine_1 9 rfl rfl)
theorem dX1_combine_36 : decode cX1_combine 36 = .ok (.aload_n 0, 1) := dk_42 (dk_at dksX1_combine_1 12 rfl rfl)
theorem dX1_combine_37 : decode cX1_combine 37 = .ok (.iload_n 2, 1) := dk_28 (dk_at dksX1_combine_1 13 rfl rfl)
theorem dX1_combine_38 : decode cX1_combine 38 = .ok (.aload_n 0, 1) := dk_42 (dk_at dksX1_combine_1 14 rfl rfl)
theorem dX1_combine_39 : decode cX1_combine 39 = .ok (.getfield 61, 3) := dk_180 0 61 (dk_at dksX1_combine_1 15 rfl rfl)
theorem dX1_combine_42 : decode cX1_combine 42 = .ok (.iload_n 1, 1) := dk_27 (dk_at dksX1_combine_1 18 rfl rfl)
theorem dX1_combine_43 : decode cX1_combine 43 = .ok (.aaload, 1) := dk_50 (dk_at dksX1_combine_1 19 rfl rfl)
theorem dX1_combine_44 : decode cX1_combine 44 = .ok (.aload_n 0, 1) := dk_42 (dk_at dksX1_combine_1 20 rfl rfl)
theorem dX1_combine_45 : decode cX1_combine 45 = .ok (.getfield 77, 3) := dk_180 0 77 (dk_at dksX1_combine_1 21 rfl rfl)
theorem dX1_combine_48 : decode cX1_combine 48 = .ok (.getfield 133, 3) := dk_180 0 133 (dk_at dksX1_combine_2 0 rfl rfl)
theorem dX1_combine_51 : decode cX1_combine 51 = .ok (.aload_n 0, 1) := dk_42 (dk_at dksX1_combine_2 3 rfl rfl)
theorem dX1_combine_52 : decode cX1_combine 52 = .ok (.getfield 77, 3) := dk_180 0 77 (dk_at dksX1_combine_2 4 rfl rfl)
theorem dX1_combine_55 : decode cX1_combine 55 = .ok (.getfield 110, 3) := dk_180 0 110 (dk_at dksX1_combine_2 7 rfl rfl)
theorem dX1_combine_58 : decode cX1_combine 58 = .ok (.iload_n 3, 1) := dk_29 (dk_at dksX1_combine_2 10 rfl rfl)
theorem dX1_combine_59 : decode cX1_combine 59 = .ok (.aaload, 1) := dk_50 (dk_at dksX1_combine_2 11 rfl rfl)
theorem dX1_combine_60 : decode cX1_combine 60 = .ok (.aload_n 0, 1) := dk_42 (dk_at dksX1_combine_2 12 rfl rfl)
theorem dX1_combine_61 : decode cX1_combine 61 = .ok (.getfield 77, 3) := dk_180 0 77 (dk_at dksX1_combine_2 13 rfl rfl)
theorem dX1_combine_64 : decode cX1_combine 64 = .ok (.getfield 110, 3) := dk_180 0 110 (dk_at dksX1_combine_2 16 rfl rfl)
theorem dX1_combine_67 : decode cX1_combine 67 = .ok (.iload 4, 2) := dk_21 4 (dk_at dksX1_combine_2 19 rfl rfl)
theorem dX1_combine_69 : decode cX1_combine 69 = .ok (.aaload, 1) := dk_50 (dk_at dksX1_combine_2 21 rfl rfl)
theorem dX1_combine_70 : decode cX1_combine 70 = .ok (.invokevirtual 204, 3) := dk_182 0 204 (dk_at dksX1_combine_3 0 rfl rfl)
theorem dX1_combine_73 : decode cX1_combine 73 = .ok (.invokevirtual 208, 3) := dk_182 0 208 (dk_at dksX1_combine_3 3 rfl rfl)
theorem dX1_combine_76 : decode cX1_combine 76 = .ok (.ireturn, 1) := dk_172 (dk_at dksX1_combine_3 6 rfl rfl)
theorem dX1_combine_77 : decode cX1_combine 77 = .ok (.astore 5, 2) := dk_58 5 (dk_at dksX1_combine_3 7 rfl rfl)
theorem dX1_combine_79 : decode cX1_combine 79 = .ok (.invokestatic 181, 3) := dk_184 0 181 (dk_at dksX1_combine_3 9 rfl rfl)
theorem dX1_combine_82 : decode cX1_combine 82 = .ok (.athrow, 1) := dk_191 (dk_at dksX1_combine_3 12 rfl rfl)
abbrev cX1_store : ByteArray := prog_1_method_11_code
def yX1_store : MethodName := ⟨RX1, "store", "(ILBladeAlgebra$Multi;)I"⟩
def dkwX1_store_0 : List UInt8 := [42, 180, 0, 77, 180, 0, 110, 27, 44, 83, 44, 182, 0, 114, 172]
abbrev dktX1_store_0 : List UInt8 := dkwX1_store_0 ++ []
theorem dksX1_store_0 : cX1_store.data.toList.drop 0 = dktX1_store_0 := by decide +kernel
theorem dX1_store_0 : decode cX1_store 0 = .ok (.aload_n 0, 1) := dk_42 (dk_at dksX1_store_0 0 rfl rfl)
theorem dX1_store_1 : decode cX1_store 1 = .ok (.getfield 77, 3) := dk_180 0 77 (dk_at dksX1_store_0 1 rfl rfl)
theorem dX1_store_4 : decode cX1_store 4 = .ok (.getfield 110, 3) := dk_180 0 110 (dk_at dksX1_store_0 4 rfl rfl)
theorem dX1_store_7 : decode cX1_store 7 = .ok (.iload_n 1, 1) := dk_27 (dk_at dksX1_store_0 7 rfl rfl)
theorem dX1_store_8 : decode cX1_store 8 = .ok (.aload_n 2, 1) := dk_44 (dk_at dksX1_store_0 8 rfl rfl)
theorem dX1_store_9 : decode cX1_store 9 = .ok (.aastore, 1) := dk_83 (dk_at dksX1_store_0 9 rfl rfl)
theorem dX1_store_10 : decode cX1_store 10 = .ok (.aload_n 2, 1) := dk_44 (dk_at dksX1_store_0 10 rfl rfl)
theorem dX1_store_11 : decode cX1_store 11 = .ok (.invokevirtual 114, 3) := dk_182 0 114 (dk_at dksX1_store_0 11 rfl rfl)
theorem dX1_store_14 : decode cX1_store 14 = .ok (.ireturn, 1) := dk_172 (dk_at dksX1_store_0 14 rfl rfl)
abbrev cX1_change : ByteArray := prog_1_method_24_code
def yX1_change : MethodName := ⟨RX1, "change", "(III)I"⟩
def dkwX1_change_2 : List UInt8 := [180, 0, 77, 180, 0, 110, 29, 50, 182, 0, 212, 182, 0, 208, 172, 58, 4, 184, 0, 181, 191]
abbrev dktX1_change_2 : List UInt8 := dkwX1_change_2 ++ []
def dkwX1_change_1 : List UInt8 := [89, 4, 29, 79, 184, 0, 161, 42, 28, 42, 180, 0, 70, 27, 50, 42, 180, 0, 77, 180, 0, 133, 42]
abbrev dktX1_change_1 : List UInt8 := dkwX1_change_1 ++ dktX1_change_2
def dkwX1_change_0 : List UInt8 := [27, 133, 9, 42, 180, 0, 70, 190, 4, 100, 133, 184, 0, 102, 184, 0, 125, 5, 188, 10, 89, 3, 28, 79]
abbrev dktX1_change_0 : List UInt8 := dkwX1_change_0 ++ dktX1_change_1
theorem dksX1_change_0 : cX1_change.data.toList.drop 0 = dktX1_change_0 := by decide +kernel
theorem dksX1_change_1 : cX1_change.data.toList.drop 24 = dktX1_change_1 := dk_seg dksX1_change_0 24 rfl rfl
theorem dksX1_change_2 : cX1_change.data.toList.drop 47 = dktX1_change_2 := dk_seg dksX1_change_1 23 rfl rfl
theorem dX1_change_0 : decode cX1_change 0 = .ok (.iload_n 1, 1) := dk_27 (dk_at dksX1_change_0 0 rfl rfl)
theorem dX1_change_1 : decode cX1_change 1 = .ok (.i2l, 1) := dk_133 (dk_at dksX1_change_0 1 rfl rfl)
theorem dX1_change_2 : decode cX1_change 2 = .ok (.lconst 0, 1) := dk_9 (dk_at dksX1_change_0 2 rfl rfl)
theorem dX1_change_3 : decode cX1_change 3 = .ok (.aload_n 0, 1) := dk_42 (dk_at dksX1_change_0 3 rfl rfl)
theorem dX1_change_4 : decode cX1_change 4 = .ok (.getfield 70, 3) := dk_180 0 70 (dk_at dksX1_change_0 4 rfl rfl)
theorem dX1_change_7 : decode cX1_change 7 = .ok (.arraylength, 1) := dk_190 (dk_at dksX1_change_0 7 rfl rfl)
theorem dX1_change_8 : decode cX1_change 8 = .ok (.iconst 1, 1) := dk_4 (dk_at dksX1_change_0 8 rfl rfl)
theorem dX1_change_9 : decode cX1_change 9 = .ok (.isub, 1) := dk_100 (dk_at dksX1_change_0 9 rfl rfl)
theorem dX1_change_10 : decode cX1_change 10 = .ok (.i2l, 1) := dk_133 (dk_at dksX1_change_0 10 rfl rfl)
theorem dX1_change_11 : decode cX1_change 11 = .ok (.invokestatic 102, 3) := dk_184 0 102 (dk_at dksX1_change_0 11 rfl rfl)
theorem dX1_change_14 : decode cX1_change 14 = .ok (.invokestatic 125, 3) := dk_184 0 125 (dk_at dksX1_change_0 14 rfl rfl)
theorem dX1_change_17 : decode cX1_change 17 = .ok (.iconst 2, 1) := dk_5 (dk_at dksX1_change_0 17 rfl rfl)
theorem dX1_change_18 : decode cX1_change 18 = .ok (.newarray .int, 2) := dk_188_10 (dk_at dksX1_change_0 18 rfl rfl)
theorem dX1_change_20 : decode cX1_change 20 = .ok (.dup, 1) := dk_89 (dk_at dksX1_change_0 20 rfl rfl)
theorem dX1_change_21 : decode cX1_change 21 = .ok (.iconst 0, 1) := dk_3 (dk_at dksX1_change_0 21 rfl rfl)
theorem dX1_change_22 : decode cX1_change 22 = .ok (.iload_n 2, 1) := dk_28 (dk_at dksX1_change_0 22 rfl rfl)
theorem dX1_change_23 : decode cX1_change 23 = .ok (.iastore, 1) := dk_79 (dk_at dksX1_change_0 23 rfl rfl)
theorem dX1_change_24 : decode cX1_change 24 = .ok (.dup, 1) := dk_89 (dk_at dksX1_change_1 0 rfl rfl)
theorem dX1_change_25 : decode cX1_change 25 = .ok (.iconst 1, 1) := dk_4 (dk_at dksX1_change_1 1 rfl rfl)
theorem dX1_change_26 : decode cX1_change 26 = .ok (.iload_n 3, 1) := dk_29 (dk_at dksX1_change_1 2 rfl rfl)
theorem dX1_change_27 : decode cX1_change 27 = .ok (.iastore, 1) := dk_79 (dk_at dksX1_change_1 3 rfl rfl)
theorem dX1_change_28 : decode cX1_change 28 = .ok (.invokestatic 161, 3) := dk_184 0 161 (dk_at dksX1_change_1 4 rfl rfl)
theorem dX1_change_31 : decode cX1_change 31 = .ok (.aload_n 0, 1) := dk_42 (dk_at dksX1_change_1 7 rfl rfl)
theorem dX1_change_32 : decode cX1_change 32 = .ok (.iload_n 2, 1) := dk_28 (dk_at dksX1_change_1 8 rfl rfl)
theorem dX1_change_33 : decode cX1_change 33 = .ok (.aload_n 0, 1) := dk_42 (dk_at dksX1_change_1 9 rfl rfl)
theorem dX1_change_34 : decode cX1_change 34 = .ok (.getfield 70, 3) := dk_180 0 70 (dk_at dksX1_change_1 10 rfl rfl)
theorem dX1_change_37 : decode cX1_change 37 = .ok (.iload_n 1, 1) := dk_27 (dk_at dksX1_change_1 13 rfl rfl)
theorem dX1_change_38 : decode cX1_change 38 = .ok (.aaload, 1) := dk_50 (dk_at dksX1_change_1 14 rfl rfl)
theorem dX1_change_39 : decode cX1_change 39 = .ok (.aload_n 0, 1) := dk_42 (dk_at dksX1_change_1 15 rfl rfl)
theorem dX1_change_40 : decode cX1_change 40 = .ok (.getfield 77, 3) := dk_180 0 77 (dk_at dksX1_change_1 16 rfl rfl)
theorem dX1_change_43 : decode cX1_change 43 = .ok (.getfield 133, 3) := dk_180 0 133 (dk_at dksX1_change_1 19 rfl rfl)
theorem dX1_change_46 : decode cX1_change 46 = .ok (.aload_n 0, 1) := dk_42 (dk_at dksX1_change_1 22 rfl rfl)
theorem dX1_change_47 : decode cX1_change 47 = .ok (.getfield 77, 3) := dk_180 0 77 (dk_at dksX1_change_2 0 rfl rfl)
theorem dX1_change_50 : decode cX1_change 50 = .ok (.getfield 110, 3) := dk_180 0 110 (dk_at dksX1_change_2 3 rfl rfl)
theorem dX1_change_53 : decode cX1_change 53 = .ok (.iload_n 3, 1) := dk_29 (dk_at dksX1_change_2 6 rfl rfl)
theorem dX1_change_54 : decode cX1_change 54 = .ok (.aaload, 1) := dk_50 (dk_at dksX1_change_2 7 rfl rfl)
theorem dX1_change_55 : decode cX1_change 55 = .ok (.invokevirtual 212, 3) := dk_182 0 212 (dk_at dksX1_change_2 8 rfl rfl)
theorem dX1_change_58 : decode cX1_change 58 = .ok (.invokevirtual 208, 3) := dk_182 0 208 (dk_at dksX1_change_2 11 rfl rfl)
theorem dX1_change_61 : decode cX1_change 61 = .ok (.ireturn, 1) := dk_172 (dk_at dksX1_change_2 14 rfl rfl)
theorem dX1_change_62 : decode cX1_change 62 = .ok (.astore 4, 2) := dk_58 4 (dk_at dksX1_change_2 15 rfl rfl)
theorem dX1_change_64 : decode cX1_change 64 = .ok (.invokestatic 181, 3) := dk_184 0 181 (dk_at dksX1_change_2 17 rfl rfl)
theorem dX1_change_67 : decode cX1_change 67 = .ok (.athrow, 1) := dk_191 (dk_at dksX1_change_2 20 rfl rfl)
abbrev cX1_reverse : ByteArray := prog_1_method_7_code
def yX1_reverse : MethodName := ⟨RX1, "reverse", "(LBladeAlgebra$Multi;)LBladeAlgebra$Multi;"⟩
def dkwX1_reverse_0 : List UInt8 := [42, 16, 12, 16, 63, 182, 0, 32, 176]
abbrev dktX1_reverse_0 : List UInt8 := dkwX1_reverse_0 ++ []
theorem dksX1_reverse_0 : cX1_reverse.data.toList.drop 0 = dktX1_reverse_0 := by decide +kernel
theorem dX1_reverse_0 : decode cX1_reverse 0 = .ok (.aload_n 0, 1) := dk_42 (dk_at dksX1_reverse_0 0 rfl rfl)
theorem dX1_reverse_1 : decode cX1_reverse 1 = .ok (.bipush 12, 2) := dk_16 12 (dk_at dksX1_reverse_0 1 rfl rfl)
theorem dX1_reverse_3 : decode cX1_reverse 3 = .ok (.bipush 63, 2) := dk_16 63 (dk_at dksX1_reverse_0 3 rfl rfl)
theorem dX1_reverse_5 : decode cX1_reverse 5 = .ok (.invokevirtual 32, 3) := dk_182 0 32 (dk_at dksX1_reverse_0 5 rfl rfl)
theorem dX1_reverse_8 : decode cX1_reverse 8 = .ok (.areturn, 1) := dk_176 (dk_at dksX1_reverse_0 8 rfl rfl)
abbrev cX1_possible : ByteArray := prog_1_method_4_code
def yX1_possible : MethodName := ⟨RX1, "possible", "(Z)V"⟩
def dkwX1_possible_0 : List UInt8 := [26, 154, 0, 13, 187, 0, 16, 89, 18, 18, 183, 0, 20, 191, 177]
abbrev dktX1_possible_0 : List UInt8 := dkwX1_possible_0 ++ []
theorem dksX1_possible_0 : cX1_possible.data.toList.drop 0 = dktX1_possible_0 := by decide +kernel
theorem dX1_possible_0 : decode cX1_possible 0 = .ok (.iload_n 0, 1) := dk_26 (dk_at dksX1_possible_0 0 rfl rfl)
theorem dX1_possible_1 : decode cX1_possible 1 = .ok (.ifCond .ne 13, 3) := dk_154 0 13 (dk_at dksX1_possible_0 1 rfl rfl)
theorem dX1_possible_4 : decode cX1_possible 4 = .ok (.new 16, 3) := dk_187 0 16 (dk_at dksX1_possible_0 4 rfl rfl)
theorem dX1_possible_7 : decode cX1_possible 7 = .ok (.dup, 1) := dk_89 (dk_at dksX1_possible_0 7 rfl rfl)
theorem dX1_possible_8 : decode cX1_possible 8 = .ok (.ldc 18, 2) := dk_18 18 (dk_at dksX1_possible_0 8 rfl rfl)
theorem dX1_possible_10 : decode cX1_possible 10 = .ok (.invokespecial 20, 3) := dk_183 0 20 (dk_at dksX1_possible_0 10 rfl rfl)
theorem dX1_possible_13 : decode cX1_possible 13 = .ok (.athrow, 1) := dk_191 (dk_at dksX1_possible_0 13 rfl rfl)
theorem dX1_possible_14 : decode cX1_possible 14 = .ok (.return_, 1) := dk_177 (dk_at dksX1_possible_0 14 rfl rfl)
abbrev cX1_by : ByteArray := prog_1_method_8_code
def yX1_by : MethodName := ⟨RX1, "by", "(LBladeAlgebra$Multi;LBladeAlgebra$Multi;)LBladeAlgebra$Multi;"⟩
def dkwX1_by_0 : List UInt8 := [42, 43, 180, 0, 38, 43, 180, 0, 42, 3, 47, 182, 0, 46, 176]
abbrev dktX1_by_0 : List UInt8 := dkwX1_by_0 ++ []
theorem dksX1_by_0 : cX1_by.data.toList.drop 0 = dktX1_by_0 := by decide +kernel
theorem dX1_by_0 : decode cX1_by 0 = .ok (.aload_n 0, 1) := dk_42 (dk_at dksX1_by_0 0 rfl rfl)
theorem dX1_by_1 : decode cX1_by 1 = .ok (.aload_n 1, 1) := dk_43 (dk_at dksX1_by_0 1 rfl rfl)
theorem dX1_by_2 : decode cX1_by 2 = .ok (.getfield 38, 3) := dk_180 0 38 (dk_at dksX1_by_0 2 rfl rfl)
theorem dX1_by_5 : decode cX1_by 5 = .ok (.aload_n 1, 1) := dk_43 (dk_at dksX1_by_0 5 rfl rfl)
theorem dX1_by_6 : decode cX1_by 6 = .ok (.getfield 42, 3) := dk_180 0 42 (dk_at dksX1_by_0 6 rfl rfl)
theorem dX1_by_9 : decode cX1_by 9 = .ok (.iconst 0, 1) := dk_3 (dk_at dksX1_by_0 9 rfl rfl)
theorem dX1_by_10 : decode cX1_by 10 = .ok (.laload, 1) := dk_47 (dk_at dksX1_by_0 10 rfl rfl)
theorem dX1_by_11 : decode cX1_by 11 = .ok (.invokevirtual 46, 3) := dk_182 0 46 (dk_at dksX1_by_0 11 rfl rfl)
theorem dX1_by_14 : decode cX1_by 14 = .ok (.areturn, 1) := dk_176 (dk_at dksX1_by_0 14 rfl rfl)
abbrev cX1_gradePart : ByteArray := prog_1_method_25_code
def yX1_gradePart : MethodName := ⟨RX1, "gradePart", "(III)I"⟩
def dkwX1_gradePart_2 : List UInt8 := [120, 182, 0, 32, 182, 0, 208, 172]
abbrev dktX1_gradePart_2 : List UInt8 := dkwX1_gradePart_2 ++ []
def dkwX1_gradePart_1 : List UInt8 := [180, 0, 154, 133, 184, 0, 102, 184, 0, 125, 42, 27, 42, 180, 0, 77, 180, 0, 110, 28, 50, 3, 4, 29]
abbrev dktX1_gradePart_1 : List UInt8 := dkwX1_gradePart_1 ++ dktX1_gradePart_2
def dkwX1_gradePart_0 : List UInt8 := [5, 188, 10, 89, 3, 27, 79, 89, 4, 28, 79, 184, 0, 161, 29, 133, 9, 42, 180, 0, 77, 180, 0, 133]
abbrev dktX1_gradePart_0 : List UInt8 := dkwX1_gradePart_0 ++ dktX1_gradePart_1
theorem dksX1_gradePart_0 : cX1_gradePart.data.toList.drop 0 = dktX1_gradePart_0 := by decide +kernel
theorem dksX1_gradePart_1 : cX1_gradePart.data.toList.drop 24 = dktX1_gradePart_1 := dk_seg dksX1_gradePart_0 24 rfl rfl
theorem dksX1_gradePart_2 : cX1_gradePart.data.toList.drop 48 = dktX1_gradePart_2 := dk_seg dksX1_gradePart_1 24 rfl rfl
theorem dX1_gradePart_0 : decode cX1_gradePart 0 = .ok (.iconst 2, 1) := dk_5 (dk_at dksX1_gradePart_0 0 rfl rfl)
theorem dX1_gradePart_1 : decode cX1_gradePart 1 = .ok (.newarray .int, 2) := dk_188_10 (dk_at dksX1_gradePart_0 1 rfl rfl)
theorem dX1_gradePart_3 : decode cX1_gradePart 3 = .ok (.dup, 1) := dk_89 (dk_at dksX1_gradePart_0 3 rfl rfl)
theorem dX1_gradePart_4 : decode cX1_gradePart 4 = .ok (.iconst 0, 1) := dk_3 (dk_at dksX1_gradePart_0 4 rfl rfl)
theorem dX1_gradePart_5 : decode cX1_gradePart 5 = .ok (.iload_n 1, 1) := dk_27 (dk_at dksX1_gradePart_0 5 rfl rfl)
theorem dX1_gradePart_6 : decode cX1_gradePart 6 = .ok (.iastore, 1) := dk_79 (dk_at dksX1_gradePart_0 6 rfl rfl)
theorem dX1_gradePart_7 : decode cX1_gradePart 7 = .ok (.dup, 1) := dk_89 (dk_at dksX1_gradePart_0 7 rfl rfl)
theorem dX1_gradePart_8 : decode cX1_gradePart 8 = .ok (.iconst 1, 1) := dk_4 (dk_at dksX1_gradePart_0 8 rfl rfl)
theorem dX1_gradePart_9 : decode cX1_gradePart 9 = .ok (.iload_n 2, 1) := dk_28 (dk_at dksX1_gradePart_0 9 rfl rfl)
theorem dX1_gradePart_10 : decode cX1_gradePart 10 = .ok (.iastore, 1) := dk_79 (dk_at dksX1_gradePart_0 10 rfl rfl)
theorem dX1_gradePart_11 : decode cX1_gradePart 11 = .ok (.invokestatic 161, 3) := dk_184 0 161 (dk_at dksX1_gradePart_0 11 rfl rfl)
theorem dX1_gradePart_14 : decode cX1_gradePart 14 = .ok (.iload_n 3, 1) := dk_29 (dk_at dksX1_gradePart_0 14 rfl rfl)
theorem dX1_gradePart_15 : decode cX1_gradePart 15 = .ok (.i2l, 1) := dk_133 (dk_at dksX1_gradePart_0 15 rfl rfl)
theorem dX1_gradePart_16 : decode cX1_gradePart 16 = .ok (.lconst 0, 1) := dk_9 (dk_at dksX1_gradePart_0 16 rfl rfl)
theorem dX1_gradePart_17 : decode cX1_gradePart 17 = .ok (.aload_n 0, 1) := dk_42 (dk_at dksX1_gradePart_0 17 rfl rfl)
theorem dX1_gradePart_18 : decode cX1_gradePart 18 = .ok (.getfield 77, 3) := dk_180 0 77 (dk_at dksX1_gradePart_0 18 rfl rfl)
theorem dX1_gradePart_21 : decode cX1_gradePart 21 = .ok (.getfield 133, 3) := dk_180 0 133 (dk_at dksX1_gradePart_0 21 rfl rfl)
theorem dX1_gradePart_24 : decode cX1_gradePart 24 = .ok (.getfield 154, 3) := dk_180 0 154 (dk_at dksX1_gradePart_1 0 rfl rfl)
theorem dX1_gradePart_27 : decode cX1_gradePart 27 = .ok (.i2l, 1) := dk_133 (dk_at dksX1_gradePart_1 3 rfl rfl)
theorem dX1_gradePart_28 : decode cX1_gradePart 28 = .ok (.invokestatic 102, 3) := dk_184 0 102 (dk_at dksX1_gradePart_1 4 rfl rfl)
theorem dX1_gradePart_31 : decode cX1_gradePart 31 = .ok (.invokestatic 125, 3) := dk_184 0 125 (dk_at dksX1_gradePart_1 7 rfl rfl)
theorem dX1_gradePart_34 : decode cX1_gradePart 34 = .ok (.aload_n 0, 1) := dk_42 (dk_at dksX1_gradePart_1 10 rfl rfl)
theorem dX1_gradePart_35 : decode cX1_gradePart 35 = .ok (.iload_n 1, 1) := dk_27 (dk_at dksX1_gradePart_1 11 rfl rfl)
theorem dX1_gradePart_36 : decode cX1_gradePart 36 = .ok (.aload_n 0, 1) := dk_42 (dk_at dksX1_gradePart_1 12 rfl rfl)
theorem dX1_gradePart_37 : decode cX1_gradePart 37 = .ok (.getfield 77, 3) := dk_180 0 77 (dk_at dksX1_gradePart_1 13 rfl rfl)
theorem dX1_gradePart_40 : decode cX1_gradePart 40 = .ok (.getfield 110, 3) := dk_180 0 110 (dk_at dksX1_gradePart_1 16 rfl rfl)
theorem dX1_gradePart_43 : decode cX1_gradePart 43 = .ok (.iload_n 2, 1) := dk_28 (dk_at dksX1_gradePart_1 19 rfl rfl)
theorem dX1_gradePart_44 : decode cX1_gradePart 44 = .ok (.aaload, 1) := dk_50 (dk_at dksX1_gradePart_1 20 rfl rfl)
theorem dX1_gradePart_45 : decode cX1_gradePart 45 = .ok (.iconst 0, 1) := dk_3 (dk_at dksX1_gradePart_1 21 rfl rfl)
theorem dX1_gradePart_46 : decode cX1_gradePart 46 = .ok (.iconst 1, 1) := dk_4 (dk_at dksX1_gradePart_1 22 rfl rfl)
theorem dX1_gradePart_47 : decode cX1_gradePart 47 = .ok (.iload_n 3, 1) := dk_29 (dk_at dksX1_gradePart_1 23 rfl rfl)
theorem dX1_gradePart_48 : decode cX1_gradePart 48 = .ok (.ishl, 1) := dk_120 (dk_at dksX1_gradePart_2 0 rfl rfl)
theorem dX1_gradePart_49 : decode cX1_gradePart 49 = .ok (.invokevirtual 32, 3) := dk_182 0 32 (dk_at dksX1_gradePart_2 1 rfl rfl)
theorem dX1_gradePart_52 : decode cX1_gradePart 52 = .ok (.invokevirtual 208, 3) := dk_182 0 208 (dk_at dksX1_gradePart_2 4 rfl rfl)
theorem dX1_gradePart_55 : decode cX1_gradePart 55 = .ok (.ireturn, 1) := dk_172 (dk_at dksX1_gradePart_2 7 rfl rfl)
abbrev cX1_scale : ByteArray := prog_1_method_26_code
def yX1_scale : MethodName := ⟨RX1, "scale", "(IIII)I"⟩
def dkwX1_scale_3 : List UInt8 := [182, 0, 208, 172, 58, 5, 184, 0, 181, 191]
abbrev dktX1_scale_3 : List UInt8 := dkwX1_scale_3 ++ []
def dkwX1_scale_2 : List UInt8 := [184, 0, 125, 42, 27, 42, 180, 0, 77, 180, 0, 110, 28, 50, 29, 133, 21, 4, 133, 182, 0, 46]
abbrev dktX1_scale_2 : List UInt8 := dkwX1_scale_2 ++ dktX1_scale_3
def dkwX1_scale_1 : List UInt8 := [184, 0, 102, 153, 0, 20, 21, 4, 133, 10, 20, 0, 173, 184, 0, 102, 153, 0, 7, 4, 167, 0, 4, 3]
abbrev dktX1_scale_1 : List UInt8 := dkwX1_scale_1 ++ dktX1_scale_2
def dkwX1_scale_0 : List UInt8 := [5, 188, 10, 89, 3, 27, 79, 89, 4, 28, 79, 184, 0, 161, 29, 133, 20, 0, 215, 20, 0, 173]
abbrev dktX1_scale_0 : List UInt8 := dkwX1_scale_0 ++ dktX1_scale_1
theorem dksX1_scale_0 : cX1_scale.data.toList.drop 0 = dktX1_scale_0 := by decide +kernel
theorem dksX1_scale_1 : cX1_scale.data.toList.drop 22 = dktX1_scale_1 := dk_seg dksX1_scale_0 22 rfl rfl
theorem dksX1_scale_2 : cX1_scale.data.toList.drop 46 = dktX1_scale_2 := dk_seg dksX1_scale_1 24 rfl rfl
theorem dksX1_scale_3 : cX1_scale.data.toList.drop 68 = dktX1_scale_3 := dk_seg dksX1_scale_2 22 rfl rfl
theorem dX1_scale_0 : decode cX1_scale 0 = .ok (.iconst 2, 1) := dk_5 (dk_at dksX1_scale_0 0 rfl rfl)
theorem dX1_scale_1 : decode cX1_scale 1 = .ok (.newarray .int, 2) := dk_188_10 (dk_at dksX1_scale_0 1 rfl rfl)
theorem dX1_scale_3 : decode cX1_scale 3 = .ok (.dup, 1) := dk_89 (dk_at dksX1_scale_0 3 rfl rfl)
theorem dX1_scale_4 : decode cX1_scale 4 = .ok (.iconst 0, 1) := dk_3 (dk_at dksX1_scale_0 4 rfl rfl)
theorem dX1_scale_5 : decode cX1_scale 5 = .ok (.iload_n 1, 1) := dk_27 (dk_at dksX1_scale_0 5 rfl rfl)
theorem dX1_scale_6 : decode cX1_scale 6 = .ok (.iastore, 1) := dk_79 (dk_at dksX1_scale_0 6 rfl rfl)
theorem dX1_scale_7 : decode cX1_scale 7 = .ok (.dup, 1) := dk_89 (dk_at dksX1_scale_0 7 rfl rfl)
theorem dX1_scale_8 : decode cX1_scale 8 = .ok (.iconst 1, 1) := dk_4 (dk_at dksX1_scale_0 8 rfl rfl)
theorem dX1_scale_9 : decode cX1_scale 9 = .ok (.iload_n 2, 1) := dk_28 (dk_at dksX1_scale_0 9 rfl rfl)
theorem dX1_scale_10 : decode cX1_scale 10 = .ok (.iastore, 1) := dk_79 (dk_at dksX1_scale_0 10 rfl rfl)
theorem dX1_scale_11 : decode cX1_scale 11 = .ok (.invokestatic 161, 3) := dk_184 0 161 (dk_at dksX1_scale_0 11 rfl rfl)
theorem dX1_scale_14 : decode cX1_scale 14 = .ok (.iload_n 3, 1) := dk_29 (dk_at dksX1_scale_0 14 rfl rfl)
theorem dX1_scale_15 : decode cX1_scale 15 = .ok (.i2l, 1) := dk_133 (dk_at dksX1_scale_0 15 rfl rfl)
theorem dX1_scale_16 : decode cX1_scale 16 = .ok (.ldc2_w 215, 3) := dk_20 0 215 (dk_at dksX1_scale_0 16 rfl rfl)
theorem dX1_scale_19 : decode cX1_scale 19 = .ok (.ldc2_w 173, 3) := dk_20 0 173 (dk_at dksX1_scale_0 19 rfl rfl)
theorem dX1_scale_22 : decode cX1_scale 22 = .ok (.invokestatic 102, 3) := dk_184 0 102 (dk_at dksX1_scale_1 0 rfl rfl)
theorem dX1_scale_25 : decode cX1_scale 25 = .ok (.ifCond .eq 20, 3) := dk_153 0 20 (dk_at dksX1_scale_1 3 rfl rfl)
theorem dX1_scale_28 : decode cX1_scale 28 = .ok (.iload 4, 2) := dk_21 4 (dk_at dksX1_scale_1 6 rfl rfl)
theorem dX1_scale_30 : decode cX1_scale 30 = .ok (.i2l, 1) := dk_133 (dk_at dksX1_scale_1 8 rfl rfl)
theorem dX1_scale_31 : decode cX1_scale 31 = .ok (.lconst 1, 1) := dk_10 (dk_at dksX1_scale_1 9 rfl rfl)
theorem dX1_scale_32 : decode cX1_scale 32 = .ok (.ldc2_w 173, 3) := dk_20 0 173 (dk_at dksX1_scale_1 10 rfl rfl)
theorem dX1_scale_35 : decode cX1_scale 35 = .ok (.invokestatic 102, 3) := dk_184 0 102 (dk_at dksX1_scale_1 13 rfl rfl)
theorem dX1_scale_38 : decode cX1_scale 38 = .ok (.ifCond .eq 7, 3) := dk_153 0 7 (dk_at dksX1_scale_1 16 rfl rfl)
theorem dX1_scale_41 : decode cX1_scale 41 = .ok (.iconst 1, 1) := dk_4 (dk_at dksX1_scale_1 19 rfl rfl)
theorem dX1_scale_42 : decode cX1_scale 42 = .ok (.goto 4, 3) := dk_167 0 4 (dk_at dksX1_scale_1 20 rfl rfl)
theorem dX1_scale_45 : decode cX1_scale 45 = .ok (.iconst 0, 1) := dk_3 (dk_at dksX1_scale_1 23 rfl rfl)
theorem dX1_scale_46 : decode cX1_scale 46 = .ok (.invokestatic 125, 3) := dk_184 0 125 (dk_at dksX1_scale_2 0 rfl rfl)
theorem dX1_scale_49 : decode cX1_scale 49 = .ok (.aload_n 0, 1) := dk_42 (dk_at dksX1_scale_2 3 rfl rfl)
theorem dX1_scale_50 : decode cX1_scale 50 = .ok (.iload_n 1, 1) := dk_27 (dk_at dksX1_scale_2 4 rfl rfl)
theorem dX1_scale_51 : decode cX1_scale 51 = .ok (.aload_n 0, 1) := dk_42 (dk_at dksX1_scale_2 5 rfl rfl)
theorem dX1_scale_52 : decode cX1_scale 52 = .ok (.getfield 77, 3) := dk_180 0 77 (dk_at dksX1_scale_2 6 rfl rfl)
theorem dX1_scale_55 : decode cX1_scale 55 = .ok (.getfield 110, 3) := dk_180 0 110 (dk_at dksX1_scale_2 9 rfl rfl)
theorem dX1_scale_58 : decode cX1_scale 58 = .ok (.iload_n 2, 1) := dk_28 (dk_at dksX1_scale_2 12 rfl rfl)
theorem dX1_scale_59 : decode cX1_scale 59 = .ok (.aaload, 1) := dk_50 (dk_at dksX1_scale_2 13 rfl rfl)
theorem dX1_scale_60 : decode cX1_scale 60 = .ok (.iload_n 3, 1) := dk_29 (dk_at dksX1_scale_2 14 rfl rfl)
theorem dX1_scale_61 : decode cX1_scale 61 = .ok (.i2l, 1) := dk_133 (dk_at dksX1_scale_2 15 rfl rfl)
theorem dX1_scale_62 : decode cX1_scale 62 = .ok (.iload 4, 2) := dk_21 4 (dk_at dksX1_scale_2 16 rfl rfl)
theorem dX1_scale_64 : decode cX1_scale 64 = .ok (.i2l, 1) := dk_133 (dk_at dksX1_scale_2 18 rfl rfl)
theorem dX1_scale_65 : decode cX1_scale 65 = .ok (.invokevirtual 46, 3) := dk_182 0 46 (dk_at dksX1_scale_2 19 rfl rfl)
theorem dX1_scale_68 : decode cX1_scale 68 = .ok (.invokevirtual 208, 3) := dk_182 0 208 (dk_at dksX1_scale_3 0 rfl rfl)
theorem dX1_scale_71 : decode cX1_scale 71 = .ok (.ireturn, 1) := dk_172 (dk_at dksX1_scale_3 3 rfl rfl)
theorem dX1_scale_72 : decode cX1_scale 72 = .ok (.astore 5, 2) := dk_58 5 (dk_at dksX1_scale_3 4 rfl rfl)
theorem dX1_scale_74 : decode cX1_scale 74 = .ok (.invokestatic 181, 3) := dk_184 0 181 (dk_at dksX1_scale_3 6 rfl rfl)
theorem dX1_scale_77 : decode cX1_scale 77 = .ok (.athrow, 1) := dk_191 (dk_at dksX1_scale_3 9 rfl rfl)
abbrev cX1_power : ByteArray := prog_1_method_27_code
def yX1_power : MethodName := ⟨RX1, "power", "(III)I"⟩
def dkwX1_power_3 : List UInt8 := [167, 255, 224, 42, 27, 25, 4, 182, 0, 208, 172, 58, 4, 184, 0, 181, 191]
abbrev dktX1_power_3 : List UInt8 := dkwX1_power_3 ++ []
def dkwX1_power_2 : List UInt8 := [180, 0, 133, 25, 4, 42, 180, 0, 77, 180, 0, 110, 28, 50, 182, 0, 221, 58, 4, 132, 5, 1]
abbrev dktX1_power_2 : List UInt8 := dkwX1_power_2 ++ dktX1_power_3
def dkwX1_power_1 : List UInt8 := [184, 0, 125, 3, 10, 10, 184, 0, 219, 58, 4, 3, 54, 5, 21, 5, 29, 162, 0, 32, 42, 180, 0, 77]
abbrev dktX1_power_1 : List UInt8 := dkwX1_power_1 ++ dktX1_power_2
def dkwX1_power_0 : List UInt8 := [5, 188, 10, 89, 3, 27, 79, 89, 4, 28, 79, 184, 0, 161, 29, 133, 9, 20, 0, 217, 184, 0, 102]
abbrev dktX1_power_0 : List UInt8 := dkwX1_power_0 ++ dktX1_power_1
theorem dksX1_power_0 : cX1_power.data.toList.drop 0 = dktX1_power_0 := by decide +kernel
theorem dksX1_power_1 : cX1_power.data.toList.drop 23 = dktX1_power_1 := dk_seg dksX1_power_0 23 rfl rfl
theorem dksX1_power_2 : cX1_power.data.toList.drop 47 = dktX1_power_2 := dk_seg dksX1_power_1 24 rfl rfl
theorem dksX1_power_3 : cX1_power.data.toList.drop 69 = dktX1_power_3 := dk_seg dksX1_power_2 22 rfl rfl
theorem dX1_power_0 : decode cX1_power 0 = .ok (.iconst 2, 1) := dk_5 (dk_at dksX1_power_0 0 rfl rfl)
theorem dX1_power_1 : decode cX1_power 1 = .ok (.newarray .int, 2) := dk_188_10 (dk_at dksX1_power_0 1 rfl rfl)
theorem dX1_power_3 : decode cX1_power 3 = .ok (.dup, 1) := dk_89 (dk_at dksX1_power_0 3 rfl rfl)
theorem dX1_power_4 : decode cX1_power 4 = .ok (.iconst 0, 1) := dk_3 (dk_at dksX1_power_0 4 rfl rfl)
theorem dX1_power_5 : decode cX1_power 5 = .ok (.iload_n 1, 1) := dk_27 (dk_at dksX1_power_0 5 rfl rfl)
theorem dX1_power_6 : decode cX1_power 6 = .ok (.iastore, 1) := dk_79 (dk_at dksX1_power_0 6 rfl rfl)
theorem dX1_power_7 : decode cX1_power 7 = .ok (.dup, 1) := dk_89 (dk_at dksX1_power_0 7 rfl rfl)
theorem dX1_power_8 : decode cX1_power 8 = .ok (.iconst 1, 1) := dk_4 (dk_at dksX1_power_0 8 rfl rfl)
theorem dX1_power_9 : decode cX1_power 9 = .ok (.iload_n 2, 1) := dk_28 (dk_at dksX1_power_0 9 rfl rfl)
theorem dX1_power_10 : decode cX1_power 10 = .ok (.iastore, 1) := dk_79 (dk_at dksX1_power_0 10 rfl rfl)
theorem dX1_power_11 : decode cX1_power 11 = .ok (.invokestatic 161, 3) := dk_184 0 161 (dk_at dksX1_power_0 11 rfl rfl)
theorem dX1_power_14 : decode cX1_power 14 = .ok (.iload_n 3, 1) := dk_29 (dk_at dksX1_power_0 14 rfl rfl)
theorem dX1_power_15 : decode cX1_power 15 = .ok (.i2l, 1) := dk_133 (dk_at dksX1_power_0 15 rfl rfl)
theorem dX1_power_16 : decode cX1_power 16 = .ok (.lconst 0, 1) := dk_9 (dk_at dksX1_power_0 16 rfl rfl)
theorem dX1_power_17 : decode cX1_power 17 = .ok (.ldc2_w 217, 3) := dk_20 0 217 (dk_at dksX1_power_0 17 rfl rfl)
theorem dX1_power_20 : decode cX1_power 20 = .ok (.invokestatic 102, 3) := dk_184 0 102 (dk_at dksX1_power_0 20 rfl rfl)
theorem dX1_power_23 : decode cX1_power 23 = .ok (.invokestatic 125, 3) := dk_184 0 125 (dk_at dksX1_power_1 0 rfl rfl)
theorem dX1_power_26 : decode cX1_power 26 = .ok (.iconst 0, 1) := dk_3 (dk_at dksX1_power_1 3 rfl rfl)
theorem dX1_power_27 : decode cX1_power 27 = .ok (.lconst 1, 1) := dk_10 (dk_at dksX1_power_1 4 rfl rfl)
theorem dX1_power_28 : decode cX1_power 28 = .ok (.lconst 1, 1) := dk_10 (dk_at dksX1_power_1 5 rfl rfl)
theorem dX1_power_29 : decode cX1_power 29 = .ok (.invokestatic 219, 3) := dk_184 0 219 (dk_at dksX1_power_1 6 rfl rfl)
theorem dX1_power_32 : decode cX1_power 32 = .ok (.astore 4, 2) := dk_58 4 (dk_at dksX1_power_1 9 rfl rfl)
theorem dX1_power_34 : decode cX1_power 34 = .ok (.iconst 0, 1) := dk_3 (dk_at dksX1_power_1 11 rfl rfl)
theorem dX1_power_35 : decode cX1_power 35 = .ok (.istore 5, 2) := dk_54 5 (dk_at dksX1_power_1 12 rfl rfl)
theorem dX1_power_37 : decode cX1_power 37 = .ok (.iload 5, 2) := dk_21 5 (dk_at dksX1_power_1 14 rfl rfl)
theorem dX1_power_39 : decode cX1_power 39 = .ok (.iload_n 3, 1) := dk_29 (dk_at dksX1_power_1 16 rfl rfl)
theorem dX1_power_40 : decode cX1_power 40 = .ok (.if_icmp .ge 32, 3) := dk_162 0 32 (dk_at dksX1_power_1 17 rfl rfl)
theorem dX1_power_43 : decode cX1_power 43 = .ok (.aload_n 0, 1) := dk_42 (dk_at dksX1_power_1 20 rfl rfl)
theorem dX1_power_44 : decode cX1_power 44 = .ok (.getfield 77, 3) := dk_180 0 77 (dk_at dksX1_power_1 21 rfl rfl)
theorem dX1_power_47 : decode cX1_power 47 = .ok (.getfield 133, 3) := dk_180 0 133 (dk_at dksX1_power_2 0 rfl rfl)
theorem dX1_power_50 : decode cX1_power 50 = .ok (.aload 4, 2) := dk_25 4 (dk_at dksX1_power_2 3 rfl rfl)
theorem dX1_power_52 : decode cX1_power 52 = .ok (.aload_n 0, 1) := dk_42 (dk_at dksX1_power_2 5 rfl rfl)
theorem dX1_power_53 : decode cX1_power 53 = .ok (.getfield 77, 3) := dk_180 0 77 (dk_at dksX1_power_2 6 rfl rfl)
theorem dX1_power_56 : decode cX1_power 56 = .ok (.getfield 110, 3) := dk_180 0 110 (dk_at dksX1_power_2 9 rfl rfl)
theorem dX1_power_59 : decode cX1_power 59 = .ok (.iload_n 2, 1) := dk_28 (dk_at dksX1_power_2 12 rfl rfl)
theorem dX1_power_60 : decode cX1_power 60 = .ok (.aaload, 1) := dk_50 (dk_at dksX1_power_2 13 rfl rfl)
theorem dX1_power_61 : decode cX1_power 61 = .ok (.invokevirtual 221, 3) := dk_182 0 221 (dk_at dksX1_power_2 14 rfl rfl)
theorem dX1_power_64 : decode cX1_power 64 = .ok (.astore 4, 2) := dk_58 4 (dk_at dksX1_power_2 17 rfl rfl)
theorem dX1_power_66 : decode cX1_power 66 = .ok (.iinc 5 1, 3) := dk_132 5 1 (dk_at dksX1_power_2 19 rfl rfl)
theorem dX1_power_69 : decode cX1_power 69 = .ok (.goto (-32), 3) := dk_167 255 224 (dk_at dksX1_power_3 0 rfl rfl)
theorem dX1_power_72 : decode cX1_power 72 = .ok (.aload_n 0, 1) := dk_42 (dk_at dksX1_power_3 3 rfl rfl)
theorem dX1_power_73 : decode cX1_power 73 = .ok (.iload_n 1, 1) := dk_27 (dk_at dksX1_power_3 4 rfl rfl)
theorem dX1_power_74 : decode cX1_power 74 = .ok (.aload 4, 2) := dk_25 4 (dk_at dksX1_power_3 5 rfl rfl)
theorem dX1_power_76 : decode cX1_power 76 = .ok (.invokevirtual 208, 3) := dk_182 0 208 (dk_at dksX1_power_3 7 rfl rfl)
theorem dX1_power_79 : decode cX1_power 79 = .ok (.ireturn, 1) := dk_172 (dk_at dksX1_power_3 10 rfl rfl)
theorem dX1_power_80 : decode cX1_power 80 = .ok (.astore 4, 2) := dk_58 4 (dk_at dksX1_power_3 11 rfl rfl)
theorem dX1_power_82 : decode cX1_power 82 = .ok (.invokestatic 181, 3) := dk_184 0 181 (dk_at dksX1_power_3 13 rfl rfl)
theorem dX1_power_85 : decode cX1_power 85 = .ok (.athrow, 1) := dk_191 (dk_at dksX1_power_3 16 rfl rfl)
abbrev cX1_project : ByteArray := prog_1_method_28_code
def yX1_project : MethodName := ⟨RX1, "project", "(III)I"⟩
def dkwX1_project_4 : List UInt8 := [172, 58, 4, 184, 0, 181, 191]
abbrev dktX1_project_4 : List UInt8 := dkwX1_project_4 ++ []
def dkwX1_project_3 : List UInt8 := [182, 0, 235, 58, 5, 42, 27, 42, 180, 0, 77, 180, 0, 133, 25, 5, 25, 4, 182, 0, 221, 182, 0, 208]
abbrev dktX1_project_3 : List UInt8 := dkwX1_project_3 ++ dktX1_project_4
def dkwX1_project_2 : List UInt8 := [180, 0, 133, 42, 180, 0, 77, 180, 0, 110, 28, 50, 42, 180, 0, 77, 180, 0, 110, 29, 50, 178, 0, 229]
abbrev dktX1_project_2 : List UInt8 := dkwX1_project_2 ++ dktX1_project_3
def dkwX1_project_1 : List UInt8 := [180, 0, 77, 180, 0, 133, 42, 180, 0, 77, 180, 0, 110, 29, 50, 182, 0, 212, 58, 4, 42, 180, 0, 77]
abbrev dktX1_project_1 : List UInt8 := dkwX1_project_1 ++ dktX1_project_2
def dkwX1_project_0 : List UInt8 := [6, 188, 10, 89, 3, 27, 79, 89, 4, 28, 79, 89, 5, 29, 79, 184, 0, 161, 178, 0, 225, 42]
abbrev dktX1_project_0 : List UInt8 := dkwX1_project_0 ++ dktX1_project_1
theorem dksX1_project_0 : cX1_project.data.toList.drop 0 = dktX1_project_0 := by decide +kernel
theorem dksX1_project_1 : cX1_project.data.toList.drop 22 = dktX1_project_1 := dk_seg dksX1_project_0 22 rfl rfl
theorem dksX1_project_2 : cX1_project.data.toList.drop 46 = dktX1_project_2 := dk_seg dksX1_project_1 24 rfl rfl
theorem dksX1_project_3 : cX1_project.data.toList.drop 70 = dktX1_project_3 := dk_seg dksX1_project_2 24 rfl rfl
theorem dksX1_project_4 : cX1_project.data.toList.drop 94 = dktX1_project_4 := dk_seg dksX1_project_3 24 rfl rfl
theorem dX1_project_0 : decode cX1_project 0 = .ok (.iconst 3, 1) := dk_6 (dk_at dksX1_project_0 0 rfl rfl)
theorem dX1_project_1 : decode cX1_project 1 = .ok (.newarray .int, 2) := dk_188_10 (dk_at dksX1_project_0 1 rfl rfl)
theorem dX1_project_3 : decode cX1_project 3 = .ok (.dup, 1) := dk_89 (dk_at dksX1_project_0 3 rfl rfl)
theorem dX1_project_4 : decode cX1_project 4 = .ok (.iconst 0, 1) := dk_3 (dk_at dksX1_project_0 4 rfl rfl)
theorem dX1_project_5 : decode cX1_project 5 = .ok (.iload_n 1, 1) := dk_27 (dk_at dksX1_project_0 5 rfl rfl)
theorem dX1_project_6 : decode cX1_project 6 = .ok (.iastore, 1) := dk_79 (dk_at dksX1_project_0 6 rfl rfl)
theorem dX1_project_7 : decode cX1_project 7 = .ok (.dup, 1) := dk_89 (dk_at dksX1_project_0 7 rfl rfl)
theorem dX1_project_8 : decode cX1_project 8 = .ok (.iconst 1, 1) := dk_4 (dk_at dksX1_project_0 8 rfl rfl)
theorem dX1_project_9 : decode cX1_project 9 = .ok (.iload_n 2, 1) := dk_28 (dk_at dksX1_project_0 9 rfl rfl)
theorem dX1_project_10 : decode cX1_project 10 = .ok (.iastore, 1) := dk_79 (dk_at dksX1_project_0 10 rfl rfl)
theorem dX1_project_11 : decode cX1_project 11 = .ok (.dup, 1) := dk_89 (dk_at dksX1_project_0 11 rfl rfl)
theorem dX1_project_12 : decode cX1_project 12 = .ok (.iconst 2, 1) := dk_5 (dk_at dksX1_project_0 12 rfl rfl)
theorem dX1_project_13 : decode cX1_project 13 = .ok (.iload_n 3, 1) := dk_29 (dk_at dksX1_project_0 13 rfl rfl)
theorem dX1_project_14 : decode cX1_project 14 = .ok (.iastore, 1) := dk_79 (dk_at dksX1_project_0 14 rfl rfl)
theorem dX1_project_15 : decode cX1_project 15 = .ok (.invokestatic 161, 3) := dk_184 0 161 (dk_at dksX1_project_0 15 rfl rfl)
theorem dX1_project_18 : decode cX1_project 18 = .ok (.getstatic 225, 3) := dk_178 0 225 (dk_at dksX1_project_0 18 rfl rfl)
theorem dX1_project_21 : decode cX1_project 21 = .ok (.aload_n 0, 1) := dk_42 (dk_at dksX1_project_0 21 rfl rfl)
theorem dX1_project_22 : decode cX1_project 22 = .ok (.getfield 77, 3) := dk_180 0 77 (dk_at dksX1_project_1 0 rfl rfl)
theorem dX1_project_25 : decode cX1_project 25 = .ok (.getfield 133, 3) := dk_180 0 133 (dk_at dksX1_project_1 3 rfl rfl)
theorem dX1_project_28 : decode cX1_project 28 = .ok (.aload_n 0, 1) := dk_42 (dk_at dksX1_project_1 6 rfl rfl)
theorem dX1_project_29 : decode cX1_project 29 = .ok (.getfield 77, 3) := dk_180 0 77 (dk_at dksX1_project_1 7 rfl rfl)
theorem dX1_project_32 : decode cX1_project 32 = .ok (.getfield 110, 3) := dk_180 0 110 (dk_at dksX1_project_1 10 rfl rfl)
theorem dX1_project_35 : decode cX1_project 35 = .ok (.iload_n 3, 1) := dk_29 (dk_at dksX1_project_1 13 rfl rfl)
theorem dX1_project_36 : decode cX1_project 36 = .ok (.aaload, 1) := dk_50 (dk_at dksX1_project_1 14 rfl rfl)
theorem dX1_project_37 : decode cX1_project 37 = .ok (.invokevirtual 212, 3) := dk_182 0 212 (dk_at dksX1_project_1 15 rfl rfl)
theorem dX1_project_40 : decode cX1_project 40 = .ok (.astore 4, 2) := dk_58 4 (dk_at dksX1_project_1 18 rfl rfl)
theorem dX1_project_42 : decode cX1_project 42 = .ok (.aload_n 0, 1) := dk_42 (dk_at dksX1_project_1 20 rfl rfl)
theorem dX1_project_43 : decode cX1_project 43 = .ok (.getfield 77, 3) := dk_180 0 77 (dk_at dksX1_project_1 21 rfl rfl)
theorem dX1_project_46 : decode cX1_project 46 = .ok (.getfield 133, 3) := dk_180 0 133 (dk_at dksX1_project_2 0 rfl rfl)
theorem dX1_project_49 : decode cX1_project 49 = .ok (.aload_n 0, 1) := dk_42 (dk_at dksX1_project_2 3 rfl rfl)
theorem dX1_project_50 : decode cX1_project 50 = .ok (.getfield 77, 3) := dk_180 0 77 (dk_at dksX1_project_2 4 rfl rfl)
theorem dX1_project_53 : decode cX1_project 53 = .ok (.getfield 110, 3) := dk_180 0 110 (dk_at dksX1_project_2 7 rfl rfl)
theorem dX1_project_56 : decode cX1_project 56 = .ok (.iload_n 2, 1) := dk_28 (dk_at dksX1_project_2 10 rfl rfl)
theorem dX1_project_57 : decode cX1_project 57 = .ok (.aaload, 1) := dk_50 (dk_at dksX1_project_2 11 rfl rfl)
theorem dX1_project_58 : decode cX1_project 58 = .ok (.aload_n 0, 1) := dk_42 (dk_at dksX1_project_2 12 rfl rfl)
theorem dX1_project_59 : decode cX1_project 59 = .ok (.getfield 77, 3) := dk_180 0 77 (dk_at dksX1_project_2 13 rfl rfl)
theorem dX1_project_62 : decode cX1_project 62 = .ok (.getfield 110, 3) := dk_180 0 110 (dk_at dksX1_project_2 16 rfl rfl)
theorem dX1_project_65 : decode cX1_project 65 = .ok (.iload_n 3, 1) := dk_29 (dk_at dksX1_project_2 19 rfl rfl)
theorem dX1_project_66 : decode cX1_project 66 = .ok (.aaload, 1) := dk_50 (dk_at dksX1_project_2 20 rfl rfl)
theorem dX1_project_67 : decode cX1_project 67 = .ok (.getstatic 229, 3) := dk_178 0 229 (dk_at dksX1_project_2 21 rfl rfl)
theorem dX1_project_70 : decode cX1_project 70 = .ok (.invokevirtual 235, 3) := dk_182 0 235 (dk_at dksX1_project_3 0 rfl rfl)
theorem dX1_project_73 : decode cX1_project 73 = .ok (.astore 5, 2) := dk_58 5 (dk_at dksX1_project_3 3 rfl rfl)
theorem dX1_project_75 : decode cX1_project 75 = .ok (.aload_n 0, 1) := dk_42 (dk_at dksX1_project_3 5 rfl rfl)
theorem dX1_project_76 : decode cX1_project 76 = .ok (.iload_n 1, 1) := dk_27 (dk_at dksX1_project_3 6 rfl rfl)
theorem dX1_project_77 : decode cX1_project 77 = .ok (.aload_n 0, 1) := dk_42 (dk_at dksX1_project_3 7 rfl rfl)
theorem dX1_project_78 : decode cX1_project 78 = .ok (.getfield 77, 3) := dk_180 0 77 (dk_at dksX1_project_3 8 rfl rfl)
theorem dX1_project_81 : decode cX1_project 81 = .ok (.getfield 133, 3) := dk_180 0 133 (dk_at dksX1_project_3 11 rfl rfl)
theorem dX1_project_84 : decode cX1_project 84 = .ok (.aload 5, 2) := dk_25 5 (dk_at dksX1_project_3 14 rfl rfl)
theorem dX1_project_86 : decode cX1_project 86 = .ok (.aload 4, 2) := dk_25 4 (dk_at dksX1_project_3 16 rfl rfl)
theorem dX1_project_88 : decode cX1_project 88 = .ok (.invokevirtual 221, 3) := dk_182 0 221 (dk_at dksX1_project_3 18 rfl rfl)
theorem dX1_project_91 : decode cX1_project 91 = .ok (.invokevirtual 208, 3) := dk_182 0 208 (dk_at dksX1_project_3 21 rfl rfl)
theorem dX1_project_94 : decode cX1_project 94 = .ok (.ireturn, 1) := dk_172 (dk_at dksX1_project_4 0 rfl rfl)
theorem dX1_project_95 : decode cX1_project 95 = .ok (.astore 4, 2) := dk_58 4 (dk_at dksX1_project_4 1 rfl rfl)
theorem dX1_project_97 : decode cX1_project 97 = .ok (.invokestatic 181, 3) := dk_184 0 181 (dk_at dksX1_project_4 3 rfl rfl)
theorem dX1_project_100 : decode cX1_project 100 = .ok (.athrow, 1) := dk_191 (dk_at dksX1_project_4 6 rfl rfl)
abbrev cX1_factor : ByteArray := prog_1_method_32_code
def yX1_factor : MethodName := ⟨RX1, "factor", "(III)I"⟩
def dkwX1_factor_4 : List UInt8 := [27, 25, 7, 25, 7, 21, 6, 47, 184, 1, 8, 182, 0, 208, 172, 58, 8, 184, 0, 181, 191]
abbrev dktX1_factor_4 : List UInt8 := dkwX1_factor_4 ++ []
def dkwX1_factor_3 : List UInt8 := [54, 6, 42, 180, 0, 77, 180, 0, 133, 25, 4, 21, 5, 4, 21, 6, 120, 130, 182, 1, 4, 58, 7, 42]
abbrev dktX1_factor_3 : List UInt8 := dkwX1_factor_3 ++ dktX1_factor_4
def dkwX1_factor_2 : List UInt8 := [29, 133, 9, 178, 0, 252, 21, 5, 46, 4, 100, 133, 184, 0, 102, 184, 0, 125, 21, 5, 29, 184, 1, 0]
abbrev dktX1_factor_2 : List UInt8 := dkwX1_factor_2 ++ dktX1_factor_3
def dkwX1_factor_1 : List UInt8 := [58, 4, 42, 180, 0, 77, 180, 0, 133, 25, 4, 182, 0, 242, 184, 0, 245, 25, 4, 184, 0, 248, 54, 5]
abbrev dktX1_factor_1 : List UInt8 := dkwX1_factor_1 ++ dktX1_factor_2
def dkwX1_factor_0 : List UInt8 := [5, 188, 10, 89, 3, 27, 79, 89, 4, 28, 79, 184, 0, 161, 42, 180, 0, 77, 180, 0, 110, 28, 50]
abbrev dktX1_factor_0 : List UInt8 := dkwX1_factor_0 ++ dktX1_factor_1
theorem dksX1_factor_0 : cX1_factor.data.toList.drop 0 = dktX1_factor_0 := by decide +kernel
theorem dksX1_factor_1 : cX1_factor.data.toList.drop 23 = dktX1_factor_1 := dk_seg dksX1_factor_0 23 rfl rfl
theorem dksX1_factor_2 : cX1_factor.data.toList.drop 47 = dktX1_factor_2 := dk_seg dksX1_factor_1 24 rfl rfl
theorem dksX1_factor_3 : cX1_factor.data.toList.drop 71 = dktX1_factor_3 := dk_seg dksX1_factor_2 24 rfl rfl
theorem dksX1_factor_4 : cX1_factor.data.toList.drop 95 = dktX1_factor_4 := dk_seg dksX1_factor_3 24 rfl rfl
theorem dX1_factor_0 : decode cX1_factor 0 = .ok (.iconst 2, 1) := dk_5 (dk_at dksX1_factor_0 0 rfl rfl)
theorem dX1_factor_1 : decode cX1_factor 1 = .ok (.newarray .int, 2) := dk_188_10 (dk_at dksX1_factor_0 1 rfl rfl)
theorem dX1_factor_3 : decode cX1_factor 3 = .ok (.dup, 1) := dk_89 (dk_at dksX1_factor_0 3 rfl rfl)
theorem dX1_factor_4 : decode cX1_factor 4 = .ok (.iconst 0, 1) := dk_3 (dk_at dksX1_factor_0 4 rfl rfl)
theorem dX1_factor_5 : decode cX1_factor 5 = .ok (.iload_n 1, 1) := dk_27 (dk_at dksX1_factor_0 5 rfl rfl)
theorem dX1_factor_6 : decode cX1_factor 6 = .ok (.iastore, 1) := dk_79 (dk_at dksX1_factor_0 6 rfl rfl)
theorem dX1_factor_7 : decode cX1_factor 7 = .ok (.dup, 1) := dk_89 (dk_at dksX1_factor_0 7 rfl rfl)
theorem dX1_factor_8 : decode cX1_factor 8 = .ok (.iconst 1, 1) := dk_4 (dk_at dksX1_factor_0 8 rfl rfl)
theorem dX1_factor_9 : decode cX1_factor 9 = .ok (.iload_n 2, 1) := dk_28 (dk_at dksX1_factor_0 9 rfl rfl)
theorem dX1_factor_10 : decode cX1_factor 10 = .ok (.iastore, 1) := dk_79 (dk_at dksX1_factor_0 10 rfl rfl)
theorem dX1_factor_11 : decode cX1_factor 11 = .ok (.invokestatic 161, 3) := dk_184 0 161 (dk_at dksX1_factor_0 11 rfl rfl)
theorem dX1_factor_14 : decode cX1_factor 14 = .ok (.aload_n 0, 1) := dk_42 (dk_at dksX1_factor_0 14 rfl rfl)
theorem dX1_factor_15 : decode cX1_factor 15 = .ok (.getfield 77, 3) := dk_180 0 77 (dk_at dksX1_factor_0 15 rfl rfl)
theorem dX1_factor_18 : decode cX1_factor 18 = .ok (.getfield 110, 3) := dk_180 0 110 (dk_at dksX1_factor_0 18 rfl rfl)
theorem dX1_factor_21 : decode cX1_factor 21 = .ok (.iload_n 2, 1) := dk_28 (dk_at dksX1_factor_0 21 rfl rfl)
theorem dX1_factor_22 : decode cX1_factor 22 = .ok (.aaload, 1) := dk_50 (dk_at dksX1_factor_0 22 rfl rfl)
theorem dX1_factor_23 : decode cX1_factor 23 = .ok (.astore 4, 2) := dk_58 4 (dk_at dksX1_factor_1 0 rfl rfl)
theorem dX1_factor_25 : decode cX1_factor 25 = .ok (.aload_n 0, 1) := dk_42 (dk_at dksX1_factor_1 2 rfl rfl)
theorem dX1_factor_26 : decode cX1_factor 26 = .ok (.getfield 77, 3) := dk_180 0 77 (dk_at dksX1_factor_1 3 rfl rfl)
theorem dX1_factor_29 : decode cX1_factor 29 = .ok (.getfield 133, 3) := dk_180 0 133 (dk_at dksX1_factor_1 6 rfl rfl)
theorem dX1_factor_32 : decode cX1_factor 32 = .ok (.aload 4, 2) := dk_25 4 (dk_at dksX1_factor_1 9 rfl rfl)
theorem dX1_factor_34 : decode cX1_factor 34 = .ok (.invokevirtual 242, 3) := dk_182 0 242 (dk_at dksX1_factor_1 11 rfl rfl)
theorem dX1_factor_37 : decode cX1_factor 37 = .ok (.invokestatic 245, 3) := dk_184 0 245 (dk_at dksX1_factor_1 14 rfl rfl)
theorem dX1_factor_40 : decode cX1_factor 40 = .ok (.aload 4, 2) := dk_25 4 (dk_at dksX1_factor_1 17 rfl rfl)
theorem dX1_factor_42 : decode cX1_factor 42 = .ok (.invokestatic 248, 3) := dk_184 0 248 (dk_at dksX1_factor_1 19 rfl rfl)
theorem dX1_factor_45 : decode cX1_factor 45 = .ok (.istore 5, 2) := dk_54 5 (dk_at dksX1_factor_1 22 rfl rfl)
theorem dX1_factor_47 : decode cX1_factor 47 = .ok (.iload_n 3, 1) := dk_29 (dk_at dksX1_factor_2 0 rfl rfl)
theorem dX1_factor_48 : decode cX1_factor 48 = .ok (.i2l, 1) := dk_133 (dk_at dksX1_factor_2 1 rfl rfl)
theorem dX1_factor_49 : decode cX1_factor 49 = .ok (.lconst 0, 1) := dk_9 (dk_at dksX1_factor_2 2 rfl rfl)
theorem dX1_factor_50 : decode cX1_factor 50 = .ok (.getstatic 252, 3) := dk_178 0 252 (dk_at dksX1_factor_2 3 rfl rfl)
theorem dX1_factor_53 : decode cX1_factor 53 = .ok (.iload 5, 2) := dk_21 5 (dk_at dksX1_factor_2 6 rfl rfl)
theorem dX1_factor_55 : decode cX1_factor 55 = .ok (.iaload, 1) := dk_46 (dk_at dksX1_factor_2 8 rfl rfl)
theorem dX1_factor_56 : decode cX1_factor 56 = .ok (.iconst 1, 1) := dk_4 (dk_at dksX1_factor_2 9 rfl rfl)
theorem dX1_factor_57 : decode cX1_factor 57 = .ok (.isub, 1) := dk_100 (dk_at dksX1_factor_2 10 rfl rfl)
theorem dX1_factor_58 : decode cX1_factor 58 = .ok (.i2l, 1) := dk_133 (dk_at dksX1_factor_2 11 rfl rfl)
theorem dX1_factor_59 : decode cX1_factor 59 = .ok (.invokestatic 102, 3) := dk_184 0 102 (dk_at dksX1_factor_2 12 rfl rfl)
theorem dX1_factor_62 : decode cX1_factor 62 = .ok (.invokestatic 125, 3) := dk_184 0 125 (dk_at dksX1_factor_2 15 rfl rfl)
theorem dX1_factor_65 : decode cX1_factor 65 = .ok (.iload 5, 2) := dk_21 5 (dk_at dksX1_factor_2 18 rfl rfl)
theorem dX1_factor_67 : decode cX1_factor 67 = .ok (.iload_n 3, 1) := dk_29 (dk_at dksX1_factor_2 20 rfl rfl)
theorem dX1_factor_68 : decode cX1_factor 68 = .ok (.invokestatic 256, 3) := dk_184 1 0 (dk_at dksX1_factor_2 21 rfl rfl)
theorem dX1_factor_71 : decode cX1_factor 71 = .ok (.istore 6, 2) := dk_54 6 (dk_at dksX1_factor_3 0 rfl rfl)
theorem dX1_factor_73 : decode cX1_factor 73 = .ok (.aload_n 0, 1) := dk_42 (dk_at dksX1_factor_3 2 rfl rfl)
theorem dX1_factor_74 : decode cX1_factor 74 = .ok (.getfield 77, 3) := dk_180 0 77 (dk_at dksX1_factor_3 3 rfl rfl)
theorem dX1_factor_77 : decode cX1_factor 77 = .ok (.getfield 133, 3) := dk_180 0 133 (dk_at dksX1_factor_3 6 rfl rfl)
theorem dX1_factor_80 : decode cX1_factor 80 = .ok (.aload 4, 2) := dk_25 4 (dk_at dksX1_factor_3 9 rfl rfl)
theorem dX1_factor_82 : decode cX1_factor 82 = .ok (.iload 5, 2) := dk_21 5 (dk_at dksX1_factor_3 11 rfl rfl)
theorem dX1_factor_84 : decode cX1_factor 84 = .ok (.iconst 1, 1) := dk_4 (dk_at dksX1_factor_3 13 rfl rfl)
theorem dX1_factor_85 : decode cX1_factor 85 = .ok (.iload 6, 2) := dk_21 6 (dk_at dksX1_factor_3 14 rfl rfl)
theorem dX1_factor_87 : decode cX1_factor 87 = .ok (.ishl, 1) := dk_120 (dk_at dksX1_factor_3 16 rfl rfl)
theorem dX1_factor_88 : decode cX1_factor 88 = .ok (.ixor, 1) := dk_130 (dk_at dksX1_factor_3 17 rfl rfl)
theorem dX1_factor_89 : decode cX1_factor 89 = .ok (.invokevirtual 260, 3) := dk_182 1 4 (dk_at dksX1_factor_3 18 rfl rfl)
theorem dX1_factor_92 : decode cX1_factor 92 = .ok (.astore 7, 2) := dk_58 7 (dk_at dksX1_factor_3 21 rfl rfl)
theorem dX1_factor_94 : decode cX1_factor 94 = .ok (.aload_n 0, 1) := dk_42 (dk_at dksX1_factor_3 23 rfl rfl)
theorem dX1_factor_95 : decode cX1_factor 95 = .ok (.iload_n 1, 1) := dk_27 (dk_at dksX1_factor_4 0 rfl rfl)
theorem dX1_factor_96 : decode cX1_factor 96 = .ok (.aload 7, 2) := dk_25 7 (dk_at dksX1_factor_4 1 rfl rfl)
theorem dX1_factor_98 : decode cX1_factor 98 = .ok (.aload 7, 2) := dk_25 7 (dk_at dksX1_factor_4 3 rfl rfl)
theorem dX1_factor_100 : decode cX1_factor 100 = .ok (.iload 6, 2) := dk_21 6 (dk_at dksX1_factor_4 5 rfl rfl)
theorem dX1_factor_102 : decode cX1_factor 102 = .ok (.laload, 1) := dk_47 (dk_at dksX1_factor_4 7 rfl rfl)
theorem dX1_factor_103 : decode cX1_factor 103 = .ok (.invokestatic 264, 3) := dk_184 1 8 (dk_at dksX1_factor_4 8 rfl rfl)
theorem dX1_factor_106 : decode cX1_factor 106 = .ok (.invokevirtual 208, 3) := dk_182 0 208 (dk_at dksX1_factor_4 11 rfl rfl)
theorem dX1_factor_109 : decode cX1_factor 109 = .ok (.ireturn, 1) := dk_172 (dk_at dksX1_factor_4 14 rfl rfl)
theorem dX1_factor_110 : decode cX1_factor 110 = .ok (.astore 8, 2) := dk_58 8 (dk_at dksX1_factor_4 15 rfl rfl)
theorem dX1_factor_112 : decode cX1_factor 112 = .ok (.invokestatic 181, 3) := dk_184 0 181 (dk_at dksX1_factor_4 17 rfl rfl)
theorem dX1_factor_115 : decode cX1_factor 115 = .ok (.athrow, 1) := dk_191 (dk_at dksX1_factor_4 20 rfl rfl)
abbrev cX1_leading : ByteArray := prog_1_method_29_code
def yX1_leading : MethodName := ⟨RX1, "leading", "(LBladeAlgebra$Multi;)I"⟩
def dkwX1_leading_1 : List UInt8 := [47, 184, 0, 26, 148, 158, 0, 7, 28, 167, 0, 4, 27, 60, 132, 2, 1, 167, 255, 219, 27, 172]
abbrev dktX1_leading_1 : List UInt8 := dkwX1_leading_1 ++ []
def dkwX1_leading_0 : List UInt8 := [3, 60, 4, 61, 28, 16, 32, 162, 0, 37, 42, 180, 0, 42, 28, 47, 184, 0, 26, 42, 180, 0, 42, 27]
abbrev dktX1_leading_0 : List UInt8 := dkwX1_leading_0 ++ dktX1_leading_1
theorem dksX1_leading_0 : cX1_leading.data.toList.drop 0 = dktX1_leading_0 := by decide +kernel
theorem dksX1_leading_1 : cX1_leading.data.toList.drop 24 = dktX1_leading_1 := dk_seg dksX1_leading_0 24 rfl rfl
theorem dX1_leading_0 : decode cX1_leading 0 = .ok (.iconst 0, 1) := dk_3 (dk_at dksX1_leading_0 0 rfl rfl)
theorem dX1_leading_1 : decode cX1_leading 1 = .ok (.istore_n 1, 1) := dk_60 (dk_at dksX1_leading_0 1 rfl rfl)
theorem dX1_leading_2 : decode cX1_leading 2 = .ok (.iconst 1, 1) := dk_4 (dk_at dksX1_leading_0 2 rfl rfl)
theorem dX1_leading_3 : decode cX1_leading 3 = .ok (.istore_n 2, 1) := dk_61 (dk_at dksX1_leading_0 3 rfl rfl)
theorem dX1_leading_4 : decode cX1_leading 4 = .ok (.iload_n 2, 1) := dk_28 (dk_at dksX1_leading_0 4 rfl rfl)
theorem dX1_leading_5 : decode cX1_leading 5 = .ok (.bipush 32, 2) := dk_16 32 (dk_at dksX1_leading_0 5 rfl rfl)
theorem dX1_leading_7 : decode cX1_leading 7 = .ok (.if_icmp .ge 37, 3) := dk_162 0 37 (dk_at dksX1_leading_0 7 rfl rfl)
theorem dX1_leading_10 : decode cX1_leading 10 = .ok (.aload_n 0, 1) := dk_42 (dk_at dksX1_leading_0 10 rfl rfl)
theorem dX1_leading_11 : decode cX1_leading 11 = .ok (.getfield 42, 3) := dk_180 0 42 (dk_at dksX1_leading_0 11 rfl rfl)
theorem dX1_leading_14 : decode cX1_leading 14 = .ok (.iload_n 2, 1) := dk_28 (dk_at dksX1_leading_0 14 rfl rfl)
theorem dX1_leading_15 : decode cX1_leading 15 = .ok (.laload, 1) := dk_47 (dk_at dksX1_leading_0 15 rfl rfl)
theorem dX1_leading_16 : decode cX1_leading 16 = .ok (.invokestatic 26, 3) := dk_184 0 26 (dk_at dksX1_leading_0 16 rfl rfl)
theorem dX1_leading_19 : decode cX1_leading 19 = .ok (.aload_n 0, 1) := dk_42 (dk_at dksX1_leading_0 19 rfl rfl)
theorem dX1_leading_20 : decode cX1_leading 20 = .ok (.getfield 42, 3) := dk_180 0 42 (dk_at dksX1_leading_0 20 rfl rfl)
theorem dX1_leading_23 : decode cX1_leading 23 = .ok (.iload_n 1, 1) := dk_27 (dk_at dksX1_leading_0 23 rfl rfl)
theorem dX1_leading_24 : decode cX1_leading 24 = .ok (.laload, 1) := dk_47 (dk_at dksX1_leading_1 0 rfl rfl)
theorem dX1_leading_25 : decode cX1_leading 25 = .ok (.invokestatic 26, 3) := dk_184 0 26 (dk_at dksX1_leading_1 1 rfl rfl)
theorem dX1_leading_28 : decode cX1_leading 28 = .ok (.lcmp, 1) := dk_148 (dk_at dksX1_leading_1 4 rfl rfl)
theorem dX1_leading_29 : decode cX1_leading 29 = .ok (.ifCond .le 7, 3) := dk_158 0 7 (dk_at dksX1_leading_1 5 rfl rfl)
theorem dX1_leading_32 : decode cX1_leading 32 = .ok (.iload_n 2, 1) := dk_28 (dk_at dksX1_leading_1 8 rfl rfl)
theorem dX1_leading_33 : decode cX1_leading 33 = .ok (.goto 4, 3) := dk_167 0 4 (dk_at dksX1_leading_1 9 rfl rfl)
theorem dX1_leading_36 : decode cX1_leading 36 = .ok (.iload_n 1, 1) := dk_27 (dk_at dksX1_leading_1 12 rfl rfl)
theorem dX1_leading_37 : decode cX1_leading 37 = .ok (.istore_n 1, 1) := dk_60 (dk_at dksX1_leading_1 13 rfl rfl)
theorem dX1_leading_38 : decode cX1_leading 38 = .ok (.iinc 2 1, 3) := dk_132 2 1 (dk_at dksX1_leading_1 14 rfl rfl)
theorem dX1_leading_41 : decode cX1_leading 41 = .ok (.goto (-37), 3) := dk_167 255 219 (dk_at dksX1_leading_1 17 rfl rfl)
theorem dX1_leading_44 : decode cX1_leading 44 = .ok (.iload_n 1, 1) := dk_27 (dk_at dksX1_leading_1 20 rfl rfl)
theorem dX1_leading_45 : decode cX1_leading 45 = .ok (.ireturn, 1) := dk_172 (dk_at dksX1_leading_1 21 rfl rfl)
abbrev cX1_vectorOf : ByteArray := prog_1_method_30_code
def yX1_vectorOf : MethodName := ⟨RX1, "vectorOf", "(II)I"⟩
def dkwX1_vectorOf_1 : List UInt8 := [132, 2, 1, 167, 255, 233, 28, 172]
abbrev dktX1_vectorOf_1 : List UInt8 := dkwX1_vectorOf_1 ++ []
def dkwX1_vectorOf_0 : List UInt8 := [3, 61, 27, 62, 26, 28, 122, 4, 126, 153, 0, 7, 29, 158, 0, 17, 29, 26, 28, 122, 4, 126, 100, 62]
abbrev dktX1_vectorOf_0 : List UInt8 := dkwX1_vectorOf_0 ++ dktX1_vectorOf_1
theorem dksX1_vectorOf_0 : cX1_vectorOf.data.toList.drop 0 = dktX1_vectorOf_0 := by decide +kernel
theorem dksX1_vectorOf_1 : cX1_vectorOf.data.toList.drop 24 = dktX1_vectorOf_1 := dk_seg dksX1_vectorOf_0 24 rfl rfl
theorem dX1_vectorOf_0 : decode cX1_vectorOf 0 = .ok (.iconst 0, 1) := dk_3 (dk_at dksX1_vectorOf_0 0 rfl rfl)
theorem dX1_vectorOf_1 : decode cX1_vectorOf 1 = .ok (.istore_n 2, 1) := dk_61 (dk_at dksX1_vectorOf_0 1 rfl rfl)
theorem dX1_vectorOf_2 : decode cX1_vectorOf 2 = .ok (.iload_n 1, 1) := dk_27 (dk_at dksX1_vectorOf_0 2 rfl rfl)
theorem dX1_vectorOf_3 : decode cX1_vectorOf 3 = .ok (.istore_n 3, 1) := dk_62 (dk_at dksX1_vectorOf_0 3 rfl rfl)
theorem dX1_vectorOf_4 : decode cX1_vectorOf 4 = .ok (.iload_n 0, 1) := dk_26 (dk_at dksX1_vectorOf_0 4 rfl rfl)
theorem dX1_vectorOf_5 : decode cX1_vectorOf 5 = .ok (.iload_n 2, 1) := dk_28 (dk_at dksX1_vectorOf_0 5 rfl rfl)
theorem dX1_vectorOf_6 : decode cX1_vectorOf 6 = .ok (.ishr, 1) := dk_122 (dk_at dksX1_vectorOf_0 6 rfl rfl)
theorem dX1_vectorOf_7 : decode cX1_vectorOf 7 = .ok (.iconst 1, 1) := dk_4 (dk_at dksX1_vectorOf_0 7 rfl rfl)
theorem dX1_vectorOf_8 : decode cX1_vectorOf 8 = .ok (.iand, 1) := dk_126 (dk_at dksX1_vectorOf_0 8 rfl rfl)
theorem dX1_vectorOf_9 : decode cX1_vectorOf 9 = .ok (.ifCond .eq 7, 3) := dk_153 0 7 (dk_at dksX1_vectorOf_0 9 rfl rfl)
theorem dX1_vectorOf_12 : decode cX1_vectorOf 12 = .ok (.iload_n 3, 1) := dk_29 (dk_at dksX1_vectorOf_0 12 rfl rfl)
theorem dX1_vectorOf_13 : decode cX1_vectorOf 13 = .ok (.ifCond .le 17, 3) := dk_158 0 17 (dk_at dksX1_vectorOf_0 13 rfl rfl)
theorem dX1_vectorOf_16 : decode cX1_vectorOf 16 = .ok (.iload_n 3, 1) := dk_29 (dk_at dksX1_vectorOf_0 16 rfl rfl)
theorem dX1_vectorOf_17 : decode cX1_vectorOf 17 = .ok (.iload_n 0, 1) := dk_26 (dk_at dksX1_vectorOf_0 17 rfl rfl)
theorem dX1_vectorOf_18 : decode cX1_vectorOf 18 = .ok (.iload_n 2, 1) := dk_28 (dk_at dksX1_vectorOf_0 18 rfl rfl)
theorem dX1_vectorOf_19 : decode cX1_vectorOf 19 = .ok (.ishr, 1) := dk_122 (dk_at dksX1_vectorOf_0 19 rfl rfl)
theorem dX1_vectorOf_20 : decode cX1_vectorOf 20 = .ok (.iconst 1, 1) := dk_4 (dk_at dksX1_vectorOf_0 20 rfl rfl)
theorem dX1_vectorOf_21 : decode cX1_vectorOf 21 = .ok (.iand, 1) := dk_126 (dk_at dksX1_vectorOf_0 21 rfl rfl)
theorem dX1_vectorOf_22 : decode cX1_vectorOf 22 = .ok (.isub, 1) := dk_100 (dk_at dksX1_vectorOf_0 22 rfl rfl)
theorem dX1_vectorOf_23 : decode cX1_vectorOf 23 = .ok (.istore_n 3, 1) := dk_62 (dk_at dksX1_vectorOf_0 23 rfl rfl)
theorem dX1_vectorOf_24 : decode cX1_vectorOf 24 = .ok (.iinc 2 1, 3) := dk_132 2 1 (dk_at dksX1_vectorOf_1 0 rfl rfl)
theorem dX1_vectorOf_27 : decode cX1_vectorOf 27 = .ok (.goto (-23), 3) := dk_167 255 233 (dk_at dksX1_vectorOf_1 3 rfl rfl)
theorem dX1_vectorOf_30 : decode cX1_vectorOf 30 = .ok (.iload_n 2, 1) := dk_28 (dk_at dksX1_vectorOf_1 6 rfl rfl)
theorem dX1_vectorOf_31 : decode cX1_vectorOf 31 = .ok (.ireturn, 1) := dk_172 (dk_at dksX1_vectorOf_1 7 rfl rfl)
abbrev cX1_vector : ByteArray := prog_1_method_31_code
def yX1_vector : MethodName := ⟨RX1, "vector", "([JJ)LBladeAlgebra$Multi;"⟩
def dkwX1_vector_1 : List UInt8 := [132, 4, 1, 167, 255, 237, 45, 31, 184, 0, 238, 176]
abbrev dktX1_vector_1 : List UInt8 := dkwX1_vector_1 ++ []
def dkwX1_vector_0 : List UInt8 := [16, 32, 188, 11, 78, 3, 54, 4, 21, 4, 8, 162, 0, 19, 45, 4, 21, 4, 120, 42, 21, 4, 47, 80]
abbrev dktX1_vector_0 : List UInt8 := dkwX1_vector_0 ++ dktX1_vector_1
theorem dksX1_vector_0 : cX1_vector.data.toList.drop 0 = dktX1_vector_0 := by decide +kernel
theorem dksX1_vector_1 : cX1_vector.data.toList.drop 24 = dktX1_vector_1 := dk_seg dksX1_vector_0 24 rfl rfl
theorem dX1_vector_0 : decode cX1_vector 0 = .ok (.bipush 32, 2) := dk_16 32 (dk_at dksX1_vector_0 0 rfl rfl)
theorem dX1_vector_2 : decode cX1_vector 2 = .ok (.newarray .long, 2) := dk_188_11 (dk_at dksX1_vector_0 2 rfl rfl)
theorem dX1_vector_4 : decode cX1_vector 4 = .ok (.astore_n 3, 1) := dk_78 (dk_at dksX1_vector_0 4 rfl rfl)
theorem dX1_vector_5 : decode cX1_vector 5 = .ok (.iconst 0, 1) := dk_3 (dk_at dksX1_vector_0 5 rfl rfl)
theorem dX1_vector_6 : decode cX1_vector 6 = .ok (.istore 4, 2) := dk_54 4 (dk_at dksX1_vector_0 6 rfl rfl)
theorem dX1_vector_8 : decode cX1_vector 8 = .ok (.iload 4, 2) := dk_21 4 (dk_at dksX1_vector_0 8 rfl rfl)
theorem dX1_vector_10 : decode cX1_vector 10 = .ok (.iconst 5, 1) := dk_8 (dk_at dksX1_vector_0 10 rfl rfl)
theorem dX1_vector_11 : decode cX1_vector 11 = .ok (.if_icmp .ge 19, 3) := dk_162 0 19 (dk_at dksX1_vector_0 11 rfl rfl)
theorem dX1_vector_14 : decode cX1_vector 14 = .ok (.aload_n 3, 1) := dk_45 (dk_at dksX1_vector_0 14 rfl rfl)
theorem dX1_vector_15 : decode cX1_vector 15 = .ok (.iconst 1, 1) := dk_4 (dk_at dksX1_vector_0 15 rfl rfl)
theorem dX1_vector_16 : decode cX1_vector 16 = .ok (.iload 4, 2) := dk_21 4 (dk_at dksX1_vector_0 16 rfl rfl)
theorem dX1_vector_18 : decode cX1_vector 18 = .ok (.ishl, 1) := dk_120 (dk_at dksX1_vector_0 18 rfl rfl)
theorem dX1_vector_19 : decode cX1_vector 19 = .ok (.aload_n 0, 1) := dk_42 (dk_at dksX1_vector_0 19 rfl rfl)
theorem dX1_vector_20 : decode cX1_vector 20 = .ok (.iload 4, 2) := dk_21 4 (dk_at dksX1_vector_0 20 rfl rfl)
theorem dX1_vector_22 : decode cX1_vector 22 = .ok (.laload, 1) := dk_47 (dk_at dksX1_vector_0 22 rfl rfl)
theorem dX1_vector_23 : decode cX1_vector 23 = .ok (.lastore, 1) := dk_80 (dk_at dksX1_vector_0 23 rfl rfl)
theorem dX1_vector_24 : decode cX1_vector 24 = .ok (.iinc 4 1, 3) := dk_132 4 1 (dk_at dksX1_vector_1 0 rfl rfl)
theorem dX1_vector_27 : decode cX1_vector 27 = .ok (.goto (-19), 3) := dk_167 255 237 (dk_at dksX1_vector_1 3 rfl rfl)
theorem dX1_vector_30 : decode cX1_vector 30 = .ok (.aload_n 3, 1) := dk_45 (dk_at dksX1_vector_1 6 rfl rfl)
theorem dX1_vector_31 : decode cX1_vector 31 = .ok (.lload_n 1, 1) := dk_31 (dk_at dksX1_vector_1 7 rfl rfl)
theorem dX1_vector_32 : decode cX1_vector 32 = .ok (.invokestatic 238, 3) := dk_184 0 238 (dk_at dksX1_vector_1 8 rfl rfl)
theorem dX1_vector_35 : decode cX1_vector 35 = .ok (.areturn, 1) := dk_176 (dk_at dksX1_vector_1 11 rfl rfl)
abbrev cX1_map : ByteArray := prog_1_method_35_code
def yX1_map : MethodName := ⟨RX1, "map", "(III)I"⟩
def dkwX1_map_1 : List UInt8 := [180, 0, 77, 180, 0, 110, 28, 50, 29, 182, 1, 44, 182, 0, 208, 172, 58, 4, 184, 0, 181, 191]
abbrev dktX1_map_1 : List UInt8 := dkwX1_map_1 ++ []
def dkwX1_map_0 : List UInt8 := [5, 188, 10, 89, 3, 27, 79, 89, 4, 28, 79, 184, 0, 161, 42, 29, 182, 1, 41, 42, 27, 42, 42]
abbrev dktX1_map_0 : List UInt8 := dkwX1_map_0 ++ dktX1_map_1
theorem dksX1_map_0 : cX1_map.data.toList.drop 0 = dktX1_map_0 := by decide +kernel
theorem dksX1_map_1 : cX1_map.data.toList.drop 23 = dktX1_map_1 := dk_seg dksX1_map_0 23 rfl rfl
theorem dX1_map_0 : decode cX1_map 0 = .ok (.iconst 2, 1) := dk_5 (dk_at dksX1_map_0 0 rfl rfl)
theorem dX1_map_1 : decode cX1_map 1 = .ok (.newarray .int, 2) := dk_188_10 (dk_at dksX1_map_0 1 rfl rfl)
theorem dX1_map_3 : decode cX1_map 3 = .ok (.dup, 1) := dk_89 (dk_at dksX1_map_0 3 rfl rfl)
theorem dX1_map_4 : decode cX1_map 4 = .ok (.iconst 0, 1) := dk_3 (dk_at dksX1_map_0 4 rfl rfl)
theorem dX1_map_5 : decode cX1_map 5 = .ok (.iload_n 1, 1) := dk_27 (dk_at dksX1_map_0 5 rfl rfl)
theorem dX1_map_6 : decode cX1_map 6 = .ok (.iastore, 1) := dk_79 (dk_at dksX1_map_0 6 rfl rfl)
theorem dX1_map_7 : decode cX1_map 7 = .ok (.dup, 1) := dk_89 (dk_at dksX1_map_0 7 rfl rfl)
theorem dX1_map_8 : decode cX1_map 8 = .ok (.iconst 1, 1) := dk_4 (dk_at dksX1_map_0 8 rfl rfl)
theorem dX1_map_9 : decode cX1_map 9 = .ok (.iload_n 2, 1) := dk_28 (dk_at dksX1_map_0 9 rfl rfl)
theorem dX1_map_10 : decode cX1_map 10 = .ok (.iastore, 1) := dk_79 (dk_at dksX1_map_0 10 rfl rfl)
theorem dX1_map_11 : decode cX1_map 11 = .ok (.invokestatic 161, 3) := dk_184 0 161 (dk_at dksX1_map_0 11 rfl rfl)
theorem dX1_map_14 : decode cX1_map 14 = .ok (.aload_n 0, 1) := dk_42 (dk_at dksX1_map_0 14 rfl rfl)
theorem dX1_map_15 : decode cX1_map 15 = .ok (.iload_n 3, 1) := dk_29 (dk_at dksX1_map_0 15 rfl rfl)
theorem dX1_map_16 : decode cX1_map 16 = .ok (.invokevirtual 297, 3) := dk_182 1 41 (dk_at dksX1_map_0 16 rfl rfl)
theorem dX1_map_19 : decode cX1_map 19 = .ok (.aload_n 0, 1) := dk_42 (dk_at dksX1_map_0 19 rfl rfl)
theorem dX1_map_20 : decode cX1_map 20 = .ok (.iload_n 1, 1) := dk_27 (dk_at dksX1_map_0 20 rfl rfl)
theorem dX1_map_21 : decode cX1_map 21 = .ok (.aload_n 0, 1) := dk_42 (dk_at dksX1_map_0 21 rfl rfl)
theorem dX1_map_22 : decode cX1_map 22 = .ok (.aload_n 0, 1) := dk_42 (dk_at dksX1_map_0 22 rfl rfl)
theorem dX1_map_23 : decode cX1_map 23 = .ok (.getfield 77, 3) := dk_180 0 77 (dk_at dksX1_map_1 0 rfl rfl)
theorem dX1_map_26 : decode cX1_map 26 = .ok (.getfield 110, 3) := dk_180 0 110 (dk_at dksX1_map_1 3 rfl rfl)
theorem dX1_map_29 : decode cX1_map 29 = .ok (.iload_n 2, 1) := dk_28 (dk_at dksX1_map_1 6 rfl rfl)
theorem dX1_map_30 : decode cX1_map 30 = .ok (.aaload, 1) := dk_50 (dk_at dksX1_map_1 7 rfl rfl)
theorem dX1_map_31 : decode cX1_map 31 = .ok (.iload_n 3, 1) := dk_29 (dk_at dksX1_map_1 8 rfl rfl)
theorem dX1_map_32 : decode cX1_map 32 = .ok (.invokevirtual 300, 3) := dk_182 1 44 (dk_at dksX1_map_1 9 rfl rfl)
theorem dX1_map_35 : decode cX1_map 35 = .ok (.invokevirtual 208, 3) := dk_182 0 208 (dk_at dksX1_map_1 12 rfl rfl)
theorem dX1_map_38 : decode cX1_map 38 = .ok (.ireturn, 1) := dk_172 (dk_at dksX1_map_1 15 rfl rfl)
theorem dX1_map_39 : decode cX1_map 39 = .ok (.astore 4, 2) := dk_58 4 (dk_at dksX1_map_1 16 rfl rfl)
theorem dX1_map_41 : decode cX1_map 41 = .ok (.invokestatic 181, 3) := dk_184 0 181 (dk_at dksX1_map_1 18 rfl rfl)
theorem dX1_map_44 : decode cX1_map 44 = .ok (.athrow, 1) := dk_191 (dk_at dksX1_map_1 21 rfl rfl)
abbrev cX1_images : ByteArray := prog_1_method_33_code
def yX1_images : MethodName := ⟨RX1, "images", "(I)V"⟩
def dkwX1_images_2 : List UInt8 := [96, 50, 182, 1, 11, 184, 0, 245, 132, 2, 1, 167, 255, 222, 177]
abbrev dktX1_images_2 : List UInt8 := dkwX1_images_2 ++ []
def dkwX1_images_1 : List UInt8 := [61, 28, 42, 180, 0, 77, 180, 0, 133, 180, 0, 154, 162, 0, 26, 42, 180, 0, 77, 180, 0, 110, 27, 28]
abbrev dktX1_images_1 : List UInt8 := dkwX1_images_1 ++ dktX1_images_2
def dkwX1_images_0 : List UInt8 := [27, 133, 9, 16, 8, 42, 180, 0, 77, 180, 0, 133, 180, 0, 154, 100, 133, 184, 0, 102, 184, 0, 106, 3]
abbrev dktX1_images_0 : List UInt8 := dkwX1_images_0 ++ dktX1_images_1
theorem dksX1_images_0 : cX1_images.data.toList.drop 0 = dktX1_images_0 := by decide +kernel
theorem dksX1_images_1 : cX1_images.data.toList.drop 24 = dktX1_images_1 := dk_seg dksX1_images_0 24 rfl rfl
theorem dksX1_images_2 : cX1_images.data.toList.drop 48 = dktX1_images_2 := dk_seg dksX1_images_1 24 rfl rfl
theorem dX1_images_0 : decode cX1_images 0 = .ok (.iload_n 1, 1) := dk_27 (dk_at dksX1_images_0 0 rfl rfl)
theorem dX1_images_1 : decode cX1_images 1 = .ok (.i2l, 1) := dk_133 (dk_at dksX1_images_0 1 rfl rfl)
theorem dX1_images_2 : decode cX1_images 2 = .ok (.lconst 0, 1) := dk_9 (dk_at dksX1_images_0 2 rfl rfl)
theorem dX1_images_3 : decode cX1_images 3 = .ok (.bipush 8, 2) := dk_16 8 (dk_at dksX1_images_0 3 rfl rfl)
theorem dX1_images_5 : decode cX1_images 5 = .ok (.aload_n 0, 1) := dk_42 (dk_at dksX1_images_0 5 rfl rfl)
theorem dX1_images_6 : decode cX1_images 6 = .ok (.getfield 77, 3) := dk_180 0 77 (dk_at dksX1_images_0 6 rfl rfl)
theorem dX1_images_9 : decode cX1_images 9 = .ok (.getfield 133, 3) := dk_180 0 133 (dk_at dksX1_images_0 9 rfl rfl)
theorem dX1_images_12 : decode cX1_images 12 = .ok (.getfield 154, 3) := dk_180 0 154 (dk_at dksX1_images_0 12 rfl rfl)
theorem dX1_images_15 : decode cX1_images 15 = .ok (.isub, 1) := dk_100 (dk_at dksX1_images_0 15 rfl rfl)
theorem dX1_images_16 : decode cX1_images 16 = .ok (.i2l, 1) := dk_133 (dk_at dksX1_images_0 16 rfl rfl)
theorem dX1_images_17 : decode cX1_images 17 = .ok (.invokestatic 102, 3) := dk_184 0 102 (dk_at dksX1_images_0 17 rfl rfl)
theorem dX1_images_20 : decode cX1_images 20 = .ok (.invokestatic 106, 3) := dk_184 0 106 (dk_at dksX1_images_0 20 rfl rfl)
theorem dX1_images_23 : decode cX1_images 23 = .ok (.iconst 0, 1) := dk_3 (dk_at dksX1_images_0 23 rfl rfl)
theorem dX1_images_24 : decode cX1_images 24 = .ok (.istore_n 2, 1) := dk_61 (dk_at dksX1_images_1 0 rfl rfl)
theorem dX1_images_25 : decode cX1_images 25 = .ok (.iload_n 2, 1) := dk_28 (dk_at dksX1_images_1 1 rfl rfl)
theorem dX1_images_26 : decode cX1_images 26 = .ok (.aload_n 0, 1) := dk_42 (dk_at dksX1_images_1 2 rfl rfl)
theorem dX1_images_27 : decode cX1_images 27 = .ok (.getfield 77, 3) := dk_180 0 77 (dk_at dksX1_images_1 3 rfl rfl)
theorem dX1_images_30 : decode cX1_images 30 = .ok (.getfield 133, 3) := dk_180 0 133 (dk_at dksX1_images_1 6 rfl rfl)
theorem dX1_images_33 : decode cX1_images 33 = .ok (.getfield 154, 3) := dk_180 0 154 (dk_at dksX1_images_1 9 rfl rfl)
theorem dX1_images_36 : decode cX1_images 36 = .ok (.if_icmp .ge 26, 3) := dk_162 0 26 (dk_at dksX1_images_1 12 rfl rfl)
theorem dX1_images_39 : decode cX1_images 39 = .ok (.aload_n 0, 1) := dk_42 (dk_at dksX1_images_1 15 rfl rfl)
theorem dX1_images_40 : decode cX1_images 40 = .ok (.getfield 77, 3) := dk_180 0 77 (dk_at dksX1_images_1 16 rfl rfl)
theorem dX1_images_43 : decode cX1_images 43 = .ok (.getfield 110, 3) := dk_180 0 110 (dk_at dksX1_images_1 19 rfl rfl)
theorem dX1_images_46 : decode cX1_images 46 = .ok (.iload_n 1, 1) := dk_27 (dk_at dksX1_images_1 22 rfl rfl)
theorem dX1_images_47 : decode cX1_images 47 = .ok (.iload_n 2, 1) := dk_28 (dk_at dksX1_images_1 23 rfl rfl)
theorem dX1_images_48 : decode cX1_images 48 = .ok (.iadd, 1) := dk_96 (dk_at dksX1_images_2 0 rfl rfl)
theorem dX1_images_49 : decode cX1_images 49 = .ok (.aaload, 1) := dk_50 (dk_at dksX1_images_2 1 rfl rfl)
theorem dX1_images_50 : decode cX1_images 50 = .ok (.invokevirtual 267, 3) := dk_182 1 11 (dk_at dksX1_images_2 2 rfl rfl)
theorem dX1_images_53 : decode cX1_images 53 = .ok (.invokestatic 245, 3) := dk_184 0 245 (dk_at dksX1_images_2 5 rfl rfl)
theorem dX1_images_56 : decode cX1_images 56 = .ok (.iinc 2 1, 3) := dk_132 2 1 (dk_at dksX1_images_2 8 rfl rfl)
theorem dX1_images_59 : decode cX1_images 59 = .ok (.goto (-34), 3) := dk_167 255 222 (dk_at dksX1_images_2 11 rfl rfl)
theorem dX1_images_62 : decode cX1_images 62 = .ok (.return_, 1) := dk_177 (dk_at dksX1_images_2 14 rfl rfl)
abbrev cX1_mapped : ByteArray := prog_1_method_34_code
def yX1_mapped : MethodName := ⟨RX1, "mapped", "(LBladeAlgebra$Multi;I)LBladeAlgebra$Multi;"⟩
def dkwX1_mapped_5 : List UInt8 := [182, 0, 235, 58, 6, 132, 7, 1, 167, 255, 195, 45, 25, 6, 4, 182, 1, 37, 78, 167, 255, 133, 45, 176]
abbrev dktX1_mapped_5 : List UInt8 := dkwX1_mapped_5 ++ []
def dkwX1_mapped_4 : List UInt8 := [180, 0, 77, 180, 0, 133, 25, 6, 42, 180, 0, 77, 180, 0, 110, 28, 21, 7, 96, 50, 178, 1, 34]
abbrev dktX1_mapped_4 : List UInt8 := dkwX1_mapped_4 ++ dktX1_mapped_5
def dkwX1_mapped_3 : List UInt8 := [180, 0, 133, 180, 0, 154, 162, 0, 52, 25, 5, 180, 1, 32, 21, 7, 122, 4, 126, 4, 160, 0, 32, 42]
abbrev dktX1_mapped_3 : List UInt8 := dkwX1_mapped_3 ++ dktX1_mapped_4
def dkwX1_mapped_2 : List UInt8 := [180, 0, 194, 25, 5, 180, 0, 197, 182, 0, 175, 58, 6, 3, 54, 7, 21, 7, 42, 180, 0, 77]
abbrev dktX1_mapped_2 : List UInt8 := dkwX1_mapped_2 ++ dktX1_mapped_3
def dkwX1_mapped_1 : List UInt8 := [185, 1, 28, 1, 0, 192, 0, 185, 58, 5, 25, 5, 180, 1, 32, 9, 10, 184, 0, 219, 3, 25, 5]
abbrev dktX1_mapped_1 : List UInt8 := dkwX1_mapped_1 ++ dktX1_mapped_2
def dkwX1_mapped_0 : List UInt8 := [178, 1, 15, 78, 43, 182, 1, 19, 58, 4, 25, 4, 185, 1, 23, 1, 0, 153, 0, 119, 25, 4]
abbrev dktX1_mapped_0 : List UInt8 := dkwX1_mapped_0 ++ dktX1_mapped_1
theorem dksX1_mapped_0 : cX1_mapped.data.toList.drop 0 = dktX1_mapped_0 := by decide +kernel
theorem dksX1_mapped_1 : cX1_mapped.data.toList.drop 22 = dktX1_mapped_1 := dk_seg dksX1_mapped_0 22 rfl rfl
theorem dksX1_mapped_2 : cX1_mapped.data.toList.drop 45 = dktX1_mapped_2 := dk_seg dksX1_mapped_1 23 rfl rfl
theorem dksX1_mapped_3 : cX1_mapped.data.toList.drop 67 = dktX1_mapped_3 := dk_seg dksX1_mapped_2 22 rfl rfl
theorem dksX1_mapped_4 : cX1_mapped.data.toList.drop 91 = dktX1_mapped_4 := dk_seg dksX1_mapped_3 24 rfl rfl
theorem dksX1_mapped_5 : cX1_mapped.data.toList.drop 114 = dktX1_mapped_5 := dk_seg dksX1_mapped_4 23 rfl rfl
theorem dX1_mapped_0 : decode cX1_mapped 0 = .ok (.getstatic 271, 3) := dk_178 1 15 (dk_at dksX1_mapped_0 0 rfl rfl)
theorem dX1_mapped_3 : decode cX1_mapped 3 = .ok (.astore_n 3, 1) := dk_78 (dk_at dksX1_mapped_0 3 rfl rfl)
theorem dX1_mapped_4 : decode cX1_mapped 4 = .ok (.aload_n 1, 1) := dk_43 (dk_at dksX1_mapped_0 4 rfl rfl)
theorem dX1_mapped_5 : decode cX1_mapped 5 = .ok (.invokevirtual 275, 3) := dk_182 1 19 (dk_at dksX1_mapped_0 5 rfl rfl)
theorem dX1_mapped_8 : decode cX1_mapped 8 = .ok (.astore 4, 2) := dk_58 4 (dk_at dksX1_mapped_0 8 rfl rfl)
theorem dX1_mapped_10 : decode cX1_mapped 10 = .ok (.aload 4, 2) := dk_25 4 (dk_at dksX1_mapped_0 10 rfl rfl)
theorem dX1_mapped_12 : decode cX1_mapped 12 = .ok (.invokeinterface 279 1, 5) := by decide +kernel
theorem dX1_mapped_17 : decode cX1_mapped 17 = .ok (.ifCond .eq 119, 3) := dk_153 0 119 (dk_at dksX1_mapped_0 17 rfl rfl)
theorem dX1_mapped_20 : decode cX1_mapped 20 = .ok (.aload 4, 2) := dk_25 4 (dk_at dksX1_mapped_0 20 rfl rfl)
theorem dX1_mapped_22 : decode cX1_mapped 22 = .ok (.invokeinterface 284 1, 5) := by decide +kernel
theorem dX1_mapped_27 : decode cX1_mapped 27 = .ok (.checkcast 185, 3) := dk_192 0 185 (dk_at dksX1_mapped_1 5 rfl rfl)
theorem dX1_mapped_30 : decode cX1_mapped 30 = .ok (.astore 5, 2) := dk_58 5 (dk_at dksX1_mapped_1 8 rfl rfl)
theorem dX1_mapped_32 : decode cX1_mapped 32 = .ok (.aload 5, 2) := dk_25 5 (dk_at dksX1_mapped_1 10 rfl rfl)
theorem dX1_mapped_34 : decode cX1_mapped 34 = .ok (.getfield 288, 3) := dk_180 1 32 (dk_at dksX1_mapped_1 12 rfl rfl)
theorem dX1_mapped_37 : decode cX1_mapped 37 = .ok (.lconst 0, 1) := dk_9 (dk_at dksX1_mapped_1 15 rfl rfl)
theorem dX1_mapped_38 : decode cX1_mapped 38 = .ok (.lconst 1, 1) := dk_10 (dk_at dksX1_mapped_1 16 rfl rfl)
theorem dX1_mapped_39 : decode cX1_mapped 39 = .ok (.invokestatic 219, 3) := dk_184 0 219 (dk_at dksX1_mapped_1 17 rfl rfl)
theorem dX1_mapped_42 : decode cX1_mapped 42 = .ok (.iconst 0, 1) := dk_3 (dk_at dksX1_mapped_1 20 rfl rfl)
theorem dX1_mapped_43 : decode cX1_mapped 43 = .ok (.aload 5, 2) := dk_25 5 (dk_at dksX1_mapped_1 21 rfl rfl)
theorem dX1_mapped_45 : decode cX1_mapped 45 = .ok (.getfield 194, 3) := dk_180 0 194 (dk_at dksX1_mapped_2 0 rfl rfl)
theorem dX1_mapped_48 : decode cX1_mapped 48 = .ok (.aload 5, 2) := dk_25 5 (dk_at dksX1_mapped_2 3 rfl rfl)
theorem dX1_mapped_50 : decode cX1_mapped 50 = .ok (.getfield 197, 3) := dk_180 0 197 (dk_at dksX1_mapped_2 5 rfl rfl)
theorem dX1_mapped_53 : decode cX1_mapped 53 = .ok (.invokevirtual 175, 3) := dk_182 0 175 (dk_at dksX1_mapped_2 8 rfl rfl)
theorem dX1_mapped_56 : decode cX1_mapped 56 = .ok (.astore 6, 2) := dk_58 6 (dk_at dksX1_mapped_2 11 rfl rfl)
theorem dX1_mapped_58 : decode cX1_mapped 58 = .ok (.iconst 0, 1) := dk_3 (dk_at dksX1_mapped_2 13 rfl rfl)
theorem dX1_mapped_59 : decode cX1_mapped 59 = .ok (.istore 7, 2) := dk_54 7 (dk_at dksX1_mapped_2 14 rfl rfl)
theorem dX1_mapped_61 : decode cX1_mapped 61 = .ok (.iload 7, 2) := dk_21 7 (dk_at dksX1_mapped_2 16 rfl rfl)
theorem dX1_mapped_63 : decode cX1_mapped 63 = .ok (.aload_n 0, 1) := dk_42 (dk_at dksX1_mapped_2 18 rfl rfl)
theorem dX1_mapped_64 : decode cX1_mapped 64 = .ok (.getfield 77, 3) := dk_180 0 77 (dk_at dksX1_mapped_2 19 rfl rfl)
theorem dX1_mapped_67 : decode cX1_mapped 67 = .ok (.getfield 133, 3) := dk_180 0 133 (dk_at dksX1_mapped_3 0 rfl rfl)
theorem dX1_mapped_70 : decode cX1_mapped 70 = .ok (.getfield 154, 3) := dk_180 0 154 (dk_at dksX1_mapped_3 3 rfl rfl)
theorem dX1_mapped_73 : decode cX1_mapped 73 = .ok (.if_icmp .ge 52, 3) := dk_162 0 52 (dk_at dksX1_mapped_3 6 rfl rfl)
theorem dX1_mapped_76 : decode cX1_mapped 76 = .ok (.aload 5, 2) := dk_25 5 (dk_at dksX1_mapped_3 9 rfl rfl)
theorem dX1_mapped_78 : decode cX1_mapped 78 = .ok (.getfield 288, 3) := dk_180 1 32 (dk_at dksX1_mapped_3 11 rfl rfl)
theorem dX1_mapped_81 : decode cX1_mapped 81 = .ok (.iload 7, 2) := dk_21 7 (dk_at dksX1_mapped_3 14 rfl rfl)
theorem dX1_mapped_83 : decode cX1_mapped 83 = .ok (.ishr, 1) := dk_122 (dk_at dksX1_mapped_3 16 rfl rfl)
theorem dX1_mapped_84 : decode cX1_mapped 84 = .ok (.iconst 1, 1) := dk_4 (dk_at dksX1_mapped_3 17 rfl rfl)
theorem dX1_mapped_85 : decode cX1_mapped 85 = .ok (.iand, 1) := dk_126 (dk_at dksX1_mapped_3 18 rfl rfl)
theorem dX1_mapped_86 : decode cX1_mapped 86 = .ok (.iconst 1, 1) := dk_4 (dk_at dksX1_mapped_3 19 rfl rfl)
theorem dX1_mapped_87 : decode cX1_mapped 87 = .ok (.if_icmp .ne 32, 3) := dk_160 0 32 (dk_at dksX1_mapped_3 20 rfl rfl)
theorem dX1_mapped_90 : decode cX1_mapped 90 = .ok (.aload_n 0, 1) := dk_42 (dk_at dksX1_mapped_3 23 rfl rfl)
theorem dX1_mapped_91 : decode cX1_mapped 91 = .ok (.getfield 77, 3) := dk_180 0 77 (dk_at dksX1_mapped_4 0 rfl rfl)
theorem dX1_mapped_94 : decode cX1_mapped 94 = .ok (.getfield 133, 3) := dk_180 0 133 (dk_at dksX1_mapped_4 3 rfl rfl)
theorem dX1_mapped_97 : decode cX1_mapped 97 = .ok (.aload 6, 2) := dk_25 6 (dk_at dksX1_mapped_4 6 rfl rfl)
theorem dX1_mapped_99 : decode cX1_mapped 99 = .ok (.aload_n 0, 1) := dk_42 (dk_at dksX1_mapped_4 8 rfl rfl)
theorem dX1_mapped_100 : decode cX1_mapped 100 = .ok (.getfield 77, 3) := dk_180 0 77 (dk_at dksX1_mapped_4 9 rfl rfl)
theorem dX1_mapped_103 : decode cX1_mapped 103 = .ok (.getfield 110, 3) := dk_180 0 110 (dk_at dksX1_mapped_4 12 rfl rfl)
theorem dX1_mapped_106 : decode cX1_mapped 106 = .ok (.iload_n 2, 1) := dk_28 (dk_at dksX1_mapped_4 15 rfl rfl)
theorem dX1_mapped_107 : decode cX1_mapped 107 = .ok (.iload 7, 2) := dk_21 7 (dk_at dksX1_mapped_4 16 rfl rfl)
theorem dX1_mapped_109 : decode cX1_mapped 109 = .ok (.iadd, 1) := dk_96 (dk_at dksX1_mapped_4 18 rfl rfl)
theorem dX1_mapped_110 : decode cX1_mapped 110 = .ok (.aaload, 1) := dk_50 (dk_at dksX1_mapped_4 19 rfl rfl)
theorem dX1_mapped_111 : decode cX1_mapped 111 = .ok (.getstatic 290, 3) := dk_178 1 34 (dk_at dksX1_mapped_4 20 rfl rfl)
theorem dX1_mapped_114 : decode cX1_mapped 114 = .ok (.invokevirtual 235, 3) := dk_182 0 235 (dk_at dksX1_mapped_5 0 rfl rfl)
theorem dX1_mapped_117 : decode cX1_mapped 117 = .ok (.astore 6, 2) := dk_58 6 (dk_at dksX1_mapped_5 3 rfl rfl)
theorem dX1_mapped_119 : decode cX1_mapped 119 = .ok (.iinc 7 1, 3) := dk_132 7 1 (dk_at dksX1_mapped_5 5 rfl rfl)
theorem dX1_mapped_122 : decode cX1_mapped 122 = .ok (.goto (-61), 3) := dk_167 255 195 (dk_at dksX1_mapped_5 8 rfl rfl)
theorem dX1_mapped_125 : decode cX1_mapped 125 = .ok (.aload_n 3, 1) := dk_45 (dk_at dksX1_mapped_5 11 rfl rfl)
theorem dX1_mapped_126 : decode cX1_mapped 126 = .ok (.aload 6, 2) := dk_25 6 (dk_at dksX1_mapped_5 12 rfl rfl)
theorem dX1_mapped_128 : decode cX1_mapped 128 = .ok (.iconst 1, 1) := dk_4 (dk_at dksX1_mapped_5 14 rfl rfl)
theorem dX1_mapped_129 : decode cX1_mapped 129 = .ok (.invokevirtual 293, 3) := dk_182 1 37 (dk_at dksX1_mapped_5 15 rfl rfl)
theorem dX1_mapped_132 : decode cX1_mapped 132 = .ok (.astore_n 3, 1) := dk_78 (dk_at dksX1_mapped_5 18 rfl rfl)
theorem dX1_mapped_133 : decode cX1_mapped 133 = .ok (.goto (-123), 3) := dk_167 255 133 (dk_at dksX1_mapped_5 19 rfl rfl)
theorem dX1_mapped_136 : decode cX1_mapped 136 = .ok (.aload_n 3, 1) := dk_45 (dk_at dksX1_mapped_5 22 rfl rfl)
theorem dX1_mapped_137 : decode cX1_mapped 137 = .ok (.areturn, 1) := dk_176 (dk_at dksX1_mapped_5 23 rfl rfl)
abbrev cX1_determinant : ByteArray := prog_1_method_36_code
def yX1_determinant : MethodName := ⟨RX1, "determinant", "(II)I"⟩
def dkwX1_determinant_2 : List UInt8 := [180, 0, 133, 180, 0, 140, 47, 45, 180, 0, 38, 184, 0, 219, 182, 0, 208, 172, 78, 184, 0, 181, 191]
abbrev dktX1_determinant_2 : List UInt8 := dkwX1_determinant_2 ++ []
def dkwX1_determinant_1 : List UInt8 := [180, 0, 140, 10, 10, 184, 0, 219, 28, 182, 1, 44, 78, 42, 27, 3, 45, 180, 0, 42, 42, 180, 0, 77]
abbrev dktX1_determinant_1 : List UInt8 := dkwX1_determinant_1 ++ dktX1_determinant_2
def dkwX1_determinant_0 : List UInt8 := [4, 188, 10, 89, 3, 27, 79, 184, 0, 161, 42, 28, 182, 1, 41, 42, 42, 180, 0, 77, 180, 0, 133]
abbrev dktX1_determinant_0 : List UInt8 := dkwX1_determinant_0 ++ dktX1_determinant_1
theorem dksX1_determinant_0 : cX1_determinant.data.toList.drop 0 = dktX1_determinant_0 := by decide +kernel
theorem dksX1_determinant_1 : cX1_determinant.data.toList.drop 23 = dktX1_determinant_1 := dk_seg dksX1_determinant_0 23 rfl rfl
theorem dksX1_determinant_2 : cX1_determinant.data.toList.drop 47 = dktX1_determinant_2 := dk_seg dksX1_determinant_1 24 rfl rfl
theorem dX1_determinant_0 : decode cX1_determinant 0 = .ok (.iconst 1, 1) := dk_4 (dk_at dksX1_determinant_0 0 rfl rfl)
theorem dX1_determinant_1 : decode cX1_determinant 1 = .ok (.newarray .int, 2) := dk_188_10 (dk_at dksX1_determinant_0 1 rfl rfl)
theorem dX1_determinant_3 : decode cX1_determinant 3 = .ok (.dup, 1) := dk_89 (dk_at dksX1_determinant_0 3 rfl rfl)
theorem dX1_determinant_4 : decode cX1_determinant 4 = .ok (.iconst 0, 1) := dk_3 (dk_at dksX1_determinant_0 4 rfl rfl)
theorem dX1_determinant_5 : decode cX1_determinant 5 = .ok (.iload_n 1, 1) := dk_27 (dk_at dksX1_determinant_0 5 rfl rfl)
theorem dX1_determinant_6 : decode cX1_determinant 6 = .ok (.iastore, 1) := dk_79 (dk_at dksX1_determinant_0 6 rfl rfl)
theorem dX1_determinant_7 : decode cX1_determinant 7 = .ok (.invokestatic 161, 3) := dk_184 0 161 (dk_at dksX1_determinant_0 7 rfl rfl)
theorem dX1_determinant_10 : decode cX1_determinant 10 = .ok (.aload_n 0, 1) := dk_42 (dk_at dksX1_determinant_0 10 rfl rfl)
theorem dX1_determinant_11 : decode cX1_determinant 11 = .ok (.iload_n 2, 1) := dk_28 (dk_at dksX1_determinant_0 11 rfl rfl)
theorem dX1_determinant_12 : decode cX1_determinant 12 = .ok (.invokevirtual 297, 3) := dk_182 1 41 (dk_at dksX1_determinant_0 12 rfl rfl)
theorem dX1_determinant_15 : decode cX1_determinant 15 = .ok (.aload_n 0, 1) := dk_42 (dk_at dksX1_determinant_0 15 rfl rfl)
theorem dX1_determinant_16 : decode cX1_determinant 16 = .ok (.aload_n 0, 1) := dk_42 (dk_at dksX1_determinant_0 16 rfl rfl)
theorem dX1_determinant_17 : decode cX1_determinant 17 = .ok (.getfield 77, 3) := dk_180 0 77 (dk_at dksX1_determinant_0 17 rfl rfl)
theorem dX1_determinant_20 : decode cX1_determinant 20 = .ok (.getfield 133, 3) := dk_180 0 133 (dk_at dksX1_determinant_0 20 rfl rfl)
theorem dX1_determinant_23 : decode cX1_determinant 23 = .ok (.getfield 140, 3) := dk_180 0 140 (dk_at dksX1_determinant_1 0 rfl rfl)
theorem dX1_determinant_26 : decode cX1_determinant 26 = .ok (.lconst 1, 1) := dk_10 (dk_at dksX1_determinant_1 3 rfl rfl)
theorem dX1_determinant_27 : decode cX1_determinant 27 = .ok (.lconst 1, 1) := dk_10 (dk_at dksX1_determinant_1 4 rfl rfl)
theorem dX1_determinant_28 : decode cX1_determinant 28 = .ok (.invokestatic 219, 3) := dk_184 0 219 (dk_at dksX1_determinant_1 5 rfl rfl)
theorem dX1_determinant_31 : decode cX1_determinant 31 = .ok (.iload_n 2, 1) := dk_28 (dk_at dksX1_determinant_1 8 rfl rfl)
theorem dX1_determinant_32 : decode cX1_determinant 32 = .ok (.invokevirtual 300, 3) := dk_182 1 44 (dk_at dksX1_determinant_1 9 rfl rfl)
theorem dX1_determinant_35 : decode cX1_determinant 35 = .ok (.astore_n 3, 1) := dk_78 (dk_at dksX1_determinant_1 12 rfl rfl)
theorem dX1_determinant_36 : decode cX1_determinant 36 = .ok (.aload_n 0, 1) := dk_42 (dk_at dksX1_determinant_1 13 rfl rfl)
theorem dX1_determinant_37 : decode cX1_determinant 37 = .ok (.iload_n 1, 1) := dk_27 (dk_at dksX1_determinant_1 14 rfl rfl)
theorem dX1_determinant_38 : decode cX1_determinant 38 = .ok (.iconst 0, 1) := dk_3 (dk_at dksX1_determinant_1 15 rfl rfl)
theorem dX1_determinant_39 : decode cX1_determinant 39 = .ok (.aload_n 3, 1) := dk_45 (dk_at dksX1_determinant_1 16 rfl rfl)
theorem dX1_determinant_40 : decode cX1_determinant 40 = .ok (.getfield 42, 3) := dk_180 0 42 (dk_at dksX1_determinant_1 17 rfl rfl)
theorem dX1_determinant_43 : decode cX1_determinant 43 = .ok (.aload_n 0, 1) := dk_42 (dk_at dksX1_determinant_1 20 rfl rfl)
theorem dX1_determinant_44 : decode cX1_determinant 44 = .ok (.getfield 77, 3) := dk_180 0 77 (dk_at dksX1_determinant_1 21 rfl rfl)
theorem dX1_determinant_47 : decode cX1_determinant 47 = .ok (.getfield 133, 3) := dk_180 0 133 (dk_at dksX1_determinant_2 0 rfl rfl)
theorem dX1_determinant_50 : decode cX1_determinant 50 = .ok (.getfield 140, 3) := dk_180 0 140 (dk_at dksX1_determinant_2 3 rfl rfl)
theorem dX1_determinant_53 : decode cX1_determinant 53 = .ok (.laload, 1) := dk_47 (dk_at dksX1_determinant_2 6 rfl rfl)
theorem dX1_determinant_54 : decode cX1_determinant 54 = .ok (.aload_n 3, 1) := dk_45 (dk_at dksX1_determinant_2 7 rfl rfl)
theorem dX1_determinant_55 : decode cX1_determinant 55 = .ok (.getfield 38, 3) := dk_180 0 38 (dk_at dksX1_determinant_2 8 rfl rfl)
theorem dX1_determinant_58 : decode cX1_determinant 58 = .ok (.invokestatic 219, 3) := dk_184 0 219 (dk_at dksX1_determinant_2 11 rfl rfl)
theorem dX1_determinant_61 : decode cX1_determinant 61 = .ok (.invokevirtual 208, 3) := dk_182 0 208 (dk_at dksX1_determinant_2 14 rfl rfl)
theorem dX1_determinant_64 : decode cX1_determinant 64 = .ok (.ireturn, 1) := dk_172 (dk_at dksX1_determinant_2 17 rfl rfl)
theorem dX1_determinant_65 : decode cX1_determinant 65 = .ok (.astore_n 3, 1) := dk_78 (dk_at dksX1_determinant_2 18 rfl rfl)
theorem dX1_determinant_66 : decode cX1_determinant 66 = .ok (.invokestatic 181, 3) := dk_184 0 181 (dk_at dksX1_determinant_2 19 rfl rfl)
theorem dX1_determinant_69 : decode cX1_determinant 69 = .ok (.athrow, 1) := dk_191 (dk_at dksX1_determinant_2 22 rfl rfl)
abbrev cX1_apply : ByteArray := prog_1_method_39_code
def yX1_apply : MethodName := ⟨RX1, "apply", "(III)I"⟩
def dkwX1_apply_4 : List UInt8 := [184, 0, 181, 191]
abbrev dktX1_apply_4 : List UInt8 := dkwX1_apply_4 ++ []
def dkwX1_apply_3 : List UInt8 := [180, 0, 77, 180, 0, 110, 29, 50, 182, 1, 63, 25, 5, 184, 1, 66, 182, 0, 208, 172, 58, 5]
abbrev dktX1_apply_3 : List UInt8 := dkwX1_apply_3 ++ dktX1_apply_4
def dkwX1_apply_2 : List UInt8 := [25, 4, 184, 1, 50, 182, 0, 221, 58, 5, 25, 5, 182, 1, 57, 184, 1, 60, 42, 27, 42, 25, 4, 42]
abbrev dktX1_apply_2 : List UInt8 := dkwX1_apply_2 ++ dktX1_apply_3
def dkwX1_apply_1 : List UInt8 := [180, 0, 110, 28, 50, 58, 4, 25, 4, 184, 1, 54, 184, 0, 245, 42, 180, 0, 77, 180, 0, 133, 25, 4]
abbrev dktX1_apply_1 : List UInt8 := dkwX1_apply_1 ++ dktX1_apply_2
def dkwX1_apply_0 : List UInt8 := [6, 188, 10, 89, 3, 27, 79, 89, 4, 28, 79, 89, 5, 29, 79, 184, 0, 161, 42, 180, 0, 77]
abbrev dktX1_apply_0 : List UInt8 := dkwX1_apply_0 ++ dktX1_apply_1
theorem dksX1_apply_0 : cX1_apply.data.toList.drop 0 = dktX1_apply_0 := by decide +kernel
theorem dksX1_apply_1 : cX1_apply.data.toList.drop 22 = dktX1_apply_1 := dk_seg dksX1_apply_0 22 rfl rfl
theorem dksX1_apply_2 : cX1_apply.data.toList.drop 46 = dktX1_apply_2 := dk_seg dksX1_apply_1 24 rfl rfl
theorem dksX1_apply_3 : cX1_apply.data.toList.drop 70 = dktX1_apply_3 := dk_seg dksX1_apply_2 24 rfl rfl
theorem dksX1_apply_4 : cX1_apply.data.toList.drop 92 = dktX1_apply_4 := dk_seg dksX1_apply_3 22 rfl rfl
theorem dX1_apply_0 : decode cX1_apply 0 = .ok (.iconst 3, 1) := dk_6 (dk_at dksX1_apply_0 0 rfl rfl)
theorem dX1_apply_1 : decode cX1_apply 1 = .ok (.newarray .int, 2) := dk_188_10 (dk_at dksX1_apply_0 1 rfl rfl)
theorem dX1_apply_3 : decode cX1_apply 3 = .ok (.dup, 1) := dk_89 (dk_at dksX1_apply_0 3 rfl rfl)
theorem dX1_apply_4 : decode cX1_apply 4 = .ok (.iconst 0, 1) := dk_3 (dk_at dksX1_apply_0 4 rfl rfl)
theorem dX1_apply_5 : decode cX1_apply 5 = .ok (.iload_n 1, 1) := dk_27 (dk_at dksX1_apply_0 5 rfl rfl)
theorem dX1_apply_6 : decode cX1_apply 6 = .ok (.iastore, 1) := dk_79 (dk_at dksX1_apply_0 6 rfl rfl)
theorem dX1_apply_7 : decode cX1_apply 7 = .ok (.dup, 1) := dk_89 (dk_at dksX1_apply_0 7 rfl rfl)
theorem dX1_apply_8 : decode cX1_apply 8 = .ok (.iconst 1, 1) := dk_4 (dk_at dksX1_apply_0 8 rfl rfl)
theorem dX1_apply_9 : decode cX1_apply 9 = .ok (.iload_n 2, 1) := dk_28 (dk_at dksX1_apply_0 9 rfl rfl)
theorem dX1_apply_10 : decode cX1_apply 10 = .ok (.iastore, 1) := dk_79 (dk_at dksX1_apply_0 10 rfl rfl)
theorem dX1_apply_11 : decode cX1_apply 11 = .ok (.dup, 1) := dk_89 (dk_at dksX1_apply_0 11 rfl rfl)
theorem dX1_apply_12 : decode cX1_apply 12 = .ok (.iconst 2, 1) := dk_5 (dk_at dksX1_apply_0 12 rfl rfl)
theorem dX1_apply_13 : decode cX1_apply 13 = .ok (.iload_n 3, 1) := dk_29 (dk_at dksX1_apply_0 13 rfl rfl)
theorem dX1_apply_14 : decode cX1_apply 14 = .ok (.iastore, 1) := dk_79 (dk_at dksX1_apply_0 14 rfl rfl)
theorem dX1_apply_15 : decode cX1_apply 15 = .ok (.invokestatic 161, 3) := dk_184 0 161 (dk_at dksX1_apply_0 15 rfl rfl)
theorem dX1_apply_18 : decode cX1_apply 18 = .ok (.aload_n 0, 1) := dk_42 (dk_at dksX1_apply_0 18 rfl rfl)
theorem dX1_apply_19 : decode cX1_apply 19 = .ok (.getfield 77, 3) := dk_180 0 77 (dk_at dksX1_apply_0 19 rfl rfl)
theorem dX1_apply_22 : decode cX1_apply 22 = .ok (.getfield 110, 3) := dk_180 0 110 (dk_at dksX1_apply_1 0 rfl rfl)
theorem dX1_apply_25 : decode cX1_apply 25 = .ok (.iload_n 2, 1) := dk_28 (dk_at dksX1_apply_1 3 rfl rfl)
theorem dX1_apply_26 : decode cX1_apply 26 = .ok (.aaload, 1) := dk_50 (dk_at dksX1_apply_1 4 rfl rfl)
theorem dX1_apply_27 : decode cX1_apply 27 = .ok (.astore 4, 2) := dk_58 4 (dk_at dksX1_apply_1 5 rfl rfl)
theorem dX1_apply_29 : decode cX1_apply 29 = .ok (.aload 4, 2) := dk_25 4 (dk_at dksX1_apply_1 7 rfl rfl)
theorem dX1_apply_31 : decode cX1_apply 31 = .ok (.invokestatic 310, 3) := dk_184 1 54 (dk_at dksX1_apply_1 9 rfl rfl)
theorem dX1_apply_34 : decode cX1_apply 34 = .ok (.invokestatic 245, 3) := dk_184 0 245 (dk_at dksX1_apply_1 12 rfl rfl)
theorem dX1_apply_37 : decode cX1_apply 37 = .ok (.aload_n 0, 1) := dk_42 (dk_at dksX1_apply_1 15 rfl rfl)
theorem dX1_apply_38 : decode cX1_apply 38 = .ok (.getfield 77, 3) := dk_180 0 77 (dk_at dksX1_apply_1 16 rfl rfl)
theorem dX1_apply_41 : decode cX1_apply 41 = .ok (.getfield 133, 3) := dk_180 0 133 (dk_at dksX1_apply_1 19 rfl rfl)
theorem dX1_apply_44 : decode cX1_apply 44 = .ok (.aload 4, 2) := dk_25 4 (dk_at dksX1_apply_1 22 rfl rfl)
theorem dX1_apply_46 : decode cX1_apply 46 = .ok (.aload 4, 2) := dk_25 4 (dk_at dksX1_apply_2 0 rfl rfl)
theorem dX1_apply_48 : decode cX1_apply 48 = .ok (.invokestatic 306, 3) := dk_184 1 50 (dk_at dksX1_apply_2 2 rfl rfl)
theorem dX1_apply_51 : decode cX1_apply 51 = .ok (.invokevirtual 221, 3) := dk_182 0 221 (dk_at dksX1_apply_2 5 rfl rfl)
theorem dX1_apply_54 : decode cX1_apply 54 = .ok (.astore 5, 2) := dk_58 5 (dk_at dksX1_apply_2 8 rfl rfl)
theorem dX1_apply_56 : decode cX1_apply 56 = .ok (.aload 5, 2) := dk_25 5 (dk_at dksX1_apply_2 10 rfl rfl)
theorem dX1_apply_58 : decode cX1_apply 58 = .ok (.invokevirtual 313, 3) := dk_182 1 57 (dk_at dksX1_apply_2 12 rfl rfl)
theorem dX1_apply_61 : decode cX1_apply 61 = .ok (.invokestatic 316, 3) := dk_184 1 60 (dk_at dksX1_apply_2 15 rfl rfl)
theorem dX1_apply_64 : decode cX1_apply 64 = .ok (.aload_n 0, 1) := dk_42 (dk_at dksX1_apply_2 18 rfl rfl)
theorem dX1_apply_65 : decode cX1_apply 65 = .ok (.iload_n 1, 1) := dk_27 (dk_at dksX1_apply_2 19 rfl rfl)
theorem dX1_apply_66 : decode cX1_apply 66 = .ok (.aload_n 0, 1) := dk_42 (dk_at dksX1_apply_2 20 rfl rfl)
theorem dX1_apply_67 : decode cX1_apply 67 = .ok (.aload 4, 2) := dk_25 4 (dk_at dksX1_apply_2 21 rfl rfl)
theorem dX1_apply_69 : decode cX1_apply 69 = .ok (.aload_n 0, 1) := dk_42 (dk_at dksX1_apply_2 23 rfl rfl)
theorem dX1_apply_70 : decode cX1_apply 70 = .ok (.getfield 77, 3) := dk_180 0 77 (dk_at dksX1_apply_3 0 rfl rfl)
theorem dX1_apply_73 : decode cX1_apply 73 = .ok (.getfield 110, 3) := dk_180 0 110 (dk_at dksX1_apply_3 3 rfl rfl)
theorem dX1_apply_76 : decode cX1_apply 76 = .ok (.iload_n 3, 1) := dk_29 (dk_at dksX1_apply_3 6 rfl rfl)
theorem dX1_apply_77 : decode cX1_apply 77 = .ok (.aaload, 1) := dk_50 (dk_at dksX1_apply_3 7 rfl rfl)
theorem dX1_apply_78 : decode cX1_apply 78 = .ok (.invokevirtual 319, 3) := dk_182 1 63 (dk_at dksX1_apply_3 8 rfl rfl)
theorem dX1_apply_81 : decode cX1_apply 81 = .ok (.aload 5, 2) := dk_25 5 (dk_at dksX1_apply_3 11 rfl rfl)
theorem dX1_apply_83 : decode cX1_apply 83 = .ok (.invokestatic 322, 3) := dk_184 1 66 (dk_at dksX1_apply_3 13 rfl rfl)
theorem dX1_apply_86 : decode cX1_apply 86 = .ok (.invokevirtual 208, 3) := dk_182 0 208 (dk_at dksX1_apply_3 16 rfl rfl)
theorem dX1_apply_89 : decode cX1_apply 89 = .ok (.ireturn, 1) := dk_172 (dk_at dksX1_apply_3 19 rfl rfl)
theorem dX1_apply_90 : decode cX1_apply 90 = .ok (.astore 5, 2) := dk_58 5 (dk_at dksX1_apply_3 20 rfl rfl)
theorem dX1_apply_92 : decode cX1_apply 92 = .ok (.invokestatic 181, 3) := dk_184 0 181 (dk_at dksX1_apply_4 0 rfl rfl)
theorem dX1_apply_95 : decode cX1_apply 95 = .ok (.athrow, 1) := dk_191 (dk_at dksX1_apply_4 3 rfl rfl)
abbrev cX1_isPure : ByteArray := prog_1_method_37_code
def yX1_isPure : MethodName := ⟨RX1, "isPure", "(LBladeAlgebra$Multi;)Z"⟩
def dkwX1_isPure_1 : List UInt8 := [3, 172]
abbrev dktX1_isPure_1 : List UInt8 := dkwX1_isPure_1 ++ []
def dkwX1_isPure_0 : List UInt8 := [42, 182, 1, 47, 16, 42, 126, 153, 0, 13, 42, 182, 1, 47, 16, 21, 126, 154, 0, 7, 4, 167, 0, 4]
abbrev dktX1_isPure_0 : List UInt8 := dkwX1_isPure_0 ++ dktX1_isPure_1
theorem dksX1_isPure_0 : cX1_isPure.data.toList.drop 0 = dktX1_isPure_0 := by decide +kernel
theorem dksX1_isPure_1 : cX1_isPure.data.toList.drop 24 = dktX1_isPure_1 := dk_seg dksX1_isPure_0 24 rfl rfl
theorem dX1_isPure_0 : decode cX1_isPure 0 = .ok (.aload_n 0, 1) := dk_42 (dk_at dksX1_isPure_0 0 rfl rfl)
theorem dX1_isPure_1 : decode cX1_isPure 1 = .ok (.invokevirtual 303, 3) := dk_182 1 47 (dk_at dksX1_isPure_0 1 rfl rfl)
theorem dX1_isPure_4 : decode cX1_isPure 4 = .ok (.bipush 42, 2) := dk_16 42 (dk_at dksX1_isPure_0 4 rfl rfl)
theorem dX1_isPure_6 : decode cX1_isPure 6 = .ok (.iand, 1) := dk_126 (dk_at dksX1_isPure_0 6 rfl rfl)
theorem dX1_isPure_7 : decode cX1_isPure 7 = .ok (.ifCond .eq 13, 3) := dk_153 0 13 (dk_at dksX1_isPure_0 7 rfl rfl)
theorem dX1_isPure_10 : decode cX1_isPure 10 = .ok (.aload_n 0, 1) := dk_42 (dk_at dksX1_isPure_0 10 rfl rfl)
theorem dX1_isPure_11 : decode cX1_isPure 11 = .ok (.invokevirtual 303, 3) := dk_182 1 47 (dk_at dksX1_isPure_0 11 rfl rfl)
theorem dX1_isPure_14 : decode cX1_isPure 14 = .ok (.bipush 21, 2) := dk_16 21 (dk_at dksX1_isPure_0 14 rfl rfl)
theorem dX1_isPure_16 : decode cX1_isPure 16 = .ok (.iand, 1) := dk_126 (dk_at dksX1_isPure_0 16 rfl rfl)
theorem dX1_isPure_17 : decode cX1_isPure 17 = .ok (.ifCond .ne 7, 3) := dk_154 0 7 (dk_at dksX1_isPure_0 17 rfl rfl)
theorem dX1_isPure_20 : decode cX1_isPure 20 = .ok (.iconst 1, 1) := dk_4 (dk_at dksX1_isPure_0 20 rfl rfl)
theorem dX1_isPure_21 : decode cX1_isPure 21 = .ok (.goto 4, 3) := dk_167 0 4 (dk_at dksX1_isPure_0 21 rfl rfl)
theorem dX1_isPure_24 : decode cX1_isPure 24 = .ok (.iconst 0, 1) := dk_3 (dk_at dksX1_isPure_1 0 rfl rfl)
theorem dX1_isPure_25 : decode cX1_isPure 25 = .ok (.ireturn, 1) := dk_172 (dk_at dksX1_isPure_1 1 rfl rfl)
abbrev cX1_supported : ByteArray := prog_1_method_5_code
def yX1_supported : MethodName := ⟨RX1, "supported", "(Z)V"⟩
def dkwX1_supported_0 : List UInt8 := [26, 154, 0, 13, 187, 0, 21, 89, 18, 23, 183, 0, 25, 191, 177]
abbrev dktX1_supported_0 : List UInt8 := dkwX1_supported_0 ++ []
theorem dksX1_supported_0 : cX1_supported.data.toList.drop 0 = dktX1_supported_0 := by decide +kernel
theorem dX1_supported_0 : decode cX1_supported 0 = .ok (.iload_n 0, 1) := dk_26 (dk_at dksX1_supported_0 0 rfl rfl)
theorem dX1_supported_1 : decode cX1_supported 1 = .ok (.ifCond .ne 13, 3) := dk_154 0 13 (dk_at dksX1_supported_0 1 rfl rfl)
theorem dX1_supported_4 : decode cX1_supported 4 = .ok (.new 21, 3) := dk_187 0 21 (dk_at dksX1_supported_0 4 rfl rfl)
theorem dX1_supported_7 : decode cX1_supported 7 = .ok (.dup, 1) := dk_89 (dk_at dksX1_supported_0 7 rfl rfl)
theorem dX1_supported_8 : decode cX1_supported 8 = .ok (.ldc 23, 2) := dk_18 23 (dk_at dksX1_supported_0 8 rfl rfl)
theorem dX1_supported_10 : decode cX1_supported 10 = .ok (.invokespecial 25, 3) := dk_183 0 25 (dk_at dksX1_supported_0 10 rfl rfl)
theorem dX1_supported_13 : decode cX1_supported 13 = .ok (.athrow, 1) := dk_191 (dk_at dksX1_supported_0 13 rfl rfl)
theorem dX1_supported_14 : decode cX1_supported 14 = .ok (.return_, 1) := dk_177 (dk_at dksX1_supported_0 14 rfl rfl)
abbrev cX1_sandwich : ByteArray := prog_1_method_38_code
def yX1_sandwich : MethodName := ⟨RX1, "sandwich", "(LBladeAlgebra$Multi;LBladeAlgebra$Multi;)LBladeAlgebra$Multi;"⟩
def dkwX1_sandwich_2 : List UInt8 := [182, 0, 221, 176]
abbrev dktX1_sandwich_2 : List UInt8 := dkwX1_sandwich_2 ++ []
def dkwX1_sandwich_1 : List UInt8 := [180, 0, 77, 180, 0, 133, 42, 180, 0, 77, 180, 0, 133, 43, 45, 182, 0, 221, 43, 184, 1, 50]
abbrev dktX1_sandwich_1 : List UInt8 := dkwX1_sandwich_1 ++ dktX1_sandwich_2
def dkwX1_sandwich_0 : List UInt8 := [43, 182, 1, 47, 16, 42, 126, 154, 0, 7, 44, 167, 0, 11, 44, 16, 42, 16, 63, 182, 0, 32, 78, 42]
abbrev dktX1_sandwich_0 : List UInt8 := dkwX1_sandwich_0 ++ dktX1_sandwich_1
theorem dksX1_sandwich_0 : cX1_sandwich.data.toList.drop 0 = dktX1_sandwich_0 := by decide +kernel
theorem dksX1_sandwich_1 : cX1_sandwich.data.toList.drop 24 = dktX1_sandwich_1 := dk_seg dksX1_sandwich_0 24 rfl rfl
theorem dksX1_sandwich_2 : cX1_sandwich.data.toList.drop 46 = dktX1_sandwich_2 := dk_seg dksX1_sandwich_1 22 rfl rfl
theorem dX1_sandwich_0 : decode cX1_sandwich 0 = .ok (.aload_n 1, 1) := dk_43 (dk_at dksX1_sandwich_0 0 rfl rfl)
theorem dX1_sandwich_1 : decode cX1_sandwich 1 = .ok (.invokevirtual 303, 3) := dk_182 1 47 (dk_at dksX1_sandwich_0 1 rfl rfl)
theorem dX1_sandwich_4 : decode cX1_sandwich 4 = .ok (.bipush 42, 2) := dk_16 42 (dk_at dksX1_sandwich_0 4 rfl rfl)
theorem dX1_sandwich_6 : decode cX1_sandwich 6 = .ok (.iand, 1) := dk_126 (dk_at dksX1_sandwich_0 6 rfl rfl)
theorem dX1_sandwich_7 : decode cX1_sandwich 7 = .ok (.ifCond .ne 7, 3) := dk_154 0 7 (dk_at dksX1_sandwich_0 7 rfl rfl)
theorem dX1_sandwich_10 : decode cX1_sandwich 10 = .ok (.aload_n 2, 1) := dk_44 (dk_at dksX1_sandwich_0 10 rfl rfl)
theorem dX1_sandwich_11 : decode cX1_sandwich 11 = .ok (.goto 11, 3) := dk_167 0 11 (dk_at dksX1_sandwich_0 11 rfl rfl)
theorem dX1_sandwich_14 : decode cX1_sandwich 14 = .ok (.aload_n 2, 1) := dk_44 (dk_at dksX1_sandwich_0 14 rfl rfl)
theorem dX1_sandwich_15 : decode cX1_sandwich 15 = .ok (.bipush 42, 2) := dk_16 42 (dk_at dksX1_sandwich_0 15 rfl rfl)
theorem dX1_sandwich_17 : decode cX1_sandwich 17 = .ok (.bipush 63, 2) := dk_16 63 (dk_at dksX1_sandwich_0 17 rfl rfl)
theorem dX1_sandwich_19 : decode cX1_sandwich 19 = .ok (.invokevirtual 32, 3) := dk_182 0 32 (dk_at dksX1_sandwich_0 19 rfl rfl)
theorem dX1_sandwich_22 : decode cX1_sandwich 22 = .ok (.astore_n 3, 1) := dk_78 (dk_at dksX1_sandwich_0 22 rfl rfl)
theorem dX1_sandwich_23 : decode cX1_sandwich 23 = .ok (.aload_n 0, 1) := dk_42 (dk_at dksX1_sandwich_0 23 rfl rfl)
theorem dX1_sandwich_24 : decode cX1_sandwich 24 = .ok (.getfield 77, 3) := dk_180 0 77 (dk_at dksX1_sandwich_1 0 rfl rfl)
theorem dX1_sandwich_27 : decode cX1_sandwich 27 = .ok (.getfield 133, 3) := dk_180 0 133 (dk_at dksX1_sandwich_1 3 rfl rfl)
theorem dX1_sandwich_30 : decode cX1_sandwich 30 = .ok (.aload_n 0, 1) := dk_42 (dk_at dksX1_sandwich_1 6 rfl rfl)
theorem dX1_sandwich_31 : decode cX1_sandwich 31 = .ok (.getfield 77, 3) := dk_180 0 77 (dk_at dksX1_sandwich_1 7 rfl rfl)
theorem dX1_sandwich_34 : decode cX1_sandwich 34 = .ok (.getfield 133, 3) := dk_180 0 133 (dk_at dksX1_sandwich_1 10 rfl rfl)
theorem dX1_sandwich_37 : decode cX1_sandwich 37 = .ok (.aload_n 1, 1) := dk_43 (dk_at dksX1_sandwich_1 13 rfl rfl)
theorem dX1_sandwich_38 : decode cX1_sandwich 38 = .ok (.aload_n 3, 1) := dk_45 (dk_at dksX1_sandwich_1 14 rfl rfl)
theorem dX1_sandwich_39 : decode cX1_sandwich 39 = .ok (.invokevirtual 221, 3) := dk_182 0 221 (dk_at dksX1_sandwich_1 15 rfl rfl)
theorem dX1_sandwich_42 : decode cX1_sandwich 42 = .ok (.aload_n 1, 1) := dk_43 (dk_at dksX1_sandwich_1 18 rfl rfl)
theorem dX1_sandwich_43 : decode cX1_sandwich 43 = .ok (.invokestatic 306, 3) := dk_184 1 50 (dk_at dksX1_sandwich_1 19 rfl rfl)
theorem dX1_sandwich_46 : decode cX1_sandwich 46 = .ok (.invokevirtual 221, 3) := dk_182 0 221 (dk_at dksX1_sandwich_2 0 rfl rfl)
theorem dX1_sandwich_49 : decode cX1_sandwich 49 = .ok (.areturn, 1) := dk_176 (dk_at dksX1_sandwich_2 3 rfl rfl)
abbrev cX1_rotor : ByteArray := prog_1_method_40_code
def yX1_rotor : MethodName := ⟨RX1, "rotor", "(III)I"⟩
def dkwX1_rotor_8 : List UInt8 := [184, 0, 181, 191]
abbrev dktX1_rotor_8 : List UInt8 := dkwX1_rotor_8 ++ []
def dkwX1_rotor_7 : List UInt8 := [182, 1, 47, 153, 0, 7, 4, 167, 0, 4, 3, 184, 1, 60, 42, 27, 25, 8, 182, 0, 208, 172, 58, 6]
abbrev dktX1_rotor_7 : List UInt8 := dkwX1_rotor_7 ++ dktX1_rotor_8
def dkwX1_rotor_6 : List UInt8 := [182, 1, 37, 58, 8, 42, 180, 0, 77, 180, 0, 133, 25, 8, 25, 8, 184, 1, 50, 182, 0, 221]
abbrev dktX1_rotor_6 : List UInt8 := dkwX1_rotor_6 ++ dktX1_rotor_7
def dkwX1_rotor_5 : List UInt8 := [167, 0, 4, 3, 184, 1, 60, 25, 6, 42, 180, 0, 77, 180, 0, 133, 25, 5, 25, 4, 182, 0, 221, 4]
abbrev dktX1_rotor_5 : List UInt8 := dkwX1_rotor_5 ++ dktX1_rotor_6
def dkwX1_rotor_4 : List UInt8 := [182, 0, 221, 58, 7, 25, 6, 182, 1, 57, 153, 0, 17, 25, 6, 25, 7, 182, 1, 69, 153, 0, 7, 4]
abbrev dktX1_rotor_4 : List UInt8 := dkwX1_rotor_4 ++ dktX1_rotor_5
def dkwX1_rotor_3 : List UInt8 := [180, 0, 133, 25, 4, 25, 4, 182, 0, 221, 58, 6, 42, 180, 0, 77, 180, 0, 133, 25, 5, 25, 5]
abbrev dktX1_rotor_3 : List UInt8 := dkwX1_rotor_3 ++ dktX1_rotor_4
def dkwX1_rotor_2 : List UInt8 := [153, 0, 15, 25, 5, 182, 1, 11, 153, 0, 7, 4, 167, 0, 4, 3, 184, 0, 245, 42, 180, 0, 77]
abbrev dktX1_rotor_2 : List UInt8 := dkwX1_rotor_2 ++ dktX1_rotor_3
def dkwX1_rotor_1 : List UInt8 := [180, 0, 110, 28, 50, 58, 4, 42, 180, 0, 77, 180, 0, 110, 29, 50, 58, 5, 25, 4, 182, 1, 11]
abbrev dktX1_rotor_1 : List UInt8 := dkwX1_rotor_1 ++ dktX1_rotor_2
def dkwX1_rotor_0 : List UInt8 := [6, 188, 10, 89, 3, 27, 79, 89, 4, 28, 79, 89, 5, 29, 79, 184, 0, 161, 42, 180, 0, 77]
abbrev dktX1_rotor_0 : List UInt8 := dkwX1_rotor_0 ++ dktX1_rotor_1
theorem dksX1_rotor_0 : cX1_rotor.data.toList.drop 0 = dktX1_rotor_0 := by decide +kernel
theorem dksX1_rotor_1 : cX1_rotor.data.toList.drop 22 = dktX1_rotor_1 := dk_seg dksX1_rotor_0 22 rfl rfl
theorem dksX1_rotor_2 : cX1_rotor.data.toList.drop 45 = dktX1_rotor_2 := dk_seg dksX1_rotor_1 23 rfl rfl
theorem dksX1_rotor_3 : cX1_rotor.data.toList.drop 68 = dktX1_rotor_3 := dk_seg dksX1_rotor_2 23 rfl rfl
theorem dksX1_rotor_4 : cX1_rotor.data.toList.drop 91 = dktX1_rotor_4 := dk_seg dksX1_rotor_3 23 rfl rfl
theorem dksX1_rotor_5 : cX1_rotor.data.toList.drop 115 = dktX1_rotor_5 := dk_seg dksX1_rotor_4 24 rfl rfl
theorem dksX1_rotor_6 : cX1_rotor.data.toList.drop 139 = dktX1_rotor_6 := dk_seg dksX1_rotor_5 24 rfl rfl
theorem dksX1_rotor_7 : cX1_rotor.data.toList.drop 161 = dktX1_rotor_7 := dk_seg dksX1_rotor_6 22 rfl rfl
theorem dksX1_rotor_8 : cX1_rotor.data.toList.drop 185 = dktX1_rotor_8 := dk_seg dksX1_rotor_7 24 rfl rfl
theorem dX1_rotor_0 : decode cX1_rotor 0 = .ok (.iconst 3, 1) := dk_6 (dk_at dksX1_rotor_0 0 rfl rfl)
theorem dX1_rotor_1 : decode cX1_rotor 1 = .ok (.newarray .int, 2) := dk_188_10 (dk_at dksX1_rotor_0 1 rfl rfl)
theorem dX1_rotor_3 : decode cX1_rotor 3 = .ok (.dup, 1) := dk_89 (dk_at dksX1_rotor_0 3 rfl rfl)
theorem dX1_rotor_4 : decode cX1_rotor 4 = .ok (.iconst 0, 1) := dk_3 (dk_at dksX1_rotor_0 4 rfl rfl)
theorem dX1_rotor_5 : decode cX1_rotor 5 = .ok (.iload_n 1, 1) := dk_27 (dk_at dksX1_rotor_0 5 rfl rfl)
theorem dX1_rotor_6 : decode cX1_rotor 6 = .ok (.iastore, 1) := dk_79 (dk_at dksX1_rotor_0 6 rfl rfl)
theorem dX1_rotor_7 : decode cX1_rotor 7 = .ok (.dup, 1) := dk_89 (dk_at dksX1_rotor_0 7 rfl rfl)
theorem dX1_rotor_8 : decode cX1_rotor 8 = .ok (.iconst 1, 1) := dk_4 (dk_at dksX1_rotor_0 8 rfl rfl)
theorem dX1_rotor_9 : decode cX1_rotor 9 = .ok (.iload_n 2, 1) := dk_28 (dk_at dksX1_rotor_0 9 rfl rfl)
theorem dX1_rotor_10 : decode cX1_rotor 10 = .ok (.iastore, 1) := dk_79 (dk_at dksX1_rotor_0 10 rfl rfl)
theorem dX1_rotor_11 : decode cX1_rotor 11 = .ok (.dup, 1) := dk_89 (dk_at dksX1_rotor_0 11 rfl rfl)
theorem dX1_rotor_12 : decode cX1_rotor 12 = .ok (.iconst 2, 1) := dk_5 (dk_at dksX1_rotor_0 12 rfl rfl)
theorem dX1_rotor_13 : decode cX1_rotor 13 = .ok (.iload_n 3, 1) := dk_29 (dk_at dksX1_rotor_0 13 rfl rfl)
theorem dX1_rotor_14 : decode cX1_rotor 14 = .ok (.iastore, 1) := dk_79 (dk_at dksX1_rotor_0 14 rfl rfl)
theorem dX1_rotor_15 : decode cX1_rotor 15 = .ok (.invokestatic 161, 3) := dk_184 0 161 (dk_at dksX1_rotor_0 15 rfl rfl)
theorem dX1_rotor_18 : decode cX1_rotor 18 = .ok (.aload_n 0, 1) := dk_42 (dk_at dksX1_rotor_0 18 rfl rfl)
theorem dX1_rotor_19 : decode cX1_rotor 19 = .ok (.getfield 77, 3) := dk_180 0 77 (dk_at dksX1_rotor_0 19 rfl rfl)
theorem dX1_rotor_22 : decode cX1_rotor 22 = .ok (.getfield 110, 3) := dk_180 0 110 (dk_at dksX1_rotor_1 0 rfl rfl)
theorem dX1_rotor_25 : decode cX1_rotor 25 = .ok (.iload_n 2, 1) := dk_28 (dk_at dksX1_rotor_1 3 rfl rfl)
theorem dX1_rotor_26 : decode cX1_rotor 26 = .ok (.aaload, 1) := dk_50 (dk_at dksX1_rotor_1 4 rfl rfl)
theorem dX1_rotor_27 : decode cX1_rotor 27 = .ok (.astore 4, 2) := dk_58 4 (dk_at dksX1_rotor_1 5 rfl rfl)
theorem dX1_rotor_29 : decode cX1_rotor 29 = .ok (.aload_n 0, 1) := dk_42 (dk_at dksX1_rotor_1 7 rfl rfl)
theorem dX1_rotor_30 : decode cX1_rotor 30 = .ok (.getfield 77, 3) := dk_180 0 77 (dk_at dksX1_rotor_1 8 rfl rfl)
theorem dX1_rotor_33 : decode cX1_rotor 33 = .ok (.getfield 110, 3) := dk_180 0 110 (dk_at dksX1_rotor_1 11 rfl rfl)
theorem dX1_rotor_36 : decode cX1_rotor 36 = .ok (.iload_n 3, 1) := dk_29 (dk_at dksX1_rotor_1 14 rfl rfl)
theorem dX1_rotor_37 : decode cX1_rotor 37 = .ok (.aaload, 1) := dk_50 (dk_at dksX1_rotor_1 15 rfl rfl)
theorem dX1_rotor_38 : decode cX1_rotor 38 = .ok (.astore 5, 2) := dk_58 5 (dk_at dksX1_rotor_1 16 rfl rfl)
theorem dX1_rotor_40 : decode cX1_rotor 40 = .ok (.aload 4, 2) := dk_25 4 (dk_at dksX1_rotor_1 18 rfl rfl)
theorem dX1_rotor_42 : decode cX1_rotor 42 = .ok (.invokevirtual 267, 3) := dk_182 1 11 (dk_at dksX1_rotor_1 20 rfl rfl)
theorem dX1_rotor_45 : decode cX1_rotor 45 = .ok (.ifCond .eq 15, 3) := dk_153 0 15 (dk_at dksX1_rotor_2 0 rfl rfl)
theorem dX1_rotor_48 : decode cX1_rotor 48 = .ok (.aload 5, 2) := dk_25 5 (dk_at dksX1_rotor_2 3 rfl rfl)
theorem dX1_rotor_50 : decode cX1_rotor 50 = .ok (.invokevirtual 267, 3) := dk_182 1 11 (dk_at dksX1_rotor_2 5 rfl rfl)
theorem dX1_rotor_53 : decode cX1_rotor 53 = .ok (.ifCond .eq 7, 3) := dk_153 0 7 (dk_at dksX1_rotor_2 8 rfl rfl)
theorem dX1_rotor_56 : decode cX1_rotor 56 = .ok (.iconst 1, 1) := dk_4 (dk_at dksX1_rotor_2 11 rfl rfl)
theorem dX1_rotor_57 : decode cX1_rotor 57 = .ok (.goto 4, 3) := dk_167 0 4 (dk_at dksX1_rotor_2 12 rfl rfl)
theorem dX1_rotor_60 : decode cX1_rotor 60 = .ok (.iconst 0, 1) := dk_3 (dk_at dksX1_rotor_2 15 rfl rfl)
theorem dX1_rotor_61 : decode cX1_rotor 61 = .ok (.invokestatic 245, 3) := dk_184 0 245 (dk_at dksX1_rotor_2 16 rfl rfl)
theorem dX1_rotor_64 : decode cX1_rotor 64 = .ok (.aload_n 0, 1) := dk_42 (dk_at dksX1_rotor_2 19 rfl rfl)
theorem dX1_rotor_65 : decode cX1_rotor 65 = .ok (.getfield 77, 3) := dk_180 0 77 (dk_at dksX1_rotor_2 20 rfl rfl)
theorem dX1_rotor_68 : decode cX1_rotor 68 = .ok (.getfield 133, 3) := dk_180 0 133 (dk_at dksX1_rotor_3 0 rfl rfl)
theorem dX1_rotor_71 : decode cX1_rotor 71 = .ok (.aload 4, 2) := dk_25 4 (dk_at dksX1_rotor_3 3 rfl rfl)
theorem dX1_rotor_73 : decode cX1_rotor 73 = .ok (.aload 4, 2) := dk_25 4 (dk_at dksX1_rotor_3 5 rfl rfl)
theorem dX1_rotor_75 : decode cX1_rotor 75 = .ok (.invokevirtual 221, 3) := dk_182 0 221 (dk_at dksX1_rotor_3 7 rfl rfl)
theorem dX1_rotor_78 : decode cX1_rotor 78 = .ok (.astore 6, 2) := dk_58 6 (dk_at dksX1_rotor_3 10 rfl rfl)
theorem dX1_rotor_80 : decode cX1_rotor 80 = .ok (.aload_n 0, 1) := dk_42 (dk_at dksX1_rotor_3 12 rfl rfl)
theorem dX1_rotor_81 : decode cX1_rotor 81 = .ok (.getfield 77, 3) := dk_180 0 77 (dk_at dksX1_rotor_3 13 rfl rfl)
theorem dX1_rotor_84 : decode cX1_rotor 84 = .ok (.getfield 133, 3) := dk_180 0 133 (dk_at dksX1_rotor_3 16 rfl rfl)
theorem dX1_rotor_87 : decode cX1_rotor 87 = .ok (.aload 5, 2) := dk_25 5 (dk_at dksX1_rotor_3 19 rfl rfl)
theorem dX1_rotor_89 : decode cX1_rotor 89 = .ok (.aload 5, 2) := dk_25 5 (dk_at dksX1_rotor_3 21 rfl rfl)
theorem dX1_rotor_91 : decode cX1_rotor 91 = .ok (.invokevirtual 221, 3) := dk_182 0 221 (dk_at dksX1_rotor_4 0 rfl rfl)
theorem dX1_rotor_94 : decode cX1_rotor 94 = .ok (.astore 7, 2) := dk_58 7 (dk_at dksX1_rotor_4 3 rfl rfl)
theorem dX1_rotor_96 : decode cX1_rotor 96 = .ok (.aload 6, 2) := dk_25 6 (dk_at dksX1_rotor_4 5 rfl rfl)
theorem dX1_rotor_98 : decode cX1_rotor 98 = .ok (.invokevirtual 313, 3) := dk_182 1 57 (dk_at dksX1_rotor_4 7 rfl rfl)
theorem dX1_rotor_101 : decode cX1_rotor 101 = .ok (.ifCond .eq 17, 3) := dk_153 0 17 (dk_at dksX1_rotor_4 10 rfl rfl)
theorem dX1_rotor_104 : decode cX1_rotor 104 = .ok (.aload 6, 2) := dk_25 6 (dk_at dksX1_rotor_4 13 rfl rfl)
theorem dX1_rotor_106 : decode cX1_rotor 106 = .ok (.aload 7, 2) := dk_25 7 (dk_at dksX1_rotor_4 15 rfl rfl)
theorem dX1_rotor_108 : decode cX1_rotor 108 = .ok (.invokevirtual 325, 3) := dk_182 1 69 (dk_at dksX1_rotor_4 17 rfl rfl)
theorem dX1_rotor_111 : decode cX1_rotor 111 = .ok (.ifCond .eq 7, 3) := dk_153 0 7 (dk_at dksX1_rotor_4 20 rfl rfl)
theorem dX1_rotor_114 : decode cX1_rotor 114 = .ok (.iconst 1, 1) := dk_4 (dk_at dksX1_rotor_4 23 rfl rfl)
theorem dX1_rotor_115 : decode cX1_rotor 115 = .ok (.goto 4, 3) := dk_167 0 4 (dk_at dksX1_rotor_5 0 rfl rfl)
theorem dX1_rotor_118 : decode cX1_rotor 118 = .ok (.iconst 0, 1) := dk_3 (dk_at dksX1_rotor_5 3 rfl rfl)
theorem dX1_rotor_119 : decode cX1_rotor 119 = .ok (.invokestatic 316, 3) := dk_184 1 60 (dk_at dksX1_rotor_5 4 rfl rfl)
theorem dX1_rotor_122 : decode cX1_rotor 122 = .ok (.aload 6, 2) := dk_25 6 (dk_at dksX1_rotor_5 7 rfl rfl)
theorem dX1_rotor_124 : decode cX1_rotor 124 = .ok (.aload_n 0, 1) := dk_42 (dk_at dksX1_rotor_5 9 rfl rfl)
theorem dX1_rotor_125 : decode cX1_rotor 125 = .ok (.getfield 77, 3) := dk_180 0 77 (dk_at dksX1_rotor_5 10 rfl rfl)
theorem dX1_rotor_128 : decode cX1_rotor 128 = .ok (.getfield 133, 3) := dk_180 0 133 (dk_at dksX1_rotor_5 13 rfl rfl)
theorem dX1_rotor_131 : decode cX1_rotor 131 = .ok (.aload 5, 2) := dk_25 5 (dk_at dksX1_rotor_5 16 rfl rfl)
theorem dX1_rotor_133 : decode cX1_rotor 133 = .ok (.aload 4, 2) := dk_25 4 (dk_at dksX1_rotor_5 18 rfl rfl)
theorem dX1_rotor_135 : decode cX1_rotor 135 = .ok (.invokevirtual 221, 3) := dk_182 0 221 (dk_at dksX1_rotor_5 20 rfl rfl)
theorem dX1_rotor_138 : decode cX1_rotor 138 = .ok (.iconst 1, 1) := dk_4 (dk_at dksX1_rotor_5 23 rfl rfl)
theorem dX1_rotor_139 : decode cX1_rotor 139 = .ok (.invokevirtual 293, 3) := dk_182 1 37 (dk_at dksX1_rotor_6 0 rfl rfl)
theorem dX1_rotor_142 : decode cX1_rotor 142 = .ok (.astore 8, 2) := dk_58 8 (dk_at dksX1_rotor_6 3 rfl rfl)
theorem dX1_rotor_144 : decode cX1_rotor 144 = .ok (.aload_n 0, 1) := dk_42 (dk_at dksX1_rotor_6 5 rfl rfl)
theorem dX1_rotor_145 : decode cX1_rotor 145 = .ok (.getfield 77, 3) := dk_180 0 77 (dk_at dksX1_rotor_6 6 rfl rfl)
theorem dX1_rotor_148 : decode cX1_rotor 148 = .ok (.getfield 133, 3) := dk_180 0 133 (dk_at dksX1_rotor_6 9 rfl rfl)
theorem dX1_rotor_151 : decode cX1_rotor 151 = .ok (.aload 8, 2) := dk_25 8 (dk_at dksX1_rotor_6 12 rfl rfl)
theorem dX1_rotor_153 : decode cX1_rotor 153 = .ok (.aload 8, 2) := dk_25 8 (dk_at dksX1_rotor_6 14 rfl rfl)
theorem dX1_rotor_155 : decode cX1_rotor 155 = .ok (.invokestatic 306, 3) := dk_184 1 50 (dk_at dksX1_rotor_6 16 rfl rfl)
theorem dX1_rotor_158 : decode cX1_rotor 158 = .ok (.invokevirtual 221, 3) := dk_182 0 221 (dk_at dksX1_rotor_6 19 rfl rfl)
theorem dX1_rotor_161 : decode cX1_rotor 161 = .ok (.invokevirtual 303, 3) := dk_182 1 47 (dk_at dksX1_rotor_7 0 rfl rfl)
theorem dX1_rotor_164 : decode cX1_rotor 164 = .ok (.ifCond .eq 7, 3) := dk_153 0 7 (dk_at dksX1_rotor_7 3 rfl rfl)
theorem dX1_rotor_167 : decode cX1_rotor 167 = .ok (.iconst 1, 1) := dk_4 (dk_at dksX1_rotor_7 6 rfl rfl)
theorem dX1_rotor_168 : decode cX1_rotor 168 = .ok (.goto 4, 3) := dk_167 0 4 (dk_at dksX1_rotor_7 7 rfl rfl)
theorem dX1_rotor_171 : decode cX1_rotor 171 = .ok (.iconst 0, 1) := dk_3 (dk_at dksX1_rotor_7 10 rfl rfl)
theorem dX1_rotor_172 : decode cX1_rotor 172 = .ok (.invokestatic 316, 3) := dk_184 1 60 (dk_at dksX1_rotor_7 11 rfl rfl)
theorem dX1_rotor_175 : decode cX1_rotor 175 = .ok (.aload_n 0, 1) := dk_42 (dk_at dksX1_rotor_7 14 rfl rfl)
theorem dX1_rotor_176 : decode cX1_rotor 176 = .ok (.iload_n 1, 1) := dk_27 (dk_at dksX1_rotor_7 15 rfl rfl)
theorem dX1_rotor_177 : decode cX1_rotor 177 = .ok (.aload 8, 2) := dk_25 8 (dk_at dksX1_rotor_7 16 rfl rfl)
theorem dX1_rotor_179 : decode cX1_rotor 179 = .ok (.invokevirtual 208, 3) := dk_182 0 208 (dk_at dksX1_rotor_7 18 rfl rfl)
theorem dX1_rotor_182 : decode cX1_rotor 182 = .ok (.ireturn, 1) := dk_172 (dk_at dksX1_rotor_7 21 rfl rfl)
theorem dX1_rotor_183 : decode cX1_rotor 183 = .ok (.astore 6, 2) := dk_58 6 (dk_at dksX1_rotor_7 22 rfl rfl)
theorem dX1_rotor_185 : decode cX1_rotor 185 = .ok (.invokestatic 181, 3) := dk_184 0 181 (dk_at dksX1_rotor_8 0 rfl rfl)
theorem dX1_rotor_188 : decode cX1_rotor 188 = .ok (.athrow, 1) := dk_191 (dk_at dksX1_rotor_8 3 rfl rfl)
abbrev cX1_grades : ByteArray := prog_1_method_41_code
def yX1_grades : MethodName := ⟨RX1, "grades", "(I)I"⟩
def dkwX1_grades_0 : List UInt8 := [4, 188, 10, 89, 3, 27, 79, 184, 0, 161, 42, 180, 0, 77, 180, 0, 110, 27, 50, 182, 1, 47, 172]
abbrev dktX1_grades_0 : List UInt8 := dkwX1_grades_0 ++ []
theorem dksX1_grades_0 : cX1_grades.data.toList.drop 0 = dktX1_grades_0 := by decide +kernel
theorem dX1_grades_0 : decode cX1_grades 0 = .ok (.iconst 1, 1) := dk_4 (dk_at dksX1_grades_0 0 rfl rfl)
theorem dX1_grades_1 : decode cX1_grades 1 = .ok (.newarray .int, 2) := dk_188_10 (dk_at dksX1_grades_0 1 rfl rfl)
theorem dX1_grades_3 : decode cX1_grades 3 = .ok (.dup, 1) := dk_89 (dk_at dksX1_grades_0 3 rfl rfl)
theorem dX1_grades_4 : decode cX1_grades 4 = .ok (.iconst 0, 1) := dk_3 (dk_at dksX1_grades_0 4 rfl rfl)
theorem dX1_grades_5 : decode cX1_grades 5 = .ok (.iload_n 1, 1) := dk_27 (dk_at dksX1_grades_0 5 rfl rfl)
theorem dX1_grades_6 : decode cX1_grades 6 = .ok (.iastore, 1) := dk_79 (dk_at dksX1_grades_0 6 rfl rfl)
theorem dX1_grades_7 : decode cX1_grades 7 = .ok (.invokestatic 161, 3) := dk_184 0 161 (dk_at dksX1_grades_0 7 rfl rfl)
theorem dX1_grades_10 : decode cX1_grades 10 = .ok (.aload_n 0, 1) := dk_42 (dk_at dksX1_grades_0 10 rfl rfl)
theorem dX1_grades_11 : decode cX1_grades 11 = .ok (.getfield 77, 3) := dk_180 0 77 (dk_at dksX1_grades_0 11 rfl rfl)
theorem dX1_grades_14 : decode cX1_grades 14 = .ok (.getfield 110, 3) := dk_180 0 110 (dk_at dksX1_grades_0 14 rfl rfl)
theorem dX1_grades_17 : decode cX1_grades 17 = .ok (.iload_n 1, 1) := dk_27 (dk_at dksX1_grades_0 17 rfl rfl)
theorem dX1_grades_18 : decode cX1_grades 18 = .ok (.aaload, 1) := dk_50 (dk_at dksX1_grades_0 18 rfl rfl)
theorem dX1_grades_19 : decode cX1_grades 19 = .ok (.invokevirtual 303, 3) := dk_182 1 47 (dk_at dksX1_grades_0 19 rfl rfl)
theorem dX1_grades_22 : decode cX1_grades 22 = .ok (.ireturn, 1) := dk_172 (dk_at dksX1_grades_0 22 rfl rfl)
abbrev cX1_areEqual : ByteArray := prog_1_method_42_code
def yX1_areEqual : MethodName := ⟨RX1, "areEqual", "(II)Z"⟩
def dkwX1_areEqual_1 : List UInt8 := [180, 0, 77, 180, 0, 110, 28, 50, 182, 1, 69, 172]
abbrev dktX1_areEqual_1 : List UInt8 := dkwX1_areEqual_1 ++ []
def dkwX1_areEqual_0 : List UInt8 := [5, 188, 10, 89, 3, 27, 79, 89, 4, 28, 79, 184, 0, 161, 42, 180, 0, 77, 180, 0, 110, 27, 50, 42]
abbrev dktX1_areEqual_0 : List UInt8 := dkwX1_areEqual_0 ++ dktX1_areEqual_1
theorem dksX1_areEqual_0 : cX1_areEqual.data.toList.drop 0 = dktX1_areEqual_0 := by decide +kernel
theorem dksX1_areEqual_1 : cX1_areEqual.data.toList.drop 24 = dktX1_areEqual_1 := dk_seg dksX1_areEqual_0 24 rfl rfl
theorem dX1_areEqual_0 : decode cX1_areEqual 0 = .ok (.iconst 2, 1) := dk_5 (dk_at dksX1_areEqual_0 0 rfl rfl)
theorem dX1_areEqual_1 : decode cX1_areEqual 1 = .ok (.newarray .int, 2) := dk_188_10 (dk_at dksX1_areEqual_0 1 rfl rfl)
theorem dX1_areEqual_3 : decode cX1_areEqual 3 = .ok (.dup, 1) := dk_89 (dk_at dksX1_areEqual_0 3 rfl rfl)
theorem dX1_areEqual_4 : decode cX1_areEqual 4 = .ok (.iconst 0, 1) := dk_3 (dk_at dksX1_areEqual_0 4 rfl rfl)
theorem dX1_areEqual_5 : decode cX1_areEqual 5 = .ok (.iload_n 1, 1) := dk_27 (dk_at dksX1_areEqual_0 5 rfl rfl)
theorem dX1_areEqual_6 : decode cX1_areEqual 6 = .ok (.iastore, 1) := dk_79 (dk_at dksX1_areEqual_0 6 rfl rfl)
theorem dX1_areEqual_7 : decode cX1_areEqual 7 = .ok (.dup, 1) := dk_89 (dk_at dksX1_areEqual_0 7 rfl rfl)
theorem dX1_areEqual_8 : decode cX1_areEqual 8 = .ok (.iconst 1, 1) := dk_4 (dk_at dksX1_areEqual_0 8 rfl rfl)
theorem dX1_areEqual_9 : decode cX1_areEqual 9 = .ok (.iload_n 2, 1) := dk_28 (dk_at dksX1_areEqual_0 9 rfl rfl)
theorem dX1_areEqual_10 : decode cX1_areEqual 10 = .ok (.iastore, 1) := dk_79 (dk_at dksX1_areEqual_0 10 rfl rfl)
theorem dX1_areEqual_11 : decode cX1_areEqual 11 = .ok (.invokestatic 161, 3) := dk_184 0 161 (dk_at dksX1_areEqual_0 11 rfl rfl)
theorem dX1_areEqual_14 : decode cX1_areEqual 14 = .ok (.aload_n 0, 1) := dk_42 (dk_at dksX1_areEqual_0 14 rfl rfl)
theorem dX1_areEqual_15 : decode cX1_areEqual 15 = .ok (.getfield 77, 3) := dk_180 0 77 (dk_at dksX1_areEqual_0 15 rfl rfl)
theorem dX1_areEqual_18 : decode cX1_areEqual 18 = .ok (.getfield 110, 3) := dk_180 0 110 (dk_at dksX1_areEqual_0 18 rfl rfl)
theorem dX1_areEqual_21 : decode cX1_areEqual 21 = .ok (.iload_n 1, 1) := dk_27 (dk_at dksX1_areEqual_0 21 rfl rfl)
theorem dX1_areEqual_22 : decode cX1_areEqual 22 = .ok (.aaload, 1) := dk_50 (dk_at dksX1_areEqual_0 22 rfl rfl)
theorem dX1_areEqual_23 : decode cX1_areEqual 23 = .ok (.aload_n 0, 1) := dk_42 (dk_at dksX1_areEqual_0 23 rfl rfl)
theorem dX1_areEqual_24 : decode cX1_areEqual 24 = .ok (.getfield 77, 3) := dk_180 0 77 (dk_at dksX1_areEqual_1 0 rfl rfl)
theorem dX1_areEqual_27 : decode cX1_areEqual 27 = .ok (.getfield 110, 3) := dk_180 0 110 (dk_at dksX1_areEqual_1 3 rfl rfl)
theorem dX1_areEqual_30 : decode cX1_areEqual 30 = .ok (.iload_n 2, 1) := dk_28 (dk_at dksX1_areEqual_1 6 rfl rfl)
theorem dX1_areEqual_31 : decode cX1_areEqual 31 = .ok (.aaload, 1) := dk_50 (dk_at dksX1_areEqual_1 7 rfl rfl)
theorem dX1_areEqual_32 : decode cX1_areEqual 32 = .ok (.invokevirtual 325, 3) := dk_182 1 69 (dk_at dksX1_areEqual_1 8 rfl rfl)
theorem dX1_areEqual_35 : decode cX1_areEqual 35 = .ok (.ireturn, 1) := dk_172 (dk_at dksX1_areEqual_1 11 rfl rfl)
abbrev cX1_isBlade : ByteArray := prog_1_method_43_code
def yX1_isBlade : MethodName := ⟨RX1, "isBlade", "(I)Z"⟩
def dkwX1_isBlade_1 : List UInt8 := [27, 50, 182, 0, 242, 172]
abbrev dktX1_isBlade_1 : List UInt8 := dkwX1_isBlade_1 ++ []
def dkwX1_isBlade_0 : List UInt8 := [4, 188, 10, 89, 3, 27, 79, 184, 0, 161, 42, 180, 0, 77, 180, 0, 133, 42, 180, 0, 77, 180, 0, 110]
abbrev dktX1_isBlade_0 : List UInt8 := dkwX1_isBlade_0 ++ dktX1_isBlade_1
theorem dksX1_isBlade_0 : cX1_isBlade.data.toList.drop 0 = dktX1_isBlade_0 := by decide +kernel
theorem dksX1_isBlade_1 : cX1_isBlade.data.toList.drop 24 = dktX1_isBlade_1 := dk_seg dksX1_isBlade_0 24 rfl rfl
theorem dX1_isBlade_0 : decode cX1_isBlade 0 = .ok (.iconst 1, 1) := dk_4 (dk_at dksX1_isBlade_0 0 rfl rfl)
theorem dX1_isBlade_1 : decode cX1_isBlade 1 = .ok (.newarray .int, 2) := dk_188_10 (dk_at dksX1_isBlade_0 1 rfl rfl)
theorem dX1_isBlade_3 : decode cX1_isBlade 3 = .ok (.dup, 1) := dk_89 (dk_at dksX1_isBlade_0 3 rfl rfl)
theorem dX1_isBlade_4 : decode cX1_isBlade 4 = .ok (.iconst 0, 1) := dk_3 (dk_at dksX1_isBlade_0 4 rfl rfl)
theorem dX1_isBlade_5 : decode cX1_isBlade 5 = .ok (.iload_n 1, 1) := dk_27 (dk_at dksX1_isBlade_0 5 rfl rfl)
theorem dX1_isBlade_6 : decode cX1_isBlade 6 = .ok (.iastore, 1) := dk_79 (dk_at dksX1_isBlade_0 6 rfl rfl)
theorem dX1_isBlade_7 : decode cX1_isBlade 7 = .ok (.invokestatic 161, 3) := dk_184 0 161 (dk_at dksX1_isBlade_0 7 rfl rfl)
theorem dX1_isBlade_10 : decode cX1_isBlade 10 = .ok (.aload_n 0, 1) := dk_42 (dk_at dksX1_isBlade_0 10 rfl rfl)
theorem dX1_isBlade_11 : decode cX1_isBlade 11 = .ok (.getfield 77, 3) := dk_180 0 77 (dk_at dksX1_isBlade_0 11 rfl rfl)
theorem dX1_isBlade_14 : decode cX1_isBlade 14 = .ok (.getfield 133, 3) := dk_180 0 133 (dk_at dksX1_isBlade_0 14 rfl rfl)
theorem dX1_isBlade_17 : decode cX1_isBlade 17 = .ok (.aload_n 0, 1) := dk_42 (dk_at dksX1_isBlade_0 17 rfl rfl)
theorem dX1_isBlade_18 : decode cX1_isBlade 18 = .ok (.getfield 77, 3) := dk_180 0 77 (dk_at dksX1_isBlade_0 18 rfl rfl)
theorem dX1_isBlade_21 : decode cX1_isBlade 21 = .ok (.getfield 110, 3) := dk_180 0 110 (dk_at dksX1_isBlade_0 21 rfl rfl)
theorem dX1_isBlade_24 : decode cX1_isBlade 24 = .ok (.iload_n 1, 1) := dk_27 (dk_at dksX1_isBlade_1 0 rfl rfl)
theorem dX1_isBlade_25 : decode cX1_isBlade 25 = .ok (.aaload, 1) := dk_50 (dk_at dksX1_isBlade_1 1 rfl rfl)
theorem dX1_isBlade_26 : decode cX1_isBlade 26 = .ok (.invokevirtual 242, 3) := dk_182 0 242 (dk_at dksX1_isBlade_1 2 rfl rfl)
theorem dX1_isBlade_29 : decode cX1_isBlade 29 = .ok (.ireturn, 1) := dk_172 (dk_at dksX1_isBlade_1 5 rfl rfl)
abbrev cX1_isVersor : ByteArray := prog_1_method_44_code
def yX1_isVersor : MethodName := ⟨RX1, "isVersor", "(I)Z"⟩
def dkwX1_isVersor_4 : List UInt8 := [62, 132, 4, 1, 167, 255, 216, 29, 172, 78, 184, 0, 181, 191]
abbrev dktX1_isVersor_4 : List UInt8 := dkwX1_isVersor_4 ++ []
def dkwX1_isVersor_3 : List UInt8 := [162, 0, 31, 29, 153, 0, 27, 42, 44, 4, 21, 4, 120, 10, 10, 184, 0, 219, 182, 1, 63, 182, 1, 11]
abbrev dktX1_isVersor_3 : List UInt8 := dkwX1_isVersor_3 ++ dktX1_isVersor_4
def dkwX1_isVersor_2 : List UInt8 := [154, 0, 5, 3, 172, 4, 62, 3, 54, 4, 21, 4, 42, 180, 0, 77, 180, 0, 133, 180, 0, 154]
abbrev dktX1_isVersor_2 : List UInt8 := dkwX1_isVersor_2 ++ dktX1_isVersor_3
def dkwX1_isVersor_1 : List UInt8 := [154, 0, 5, 3, 172, 42, 180, 0, 77, 180, 0, 133, 44, 44, 184, 1, 50, 182, 0, 221, 182, 1, 57]
abbrev dktX1_isVersor_1 : List UInt8 := dkwX1_isVersor_1 ++ dktX1_isVersor_2
def dkwX1_isVersor_0 : List UInt8 := [4, 188, 10, 89, 3, 27, 79, 184, 0, 161, 42, 180, 0, 77, 180, 0, 110, 27, 50, 77, 44, 184, 1, 54]
abbrev dktX1_isVersor_0 : List UInt8 := dkwX1_isVersor_0 ++ dktX1_isVersor_1
theorem dksX1_isVersor_0 : cX1_isVersor.data.toList.drop 0 = dktX1_isVersor_0 := by decide +kernel
theorem dksX1_isVersor_1 : cX1_isVersor.data.toList.drop 24 = dktX1_isVersor_1 := dk_seg dksX1_isVersor_0 24 rfl rfl
theorem dksX1_isVersor_2 : cX1_isVersor.data.toList.drop 47 = dktX1_isVersor_2 := dk_seg dksX1_isVersor_1 23 rfl rfl
theorem dksX1_isVersor_3 : cX1_isVersor.data.toList.drop 69 = dktX1_isVersor_3 := dk_seg dksX1_isVersor_2 22 rfl rfl
theorem dksX1_isVersor_4 : cX1_isVersor.data.toList.drop 93 = dktX1_isVersor_4 := dk_seg dksX1_isVersor_3 24 rfl rfl
theorem dX1_isVersor_0 : decode cX1_isVersor 0 = .ok (.iconst 1, 1) := dk_4 (dk_at dksX1_isVersor_0 0 rfl rfl)
theorem dX1_isVersor_1 : decode cX1_isVersor 1 = .ok (.newarray .int, 2) := dk_188_10 (dk_at dksX1_isVersor_0 1 rfl rfl)
theorem dX1_isVersor_3 : decode cX1_isVersor 3 = .ok (.dup, 1) := dk_89 (dk_at dksX1_isVersor_0 3 rfl rfl)
theorem dX1_isVersor_4 : decode cX1_isVersor 4 = .ok (.iconst 0, 1) := dk_3 (dk_at dksX1_isVersor_0 4 rfl rfl)
theorem dX1_isVersor_5 : decode cX1_isVersor 5 = .ok (.iload_n 1, 1) := dk_27 (dk_at dksX1_isVersor_0 5 rfl rfl)
theorem dX1_isVersor_6 : decode cX1_isVersor 6 = .ok (.iastore, 1) := dk_79 (dk_at dksX1_isVersor_0 6 rfl rfl)
theorem dX1_isVersor_7 : decode cX1_isVersor 7 = .ok (.invokestatic 161, 3) := dk_184 0 161 (dk_at dksX1_isVersor_0 7 rfl rfl)
theorem dX1_isVersor_10 : decode cX1_isVersor 10 = .ok (.aload_n 0, 1) := dk_42 (dk_at dksX1_isVersor_0 10 rfl rfl)
theorem dX1_isVersor_11 : decode cX1_isVersor 11 = .ok (.getfield 77, 3) := dk_180 0 77 (dk_at dksX1_isVersor_0 11 rfl rfl)
theorem dX1_isVersor_14 : decode cX1_isVersor 14 = .ok (.getfield 110, 3) := dk_180 0 110 (dk_at dksX1_isVersor_0 14 rfl rfl)
theorem dX1_isVersor_17 : decode cX1_isVersor 17 = .ok (.iload_n 1, 1) := dk_27 (dk_at dksX1_isVersor_0 17 rfl rfl)
theorem dX1_isVersor_18 : decode cX1_isVersor 18 = .ok (.aaload, 1) := dk_50 (dk_at dksX1_isVersor_0 18 rfl rfl)
theorem dX1_isVersor_19 : decode cX1_isVersor 19 = .ok (.astore_n 2, 1) := dk_77 (dk_at dksX1_isVersor_0 19 rfl rfl)
theorem dX1_isVersor_20 : decode cX1_isVersor 20 = .ok (.aload_n 2, 1) := dk_44 (dk_at dksX1_isVersor_0 20 rfl rfl)
theorem dX1_isVersor_21 : decode cX1_isVersor 21 = .ok (.invokestatic 310, 3) := dk_184 1 54 (dk_at dksX1_isVersor_0 21 rfl rfl)
theorem dX1_isVersor_24 : decode cX1_isVersor 24 = .ok (.ifCond .ne 5, 3) := dk_154 0 5 (dk_at dksX1_isVersor_1 0 rfl rfl)
theorem dX1_isVersor_27 : decode cX1_isVersor 27 = .ok (.iconst 0, 1) := dk_3 (dk_at dksX1_isVersor_1 3 rfl rfl)
theorem dX1_isVersor_28 : decode cX1_isVersor 28 = .ok (.ireturn, 1) := dk_172 (dk_at dksX1_isVersor_1 4 rfl rfl)
theorem dX1_isVersor_29 : decode cX1_isVersor 29 = .ok (.aload_n 0, 1) := dk_42 (dk_at dksX1_isVersor_1 5 rfl rfl)
theorem dX1_isVersor_30 : decode cX1_isVersor 30 = .ok (.getfield 77, 3) := dk_180 0 77 (dk_at dksX1_isVersor_1 6 rfl rfl)
theorem dX1_isVersor_33 : decode cX1_isVersor 33 = .ok (.getfield 133, 3) := dk_180 0 133 (dk_at dksX1_isVersor_1 9 rfl rfl)
theorem dX1_isVersor_36 : decode cX1_isVersor 36 = .ok (.aload_n 2, 1) := dk_44 (dk_at dksX1_isVersor_1 12 rfl rfl)
theorem dX1_isVersor_37 : decode cX1_isVersor 37 = .ok (.aload_n 2, 1) := dk_44 (dk_at dksX1_isVersor_1 13 rfl rfl)
theorem dX1_isVersor_38 : decode cX1_isVersor 38 = .ok (.invokestatic 306, 3) := dk_184 1 50 (dk_at dksX1_isVersor_1 14 rfl rfl)
theorem dX1_isVersor_41 : decode cX1_isVersor 41 = .ok (.invokevirtual 221, 3) := dk_182 0 221 (dk_at dksX1_isVersor_1 17 rfl rfl)
theorem dX1_isVersor_44 : decode cX1_isVersor 44 = .ok (.invokevirtual 313, 3) := dk_182 1 57 (dk_at dksX1_isVersor_1 20 rfl rfl)
theorem dX1_isVersor_47 : decode cX1_isVersor 47 = .ok (.ifCond .ne 5, 3) := dk_154 0 5 (dk_at dksX1_isVersor_2 0 rfl rfl)
theorem dX1_isVersor_50 : decode cX1_isVersor 50 = .ok (.iconst 0, 1) := dk_3 (dk_at dksX1_isVersor_2 3 rfl rfl)
theorem dX1_isVersor_51 : decode cX1_isVersor 51 = .ok (.ireturn, 1) := dk_172 (dk_at dksX1_isVersor_2 4 rfl rfl)
theorem dX1_isVersor_52 : decode cX1_isVersor 52 = .ok (.iconst 1, 1) := dk_4 (dk_at dksX1_isVersor_2 5 rfl rfl)
theorem dX1_isVersor_53 : decode cX1_isVersor 53 = .ok (.istore_n 3, 1) := dk_62 (dk_at dksX1_isVersor_2 6 rfl rfl)
theorem dX1_isVersor_54 : decode cX1_isVersor 54 = .ok (.iconst 0, 1) := dk_3 (dk_at dksX1_isVersor_2 7 rfl rfl)
theorem dX1_isVersor_55 : decode cX1_isVersor 55 = .ok (.istore 4, 2) := dk_54 4 (dk_at dksX1_isVersor_2 8 rfl rfl)
theorem dX1_isVersor_57 : decode cX1_isVersor 57 = .ok (.iload 4, 2) := dk_21 4 (dk_at dksX1_isVersor_2 10 rfl rfl)
theorem dX1_isVersor_59 : decode cX1_isVersor 59 = .ok (.aload_n 0, 1) := dk_42 (dk_at dksX1_isVersor_2 12 rfl rfl)
theorem dX1_isVersor_60 : decode cX1_isVersor 60 = .ok (.getfield 77, 3) := dk_180 0 77 (dk_at dksX1_isVersor_2 13 rfl rfl)
theorem dX1_isVersor_63 : decode cX1_isVersor 63 = .ok (.getfield 133, 3) := dk_180 0 133 (dk_at dksX1_isVersor_2 16 rfl rfl)
theorem dX1_isVersor_66 : decode cX1_isVersor 66 = .ok (.getfield 154, 3) := dk_180 0 154 (dk_at dksX1_isVersor_2 19 rfl rfl)
theorem dX1_isVersor_69 : decode cX1_isVersor 69 = .ok (.if_icmp .ge 31, 3) := dk_162 0 31 (dk_at dksX1_isVersor_3 0 rfl rfl)
theorem dX1_isVersor_72 : decode cX1_isVersor 72 = .ok (.iload_n 3, 1) := dk_29 (dk_at dksX1_isVersor_3 3 rfl rfl)
theorem dX1_isVersor_73 : decode cX1_isVersor 73 = .ok (.ifCond .eq 27, 3) := dk_153 0 27 (dk_at dksX1_isVersor_3 4 rfl rfl)
theorem dX1_isVersor_76 : decode cX1_isVersor 76 = .ok (.aload_n 0, 1) := dk_42 (dk_at dksX1_isVersor_3 7 rfl rfl)
theorem dX1_isVersor_77 : decode cX1_isVersor 77 = .ok (.aload_n 2, 1) := dk_44 (dk_at dksX1_isVersor_3 8 rfl rfl)
theorem dX1_isVersor_78 : decode cX1_isVersor 78 = .ok (.iconst 1, 1) := dk_4 (dk_at dksX1_isVersor_3 9 rfl rfl)
theorem dX1_isVersor_79 : decode cX1_isVersor 79 = .ok (.iload 4, 2) := dk_21 4 (dk_at dksX1_isVersor_3 10 rfl rfl)
theorem dX1_isVersor_81 : decode cX1_isVersor 81 = .ok (.ishl, 1) := dk_120 (dk_at dksX1_isVersor_3 12 rfl rfl)
theorem dX1_isVersor_82 : decode cX1_isVersor 82 = .ok (.lconst 1, 1) := dk_10 (dk_at dksX1_isVersor_3 13 rfl rfl)
theorem dX1_isVersor_83 : decode cX1_isVersor 83 = .ok (.lconst 1, 1) := dk_10 (dk_at dksX1_isVersor_3 14 rfl rfl)
theorem dX1_isVersor_84 : decode cX1_isVersor 84 = .ok (.invokestatic 219, 3) := dk_184 0 219 (dk_at dksX1_isVersor_3 15 rfl rfl)
theorem dX1_isVersor_87 : decode cX1_isVersor 87 = .ok (.invokevirtual 319, 3) := dk_182 1 63 (dk_at dksX1_isVersor_3 18 rfl rfl)
theorem dX1_isVersor_90 : decode cX1_isVersor 90 = .ok (.invokevirtual 267, 3) := dk_182 1 11 (dk_at dksX1_isVersor_3 21 rfl rfl)
theorem dX1_isVersor_93 : decode cX1_isVersor 93 = .ok (.istore_n 3, 1) := dk_62 (dk_at dksX1_isVersor_4 0 rfl rfl)
theorem dX1_isVersor_94 : decode cX1_isVersor 94 = .ok (.iinc 4 1, 3) := dk_132 4 1 (dk_at dksX1_isVersor_4 1 rfl rfl)
theorem dX1_isVersor_97 : decode cX1_isVersor 97 = .ok (.goto (-40), 3) := dk_167 255 216 (dk_at dksX1_isVersor_4 4 rfl rfl)
theorem dX1_isVersor_100 : decode cX1_isVersor 100 = .ok (.iload_n 3, 1) := dk_29 (dk_at dksX1_isVersor_4 7 rfl rfl)
theorem dX1_isVersor_101 : decode cX1_isVersor 101 = .ok (.ireturn, 1) := dk_172 (dk_at dksX1_isVersor_4 8 rfl rfl)
theorem dX1_isVersor_102 : decode cX1_isVersor 102 = .ok (.astore_n 3, 1) := dk_78 (dk_at dksX1_isVersor_4 9 rfl rfl)
theorem dX1_isVersor_103 : decode cX1_isVersor 103 = .ok (.invokestatic 181, 3) := dk_184 0 181 (dk_at dksX1_isVersor_4 10 rfl rfl)
theorem dX1_isVersor_106 : decode cX1_isVersor 106 = .ok (.athrow, 1) := dk_191 (dk_at dksX1_isVersor_4 13 rfl rfl)
abbrev cX1_commute : ByteArray := prog_1_method_45_code
def yX1_commute : MethodName := ⟨RX1, "commute", "(II)Z"⟩
def dkwX1_commute_2 : List UInt8 := [42, 180, 0, 77, 180, 0, 133, 25, 4, 45, 182, 0, 221, 182, 1, 69, 172, 58, 5, 184, 0, 181, 191]
abbrev dktX1_commute_2 : List UInt8 := dkwX1_commute_2 ++ []
def dkwX1_commute_1 : List UInt8 := [42, 180, 0, 77, 180, 0, 110, 28, 50, 58, 4, 42, 180, 0, 77, 180, 0, 133, 45, 25, 4, 182, 0, 221]
abbrev dktX1_commute_1 : List UInt8 := dkwX1_commute_1 ++ dktX1_commute_2
def dkwX1_commute_0 : List UInt8 := [5, 188, 10, 89, 3, 27, 79, 89, 4, 28, 79, 184, 0, 161, 42, 180, 0, 77, 180, 0, 110, 27, 50, 78]
abbrev dktX1_commute_0 : List UInt8 := dkwX1_commute_0 ++ dktX1_commute_1
theorem dksX1_commute_0 : cX1_commute.data.toList.drop 0 = dktX1_commute_0 := by decide +kernel
theorem dksX1_commute_1 : cX1_commute.data.toList.drop 24 = dktX1_commute_1 := dk_seg dksX1_commute_0 24 rfl rfl
theorem dksX1_commute_2 : cX1_commute.data.toList.drop 48 = dktX1_commute_2 := dk_seg dksX1_commute_1 24 rfl rfl
theorem dX1_commute_0 : decode cX1_commute 0 = .ok (.iconst 2, 1) := dk_5 (dk_at dksX1_commute_0 0 rfl rfl)
theorem dX1_commute_1 : decode cX1_commute 1 = .ok (.newarray .int, 2) := dk_188_10 (dk_at dksX1_commute_0 1 rfl rfl)
theorem dX1_commute_3 : decode cX1_commute 3 = .ok (.dup, 1) := dk_89 (dk_at dksX1_commute_0 3 rfl rfl)
theorem dX1_commute_4 : decode cX1_commute 4 = .ok (.iconst 0, 1) := dk_3 (dk_at dksX1_commute_0 4 rfl rfl)
theorem dX1_commute_5 : decode cX1_commute 5 = .ok (.iload_n 1, 1) := dk_27 (dk_at dksX1_commute_0 5 rfl rfl)
theorem dX1_commute_6 : decode cX1_commute 6 = .ok (.iastore, 1) := dk_79 (dk_at dksX1_commute_0 6 rfl rfl)
theorem dX1_commute_7 : decode cX1_commute 7 = .ok (.dup, 1) := dk_89 (dk_at dksX1_commute_0 7 rfl rfl)
theorem dX1_commute_8 : decode cX1_commute 8 = .ok (.iconst 1, 1) := dk_4 (dk_at dksX1_commute_0 8 rfl rfl)
theorem dX1_commute_9 : decode cX1_commute 9 = .ok (.iload_n 2, 1) := dk_28 (dk_at dksX1_commute_0 9 rfl rfl)
theorem dX1_commute_10 : decode cX1_commute 10 = .ok (.iastore, 1) := dk_79 (dk_at dksX1_commute_0 10 rfl rfl)
theorem dX1_commute_11 : decode cX1_commute 11 = .ok (.invokestatic 161, 3) := dk_184 0 161 (dk_at dksX1_commute_0 11 rfl rfl)
theorem dX1_commute_14 : decode cX1_commute 14 = .ok (.aload_n 0, 1) := dk_42 (dk_at dksX1_commute_0 14 rfl rfl)
theorem dX1_commute_15 : decode cX1_commute 15 = .ok (.getfield 77, 3) := dk_180 0 77 (dk_at dksX1_commute_0 15 rfl rfl)
theorem dX1_commute_18 : decode cX1_commute 18 = .ok (.getfield 110, 3) := dk_180 0 110 (dk_at dksX1_commute_0 18 rfl rfl)
theorem dX1_commute_21 : decode cX1_commute 21 = .ok (.iload_n 1, 1) := dk_27 (dk_at dksX1_commute_0 21 rfl rfl)
theorem dX1_commute_22 : decode cX1_commute 22 = .ok (.aaload, 1) := dk_50 (dk_at dksX1_commute_0 22 rfl rfl)
theorem dX1_commute_23 : decode cX1_commute 23 = .ok (.astore_n 3, 1) := dk_78 (dk_at dksX1_commute_0 23 rfl rfl)
theorem dX1_commute_24 : decode cX1_commute 24 = .ok (.aload_n 0, 1) := dk_42 (dk_at dksX1_commute_1 0 rfl rfl)
theorem dX1_commute_25 : decode cX1_commute 25 = .ok (.getfield 77, 3) := dk_180 0 77 (dk_at dksX1_commute_1 1 rfl rfl)
theorem dX1_commute_28 : decode cX1_commute 28 = .ok (.getfield 110, 3) := dk_180 0 110 (dk_at dksX1_commute_1 4 rfl rfl)
theorem dX1_commute_31 : decode cX1_commute 31 = .ok (.iload_n 2, 1) := dk_28 (dk_at dksX1_commute_1 7 rfl rfl)
theorem dX1_commute_32 : decode cX1_commute 32 = .ok (.aaload, 1) := dk_50 (dk_at dksX1_commute_1 8 rfl rfl)
theorem dX1_commute_33 : decode cX1_commute 33 = .ok (.astore 4, 2) := dk_58 4 (dk_at dksX1_commute_1 9 rfl rfl)
theorem dX1_commute_35 : decode cX1_commute 35 = .ok (.aload_n 0, 1) := dk_42 (dk_at dksX1_commute_1 11 rfl rfl)
theorem dX1_commute_36 : decode cX1_commute 36 = .ok (.getfield 77, 3) := dk_180 0 77 (dk_at dksX1_commute_1 12 rfl rfl)
theorem dX1_commute_39 : decode cX1_commute 39 = .ok (.getfield 133, 3) := dk_180 0 133 (dk_at dksX1_commute_1 15 rfl rfl)
theorem dX1_commute_42 : decode cX1_commute 42 = .ok (.aload_n 3, 1) := dk_45 (dk_at dksX1_commute_1 18 rfl rfl)
theorem dX1_commute_43 : decode cX1_commute 43 = .ok (.aload 4, 2) := dk_25 4 (dk_at dksX1_commute_1 19 rfl rfl)
theorem dX1_commute_45 : decode cX1_commute 45 = .ok (.invokevirtual 221, 3) := dk_182 0 221 (dk_at dksX1_commute_1 21 rfl rfl)
theorem dX1_commute_48 : decode cX1_commute 48 = .ok (.aload_n 0, 1) := dk_42 (dk_at dksX1_commute_2 0 rfl rfl)
theorem dX1_commute_49 : decode cX1_commute 49 = .ok (.getfield 77, 3) := dk_180 0 77 (dk_at dksX1_commute_2 1 rfl rfl)
theorem dX1_commute_52 : decode cX1_commute 52 = .ok (.getfield 133, 3) := dk_180 0 133 (dk_at dksX1_commute_2 4 rfl rfl)
theorem dX1_commute_55 : decode cX1_commute 55 = .ok (.aload 4, 2) := dk_25 4 (dk_at dksX1_commute_2 7 rfl rfl)
theorem dX1_commute_57 : decode cX1_commute 57 = .ok (.aload_n 3, 1) := dk_45 (dk_at dksX1_commute_2 9 rfl rfl)
theorem dX1_commute_58 : decode cX1_commute 58 = .ok (.invokevirtual 221, 3) := dk_182 0 221 (dk_at dksX1_commute_2 10 rfl rfl)
theorem dX1_commute_61 : decode cX1_commute 61 = .ok (.invokevirtual 325, 3) := dk_182 1 69 (dk_at dksX1_commute_2 13 rfl rfl)
theorem dX1_commute_64 : decode cX1_commute 64 = .ok (.ireturn, 1) := dk_172 (dk_at dksX1_commute_2 16 rfl rfl)
theorem dX1_commute_65 : decode cX1_commute 65 = .ok (.astore 5, 2) := dk_58 5 (dk_at dksX1_commute_2 17 rfl rfl)
theorem dX1_commute_67 : decode cX1_commute 67 = .ok (.invokestatic 181, 3) := dk_184 0 181 (dk_at dksX1_commute_2 19 rfl rfl)
theorem dX1_commute_70 : decode cX1_commute 70 = .ok (.athrow, 1) := dk_191 (dk_at dksX1_commute_2 22 rfl rfl)
abbrev cX1_squareKind : ByteArray := prog_1_method_46_code
def yX1_squareKind : MethodName := ⟨RX1, "squareKind", "(I)I"⟩
def dkwX1_squareKind_3 : List UInt8 := [156, 0, 7, 5, 167, 0, 4, 6, 172, 77, 184, 0, 181, 191]
abbrev dktX1_squareKind_3 : List UInt8 := dkwX1_squareKind_3 ++ []
def dkwX1_squareKind_2 : List UInt8 := [44, 180, 0, 42, 3, 47, 9, 148, 158, 0, 7, 4, 167, 0, 19, 44, 180, 0, 42, 3, 47, 9, 148]
abbrev dktX1_squareKind_2 : List UInt8 := dkwX1_squareKind_2 ++ dktX1_squareKind_3
def dkwX1_squareKind_1 : List UInt8 := [27, 50, 42, 180, 0, 77, 180, 0, 110, 27, 50, 182, 0, 221, 77, 44, 182, 1, 72, 154, 0, 5, 3, 172]
abbrev dktX1_squareKind_1 : List UInt8 := dkwX1_squareKind_1 ++ dktX1_squareKind_2
def dkwX1_squareKind_0 : List UInt8 := [4, 188, 10, 89, 3, 27, 79, 184, 0, 161, 42, 180, 0, 77, 180, 0, 133, 42, 180, 0, 77, 180, 0, 110]
abbrev dktX1_squareKind_0 : List UInt8 := dkwX1_squareKind_0 ++ dktX1_squareKind_1
theorem dksX1_squareKind_0 : cX1_squareKind.data.toList.drop 0 = dktX1_squareKind_0 := by decide +kernel
theorem dksX1_squareKind_1 : cX1_squareKind.data.toList.drop 24 = dktX1_squareKind_1 := dk_seg dksX1_squareKind_0 24 rfl rfl
theorem dksX1_squareKind_2 : cX1_squareKind.data.toList.drop 48 = dktX1_squareKind_2 := dk_seg dksX1_squareKind_1 24 rfl rfl
theorem dksX1_squareKind_3 : cX1_squareKind.data.toList.drop 71 = dktX1_squareKind_3 := dk_seg dksX1_squareKind_2 23 rfl rfl
theorem dX1_squareKind_0 : decode cX1_squareKind 0 = .ok (.iconst 1, 1) := dk_4 (dk_at dksX1_squareKind_0 0 rfl rfl)
theorem dX1_squareKind_1 : decode cX1_squareKind 1 = .ok (.newarray .int, 2) := dk_188_10 (dk_at dksX1_squareKind_0 1 rfl rfl)
theorem dX1_squareKind_3 : decode cX1_squareKind 3 = .ok (.dup, 1) := dk_89 (dk_at dksX1_squareKind_0 3 rfl rfl)
theorem dX1_squareKind_4 : decode cX1_squareKind 4 = .ok (.iconst 0, 1) := dk_3 (dk_at dksX1_squareKind_0 4 rfl rfl)
theorem dX1_squareKind_5 : decode cX1_squareKind 5 = .ok (.iload_n 1, 1) := dk_27 (dk_at dksX1_squareKind_0 5 rfl rfl)
theorem dX1_squareKind_6 : decode cX1_squareKind 6 = .ok (.iastore, 1) := dk_79 (dk_at dksX1_squareKind_0 6 rfl rfl)
theorem dX1_squareKind_7 : decode cX1_squareKind 7 = .ok (.invokestatic 161, 3) := dk_184 0 161 (dk_at dksX1_squareKind_0 7 rfl rfl)
theorem dX1_squareKind_10 : decode cX1_squareKind 10 = .ok (.aload_n 0, 1) := dk_42 (dk_at dksX1_squareKind_0 10 rfl rfl)
theorem dX1_squareKind_11 : decode cX1_squareKind 11 = .ok (.getfield 77, 3) := dk_180 0 77 (dk_at dksX1_squareKind_0 11 rfl rfl)
theorem dX1_squareKind_14 : decode cX1_squareKind 14 = .ok (.getfield 133, 3) := dk_180 0 133 (dk_at dksX1_squareKind_0 14 rfl rfl)
theorem dX1_squareKind_17 : decode cX1_squareKind 17 = .ok (.aload_n 0, 1) := dk_42 (dk_at dksX1_squareKind_0 17 rfl rfl)
theorem dX1_squareKind_18 : decode cX1_squareKind 18 = .ok (.getfield 77, 3) := dk_180 0 77 (dk_at dksX1_squareKind_0 18 rfl rfl)
theorem dX1_squareKind_21 : decode cX1_squareKind 21 = .ok (.getfield 110, 3) := dk_180 0 110 (dk_at dksX1_squareKind_0 21 rfl rfl)
theorem dX1_squareKind_24 : decode cX1_squareKind 24 = .ok (.iload_n 1, 1) := dk_27 (dk_at dksX1_squareKind_1 0 rfl rfl)
theorem dX1_squareKind_25 : decode cX1_squareKind 25 = .ok (.aaload, 1) := dk_50 (dk_at dksX1_squareKind_1 1 rfl rfl)
theorem dX1_squareKind_26 : decode cX1_squareKind 26 = .ok (.aload_n 0, 1) := dk_42 (dk_at dksX1_squareKind_1 2 rfl rfl)
theorem dX1_squareKind_27 : decode cX1_squareKind 27 = .ok (.getfield 77, 3) := dk_180 0 77 (dk_at dksX1_squareKind_1 3 rfl rfl)
theorem dX1_squareKind_30 : decode cX1_squareKind 30 = .ok (.getfield 110, 3) := dk_180 0 110 (dk_at dksX1_squareKind_1 6 rfl rfl)
theorem dX1_squareKind_33 : decode cX1_squareKind 33 = .ok (.iload_n 1, 1) := dk_27 (dk_at dksX1_squareKind_1 9 rfl rfl)
theorem dX1_squareKind_34 : decode cX1_squareKind 34 = .ok (.aaload, 1) := dk_50 (dk_at dksX1_squareKind_1 10 rfl rfl)
theorem dX1_squareKind_35 : decode cX1_squareKind 35 = .ok (.invokevirtual 221, 3) := dk_182 0 221 (dk_at dksX1_squareKind_1 11 rfl rfl)
theorem dX1_squareKind_38 : decode cX1_squareKind 38 = .ok (.astore_n 2, 1) := dk_77 (dk_at dksX1_squareKind_1 14 rfl rfl)
theorem dX1_squareKind_39 : decode cX1_squareKind 39 = .ok (.aload_n 2, 1) := dk_44 (dk_at dksX1_squareKind_1 15 rfl rfl)
theorem dX1_squareKind_40 : decode cX1_squareKind 40 = .ok (.invokevirtual 328, 3) := dk_182 1 72 (dk_at dksX1_squareKind_1 16 rfl rfl)
theorem dX1_squareKind_43 : decode cX1_squareKind 43 = .ok (.ifCond .ne 5, 3) := dk_154 0 5 (dk_at dksX1_squareKind_1 19 rfl rfl)
theorem dX1_squareKind_46 : decode cX1_squareKind 46 = .ok (.iconst 0, 1) := dk_3 (dk_at dksX1_squareKind_1 22 rfl rfl)
theorem dX1_squareKind_47 : decode cX1_squareKind 47 = .ok (.ireturn, 1) := dk_172 (dk_at dksX1_squareKind_1 23 rfl rfl)
theorem dX1_squareKind_48 : decode cX1_squareKind 48 = .ok (.aload_n 2, 1) := dk_44 (dk_at dksX1_squareKind_2 0 rfl rfl)
theorem dX1_squareKind_49 : decode cX1_squareKind 49 = .ok (.getfield 42, 3) := dk_180 0 42 (dk_at dksX1_squareKind_2 1 rfl rfl)
theorem dX1_squareKind_52 : decode cX1_squareKind 52 = .ok (.iconst 0, 1) := dk_3 (dk_at dksX1_squareKind_2 4 rfl rfl)
theorem dX1_squareKind_53 : decode cX1_squareKind 53 = .ok (.laload, 1) := dk_47 (dk_at dksX1_squareKind_2 5 rfl rfl)
theorem dX1_squareKind_54 : decode cX1_squareKind 54 = .ok (.lconst 0, 1) := dk_9 (dk_at dksX1_squareKind_2 6 rfl rfl)
theorem dX1_squareKind_55 : decode cX1_squareKind 55 = .ok (.lcmp, 1) := dk_148 (dk_at dksX1_squareKind_2 7 rfl rfl)
theorem dX1_squareKind_56 : decode cX1_squareKind 56 = .ok (.ifCond .le 7, 3) := dk_158 0 7 (dk_at dksX1_squareKind_2 8 rfl rfl)
theorem dX1_squareKind_59 : decode cX1_squareKind 59 = .ok (.iconst 1, 1) := dk_4 (dk_at dksX1_squareKind_2 11 rfl rfl)
theorem dX1_squareKind_60 : decode cX1_squareKind 60 = .ok (.goto 19, 3) := dk_167 0 19 (dk_at dksX1_squareKind_2 12 rfl rfl)
theorem dX1_squareKind_63 : decode cX1_squareKind 63 = .ok (.aload_n 2, 1) := dk_44 (dk_at dksX1_squareKind_2 15 rfl rfl)
theorem dX1_squareKind_64 : decode cX1_squareKind 64 = .ok (.getfield 42, 3) := dk_180 0 42 (dk_at dksX1_squareKind_2 16 rfl rfl)
theorem dX1_squareKind_67 : decode cX1_squareKind 67 = .ok (.iconst 0, 1) := dk_3 (dk_at dksX1_squareKind_2 19 rfl rfl)
theorem dX1_squareKind_68 : decode cX1_squareKind 68 = .ok (.laload, 1) := dk_47 (dk_at dksX1_squareKind_2 20 rfl rfl)
theorem dX1_squareKind_69 : decode cX1_squareKind 69 = .ok (.lconst 0, 1) := dk_9 (dk_at dksX1_squareKind_2 21 rfl rfl)
theorem dX1_squareKind_70 : decode cX1_squareKind 70 = .ok (.lcmp, 1) := dk_148 (dk_at dksX1_squareKind_2 22 rfl rfl)
theorem dX1_squareKind_71 : decode cX1_squareKind 71 = .ok (.ifCond .ge 7, 3) := dk_156 0 7 (dk_at dksX1_squareKind_3 0 rfl rfl)
theorem dX1_squareKind_74 : decode cX1_squareKind 74 = .ok (.iconst 2, 1) := dk_5 (dk_at dksX1_squareKind_3 3 rfl rfl)
theorem dX1_squareKind_75 : decode cX1_squareKind 75 = .ok (.goto 4, 3) := dk_167 0 4 (dk_at dksX1_squareKind_3 4 rfl rfl)
theorem dX1_squareKind_78 : decode cX1_squareKind 78 = .ok (.iconst 3, 1) := dk_6 (dk_at dksX1_squareKind_3 7 rfl rfl)
theorem dX1_squareKind_79 : decode cX1_squareKind 79 = .ok (.ireturn, 1) := dk_172 (dk_at dksX1_squareKind_3 8 rfl rfl)
theorem dX1_squareKind_80 : decode cX1_squareKind 80 = .ok (.astore_n 2, 1) := dk_77 (dk_at dksX1_squareKind_3 9 rfl rfl)
theorem dX1_squareKind_81 : decode cX1_squareKind 81 = .ok (.invokestatic 181, 3) := dk_184 0 181 (dk_at dksX1_squareKind_3 10 rfl rfl)
theorem dX1_squareKind_84 : decode cX1_squareKind 84 = .ok (.athrow, 1) := dk_191 (dk_at dksX1_squareKind_3 13 rfl rfl)
abbrev cX1_vectorsIn : ByteArray := prog_1_method_47_code
def yX1_vectorsIn : MethodName := ⟨RX1, "vectorsIn", "(I)I"⟩
def dkwX1_vectorsIn_1 : List UInt8 := [27, 50, 182, 1, 75, 172]
abbrev dktX1_vectorsIn_1 : List UInt8 := dkwX1_vectorsIn_1 ++ []
def dkwX1_vectorsIn_0 : List UInt8 := [4, 188, 10, 89, 3, 27, 79, 184, 0, 161, 42, 180, 0, 77, 180, 0, 133, 42, 180, 0, 77, 180, 0, 110]
abbrev dktX1_vectorsIn_0 : List UInt8 := dkwX1_vectorsIn_0 ++ dktX1_vectorsIn_1
theorem dksX1_vectorsIn_0 : cX1_vectorsIn.data.toList.drop 0 = dktX1_vectorsIn_0 := by decide +kernel
theorem dksX1_vectorsIn_1 : cX1_vectorsIn.data.toList.drop 24 = dktX1_vectorsIn_1 := dk_seg dksX1_vectorsIn_0 24 rfl rfl
theorem dX1_vectorsIn_0 : decode cX1_vectorsIn 0 = .ok (.iconst 1, 1) := dk_4 (dk_at dksX1_vectorsIn_0 0 rfl rfl)
theorem dX1_vectorsIn_1 : decode cX1_vectorsIn 1 = .ok (.newarray .int, 2) := dk_188_10 (dk_at dksX1_vectorsIn_0 1 rfl rfl)
theorem dX1_vectorsIn_3 : decode cX1_vectorsIn 3 = .ok (.dup, 1) := dk_89 (dk_at dksX1_vectorsIn_0 3 rfl rfl)
theorem dX1_vectorsIn_4 : decode cX1_vectorsIn 4 = .ok (.iconst 0, 1) := dk_3 (dk_at dksX1_vectorsIn_0 4 rfl rfl)
theorem dX1_vectorsIn_5 : decode cX1_vectorsIn 5 = .ok (.iload_n 1, 1) := dk_27 (dk_at dksX1_vectorsIn_0 5 rfl rfl)
theorem dX1_vectorsIn_6 : decode cX1_vectorsIn 6 = .ok (.iastore, 1) := dk_79 (dk_at dksX1_vectorsIn_0 6 rfl rfl)
theorem dX1_vectorsIn_7 : decode cX1_vectorsIn 7 = .ok (.invokestatic 161, 3) := dk_184 0 161 (dk_at dksX1_vectorsIn_0 7 rfl rfl)
theorem dX1_vectorsIn_10 : decode cX1_vectorsIn 10 = .ok (.aload_n 0, 1) := dk_42 (dk_at dksX1_vectorsIn_0 10 rfl rfl)
theorem dX1_vectorsIn_11 : decode cX1_vectorsIn 11 = .ok (.getfield 77, 3) := dk_180 0 77 (dk_at dksX1_vectorsIn_0 11 rfl rfl)
theorem dX1_vectorsIn_14 : decode cX1_vectorsIn 14 = .ok (.getfield 133, 3) := dk_180 0 133 (dk_at dksX1_vectorsIn_0 14 rfl rfl)
theorem dX1_vectorsIn_17 : decode cX1_vectorsIn 17 = .ok (.aload_n 0, 1) := dk_42 (dk_at dksX1_vectorsIn_0 17 rfl rfl)
theorem dX1_vectorsIn_18 : decode cX1_vectorsIn 18 = .ok (.getfield 77, 3) := dk_180 0 77 (dk_at dksX1_vectorsIn_0 18 rfl rfl)
theorem dX1_vectorsIn_21 : decode cX1_vectorsIn 21 = .ok (.getfield 110, 3) := dk_180 0 110 (dk_at dksX1_vectorsIn_0 21 rfl rfl)
theorem dX1_vectorsIn_24 : decode cX1_vectorsIn 24 = .ok (.iload_n 1, 1) := dk_27 (dk_at dksX1_vectorsIn_1 0 rfl rfl)
theorem dX1_vectorsIn_25 : decode cX1_vectorsIn 25 = .ok (.aaload, 1) := dk_50 (dk_at dksX1_vectorsIn_1 1 rfl rfl)
theorem dX1_vectorsIn_26 : decode cX1_vectorsIn 26 = .ok (.invokevirtual 331, 3) := dk_182 1 75 (dk_at dksX1_vectorsIn_1 2 rfl rfl)
theorem dX1_vectorsIn_29 : decode cX1_vectorsIn 29 = .ok (.ireturn, 1) := dk_172 (dk_at dksX1_vectorsIn_1 5 rfl rfl)
abbrev cX1_point : ByteArray := prog_1_method_50_code
def yX1_point : MethodName := ⟨RX1, "point", "(IIIII)I"⟩
def dkwX1_point_10 : List UInt8 := [42, 27, 25, 6, 22, 7, 22, 7, 105, 184, 1, 8, 182, 0, 208, 172, 58, 12, 184, 0, 181, 191]
abbrev dktX1_point_10 : List UInt8 := dkwX1_point_10 ++ []
def dkwX1_point_9 : List UInt8 := [22, 9, 22, 7, 22, 7, 105, 101, 80, 25, 6, 21, 11, 4, 96, 22, 9, 22, 7, 22, 7, 105, 97, 80]
abbrev dktX1_point_9 : List UInt8 := dkwX1_point_9 ++ dktX1_point_10
def dkwX1_point_8 : List UInt8 := [21, 11, 5, 164, 0, 17, 25, 6, 5, 20, 1, 78, 21, 4, 133, 105, 22, 7, 105, 80, 25, 6, 21, 11]
abbrev dktX1_point_8 : List UInt8 := dkwX1_point_8 ++ dktX1_point_9
def dkwX1_point_7 : List UInt8 := [105, 22, 7, 105, 80, 21, 11, 4, 164, 0, 16, 25, 6, 4, 20, 1, 78, 29, 133, 105, 22, 7, 105, 80]
abbrev dktX1_point_7 : List UInt8 := dkwX1_point_7 ++ dktX1_point_8
def dkwX1_point_6 : List UInt8 := [21, 4, 133, 21, 4, 133, 105, 97, 55, 9, 42, 182, 1, 91, 54, 11, 25, 6, 3, 20, 1, 78, 28, 133]
abbrev dktX1_point_6 : List UInt8 := dkwX1_point_6 ++ dktX1_point_7
def dkwX1_point_5 : List UInt8 := [184, 0, 245, 8, 188, 11, 58, 6, 21, 5, 133, 55, 7, 28, 133, 28, 133, 105, 29, 133, 29, 133, 105, 97]
abbrev dktX1_point_5 : List UInt8 := dkwX1_point_5 ++ dktX1_point_6
def dkwX1_point_4 : List UInt8 := [182, 1, 91, 5, 163, 0, 8, 21, 4, 154, 0, 7, 4, 167, 0, 4, 3, 184, 0, 125, 42, 182, 1, 88]
abbrev dktX1_point_4 : List UInt8 := dkwX1_point_4 ++ dktX1_point_5
def dkwX1_point_3 : List UInt8 := [184, 0, 125, 42, 182, 1, 88, 153, 0, 28, 42, 182, 1, 91, 4, 163, 0, 7, 29, 154, 0, 20, 42]
abbrev dktX1_point_3 : List UInt8 := dkwX1_point_3 ++ dktX1_point_4
def dkwX1_point_2 : List UInt8 := [184, 0, 102, 153, 0, 20, 21, 5, 133, 10, 20, 1, 86, 184, 0, 102, 153, 0, 7, 4, 167, 0, 4, 3]
abbrev dktX1_point_2 : List UInt8 := dkwX1_point_2 ++ dktX1_point_3
def dkwX1_point_1 : List UInt8 := [29, 133, 20, 1, 82, 20, 1, 84, 184, 0, 102, 153, 0, 35, 21, 4, 133, 20, 1, 82, 20, 1, 84]
abbrev dktX1_point_1 : List UInt8 := dkwX1_point_1 ++ dktX1_point_2
def dkwX1_point_0 : List UInt8 := [4, 188, 10, 89, 3, 27, 79, 184, 0, 161, 28, 133, 20, 1, 82, 20, 1, 84, 184, 0, 102, 153, 0, 49]
abbrev dktX1_point_0 : List UInt8 := dkwX1_point_0 ++ dktX1_point_1
theorem dksX1_point_0 : cX1_point.data.toList.drop 0 = dktX1_point_0 := by decide +kernel
theorem dksX1_point_1 : cX1_point.data.toList.drop 24 = dktX1_point_1 := dk_seg dksX1_point_0 24 rfl rfl
theorem dksX1_point_2 : cX1_point.data.toList.drop 47 = dktX1_point_2 := dk_seg dksX1_point_1 23 rfl rfl
theorem dksX1_point_3 : cX1_point.data.toList.drop 71 = dktX1_point_3 := dk_seg dksX1_point_2 24 rfl rfl
theorem dksX1_point_4 : cX1_point.data.toList.drop 94 = dktX1_point_4 := dk_seg dksX1_point_3 23 rfl rfl
theorem dksX1_point_5 : cX1_point.data.toList.drop 118 = dktX1_point_5 := dk_seg dksX1_point_4 24 rfl rfl
theorem dksX1_point_6 : cX1_point.data.toList.drop 142 = dktX1_point_6 := dk_seg dksX1_point_5 24 rfl rfl
theorem dksX1_point_7 : cX1_point.data.toList.drop 166 = dktX1_point_7 := dk_seg dksX1_point_6 24 rfl rfl
theorem dksX1_point_8 : cX1_point.data.toList.drop 190 = dktX1_point_8 := dk_seg dksX1_point_7 24 rfl rfl
theorem dksX1_point_9 : cX1_point.data.toList.drop 214 = dktX1_point_9 := dk_seg dksX1_point_8 24 rfl rfl
theorem dksX1_point_10 : cX1_point.data.toList.drop 238 = dktX1_point_10 := dk_seg dksX1_point_9 24 rfl rfl
theorem dX1_point_0 : decode cX1_point 0 = .ok (.iconst 1, 1) := dk_4 (dk_at dksX1_point_0 0 rfl rfl)
theorem dX1_point_1 : decode cX1_point 1 = .ok (.newarray .int, 2) := dk_188_10 (dk_at dksX1_point_0 1 rfl rfl)
theorem dX1_point_3 : decode cX1_point 3 = .ok (.dup, 1) := dk_89 (dk_at dksX1_point_0 3 rfl rfl)
theorem dX1_point_4 : decode cX1_point 4 = .ok (.iconst 0, 1) := dk_3 (dk_at dksX1_point_0 4 rfl rfl)
theorem dX1_point_5 : decode cX1_point 5 = .ok (.iload_n 1, 1) := dk_27 (dk_at dksX1_point_0 5 rfl rfl)
theorem dX1_point_6 : decode cX1_point 6 = .ok (.iastore, 1) := dk_79 (dk_at dksX1_point_0 6 rfl rfl)
theorem dX1_point_7 : decode cX1_point 7 = .ok (.invokestatic 161, 3) := dk_184 0 161 (dk_at dksX1_point_0 7 rfl rfl)
theorem dX1_point_10 : decode cX1_point 10 = .ok (.iload_n 2, 1) := dk_28 (dk_at dksX1_point_0 10 rfl rfl)
theorem dX1_point_11 : decode cX1_point 11 = .ok (.i2l, 1) := dk_133 (dk_at dksX1_point_0 11 rfl rfl)
theorem dX1_point_12 : decode cX1_point 12 = .ok (.ldc2_w 338, 3) := dk_20 1 82 (dk_at dksX1_point_0 12 rfl rfl)
theorem dX1_point_15 : decode cX1_point 15 = .ok (.ldc2_w 340, 3) := dk_20 1 84 (dk_at dksX1_point_0 15 rfl rfl)
theorem dX1_point_18 : decode cX1_point 18 = .ok (.invokestatic 102, 3) := dk_184 0 102 (dk_at dksX1_point_0 18 rfl rfl)
theorem dX1_point_21 : decode cX1_point 21 = .ok (.ifCond .eq 49, 3) := dk_153 0 49 (dk_at dksX1_point_0 21 rfl rfl)
theorem dX1_point_24 : decode cX1_point 24 = .ok (.iload_n 3, 1) := dk_29 (dk_at dksX1_point_1 0 rfl rfl)
theorem dX1_point_25 : decode cX1_point 25 = .ok (.i2l, 1) := dk_133 (dk_at dksX1_point_1 1 rfl rfl)
theorem dX1_point_26 : decode cX1_point 26 = .ok (.ldc2_w 338, 3) := dk_20 1 82 (dk_at dksX1_point_1 2 rfl rfl)
theorem dX1_point_29 : decode cX1_point 29 = .ok (.ldc2_w 340, 3) := dk_20 1 84 (dk_at dksX1_point_1 5 rfl rfl)
theorem dX1_point_32 : decode cX1_point 32 = .ok (.invokestatic 102, 3) := dk_184 0 102 (dk_at dksX1_point_1 8 rfl rfl)
theorem dX1_point_35 : decode cX1_point 35 = .ok (.ifCond .eq 35, 3) := dk_153 0 35 (dk_at dksX1_point_1 11 rfl rfl)
theorem dX1_point_38 : decode cX1_point 38 = .ok (.iload 4, 2) := dk_21 4 (dk_at dksX1_point_1 14 rfl rfl)
theorem dX1_point_40 : decode cX1_point 40 = .ok (.i2l, 1) := dk_133 (dk_at dksX1_point_1 16 rfl rfl)
theorem dX1_point_41 : decode cX1_point 41 = .ok (.ldc2_w 338, 3) := dk_20 1 82 (dk_at dksX1_point_1 17 rfl rfl)
theorem dX1_point_44 : decode cX1_point 44 = .ok (.ldc2_w 340, 3) := dk_20 1 84 (dk_at dksX1_point_1 20 rfl rfl)
theorem dX1_point_47 : decode cX1_point 47 = .ok (.invokestatic 102, 3) := dk_184 0 102 (dk_at dksX1_point_2 0 rfl rfl)
theorem dX1_point_50 : decode cX1_point 50 = .ok (.ifCond .eq 20, 3) := dk_153 0 20 (dk_at dksX1_point_2 3 rfl rfl)
theorem dX1_point_53 : decode cX1_point 53 = .ok (.iload 5, 2) := dk_21 5 (dk_at dksX1_point_2 6 rfl rfl)
theorem dX1_point_55 : decode cX1_point 55 = .ok (.i2l, 1) := dk_133 (dk_at dksX1_point_2 8 rfl rfl)
theorem dX1_point_56 : decode cX1_point 56 = .ok (.lconst 1, 1) := dk_10 (dk_at dksX1_point_2 9 rfl rfl)
theorem dX1_point_57 : decode cX1_point 57 = .ok (.ldc2_w 342, 3) := dk_20 1 86 (dk_at dksX1_point_2 10 rfl rfl)
theorem dX1_point_60 : decode cX1_point 60 = .ok (.invokestatic 102, 3) := dk_184 0 102 (dk_at dksX1_point_2 13 rfl rfl)
theorem dX1_point_63 : decode cX1_point 63 = .ok (.ifCond .eq 7, 3) := dk_153 0 7 (dk_at dksX1_point_2 16 rfl rfl)
theorem dX1_point_66 : decode cX1_point 66 = .ok (.iconst 1, 1) := dk_4 (dk_at dksX1_point_2 19 rfl rfl)
theorem dX1_point_67 : decode cX1_point 67 = .ok (.goto 4, 3) := dk_167 0 4 (dk_at dksX1_point_2 20 rfl rfl)
theorem dX1_point_70 : decode cX1_point 70 = .ok (.iconst 0, 1) := dk_3 (dk_at dksX1_point_2 23 rfl rfl)
theorem dX1_point_71 : decode cX1_point 71 = .ok (.invokestatic 125, 3) := dk_184 0 125 (dk_at dksX1_point_3 0 rfl rfl)
theorem dX1_point_74 : decode cX1_point 74 = .ok (.aload_n 0, 1) := dk_42 (dk_at dksX1_point_3 3 rfl rfl)
theorem dX1_point_75 : decode cX1_point 75 = .ok (.invokevirtual 344, 3) := dk_182 1 88 (dk_at dksX1_point_3 4 rfl rfl)
theorem dX1_point_78 : decode cX1_point 78 = .ok (.ifCond .eq 28, 3) := dk_153 0 28 (dk_at dksX1_point_3 7 rfl rfl)
theorem dX1_point_81 : decode cX1_point 81 = .ok (.aload_n 0, 1) := dk_42 (dk_at dksX1_point_3 10 rfl rfl)
theorem dX1_point_82 : decode cX1_point 82 = .ok (.invokevirtual 347, 3) := dk_182 1 91 (dk_at dksX1_point_3 11 rfl rfl)
theorem dX1_point_85 : decode cX1_point 85 = .ok (.iconst 1, 1) := dk_4 (dk_at dksX1_point_3 14 rfl rfl)
theorem dX1_point_86 : decode cX1_point 86 = .ok (.if_icmp .gt 7, 3) := dk_163 0 7 (dk_at dksX1_point_3 15 rfl rfl)
theorem dX1_point_89 : decode cX1_point 89 = .ok (.iload_n 3, 1) := dk_29 (dk_at dksX1_point_3 18 rfl rfl)
theorem dX1_point_90 : decode cX1_point 90 = .ok (.ifCond .ne 20, 3) := dk_154 0 20 (dk_at dksX1_point_3 19 rfl rfl)
theorem dX1_point_93 : decode cX1_point 93 = .ok (.aload_n 0, 1) := dk_42 (dk_at dksX1_point_3 22 rfl rfl)
theorem dX1_point_94 : decode cX1_point 94 = .ok (.invokevirtual 347, 3) := dk_182 1 91 (dk_at dksX1_point_4 0 rfl rfl)
theorem dX1_point_97 : decode cX1_point 97 = .ok (.iconst 2, 1) := dk_5 (dk_at dksX1_point_4 3 rfl rfl)
theorem dX1_point_98 : decode cX1_point 98 = .ok (.if_icmp .gt 8, 3) := dk_163 0 8 (dk_at dksX1_point_4 4 rfl rfl)
theorem dX1_point_101 : decode cX1_point 101 = .ok (.iload 4, 2) := dk_21 4 (dk_at dksX1_point_4 7 rfl rfl)
theorem dX1_point_103 : decode cX1_point 103 = .ok (.ifCond .ne 7, 3) := dk_154 0 7 (dk_at dksX1_point_4 9 rfl rfl)
theorem dX1_point_106 : decode cX1_point 106 = .ok (.iconst 1, 1) := dk_4 (dk_at dksX1_point_4 12 rfl rfl)
theorem dX1_point_107 : decode cX1_point 107 = .ok (.goto 4, 3) := dk_167 0 4 (dk_at dksX1_point_4 13 rfl rfl)
theorem dX1_point_110 : decode cX1_point 110 = .ok (.iconst 0, 1) := dk_3 (dk_at dksX1_point_4 16 rfl rfl)
theorem dX1_point_111 : decode cX1_point 111 = .ok (.invokestatic 125, 3) := dk_184 0 125 (dk_at dksX1_point_4 17 rfl rfl)
theorem dX1_point_114 : decode cX1_point 114 = .ok (.aload_n 0, 1) := dk_42 (dk_at dksX1_point_4 20 rfl rfl)
theorem dX1_point_115 : decode cX1_point 115 = .ok (.invokevirtual 344, 3) := dk_182 1 88 (dk_at dksX1_point_4 21 rfl rfl)
theorem dX1_point_118 : decode cX1_point 118 = .ok (.invokestatic 245, 3) := dk_184 0 245 (dk_at dksX1_point_5 0 rfl rfl)
theorem dX1_point_121 : decode cX1_point 121 = .ok (.iconst 5, 1) := dk_8 (dk_at dksX1_point_5 3 rfl rfl)
theorem dX1_point_122 : decode cX1_point 122 = .ok (.newarray .long, 2) := dk_188_11 (dk_at dksX1_point_5 4 rfl rfl)
theorem dX1_point_124 : decode cX1_point 124 = .ok (.astore 6, 2) := dk_58 6 (dk_at dksX1_point_5 6 rfl rfl)
theorem dX1_point_126 : decode cX1_point 126 = .ok (.iload 5, 2) := dk_21 5 (dk_at dksX1_point_5 8 rfl rfl)
theorem dX1_point_128 : decode cX1_point 128 = .ok (.i2l, 1) := dk_133 (dk_at dksX1_point_5 10 rfl rfl)
theorem dX1_point_129 : decode cX1_point 129 = .ok (.lstore 7, 2) := dk_55 7 (dk_at dksX1_point_5 11 rfl rfl)
theorem dX1_point_131 : decode cX1_point 131 = .ok (.iload_n 2, 1) := dk_28 (dk_at dksX1_point_5 13 rfl rfl)
theorem dX1_point_132 : decode cX1_point 132 = .ok (.i2l, 1) := dk_133 (dk_at dksX1_point_5 14 rfl rfl)
theorem dX1_point_133 : decode cX1_point 133 = .ok (.iload_n 2, 1) := dk_28 (dk_at dksX1_point_5 15 rfl rfl)
theorem dX1_point_134 : decode cX1_point 134 = .ok (.i2l, 1) := dk_133 (dk_at dksX1_point_5 16 rfl rfl)
theorem dX1_point_135 : decode cX1_point 135 = .ok (.lmul, 1) := dk_105 (dk_at dksX1_point_5 17 rfl rfl)
theorem dX1_point_136 : decode cX1_point 136 = .ok (.iload_n 3, 1) := dk_29 (dk_at dksX1_point_5 18 rfl rfl)
theorem dX1_point_137 : decode cX1_point 137 = .ok (.i2l, 1) := dk_133 (dk_at dksX1_point_5 19 rfl rfl)
theorem dX1_point_138 : decode cX1_point 138 = .ok (.iload_n 3, 1) := dk_29 (dk_at dksX1_point_5 20 rfl rfl)
theorem dX1_point_139 : decode cX1_point 139 = .ok (.i2l, 1) := dk_133 (dk_at dksX1_point_5 21 rfl rfl)
theorem dX1_point_140 : decode cX1_point 140 = .ok (.lmul, 1) := dk_105 (dk_at dksX1_point_5 22 rfl rfl)
theorem dX1_point_141 : decode cX1_point 141 = .ok (.ladd, 1) := dk_97 (dk_at dksX1_point_5 23 rfl rfl)
theorem dX1_point_142 : decode cX1_point 142 = .ok (.iload 4, 2) := dk_21 4 (dk_at dksX1_point_6 0 rfl rfl)
theorem dX1_point_144 : decode cX1_point 144 = .ok (.i2l, 1) := dk_133 (dk_at dksX1_point_6 2 rfl rfl)
theorem dX1_point_145 : decode cX1_point 145 = .ok (.iload 4, 2) := dk_21 4 (dk_at dksX1_point_6 3 rfl rfl)
theorem dX1_point_147 : decode cX1_point 147 = .ok (.i2l, 1) := dk_133 (dk_at dksX1_point_6 5 rfl rfl)
theorem dX1_point_148 : decode cX1_point 148 = .ok (.lmul, 1) := dk_105 (dk_at dksX1_point_6 6 rfl rfl)
theorem dX1_point_149 : decode cX1_point 149 = .ok (.ladd, 1) := dk_97 (dk_at dksX1_point_6 7 rfl rfl)
theorem dX1_point_150 : decode cX1_point 150 = .ok (.lstore 9, 2) := dk_55 9 (dk_at dksX1_point_6 8 rfl rfl)
theorem dX1_point_152 : decode cX1_point 152 = .ok (.aload_n 0, 1) := dk_42 (dk_at dksX1_point_6 10 rfl rfl)
theorem dX1_point_153 : decode cX1_point 153 = .ok (.invokevirtual 347, 3) := dk_182 1 91 (dk_at dksX1_point_6 11 rfl rfl)
theorem dX1_point_156 : decode cX1_point 156 = .ok (.istore 11, 2) := dk_54 11 (dk_at dksX1_point_6 14 rfl rfl)
theorem dX1_point_158 : decode cX1_point 158 = .ok (.aload 6, 2) := dk_25 6 (dk_at dksX1_point_6 16 rfl rfl)
theorem dX1_point_160 : decode cX1_point 160 = .ok (.iconst 0, 1) := dk_3 (dk_at dksX1_point_6 18 rfl rfl)
theorem dX1_point_161 : decode cX1_point 161 = .ok (.ldc2_w 334, 3) := dk_20 1 78 (dk_at dksX1_point_6 19 rfl rfl)
theorem dX1_point_164 : decode cX1_point 164 = .ok (.iload_n 2, 1) := dk_28 (dk_at dksX1_point_6 22 rfl rfl)
theorem dX1_point_165 : decode cX1_point 165 = .ok (.i2l, 1) := dk_133 (dk_at dksX1_point_6 23 rfl rfl)
theorem dX1_point_166 : decode cX1_point 166 = .ok (.lmul, 1) := dk_105 (dk_at dksX1_point_7 0 rfl rfl)
theorem dX1_point_167 : decode cX1_point 167 = .ok (.lload 7, 2) := dk_22 7 (dk_at dksX1_point_7 1 rfl rfl)
theorem dX1_point_169 : decode cX1_point 169 = .ok (.lmul, 1) := dk_105 (dk_at dksX1_point_7 3 rfl rfl)
theorem dX1_point_170 : decode cX1_point 170 = .ok (.lastore, 1) := dk_80 (dk_at dksX1_point_7 4 rfl rfl)
theorem dX1_point_171 : decode cX1_point 171 = .ok (.iload 11, 2) := dk_21 11 (dk_at dksX1_point_7 5 rfl rfl)
theorem dX1_point_173 : decode cX1_point 173 = .ok (.iconst 1, 1) := dk_4 (dk_at dksX1_point_7 7 rfl rfl)
theorem dX1_point_174 : decode cX1_point 174 = .ok (.if_icmp .le 16, 3) := dk_164 0 16 (dk_at dksX1_point_7 8 rfl rfl)
theorem dX1_point_177 : decode cX1_point 177 = .ok (.aload 6, 2) := dk_25 6 (dk_at dksX1_point_7 11 rfl rfl)
theorem dX1_point_179 : decode cX1_point 179 = .ok (.iconst 1, 1) := dk_4 (dk_at dksX1_point_7 13 rfl rfl)
theorem dX1_point_180 : decode cX1_point 180 = .ok (.ldc2_w 334, 3) := dk_20 1 78 (dk_at dksX1_point_7 14 rfl rfl)
theorem dX1_point_183 : decode cX1_point 183 = .ok (.iload_n 3, 1) := dk_29 (dk_at dksX1_point_7 17 rfl rfl)
theorem dX1_point_184 : decode cX1_point 184 = .ok (.i2l, 1) := dk_133 (dk_at dksX1_point_7 18 rfl rfl)
theorem dX1_point_185 : decode cX1_point 185 = .ok (.lmul, 1) := dk_105 (dk_at dksX1_point_7 19 rfl rfl)
theorem dX1_point_186 : decode cX1_point 186 = .ok (.lload 7, 2) := dk_22 7 (dk_at dksX1_point_7 20 rfl rfl)
theorem dX1_point_188 : decode cX1_point 188 = .ok (.lmul, 1) := dk_105 (dk_at dksX1_point_7 22 rfl rfl)
theorem dX1_point_189 : decode cX1_point 189 = .ok (.lastore, 1) := dk_80 (dk_at dksX1_point_7 23 rfl rfl)
theorem dX1_point_190 : decode cX1_point 190 = .ok (.iload 11, 2) := dk_21 11 (dk_at dksX1_point_8 0 rfl rfl)
theorem dX1_point_192 : decode cX1_point 192 = .ok (.iconst 2, 1) := dk_5 (dk_at dksX1_point_8 2 rfl rfl)
theorem dX1_point_193 : decode cX1_point 193 = .ok (.if_icmp .le 17, 3) := dk_164 0 17 (dk_at dksX1_point_8 3 rfl rfl)
theorem dX1_point_196 : decode cX1_point 196 = .ok (.aload 6, 2) := dk_25 6 (dk_at dksX1_point_8 6 rfl rfl)
theorem dX1_point_198 : decode cX1_point 198 = .ok (.iconst 2, 1) := dk_5 (dk_at dksX1_point_8 8 rfl rfl)
theorem dX1_point_199 : decode cX1_point 199 = .ok (.ldc2_w 334, 3) := dk_20 1 78 (dk_at dksX1_point_8 9 rfl rfl)
theorem dX1_point_202 : decode cX1_point 202 = .ok (.iload 4, 2) := dk_21 4 (dk_at dksX1_point_8 12 rfl rfl)
theorem dX1_point_204 : decode cX1_point 204 = .ok (.i2l, 1) := dk_133 (dk_at dksX1_point_8 14 rfl rfl)
theorem dX1_point_205 : decode cX1_point 205 = .ok (.lmul, 1) := dk_105 (dk_at dksX1_point_8 15 rfl rfl)
theorem dX1_point_206 : decode cX1_point 206 = .ok (.lload 7, 2) := dk_22 7 (dk_at dksX1_point_8 16 rfl rfl)
theorem dX1_point_208 : decode cX1_point 208 = .ok (.lmul, 1) := dk_105 (dk_at dksX1_point_8 18 rfl rfl)
theorem dX1_point_209 : decode cX1_point 209 = .ok (.lastore, 1) := dk_80 (dk_at dksX1_point_8 19 rfl rfl)
theorem dX1_point_210 : decode cX1_point 210 = .ok (.aload 6, 2) := dk_25 6 (dk_at dksX1_point_8 20 rfl rfl)
theorem dX1_point_212 : decode cX1_point 212 = .ok (.iload 11, 2) := dk_21 11 (dk_at dksX1_point_8 22 rfl rfl)
theorem dX1_point_214 : decode cX1_point 214 = .ok (.lload 9, 2) := dk_22 9 (dk_at dksX1_point_9 0 rfl rfl)
theorem dX1_point_216 : decode cX1_point 216 = .ok (.lload 7, 2) := dk_22 7 (dk_at dksX1_point_9 2 rfl rfl)
theorem dX1_point_218 : decode cX1_point 218 = .ok (.lload 7, 2) := dk_22 7 (dk_at dksX1_point_9 4 rfl rfl)
theorem dX1_point_220 : decode cX1_point 220 = .ok (.lmul, 1) := dk_105 (dk_at dksX1_point_9 6 rfl rfl)
theorem dX1_point_221 : decode cX1_point 221 = .ok (.lsub, 1) := dk_101 (dk_at dksX1_point_9 7 rfl rfl)
theorem dX1_point_222 : decode cX1_point 222 = .ok (.lastore, 1) := dk_80 (dk_at dksX1_point_9 8 rfl rfl)
theorem dX1_point_223 : decode cX1_point 223 = .ok (.aload 6, 2) := dk_25 6 (dk_at dksX1_point_9 9 rfl rfl)
theorem dX1_point_225 : decode cX1_point 225 = .ok (.iload 11, 2) := dk_21 11 (dk_at dksX1_point_9 11 rfl rfl)
theorem dX1_point_227 : decode cX1_point 227 = .ok (.iconst 1, 1) := dk_4 (dk_at dksX1_point_9 13 rfl rfl)
theorem dX1_point_228 : decode cX1_point 228 = .ok (.iadd, 1) := dk_96 (dk_at dksX1_point_9 14 rfl rfl)
theorem dX1_point_229 : decode cX1_point 229 = .ok (.lload 9, 2) := dk_22 9 (dk_at dksX1_point_9 15 rfl rfl)
theorem dX1_point_231 : decode cX1_point 231 = .ok (.lload 7, 2) := dk_22 7 (dk_at dksX1_point_9 17 rfl rfl)
theorem dX1_point_233 : decode cX1_point 233 = .ok (.lload 7, 2) := dk_22 7 (dk_at dksX1_point_9 19 rfl rfl)
theorem dX1_point_235 : decode cX1_point 235 = .ok (.lmul, 1) := dk_105 (dk_at dksX1_point_9 21 rfl rfl)
theorem dX1_point_236 : decode cX1_point 236 = .ok (.ladd, 1) := dk_97 (dk_at dksX1_point_9 22 rfl rfl)
theorem dX1_point_237 : decode cX1_point 237 = .ok (.lastore, 1) := dk_80 (dk_at dksX1_point_9 23 rfl rfl)
theorem dX1_point_238 : decode cX1_point 238 = .ok (.aload_n 0, 1) := dk_42 (dk_at dksX1_point_10 0 rfl rfl)
theorem dX1_point_239 : decode cX1_point 239 = .ok (.iload_n 1, 1) := dk_27 (dk_at dksX1_point_10 1 rfl rfl)
theorem dX1_point_240 : decode cX1_point 240 = .ok (.aload 6, 2) := dk_25 6 (dk_at dksX1_point_10 2 rfl rfl)
theorem dX1_point_242 : decode cX1_point 242 = .ok (.lload 7, 2) := dk_22 7 (dk_at dksX1_point_10 4 rfl rfl)
theorem dX1_point_244 : decode cX1_point 244 = .ok (.lload 7, 2) := dk_22 7 (dk_at dksX1_point_10 6 rfl rfl)
theorem dX1_point_246 : decode cX1_point 246 = .ok (.lmul, 1) := dk_105 (dk_at dksX1_point_10 8 rfl rfl)
theorem dX1_point_247 : decode cX1_point 247 = .ok (.invokestatic 264, 3) := dk_184 1 8 (dk_at dksX1_point_10 9 rfl rfl)
theorem dX1_point_250 : decode cX1_point 250 = .ok (.invokevirtual 208, 3) := dk_182 0 208 (dk_at dksX1_point_10 12 rfl rfl)
theorem dX1_point_253 : decode cX1_point 253 = .ok (.ireturn, 1) := dk_172 (dk_at dksX1_point_10 15 rfl rfl)
theorem dX1_point_254 : decode cX1_point 254 = .ok (.astore 12, 2) := dk_58 12 (dk_at dksX1_point_10 16 rfl rfl)
theorem dX1_point_256 : decode cX1_point 256 = .ok (.invokestatic 181, 3) := dk_184 0 181 (dk_at dksX1_point_10 18 rfl rfl)
theorem dX1_point_259 : decode cX1_point 259 = .ok (.athrow, 1) := dk_191 (dk_at dksX1_point_10 21 rfl rfl)
abbrev cX1_isConformal : ByteArray := prog_1_method_48_code
def yX1_isConformal : MethodName := ⟨RX1, "isConformal", "()Z"⟩
def dkwX1_isConformal_2 : List UInt8 := [153, 0, 7, 4, 167, 0, 4, 3, 172]
abbrev dktX1_isConformal_2 : List UInt8 := dkwX1_isConformal_2 ++ []
def dkwX1_isConformal_1 : List UInt8 := [154, 0, 30, 42, 180, 0, 77, 180, 0, 133, 180, 0, 145, 133, 20, 1, 78, 20, 1, 80, 184, 0, 102]
abbrev dktX1_isConformal_1 : List UInt8 := dkwX1_isConformal_1 ++ dktX1_isConformal_2
def dkwX1_isConformal_0 : List UInt8 := [42, 180, 0, 77, 180, 0, 133, 180, 0, 148, 4, 160, 0, 43, 42, 180, 0, 77, 180, 0, 133, 180, 0, 151]
abbrev dktX1_isConformal_0 : List UInt8 := dkwX1_isConformal_0 ++ dktX1_isConformal_1
theorem dksX1_isConformal_0 : cX1_isConformal.data.toList.drop 0 = dktX1_isConformal_0 := by decide +kernel
theorem dksX1_isConformal_1 : cX1_isConformal.data.toList.drop 24 = dktX1_isConformal_1 := dk_seg dksX1_isConformal_0 24 rfl rfl
theorem dksX1_isConformal_2 : cX1_isConformal.data.toList.drop 47 = dktX1_isConformal_2 := dk_seg dksX1_isConformal_1 23 rfl rfl
theorem dX1_isConformal_0 : decode cX1_isConformal 0 = .ok (.aload_n 0, 1) := dk_42 (dk_at dksX1_isConformal_0 0 rfl rfl)
theorem dX1_isConformal_1 : decode cX1_isConformal 1 = .ok (.getfield 77, 3) := dk_180 0 77 (dk_at dksX1_isConformal_0 1 rfl rfl)
theorem dX1_isConformal_4 : decode cX1_isConformal 4 = .ok (.getfield 133, 3) := dk_180 0 133 (dk_at dksX1_isConformal_0 4 rfl rfl)
theorem dX1_isConformal_7 : decode cX1_isConformal 7 = .ok (.getfield 148, 3) := dk_180 0 148 (dk_at dksX1_isConformal_0 7 rfl rfl)
theorem dX1_isConformal_10 : decode cX1_isConformal 10 = .ok (.iconst 1, 1) := dk_4 (dk_at dksX1_isConformal_0 10 rfl rfl)
theorem dX1_isConformal_11 : decode cX1_isConformal 11 = .ok (.if_icmp .ne 43, 3) := dk_160 0 43 (dk_at dksX1_isConformal_0 11 rfl rfl)
theorem dX1_isConformal_14 : decode cX1_isConformal 14 = .ok (.aload_n 0, 1) := dk_42 (dk_at dksX1_isConformal_0 14 rfl rfl)
theorem dX1_isConformal_15 : decode cX1_isConformal 15 = .ok (.getfield 77, 3) := dk_180 0 77 (dk_at dksX1_isConformal_0 15 rfl rfl)
theorem dX1_isConformal_18 : decode cX1_isConformal 18 = .ok (.getfield 133, 3) := dk_180 0 133 (dk_at dksX1_isConformal_0 18 rfl rfl)
theorem dX1_isConformal_21 : decode cX1_isConformal 21 = .ok (.getfield 151, 3) := dk_180 0 151 (dk_at dksX1_isConformal_0 21 rfl rfl)
theorem dX1_isConformal_24 : decode cX1_isConformal 24 = .ok (.ifCond .ne 30, 3) := dk_154 0 30 (dk_at dksX1_isConformal_1 0 rfl rfl)
theorem dX1_isConformal_27 : decode cX1_isConformal 27 = .ok (.aload_n 0, 1) := dk_42 (dk_at dksX1_isConformal_1 3 rfl rfl)
theorem dX1_isConformal_28 : decode cX1_isConformal 28 = .ok (.getfield 77, 3) := dk_180 0 77 (dk_at dksX1_isConformal_1 4 rfl rfl)
theorem dX1_isConformal_31 : decode cX1_isConformal 31 = .ok (.getfield 133, 3) := dk_180 0 133 (dk_at dksX1_isConformal_1 7 rfl rfl)
theorem dX1_isConformal_34 : decode cX1_isConformal 34 = .ok (.getfield 145, 3) := dk_180 0 145 (dk_at dksX1_isConformal_1 10 rfl rfl)
theorem dX1_isConformal_37 : decode cX1_isConformal 37 = .ok (.i2l, 1) := dk_133 (dk_at dksX1_isConformal_1 13 rfl rfl)
theorem dX1_isConformal_38 : decode cX1_isConformal 38 = .ok (.ldc2_w 334, 3) := dk_20 1 78 (dk_at dksX1_isConformal_1 14 rfl rfl)
theorem dX1_isConformal_41 : decode cX1_isConformal 41 = .ok (.ldc2_w 336, 3) := dk_20 1 80 (dk_at dksX1_isConformal_1 17 rfl rfl)
theorem dX1_isConformal_44 : decode cX1_isConformal 44 = .ok (.invokestatic 102, 3) := dk_184 0 102 (dk_at dksX1_isConformal_1 20 rfl rfl)
theorem dX1_isConformal_47 : decode cX1_isConformal 47 = .ok (.ifCond .eq 7, 3) := dk_153 0 7 (dk_at dksX1_isConformal_2 0 rfl rfl)
theorem dX1_isConformal_50 : decode cX1_isConformal 50 = .ok (.iconst 1, 1) := dk_4 (dk_at dksX1_isConformal_2 3 rfl rfl)
theorem dX1_isConformal_51 : decode cX1_isConformal 51 = .ok (.goto 4, 3) := dk_167 0 4 (dk_at dksX1_isConformal_2 4 rfl rfl)
theorem dX1_isConformal_54 : decode cX1_isConformal 54 = .ok (.iconst 0, 1) := dk_3 (dk_at dksX1_isConformal_2 7 rfl rfl)
theorem dX1_isConformal_55 : decode cX1_isConformal 55 = .ok (.ireturn, 1) := dk_172 (dk_at dksX1_isConformal_2 8 rfl rfl)
abbrev cX1_dimensions : ByteArray := prog_1_method_49_code
def yX1_dimensions : MethodName := ⟨RX1, "dimensions", "()I"⟩
def dkwX1_dimensions_0 : List UInt8 := [42, 180, 0, 77, 180, 0, 133, 180, 0, 145, 4, 100, 172]
abbrev dktX1_dimensions_0 : List UInt8 := dkwX1_dimensions_0 ++ []
theorem dksX1_dimensions_0 : cX1_dimensions.data.toList.drop 0 = dktX1_dimensions_0 := by decide +kernel
theorem dX1_dimensions_0 : decode cX1_dimensions 0 = .ok (.aload_n 0, 1) := dk_42 (dk_at dksX1_dimensions_0 0 rfl rfl)
theorem dX1_dimensions_1 : decode cX1_dimensions 1 = .ok (.getfield 77, 3) := dk_180 0 77 (dk_at dksX1_dimensions_0 1 rfl rfl)
theorem dX1_dimensions_4 : decode cX1_dimensions 4 = .ok (.getfield 133, 3) := dk_180 0 133 (dk_at dksX1_dimensions_0 4 rfl rfl)
theorem dX1_dimensions_7 : decode cX1_dimensions 7 = .ok (.getfield 145, 3) := dk_180 0 145 (dk_at dksX1_dimensions_0 7 rfl rfl)
theorem dX1_dimensions_10 : decode cX1_dimensions 10 = .ok (.iconst 1, 1) := dk_4 (dk_at dksX1_dimensions_0 10 rfl rfl)
theorem dX1_dimensions_11 : decode cX1_dimensions 11 = .ok (.isub, 1) := dk_100 (dk_at dksX1_dimensions_0 11 rfl rfl)
theorem dX1_dimensions_12 : decode cX1_dimensions 12 = .ok (.ireturn, 1) := dk_172 (dk_at dksX1_dimensions_0 12 rfl rfl)
abbrev cX1_center : ByteArray := prog_1_method_52_code
def yX1_center : MethodName := ⟨RX1, "center", "(II)I"⟩
def dkwX1_center_3 : List UInt8 := [22, 4, 184, 1, 8, 182, 0, 208, 172, 58, 7, 184, 0, 181, 191]
abbrev dktX1_center_3 : List UInt8 := dkwX1_center_3 ++ []
def dkwX1_center_2 : List UInt8 := [25, 6, 21, 7, 45, 180, 0, 42, 4, 21, 7, 120, 47, 80, 132, 7, 1, 167, 255, 230, 42, 27, 25, 6]
abbrev dktX1_center_2 : List UInt8 := dkwX1_center_2 ++ dktX1_center_3
def dkwX1_center_1 : List UInt8 := [42, 45, 182, 1, 94, 55, 4, 8, 188, 11, 58, 6, 3, 54, 7, 21, 7, 42, 182, 1, 91, 162, 0, 23]
abbrev dktX1_center_1 : List UInt8 := dkwX1_center_1 ++ dktX1_center_2
def dkwX1_center_0 : List UInt8 := [5, 188, 10, 89, 3, 27, 79, 89, 4, 28, 79, 184, 0, 161, 42, 180, 0, 77, 180, 0, 110, 28, 50, 78]
abbrev dktX1_center_0 : List UInt8 := dkwX1_center_0 ++ dktX1_center_1
theorem dksX1_center_0 : cX1_center.data.toList.drop 0 = dktX1_center_0 := by decide +kernel
theorem dksX1_center_1 : cX1_center.data.toList.drop 24 = dktX1_center_1 := dk_seg dksX1_center_0 24 rfl rfl
theorem dksX1_center_2 : cX1_center.data.toList.drop 48 = dktX1_center_2 := dk_seg dksX1_center_1 24 rfl rfl
theorem dksX1_center_3 : cX1_center.data.toList.drop 72 = dktX1_center_3 := dk_seg dksX1_center_2 24 rfl rfl
theorem dX1_center_0 : decode cX1_center 0 = .ok (.iconst 2, 1) := dk_5 (dk_at dksX1_center_0 0 rfl rfl)
theorem dX1_center_1 : decode cX1_center 1 = .ok (.newarray .int, 2) := dk_188_10 (dk_at dksX1_center_0 1 rfl rfl)
theorem dX1_center_3 : decode cX1_center 3 = .ok (.dup, 1) := dk_89 (dk_at dksX1_center_0 3 rfl rfl)
theorem dX1_center_4 : decode cX1_center 4 = .ok (.iconst 0, 1) := dk_3 (dk_at dksX1_center_0 4 rfl rfl)
theorem dX1_center_5 : decode cX1_center 5 = .ok (.iload_n 1, 1) := dk_27 (dk_at dksX1_center_0 5 rfl rfl)
theorem dX1_center_6 : decode cX1_center 6 = .ok (.iastore, 1) := dk_79 (dk_at dksX1_center_0 6 rfl rfl)
theorem dX1_center_7 : decode cX1_center 7 = .ok (.dup, 1) := dk_89 (dk_at dksX1_center_0 7 rfl rfl)
theorem dX1_center_8 : decode cX1_center 8 = .ok (.iconst 1, 1) := dk_4 (dk_at dksX1_center_0 8 rfl rfl)
theorem dX1_center_9 : decode cX1_center 9 = .ok (.iload_n 2, 1) := dk_28 (dk_at dksX1_center_0 9 rfl rfl)
theorem dX1_center_10 : decode cX1_center 10 = .ok (.iastore, 1) := dk_79 (dk_at dksX1_center_0 10 rfl rfl)
theorem dX1_center_11 : decode cX1_center 11 = .ok (.invokestatic 161, 3) := dk_184 0 161 (dk_at dksX1_center_0 11 rfl rfl)
theorem dX1_center_14 : decode cX1_center 14 = .ok (.aload_n 0, 1) := dk_42 (dk_at dksX1_center_0 14 rfl rfl)
theorem dX1_center_15 : decode cX1_center 15 = .ok (.getfield 77, 3) := dk_180 0 77 (dk_at dksX1_center_0 15 rfl rfl)
theorem dX1_center_18 : decode cX1_center 18 = .ok (.getfield 110, 3) := dk_180 0 110 (dk_at dksX1_center_0 18 rfl rfl)
theorem dX1_center_21 : decode cX1_center 21 = .ok (.iload_n 2, 1) := dk_28 (dk_at dksX1_center_0 21 rfl rfl)
theorem dX1_center_22 : decode cX1_center 22 = .ok (.aaload, 1) := dk_50 (dk_at dksX1_center_0 22 rfl rfl)
theorem dX1_center_23 : decode cX1_center 23 = .ok (.astore_n 3, 1) := dk_78 (dk_at dksX1_center_0 23 rfl rfl)
theorem dX1_center_24 : decode cX1_center 24 = .ok (.aload_n 0, 1) := dk_42 (dk_at dksX1_center_1 0 rfl rfl)
theorem dX1_center_25 : decode cX1_center 25 = .ok (.aload_n 3, 1) := dk_45 (dk_at dksX1_center_1 1 rfl rfl)
theorem dX1_center_26 : decode cX1_center 26 = .ok (.invokevirtual 350, 3) := dk_182 1 94 (dk_at dksX1_center_1 2 rfl rfl)
theorem dX1_center_29 : decode cX1_center 29 = .ok (.lstore 4, 2) := dk_55 4 (dk_at dksX1_center_1 5 rfl rfl)
theorem dX1_center_31 : decode cX1_center 31 = .ok (.iconst 5, 1) := dk_8 (dk_at dksX1_center_1 7 rfl rfl)
theorem dX1_center_32 : decode cX1_center 32 = .ok (.newarray .long, 2) := dk_188_11 (dk_at dksX1_center_1 8 rfl rfl)
theorem dX1_center_34 : decode cX1_center 34 = .ok (.astore 6, 2) := dk_58 6 (dk_at dksX1_center_1 10 rfl rfl)
theorem dX1_center_36 : decode cX1_center 36 = .ok (.iconst 0, 1) := dk_3 (dk_at dksX1_center_1 12 rfl rfl)
theorem dX1_center_37 : decode cX1_center 37 = .ok (.istore 7, 2) := dk_54 7 (dk_at dksX1_center_1 13 rfl rfl)
theorem dX1_center_39 : decode cX1_center 39 = .ok (.iload 7, 2) := dk_21 7 (dk_at dksX1_center_1 15 rfl rfl)
theorem dX1_center_41 : decode cX1_center 41 = .ok (.aload_n 0, 1) := dk_42 (dk_at dksX1_center_1 17 rfl rfl)
theorem dX1_center_42 : decode cX1_center 42 = .ok (.invokevirtual 347, 3) := dk_182 1 91 (dk_at dksX1_center_1 18 rfl rfl)
theorem dX1_center_45 : decode cX1_center 45 = .ok (.if_icmp .ge 23, 3) := dk_162 0 23 (dk_at dksX1_center_1 21 rfl rfl)
theorem dX1_center_48 : decode cX1_center 48 = .ok (.aload 6, 2) := dk_25 6 (dk_at dksX1_center_2 0 rfl rfl)
theorem dX1_center_50 : decode cX1_center 50 = .ok (.iload 7, 2) := dk_21 7 (dk_at dksX1_center_2 2 rfl rfl)
theorem dX1_center_52 : decode cX1_center 52 = .ok (.aload_n 3, 1) := dk_45 (dk_at dksX1_center_2 4 rfl rfl)
theorem dX1_center_53 : decode cX1_center 53 = .ok (.getfield 42, 3) := dk_180 0 42 (dk_at dksX1_center_2 5 rfl rfl)
theorem dX1_center_56 : decode cX1_center 56 = .ok (.iconst 1, 1) := dk_4 (dk_at dksX1_center_2 8 rfl rfl)
theorem dX1_center_57 : decode cX1_center 57 = .ok (.iload 7, 2) := dk_21 7 (dk_at dksX1_center_2 9 rfl rfl)
theorem dX1_center_59 : decode cX1_center 59 = .ok (.ishl, 1) := dk_120 (dk_at dksX1_center_2 11 rfl rfl)
theorem dX1_center_60 : decode cX1_center 60 = .ok (.laload, 1) := dk_47 (dk_at dksX1_center_2 12 rfl rfl)
theorem dX1_center_61 : decode cX1_center 61 = .ok (.lastore, 1) := dk_80 (dk_at dksX1_center_2 13 rfl rfl)
theorem dX1_center_62 : decode cX1_center 62 = .ok (.iinc 7 1, 3) := dk_132 7 1 (dk_at dksX1_center_2 14 rfl rfl)
theorem dX1_center_65 : decode cX1_center 65 = .ok (.goto (-26), 3) := dk_167 255 230 (dk_at dksX1_center_2 17 rfl rfl)
theorem dX1_center_68 : decode cX1_center 68 = .ok (.aload_n 0, 1) := dk_42 (dk_at dksX1_center_2 20 rfl rfl)
theorem dX1_center_69 : decode cX1_center 69 = .ok (.iload_n 1, 1) := dk_27 (dk_at dksX1_center_2 21 rfl rfl)
theorem dX1_center_70 : decode cX1_center 70 = .ok (.aload 6, 2) := dk_25 6 (dk_at dksX1_center_2 22 rfl rfl)
theorem dX1_center_72 : decode cX1_center 72 = .ok (.lload 4, 2) := dk_22 4 (dk_at dksX1_center_3 0 rfl rfl)
theorem dX1_center_74 : decode cX1_center 74 = .ok (.invokestatic 264, 3) := dk_184 1 8 (dk_at dksX1_center_3 2 rfl rfl)
theorem dX1_center_77 : decode cX1_center 77 = .ok (.invokevirtual 208, 3) := dk_182 0 208 (dk_at dksX1_center_3 5 rfl rfl)
theorem dX1_center_80 : decode cX1_center 80 = .ok (.ireturn, 1) := dk_172 (dk_at dksX1_center_3 8 rfl rfl)
theorem dX1_center_81 : decode cX1_center 81 = .ok (.astore 7, 2) := dk_58 7 (dk_at dksX1_center_3 9 rfl rfl)
theorem dX1_center_83 : decode cX1_center 83 = .ok (.invokestatic 181, 3) := dk_184 0 181 (dk_at dksX1_center_3 11 rfl rfl)
theorem dX1_center_86 : decode cX1_center 86 = .ok (.athrow, 1) := dk_191 (dk_at dksX1_center_3 14 rfl rfl)
abbrev cX1_weight : ByteArray := prog_1_method_51_code
def yX1_weight : MethodName := ⟨RX1, "weight", "(LBladeAlgebra$Multi;)J"⟩
def dkwX1_weight_2 : List UInt8 := [33, 9, 148, 153, 0, 7, 4, 167, 0, 4, 3, 184, 0, 245, 33, 173]
abbrev dktX1_weight_2 : List UInt8 := dkwX1_weight_2 ++ []
def dkwX1_weight_1 : List UInt8 := [182, 1, 91, 61, 43, 180, 0, 42, 4, 28, 4, 96, 120, 47, 43, 180, 0, 42, 4, 28, 120, 47, 101, 66]
abbrev dktX1_weight_1 : List UInt8 := dkwX1_weight_1 ++ dktX1_weight_2
def dkwX1_weight_0 : List UInt8 := [42, 182, 1, 88, 153, 0, 14, 43, 182, 1, 11, 153, 0, 7, 4, 167, 0, 4, 3, 184, 0, 245, 42]
abbrev dktX1_weight_0 : List UInt8 := dkwX1_weight_0 ++ dktX1_weight_1
theorem dksX1_weight_0 : cX1_weight.data.toList.drop 0 = dktX1_weight_0 := by decide +kernel
theorem dksX1_weight_1 : cX1_weight.data.toList.drop 23 = dktX1_weight_1 := dk_seg dksX1_weight_0 23 rfl rfl
theorem dksX1_weight_2 : cX1_weight.data.toList.drop 47 = dktX1_weight_2 := dk_seg dksX1_weight_1 24 rfl rfl
theorem dX1_weight_0 : decode cX1_weight 0 = .ok (.aload_n 0, 1) := dk_42 (dk_at dksX1_weight_0 0 rfl rfl)
theorem dX1_weight_1 : decode cX1_weight 1 = .ok (.invokevirtual 344, 3) := dk_182 1 88 (dk_at dksX1_weight_0 1 rfl rfl)
theorem dX1_weight_4 : decode cX1_weight 4 = .ok (.ifCond .eq 14, 3) := dk_153 0 14 (dk_at dksX1_weight_0 4 rfl rfl)
theorem dX1_weight_7 : decode cX1_weight 7 = .ok (.aload_n 1, 1) := dk_43 (dk_at dksX1_weight_0 7 rfl rfl)
theorem dX1_weight_8 : decode cX1_weight 8 = .ok (.invokevirtual 267, 3) := dk_182 1 11 (dk_at dksX1_weight_0 8 rfl rfl)
theorem dX1_weight_11 : decode cX1_weight 11 = .ok (.ifCond .eq 7, 3) := dk_153 0 7 (dk_at dksX1_weight_0 11 rfl rfl)
theorem dX1_weight_14 : decode cX1_weight 14 = .ok (.iconst 1, 1) := dk_4 (dk_at dksX1_weight_0 14 rfl rfl)
theorem dX1_weight_15 : decode cX1_weight 15 = .ok (.goto 4, 3) := dk_167 0 4 (dk_at dksX1_weight_0 15 rfl rfl)
theorem dX1_weight_18 : decode cX1_weight 18 = .ok (.iconst 0, 1) := dk_3 (dk_at dksX1_weight_0 18 rfl rfl)
theorem dX1_weight_19 : decode cX1_weight 19 = .ok (.invokestatic 245, 3) := dk_184 0 245 (dk_at dksX1_weight_0 19 rfl rfl)
theorem dX1_weight_22 : decode cX1_weight 22 = .ok (.aload_n 0, 1) := dk_42 (dk_at dksX1_weight_0 22 rfl rfl)
theorem dX1_weight_23 : decode cX1_weight 23 = .ok (.invokevirtual 347, 3) := dk_182 1 91 (dk_at dksX1_weight_1 0 rfl rfl)
theorem dX1_weight_26 : decode cX1_weight 26 = .ok (.istore_n 2, 1) := dk_61 (dk_at dksX1_weight_1 3 rfl rfl)
theorem dX1_weight_27 : decode cX1_weight 27 = .ok (.aload_n 1, 1) := dk_43 (dk_at dksX1_weight_1 4 rfl rfl)
theorem dX1_weight_28 : decode cX1_weight 28 = .ok (.getfield 42, 3) := dk_180 0 42 (dk_at dksX1_weight_1 5 rfl rfl)
theorem dX1_weight_31 : decode cX1_weight 31 = .ok (.iconst 1, 1) := dk_4 (dk_at dksX1_weight_1 8 rfl rfl)
theorem dX1_weight_32 : decode cX1_weight 32 = .ok (.iload_n 2, 1) := dk_28 (dk_at dksX1_weight_1 9 rfl rfl)
theorem dX1_weight_33 : decode cX1_weight 33 = .ok (.iconst 1, 1) := dk_4 (dk_at dksX1_weight_1 10 rfl rfl)
theorem dX1_weight_34 : decode cX1_weight 34 = .ok (.iadd, 1) := dk_96 (dk_at dksX1_weight_1 11 rfl rfl)
theorem dX1_weight_35 : decode cX1_weight 35 = .ok (.ishl, 1) := dk_120 (dk_at dksX1_weight_1 12 rfl rfl)
theorem dX1_weight_36 : decode cX1_weight 36 = .ok (.laload, 1) := dk_47 (dk_at dksX1_weight_1 13 rfl rfl)
theorem dX1_weight_37 : decode cX1_weight 37 = .ok (.aload_n 1, 1) := dk_43 (dk_at dksX1_weight_1 14 rfl rfl)
theorem dX1_weight_38 : decode cX1_weight 38 = .ok (.getfield 42, 3) := dk_180 0 42 (dk_at dksX1_weight_1 15 rfl rfl)
theorem dX1_weight_41 : decode cX1_weight 41 = .ok (.iconst 1, 1) := dk_4 (dk_at dksX1_weight_1 18 rfl rfl)
theorem dX1_weight_42 : decode cX1_weight 42 = .ok (.iload_n 2, 1) := dk_28 (dk_at dksX1_weight_1 19 rfl rfl)
theorem dX1_weight_43 : decode cX1_weight 43 = .ok (.ishl, 1) := dk_120 (dk_at dksX1_weight_1 20 rfl rfl)
theorem dX1_weight_44 : decode cX1_weight 44 = .ok (.laload, 1) := dk_47 (dk_at dksX1_weight_1 21 rfl rfl)
theorem dX1_weight_45 : decode cX1_weight 45 = .ok (.lsub, 1) := dk_101 (dk_at dksX1_weight_1 22 rfl rfl)
theorem dX1_weight_46 : decode cX1_weight 46 = .ok (.lstore_n 3, 1) := dk_66 (dk_at dksX1_weight_1 23 rfl rfl)
theorem dX1_weight_47 : decode cX1_weight 47 = .ok (.lload_n 3, 1) := dk_33 (dk_at dksX1_weight_2 0 rfl rfl)
theorem dX1_weight_48 : decode cX1_weight 48 = .ok (.lconst 0, 1) := dk_9 (dk_at dksX1_weight_2 1 rfl rfl)
theorem dX1_weight_49 : decode cX1_weight 49 = .ok (.lcmp, 1) := dk_148 (dk_at dksX1_weight_2 2 rfl rfl)
theorem dX1_weight_50 : decode cX1_weight 50 = .ok (.ifCond .eq 7, 3) := dk_153 0 7 (dk_at dksX1_weight_2 3 rfl rfl)
theorem dX1_weight_53 : decode cX1_weight 53 = .ok (.iconst 1, 1) := dk_4 (dk_at dksX1_weight_2 6 rfl rfl)
theorem dX1_weight_54 : decode cX1_weight 54 = .ok (.goto 4, 3) := dk_167 0 4 (dk_at dksX1_weight_2 7 rfl rfl)
theorem dX1_weight_57 : decode cX1_weight 57 = .ok (.iconst 0, 1) := dk_3 (dk_at dksX1_weight_2 10 rfl rfl)
theorem dX1_weight_58 : decode cX1_weight 58 = .ok (.invokestatic 245, 3) := dk_184 0 245 (dk_at dksX1_weight_2 11 rfl rfl)
theorem dX1_weight_61 : decode cX1_weight 61 = .ok (.lload_n 3, 1) := dk_33 (dk_at dksX1_weight_2 14 rfl rfl)
theorem dX1_weight_62 : decode cX1_weight 62 = .ok (.lreturn, 1) := dk_173 (dk_at dksX1_weight_2 15 rfl rfl)
abbrev cX1_radiusSquare : ByteArray := prog_1_method_53_code
def yX1_radiusSquare : MethodName := ⟨RX1, "radiusSquare", "(II)I"⟩
def dkwX1_radiusSquare_4 : List UInt8 := [191]
abbrev dktX1_radiusSquare_4 : List UInt8 := dkwX1_radiusSquare_4 ++ []
def dkwX1_radiusSquare_3 : List UInt8 := [55, 7, 42, 27, 3, 22, 7, 22, 4, 22, 4, 105, 184, 0, 219, 182, 0, 208, 172, 58, 6, 184, 0, 181]
abbrev dktX1_radiusSquare_3 : List UInt8 := dkwX1_radiusSquare_3 ++ dktX1_radiusSquare_4
def dkwX1_radiusSquare_2 : List UInt8 := [25, 6, 180, 0, 42, 3, 47, 45, 180, 0, 38, 45, 180, 0, 38, 105, 25, 6, 180, 0, 38, 109, 105]
abbrev dktX1_radiusSquare_2 : List UInt8 := dkwX1_radiusSquare_2 ++ dktX1_radiusSquare_3
def dkwX1_radiusSquare_1 : List UInt8 := [42, 45, 182, 1, 94, 55, 4, 42, 180, 0, 77, 180, 0, 133, 45, 45, 178, 1, 98, 182, 0, 235, 58, 6]
abbrev dktX1_radiusSquare_1 : List UInt8 := dkwX1_radiusSquare_1 ++ dktX1_radiusSquare_2
def dkwX1_radiusSquare_0 : List UInt8 := [5, 188, 10, 89, 3, 27, 79, 89, 4, 28, 79, 184, 0, 161, 42, 180, 0, 77, 180, 0, 110, 28, 50, 78]
abbrev dktX1_radiusSquare_0 : List UInt8 := dkwX1_radiusSquare_0 ++ dktX1_radiusSquare_1
theorem dksX1_radiusSquare_0 : cX1_radiusSquare.data.toList.drop 0 = dktX1_radiusSquare_0 := by decide +kernel
theorem dksX1_radiusSquare_1 : cX1_radiusSquare.data.toList.drop 24 = dktX1_radiusSquare_1 := dk_seg dksX1_radiusSquare_0 24 rfl rfl
theorem dksX1_radiusSquare_2 : cX1_radiusSquare.data.toList.drop 48 = dktX1_radiusSquare_2 := dk_seg dksX1_radiusSquare_1 24 rfl rfl
theorem dksX1_radiusSquare_3 : cX1_radiusSquare.data.toList.drop 71 = dktX1_radiusSquare_3 := dk_seg dksX1_radiusSquare_2 23 rfl rfl
theorem dksX1_radiusSquare_4 : cX1_radiusSquare.data.toList.drop 95 = dktX1_radiusSquare_4 := dk_seg dksX1_radiusSquare_3 24 rfl rfl
theorem dX1_radiusSquare_0 : decode cX1_radiusSquare 0 = .ok (.iconst 2, 1) := dk_5 (dk_at dksX1_radiusSquare_0 0 rfl rfl)
theorem dX1_radiusSquare_1 : decode cX1_radiusSquare 1 = .ok (.newarray .int, 2) := dk_188_10 (dk_at dksX1_radiusSquare_0 1 rfl rfl)
theorem dX1_radiusSquare_3 : decode cX1_radiusSquare 3 = .ok (.dup, 1) := dk_89 (dk_at dksX1_radiusSquare_0 3 rfl rfl)
theorem dX1_radiusSquare_4 : decode cX1_radiusSquare 4 = .ok (.iconst 0, 1) := dk_3 (dk_at dksX1_radiusSquare_0 4 rfl rfl)
theorem dX1_radiusSquare_5 : decode cX1_radiusSquare 5 = .ok (.iload_n 1, 1) := dk_27 (dk_at dksX1_radiusSquare_0 5 rfl rfl)
theorem dX1_radiusSquare_6 : decode cX1_radiusSquare 6 = .ok (.iastore, 1) := dk_79 (dk_at dksX1_radiusSquare_0 6 rfl rfl)
theorem dX1_radiusSquare_7 : decode cX1_radiusSquare 7 = .ok (.dup, 1) := dk_89 (dk_at dksX1_radiusSquare_0 7 rfl rfl)
theorem dX1_radiusSquare_8 : decode cX1_radiusSquare 8 = .ok (.iconst 1, 1) := dk_4 (dk_at dksX1_radiusSquare_0 8 rfl rfl)
theorem dX1_radiusSquare_9 : decode cX1_radiusSquare 9 = .ok (.iload_n 2, 1) := dk_28 (dk_at dksX1_radiusSquare_0 9 rfl rfl)
theorem dX1_radiusSquare_10 : decode cX1_radiusSquare 10 = .ok (.iastore, 1) := dk_79 (dk_at dksX1_radiusSquare_0 10 rfl rfl)
theorem dX1_radiusSquare_11 : decode cX1_radiusSquare 11 = .ok (.invokestatic 161, 3) := dk_184 0 161 (dk_at dksX1_radiusSquare_0 11 rfl rfl)
theorem dX1_radiusSquare_14 : decode cX1_radiusSquare 14 = .ok (.aload_n 0, 1) := dk_42 (dk_at dksX1_radiusSquare_0 14 rfl rfl)
theorem dX1_radiusSquare_15 : decode cX1_radiusSquare 15 = .ok (.getfield 77, 3) := dk_180 0 77 (dk_at dksX1_radiusSquare_0 15 rfl rfl)
theorem dX1_radiusSquare_18 : decode cX1_radiusSquare 18 = .ok (.getfield 110, 3) := dk_180 0 110 (dk_at dksX1_radiusSquare_0 18 rfl rfl)
theorem dX1_radiusSquare_21 : decode cX1_radiusSquare 21 = .ok (.iload_n 2, 1) := dk_28 (dk_at dksX1_radiusSquare_0 21 rfl rfl)
theorem dX1_radiusSquare_22 : decode cX1_radiusSquare 22 = .ok (.aaload, 1) := dk_50 (dk_at dksX1_radiusSquare_0 22 rfl rfl)
theorem dX1_radiusSquare_23 : decode cX1_radiusSquare 23 = .ok (.astore_n 3, 1) := dk_78 (dk_at dksX1_radiusSquare_0 23 rfl rfl)
theorem dX1_radiusSquare_24 : decode cX1_radiusSquare 24 = .ok (.aload_n 0, 1) := dk_42 (dk_at dksX1_radiusSquare_1 0 rfl rfl)
theorem dX1_radiusSquare_25 : decode cX1_radiusSquare 25 = .ok (.aload_n 3, 1) := dk_45 (dk_at dksX1_radiusSquare_1 1 rfl rfl)
theorem dX1_radiusSquare_26 : decode cX1_radiusSquare 26 = .ok (.invokevirtual 350, 3) := dk_182 1 94 (dk_at dksX1_radiusSquare_1 2 rfl rfl)
theorem dX1_radiusSquare_29 : decode cX1_radiusSquare 29 = .ok (.lstore 4, 2) := dk_55 4 (dk_at dksX1_radiusSquare_1 5 rfl rfl)
theorem dX1_radiusSquare_31 : decode cX1_radiusSquare 31 = .ok (.aload_n 0, 1) := dk_42 (dk_at dksX1_radiusSquare_1 7 rfl rfl)
theorem dX1_radiusSquare_32 : decode cX1_radiusSquare 32 = .ok (.getfield 77, 3) := dk_180 0 77 (dk_at dksX1_radiusSquare_1 8 rfl rfl)
theorem dX1_radiusSquare_35 : decode cX1_radiusSquare 35 = .ok (.getfield 133, 3) := dk_180 0 133 (dk_at dksX1_radiusSquare_1 11 rfl rfl)
theorem dX1_radiusSquare_38 : decode cX1_radiusSquare 38 = .ok (.aload_n 3, 1) := dk_45 (dk_at dksX1_radiusSquare_1 14 rfl rfl)
theorem dX1_radiusSquare_39 : decode cX1_radiusSquare 39 = .ok (.aload_n 3, 1) := dk_45 (dk_at dksX1_radiusSquare_1 15 rfl rfl)
theorem dX1_radiusSquare_40 : decode cX1_radiusSquare 40 = .ok (.getstatic 354, 3) := dk_178 1 98 (dk_at dksX1_radiusSquare_1 16 rfl rfl)
theorem dX1_radiusSquare_43 : decode cX1_radiusSquare 43 = .ok (.invokevirtual 235, 3) := dk_182 0 235 (dk_at dksX1_radiusSquare_1 19 rfl rfl)
theorem dX1_radiusSquare_46 : decode cX1_radiusSquare 46 = .ok (.astore 6, 2) := dk_58 6 (dk_at dksX1_radiusSquare_1 22 rfl rfl)
theorem dX1_radiusSquare_48 : decode cX1_radiusSquare 48 = .ok (.aload 6, 2) := dk_25 6 (dk_at dksX1_radiusSquare_2 0 rfl rfl)
theorem dX1_radiusSquare_50 : decode cX1_radiusSquare 50 = .ok (.getfield 42, 3) := dk_180 0 42 (dk_at dksX1_radiusSquare_2 2 rfl rfl)
theorem dX1_radiusSquare_53 : decode cX1_radiusSquare 53 = .ok (.iconst 0, 1) := dk_3 (dk_at dksX1_radiusSquare_2 5 rfl rfl)
theorem dX1_radiusSquare_54 : decode cX1_radiusSquare 54 = .ok (.laload, 1) := dk_47 (dk_at dksX1_radiusSquare_2 6 rfl rfl)
theorem dX1_radiusSquare_55 : decode cX1_radiusSquare 55 = .ok (.aload_n 3, 1) := dk_45 (dk_at dksX1_radiusSquare_2 7 rfl rfl)
theorem dX1_radiusSquare_56 : decode cX1_radiusSquare 56 = .ok (.getfield 38, 3) := dk_180 0 38 (dk_at dksX1_radiusSquare_2 8 rfl rfl)
theorem dX1_radiusSquare_59 : decode cX1_radiusSquare 59 = .ok (.aload_n 3, 1) := dk_45 (dk_at dksX1_radiusSquare_2 11 rfl rfl)
theorem dX1_radiusSquare_60 : decode cX1_radiusSquare 60 = .ok (.getfield 38, 3) := dk_180 0 38 (dk_at dksX1_radiusSquare_2 12 rfl rfl)
theorem dX1_radiusSquare_63 : decode cX1_radiusSquare 63 = .ok (.lmul, 1) := dk_105 (dk_at dksX1_radiusSquare_2 15 rfl rfl)
theorem dX1_radiusSquare_64 : decode cX1_radiusSquare 64 = .ok (.aload 6, 2) := dk_25 6 (dk_at dksX1_radiusSquare_2 16 rfl rfl)
theorem dX1_radiusSquare_66 : decode cX1_radiusSquare 66 = .ok (.getfield 38, 3) := dk_180 0 38 (dk_at dksX1_radiusSquare_2 18 rfl rfl)
theorem dX1_radiusSquare_69 : decode cX1_radiusSquare 69 = .ok (.ldiv, 1) := dk_109 (dk_at dksX1_radiusSquare_2 21 rfl rfl)
theorem dX1_radiusSquare_70 : decode cX1_radiusSquare 70 = .ok (.lmul, 1) := dk_105 (dk_at dksX1_radiusSquare_2 22 rfl rfl)
theorem dX1_radiusSquare_71 : decode cX1_radiusSquare 71 = .ok (.lstore 7, 2) := dk_55 7 (dk_at dksX1_radiusSquare_3 0 rfl rfl)
theorem dX1_radiusSquare_73 : decode cX1_radiusSquare 73 = .ok (.aload_n 0, 1) := dk_42 (dk_at dksX1_radiusSquare_3 2 rfl rfl)
theorem dX1_radiusSquare_74 : decode cX1_radiusSquare 74 = .ok (.iload_n 1, 1) := dk_27 (dk_at dksX1_radiusSquare_3 3 rfl rfl)
theorem dX1_radiusSquare_75 : decode cX1_radiusSquare 75 = .ok (.iconst 0, 1) := dk_3 (dk_at dksX1_radiusSquare_3 4 rfl rfl)
theorem dX1_radiusSquare_76 : decode cX1_radiusSquare 76 = .ok (.lload 7, 2) := dk_22 7 (dk_at dksX1_radiusSquare_3 5 rfl rfl)
theorem dX1_radiusSquare_78 : decode cX1_radiusSquare 78 = .ok (.lload 4, 2) := dk_22 4 (dk_at dksX1_radiusSquare_3 7 rfl rfl)
theorem dX1_radiusSquare_80 : decode cX1_radiusSquare 80 = .ok (.lload 4, 2) := dk_22 4 (dk_at dksX1_radiusSquare_3 9 rfl rfl)
theorem dX1_radiusSquare_82 : decode cX1_radiusSquare 82 = .ok (.lmul, 1) := dk_105 (dk_at dksX1_radiusSquare_3 11 rfl rfl)
theorem dX1_radiusSquare_83 : decode cX1_radiusSquare 83 = .ok (.invokestatic 219, 3) := dk_184 0 219 (dk_at dksX1_radiusSquare_3 12 rfl rfl)
theorem dX1_radiusSquare_86 : decode cX1_radiusSquare 86 = .ok (.invokevirtual 208, 3) := dk_182 0 208 (dk_at dksX1_radiusSquare_3 15 rfl rfl)
theorem dX1_radiusSquare_89 : decode cX1_radiusSquare 89 = .ok (.ireturn, 1) := dk_172 (dk_at dksX1_radiusSquare_3 18 rfl rfl)
theorem dX1_radiusSquare_90 : decode cX1_radiusSquare 90 = .ok (.astore 6, 2) := dk_58 6 (dk_at dksX1_radiusSquare_3 19 rfl rfl)
theorem dX1_radiusSquare_92 : decode cX1_radiusSquare 92 = .ok (.invokestatic 181, 3) := dk_184 0 181 (dk_at dksX1_radiusSquare_3 21 rfl rfl)
theorem dX1_radiusSquare_95 : decode cX1_radiusSquare 95 = .ok (.athrow, 1) := dk_191 (dk_at dksX1_radiusSquare_4 0 rfl rfl)
abbrev cX1_appendText : ByteArray := prog_1_method_56_code
def yX1_appendText : MethodName := ⟨RX1, "appendText", "(I)I"⟩
def dkwX1_appendText_2 : List UInt8 := [181, 1, 157, 132, 2, 248, 167, 255, 226, 42, 180, 1, 157, 172]
abbrev dktX1_appendText_2 : List UInt8 := dkwX1_appendText_2 ++ []
def dkwX1_appendText_1 : List UInt8 := [155, 0, 32, 42, 180, 0, 85, 42, 180, 1, 157, 27, 28, 122, 145, 84, 42, 89, 180, 1, 157, 4, 96]
abbrev dktX1_appendText_1 : List UInt8 := dkwX1_appendText_1 ++ dktX1_appendText_2
def dkwX1_appendText_0 : List UInt8 := [42, 180, 1, 157, 7, 96, 17, 0, 200, 163, 0, 7, 4, 167, 0, 4, 3, 184, 0, 245, 16, 24, 61, 28]
abbrev dktX1_appendText_0 : List UInt8 := dkwX1_appendText_0 ++ dktX1_appendText_1
theorem dksX1_appendText_0 : cX1_appendText.data.toList.drop 0 = dktX1_appendText_0 := by decide +kernel
theorem dksX1_appendText_1 : cX1_appendText.data.toList.drop 24 = dktX1_appendText_1 := dk_seg dksX1_appendText_0 24 rfl rfl
theorem dksX1_appendText_2 : cX1_appendText.data.toList.drop 47 = dktX1_appendText_2 := dk_seg dksX1_appendText_1 23 rfl rfl
theorem dX1_appendText_0 : decode cX1_appendText 0 = .ok (.aload_n 0, 1) := dk_42 (dk_at dksX1_appendText_0 0 rfl rfl)
theorem dX1_appendText_1 : decode cX1_appendText 1 = .ok (.getfield 413, 3) := dk_180 1 157 (dk_at dksX1_appendText_0 1 rfl rfl)
theorem dX1_appendText_4 : decode cX1_appendText 4 = .ok (.iconst 4, 1) := dk_7 (dk_at dksX1_appendText_0 4 rfl rfl)
theorem dX1_appendText_5 : decode cX1_appendText 5 = .ok (.iadd, 1) := dk_96 (dk_at dksX1_appendText_0 5 rfl rfl)
theorem dX1_appendText_6 : decode cX1_appendText 6 = .ok (.sipush 200, 3) := dk_17 0 200 (dk_at dksX1_appendText_0 6 rfl rfl)
theorem dX1_appendText_9 : decode cX1_appendText 9 = .ok (.if_icmp .gt 7, 3) := dk_163 0 7 (dk_at dksX1_appendText_0 9 rfl rfl)
theorem dX1_appendText_12 : decode cX1_appendText 12 = .ok (.iconst 1, 1) := dk_4 (dk_at dksX1_appendText_0 12 rfl rfl)
theorem dX1_appendText_13 : decode cX1_appendText 13 = .ok (.goto 4, 3) := dk_167 0 4 (dk_at dksX1_appendText_0 13 rfl rfl)
theorem dX1_appendText_16 : decode cX1_appendText 16 = .ok (.iconst 0, 1) := dk_3 (dk_at dksX1_appendText_0 16 rfl rfl)
theorem dX1_appendText_17 : decode cX1_appendText 17 = .ok (.invokestatic 245, 3) := dk_184 0 245 (dk_at dksX1_appendText_0 17 rfl rfl)
theorem dX1_appendText_20 : decode cX1_appendText 20 = .ok (.bipush 24, 2) := dk_16 24 (dk_at dksX1_appendText_0 20 rfl rfl)
theorem dX1_appendText_22 : decode cX1_appendText 22 = .ok (.istore_n 2, 1) := dk_61 (dk_at dksX1_appendText_0 22 rfl rfl)
theorem dX1_appendText_23 : decode cX1_appendText 23 = .ok (.iload_n 2, 1) := dk_28 (dk_at dksX1_appendText_0 23 rfl rfl)
theorem dX1_appendText_24 : decode cX1_appendText 24 = .ok (.ifCond .lt 32, 3) := dk_155 0 32 (dk_at dksX1_appendText_1 0 rfl rfl)
theorem dX1_appendText_27 : decode cX1_appendText 27 = .ok (.aload_n 0, 1) := dk_42 (dk_at dksX1_appendText_1 3 rfl rfl)
theorem dX1_appendText_28 : decode cX1_appendText 28 = .ok (.getfield 85, 3) := dk_180 0 85 (dk_at dksX1_appendText_1 4 rfl rfl)
theorem dX1_appendText_31 : decode cX1_appendText 31 = .ok (.aload_n 0, 1) := dk_42 (dk_at dksX1_appendText_1 7 rfl rfl)
theorem dX1_appendText_32 : decode cX1_appendText 32 = .ok (.getfield 413, 3) := dk_180 1 157 (dk_at dksX1_appendText_1 8 rfl rfl)
theorem dX1_appendText_35 : decode cX1_appendText 35 = .ok (.iload_n 1, 1) := dk_27 (dk_at dksX1_appendText_1 11 rfl rfl)
theorem dX1_appendText_36 : decode cX1_appendText 36 = .ok (.iload_n 2, 1) := dk_28 (dk_at dksX1_appendText_1 12 rfl rfl)
theorem dX1_appendText_37 : decode cX1_appendText 37 = .ok (.ishr, 1) := dk_122 (dk_at dksX1_appendText_1 13 rfl rfl)
theorem dX1_appendText_38 : decode cX1_appendText 38 = .ok (.i2b, 1) := dk_145 (dk_at dksX1_appendText_1 14 rfl rfl)
theorem dX1_appendText_39 : decode cX1_appendText 39 = .ok (.bastore, 1) := dk_84 (dk_at dksX1_appendText_1 15 rfl rfl)
theorem dX1_appendText_40 : decode cX1_appendText 40 = .ok (.aload_n 0, 1) := dk_42 (dk_at dksX1_appendText_1 16 rfl rfl)
theorem dX1_appendText_41 : decode cX1_appendText 41 = .ok (.dup, 1) := dk_89 (dk_at dksX1_appendText_1 17 rfl rfl)
theorem dX1_appendText_42 : decode cX1_appendText 42 = .ok (.getfield 413, 3) := dk_180 1 157 (dk_at dksX1_appendText_1 18 rfl rfl)
theorem dX1_appendText_45 : decode cX1_appendText 45 = .ok (.iconst 1, 1) := dk_4 (dk_at dksX1_appendText_1 21 rfl rfl)
theorem dX1_appendText_46 : decode cX1_appendText 46 = .ok (.iadd, 1) := dk_96 (dk_at dksX1_appendText_1 22 rfl rfl)
theorem dX1_appendText_47 : decode cX1_appendText 47 = .ok (.putfield 413, 3) := dk_181 1 157 (dk_at dksX1_appendText_2 0 rfl rfl)
theorem dX1_appendText_50 : decode cX1_appendText 50 = .ok (.iinc 2 (-8), 3) := dk_132 2 248 (dk_at dksX1_appendText_2 3 rfl rfl)
theorem dX1_appendText_53 : decode cX1_appendText 53 = .ok (.goto (-30), 3) := dk_167 255 226 (dk_at dksX1_appendText_2 6 rfl rfl)
theorem dX1_appendText_56 : decode cX1_appendText 56 = .ok (.aload_n 0, 1) := dk_42 (dk_at dksX1_appendText_2 9 rfl rfl)
theorem dX1_appendText_57 : decode cX1_appendText 57 = .ok (.getfield 413, 3) := dk_180 1 157 (dk_at dksX1_appendText_2 10 rfl rfl)
theorem dX1_appendText_60 : decode cX1_appendText 60 = .ok (.ireturn, 1) := dk_172 (dk_at dksX1_appendText_2 13 rfl rfl)
abbrev cX1_truncateText : ByteArray := prog_1_method_57_code
def yX1_truncateText : MethodName := ⟨RX1, "truncateText", "(I)I"⟩
def dkwX1_truncateText_0 : List UInt8 := [27, 133, 9, 42, 180, 1, 157, 133, 184, 0, 102, 184, 0, 125, 42, 27, 181, 1, 157, 42, 180, 1, 157, 172]
abbrev dktX1_truncateText_0 : List UInt8 := dkwX1_truncateText_0 ++ []
theorem dksX1_truncateText_0 : cX1_truncateText.data.toList.drop 0 = dktX1_truncateText_0 := by decide +kernel
theorem dX1_truncateText_0 : decode cX1_truncateText 0 = .ok (.iload_n 1, 1) := dk_27 (dk_at dksX1_truncateText_0 0 rfl rfl)
theorem dX1_truncateText_1 : decode cX1_truncateText 1 = .ok (.i2l, 1) := dk_133 (dk_at dksX1_truncateText_0 1 rfl rfl)
theorem dX1_truncateText_2 : decode cX1_truncateText 2 = .ok (.lconst 0, 1) := dk_9 (dk_at dksX1_truncateText_0 2 rfl rfl)
theorem dX1_truncateText_3 : decode cX1_truncateText 3 = .ok (.aload_n 0, 1) := dk_42 (dk_at dksX1_truncateText_0 3 rfl rfl)
theorem dX1_truncateText_4 : decode cX1_truncateText 4 = .ok (.getfield 413, 3) := dk_180 1 157 (dk_at dksX1_truncateText_0 4 rfl rfl)
theorem dX1_truncateText_7 : decode cX1_truncateText 7 = .ok (.i2l, 1) := dk_133 (dk_at dksX1_truncateText_0 7 rfl rfl)
theorem dX1_truncateText_8 : decode cX1_truncateText 8 = .ok (.invokestatic 102, 3) := dk_184 0 102 (dk_at dksX1_truncateText_0 8 rfl rfl)
theorem dX1_truncateText_11 : decode cX1_truncateText 11 = .ok (.invokestatic 125, 3) := dk_184 0 125 (dk_at dksX1_truncateText_0 11 rfl rfl)
theorem dX1_truncateText_14 : decode cX1_truncateText 14 = .ok (.aload_n 0, 1) := dk_42 (dk_at dksX1_truncateText_0 14 rfl rfl)
theorem dX1_truncateText_15 : decode cX1_truncateText 15 = .ok (.iload_n 1, 1) := dk_27 (dk_at dksX1_truncateText_0 15 rfl rfl)
theorem dX1_truncateText_16 : decode cX1_truncateText 16 = .ok (.putfield 413, 3) := dk_181 1 157 (dk_at dksX1_truncateText_0 16 rfl rfl)
theorem dX1_truncateText_19 : decode cX1_truncateText 19 = .ok (.aload_n 0, 1) := dk_42 (dk_at dksX1_truncateText_0 19 rfl rfl)
theorem dX1_truncateText_20 : decode cX1_truncateText 20 = .ok (.getfield 413, 3) := dk_180 1 157 (dk_at dksX1_truncateText_0 20 rfl rfl)
theorem dX1_truncateText_23 : decode cX1_truncateText 23 = .ok (.ireturn, 1) := dk_172 (dk_at dksX1_truncateText_0 23 rfl rfl)
abbrev cX1_evaluate : ByteArray := prog_1_method_58_code
def yX1_evaluate : MethodName := ⟨RX1, "evaluate", "(I)I"⟩
def dkwX1_evaluate_3 : List UInt8 := [181, 1, 157, 29, 172, 58, 4, 42, 3, 181, 1, 157, 25, 4, 191]
abbrev dktX1_evaluate_3 : List UInt8 := dkwX1_evaluate_3 ++ []
def dkwX1_evaluate_2 : List UInt8 := [172, 77, 42, 44, 182, 1, 172, 181, 1, 160, 42, 44, 180, 1, 175, 181, 0, 89, 2, 62, 42, 3]
abbrev dktX1_evaluate_2 : List UInt8 := dkwX1_evaluate_2 ++ dktX1_evaluate_3
def dkwX1_evaluate_1 : List UInt8 := [187, 1, 163, 89, 42, 183, 1, 165, 182, 1, 168, 182, 1, 111, 182, 0, 208, 61, 42, 3, 181, 1, 157, 28]
abbrev dktX1_evaluate_1 : List UInt8 := dkwX1_evaluate_1 ++ dktX1_evaluate_2
def dkwX1_evaluate_0 : List UInt8 := [4, 188, 10, 89, 3, 27, 79, 184, 0, 161, 42, 3, 181, 1, 160, 42, 2, 181, 0, 89, 42, 27, 42]
abbrev dktX1_evaluate_0 : List UInt8 := dkwX1_evaluate_0 ++ dktX1_evaluate_1
theorem dksX1_evaluate_0 : cX1_evaluate.data.toList.drop 0 = dktX1_evaluate_0 := by decide +kernel
theorem dksX1_evaluate_1 : cX1_evaluate.data.toList.drop 23 = dktX1_evaluate_1 := dk_seg dksX1_evaluate_0 23 rfl rfl
theorem dksX1_evaluate_2 : cX1_evaluate.data.toList.drop 47 = dktX1_evaluate_2 := dk_seg dksX1_evaluate_1 24 rfl rfl
theorem dksX1_evaluate_3 : cX1_evaluate.data.toList.drop 69 = dktX1_evaluate_3 := dk_seg dksX1_evaluate_2 22 rfl rfl
theorem dX1_evaluate_0 : decode cX1_evaluate 0 = .ok (.iconst 1, 1) := dk_4 (dk_at dksX1_evaluate_0 0 rfl rfl)
theorem dX1_evaluate_1 : decode cX1_evaluate 1 = .ok (.newarray .int, 2) := dk_188_10 (dk_at dksX1_evaluate_0 1 rfl rfl)
theorem dX1_evaluate_3 : decode cX1_evaluate 3 = .ok (.dup, 1) := dk_89 (dk_at dksX1_evaluate_0 3 rfl rfl)
theorem dX1_evaluate_4 : decode cX1_evaluate 4 = .ok (.iconst 0, 1) := dk_3 (dk_at dksX1_evaluate_0 4 rfl rfl)
theorem dX1_evaluate_5 : decode cX1_evaluate 5 = .ok (.iload_n 1, 1) := dk_27 (dk_at dksX1_evaluate_0 5 rfl rfl)
theorem dX1_evaluate_6 : decode cX1_evaluate 6 = .ok (.iastore, 1) := dk_79 (dk_at dksX1_evaluate_0 6 rfl rfl)
theorem dX1_evaluate_7 : decode cX1_evaluate 7 = .ok (.invokestatic 161, 3) := dk_184 0 161 (dk_at dksX1_evaluate_0 7 rfl rfl)
theorem dX1_evaluate_10 : decode cX1_evaluate 10 = .ok (.aload_n 0, 1) := dk_42 (dk_at dksX1_evaluate_0 10 rfl rfl)
theorem dX1_evaluate_11 : decode cX1_evaluate 11 = .ok (.iconst 0, 1) := dk_3 (dk_at dksX1_evaluate_0 11 rfl rfl)
theorem dX1_evaluate_12 : decode cX1_evaluate 12 = .ok (.putfield 416, 3) := dk_181 1 160 (dk_at dksX1_evaluate_0 12 rfl rfl)
theorem dX1_evaluate_15 : decode cX1_evaluate 15 = .ok (.aload_n 0, 1) := dk_42 (dk_at dksX1_evaluate_0 15 rfl rfl)
theorem dX1_evaluate_16 : decode cX1_evaluate 16 = .ok (.iconst (-1), 1) := dk_2 (dk_at dksX1_evaluate_0 16 rfl rfl)
theorem dX1_evaluate_17 : decode cX1_evaluate 17 = .ok (.putfield 89, 3) := dk_181 0 89 (dk_at dksX1_evaluate_0 17 rfl rfl)
theorem dX1_evaluate_20 : decode cX1_evaluate 20 = .ok (.aload_n 0, 1) := dk_42 (dk_at dksX1_evaluate_0 20 rfl rfl)
theorem dX1_evaluate_21 : decode cX1_evaluate 21 = .ok (.iload_n 1, 1) := dk_27 (dk_at dksX1_evaluate_0 21 rfl rfl)
theorem dX1_evaluate_22 : decode cX1_evaluate 22 = .ok (.aload_n 0, 1) := dk_42 (dk_at dksX1_evaluate_0 22 rfl rfl)
theorem dX1_evaluate_23 : decode cX1_evaluate 23 = .ok (.new 419, 3) := dk_187 1 163 (dk_at dksX1_evaluate_1 0 rfl rfl)
theorem dX1_evaluate_26 : decode cX1_evaluate 26 = .ok (.dup, 1) := dk_89 (dk_at dksX1_evaluate_1 3 rfl rfl)
theorem dX1_evaluate_27 : decode cX1_evaluate 27 = .ok (.aload_n 0, 1) := dk_42 (dk_at dksX1_evaluate_1 4 rfl rfl)
theorem dX1_evaluate_28 : decode cX1_evaluate 28 = .ok (.invokespecial 421, 3) := dk_183 1 165 (dk_at dksX1_evaluate_1 5 rfl rfl)
theorem dX1_evaluate_31 : decode cX1_evaluate 31 = .ok (.invokevirtual 424, 3) := dk_182 1 168 (dk_at dksX1_evaluate_1 8 rfl rfl)
theorem dX1_evaluate_34 : decode cX1_evaluate 34 = .ok (.invokevirtual 367, 3) := dk_182 1 111 (dk_at dksX1_evaluate_1 11 rfl rfl)
theorem dX1_evaluate_37 : decode cX1_evaluate 37 = .ok (.invokevirtual 208, 3) := dk_182 0 208 (dk_at dksX1_evaluate_1 14 rfl rfl)
theorem dX1_evaluate_40 : decode cX1_evaluate 40 = .ok (.istore_n 2, 1) := dk_61 (dk_at dksX1_evaluate_1 17 rfl rfl)
theorem dX1_evaluate_41 : decode cX1_evaluate 41 = .ok (.aload_n 0, 1) := dk_42 (dk_at dksX1_evaluate_1 18 rfl rfl)
theorem dX1_evaluate_42 : decode cX1_evaluate 42 = .ok (.iconst 0, 1) := dk_3 (dk_at dksX1_evaluate_1 19 rfl rfl)
theorem dX1_evaluate_43 : decode cX1_evaluate 43 = .ok (.putfield 413, 3) := dk_181 1 157 (dk_at dksX1_evaluate_1 20 rfl rfl)
theorem dX1_evaluate_46 : decode cX1_evaluate 46 = .ok (.iload_n 2, 1) := dk_28 (dk_at dksX1_evaluate_1 23 rfl rfl)
theorem dX1_evaluate_47 : decode cX1_evaluate 47 = .ok (.ireturn, 1) := dk_172 (dk_at dksX1_evaluate_2 0 rfl rfl)
theorem dX1_evaluate_48 : decode cX1_evaluate 48 = .ok (.astore_n 2, 1) := dk_77 (dk_at dksX1_evaluate_2 1 rfl rfl)
theorem dX1_evaluate_49 : decode cX1_evaluate 49 = .ok (.aload_n 0, 1) := dk_42 (dk_at dksX1_evaluate_2 2 rfl rfl)
theorem dX1_evaluate_50 : decode cX1_evaluate 50 = .ok (.aload_n 2, 1) := dk_44 (dk_at dksX1_evaluate_2 3 rfl rfl)
theorem dX1_evaluate_51 : decode cX1_evaluate 51 = .ok (.invokevirtual 428, 3) := dk_182 1 172 (dk_at dksX1_evaluate_2 4 rfl rfl)
theorem dX1_evaluate_54 : decode cX1_evaluate 54 = .ok (.putfield 416, 3) := dk_181 1 160 (dk_at dksX1_evaluate_2 7 rfl rfl)
theorem dX1_evaluate_57 : decode cX1_evaluate 57 = .ok (.aload_n 0, 1) := dk_42 (dk_at dksX1_evaluate_2 10 rfl rfl)
theorem dX1_evaluate_58 : decode cX1_evaluate 58 = .ok (.aload_n 2, 1) := dk_44 (dk_at dksX1_evaluate_2 11 rfl rfl)
theorem dX1_evaluate_59 : decode cX1_evaluate 59 = .ok (.getfield 431, 3) := dk_180 1 175 (dk_at dksX1_evaluate_2 12 rfl rfl)
theorem dX1_evaluate_62 : decode cX1_evaluate 62 = .ok (.putfield 89, 3) := dk_181 0 89 (dk_at dksX1_evaluate_2 15 rfl rfl)
theorem dX1_evaluate_65 : decode cX1_evaluate 65 = .ok (.iconst (-1), 1) := dk_2 (dk_at dksX1_evaluate_2 18 rfl rfl)
theorem dX1_evaluate_66 : decode cX1_evaluate 66 = .ok (.istore_n 3, 1) := dk_62 (dk_at dksX1_evaluate_2 19 rfl rfl)
theorem dX1_evaluate_67 : decode cX1_evaluate 67 = .ok (.aload_n 0, 1) := dk_42 (dk_at dksX1_evaluate_2 20 rfl rfl)
theorem dX1_evaluate_68 : decode cX1_evaluate 68 = .ok (.iconst 0, 1) := dk_3 (dk_at dksX1_evaluate_2 21 rfl rfl)
theorem dX1_evaluate_69 : decode cX1_evaluate 69 = .ok (.putfield 413, 3) := dk_181 1 157 (dk_at dksX1_evaluate_3 0 rfl rfl)
theorem dX1_evaluate_72 : decode cX1_evaluate 72 = .ok (.iload_n 3, 1) := dk_29 (dk_at dksX1_evaluate_3 3 rfl rfl)
theorem dX1_evaluate_73 : decode cX1_evaluate 73 = .ok (.ireturn, 1) := dk_172 (dk_at dksX1_evaluate_3 4 rfl rfl)
theorem dX1_evaluate_74 : decode cX1_evaluate 74 = .ok (.astore 4, 2) := dk_58 4 (dk_at dksX1_evaluate_3 5 rfl rfl)
theorem dX1_evaluate_76 : decode cX1_evaluate 76 = .ok (.aload_n 0, 1) := dk_42 (dk_at dksX1_evaluate_3 7 rfl rfl)
theorem dX1_evaluate_77 : decode cX1_evaluate 77 = .ok (.iconst 0, 1) := dk_3 (dk_at dksX1_evaluate_3 8 rfl rfl)
theorem dX1_evaluate_78 : decode cX1_evaluate 78 = .ok (.putfield 413, 3) := dk_181 1 157 (dk_at dksX1_evaluate_3 9 rfl rfl)
theorem dX1_evaluate_81 : decode cX1_evaluate 81 = .ok (.aload 4, 2) := dk_25 4 (dk_at dksX1_evaluate_3 12 rfl rfl)
theorem dX1_evaluate_83 : decode cX1_evaluate 83 = .ok (.athrow, 1) := dk_191 (dk_at dksX1_evaluate_3 14 rfl rfl)
abbrev cX1_valueOf : ByteArray := prog_1_method_54_code
def yX1_valueOf : MethodName := ⟨RX1, "valueOf", "(LBladeAlgebra$Node;)LBladeAlgebra$Multi;"⟩
def dkwX1_valueOf_8 : List UInt8 := [183, 1, 154, 191, 132, 4, 1, 167, 255, 166, 45, 176]
abbrev dktX1_valueOf_8 : List UInt8 := dkwX1_valueOf_8 ++ []
def dkwX1_valueOf_7 : List UInt8 := [187, 1, 144, 89, 3, 44, 180, 1, 146, 21, 4, 182, 1, 137, 192, 1, 149, 182, 1, 151, 25, 6]
abbrev dktX1_valueOf_7 : List UInt8 := dkwX1_valueOf_7 ++ dktX1_valueOf_8
def dkwX1_valueOf_6 : List UInt8 := [192, 0, 56, 42, 180, 0, 77, 180, 0, 133, 45, 25, 5, 182, 0, 204, 78, 167, 0, 31, 58, 6]
abbrev dktX1_valueOf_6 : List UInt8 := dkwX1_valueOf_6 ++ dktX1_valueOf_7
def dkwX1_valueOf_5 : List UInt8 := [21, 4, 182, 1, 137, 192, 1, 141, 182, 1, 111, 58, 5, 44, 180, 1, 143, 21, 4, 182, 1, 137]
abbrev dktX1_valueOf_5 : List UInt8 := dkwX1_valueOf_5 ++ dktX1_valueOf_6
def dkwX1_valueOf_4 : List UInt8 := [182, 1, 111, 78, 3, 54, 4, 21, 4, 44, 180, 1, 131, 182, 1, 134, 162, 0, 84, 42, 44, 180, 1, 131]
abbrev dktX1_valueOf_4 : List UInt8 := dkwX1_valueOf_4 ++ dktX1_valueOf_5
def dkwX1_valueOf_3 : List UInt8 := [25, 5, 45, 182, 1, 122, 78, 167, 255, 226, 45, 176, 43, 192, 1, 126, 77, 42, 44, 180, 1, 128]
abbrev dktX1_valueOf_3 : List UInt8 := dkwX1_valueOf_3 ++ dktX1_valueOf_4
def dkwX1_valueOf_2 : List UInt8 := [25, 4, 185, 1, 23, 1, 0, 153, 0, 26, 25, 4, 185, 1, 28, 1, 0, 192, 0, 66, 58, 5, 42]
abbrev dktX1_valueOf_2 : List UInt8 := dkwX1_valueOf_2 ++ dktX1_valueOf_3
def dkwX1_valueOf_1 : List UInt8 := [43, 192, 1, 106, 77, 42, 44, 180, 1, 108, 182, 1, 111, 78, 44, 180, 1, 115, 182, 1, 119, 58, 4]
abbrev dktX1_valueOf_1 : List UInt8 := dkwX1_valueOf_1 ++ dktX1_valueOf_2
def dkwX1_valueOf_0 : List UInt8 := [43, 193, 1, 101, 153, 0, 13, 43, 192, 1, 101, 77, 44, 180, 1, 103, 176, 43, 193, 1, 106, 153, 0, 61]
abbrev dktX1_valueOf_0 : List UInt8 := dkwX1_valueOf_0 ++ dktX1_valueOf_1
theorem dksX1_valueOf_0 : cX1_valueOf.data.toList.drop 0 = dktX1_valueOf_0 := by decide +kernel
theorem dksX1_valueOf_1 : cX1_valueOf.data.toList.drop 24 = dktX1_valueOf_1 := dk_seg dksX1_valueOf_0 24 rfl rfl
theorem dksX1_valueOf_2 : cX1_valueOf.data.toList.drop 47 = dktX1_valueOf_2 := dk_seg dksX1_valueOf_1 23 rfl rfl
theorem dksX1_valueOf_3 : cX1_valueOf.data.toList.drop 70 = dktX1_valueOf_3 := dk_seg dksX1_valueOf_2 23 rfl rfl
theorem dksX1_valueOf_4 : cX1_valueOf.data.toList.drop 92 = dktX1_valueOf_4 := dk_seg dksX1_valueOf_3 22 rfl rfl
theorem dksX1_valueOf_5 : cX1_valueOf.data.toList.drop 116 = dktX1_valueOf_5 := dk_seg dksX1_valueOf_4 24 rfl rfl
theorem dksX1_valueOf_6 : cX1_valueOf.data.toList.drop 138 = dktX1_valueOf_6 := dk_seg dksX1_valueOf_5 22 rfl rfl
theorem dksX1_valueOf_7 : cX1_valueOf.data.toList.drop 160 = dktX1_valueOf_7 := dk_seg dksX1_valueOf_6 22 rfl rfl
theorem dksX1_valueOf_8 : cX1_valueOf.data.toList.drop 182 = dktX1_valueOf_8 := dk_seg dksX1_valueOf_7 22 rfl rfl
theorem dX1_valueOf_0 : decode cX1_valueOf 0 = .ok (.aload_n 1, 1) := dk_43 (dk_at dksX1_valueOf_0 0 rfl rfl)
theorem dX1_valueOf_1 : decode cX1_valueOf 1 = .ok (.instanceof 357, 3) := dk_193 1 101 (dk_at dksX1_valueOf_0 1 rfl rfl)
theorem dX1_valueOf_4 : decode cX1_valueOf 4 = .ok (.ifCond .eq 13, 3) := dk_153 0 13 (dk_at dksX1_valueOf_0 4 rfl rfl)
theorem dX1_valueOf_7 : decode cX1_valueOf 7 = .ok (.aload_n 1, 1) := dk_43 (dk_at dksX1_valueOf_0 7 rfl rfl)
theorem dX1_valueOf_8 : decode cX1_valueOf 8 = .ok (.checkcast 357, 3) := dk_192 1 101 (dk_at dksX1_valueOf_0 8 rfl rfl)
theorem dX1_valueOf_11 : decode cX1_valueOf 11 = .ok (.astore_n 2, 1) := dk_77 (dk_at dksX1_valueOf_0 11 rfl rfl)
theorem dX1_valueOf_12 : decode cX1_valueOf 12 = .ok (.aload_n 2, 1) := dk_44 (dk_at dksX1_valueOf_0 12 rfl rfl)
theorem dX1_valueOf_13 : decode cX1_valueOf 13 = .ok (.getfield 359, 3) := dk_180 1 103 (dk_at dksX1_valueOf_0 13 rfl rfl)
theorem dX1_valueOf_16 : decode cX1_valueOf 16 = .ok (.areturn, 1) := dk_176 (dk_at dksX1_valueOf_0 16 rfl rfl)
theorem dX1_valueOf_17 : decode cX1_valueOf 17 = .ok (.aload_n 1, 1) := dk_43 (dk_at dksX1_valueOf_0 17 rfl rfl)
theorem dX1_valueOf_18 : decode cX1_valueOf 18 = .ok (.instanceof 362, 3) := dk_193 1 106 (dk_at dksX1_valueOf_0 18 rfl rfl)
theorem dX1_valueOf_21 : decode cX1_valueOf 21 = .ok (.ifCond .eq 61, 3) := dk_153 0 61 (dk_at dksX1_valueOf_0 21 rfl rfl)
theorem dX1_valueOf_24 : decode cX1_valueOf 24 = .ok (.aload_n 1, 1) := dk_43 (dk_at dksX1_valueOf_1 0 rfl rfl)
theorem dX1_valueOf_25 : decode cX1_valueOf 25 = .ok (.checkcast 362, 3) := dk_192 1 106 (dk_at dksX1_valueOf_1 1 rfl rfl)
theorem dX1_valueOf_28 : decode cX1_valueOf 28 = .ok (.astore_n 2, 1) := dk_77 (dk_at dksX1_valueOf_1 4 rfl rfl)
theorem dX1_valueOf_29 : decode cX1_valueOf 29 = .ok (.aload_n 0, 1) := dk_42 (dk_at dksX1_valueOf_1 5 rfl rfl)
theorem dX1_valueOf_30 : decode cX1_valueOf 30 = .ok (.aload_n 2, 1) := dk_44 (dk_at dksX1_valueOf_1 6 rfl rfl)
theorem dX1_valueOf_31 : decode cX1_valueOf 31 = .ok (.getfield 364, 3) := dk_180 1 108 (dk_at dksX1_valueOf_1 7 rfl rfl)
theorem dX1_valueOf_34 : decode cX1_valueOf 34 = .ok (.invokevirtual 367, 3) := dk_182 1 111 (dk_at dksX1_valueOf_1 10 rfl rfl)
theorem dX1_valueOf_37 : decode cX1_valueOf 37 = .ok (.astore_n 3, 1) := dk_78 (dk_at dksX1_valueOf_1 13 rfl rfl)
theorem dX1_valueOf_38 : decode cX1_valueOf 38 = .ok (.aload_n 2, 1) := dk_44 (dk_at dksX1_valueOf_1 14 rfl rfl)
theorem dX1_valueOf_39 : decode cX1_valueOf 39 = .ok (.getfield 371, 3) := dk_180 1 115 (dk_at dksX1_valueOf_1 15 rfl rfl)
theorem dX1_valueOf_42 : decode cX1_valueOf 42 = .ok (.invokevirtual 375, 3) := dk_182 1 119 (dk_at dksX1_valueOf_1 18 rfl rfl)
theorem dX1_valueOf_45 : decode cX1_valueOf 45 = .ok (.astore 4, 2) := dk_58 4 (dk_at dksX1_valueOf_1 21 rfl rfl)
theorem dX1_valueOf_47 : decode cX1_valueOf 47 = .ok (.aload 4, 2) := dk_25 4 (dk_at dksX1_valueOf_2 0 rfl rfl)
theorem dX1_valueOf_49 : decode cX1_valueOf 49 = .ok (.invokeinterface 279 1, 5) := by decide +kernel
theorem dX1_valueOf_54 : decode cX1_valueOf 54 = .ok (.ifCond .eq 26, 3) := dk_153 0 26 (dk_at dksX1_valueOf_2 7 rfl rfl)
theorem dX1_valueOf_57 : decode cX1_valueOf 57 = .ok (.aload 4, 2) := dk_25 4 (dk_at dksX1_valueOf_2 10 rfl rfl)
theorem dX1_valueOf_59 : decode cX1_valueOf 59 = .ok (.invokeinterface 284 1, 5) := by decide +kernel
theorem dX1_valueOf_64 : decode cX1_valueOf 64 = .ok (.checkcast 66, 3) := dk_192 0 66 (dk_at dksX1_valueOf_2 17 rfl rfl)
theorem dX1_valueOf_67 : decode cX1_valueOf 67 = .ok (.astore 5, 2) := dk_58 5 (dk_at dksX1_valueOf_2 20 rfl rfl)
theorem dX1_valueOf_69 : decode cX1_valueOf 69 = .ok (.aload_n 0, 1) := dk_42 (dk_at dksX1_valueOf_2 22 rfl rfl)
theorem dX1_valueOf_70 : decode cX1_valueOf 70 = .ok (.aload 5, 2) := dk_25 5 (dk_at dksX1_valueOf_3 0 rfl rfl)
theorem dX1_valueOf_72 : decode cX1_valueOf 72 = .ok (.aload_n 3, 1) := dk_45 (dk_at dksX1_valueOf_3 2 rfl rfl)
theorem dX1_valueOf_73 : decode cX1_valueOf 73 = .ok (.invokevirtual 378, 3) := dk_182 1 122 (dk_at dksX1_valueOf_3 3 rfl rfl)
theorem dX1_valueOf_76 : decode cX1_valueOf 76 = .ok (.astore_n 3, 1) := dk_78 (dk_at dksX1_valueOf_3 6 rfl rfl)
theorem dX1_valueOf_77 : decode cX1_valueOf 77 = .ok (.goto (-30), 3) := dk_167 255 226 (dk_at dksX1_valueOf_3 7 rfl rfl)
theorem dX1_valueOf_80 : decode cX1_valueOf 80 = .ok (.aload_n 3, 1) := dk_45 (dk_at dksX1_valueOf_3 10 rfl rfl)
theorem dX1_valueOf_81 : decode cX1_valueOf 81 = .ok (.areturn, 1) := dk_176 (dk_at dksX1_valueOf_3 11 rfl rfl)
theorem dX1_valueOf_82 : decode cX1_valueOf 82 = .ok (.aload_n 1, 1) := dk_43 (dk_at dksX1_valueOf_3 12 rfl rfl)
theorem dX1_valueOf_83 : decode cX1_valueOf 83 = .ok (.checkcast 382, 3) := dk_192 1 126 (dk_at dksX1_valueOf_3 13 rfl rfl)
theorem dX1_valueOf_86 : decode cX1_valueOf 86 = .ok (.astore_n 2, 1) := dk_77 (dk_at dksX1_valueOf_3 16 rfl rfl)
theorem dX1_valueOf_87 : decode cX1_valueOf 87 = .ok (.aload_n 0, 1) := dk_42 (dk_at dksX1_valueOf_3 17 rfl rfl)
theorem dX1_valueOf_88 : decode cX1_valueOf 88 = .ok (.aload_n 2, 1) := dk_44 (dk_at dksX1_valueOf_3 18 rfl rfl)
theorem dX1_valueOf_89 : decode cX1_valueOf 89 = .ok (.getfield 384, 3) := dk_180 1 128 (dk_at dksX1_valueOf_3 19 rfl rfl)
theorem dX1_valueOf_92 : decode cX1_valueOf 92 = .ok (.invokevirtual 367, 3) := dk_182 1 111 (dk_at dksX1_valueOf_4 0 rfl rfl)
theorem dX1_valueOf_95 : decode cX1_valueOf 95 = .ok (.astore_n 3, 1) := dk_78 (dk_at dksX1_valueOf_4 3 rfl rfl)
theorem dX1_valueOf_96 : decode cX1_valueOf 96 = .ok (.iconst 0, 1) := dk_3 (dk_at dksX1_valueOf_4 4 rfl rfl)
theorem dX1_valueOf_97 : decode cX1_valueOf 97 = .ok (.istore 4, 2) := dk_54 4 (dk_at dksX1_valueOf_4 5 rfl rfl)
theorem dX1_valueOf_99 : decode cX1_valueOf 99 = .ok (.iload 4, 2) := dk_21 4 (dk_at dksX1_valueOf_4 7 rfl rfl)
theorem dX1_valueOf_101 : decode cX1_valueOf 101 = .ok (.aload_n 2, 1) := dk_44 (dk_at dksX1_valueOf_4 9 rfl rfl)
theorem dX1_valueOf_102 : decode cX1_valueOf 102 = .ok (.getfield 387, 3) := dk_180 1 131 (dk_at dksX1_valueOf_4 10 rfl rfl)
theorem dX1_valueOf_105 : decode cX1_valueOf 105 = .ok (.invokevirtual 390, 3) := dk_182 1 134 (dk_at dksX1_valueOf_4 13 rfl rfl)
theorem dX1_valueOf_108 : decode cX1_valueOf 108 = .ok (.if_icmp .ge 84, 3) := dk_162 0 84 (dk_at dksX1_valueOf_4 16 rfl rfl)
theorem dX1_valueOf_111 : decode cX1_valueOf 111 = .ok (.aload_n 0, 1) := dk_42 (dk_at dksX1_valueOf_4 19 rfl rfl)
theorem dX1_valueOf_112 : decode cX1_valueOf 112 = .ok (.aload_n 2, 1) := dk_44 (dk_at dksX1_valueOf_4 20 rfl rfl)
theorem dX1_valueOf_113 : decode cX1_valueOf 113 = .ok (.getfield 387, 3) := dk_180 1 131 (dk_at dksX1_valueOf_4 21 rfl rfl)
theorem dX1_valueOf_116 : decode cX1_valueOf 116 = .ok (.iload 4, 2) := dk_21 4 (dk_at dksX1_valueOf_5 0 rfl rfl)
theorem dX1_valueOf_118 : decode cX1_valueOf 118 = .ok (.invokevirtual 393, 3) := dk_182 1 137 (dk_at dksX1_valueOf_5 2 rfl rfl)
theorem dX1_valueOf_121 : decode cX1_valueOf 121 = .ok (.checkcast 397, 3) := dk_192 1 141 (dk_at dksX1_valueOf_5 5 rfl rfl)
theorem dX1_valueOf_124 : decode cX1_valueOf 124 = .ok (.invokevirtual 367, 3) := dk_182 1 111 (dk_at dksX1_valueOf_5 8 rfl rfl)
theorem dX1_valueOf_127 : decode cX1_valueOf 127 = .ok (.astore 5, 2) := dk_58 5 (dk_at dksX1_valueOf_5 11 rfl rfl)
theorem dX1_valueOf_129 : decode cX1_valueOf 129 = .ok (.aload_n 2, 1) := dk_44 (dk_at dksX1_valueOf_5 13 rfl rfl)
theorem dX1_valueOf_130 : decode cX1_valueOf 130 = .ok (.getfield 399, 3) := dk_180 1 143 (dk_at dksX1_valueOf_5 14 rfl rfl)
theorem dX1_valueOf_133 : decode cX1_valueOf 133 = .ok (.iload 4, 2) := dk_21 4 (dk_at dksX1_valueOf_5 17 rfl rfl)
theorem dX1_valueOf_135 : decode cX1_valueOf 135 = .ok (.invokevirtual 393, 3) := dk_182 1 137 (dk_at dksX1_valueOf_5 19 rfl rfl)
theorem dX1_valueOf_138 : decode cX1_valueOf 138 = .ok (.checkcast 56, 3) := dk_192 0 56 (dk_at dksX1_valueOf_6 0 rfl rfl)
theorem dX1_valueOf_141 : decode cX1_valueOf 141 = .ok (.aload_n 0, 1) := dk_42 (dk_at dksX1_valueOf_6 3 rfl rfl)
theorem dX1_valueOf_142 : decode cX1_valueOf 142 = .ok (.getfield 77, 3) := dk_180 0 77 (dk_at dksX1_valueOf_6 4 rfl rfl)
theorem dX1_valueOf_145 : decode cX1_valueOf 145 = .ok (.getfield 133, 3) := dk_180 0 133 (dk_at dksX1_valueOf_6 7 rfl rfl)
theorem dX1_valueOf_148 : decode cX1_valueOf 148 = .ok (.aload_n 3, 1) := dk_45 (dk_at dksX1_valueOf_6 10 rfl rfl)
theorem dX1_valueOf_149 : decode cX1_valueOf 149 = .ok (.aload 5, 2) := dk_25 5 (dk_at dksX1_valueOf_6 11 rfl rfl)
theorem dX1_valueOf_151 : decode cX1_valueOf 151 = .ok (.invokevirtual 204, 3) := dk_182 0 204 (dk_at dksX1_valueOf_6 13 rfl rfl)
theorem dX1_valueOf_154 : decode cX1_valueOf 154 = .ok (.astore_n 3, 1) := dk_78 (dk_at dksX1_valueOf_6 16 rfl rfl)
theorem dX1_valueOf_155 : decode cX1_valueOf 155 = .ok (.goto 31, 3) := dk_167 0 31 (dk_at dksX1_valueOf_6 17 rfl rfl)
theorem dX1_valueOf_158 : decode cX1_valueOf 158 = .ok (.astore 6, 2) := dk_58 6 (dk_at dksX1_valueOf_6 20 rfl rfl)
theorem dX1_valueOf_160 : decode cX1_valueOf 160 = .ok (.new 400, 3) := dk_187 1 144 (dk_at dksX1_valueOf_7 0 rfl rfl)
theorem dX1_valueOf_163 : decode cX1_valueOf 163 = .ok (.dup, 1) := dk_89 (dk_at dksX1_valueOf_7 3 rfl rfl)
theorem dX1_valueOf_164 : decode cX1_valueOf 164 = .ok (.iconst 0, 1) := dk_3 (dk_at dksX1_valueOf_7 4 rfl rfl)
theorem dX1_valueOf_165 : decode cX1_valueOf 165 = .ok (.aload_n 2, 1) := dk_44 (dk_at dksX1_valueOf_7 5 rfl rfl)
theorem dX1_valueOf_166 : decode cX1_valueOf 166 = .ok (.getfield 402, 3) := dk_180 1 146 (dk_at dksX1_valueOf_7 6 rfl rfl)
theorem dX1_valueOf_169 : decode cX1_valueOf 169 = .ok (.iload 4, 2) := dk_21 4 (dk_at dksX1_valueOf_7 9 rfl rfl)
theorem dX1_valueOf_171 : decode cX1_valueOf 171 = .ok (.invokevirtual 393, 3) := dk_182 1 137 (dk_at dksX1_valueOf_7 11 rfl rfl)
theorem dX1_valueOf_174 : decode cX1_valueOf 174 = .ok (.checkcast 405, 3) := dk_192 1 149 (dk_at dksX1_valueOf_7 14 rfl rfl)
theorem dX1_valueOf_177 : decode cX1_valueOf 177 = .ok (.invokevirtual 407, 3) := dk_182 1 151 (dk_at dksX1_valueOf_7 17 rfl rfl)
theorem dX1_valueOf_180 : decode cX1_valueOf 180 = .ok (.aload 6, 2) := dk_25 6 (dk_at dksX1_valueOf_7 20 rfl rfl)
theorem dX1_valueOf_182 : decode cX1_valueOf 182 = .ok (.invokespecial 410, 3) := dk_183 1 154 (dk_at dksX1_valueOf_8 0 rfl rfl)
theorem dX1_valueOf_185 : decode cX1_valueOf 185 = .ok (.athrow, 1) := dk_191 (dk_at dksX1_valueOf_8 3 rfl rfl)
theorem dX1_valueOf_186 : decode cX1_valueOf 186 = .ok (.iinc 4 1, 3) := dk_132 4 1 (dk_at dksX1_valueOf_8 4 rfl rfl)
theorem dX1_valueOf_189 : decode cX1_valueOf 189 = .ok (.goto (-90), 3) := dk_167 255 166 (dk_at dksX1_valueOf_8 7 rfl rfl)
theorem dX1_valueOf_192 : decode cX1_valueOf 192 = .ok (.aload_n 3, 1) := dk_45 (dk_at dksX1_valueOf_8 10 rfl rfl)
theorem dX1_valueOf_193 : decode cX1_valueOf 193 = .ok (.areturn, 1) := dk_176 (dk_at dksX1_valueOf_8 11 rfl rfl)
abbrev cX1_changed : ByteArray := prog_1_method_55_code
def yX1_changed : MethodName := ⟨RX1, "changed", "(LBladeAlgebra$One;LBladeAlgebra$Multi;)LBladeAlgebra$Multi;"⟩
def dkwX1_changed_1 : List UInt8 := [191]
abbrev dktX1_changed_1 : List UInt8 := dkwX1_changed_1 ++ []
def dkwX1_changed_0 : List UInt8 := [43, 42, 180, 0, 77, 180, 0, 133, 44, 182, 0, 212, 176, 78, 187, 1, 144, 89, 3, 3, 45, 183, 1, 154]
abbrev dktX1_changed_0 : List UInt8 := dkwX1_changed_0 ++ dktX1_changed_1
theorem dksX1_changed_0 : cX1_changed.data.toList.drop 0 = dktX1_changed_0 := by decide +kernel
theorem dksX1_changed_1 : cX1_changed.data.toList.drop 24 = dktX1_changed_1 := dk_seg dksX1_changed_0 24 rfl rfl
theorem dX1_changed_0 : decode cX1_changed 0 = .ok (.aload_n 1, 1) := dk_43 (dk_at dksX1_changed_0 0 rfl rfl)
theorem dX1_changed_1 : decode cX1_changed 1 = .ok (.aload_n 0, 1) := dk_42 (dk_at dksX1_changed_0 1 rfl rfl)
theorem dX1_changed_2 : decode cX1_changed 2 = .ok (.getfield 77, 3) := dk_180 0 77 (dk_at dksX1_changed_0 2 rfl rfl)
theorem dX1_changed_5 : decode cX1_changed 5 = .ok (.getfield 133, 3) := dk_180 0 133 (dk_at dksX1_changed_0 5 rfl rfl)
theorem dX1_changed_8 : decode cX1_changed 8 = .ok (.aload_n 2, 1) := dk_44 (dk_at dksX1_changed_0 8 rfl rfl)
theorem dX1_changed_9 : decode cX1_changed 9 = .ok (.invokevirtual 212, 3) := dk_182 0 212 (dk_at dksX1_changed_0 9 rfl rfl)
theorem dX1_changed_12 : decode cX1_changed 12 = .ok (.areturn, 1) := dk_176 (dk_at dksX1_changed_0 12 rfl rfl)
theorem dX1_changed_13 : decode cX1_changed 13 = .ok (.astore_n 3, 1) := dk_78 (dk_at dksX1_changed_0 13 rfl rfl)
theorem dX1_changed_14 : decode cX1_changed 14 = .ok (.new 400, 3) := dk_187 1 144 (dk_at dksX1_changed_0 14 rfl rfl)
theorem dX1_changed_17 : decode cX1_changed 17 = .ok (.dup, 1) := dk_89 (dk_at dksX1_changed_0 17 rfl rfl)
theorem dX1_changed_18 : decode cX1_changed 18 = .ok (.iconst 0, 1) := dk_3 (dk_at dksX1_changed_0 18 rfl rfl)
theorem dX1_changed_19 : decode cX1_changed 19 = .ok (.iconst 0, 1) := dk_3 (dk_at dksX1_changed_0 19 rfl rfl)
theorem dX1_changed_20 : decode cX1_changed 20 = .ok (.aload_n 3, 1) := dk_45 (dk_at dksX1_changed_0 20 rfl rfl)
theorem dX1_changed_21 : decode cX1_changed 21 = .ok (.invokespecial 410, 3) := dk_183 1 154 (dk_at dksX1_changed_0 21 rfl rfl)
theorem dX1_changed_24 : decode cX1_changed 24 = .ok (.athrow, 1) := dk_191 (dk_at dksX1_changed_1 0 rfl rfl)
abbrev cX1_write : ByteArray := prog_1_method_62_code
def yX1_write : MethodName := ⟨RX1, "write", "(I)I"⟩
def dkwX1_write_6 : List UInt8 := [182, 1, 194, 172]
abbrev dktX1_write_6 : List UInt8 := dkwX1_write_6 ++ []
def dkwX1_write_5 : List UInt8 := [180, 0, 96, 182, 1, 194, 154, 0, 13, 42, 180, 0, 96, 16, 48, 182, 1, 185, 87, 42, 180, 0, 96]
abbrev dktX1_write_5 : List UInt8 := dkwX1_write_5 ++ dktX1_write_6
def dkwX1_write_4 : List UInt8 := [153, 0, 13, 42, 180, 0, 96, 16, 45, 182, 1, 185, 87, 42, 45, 182, 1, 207, 167, 255, 178, 42]
abbrev dktX1_write_4 : List UInt8 := dkwX1_write_4 ++ dktX1_write_5
def dkwX1_write_3 : List UInt8 := [153, 0, 9, 19, 1, 200, 167, 0, 6, 19, 1, 202, 182, 1, 204, 87, 167, 0, 20, 45, 182, 1, 197]
abbrev dktX1_write_3 : List UInt8 := dkwX1_write_3 ++ dktX1_write_4
def dkwX1_write_2 : List UInt8 := [192, 0, 185, 78, 42, 180, 0, 96, 182, 1, 194, 158, 0, 30, 42, 180, 0, 96, 45, 182, 1, 197]
abbrev dktX1_write_2 : List UInt8 := dkwX1_write_2 ++ dktX1_write_3
def dkwX1_write_1 : List UInt8 := [180, 0, 110, 27, 50, 182, 1, 19, 77, 44, 185, 1, 23, 1, 0, 153, 0, 75, 44, 185, 1, 28, 1, 0]
abbrev dktX1_write_1 : List UInt8 := dkwX1_write_1 ++ dktX1_write_2
def dkwX1_write_0 : List UInt8 := [4, 188, 10, 89, 3, 27, 79, 184, 0, 161, 42, 180, 0, 96, 3, 182, 1, 191, 42, 180, 0, 77]
abbrev dktX1_write_0 : List UInt8 := dkwX1_write_0 ++ dktX1_write_1
theorem dksX1_write_0 : cX1_write.data.toList.drop 0 = dktX1_write_0 := by decide +kernel
theorem dksX1_write_1 : cX1_write.data.toList.drop 22 = dktX1_write_1 := dk_seg dksX1_write_0 22 rfl rfl
theorem dksX1_write_2 : cX1_write.data.toList.drop 46 = dktX1_write_2 := dk_seg dksX1_write_1 24 rfl rfl
theorem dksX1_write_3 : cX1_write.data.toList.drop 68 = dktX1_write_3 := dk_seg dksX1_write_2 22 rfl rfl
theorem dksX1_write_4 : cX1_write.data.toList.drop 91 = dktX1_write_4 := dk_seg dksX1_write_3 23 rfl rfl
theorem dksX1_write_5 : cX1_write.data.toList.drop 113 = dktX1_write_5 := dk_seg dksX1_write_4 22 rfl rfl
theorem dksX1_write_6 : cX1_write.data.toList.drop 136 = dktX1_write_6 := dk_seg dksX1_write_5 23 rfl rfl
theorem dX1_write_0 : decode cX1_write 0 = .ok (.iconst 1, 1) := dk_4 (dk_at dksX1_write_0 0 rfl rfl)
theorem dX1_write_1 : decode cX1_write 1 = .ok (.newarray .int, 2) := dk_188_10 (dk_at dksX1_write_0 1 rfl rfl)
theorem dX1_write_3 : decode cX1_write 3 = .ok (.dup, 1) := dk_89 (dk_at dksX1_write_0 3 rfl rfl)
theorem dX1_write_4 : decode cX1_write 4 = .ok (.iconst 0, 1) := dk_3 (dk_at dksX1_write_0 4 rfl rfl)
theorem dX1_write_5 : decode cX1_write 5 = .ok (.iload_n 1, 1) := dk_27 (dk_at dksX1_write_0 5 rfl rfl)
theorem dX1_write_6 : decode cX1_write 6 = .ok (.iastore, 1) := dk_79 (dk_at dksX1_write_0 6 rfl rfl)
theorem dX1_write_7 : decode cX1_write 7 = .ok (.invokestatic 161, 3) := dk_184 0 161 (dk_at dksX1_write_0 7 rfl rfl)
theorem dX1_write_10 : decode cX1_write 10 = .ok (.aload_n 0, 1) := dk_42 (dk_at dksX1_write_0 10 rfl rfl)
theorem dX1_write_11 : decode cX1_write 11 = .ok (.getfield 96, 3) := dk_180 0 96 (dk_at dksX1_write_0 11 rfl rfl)
theorem dX1_write_14 : decode cX1_write 14 = .ok (.iconst 0, 1) := dk_3 (dk_at dksX1_write_0 14 rfl rfl)
theorem dX1_write_15 : decode cX1_write 15 = .ok (.invokevirtual 447, 3) := dk_182 1 191 (dk_at dksX1_write_0 15 rfl rfl)
theorem dX1_write_18 : decode cX1_write 18 = .ok (.aload_n 0, 1) := dk_42 (dk_at dksX1_write_0 18 rfl rfl)
theorem dX1_write_19 : decode cX1_write 19 = .ok (.getfield 77, 3) := dk_180 0 77 (dk_at dksX1_write_0 19 rfl rfl)
theorem dX1_write_22 : decode cX1_write 22 = .ok (.getfield 110, 3) := dk_180 0 110 (dk_at dksX1_write_1 0 rfl rfl)
theorem dX1_write_25 : decode cX1_write 25 = .ok (.iload_n 1, 1) := dk_27 (dk_at dksX1_write_1 3 rfl rfl)
theorem dX1_write_26 : decode cX1_write 26 = .ok (.aaload, 1) := dk_50 (dk_at dksX1_write_1 4 rfl rfl)
theorem dX1_write_27 : decode cX1_write 27 = .ok (.invokevirtual 275, 3) := dk_182 1 19 (dk_at dksX1_write_1 5 rfl rfl)
theorem dX1_write_30 : decode cX1_write 30 = .ok (.astore_n 2, 1) := dk_77 (dk_at dksX1_write_1 8 rfl rfl)
theorem dX1_write_31 : decode cX1_write 31 = .ok (.aload_n 2, 1) := dk_44 (dk_at dksX1_write_1 9 rfl rfl)
theorem dX1_write_32 : decode cX1_write 32 = .ok (.invokeinterface 279 1, 5) := by decide +kernel
theorem dX1_write_37 : decode cX1_write 37 = .ok (.ifCond .eq 75, 3) := dk_153 0 75 (dk_at dksX1_write_1 15 rfl rfl)
theorem dX1_write_40 : decode cX1_write 40 = .ok (.aload_n 2, 1) := dk_44 (dk_at dksX1_write_1 18 rfl rfl)
theorem dX1_write_41 : decode cX1_write 41 = .ok (.invokeinterface 284 1, 5) := by decide +kernel
theorem dX1_write_46 : decode cX1_write 46 = .ok (.checkcast 185, 3) := dk_192 0 185 (dk_at dksX1_write_2 0 rfl rfl)
theorem dX1_write_49 : decode cX1_write 49 = .ok (.astore_n 3, 1) := dk_78 (dk_at dksX1_write_2 3 rfl rfl)
theorem dX1_write_50 : decode cX1_write 50 = .ok (.aload_n 0, 1) := dk_42 (dk_at dksX1_write_2 4 rfl rfl)
theorem dX1_write_51 : decode cX1_write 51 = .ok (.getfield 96, 3) := dk_180 0 96 (dk_at dksX1_write_2 5 rfl rfl)
theorem dX1_write_54 : decode cX1_write 54 = .ok (.invokevirtual 450, 3) := dk_182 1 194 (dk_at dksX1_write_2 8 rfl rfl)
theorem dX1_write_57 : decode cX1_write 57 = .ok (.ifCond .le 30, 3) := dk_158 0 30 (dk_at dksX1_write_2 11 rfl rfl)
theorem dX1_write_60 : decode cX1_write 60 = .ok (.aload_n 0, 1) := dk_42 (dk_at dksX1_write_2 14 rfl rfl)
theorem dX1_write_61 : decode cX1_write 61 = .ok (.getfield 96, 3) := dk_180 0 96 (dk_at dksX1_write_2 15 rfl rfl)
theorem dX1_write_64 : decode cX1_write 64 = .ok (.aload_n 3, 1) := dk_45 (dk_at dksX1_write_2 18 rfl rfl)
theorem dX1_write_65 : decode cX1_write 65 = .ok (.invokevirtual 453, 3) := dk_182 1 197 (dk_at dksX1_write_2 19 rfl rfl)
theorem dX1_write_68 : decode cX1_write 68 = .ok (.ifCond .eq 9, 3) := dk_153 0 9 (dk_at dksX1_write_3 0 rfl rfl)
theorem dX1_write_71 : decode cX1_write 71 = .ok (.ldc_w 456, 3) := dk_19 1 200 (dk_at dksX1_write_3 3 rfl rfl)
theorem dX1_write_74 : decode cX1_write 74 = .ok (.goto 6, 3) := dk_167 0 6 (dk_at dksX1_write_3 6 rfl rfl)
theorem dX1_write_77 : decode cX1_write 77 = .ok (.ldc_w 458, 3) := dk_19 1 202 (dk_at dksX1_write_3 9 rfl rfl)
theorem dX1_write_80 : decode cX1_write 80 = .ok (.invokevirtual 460, 3) := dk_182 1 204 (dk_at dksX1_write_3 12 rfl rfl)
theorem dX1_write_83 : decode cX1_write 83 = .ok (.pop, 1) := dk_87 (dk_at dksX1_write_3 15 rfl rfl)
theorem dX1_write_84 : decode cX1_write 84 = .ok (.goto 20, 3) := dk_167 0 20 (dk_at dksX1_write_3 16 rfl rfl)
theorem dX1_write_87 : decode cX1_write 87 = .ok (.aload_n 3, 1) := dk_45 (dk_at dksX1_write_3 19 rfl rfl)
theorem dX1_write_88 : decode cX1_write 88 = .ok (.invokevirtual 453, 3) := dk_182 1 197 (dk_at dksX1_write_3 20 rfl rfl)
theorem dX1_write_91 : decode cX1_write 91 = .ok (.ifCond .eq 13, 3) := dk_153 0 13 (dk_at dksX1_write_4 0 rfl rfl)
theorem dX1_write_94 : decode cX1_write 94 = .ok (.aload_n 0, 1) := dk_42 (dk_at dksX1_write_4 3 rfl rfl)
theorem dX1_write_95 : decode cX1_write 95 = .ok (.getfield 96, 3) := dk_180 0 96 (dk_at dksX1_write_4 4 rfl rfl)
theorem dX1_write_98 : decode cX1_write 98 = .ok (.bipush 45, 2) := dk_16 45 (dk_at dksX1_write_4 7 rfl rfl)
theorem dX1_write_100 : decode cX1_write 100 = .ok (.invokevirtual 441, 3) := dk_182 1 185 (dk_at dksX1_write_4 9 rfl rfl)
theorem dX1_write_103 : decode cX1_write 103 = .ok (.pop, 1) := dk_87 (dk_at dksX1_write_4 12 rfl rfl)
theorem dX1_write_104 : decode cX1_write 104 = .ok (.aload_n 0, 1) := dk_42 (dk_at dksX1_write_4 13 rfl rfl)
theorem dX1_write_105 : decode cX1_write 105 = .ok (.aload_n 3, 1) := dk_45 (dk_at dksX1_write_4 14 rfl rfl)
theorem dX1_write_106 : decode cX1_write 106 = .ok (.invokevirtual 463, 3) := dk_182 1 207 (dk_at dksX1_write_4 15 rfl rfl)
theorem dX1_write_109 : decode cX1_write 109 = .ok (.goto (-78), 3) := dk_167 255 178 (dk_at dksX1_write_4 18 rfl rfl)
theorem dX1_write_112 : decode cX1_write 112 = .ok (.aload_n 0, 1) := dk_42 (dk_at dksX1_write_4 21 rfl rfl)
theorem dX1_write_113 : decode cX1_write 113 = .ok (.getfield 96, 3) := dk_180 0 96 (dk_at dksX1_write_5 0 rfl rfl)
theorem dX1_write_116 : decode cX1_write 116 = .ok (.invokevirtual 450, 3) := dk_182 1 194 (dk_at dksX1_write_5 3 rfl rfl)
theorem dX1_write_119 : decode cX1_write 119 = .ok (.ifCond .ne 13, 3) := dk_154 0 13 (dk_at dksX1_write_5 6 rfl rfl)
theorem dX1_write_122 : decode cX1_write 122 = .ok (.aload_n 0, 1) := dk_42 (dk_at dksX1_write_5 9 rfl rfl)
theorem dX1_write_123 : decode cX1_write 123 = .ok (.getfield 96, 3) := dk_180 0 96 (dk_at dksX1_write_5 10 rfl rfl)
theorem dX1_write_126 : decode cX1_write 126 = .ok (.bipush 48, 2) := dk_16 48 (dk_at dksX1_write_5 13 rfl rfl)
theorem dX1_write_128 : decode cX1_write 128 = .ok (.invokevirtual 441, 3) := dk_182 1 185 (dk_at dksX1_write_5 15 rfl rfl)
theorem dX1_write_131 : decode cX1_write 131 = .ok (.pop, 1) := dk_87 (dk_at dksX1_write_5 18 rfl rfl)
theorem dX1_write_132 : decode cX1_write 132 = .ok (.aload_n 0, 1) := dk_42 (dk_at dksX1_write_5 19 rfl rfl)
theorem dX1_write_133 : decode cX1_write 133 = .ok (.getfield 96, 3) := dk_180 0 96 (dk_at dksX1_write_5 20 rfl rfl)
theorem dX1_write_136 : decode cX1_write 136 = .ok (.invokevirtual 450, 3) := dk_182 1 194 (dk_at dksX1_write_6 0 rfl rfl)
theorem dX1_write_139 : decode cX1_write 139 = .ok (.ireturn, 1) := dk_172 (dk_at dksX1_write_6 3 rfl rfl)
abbrev cX1_writeTerm : ByteArray := prog_1_method_61_code
def yX1_writeTerm : MethodName := ⟨RX1, "writeTerm", "(LBladeAlgebra$Term;)V"⟩
def dkwX1_writeTerm_5 : List UInt8 := [182, 1, 188, 87, 132, 2, 1, 167, 255, 225, 177]
abbrev dktX1_writeTerm_5 : List UInt8 := dkwX1_writeTerm_5 ++ []
def dkwX1_writeTerm_4 : List UInt8 := [28, 8, 162, 0, 32, 43, 180, 1, 32, 28, 122, 4, 126, 4, 160, 0, 14, 42, 180, 0, 96, 28, 4, 96]
abbrev dktX1_writeTerm_4 : List UInt8 := dkwX1_writeTerm_4 ++ dktX1_writeTerm_5
def dkwX1_writeTerm_3 : List UInt8 := [182, 1, 185, 87, 43, 180, 1, 32, 154, 0, 4, 177, 42, 180, 0, 96, 16, 101, 182, 1, 185, 87, 3, 61]
abbrev dktX1_writeTerm_3 : List UInt8 := dkwX1_writeTerm_3 ++ dktX1_writeTerm_4
def dkwX1_writeTerm_2 : List UInt8 := [182, 1, 185, 43, 180, 0, 197, 182, 1, 181, 87, 43, 180, 1, 32, 153, 0, 13, 42, 180, 0, 96, 16, 42]
abbrev dktX1_writeTerm_2 : List UInt8 := dkwX1_writeTerm_2 ++ dktX1_writeTerm_3
def dkwX1_writeTerm_1 : List UInt8 := [184, 0, 26, 182, 1, 181, 87, 43, 180, 0, 197, 10, 148, 158, 0, 20, 42, 180, 0, 96, 16, 47]
abbrev dktX1_writeTerm_1 : List UInt8 := dkwX1_writeTerm_1 ++ dktX1_writeTerm_2
def dkwX1_writeTerm_0 : List UInt8 := [43, 180, 1, 32, 153, 0, 10, 43, 182, 1, 178, 154, 0, 61, 42, 180, 0, 96, 43, 180, 0, 194]
abbrev dktX1_writeTerm_0 : List UInt8 := dkwX1_writeTerm_0 ++ dktX1_writeTerm_1
theorem dksX1_writeTerm_0 : cX1_writeTerm.data.toList.drop 0 = dktX1_writeTerm_0 := by decide +kernel
theorem dksX1_writeTerm_1 : cX1_writeTerm.data.toList.drop 22 = dktX1_writeTerm_1 := dk_seg dksX1_writeTerm_0 22 rfl rfl
theorem dksX1_writeTerm_2 : cX1_writeTerm.data.toList.drop 44 = dktX1_writeTerm_2 := dk_seg dksX1_writeTerm_1 22 rfl rfl
theorem dksX1_writeTerm_3 : cX1_writeTerm.data.toList.drop 68 = dktX1_writeTerm_3 := dk_seg dksX1_writeTerm_2 24 rfl rfl
theorem dksX1_writeTerm_4 : cX1_writeTerm.data.toList.drop 92 = dktX1_writeTerm_4 := dk_seg dksX1_writeTerm_3 24 rfl rfl
theorem dksX1_writeTerm_5 : cX1_writeTerm.data.toList.drop 116 = dktX1_writeTerm_5 := dk_seg dksX1_writeTerm_4 24 rfl rfl
theorem dX1_writeTerm_0 : decode cX1_writeTerm 0 = .ok (.aload_n 1, 1) := dk_43 (dk_at dksX1_writeTerm_0 0 rfl rfl)
theorem dX1_writeTerm_1 : decode cX1_writeTerm 1 = .ok (.getfield 288, 3) := dk_180 1 32 (dk_at dksX1_writeTerm_0 1 rfl rfl)
theorem dX1_writeTerm_4 : decode cX1_writeTerm 4 = .ok (.ifCond .eq 10, 3) := dk_153 0 10 (dk_at dksX1_writeTerm_0 4 rfl rfl)
theorem dX1_writeTerm_7 : decode cX1_writeTerm 7 = .ok (.aload_n 1, 1) := dk_43 (dk_at dksX1_writeTerm_0 7 rfl rfl)
theorem dX1_writeTerm_8 : decode cX1_writeTerm 8 = .ok (.invokevirtual 434, 3) := dk_182 1 178 (dk_at dksX1_writeTerm_0 8 rfl rfl)
theorem dX1_writeTerm_11 : decode cX1_writeTerm 11 = .ok (.ifCond .ne 61, 3) := dk_154 0 61 (dk_at dksX1_writeTerm_0 11 rfl rfl)
theorem dX1_writeTerm_14 : decode cX1_writeTerm 14 = .ok (.aload_n 0, 1) := dk_42 (dk_at dksX1_writeTerm_0 14 rfl rfl)
theorem dX1_writeTerm_15 : decode cX1_writeTerm 15 = .ok (.getfield 96, 3) := dk_180 0 96 (dk_at dksX1_writeTerm_0 15 rfl rfl)
theorem dX1_writeTerm_18 : decode cX1_writeTerm 18 = .ok (.aload_n 1, 1) := dk_43 (dk_at dksX1_writeTerm_0 18 rfl rfl)
theorem dX1_writeTerm_19 : decode cX1_writeTerm 19 = .ok (.getfield 194, 3) := dk_180 0 194 (dk_at dksX1_writeTerm_0 19 rfl rfl)
theorem dX1_writeTerm_22 : decode cX1_writeTerm 22 = .ok (.invokestatic 26, 3) := dk_184 0 26 (dk_at dksX1_writeTerm_1 0 rfl rfl)
theorem dX1_writeTerm_25 : decode cX1_writeTerm 25 = .ok (.invokevirtual 437, 3) := dk_182 1 181 (dk_at dksX1_writeTerm_1 3 rfl rfl)
theorem dX1_writeTerm_28 : decode cX1_writeTerm 28 = .ok (.pop, 1) := dk_87 (dk_at dksX1_writeTerm_1 6 rfl rfl)
theorem dX1_writeTerm_29 : decode cX1_writeTerm 29 = .ok (.aload_n 1, 1) := dk_43 (dk_at dksX1_writeTerm_1 7 rfl rfl)
theorem dX1_writeTerm_30 : decode cX1_writeTerm 30 = .ok (.getfield 197, 3) := dk_180 0 197 (dk_at dksX1_writeTerm_1 8 rfl rfl)
theorem dX1_writeTerm_33 : decode cX1_writeTerm 33 = .ok (.lconst 1, 1) := dk_10 (dk_at dksX1_writeTerm_1 11 rfl rfl)
theorem dX1_writeTerm_34 : decode cX1_writeTerm 34 = .ok (.lcmp, 1) := dk_148 (dk_at dksX1_writeTerm_1 12 rfl rfl)
theorem dX1_writeTerm_35 : decode cX1_writeTerm 35 = .ok (.ifCond .le 20, 3) := dk_158 0 20 (dk_at dksX1_writeTerm_1 13 rfl rfl)
theorem dX1_writeTerm_38 : decode cX1_writeTerm 38 = .ok (.aload_n 0, 1) := dk_42 (dk_at dksX1_writeTerm_1 16 rfl rfl)
theorem dX1_writeTerm_39 : decode cX1_writeTerm 39 = .ok (.getfield 96, 3) := dk_180 0 96 (dk_at dksX1_writeTerm_1 17 rfl rfl)
theorem dX1_writeTerm_42 : decode cX1_writeTerm 42 = .ok (.bipush 47, 2) := dk_16 47 (dk_at dksX1_writeTerm_1 20 rfl rfl)
theorem dX1_writeTerm_44 : decode cX1_writeTerm 44 = .ok (.invokevirtual 441, 3) := dk_182 1 185 (dk_at dksX1_writeTerm_2 0 rfl rfl)
theorem dX1_writeTerm_47 : decode cX1_writeTerm 47 = .ok (.aload_n 1, 1) := dk_43 (dk_at dksX1_writeTerm_2 3 rfl rfl)
theorem dX1_writeTerm_48 : decode cX1_writeTerm 48 = .ok (.getfield 197, 3) := dk_180 0 197 (dk_at dksX1_writeTerm_2 4 rfl rfl)
theorem dX1_writeTerm_51 : decode cX1_writeTerm 51 = .ok (.invokevirtual 437, 3) := dk_182 1 181 (dk_at dksX1_writeTerm_2 7 rfl rfl)
theorem dX1_writeTerm_54 : decode cX1_writeTerm 54 = .ok (.pop, 1) := dk_87 (dk_at dksX1_writeTerm_2 10 rfl rfl)
theorem dX1_writeTerm_55 : decode cX1_writeTerm 55 = .ok (.aload_n 1, 1) := dk_43 (dk_at dksX1_writeTerm_2 11 rfl rfl)
theorem dX1_writeTerm_56 : decode cX1_writeTerm 56 = .ok (.getfield 288, 3) := dk_180 1 32 (dk_at dksX1_writeTerm_2 12 rfl rfl)
theorem dX1_writeTerm_59 : decode cX1_writeTerm 59 = .ok (.ifCond .eq 13, 3) := dk_153 0 13 (dk_at dksX1_writeTerm_2 15 rfl rfl)
theorem dX1_writeTerm_62 : decode cX1_writeTerm 62 = .ok (.aload_n 0, 1) := dk_42 (dk_at dksX1_writeTerm_2 18 rfl rfl)
theorem dX1_writeTerm_63 : decode cX1_writeTerm 63 = .ok (.getfield 96, 3) := dk_180 0 96 (dk_at dksX1_writeTerm_2 19 rfl rfl)
theorem dX1_writeTerm_66 : decode cX1_writeTerm 66 = .ok (.bipush 42, 2) := dk_16 42 (dk_at dksX1_writeTerm_2 22 rfl rfl)
theorem dX1_writeTerm_68 : decode cX1_writeTerm 68 = .ok (.invokevirtual 441, 3) := dk_182 1 185 (dk_at dksX1_writeTerm_3 0 rfl rfl)
theorem dX1_writeTerm_71 : decode cX1_writeTerm 71 = .ok (.pop, 1) := dk_87 (dk_at dksX1_writeTerm_3 3 rfl rfl)
theorem dX1_writeTerm_72 : decode cX1_writeTerm 72 = .ok (.aload_n 1, 1) := dk_43 (dk_at dksX1_writeTerm_3 4 rfl rfl)
theorem dX1_writeTerm_73 : decode cX1_writeTerm 73 = .ok (.getfield 288, 3) := dk_180 1 32 (dk_at dksX1_writeTerm_3 5 rfl rfl)
theorem dX1_writeTerm_76 : decode cX1_writeTerm 76 = .ok (.ifCond .ne 4, 3) := dk_154 0 4 (dk_at dksX1_writeTerm_3 8 rfl rfl)
theorem dX1_writeTerm_79 : decode cX1_writeTerm 79 = .ok (.return_, 1) := dk_177 (dk_at dksX1_writeTerm_3 11 rfl rfl)
theorem dX1_writeTerm_80 : decode cX1_writeTerm 80 = .ok (.aload_n 0, 1) := dk_42 (dk_at dksX1_writeTerm_3 12 rfl rfl)
theorem dX1_writeTerm_81 : decode cX1_writeTerm 81 = .ok (.getfield 96, 3) := dk_180 0 96 (dk_at dksX1_writeTerm_3 13 rfl rfl)
theorem dX1_writeTerm_84 : decode cX1_writeTerm 84 = .ok (.bipush 101, 2) := dk_16 101 (dk_at dksX1_writeTerm_3 16 rfl rfl)
theorem dX1_writeTerm_86 : decode cX1_writeTerm 86 = .ok (.invokevirtual 441, 3) := dk_182 1 185 (dk_at dksX1_writeTerm_3 18 rfl rfl)
theorem dX1_writeTerm_89 : decode cX1_writeTerm 89 = .ok (.pop, 1) := dk_87 (dk_at dksX1_writeTerm_3 21 rfl rfl)
theorem dX1_writeTerm_90 : decode cX1_writeTerm 90 = .ok (.iconst 0, 1) := dk_3 (dk_at dksX1_writeTerm_3 22 rfl rfl)
theorem dX1_writeTerm_91 : decode cX1_writeTerm 91 = .ok (.istore_n 2, 1) := dk_61 (dk_at dksX1_writeTerm_3 23 rfl rfl)
theorem dX1_writeTerm_92 : decode cX1_writeTerm 92 = .ok (.iload_n 2, 1) := dk_28 (dk_at dksX1_writeTerm_4 0 rfl rfl)
theorem dX1_writeTerm_93 : decode cX1_writeTerm 93 = .ok (.iconst 5, 1) := dk_8 (dk_at dksX1_writeTerm_4 1 rfl rfl)
theorem dX1_writeTerm_94 : decode cX1_writeTerm 94 = .ok (.if_icmp .ge 32, 3) := dk_162 0 32 (dk_at dksX1_writeTerm_4 2 rfl rfl)
theorem dX1_writeTerm_97 : decode cX1_writeTerm 97 = .ok (.aload_n 1, 1) := dk_43 (dk_at dksX1_writeTerm_4 5 rfl rfl)
theorem dX1_writeTerm_98 : decode cX1_writeTerm 98 = .ok (.getfield 288, 3) := dk_180 1 32 (dk_at dksX1_writeTerm_4 6 rfl rfl)
theorem dX1_writeTerm_101 : decode cX1_writeTerm 101 = .ok (.iload_n 2, 1) := dk_28 (dk_at dksX1_writeTerm_4 9 rfl rfl)
theorem dX1_writeTerm_102 : decode cX1_writeTerm 102 = .ok (.ishr, 1) := dk_122 (dk_at dksX1_writeTerm_4 10 rfl rfl)
theorem dX1_writeTerm_103 : decode cX1_writeTerm 103 = .ok (.iconst 1, 1) := dk_4 (dk_at dksX1_writeTerm_4 11 rfl rfl)
theorem dX1_writeTerm_104 : decode cX1_writeTerm 104 = .ok (.iand, 1) := dk_126 (dk_at dksX1_writeTerm_4 12 rfl rfl)
theorem dX1_writeTerm_105 : decode cX1_writeTerm 105 = .ok (.iconst 1, 1) := dk_4 (dk_at dksX1_writeTerm_4 13 rfl rfl)
theorem dX1_writeTerm_106 : decode cX1_writeTerm 106 = .ok (.if_icmp .ne 14, 3) := dk_160 0 14 (dk_at dksX1_writeTerm_4 14 rfl rfl)
theorem dX1_writeTerm_109 : decode cX1_writeTerm 109 = .ok (.aload_n 0, 1) := dk_42 (dk_at dksX1_writeTerm_4 17 rfl rfl)
theorem dX1_writeTerm_110 : decode cX1_writeTerm 110 = .ok (.getfield 96, 3) := dk_180 0 96 (dk_at dksX1_writeTerm_4 18 rfl rfl)
theorem dX1_writeTerm_113 : decode cX1_writeTerm 113 = .ok (.iload_n 2, 1) := dk_28 (dk_at dksX1_writeTerm_4 21 rfl rfl)
theorem dX1_writeTerm_114 : decode cX1_writeTerm 114 = .ok (.iconst 1, 1) := dk_4 (dk_at dksX1_writeTerm_4 22 rfl rfl)
theorem dX1_writeTerm_115 : decode cX1_writeTerm 115 = .ok (.iadd, 1) := dk_96 (dk_at dksX1_writeTerm_4 23 rfl rfl)
theorem dX1_writeTerm_116 : decode cX1_writeTerm 116 = .ok (.invokevirtual 444, 3) := dk_182 1 188 (dk_at dksX1_writeTerm_5 0 rfl rfl)
theorem dX1_writeTerm_119 : decode cX1_writeTerm 119 = .ok (.pop, 1) := dk_87 (dk_at dksX1_writeTerm_5 3 rfl rfl)
theorem dX1_writeTerm_120 : decode cX1_writeTerm 120 = .ok (.iinc 2 1, 3) := dk_132 2 1 (dk_at dksX1_writeTerm_5 4 rfl rfl)
theorem dX1_writeTerm_123 : decode cX1_writeTerm 123 = .ok (.goto (-31), 3) := dk_167 255 225 (dk_at dksX1_writeTerm_5 7 rfl rfl)
theorem dX1_writeTerm_126 : decode cX1_writeTerm 126 = .ok (.return_, 1) := dk_177 (dk_at dksX1_writeTerm_5 10 rfl rfl)
abbrev cX1_outputByte : ByteArray := prog_1_method_63_code
def yX1_outputByte : MethodName := ⟨RX1, "outputByte", "(I)I"⟩
def dkwX1_outputByte_1 : List UInt8 := [180, 0, 96, 27, 182, 1, 211, 167, 0, 4, 2, 172]
abbrev dktX1_outputByte_1 : List UInt8 := dkwX1_outputByte_1 ++ []
def dkwX1_outputByte_0 : List UInt8 := [27, 155, 0, 7, 4, 167, 0, 4, 3, 184, 0, 106, 27, 42, 180, 0, 96, 182, 1, 194, 162, 0, 14, 42]
abbrev dktX1_outputByte_0 : List UInt8 := dkwX1_outputByte_0 ++ dktX1_outputByte_1
theorem dksX1_outputByte_0 : cX1_outputByte.data.toList.drop 0 = dktX1_outputByte_0 := by decide +kernel
theorem dksX1_outputByte_1 : cX1_outputByte.data.toList.drop 24 = dktX1_outputByte_1 := dk_seg dksX1_outputByte_0 24 rfl rfl
theorem dX1_outputByte_0 : decode cX1_outputByte 0 = .ok (.iload_n 1, 1) := dk_27 (dk_at dksX1_outputByte_0 0 rfl rfl)
theorem dX1_outputByte_1 : decode cX1_outputByte 1 = .ok (.ifCond .lt 7, 3) := dk_155 0 7 (dk_at dksX1_outputByte_0 1 rfl rfl)
theorem dX1_outputByte_4 : decode cX1_outputByte 4 = .ok (.iconst 1, 1) := dk_4 (dk_at dksX1_outputByte_0 4 rfl rfl)
theorem dX1_outputByte_5 : decode cX1_outputByte 5 = .ok (.goto 4, 3) := dk_167 0 4 (dk_at dksX1_outputByte_0 5 rfl rfl)
theorem dX1_outputByte_8 : decode cX1_outputByte 8 = .ok (.iconst 0, 1) := dk_3 (dk_at dksX1_outputByte_0 8 rfl rfl)
theorem dX1_outputByte_9 : decode cX1_outputByte 9 = .ok (.invokestatic 106, 3) := dk_184 0 106 (dk_at dksX1_outputByte_0 9 rfl rfl)
theorem dX1_outputByte_12 : decode cX1_outputByte 12 = .ok (.iload_n 1, 1) := dk_27 (dk_at dksX1_outputByte_0 12 rfl rfl)
theorem dX1_outputByte_13 : decode cX1_outputByte 13 = .ok (.aload_n 0, 1) := dk_42 (dk_at dksX1_outputByte_0 13 rfl rfl)
theorem dX1_outputByte_14 : decode cX1_outputByte 14 = .ok (.getfield 96, 3) := dk_180 0 96 (dk_at dksX1_outputByte_0 14 rfl rfl)
theorem dX1_outputByte_17 : decode cX1_outputByte 17 = .ok (.invokevirtual 450, 3) := dk_182 1 194 (dk_at dksX1_outputByte_0 17 rfl rfl)
theorem dX1_outputByte_20 : decode cX1_outputByte 20 = .ok (.if_icmp .ge 14, 3) := dk_162 0 14 (dk_at dksX1_outputByte_0 20 rfl rfl)
theorem dX1_outputByte_23 : decode cX1_outputByte 23 = .ok (.aload_n 0, 1) := dk_42 (dk_at dksX1_outputByte_0 23 rfl rfl)
theorem dX1_outputByte_24 : decode cX1_outputByte 24 = .ok (.getfield 96, 3) := dk_180 0 96 (dk_at dksX1_outputByte_1 0 rfl rfl)
theorem dX1_outputByte_27 : decode cX1_outputByte 27 = .ok (.iload_n 1, 1) := dk_27 (dk_at dksX1_outputByte_1 3 rfl rfl)
theorem dX1_outputByte_28 : decode cX1_outputByte 28 = .ok (.invokevirtual 467, 3) := dk_182 1 211 (dk_at dksX1_outputByte_1 4 rfl rfl)
theorem dX1_outputByte_31 : decode cX1_outputByte 31 = .ok (.goto 4, 3) := dk_167 0 4 (dk_at dksX1_outputByte_1 7 rfl rfl)
theorem dX1_outputByte_34 : decode cX1_outputByte 34 = .ok (.iconst (-1), 1) := dk_2 (dk_at dksX1_outputByte_1 10 rfl rfl)
theorem dX1_outputByte_35 : decode cX1_outputByte 35 = .ok (.ireturn, 1) := dk_172 (dk_at dksX1_outputByte_1 11 rfl rfl)
abbrev cX1_save : ByteArray := prog_1_method_64_code
def yX1_save : MethodName := ⟨RX1, "save", "(I)V"⟩
def dkwX1_save_1 : List UInt8 := [187, 0, 74, 89, 183, 0, 76, 83, 42, 180, 0, 81, 27, 50, 42, 180, 0, 77, 182, 1, 215, 177]
abbrev dktX1_save_1 : List UInt8 := dkwX1_save_1 ++ []
def dkwX1_save_0 : List UInt8 := [27, 133, 9, 10, 184, 0, 102, 184, 0, 125, 42, 180, 0, 81, 27, 50, 199, 0, 16, 42, 180, 0, 81, 27]
abbrev dktX1_save_0 : List UInt8 := dkwX1_save_0 ++ dktX1_save_1
theorem dksX1_save_0 : cX1_save.data.toList.drop 0 = dktX1_save_0 := by decide +kernel
theorem dksX1_save_1 : cX1_save.data.toList.drop 24 = dktX1_save_1 := dk_seg dksX1_save_0 24 rfl rfl
theorem dX1_save_0 : decode cX1_save 0 = .ok (.iload_n 1, 1) := dk_27 (dk_at dksX1_save_0 0 rfl rfl)
theorem dX1_save_1 : decode cX1_save 1 = .ok (.i2l, 1) := dk_133 (dk_at dksX1_save_0 1 rfl rfl)
theorem dX1_save_2 : decode cX1_save 2 = .ok (.lconst 0, 1) := dk_9 (dk_at dksX1_save_0 2 rfl rfl)
theorem dX1_save_3 : decode cX1_save 3 = .ok (.lconst 1, 1) := dk_10 (dk_at dksX1_save_0 3 rfl rfl)
theorem dX1_save_4 : decode cX1_save 4 = .ok (.invokestatic 102, 3) := dk_184 0 102 (dk_at dksX1_save_0 4 rfl rfl)
theorem dX1_save_7 : decode cX1_save 7 = .ok (.invokestatic 125, 3) := dk_184 0 125 (dk_at dksX1_save_0 7 rfl rfl)
theorem dX1_save_10 : decode cX1_save 10 = .ok (.aload_n 0, 1) := dk_42 (dk_at dksX1_save_0 10 rfl rfl)
theorem dX1_save_11 : decode cX1_save 11 = .ok (.getfield 81, 3) := dk_180 0 81 (dk_at dksX1_save_0 11 rfl rfl)
theorem dX1_save_14 : decode cX1_save 14 = .ok (.iload_n 1, 1) := dk_27 (dk_at dksX1_save_0 14 rfl rfl)
theorem dX1_save_15 : decode cX1_save 15 = .ok (.aaload, 1) := dk_50 (dk_at dksX1_save_0 15 rfl rfl)
theorem dX1_save_16 : decode cX1_save 16 = .ok (.ifnonnull 16, 3) := dk_199 0 16 (dk_at dksX1_save_0 16 rfl rfl)
theorem dX1_save_19 : decode cX1_save 19 = .ok (.aload_n 0, 1) := dk_42 (dk_at dksX1_save_0 19 rfl rfl)
theorem dX1_save_20 : decode cX1_save 20 = .ok (.getfield 81, 3) := dk_180 0 81 (dk_at dksX1_save_0 20 rfl rfl)
theorem dX1_save_23 : decode cX1_save 23 = .ok (.iload_n 1, 1) := dk_27 (dk_at dksX1_save_0 23 rfl rfl)
theorem dX1_save_24 : decode cX1_save 24 = .ok (.new 74, 3) := dk_187 0 74 (dk_at dksX1_save_1 0 rfl rfl)
theorem dX1_save_27 : decode cX1_save 27 = .ok (.dup, 1) := dk_89 (dk_at dksX1_save_1 3 rfl rfl)
theorem dX1_save_28 : decode cX1_save 28 = .ok (.invokespecial 76, 3) := dk_183 0 76 (dk_at dksX1_save_1 4 rfl rfl)
theorem dX1_save_31 : decode cX1_save 31 = .ok (.aastore, 1) := dk_83 (dk_at dksX1_save_1 7 rfl rfl)
theorem dX1_save_32 : decode cX1_save 32 = .ok (.aload_n 0, 1) := dk_42 (dk_at dksX1_save_1 8 rfl rfl)
theorem dX1_save_33 : decode cX1_save 33 = .ok (.getfield 81, 3) := dk_180 0 81 (dk_at dksX1_save_1 9 rfl rfl)
theorem dX1_save_36 : decode cX1_save 36 = .ok (.iload_n 1, 1) := dk_27 (dk_at dksX1_save_1 12 rfl rfl)
theorem dX1_save_37 : decode cX1_save 37 = .ok (.aaload, 1) := dk_50 (dk_at dksX1_save_1 13 rfl rfl)
theorem dX1_save_38 : decode cX1_save 38 = .ok (.aload_n 0, 1) := dk_42 (dk_at dksX1_save_1 14 rfl rfl)
theorem dX1_save_39 : decode cX1_save 39 = .ok (.getfield 77, 3) := dk_180 0 77 (dk_at dksX1_save_1 15 rfl rfl)
theorem dX1_save_42 : decode cX1_save 42 = .ok (.invokevirtual 471, 3) := dk_182 1 215 (dk_at dksX1_save_1 18 rfl rfl)
theorem dX1_save_45 : decode cX1_save 45 = .ok (.return_, 1) := dk_177 (dk_at dksX1_save_1 21 rfl rfl)
abbrev cX1_restore : ByteArray := prog_1_method_65_code
def yX1_restore : MethodName := ⟨RX1, "restore", "(I)V"⟩
def dkwX1_restore_1 : List UInt8 := [184, 0, 245, 42, 180, 0, 77, 42, 180, 0, 81, 27, 50, 182, 1, 215, 177]
abbrev dktX1_restore_1 : List UInt8 := dkwX1_restore_1 ++ []
def dkwX1_restore_0 : List UInt8 := [27, 133, 9, 10, 184, 0, 102, 184, 0, 125, 42, 180, 0, 81, 27, 50, 198, 0, 7, 4, 167, 0, 4, 3]
abbrev dktX1_restore_0 : List UInt8 := dkwX1_restore_0 ++ dktX1_restore_1
theorem dksX1_restore_0 : cX1_restore.data.toList.drop 0 = dktX1_restore_0 := by decide +kernel
theorem dksX1_restore_1 : cX1_restore.data.toList.drop 24 = dktX1_restore_1 := dk_seg dksX1_restore_0 24 rfl rfl
theorem dX1_restore_0 : decode cX1_restore 0 = .ok (.iload_n 1, 1) := dk_27 (dk_at dksX1_restore_0 0 rfl rfl)
theorem dX1_restore_1 : decode cX1_restore 1 = .ok (.i2l, 1) := dk_133 (dk_at dksX1_restore_0 1 rfl rfl)
theorem dX1_restore_2 : decode cX1_restore 2 = .ok (.lconst 0, 1) := dk_9 (dk_at dksX1_restore_0 2 rfl rfl)
theorem dX1_restore_3 : decode cX1_restore 3 = .ok (.lconst 1, 1) := dk_10 (dk_at dksX1_restore_0 3 rfl rfl)
theorem dX1_restore_4 : decode cX1_restore 4 = .ok (.invokestatic 102, 3) := dk_184 0 102 (dk_at dksX1_restore_0 4 rfl rfl)
theorem dX1_restore_7 : decode cX1_restore 7 = .ok (.invokestatic 125, 3) := dk_184 0 125 (dk_at dksX1_restore_0 7 rfl rfl)
theorem dX1_restore_10 : decode cX1_restore 10 = .ok (.aload_n 0, 1) := dk_42 (dk_at dksX1_restore_0 10 rfl rfl)
theorem dX1_restore_11 : decode cX1_restore 11 = .ok (.getfield 81, 3) := dk_180 0 81 (dk_at dksX1_restore_0 11 rfl rfl)
theorem dX1_restore_14 : decode cX1_restore 14 = .ok (.iload_n 1, 1) := dk_27 (dk_at dksX1_restore_0 14 rfl rfl)
theorem dX1_restore_15 : decode cX1_restore 15 = .ok (.aaload, 1) := dk_50 (dk_at dksX1_restore_0 15 rfl rfl)
theorem dX1_restore_16 : decode cX1_restore 16 = .ok (.ifnull 7, 3) := dk_198 0 7 (dk_at dksX1_restore_0 16 rfl rfl)
theorem dX1_restore_19 : decode cX1_restore 19 = .ok (.iconst 1, 1) := dk_4 (dk_at dksX1_restore_0 19 rfl rfl)
theorem dX1_restore_20 : decode cX1_restore 20 = .ok (.goto 4, 3) := dk_167 0 4 (dk_at dksX1_restore_0 20 rfl rfl)
theorem dX1_restore_23 : decode cX1_restore 23 = .ok (.iconst 0, 1) := dk_3 (dk_at dksX1_restore_0 23 rfl rfl)
theorem dX1_restore_24 : decode cX1_restore 24 = .ok (.invokestatic 245, 3) := dk_184 0 245 (dk_at dksX1_restore_1 0 rfl rfl)
theorem dX1_restore_27 : decode cX1_restore 27 = .ok (.aload_n 0, 1) := dk_42 (dk_at dksX1_restore_1 3 rfl rfl)
theorem dX1_restore_28 : decode cX1_restore 28 = .ok (.getfield 77, 3) := dk_180 0 77 (dk_at dksX1_restore_1 4 rfl rfl)
theorem dX1_restore_31 : decode cX1_restore 31 = .ok (.aload_n 0, 1) := dk_42 (dk_at dksX1_restore_1 7 rfl rfl)
theorem dX1_restore_32 : decode cX1_restore 32 = .ok (.getfield 81, 3) := dk_180 0 81 (dk_at dksX1_restore_1 8 rfl rfl)
theorem dX1_restore_35 : decode cX1_restore 35 = .ok (.iload_n 1, 1) := dk_27 (dk_at dksX1_restore_1 11 rfl rfl)
theorem dX1_restore_36 : decode cX1_restore 36 = .ok (.aaload, 1) := dk_50 (dk_at dksX1_restore_1 12 rfl rfl)
theorem dX1_restore_37 : decode cX1_restore 37 = .ok (.invokevirtual 471, 3) := dk_182 1 215 (dk_at dksX1_restore_1 13 rfl rfl)
theorem dX1_restore_40 : decode cX1_restore 40 = .ok (.return_, 1) := dk_177 (dk_at dksX1_restore_1 16 rfl rfl)
theorem q96 : (Jvm.Cond.initialized "BladeAlgebra") ∈ lw_all := lw_g (lw_at lw_m1 1 rfl) rfl
theorem q146 : (Jvm.Cond.instantiable "BladeAlgebra" (9 : Nat)) ∈ lw_all := lw_g (lw_at lw_m1 51 rfl) rfl
theorem q148 : (Jvm.Cond.instanceMethod ({ cls := "BladeAlgebra", name := "<init>", desc := "()V" } : Jvm.MethodName)) ∈ lw_all := lw_g (lw_at lw_m1 53 rfl) rfl
theorem q149 : (Jvm.Cond.code ({ cls := "BladeAlgebra", name := "<init>", desc := "()V" } : Jvm.MethodName) prog_1_method_9_code (1 : Nat) (Option.none : Option Jvm.ClassFile.FieldType)) ∈ lw_all := lw_g (lw_at lw_m1 54 rfl) rfl
theorem q150 : (Jvm.Cond.methodLink "BladeAlgebra" (50 : Nat) ({ cls := "java/lang/Object", name := "<init>", desc := "()V" } : Jvm.MethodName)) ∈ lw_all := lw_g (lw_at lw_m1 55 rfl) rfl
theorem q153 : (Jvm.Cond.methodLink "BladeAlgebra" (55 : Nat) ({ cls := "BladeAlgebra$Two", name := "values", desc := "()[LBladeAlgebra$Two;" } : Jvm.MethodName)) ∈ lw_all := lw_g (lw_at lw_m1 58 rfl) rfl
theorem q166 : (Jvm.Cond.methodLink "BladeAlgebra" (65 : Nat) ({ cls := "BladeAlgebra$One", name := "values", desc := "()[LBladeAlgebra$One;" } : Jvm.MethodName)) ∈ lw_all := lw_g (lw_at lw_m1 71 rfl) rfl
theorem q177 : (Jvm.Cond.classLink "BladeAlgebra" (74 : Nat) "BladeAlgebra$World") ∈ lw_all := lw_g (lw_at lw_m1 82 rfl) rfl
theorem q179 : (Jvm.Cond.methodLinkNest "BladeAlgebra" (76 : Nat) ({ cls := "BladeAlgebra$World", name := "<init>", desc := "()V" } : Jvm.MethodName) "BladeAlgebra") ∈ lw_tbl := lw_at lw_m1 84 rfl
theorem q199 : (Jvm.Cond.laysStatic "BladeAlgebra" "GRADE" "[I") ∈ lw_tbl := lw_at lw_m1 104 rfl
theorem q201 : (Jvm.Cond.fieldLinkNest "BladeAlgebra" (145 : Nat) "BladeAlgebra$Algebra" "p" "I" "BladeAlgebra") ∈ lw_tbl := lw_at lw_m1 106 rfl
theorem q203 : (Jvm.Cond.fieldLinkNest "BladeAlgebra" (148 : Nat) "BladeAlgebra$Algebra" "q" "I" "BladeAlgebra") ∈ lw_tbl := lw_at lw_m1 108 rfl
theorem q206 : (Jvm.Cond.fieldLinkNest "BladeAlgebra" (151 : Nat) "BladeAlgebra$Algebra" "r" "I" "BladeAlgebra") ∈ lw_tbl := lw_at lw_m1 111 rfl
theorem q209 : (Jvm.Cond.fieldLinkNest "BladeAlgebra" (154 : Nat) "BladeAlgebra$Algebra" "n" "I" "BladeAlgebra") ∈ lw_tbl := lw_at lw_m1 114 rfl
theorem q212 : (Jvm.Cond.fieldLinkNest "BladeAlgebra" (140 : Nat) "BladeAlgebra$Algebra" "last" "I" "BladeAlgebra") ∈ lw_tbl := lw_at lw_m1 117 rfl
theorem q216 : (Jvm.Cond.fieldLinkNest "BladeAlgebra" (200 : Nat) "BladeAlgebra$Algebra" "sign" "[[I" "BladeAlgebra") ∈ lw_tbl := lw_at lw_m1 121 rfl
theorem q240 : (Jvm.Cond.fieldLinkNest "BladeAlgebra" (133 : Nat) "BladeAlgebra$World" "algebra" "LBladeAlgebra$Algebra;" "BladeAlgebra") ∈ lw_tbl := lw_at lw_m1 145 rfl
theorem q243 : (Jvm.Cond.fieldLinkNest "BladeAlgebra" (110 : Nat) "BladeAlgebra$World" "register" "[LBladeAlgebra$Multi;" "BladeAlgebra") ∈ lw_tbl := lw_at lw_m1 148 rfl
theorem q251 : (Jvm.Cond.classLink "BladeAlgebra" (93 : Nat) "java/lang/StringBuilder") ∈ lw_all := lw_g (lw_at lw_m1 156 rfl) rfl
theorem q253 : (Jvm.Cond.methodLink "BladeAlgebra" (95 : Nat) ({ cls := "java/lang/StringBuilder", name := "<init>", desc := "()V" } : Jvm.MethodName)) ∈ lw_all := lw_g (lw_at lw_m1 158 rfl) rfl
theorem q284 : (Jvm.Cond.fieldLink "BladeAlgebra" (61 : Nat) "BladeAlgebra" "twos" "[LBladeAlgebra$Two;") ∈ lw_all := lw_g (lw_at lw_m1 189 rfl) rfl
theorem q285 : (Jvm.Cond.fieldLink "BladeAlgebra" (70 : Nat) "BladeAlgebra" "ones" "[LBladeAlgebra$One;") ∈ lw_all := lw_g (lw_at lw_m1 190 rfl) rfl
theorem q286 : (Jvm.Cond.fieldLink "BladeAlgebra" (77 : Nat) "BladeAlgebra" "now" "LBladeAlgebra$World;") ∈ lw_all := lw_g (lw_at lw_m1 191 rfl) rfl
theorem q288 : (Jvm.Cond.fieldLink "BladeAlgebra" (81 : Nat) "BladeAlgebra" "kept" "[LBladeAlgebra$World;") ∈ lw_all := lw_g (lw_at lw_m1 193 rfl) rfl
theorem q290 : (Jvm.Cond.fieldLink "BladeAlgebra" (85 : Nat) "BladeAlgebra" "text" "[B") ∈ lw_all := lw_g (lw_at lw_m1 195 rfl) rfl
theorem q292 : (Jvm.Cond.fieldLink "BladeAlgebra" (413 : Nat) "BladeAlgebra" "textLength" "I") ∈ lw_all := lw_g (lw_at lw_m1 197 rfl) rfl
theorem q293 : (Jvm.Cond.fieldLink "BladeAlgebra" (416 : Nat) "BladeAlgebra" "errorCode" "I") ∈ lw_all := lw_g (lw_at lw_m1 198 rfl) rfl
theorem q294 : (Jvm.Cond.fieldLink "BladeAlgebra" (89 : Nat) "BladeAlgebra" "errorPosition" "I") ∈ lw_all := lw_g (lw_at lw_m1 199 rfl) rfl
theorem q295 : (Jvm.Cond.fieldLink "BladeAlgebra" (96 : Nat) "BladeAlgebra" "output" "Ljava/lang/StringBuilder;") ∈ lw_all := lw_g (lw_at lw_m1 200 rfl) rfl
theorem q296 : (Jvm.Cond.laysFinal "BladeAlgebra" "BladeAlgebra" "twos" "[LBladeAlgebra$Two;") ∈ lw_all := lw_g (lw_at lw_m1 201 rfl) rfl
theorem q297 : (Jvm.Cond.soleField "BladeAlgebra" "twos") ∈ lw_all := lw_g (lw_at lw_m1 202 rfl) rfl
theorem q298 : (Jvm.Cond.laysFinal "BladeAlgebra" "BladeAlgebra" "ones" "[LBladeAlgebra$One;") ∈ lw_all := lw_g (lw_at lw_m1 203 rfl) rfl
theorem q299 : (Jvm.Cond.soleField "BladeAlgebra" "ones") ∈ lw_all := lw_g (lw_at lw_m1 204 rfl) rfl
theorem q300 : (Jvm.Cond.laysFinal "BladeAlgebra" "BladeAlgebra" "now" "LBladeAlgebra$World;") ∈ lw_all := lw_g (lw_at lw_m1 205 rfl) rfl
theorem q301 : (Jvm.Cond.soleField "BladeAlgebra" "now") ∈ lw_all := lw_g (lw_at lw_m1 206 rfl) rfl
theorem q302 : (Jvm.Cond.laysFinal "BladeAlgebra" "BladeAlgebra" "kept" "[LBladeAlgebra$World;") ∈ lw_all := lw_g (lw_at lw_m1 207 rfl) rfl
theorem q303 : (Jvm.Cond.soleField "BladeAlgebra" "kept") ∈ lw_all := lw_g (lw_at lw_m1 208 rfl) rfl
theorem q304 : (Jvm.Cond.laysFinal "BladeAlgebra" "BladeAlgebra" "text" "[B") ∈ lw_all := lw_g (lw_at lw_m1 209 rfl) rfl
theorem q305 : (Jvm.Cond.soleField "BladeAlgebra" "text") ∈ lw_all := lw_g (lw_at lw_m1 210 rfl) rfl
theorem q306 : (Jvm.Cond.lays "BladeAlgebra" "BladeAlgebra" "textLength" "I") ∈ lw_all := lw_g (lw_at lw_m1 211 rfl) rfl
theorem q307 : (Jvm.Cond.soleField "BladeAlgebra" "textLength") ∈ lw_all := lw_g (lw_at lw_m1 212 rfl) rfl
theorem q308 : (Jvm.Cond.lays "BladeAlgebra" "BladeAlgebra" "errorCode" "I") ∈ lw_all := lw_g (lw_at lw_m1 213 rfl) rfl
theorem q309 : (Jvm.Cond.soleField "BladeAlgebra" "errorCode") ∈ lw_all := lw_g (lw_at lw_m1 214 rfl) rfl
theorem q310 : (Jvm.Cond.lays "BladeAlgebra" "BladeAlgebra" "errorPosition" "I") ∈ lw_all := lw_g (lw_at lw_m1 215 rfl) rfl
theorem q311 : (Jvm.Cond.soleField "BladeAlgebra" "errorPosition") ∈ lw_all := lw_g (lw_at lw_m1 216 rfl) rfl
theorem q312 : (Jvm.Cond.laysFinal "BladeAlgebra" "BladeAlgebra" "output" "Ljava/lang/StringBuilder;") ∈ lw_all := lw_g (lw_at lw_m1 217 rfl) rfl
theorem q313 : (Jvm.Cond.soleField "BladeAlgebra" "output") ∈ lw_all := lw_g (lw_at lw_m1 218 rfl) rfl
theorem q314 : (Jvm.Cond.superclass "BladeAlgebra" "java/lang/Object") ∈ lw_all := lw_g (lw_at lw_m1 219 rfl) rfl
theorem q316 : (Jvm.Cond.instanceMethod ({ cls := "BladeAlgebra", name := "errorCode", desc := "()I" } : Jvm.MethodName)) ∈ lw_all := lw_g (lw_at lw_m1 221 rfl) rfl
theorem q317 : (Jvm.Cond.selects "BladeAlgebra" ({ cls := "BladeAlgebra", name := "errorCode", desc := "()I" } : Jvm.MethodName) ({ cls := "BladeAlgebra", name := "errorCode", desc := "()I" } : Jvm.MethodName)) ∈ lw_all := lw_g (lw_at lw_m1 222 rfl) rfl
theorem q318 : (Jvm.Cond.code ({ cls := "BladeAlgebra", name := "errorCode", desc := "()I" } : Jvm.MethodName) prog_1_method_59_code (1 : Nat) (Option.some Jvm.ClassFile.FieldType.int)) ∈ lw_all := lw_g (lw_at lw_m1 223 rfl) rfl
theorem q320 : (Jvm.Cond.instanceMethod ({ cls := "BladeAlgebra", name := "errorPosition", desc := "()I" } : Jvm.MethodName)) ∈ lw_all := lw_g (lw_at lw_m1 225 rfl) rfl
theorem q321 : (Jvm.Cond.selects "BladeAlgebra" ({ cls := "BladeAlgebra", name := "errorPosition", desc := "()I" } : Jvm.MethodName) ({ cls := "BladeAlgebra", name := "errorPosition", desc := "()I" } : Jvm.MethodName)) ∈ lw_all := lw_g (lw_at lw_m1 226 rfl) rfl
theorem q322 : (Jvm.Cond.code ({ cls := "BladeAlgebra", name := "errorPosition", desc := "()I" } : Jvm.MethodName) prog_1_method_60_code (1 : Nat) (Option.some Jvm.ClassFile.FieldType.int)) ∈ lw_all := lw_g (lw_at lw_m1 227 rfl) rfl
theorem q328 : (Jvm.Cond.instanceMethod ({ cls := "BladeAlgebra", name := "setSignature", desc := "(III)I" } : Jvm.MethodName)) ∈ lw_all := lw_g (lw_at lw_m1 233 rfl) rfl
theorem q329 : (Jvm.Cond.selects "BladeAlgebra" ({ cls := "BladeAlgebra", name := "setSignature", desc := "(III)I" } : Jvm.MethodName) ({ cls := "BladeAlgebra", name := "setSignature", desc := "(III)I" } : Jvm.MethodName)) ∈ lw_all := lw_g (lw_at lw_m1 234 rfl) rfl
theorem q330 : (Jvm.Cond.code ({ cls := "BladeAlgebra", name := "setSignature", desc := "(III)I" } : Jvm.MethodName) prog_1_method_13_code (4 : Nat) (Option.some Jvm.ClassFile.FieldType.int)) ∈ lw_all := lw_g (lw_at lw_m1 235 rfl) rfl
theorem q331 : (Jvm.Cond.constantLong "BladeAlgebra" (123 : Nat) (5 : Int64)) ∈ lw_all := lw_g (lw_at lw_m1 236 rfl) rfl
theorem q332 : (Jvm.Cond.methodLink "BladeAlgebra" (102 : Nat) ({ cls := "BladeAlgebra", name := "isIn", desc := "(JJJ)Z" } : Jvm.MethodName)) ∈ lw_all := lw_g (lw_at lw_m1 237 rfl) rfl
theorem q333 : (Jvm.Cond.static ({ cls := "BladeAlgebra", name := "isIn", desc := "(JJJ)Z" } : Jvm.MethodName)) ∈ lw_all := lw_g (lw_at lw_m1 238 rfl) rfl
theorem q334 : (Jvm.Cond.code ({ cls := "BladeAlgebra", name := "isIn", desc := "(JJJ)Z" } : Jvm.MethodName) prog_1_method_1_code (6 : Nat) (Option.some Jvm.ClassFile.FieldType.boolean)) ∈ lw_all := lw_g (lw_at lw_m1 239 rfl) rfl
theorem q335 : (Jvm.Cond.methodLink "BladeAlgebra" (125 : Nat) ({ cls := "BladeAlgebra", name := "argument", desc := "(Z)V" } : Jvm.MethodName)) ∈ lw_all := lw_g (lw_at lw_m2 0 rfl) rfl
theorem q336 : (Jvm.Cond.static ({ cls := "BladeAlgebra", name := "argument", desc := "(Z)V" } : Jvm.MethodName)) ∈ lw_all := lw_g (lw_at lw_m2 1 rfl) rfl
theorem q337 : (Jvm.Cond.code ({ cls := "BladeAlgebra", name := "argument", desc := "(Z)V" } : Jvm.MethodName) prog_1_method_3_code (1 : Nat) (Option.none : Option Jvm.ClassFile.FieldType)) ∈ lw_all := lw_g (lw_at lw_m2 2 rfl) rfl
theorem q338 : (Jvm.Cond.classLink "BladeAlgebra" (11 : Nat) "java/lang/IllegalArgumentException") ∈ lw_all := lw_g (lw_at lw_m2 3 rfl) rfl
theorem q386 : (Jvm.Cond.stringRef "BladeAlgebra" (13 : Nat) "out of range") ∈ lw_tbl := lw_at lw_m2 51 rfl
theorem q387 : (Jvm.Cond.methodLink "BladeAlgebra" (15 : Nat) ({ cls := "java/lang/IllegalArgumentException", name := "<init>", desc := "(Ljava/lang/String;)V" } : Jvm.MethodName)) ∈ lw_all := lw_g (lw_at lw_m2 52 rfl) rfl
theorem q412 : (Jvm.Cond.classLink "BladeAlgebra" (128 : Nat) "BladeAlgebra$Algebra") ∈ lw_all := lw_g (lw_at lw_m2 77 rfl) rfl
theorem q413 : (Jvm.Cond.methodLink "BladeAlgebra" (130 : Nat) ({ cls := "BladeAlgebra$Algebra", name := "<init>", desc := "(III)V" } : Jvm.MethodName)) ∈ lw_all := lw_g (lw_at lw_m2 78 rfl) rfl
theorem q414 : (Jvm.Cond.methodLink "BladeAlgebra" (137 : Nat) ({ cls := "BladeAlgebra$World", name := "empty", desc := "()V" } : Jvm.MethodName)) ∈ lw_all := lw_g (lw_at lw_m2 79 rfl) rfl
theorem q419 : (Jvm.Cond.instanceMethod ({ cls := "BladeAlgebra", name := "signature", desc := "(I)I" } : Jvm.MethodName)) ∈ lw_all := lw_g (lw_at lw_m2 84 rfl) rfl
theorem q420 : (Jvm.Cond.selects "BladeAlgebra" ({ cls := "BladeAlgebra", name := "signature", desc := "(I)I" } : Jvm.MethodName) ({ cls := "BladeAlgebra", name := "signature", desc := "(I)I" } : Jvm.MethodName)) ∈ lw_all := lw_g (lw_at lw_m2 85 rfl) rfl
theorem q421 : (Jvm.Cond.code ({ cls := "BladeAlgebra", name := "signature", desc := "(I)I" } : Jvm.MethodName) prog_1_method_14_code (2 : Nat) (Option.some Jvm.ClassFile.FieldType.int)) ∈ lw_all := lw_g (lw_at lw_m2 86 rfl) rfl
theorem q422 : (Jvm.Cond.constantLong "BladeAlgebra" (143 : Nat) (3 : Int64)) ∈ lw_all := lw_g (lw_at lw_m2 87 rfl) rfl
theorem q465 : (Jvm.Cond.instanceMethod ({ cls := "BladeAlgebra", name := "setCoefficient", desc := "(IIII)V" } : Jvm.MethodName)) ∈ lw_all := lw_g (lw_at lw_m2 130 rfl) rfl
theorem q466 : (Jvm.Cond.selects "BladeAlgebra" ({ cls := "BladeAlgebra", name := "setCoefficient", desc := "(IIII)V" } : Jvm.MethodName) ({ cls := "BladeAlgebra", name := "setCoefficient", desc := "(IIII)V" } : Jvm.MethodName)) ∈ lw_all := lw_g (lw_at lw_m2 131 rfl) rfl
theorem q467 : (Jvm.Cond.codeWith ({ cls := "BladeAlgebra", name := "setCoefficient", desc := "(IIII)V" } : Jvm.MethodName) prog_1_method_16_code (6 : Nat) (Option.none : Option Jvm.ClassFile.FieldType) [((50 : Nat), (77 : Nat), (80 : Nat), (179 : Nat))]) ∈ lw_all := lw_g (lw_at lw_m2 132 rfl) rfl
theorem q468 : (Jvm.Cond.classLink "BladeAlgebra" (179 : Nat) "BladeAlgebra$Unfit") ∈ lw_all := lw_g (lw_at lw_m2 133 rfl) rfl
theorem q469 : (Jvm.Cond.methodLink "BladeAlgebra" (161 : Nat) ({ cls := "BladeAlgebra", name := "registers", desc := "([I)V" } : Jvm.MethodName)) ∈ lw_all := lw_g (lw_at lw_m2 134 rfl) rfl
theorem q470 : (Jvm.Cond.static ({ cls := "BladeAlgebra", name := "registers", desc := "([I)V" } : Jvm.MethodName)) ∈ lw_all := lw_g (lw_at lw_m2 135 rfl) rfl
theorem q471 : (Jvm.Cond.code ({ cls := "BladeAlgebra", name := "registers", desc := "([I)V" } : Jvm.MethodName) prog_1_method_10_code (2 : Nat) (Option.none : Option Jvm.ClassFile.FieldType)) ∈ lw_all := lw_g (lw_at lw_m2 136 rfl) rfl
theorem q472 : (Jvm.Cond.constantLong "BladeAlgebra" (100 : Nat) (7 : Int64)) ∈ lw_all := lw_g (lw_at lw_m2 137 rfl) rfl
theorem q473 : (Jvm.Cond.methodLink "BladeAlgebra" (106 : Nat) ({ cls := "BladeAlgebra", name := "index", desc := "(Z)V" } : Jvm.MethodName)) ∈ lw_all := lw_g (lw_at lw_m2 138 rfl) rfl
theorem q474 : (Jvm.Cond.static ({ cls := "BladeAlgebra", name := "index", desc := "(Z)V" } : Jvm.MethodName)) ∈ lw_all := lw_g (lw_at lw_m2 139 rfl) rfl
theorem q475 : (Jvm.Cond.code ({ cls := "BladeAlgebra", name := "index", desc := "(Z)V" } : Jvm.MethodName) prog_1_method_2_code (1 : Nat) (Option.none : Option Jvm.ClassFile.FieldType)) ∈ lw_all := lw_g (lw_at lw_m2 140 rfl) rfl
theorem q476 : (Jvm.Cond.classLink "BladeAlgebra" (3 : Nat) "java/lang/IndexOutOfBoundsException") ∈ lw_all := lw_g (lw_at lw_m2 141 rfl) rfl
theorem q485 : (Jvm.Cond.stringRef "BladeAlgebra" (5 : Nat) "there is no such one") ∈ lw_tbl := lw_at lw_m2 150 rfl
theorem q486 : (Jvm.Cond.methodLink "BladeAlgebra" (7 : Nat) ({ cls := "java/lang/IndexOutOfBoundsException", name := "<init>", desc := "(Ljava/lang/String;)V" } : Jvm.MethodName)) ∈ lw_all := lw_g (lw_at lw_m2 151 rfl) rfl
theorem q489 : (Jvm.Cond.methodLink "BladeAlgebra" (165 : Nat) ({ cls := "BladeAlgebra", name := "blade", desc := "(I)V" } : Jvm.MethodName)) ∈ lw_all := lw_g (lw_at lw_m2 154 rfl) rfl
theorem q490 : (Jvm.Cond.privateMethod ({ cls := "BladeAlgebra", name := "blade", desc := "(I)V" } : Jvm.MethodName)) ∈ lw_tbl := lw_at lw_m2 155 rfl
theorem q491 : (Jvm.Cond.instanceMethod ({ cls := "BladeAlgebra", name := "blade", desc := "(I)V" } : Jvm.MethodName)) ∈ lw_all := lw_g (lw_at lw_m2 156 rfl) rfl
theorem q492 : (Jvm.Cond.code ({ cls := "BladeAlgebra", name := "blade", desc := "(I)V" } : Jvm.MethodName) prog_1_method_15_code (2 : Nat) (Option.none : Option Jvm.ClassFile.FieldType)) ∈ lw_all := lw_g (lw_at lw_m2 157 rfl) rfl
theorem q493 : (Jvm.Cond.methodLink "BladeAlgebra" (157 : Nat) ({ cls := "BladeAlgebra$Algebra", name := "isBlade", desc := "(I)Z" } : Jvm.MethodName)) ∈ lw_all := lw_g (lw_at lw_m2 158 rfl) rfl
theorem q498 : (Jvm.Cond.constantLong "BladeAlgebra" (169 : Nat) (-100000000 : Int64)) ∈ lw_all := lw_g (lw_at lw_m2 163 rfl) rfl
theorem q499 : (Jvm.Cond.constantLong "BladeAlgebra" (171 : Nat) (100000000 : Int64)) ∈ lw_all := lw_g (lw_at lw_m2 164 rfl) rfl
theorem q500 : (Jvm.Cond.constantLong "BladeAlgebra" (173 : Nat) (10000 : Int64)) ∈ lw_all := lw_g (lw_at lw_m2 165 rfl) rfl
theorem q501 : (Jvm.Cond.methodLink "BladeAlgebra" (175 : Nat) ({ cls := "BladeAlgebra$Multi", name := "with", desc := "(IJJ)LBladeAlgebra$Multi;" } : Jvm.MethodName)) ∈ lw_all := lw_g (lw_at lw_m2 166 rfl) rfl
theorem q514 : (Jvm.Cond.static ({ cls := "BladeAlgebra", name := "common", desc := "(JJ)J" } : Jvm.MethodName)) ∈ lw_all := lw_g (lw_at lw_m2 179 rfl) rfl
theorem q515 : (Jvm.Cond.code ({ cls := "BladeAlgebra", name := "common", desc := "(JJ)J" } : Jvm.MethodName) prog_1_method_6_code (10 : Nat) (Option.some Jvm.ClassFile.FieldType.long)) ∈ lw_all := lw_g (lw_at lw_m2 180 rfl) rfl
theorem q516 : (Jvm.Cond.methodLink "BladeAlgebra" (26 : Nat) ({ cls := "java/lang/Math", name := "abs", desc := "(J)J" } : Jvm.MethodName)) ∈ lw_all := lw_g (lw_at lw_m2 181 rfl) rfl
theorem q552 : (Jvm.Cond.fieldLinkNest "BladeAlgebra" (42 : Nat) "BladeAlgebra$Multi" "row" "[J" "BladeAlgebra") ∈ lw_tbl := lw_at lw_m2 217 rfl
theorem q556 : (Jvm.Cond.fieldLinkNest "BladeAlgebra" (38 : Nat) "BladeAlgebra$Multi" "under" "J" "BladeAlgebra") ∈ lw_tbl := lw_at lw_m2 221 rfl
theorem q562 : (Jvm.Cond.methodLink "BladeAlgebra" (181 : Nat) ({ cls := "BladeAlgebra", name := "large", desc := "()Ljava/lang/ArithmeticException;" } : Jvm.MethodName)) ∈ lw_all := lw_g (lw_at lw_m2 227 rfl) rfl
theorem q563 : (Jvm.Cond.static ({ cls := "BladeAlgebra", name := "large", desc := "()Ljava/lang/ArithmeticException;" } : Jvm.MethodName)) ∈ lw_all := lw_g (lw_at lw_m2 228 rfl) rfl
theorem q564 : (Jvm.Cond.code ({ cls := "BladeAlgebra", name := "large", desc := "()Ljava/lang/ArithmeticException;" } : Jvm.MethodName) prog_1_method_12_code (0 : Nat) (Option.some (Jvm.ClassFile.FieldType.object "java/lang/ArithmeticException"))) ∈ lw_all := lw_g (lw_at lw_m2 229 rfl) rfl
theorem q565 : (Jvm.Cond.classLink "BladeAlgebra" (118 : Nat) "java/lang/ArithmeticException") ∈ lw_all := lw_g (lw_at lw_m2 230 rfl) rfl
theorem q566 : (Jvm.Cond.stringRef "BladeAlgebra" (120 : Nat) "does not fit") ∈ lw_tbl := lw_at lw_m2 231 rfl
theorem q567 : (Jvm.Cond.methodLink "BladeAlgebra" (122 : Nat) ({ cls := "java/lang/ArithmeticException", name := "<init>", desc := "(Ljava/lang/String;)V" } : Jvm.MethodName)) ∈ lw_all := lw_g (lw_at lw_m2 232 rfl) rfl
theorem q572 : (Jvm.Cond.instanceMethod ({ cls := "BladeAlgebra", name := "numerator", desc := "(II)I" } : Jvm.MethodName)) ∈ lw_all := lw_g (lw_at lw_m2 237 rfl) rfl
theorem q573 : (Jvm.Cond.selects "BladeAlgebra" ({ cls := "BladeAlgebra", name := "numerator", desc := "(II)I" } : Jvm.MethodName) ({ cls := "BladeAlgebra", name := "numerator", desc := "(II)I" } : Jvm.MethodName)) ∈ lw_all := lw_g (lw_at lw_m2 238 rfl) rfl
theorem q574 : (Jvm.Cond.code ({ cls := "BladeAlgebra", name := "numerator", desc := "(II)I" } : Jvm.MethodName) prog_1_method_18_code (3 : Nat) (Option.some Jvm.ClassFile.FieldType.int)) ∈ lw_all := lw_g (lw_at lw_m2 239 rfl) rfl
theorem q575 : (Jvm.Cond.methodLink "BladeAlgebra" (190 : Nat) ({ cls := "BladeAlgebra", name := "term", desc := "(II)LBladeAlgebra$Term;" } : Jvm.MethodName)) ∈ lw_all := lw_g (lw_at lw_m3 0 rfl) rfl
theorem q576 : (Jvm.Cond.privateMethod ({ cls := "BladeAlgebra", name := "term", desc := "(II)LBladeAlgebra$Term;" } : Jvm.MethodName)) ∈ lw_tbl := lw_at lw_m3 1 rfl
theorem q577 : (Jvm.Cond.instanceMethod ({ cls := "BladeAlgebra", name := "term", desc := "(II)LBladeAlgebra$Term;" } : Jvm.MethodName)) ∈ lw_all := lw_g (lw_at lw_m3 2 rfl) rfl
theorem q578 : (Jvm.Cond.code ({ cls := "BladeAlgebra", name := "term", desc := "(II)LBladeAlgebra$Term;" } : Jvm.MethodName) prog_1_method_17_code (4 : Nat) (Option.some (Jvm.ClassFile.FieldType.object "BladeAlgebra$Term"))) ∈ lw_all := lw_g (lw_at lw_m3 3 rfl) rfl
theorem q579 : (Jvm.Cond.classLink "BladeAlgebra" (185 : Nat) "BladeAlgebra$Term") ∈ lw_all := lw_g (lw_at lw_m3 4 rfl) rfl
theorem q581 : (Jvm.Cond.methodLink "BladeAlgebra" (187 : Nat) ({ cls := "BladeAlgebra$Term", name := "<init>", desc := "(IJJ)V" } : Jvm.MethodName)) ∈ lw_all := lw_g (lw_at lw_m3 6 rfl) rfl
theorem q587 : (Jvm.Cond.fieldLinkNest "BladeAlgebra" (288 : Nat) "BladeAlgebra$Term" "blade" "I" "BladeAlgebra") ∈ lw_tbl := lw_at lw_m3 12 rfl
theorem q589 : (Jvm.Cond.fieldLinkNest "BladeAlgebra" (194 : Nat) "BladeAlgebra$Term" "numerator" "J" "BladeAlgebra") ∈ lw_tbl := lw_at lw_m3 14 rfl
theorem q591 : (Jvm.Cond.fieldLinkNest "BladeAlgebra" (197 : Nat) "BladeAlgebra$Term" "denominator" "J" "BladeAlgebra") ∈ lw_tbl := lw_at lw_m3 16 rfl
theorem q603 : (Jvm.Cond.instanceMethod ({ cls := "BladeAlgebra", name := "denominator", desc := "(II)I" } : Jvm.MethodName)) ∈ lw_all := lw_g (lw_at lw_m3 28 rfl) rfl
theorem q604 : (Jvm.Cond.selects "BladeAlgebra" ({ cls := "BladeAlgebra", name := "denominator", desc := "(II)I" } : Jvm.MethodName) ({ cls := "BladeAlgebra", name := "denominator", desc := "(II)I" } : Jvm.MethodName)) ∈ lw_all := lw_g (lw_at lw_m3 29 rfl) rfl
theorem q605 : (Jvm.Cond.code ({ cls := "BladeAlgebra", name := "denominator", desc := "(II)I" } : Jvm.MethodName) prog_1_method_19_code (3 : Nat) (Option.some Jvm.ClassFile.FieldType.int)) ∈ lw_all := lw_g (lw_at lw_m3 30 rfl) rfl
theorem q610 : (Jvm.Cond.instanceMethod ({ cls := "BladeAlgebra", name := "commonDenominator", desc := "(I)I" } : Jvm.MethodName)) ∈ lw_all := lw_g (lw_at lw_m3 35 rfl) rfl
theorem q611 : (Jvm.Cond.selects "BladeAlgebra" ({ cls := "BladeAlgebra", name := "commonDenominator", desc := "(I)I" } : Jvm.MethodName) ({ cls := "BladeAlgebra", name := "commonDenominator", desc := "(I)I" } : Jvm.MethodName)) ∈ lw_all := lw_g (lw_at lw_m3 36 rfl) rfl
theorem q612 : (Jvm.Cond.code ({ cls := "BladeAlgebra", name := "commonDenominator", desc := "(I)I" } : Jvm.MethodName) prog_1_method_20_code (2 : Nat) (Option.some Jvm.ClassFile.FieldType.int)) ∈ lw_all := lw_g (lw_at lw_m3 37 rfl) rfl
theorem q617 : (Jvm.Cond.instanceMethod ({ cls := "BladeAlgebra", name := "sign", desc := "(II)I" } : Jvm.MethodName)) ∈ lw_all := lw_g (lw_at lw_m3 42 rfl) rfl
theorem q618 : (Jvm.Cond.selects "BladeAlgebra" ({ cls := "BladeAlgebra", name := "sign", desc := "(II)I" } : Jvm.MethodName) ({ cls := "BladeAlgebra", name := "sign", desc := "(II)I" } : Jvm.MethodName)) ∈ lw_all := lw_g (lw_at lw_m3 43 rfl) rfl
theorem q619 : (Jvm.Cond.code ({ cls := "BladeAlgebra", name := "sign", desc := "(II)I" } : Jvm.MethodName) prog_1_method_21_code (3 : Nat) (Option.some Jvm.ClassFile.FieldType.int)) ∈ lw_all := lw_g (lw_at lw_m3 44 rfl) rfl
theorem q624 : (Jvm.Cond.instanceMethod ({ cls := "BladeAlgebra", name := "copy", desc := "(II)V" } : Jvm.MethodName)) ∈ lw_all := lw_g (lw_at lw_m3 49 rfl) rfl
theorem q625 : (Jvm.Cond.selects "BladeAlgebra" ({ cls := "BladeAlgebra", name := "copy", desc := "(II)V" } : Jvm.MethodName) ({ cls := "BladeAlgebra", name := "copy", desc := "(II)V" } : Jvm.MethodName)) ∈ lw_all := lw_g (lw_at lw_m3 50 rfl) rfl
theorem q626 : (Jvm.Cond.code ({ cls := "BladeAlgebra", name := "copy", desc := "(II)V" } : Jvm.MethodName) prog_1_method_22_code (3 : Nat) (Option.none : Option Jvm.ClassFile.FieldType)) ∈ lw_all := lw_g (lw_at lw_m3 51 rfl) rfl
theorem q631 : (Jvm.Cond.instanceMethod ({ cls := "BladeAlgebra", name := "combine", desc := "(IIII)I" } : Jvm.MethodName)) ∈ lw_all := lw_g (lw_at lw_m3 56 rfl) rfl
theorem q632 : (Jvm.Cond.selects "BladeAlgebra" ({ cls := "BladeAlgebra", name := "combine", desc := "(IIII)I" } : Jvm.MethodName) ({ cls := "BladeAlgebra", name := "combine", desc := "(IIII)I" } : Jvm.MethodName)) ∈ lw_all := lw_g (lw_at lw_m3 57 rfl) rfl
theorem q633 : (Jvm.Cond.codeWith ({ cls := "BladeAlgebra", name := "combine", desc := "(IIII)I" } : Jvm.MethodName) prog_1_method_23_code (6 : Nat) (Option.some Jvm.ClassFile.FieldType.int) [((36 : Nat), (76 : Nat), (77 : Nat), (179 : Nat))]) ∈ lw_all := lw_g (lw_at lw_m3 58 rfl) rfl
theorem q634 : (Jvm.Cond.methodLink "BladeAlgebra" (204 : Nat) ({ cls := "BladeAlgebra$Two", name := "of", desc := "(LBladeAlgebra$Algebra;LBladeAlgebra$Multi;LBladeAlgebra$Multi;)LBladeAlgebra$Multi;" } : Jvm.MethodName)) ∈ lw_all := lw_g (lw_at lw_m3 59 rfl) rfl
theorem q731 : (Jvm.Cond.methodLink "BladeAlgebra" (208 : Nat) ({ cls := "BladeAlgebra", name := "store", desc := "(ILBladeAlgebra$Multi;)I" } : Jvm.MethodName)) ∈ lw_all := lw_g (lw_at lw_m3 156 rfl) rfl
theorem q732 : (Jvm.Cond.privateMethod ({ cls := "BladeAlgebra", name := "store", desc := "(ILBladeAlgebra$Multi;)I" } : Jvm.MethodName)) ∈ lw_tbl := lw_at lw_m3 157 rfl
theorem q733 : (Jvm.Cond.instanceMethod ({ cls := "BladeAlgebra", name := "store", desc := "(ILBladeAlgebra$Multi;)I" } : Jvm.MethodName)) ∈ lw_all := lw_g (lw_at lw_m3 158 rfl) rfl
theorem q734 : (Jvm.Cond.code ({ cls := "BladeAlgebra", name := "store", desc := "(ILBladeAlgebra$Multi;)I" } : Jvm.MethodName) prog_1_method_11_code (3 : Nat) (Option.some Jvm.ClassFile.FieldType.int)) ∈ lw_all := lw_g (lw_at lw_m3 159 rfl) rfl
theorem q735 : (Jvm.Cond.methodLink "BladeAlgebra" (114 : Nat) ({ cls := "BladeAlgebra$Multi", name := "terms", desc := "()I" } : Jvm.MethodName)) ∈ lw_all := lw_g (lw_at lw_m3 160 rfl) rfl
theorem q744 : (Jvm.Cond.instanceMethod ({ cls := "BladeAlgebra", name := "change", desc := "(III)I" } : Jvm.MethodName)) ∈ lw_all := lw_g (lw_at lw_m3 169 rfl) rfl
theorem q745 : (Jvm.Cond.selects "BladeAlgebra" ({ cls := "BladeAlgebra", name := "change", desc := "(III)I" } : Jvm.MethodName) ({ cls := "BladeAlgebra", name := "change", desc := "(III)I" } : Jvm.MethodName)) ∈ lw_all := lw_g (lw_at lw_m3 170 rfl) rfl
theorem q746 : (Jvm.Cond.codeWith ({ cls := "BladeAlgebra", name := "change", desc := "(III)I" } : Jvm.MethodName) prog_1_method_24_code (5 : Nat) (Option.some Jvm.ClassFile.FieldType.int) [((31 : Nat), (61 : Nat), (62 : Nat), (179 : Nat))]) ∈ lw_all := lw_g (lw_at lw_m3 171 rfl) rfl
theorem q747 : (Jvm.Cond.methodLink "BladeAlgebra" (212 : Nat) ({ cls := "BladeAlgebra$One", name := "of", desc := "(LBladeAlgebra$Algebra;LBladeAlgebra$Multi;)LBladeAlgebra$Multi;" } : Jvm.MethodName)) ∈ lw_all := lw_g (lw_at lw_m3 172 rfl) rfl
theorem q754 : (Jvm.Cond.static ({ cls := "BladeAlgebra", name := "reverse", desc := "(LBladeAlgebra$Multi;)LBladeAlgebra$Multi;" } : Jvm.MethodName)) ∈ lw_all := lw_g (lw_at lw_m3 179 rfl) rfl
theorem q755 : (Jvm.Cond.code ({ cls := "BladeAlgebra", name := "reverse", desc := "(LBladeAlgebra$Multi;)LBladeAlgebra$Multi;" } : Jvm.MethodName) prog_1_method_7_code (1 : Nat) (Option.some (Jvm.ClassFile.FieldType.object "BladeAlgebra$Multi"))) ∈ lw_all := lw_g (lw_at lw_m3 180 rfl) rfl
theorem q756 : (Jvm.Cond.methodLink "BladeAlgebra" (32 : Nat) ({ cls := "BladeAlgebra$Multi", name := "signed", desc := "(II)LBladeAlgebra$Multi;" } : Jvm.MethodName)) ∈ lw_all := lw_g (lw_at lw_m3 181 rfl) rfl
theorem q776 : (Jvm.Cond.static ({ cls := "BladeAlgebra", name := "possible", desc := "(Z)V" } : Jvm.MethodName)) ∈ lw_all := lw_g (lw_at lw_m3 201 rfl) rfl
theorem q777 : (Jvm.Cond.code ({ cls := "BladeAlgebra", name := "possible", desc := "(Z)V" } : Jvm.MethodName) prog_1_method_4_code (1 : Nat) (Option.none : Option Jvm.ClassFile.FieldType)) ∈ lw_all := lw_g (lw_at lw_m3 202 rfl) rfl
theorem q778 : (Jvm.Cond.classLink "BladeAlgebra" (16 : Nat) "java/lang/IllegalStateException") ∈ lw_all := lw_g (lw_at lw_m3 203 rfl) rfl
theorem q787 : (Jvm.Cond.stringRef "BladeAlgebra" (18 : Nat) "not possible now") ∈ lw_tbl := lw_at lw_m3 212 rfl
theorem q788 : (Jvm.Cond.methodLink "BladeAlgebra" (20 : Nat) ({ cls := "java/lang/IllegalStateException", name := "<init>", desc := "(Ljava/lang/String;)V" } : Jvm.MethodName)) ∈ lw_all := lw_g (lw_at lw_m3 213 rfl) rfl
theorem q795 : (Jvm.Cond.static ({ cls := "BladeAlgebra", name := "by", desc := "(LBladeAlgebra$Multi;LBladeAlgebra$Multi;)LBladeAlgebra$Multi;" } : Jvm.MethodName)) ∈ lw_all := lw_g (lw_at lw_m3 220 rfl) rfl
theorem q796 : (Jvm.Cond.code ({ cls := "BladeAlgebra", name := "by", desc := "(LBladeAlgebra$Multi;LBladeAlgebra$Multi;)LBladeAlgebra$Multi;" } : Jvm.MethodName) prog_1_method_8_code (2 : Nat) (Option.some (Jvm.ClassFile.FieldType.object "BladeAlgebra$Multi"))) ∈ lw_all := lw_g (lw_at lw_m3 221 rfl) rfl
theorem q797 : (Jvm.Cond.methodLink "BladeAlgebra" (46 : Nat) ({ cls := "BladeAlgebra$Multi", name := "times", desc := "(JJ)LBladeAlgebra$Multi;" } : Jvm.MethodName)) ∈ lw_all := lw_g (lw_at lw_m3 222 rfl) rfl
theorem q839 : (Jvm.Cond.instanceMethod ({ cls := "BladeAlgebra", name := "gradePart", desc := "(III)I" } : Jvm.MethodName)) ∈ lw_all := lw_g (lw_at lw_m4 24 rfl) rfl
theorem q840 : (Jvm.Cond.selects "BladeAlgebra" ({ cls := "BladeAlgebra", name := "gradePart", desc := "(III)I" } : Jvm.MethodName) ({ cls := "BladeAlgebra", name := "gradePart", desc := "(III)I" } : Jvm.MethodName)) ∈ lw_all := lw_g (lw_at lw_m4 25 rfl) rfl
theorem q841 : (Jvm.Cond.code ({ cls := "BladeAlgebra", name := "gradePart", desc := "(III)I" } : Jvm.MethodName) prog_1_method_25_code (4 : Nat) (Option.some Jvm.ClassFile.FieldType.int)) ∈ lw_all := lw_g (lw_at lw_m4 26 rfl) rfl
theorem q846 : (Jvm.Cond.instanceMethod ({ cls := "BladeAlgebra", name := "scale", desc := "(IIII)I" } : Jvm.MethodName)) ∈ lw_all := lw_g (lw_at lw_m4 31 rfl) rfl
theorem q847 : (Jvm.Cond.selects "BladeAlgebra" ({ cls := "BladeAlgebra", name := "scale", desc := "(IIII)I" } : Jvm.MethodName) ({ cls := "BladeAlgebra", name := "scale", desc := "(IIII)I" } : Jvm.MethodName)) ∈ lw_all := lw_g (lw_at lw_m4 32 rfl) rfl
theorem q848 : (Jvm.Cond.codeWith ({ cls := "BladeAlgebra", name := "scale", desc := "(IIII)I" } : Jvm.MethodName) prog_1_method_26_code (6 : Nat) (Option.some Jvm.ClassFile.FieldType.int) [((49 : Nat), (71 : Nat), (72 : Nat), (179 : Nat))]) ∈ lw_all := lw_g (lw_at lw_m4 33 rfl) rfl
theorem q849 : (Jvm.Cond.constantLong "BladeAlgebra" (215 : Nat) (-10000 : Int64)) ∈ lw_all := lw_g (lw_at lw_m4 34 rfl) rfl
theorem q854 : (Jvm.Cond.instanceMethod ({ cls := "BladeAlgebra", name := "power", desc := "(III)I" } : Jvm.MethodName)) ∈ lw_all := lw_g (lw_at lw_m4 39 rfl) rfl
theorem q855 : (Jvm.Cond.selects "BladeAlgebra" ({ cls := "BladeAlgebra", name := "power", desc := "(III)I" } : Jvm.MethodName) ({ cls := "BladeAlgebra", name := "power", desc := "(III)I" } : Jvm.MethodName)) ∈ lw_all := lw_g (lw_at lw_m4 40 rfl) rfl
theorem q856 : (Jvm.Cond.codeWith ({ cls := "BladeAlgebra", name := "power", desc := "(III)I" } : Jvm.MethodName) prog_1_method_27_code (6 : Nat) (Option.some Jvm.ClassFile.FieldType.int) [((26 : Nat), (79 : Nat), (80 : Nat), (179 : Nat))]) ∈ lw_all := lw_g (lw_at lw_m4 41 rfl) rfl
theorem q857 : (Jvm.Cond.constantLong "BladeAlgebra" (217 : Nat) (20 : Int64)) ∈ lw_all := lw_g (lw_at lw_m4 42 rfl) rfl
theorem q858 : (Jvm.Cond.methodLink "BladeAlgebra" (219 : Nat) ({ cls := "BladeAlgebra$Multi", name := "of", desc := "(IJJ)LBladeAlgebra$Multi;" } : Jvm.MethodName)) ∈ lw_all := lw_g (lw_at lw_m4 43 rfl) rfl
theorem q859 : (Jvm.Cond.methodLink "BladeAlgebra" (221 : Nat) ({ cls := "BladeAlgebra$Algebra", name := "product", desc := "(LBladeAlgebra$Multi;LBladeAlgebra$Multi;)LBladeAlgebra$Multi;" } : Jvm.MethodName)) ∈ lw_all := lw_g (lw_at lw_m4 44 rfl) rfl
theorem q864 : (Jvm.Cond.instanceMethod ({ cls := "BladeAlgebra", name := "project", desc := "(III)I" } : Jvm.MethodName)) ∈ lw_all := lw_g (lw_at lw_m4 49 rfl) rfl
theorem q865 : (Jvm.Cond.selects "BladeAlgebra" ({ cls := "BladeAlgebra", name := "project", desc := "(III)I" } : Jvm.MethodName) ({ cls := "BladeAlgebra", name := "project", desc := "(III)I" } : Jvm.MethodName)) ∈ lw_all := lw_g (lw_at lw_m4 50 rfl) rfl
theorem q866 : (Jvm.Cond.codeWith ({ cls := "BladeAlgebra", name := "project", desc := "(III)I" } : Jvm.MethodName) prog_1_method_28_code (6 : Nat) (Option.some Jvm.ClassFile.FieldType.int) [((18 : Nat), (94 : Nat), (95 : Nat), (179 : Nat))]) ∈ lw_all := lw_g (lw_at lw_m4 51 rfl) rfl
theorem q867 : (Jvm.Cond.fieldLink "BladeAlgebra" (225 : Nat) "BladeAlgebra$One" "INVERSE" "LBladeAlgebra$One;") ∈ lw_all := lw_g (lw_at lw_m4 52 rfl) rfl
theorem q869 : (Jvm.Cond.fieldLink "BladeAlgebra" (229 : Nat) "BladeAlgebra$Product" "LEFT" "LBladeAlgebra$Product;") ∈ lw_all := lw_g (lw_at lw_m4 54 rfl) rfl
theorem q870 : (Jvm.Cond.methodLink "BladeAlgebra" (235 : Nat) ({ cls := "BladeAlgebra$Algebra", name := "product", desc := "(LBladeAlgebra$Multi;LBladeAlgebra$Multi;LBladeAlgebra$Product;)LBladeAlgebra$Multi;" } : Jvm.MethodName)) ∈ lw_all := lw_g (lw_at lw_m4 55 rfl) rfl
theorem q875 : (Jvm.Cond.instanceMethod ({ cls := "BladeAlgebra", name := "factor", desc := "(III)I" } : Jvm.MethodName)) ∈ lw_all := lw_g (lw_at lw_m4 60 rfl) rfl
theorem q876 : (Jvm.Cond.selects "BladeAlgebra" ({ cls := "BladeAlgebra", name := "factor", desc := "(III)I" } : Jvm.MethodName) ({ cls := "BladeAlgebra", name := "factor", desc := "(III)I" } : Jvm.MethodName)) ∈ lw_all := lw_g (lw_at lw_m4 61 rfl) rfl
theorem q877 : (Jvm.Cond.codeWith ({ cls := "BladeAlgebra", name := "factor", desc := "(III)I" } : Jvm.MethodName) prog_1_method_32_code (9 : Nat) (Option.some Jvm.ClassFile.FieldType.int) [((94 : Nat), (109 : Nat), (110 : Nat), (179 : Nat))]) ∈ lw_all := lw_g (lw_at lw_m4 62 rfl) rfl
theorem q878 : (Jvm.Cond.methodLink "BladeAlgebra" (242 : Nat) ({ cls := "BladeAlgebra$Algebra", name := "isBlade", desc := "(LBladeAlgebra$Multi;)Z" } : Jvm.MethodName)) ∈ lw_all := lw_g (lw_at lw_m4 63 rfl) rfl
theorem q891 : (Jvm.Cond.methodLink "BladeAlgebra" (245 : Nat) ({ cls := "BladeAlgebra", name := "possible", desc := "(Z)V" } : Jvm.MethodName)) ∈ lw_all := lw_g (lw_at lw_m4 76 rfl) rfl
theorem q892 : (Jvm.Cond.methodLink "BladeAlgebra" (248 : Nat) ({ cls := "BladeAlgebra", name := "leading", desc := "(LBladeAlgebra$Multi;)I" } : Jvm.MethodName)) ∈ lw_all := lw_g (lw_at lw_m4 77 rfl) rfl
theorem q893 : (Jvm.Cond.static ({ cls := "BladeAlgebra", name := "leading", desc := "(LBladeAlgebra$Multi;)I" } : Jvm.MethodName)) ∈ lw_all := lw_g (lw_at lw_m4 78 rfl) rfl
theorem q894 : (Jvm.Cond.code ({ cls := "BladeAlgebra", name := "leading", desc := "(LBladeAlgebra$Multi;)I" } : Jvm.MethodName) prog_1_method_29_code (3 : Nat) (Option.some Jvm.ClassFile.FieldType.int)) ∈ lw_all := lw_g (lw_at lw_m4 79 rfl) rfl
theorem q895 : (Jvm.Cond.fieldLink "BladeAlgebra" (252 : Nat) "BladeAlgebra" "GRADE" "[I") ∈ lw_all := lw_g (lw_at lw_m4 80 rfl) rfl
theorem q896 : (Jvm.Cond.methodLink "BladeAlgebra" (256 : Nat) ({ cls := "BladeAlgebra", name := "vectorOf", desc := "(II)I" } : Jvm.MethodName)) ∈ lw_all := lw_g (lw_at lw_m4 81 rfl) rfl
theorem q897 : (Jvm.Cond.static ({ cls := "BladeAlgebra", name := "vectorOf", desc := "(II)I" } : Jvm.MethodName)) ∈ lw_all := lw_g (lw_at lw_m4 82 rfl) rfl
theorem q898 : (Jvm.Cond.code ({ cls := "BladeAlgebra", name := "vectorOf", desc := "(II)I" } : Jvm.MethodName) prog_1_method_30_code (4 : Nat) (Option.some Jvm.ClassFile.FieldType.int)) ∈ lw_all := lw_g (lw_at lw_m4 83 rfl) rfl
theorem q899 : (Jvm.Cond.methodLink "BladeAlgebra" (260 : Nat) ({ cls := "BladeAlgebra$Algebra", name := "left", desc := "(LBladeAlgebra$Multi;I)[J" } : Jvm.MethodName)) ∈ lw_all := lw_g (lw_at lw_m4 84 rfl) rfl
theorem q900 : (Jvm.Cond.methodLink "BladeAlgebra" (264 : Nat) ({ cls := "BladeAlgebra", name := "vector", desc := "([JJ)LBladeAlgebra$Multi;" } : Jvm.MethodName)) ∈ lw_all := lw_g (lw_at lw_m4 85 rfl) rfl
theorem q901 : (Jvm.Cond.static ({ cls := "BladeAlgebra", name := "vector", desc := "([JJ)LBladeAlgebra$Multi;" } : Jvm.MethodName)) ∈ lw_all := lw_g (lw_at lw_m4 86 rfl) rfl
theorem q902 : (Jvm.Cond.code ({ cls := "BladeAlgebra", name := "vector", desc := "([JJ)LBladeAlgebra$Multi;" } : Jvm.MethodName) prog_1_method_31_code (5 : Nat) (Option.some (Jvm.ClassFile.FieldType.object "BladeAlgebra$Multi"))) ∈ lw_all := lw_g (lw_at lw_m4 87 rfl) rfl
theorem q903 : (Jvm.Cond.methodLink "BladeAlgebra" (238 : Nat) ({ cls := "BladeAlgebra$Multi", name := "fit", desc := "([JJ)LBladeAlgebra$Multi;" } : Jvm.MethodName)) ∈ lw_all := lw_g (lw_at lw_m4 88 rfl) rfl
theorem q908 : (Jvm.Cond.instanceMethod ({ cls := "BladeAlgebra", name := "map", desc := "(III)I" } : Jvm.MethodName)) ∈ lw_all := lw_g (lw_at lw_m4 93 rfl) rfl
theorem q909 : (Jvm.Cond.selects "BladeAlgebra" ({ cls := "BladeAlgebra", name := "map", desc := "(III)I" } : Jvm.MethodName) ({ cls := "BladeAlgebra", name := "map", desc := "(III)I" } : Jvm.MethodName)) ∈ lw_all := lw_g (lw_at lw_m4 94 rfl) rfl
theorem q910 : (Jvm.Cond.codeWith ({ cls := "BladeAlgebra", name := "map", desc := "(III)I" } : Jvm.MethodName) prog_1_method_35_code (5 : Nat) (Option.some Jvm.ClassFile.FieldType.int) [((19 : Nat), (38 : Nat), (39 : Nat), (179 : Nat))]) ∈ lw_all := lw_g (lw_at lw_m4 95 rfl) rfl
theorem q911 : (Jvm.Cond.methodLink "BladeAlgebra" (297 : Nat) ({ cls := "BladeAlgebra", name := "images", desc := "(I)V" } : Jvm.MethodName)) ∈ lw_all := lw_g (lw_at lw_m4 96 rfl) rfl
theorem q912 : (Jvm.Cond.privateMethod ({ cls := "BladeAlgebra", name := "images", desc := "(I)V" } : Jvm.MethodName)) ∈ lw_tbl := lw_at lw_m4 97 rfl
theorem q913 : (Jvm.Cond.instanceMethod ({ cls := "BladeAlgebra", name := "images", desc := "(I)V" } : Jvm.MethodName)) ∈ lw_all := lw_g (lw_at lw_m4 98 rfl) rfl
theorem q914 : (Jvm.Cond.code ({ cls := "BladeAlgebra", name := "images", desc := "(I)V" } : Jvm.MethodName) prog_1_method_33_code (3 : Nat) (Option.none : Option Jvm.ClassFile.FieldType)) ∈ lw_all := lw_g (lw_at lw_m4 99 rfl) rfl
theorem q915 : (Jvm.Cond.methodLink "BladeAlgebra" (267 : Nat) ({ cls := "BladeAlgebra$Multi", name := "isVector", desc := "()Z" } : Jvm.MethodName)) ∈ lw_all := lw_g (lw_at lw_m4 100 rfl) rfl
theorem q919 : (Jvm.Cond.methodLink "BladeAlgebra" (300 : Nat) ({ cls := "BladeAlgebra", name := "mapped", desc := "(LBladeAlgebra$Multi;I)LBladeAlgebra$Multi;" } : Jvm.MethodName)) ∈ lw_all := lw_g (lw_at lw_m4 104 rfl) rfl
theorem q920 : (Jvm.Cond.privateMethod ({ cls := "BladeAlgebra", name := "mapped", desc := "(LBladeAlgebra$Multi;I)LBladeAlgebra$Multi;" } : Jvm.MethodName)) ∈ lw_tbl := lw_at lw_m4 105 rfl
theorem q921 : (Jvm.Cond.instanceMethod ({ cls := "BladeAlgebra", name := "mapped", desc := "(LBladeAlgebra$Multi;I)LBladeAlgebra$Multi;" } : Jvm.MethodName)) ∈ lw_all := lw_g (lw_at lw_m4 106 rfl) rfl
theorem q922 : (Jvm.Cond.code ({ cls := "BladeAlgebra", name := "mapped", desc := "(LBladeAlgebra$Multi;I)LBladeAlgebra$Multi;" } : Jvm.MethodName) prog_1_method_34_code (8 : Nat) (Option.some (Jvm.ClassFile.FieldType.object "BladeAlgebra$Multi"))) ∈ lw_all := lw_g (lw_at lw_m4 107 rfl) rfl
theorem q923 : (Jvm.Cond.fieldLink "BladeAlgebra" (271 : Nat) "BladeAlgebra$Multi" "ZERO" "LBladeAlgebra$Multi;") ∈ lw_all := lw_g (lw_at lw_m4 108 rfl) rfl
theorem q924 : (Jvm.Cond.methodLink "BladeAlgebra" (275 : Nat) ({ cls := "BladeAlgebra$Multi", name := "iterator", desc := "()Ljava/util/Iterator;" } : Jvm.MethodName)) ∈ lw_all := lw_g (lw_at lw_m4 109 rfl) rfl
theorem q945 : (Jvm.Cond.interfaceEntry "BladeAlgebra" (279 : Nat)) ∈ lw_tbl := lw_at lw_m4 130 rfl
theorem q946 : (Jvm.Cond.methodLink "BladeAlgebra" (279 : Nat) ({ cls := "java/util/Iterator", name := "hasNext", desc := "()Z" } : Jvm.MethodName)) ∈ lw_all := lw_g (lw_at lw_m4 131 rfl) rfl
theorem q961 : (Jvm.Cond.interfaceEntry "BladeAlgebra" (284 : Nat)) ∈ lw_tbl := lw_at lw_m4 146 rfl
theorem q962 : (Jvm.Cond.methodLink "BladeAlgebra" (284 : Nat) ({ cls := "java/util/Iterator", name := "next", desc := "()Ljava/lang/Object;" } : Jvm.MethodName)) ∈ lw_all := lw_g (lw_at lw_m4 147 rfl) rfl
theorem q1007 : (Jvm.Cond.fieldLink "BladeAlgebra" (290 : Nat) "BladeAlgebra$Product" "OUTER" "LBladeAlgebra$Product;") ∈ lw_all := lw_g (lw_at lw_m4 192 rfl) rfl
theorem q1008 : (Jvm.Cond.methodLink "BladeAlgebra" (293 : Nat) ({ cls := "BladeAlgebra$Multi", name := "plus", desc := "(LBladeAlgebra$Multi;I)LBladeAlgebra$Multi;" } : Jvm.MethodName)) ∈ lw_all := lw_g (lw_at lw_m4 193 rfl) rfl
theorem q1013 : (Jvm.Cond.instanceMethod ({ cls := "BladeAlgebra", name := "determinant", desc := "(II)I" } : Jvm.MethodName)) ∈ lw_all := lw_g (lw_at lw_m4 198 rfl) rfl
theorem q1014 : (Jvm.Cond.selects "BladeAlgebra" ({ cls := "BladeAlgebra", name := "determinant", desc := "(II)I" } : Jvm.MethodName) ({ cls := "BladeAlgebra", name := "determinant", desc := "(II)I" } : Jvm.MethodName)) ∈ lw_all := lw_g (lw_at lw_m4 199 rfl) rfl
theorem q1015 : (Jvm.Cond.codeWith ({ cls := "BladeAlgebra", name := "determinant", desc := "(II)I" } : Jvm.MethodName) prog_1_method_36_code (4 : Nat) (Option.some Jvm.ClassFile.FieldType.int) [((15 : Nat), (64 : Nat), (65 : Nat), (179 : Nat))]) ∈ lw_all := lw_g (lw_at lw_m4 200 rfl) rfl
theorem q1021 : (Jvm.Cond.instanceMethod ({ cls := "BladeAlgebra", name := "apply", desc := "(III)I" } : Jvm.MethodName)) ∈ lw_all := lw_g (lw_at lw_m4 206 rfl) rfl
theorem q1022 : (Jvm.Cond.selects "BladeAlgebra" ({ cls := "BladeAlgebra", name := "apply", desc := "(III)I" } : Jvm.MethodName) ({ cls := "BladeAlgebra", name := "apply", desc := "(III)I" } : Jvm.MethodName)) ∈ lw_all := lw_g (lw_at lw_m4 207 rfl) rfl
theorem q1023 : (Jvm.Cond.codeWith ({ cls := "BladeAlgebra", name := "apply", desc := "(III)I" } : Jvm.MethodName) prog_1_method_39_code (6 : Nat) (Option.some Jvm.ClassFile.FieldType.int) [((37 : Nat), (89 : Nat), (90 : Nat), (179 : Nat))]) ∈ lw_all := lw_g (lw_at lw_m4 208 rfl) rfl
theorem q1024 : (Jvm.Cond.methodLink "BladeAlgebra" (310 : Nat) ({ cls := "BladeAlgebra", name := "isPure", desc := "(LBladeAlgebra$Multi;)Z" } : Jvm.MethodName)) ∈ lw_all := lw_g (lw_at lw_m4 209 rfl) rfl
theorem q1025 : (Jvm.Cond.static ({ cls := "BladeAlgebra", name := "isPure", desc := "(LBladeAlgebra$Multi;)Z" } : Jvm.MethodName)) ∈ lw_all := lw_g (lw_at lw_m4 210 rfl) rfl
theorem q1026 : (Jvm.Cond.code ({ cls := "BladeAlgebra", name := "isPure", desc := "(LBladeAlgebra$Multi;)Z" } : Jvm.MethodName) prog_1_method_37_code (1 : Nat) (Option.some Jvm.ClassFile.FieldType.boolean)) ∈ lw_all := lw_g (lw_at lw_m4 211 rfl) rfl
theorem q1027 : (Jvm.Cond.methodLink "BladeAlgebra" (303 : Nat) ({ cls := "BladeAlgebra$Multi", name := "grades", desc := "()I" } : Jvm.MethodName)) ∈ lw_all := lw_g (lw_at lw_m4 212 rfl) rfl
theorem q1028 : (Jvm.Cond.methodLink "BladeAlgebra" (306 : Nat) ({ cls := "BladeAlgebra", name := "reverse", desc := "(LBladeAlgebra$Multi;)LBladeAlgebra$Multi;" } : Jvm.MethodName)) ∈ lw_all := lw_g (lw_at lw_m4 213 rfl) rfl
theorem q1029 : (Jvm.Cond.methodLink "BladeAlgebra" (313 : Nat) ({ cls := "BladeAlgebra$Multi", name := "isOtherScalar", desc := "()Z" } : Jvm.MethodName)) ∈ lw_all := lw_g (lw_at lw_m4 214 rfl) rfl
theorem q1030 : (Jvm.Cond.methodLink "BladeAlgebra" (316 : Nat) ({ cls := "BladeAlgebra", name := "supported", desc := "(Z)V" } : Jvm.MethodName)) ∈ lw_all := lw_g (lw_at lw_m4 215 rfl) rfl
theorem q1031 : (Jvm.Cond.static ({ cls := "BladeAlgebra", name := "supported", desc := "(Z)V" } : Jvm.MethodName)) ∈ lw_all := lw_g (lw_at lw_m4 216 rfl) rfl
theorem q1032 : (Jvm.Cond.code ({ cls := "BladeAlgebra", name := "supported", desc := "(Z)V" } : Jvm.MethodName) prog_1_method_5_code (1 : Nat) (Option.none : Option Jvm.ClassFile.FieldType)) ∈ lw_all := lw_g (lw_at lw_m4 217 rfl) rfl
theorem q1033 : (Jvm.Cond.classLink "BladeAlgebra" (21 : Nat) "java/lang/UnsupportedOperationException") ∈ lw_all := lw_g (lw_at lw_m4 218 rfl) rfl
theorem q1042 : (Jvm.Cond.stringRef "BladeAlgebra" (23 : Nat) "not of that kind") ∈ lw_tbl := lw_at lw_m4 227 rfl
theorem q1043 : (Jvm.Cond.methodLink "BladeAlgebra" (25 : Nat) ({ cls := "java/lang/UnsupportedOperationException", name := "<init>", desc := "(Ljava/lang/String;)V" } : Jvm.MethodName)) ∈ lw_all := lw_g (lw_at lw_m4 228 rfl) rfl
theorem q1049 : (Jvm.Cond.methodLink "BladeAlgebra" (319 : Nat) ({ cls := "BladeAlgebra", name := "sandwich", desc := "(LBladeAlgebra$Multi;LBladeAlgebra$Multi;)LBladeAlgebra$Multi;" } : Jvm.MethodName)) ∈ lw_all := lw_g (lw_at lw_m4 234 rfl) rfl
theorem q1050 : (Jvm.Cond.privateMethod ({ cls := "BladeAlgebra", name := "sandwich", desc := "(LBladeAlgebra$Multi;LBladeAlgebra$Multi;)LBladeAlgebra$Multi;" } : Jvm.MethodName)) ∈ lw_tbl := lw_at lw_m4 235 rfl
theorem q1051 : (Jvm.Cond.instanceMethod ({ cls := "BladeAlgebra", name := "sandwich", desc := "(LBladeAlgebra$Multi;LBladeAlgebra$Multi;)LBladeAlgebra$Multi;" } : Jvm.MethodName)) ∈ lw_all := lw_g (lw_at lw_m4 236 rfl) rfl
theorem q1052 : (Jvm.Cond.code ({ cls := "BladeAlgebra", name := "sandwich", desc := "(LBladeAlgebra$Multi;LBladeAlgebra$Multi;)LBladeAlgebra$Multi;" } : Jvm.MethodName) prog_1_method_38_code (4 : Nat) (Option.some (Jvm.ClassFile.FieldType.object "BladeAlgebra$Multi"))) ∈ lw_all := lw_g (lw_at lw_m4 237 rfl) rfl
theorem q1053 : (Jvm.Cond.methodLink "BladeAlgebra" (322 : Nat) ({ cls := "BladeAlgebra", name := "by", desc := "(LBladeAlgebra$Multi;LBladeAlgebra$Multi;)LBladeAlgebra$Multi;" } : Jvm.MethodName)) ∈ lw_all := lw_g (lw_at lw_m4 238 rfl) rfl
theorem q1058 : (Jvm.Cond.instanceMethod ({ cls := "BladeAlgebra", name := "rotor", desc := "(III)I" } : Jvm.MethodName)) ∈ lw_all := lw_g (lw_at lw_m5 3 rfl) rfl
theorem q1059 : (Jvm.Cond.selects "BladeAlgebra" ({ cls := "BladeAlgebra", name := "rotor", desc := "(III)I" } : Jvm.MethodName) ({ cls := "BladeAlgebra", name := "rotor", desc := "(III)I" } : Jvm.MethodName)) ∈ lw_all := lw_g (lw_at lw_m5 4 rfl) rfl
theorem q1060 : (Jvm.Cond.codeWith ({ cls := "BladeAlgebra", name := "rotor", desc := "(III)I" } : Jvm.MethodName) prog_1_method_40_code (9 : Nat) (Option.some Jvm.ClassFile.FieldType.int) [((64 : Nat), (182 : Nat), (183 : Nat), (179 : Nat))]) ∈ lw_all := lw_g (lw_at lw_m5 5 rfl) rfl
theorem q1061 : (Jvm.Cond.methodLink "BladeAlgebra" (325 : Nat) ({ cls := "BladeAlgebra$Multi", name := "isLike", desc := "(LBladeAlgebra$Multi;)Z" } : Jvm.MethodName)) ∈ lw_all := lw_g (lw_at lw_m5 6 rfl) rfl
theorem q1069 : (Jvm.Cond.instanceMethod ({ cls := "BladeAlgebra", name := "grades", desc := "(I)I" } : Jvm.MethodName)) ∈ lw_all := lw_g (lw_at lw_m5 14 rfl) rfl
theorem q1070 : (Jvm.Cond.selects "BladeAlgebra" ({ cls := "BladeAlgebra", name := "grades", desc := "(I)I" } : Jvm.MethodName) ({ cls := "BladeAlgebra", name := "grades", desc := "(I)I" } : Jvm.MethodName)) ∈ lw_all := lw_g (lw_at lw_m5 15 rfl) rfl
theorem q1071 : (Jvm.Cond.code ({ cls := "BladeAlgebra", name := "grades", desc := "(I)I" } : Jvm.MethodName) prog_1_method_41_code (2 : Nat) (Option.some Jvm.ClassFile.FieldType.int)) ∈ lw_all := lw_g (lw_at lw_m5 16 rfl) rfl
theorem q1076 : (Jvm.Cond.instanceMethod ({ cls := "BladeAlgebra", name := "areEqual", desc := "(II)Z" } : Jvm.MethodName)) ∈ lw_all := lw_g (lw_at lw_m5 21 rfl) rfl
theorem q1077 : (Jvm.Cond.selects "BladeAlgebra" ({ cls := "BladeAlgebra", name := "areEqual", desc := "(II)Z" } : Jvm.MethodName) ({ cls := "BladeAlgebra", name := "areEqual", desc := "(II)Z" } : Jvm.MethodName)) ∈ lw_all := lw_g (lw_at lw_m5 22 rfl) rfl
theorem q1078 : (Jvm.Cond.code ({ cls := "BladeAlgebra", name := "areEqual", desc := "(II)Z" } : Jvm.MethodName) prog_1_method_42_code (3 : Nat) (Option.some Jvm.ClassFile.FieldType.boolean)) ∈ lw_all := lw_g (lw_at lw_m5 23 rfl) rfl
theorem q1083 : (Jvm.Cond.instanceMethod ({ cls := "BladeAlgebra", name := "isBlade", desc := "(I)Z" } : Jvm.MethodName)) ∈ lw_all := lw_g (lw_at lw_m5 28 rfl) rfl
theorem q1084 : (Jvm.Cond.selects "BladeAlgebra" ({ cls := "BladeAlgebra", name := "isBlade", desc := "(I)Z" } : Jvm.MethodName) ({ cls := "BladeAlgebra", name := "isBlade", desc := "(I)Z" } : Jvm.MethodName)) ∈ lw_all := lw_g (lw_at lw_m5 29 rfl) rfl
theorem q1085 : (Jvm.Cond.code ({ cls := "BladeAlgebra", name := "isBlade", desc := "(I)Z" } : Jvm.MethodName) prog_1_method_43_code (2 : Nat) (Option.some Jvm.ClassFile.FieldType.boolean)) ∈ lw_all := lw_g (lw_at lw_m5 30 rfl) rfl
theorem q1090 : (Jvm.Cond.instanceMethod ({ cls := "BladeAlgebra", name := "isVersor", desc := "(I)Z" } : Jvm.MethodName)) ∈ lw_all := lw_g (lw_at lw_m5 35 rfl) rfl
theorem q1091 : (Jvm.Cond.selects "BladeAlgebra" ({ cls := "BladeAlgebra", name := "isVersor", desc := "(I)Z" } : Jvm.MethodName) ({ cls := "BladeAlgebra", name := "isVersor", desc := "(I)Z" } : Jvm.MethodName)) ∈ lw_all := lw_g (lw_at lw_m5 36 rfl) rfl
theorem q1092 : (Jvm.Cond.codeWith ({ cls := "BladeAlgebra", name := "isVersor", desc := "(I)Z" } : Jvm.MethodName) prog_1_method_44_code (5 : Nat) (Option.some Jvm.ClassFile.FieldType.boolean) [((29 : Nat), (51 : Nat), (102 : Nat), (179 : Nat)), ((52 : Nat), (101 : Nat), (102 : Nat), (179 : Nat))]) ∈ lw_all := lw_g (lw_at lw_m5 37 rfl) rfl
theorem q1097 : (Jvm.Cond.instanceMethod ({ cls := "BladeAlgebra", name := "commute", desc := "(II)Z" } : Jvm.MethodName)) ∈ lw_all := lw_g (lw_at lw_m5 42 rfl) rfl
theorem q1098 : (Jvm.Cond.selects "BladeAlgebra" ({ cls := "BladeAlgebra", name := "commute", desc := "(II)Z" } : Jvm.MethodName) ({ cls := "BladeAlgebra", name := "commute", desc := "(II)Z" } : Jvm.MethodName)) ∈ lw_all := lw_g (lw_at lw_m5 43 rfl) rfl
theorem q1099 : (Jvm.Cond.codeWith ({ cls := "BladeAlgebra", name := "commute", desc := "(II)Z" } : Jvm.MethodName) prog_1_method_45_code (6 : Nat) (Option.some Jvm.ClassFile.FieldType.boolean) [((35 : Nat), (64 : Nat), (65 : Nat), (179 : Nat))]) ∈ lw_all := lw_g (lw_at lw_m5 44 rfl) rfl
theorem q1104 : (Jvm.Cond.instanceMethod ({ cls := "BladeAlgebra", name := "squareKind", desc := "(I)I" } : Jvm.MethodName)) ∈ lw_all := lw_g (lw_at lw_m5 49 rfl) rfl
theorem q1105 : (Jvm.Cond.selects "BladeAlgebra" ({ cls := "BladeAlgebra", name := "squareKind", desc := "(I)I" } : Jvm.MethodName) ({ cls := "BladeAlgebra", name := "squareKind", desc := "(I)I" } : Jvm.MethodName)) ∈ lw_all := lw_g (lw_at lw_m5 50 rfl) rfl
theorem q1106 : (Jvm.Cond.codeWith ({ cls := "BladeAlgebra", name := "squareKind", desc := "(I)I" } : Jvm.MethodName) prog_1_method_46_code (3 : Nat) (Option.some Jvm.ClassFile.FieldType.int) [((10 : Nat), (47 : Nat), (80 : Nat), (179 : Nat)), ((48 : Nat), (79 : Nat), (80 : Nat), (179 : Nat))]) ∈ lw_all := lw_g (lw_at lw_m5 51 rfl) rfl
theorem q1107 : (Jvm.Cond.methodLink "BladeAlgebra" (328 : Nat) ({ cls := "BladeAlgebra$Multi", name := "isScalar", desc := "()Z" } : Jvm.MethodName)) ∈ lw_all := lw_g (lw_at lw_m5 52 rfl) rfl
theorem q1115 : (Jvm.Cond.instanceMethod ({ cls := "BladeAlgebra", name := "vectorsIn", desc := "(I)I" } : Jvm.MethodName)) ∈ lw_all := lw_g (lw_at lw_m5 60 rfl) rfl
theorem q1116 : (Jvm.Cond.selects "BladeAlgebra" ({ cls := "BladeAlgebra", name := "vectorsIn", desc := "(I)I" } : Jvm.MethodName) ({ cls := "BladeAlgebra", name := "vectorsIn", desc := "(I)I" } : Jvm.MethodName)) ∈ lw_all := lw_g (lw_at lw_m5 61 rfl) rfl
theorem q1117 : (Jvm.Cond.code ({ cls := "BladeAlgebra", name := "vectorsIn", desc := "(I)I" } : Jvm.MethodName) prog_1_method_47_code (2 : Nat) (Option.some Jvm.ClassFile.FieldType.int)) ∈ lw_all := lw_g (lw_at lw_m5 62 rfl) rfl
theorem q1118 : (Jvm.Cond.methodLink "BladeAlgebra" (331 : Nat) ({ cls := "BladeAlgebra$Algebra", name := "vectorsIn", desc := "(LBladeAlgebra$Multi;)I" } : Jvm.MethodName)) ∈ lw_all := lw_g (lw_at lw_m5 63 rfl) rfl
theorem q1126 : (Jvm.Cond.instanceMethod ({ cls := "BladeAlgebra", name := "point", desc := "(IIIII)I" } : Jvm.MethodName)) ∈ lw_all := lw_g (lw_at lw_m5 71 rfl) rfl
theorem q1127 : (Jvm.Cond.selects "BladeAlgebra" ({ cls := "BladeAlgebra", name := "point", desc := "(IIIII)I" } : Jvm.MethodName) ({ cls := "BladeAlgebra", name := "point", desc := "(IIIII)I" } : Jvm.MethodName)) ∈ lw_all := lw_g (lw_at lw_m5 72 rfl) rfl
theorem q1128 : (Jvm.Cond.codeWith ({ cls := "BladeAlgebra", name := "point", desc := "(IIIII)I" } : Jvm.MethodName) prog_1_method_50_code (13 : Nat) (Option.some Jvm.ClassFile.FieldType.int) [((238 : Nat), (253 : Nat), (254 : Nat), (179 : Nat))]) ∈ lw_all := lw_g (lw_at lw_m5 73 rfl) rfl
theorem q1129 : (Jvm.Cond.constantLong "BladeAlgebra" (338 : Nat) (-1000 : Int64)) ∈ lw_all := lw_g (lw_at lw_m5 74 rfl) rfl
theorem q1130 : (Jvm.Cond.constantLong "BladeAlgebra" (340 : Nat) (1000 : Int64)) ∈ lw_all := lw_g (lw_at lw_m5 75 rfl) rfl
theorem q1131 : (Jvm.Cond.constantLong "BladeAlgebra" (342 : Nat) (100 : Int64)) ∈ lw_all := lw_g (lw_at lw_m5 76 rfl) rfl
theorem q1132 : (Jvm.Cond.methodLink "BladeAlgebra" (344 : Nat) ({ cls := "BladeAlgebra", name := "isConformal", desc := "()Z" } : Jvm.MethodName)) ∈ lw_all := lw_g (lw_at lw_m5 77 rfl) rfl
theorem q1133 : (Jvm.Cond.privateMethod ({ cls := "BladeAlgebra", name := "isConformal", desc := "()Z" } : Jvm.MethodName)) ∈ lw_tbl := lw_at lw_m5 78 rfl
theorem q1134 : (Jvm.Cond.instanceMethod ({ cls := "BladeAlgebra", name := "isConformal", desc := "()Z" } : Jvm.MethodName)) ∈ lw_all := lw_g (lw_at lw_m5 79 rfl) rfl
theorem q1135 : (Jvm.Cond.code ({ cls := "BladeAlgebra", name := "isConformal", desc := "()Z" } : Jvm.MethodName) prog_1_method_48_code (1 : Nat) (Option.some Jvm.ClassFile.FieldType.boolean)) ∈ lw_all := lw_g (lw_at lw_m5 80 rfl) rfl
theorem q1136 : (Jvm.Cond.constantLong "BladeAlgebra" (334 : Nat) (2 : Int64)) ∈ lw_all := lw_g (lw_at lw_m5 81 rfl) rfl
theorem q1137 : (Jvm.Cond.constantLong "BladeAlgebra" (336 : Nat) (4 : Int64)) ∈ lw_all := lw_g (lw_at lw_m5 82 rfl) rfl
theorem q1138 : (Jvm.Cond.methodLink "BladeAlgebra" (347 : Nat) ({ cls := "BladeAlgebra", name := "dimensions", desc := "()I" } : Jvm.MethodName)) ∈ lw_all := lw_g (lw_at lw_m5 83 rfl) rfl
theorem q1139 : (Jvm.Cond.privateMethod ({ cls := "BladeAlgebra", name := "dimensions", desc := "()I" } : Jvm.MethodName)) ∈ lw_tbl := lw_at lw_m5 84 rfl
theorem q1140 : (Jvm.Cond.instanceMethod ({ cls := "BladeAlgebra", name := "dimensions", desc := "()I" } : Jvm.MethodName)) ∈ lw_all := lw_g (lw_at lw_m5 85 rfl) rfl
theorem q1141 : (Jvm.Cond.code ({ cls := "BladeAlgebra", name := "dimensions", desc := "()I" } : Jvm.MethodName) prog_1_method_49_code (1 : Nat) (Option.some Jvm.ClassFile.FieldType.int)) ∈ lw_all := lw_g (lw_at lw_m5 86 rfl) rfl
theorem q1146 : (Jvm.Cond.instanceMethod ({ cls := "BladeAlgebra", name := "center", desc := "(II)I" } : Jvm.MethodName)) ∈ lw_all := lw_g (lw_at lw_m5 91 rfl) rfl
theorem q1147 : (Jvm.Cond.selects "BladeAlgebra" ({ cls := "BladeAlgebra", name := "center", desc := "(II)I" } : Jvm.MethodName) ({ cls := "BladeAlgebra", name := "center", desc := "(II)I" } : Jvm.MethodName)) ∈ lw_all := lw_g (lw_at lw_m5 92 rfl) rfl
theorem q1148 : (Jvm.Cond.codeWith ({ cls := "BladeAlgebra", name := "center", desc := "(II)I" } : Jvm.MethodName) prog_1_method_52_code (8 : Nat) (Option.some Jvm.ClassFile.FieldType.int) [((68 : Nat), (80 : Nat), (81 : Nat), (179 : Nat))]) ∈ lw_all := lw_g (lw_at lw_m5 93 rfl) rfl
theorem q1149 : (Jvm.Cond.methodLink "BladeAlgebra" (350 : Nat) ({ cls := "BladeAlgebra", name := "weight", desc := "(LBladeAlgebra$Multi;)J" } : Jvm.MethodName)) ∈ lw_all := lw_g (lw_at lw_m5 94 rfl) rfl
theorem q1150 : (Jvm.Cond.privateMethod ({ cls := "BladeAlgebra", name := "weight", desc := "(LBladeAlgebra$Multi;)J" } : Jvm.MethodName)) ∈ lw_tbl := lw_at lw_m5 95 rfl
theorem q1151 : (Jvm.Cond.instanceMethod ({ cls := "BladeAlgebra", name := "weight", desc := "(LBladeAlgebra$Multi;)J" } : Jvm.MethodName)) ∈ lw_all := lw_g (lw_at lw_m5 96 rfl) rfl
theorem q1152 : (Jvm.Cond.code ({ cls := "BladeAlgebra", name := "weight", desc := "(LBladeAlgebra$Multi;)J" } : Jvm.MethodName) prog_1_method_51_code (5 : Nat) (Option.some Jvm.ClassFile.FieldType.long)) ∈ lw_all := lw_g (lw_at lw_m5 97 rfl) rfl
theorem q1157 : (Jvm.Cond.instanceMethod ({ cls := "BladeAlgebra", name := "radiusSquare", desc := "(II)I" } : Jvm.MethodName)) ∈ lw_all := lw_g (lw_at lw_m5 102 rfl) rfl
theorem q1158 : (Jvm.Cond.selects "BladeAlgebra" ({ cls := "BladeAlgebra", name := "radiusSquare", desc := "(II)I" } : Jvm.MethodName) ({ cls := "BladeAlgebra", name := "radiusSquare", desc := "(II)I" } : Jvm.MethodName)) ∈ lw_all := lw_g (lw_at lw_m5 103 rfl) rfl
theorem q1159 : (Jvm.Cond.codeWith ({ cls := "BladeAlgebra", name := "radiusSquare", desc := "(II)I" } : Jvm.MethodName) prog_1_method_53_code (9 : Nat) (Option.some Jvm.ClassFile.FieldType.int) [((31 : Nat), (89 : Nat), (90 : Nat), (179 : Nat))]) ∈ lw_all := lw_g (lw_at lw_m5 104 rfl) rfl
theorem q1160 : (Jvm.Cond.fieldLink "BladeAlgebra" (354 : Nat) "BladeAlgebra$Product" "SCALAR" "LBladeAlgebra$Product;") ∈ lw_all := lw_g (lw_at lw_m5 105 rfl) rfl
theorem q1165 : (Jvm.Cond.instanceMethod ({ cls := "BladeAlgebra", name := "appendText", desc := "(I)I" } : Jvm.MethodName)) ∈ lw_all := lw_g (lw_at lw_m5 110 rfl) rfl
theorem q1166 : (Jvm.Cond.selects "BladeAlgebra" ({ cls := "BladeAlgebra", name := "appendText", desc := "(I)I" } : Jvm.MethodName) ({ cls := "BladeAlgebra", name := "appendText", desc := "(I)I" } : Jvm.MethodName)) ∈ lw_all := lw_g (lw_at lw_m5 111 rfl) rfl
theorem q1167 : (Jvm.Cond.code ({ cls := "BladeAlgebra", name := "appendText", desc := "(I)I" } : Jvm.MethodName) prog_1_method_56_code (3 : Nat) (Option.some Jvm.ClassFile.FieldType.int)) ∈ lw_all := lw_g (lw_at lw_m5 112 rfl) rfl
theorem q1172 : (Jvm.Cond.instanceMethod ({ cls := "BladeAlgebra", name := "truncateText", desc := "(I)I" } : Jvm.MethodName)) ∈ lw_all := lw_g (lw_at lw_m5 117 rfl) rfl
theorem q1173 : (Jvm.Cond.selects "BladeAlgebra" ({ cls := "BladeAlgebra", name := "truncateText", desc := "(I)I" } : Jvm.MethodName) ({ cls := "BladeAlgebra", name := "truncateText", desc := "(I)I" } : Jvm.MethodName)) ∈ lw_all := lw_g (lw_at lw_m5 118 rfl) rfl
theorem q1174 : (Jvm.Cond.code ({ cls := "BladeAlgebra", name := "truncateText", desc := "(I)I" } : Jvm.MethodName) prog_1_method_57_code (2 : Nat) (Option.some Jvm.ClassFile.FieldType.int)) ∈ lw_all := lw_g (lw_at lw_m5 119 rfl) rfl
theorem q1179 : (Jvm.Cond.instanceMethod ({ cls := "BladeAlgebra", name := "evaluate", desc := "(I)I" } : Jvm.MethodName)) ∈ lw_all := lw_g (lw_at lw_m5 124 rfl) rfl
theorem q1180 : (Jvm.Cond.selects "BladeAlgebra" ({ cls := "BladeAlgebra", name := "evaluate", desc := "(I)I" } : Jvm.MethodName) ({ cls := "BladeAlgebra", name := "evaluate", desc := "(I)I" } : Jvm.MethodName)) ∈ lw_all := lw_g (lw_at lw_m5 125 rfl) rfl
theorem q1181 : (Jvm.Cond.codeWith ({ cls := "BladeAlgebra", name := "evaluate", desc := "(I)I" } : Jvm.MethodName) prog_1_method_58_code (5 : Nat) (Option.some Jvm.ClassFile.FieldType.int) [((20 : Nat), (41 : Nat), (48 : Nat), (400 : Nat)), ((20 : Nat), (41 : Nat), (74 : Nat), (0 : Nat)), ((48 : Nat), (67 : Nat), (74 : Nat), (0 : Nat)), ((74 : Nat), (76 : Nat), (74 : Nat), (0 : Nat))]) ∈ lw_all := lw_g (lw_at lw_m5 126 rfl) rfl
theorem q1182 : (Jvm.Cond.classLink "BladeAlgebra" (400 : Nat) "BladeAlgebra$Flaw") ∈ lw_all := lw_g (lw_at lw_m5 127 rfl) rfl
theorem q1183 : (Jvm.Cond.classLink "BladeAlgebra" (419 : Nat) "BladeAlgebra$Reader") ∈ lw_all := lw_g (lw_at lw_m5 128 rfl) rfl
theorem q1185 : (Jvm.Cond.methodLink "BladeAlgebra" (421 : Nat) ({ cls := "BladeAlgebra$Reader", name := "<init>", desc := "(LBladeAlgebra;)V" } : Jvm.MethodName)) ∈ lw_all := lw_g (lw_at lw_m5 130 rfl) rfl
theorem q1302 : (Jvm.Cond.methodLink "BladeAlgebra" (424 : Nat) ({ cls := "BladeAlgebra$Reader", name := "all", desc := "()LBladeAlgebra$Node;" } : Jvm.MethodName)) ∈ lw_all := lw_g (lw_at lw_m6 7 rfl) rfl
theorem q1356 : (Jvm.Cond.fieldLinkNest "BladeAlgebra" (431 : Nat) "BladeAlgebra$Flaw" "place" "I" "BladeAlgebra") ∈ lw_tbl := lw_at lw_m6 61 rfl
theorem q1391 : (Jvm.Cond.fieldLinkNest "BladeAlgebra" (359 : Nat) "BladeAlgebra$Value" "its" "LBladeAlgebra$Multi;" "BladeAlgebra") ∈ lw_tbl := lw_at lw_m6 96 rfl
theorem q1610 : (Jvm.Cond.fieldLinkNest "BladeAlgebra" (364 : Nat) "BladeAlgebra$Changed" "of" "LBladeAlgebra$Node;" "BladeAlgebra") ∈ lw_tbl := lw_at lw_m7 75 rfl
theorem q1612 : (Jvm.Cond.fieldLinkNest "BladeAlgebra" (371 : Nat) "BladeAlgebra$Changed" "operators" "Ljava/util/ArrayList;" "BladeAlgebra") ∈ lw_tbl := lw_at lw_m7 77 rfl
theorem q1651 : (Jvm.Cond.selects "BladeAlgebra" ({ cls := "java/lang/Object", name := "getClass", desc := "()Ljava/lang/Class;" } : Jvm.MethodName) ({ cls := "java/lang/Object", name := "getClass", desc := "()Ljava/lang/Class;" } : Jvm.MethodName)) ∈ lw_all := lw_g (lw_at lw_m7 116 rfl) rfl
theorem q1715 : (Jvm.Cond.fieldLinkNest "BladeAlgebra" (384 : Nat) "BladeAlgebra$Chain" "first" "LBladeAlgebra$Node;" "BladeAlgebra") ∈ lw_tbl := lw_at lw_m7 180 rfl
theorem q1717 : (Jvm.Cond.fieldLinkNest "BladeAlgebra" (399 : Nat) "BladeAlgebra$Chain" "operators" "Ljava/util/ArrayList;" "BladeAlgebra") ∈ lw_tbl := lw_at lw_m7 182 rfl
theorem q1719 : (Jvm.Cond.fieldLinkNest "BladeAlgebra" (387 : Nat) "BladeAlgebra$Chain" "others" "Ljava/util/ArrayList;" "BladeAlgebra") ∈ lw_tbl := lw_at lw_m7 184 rfl
theorem q1721 : (Jvm.Cond.fieldLinkNest "BladeAlgebra" (402 : Nat) "BladeAlgebra$Chain" "places" "Ljava/util/ArrayList;" "BladeAlgebra") ∈ lw_tbl := lw_at lw_m7 186 rfl
theorem q1768 : (Jvm.Cond.methodLink "BladeAlgebra" (367 : Nat) ({ cls := "BladeAlgebra", name := "valueOf", desc := "(LBladeAlgebra$Node;)LBladeAlgebra$Multi;" } : Jvm.MethodName)) ∈ lw_all := lw_g (lw_at lw_m7 233 rfl) rfl
theorem q1769 : (Jvm.Cond.privateMethod ({ cls := "BladeAlgebra", name := "valueOf", desc := "(LBladeAlgebra$Node;)LBladeAlgebra$Multi;" } : Jvm.MethodName)) ∈ lw_tbl := lw_at lw_m7 234 rfl
theorem q1770 : (Jvm.Cond.instanceMethod ({ cls := "BladeAlgebra", name := "valueOf", desc := "(LBladeAlgebra$Node;)LBladeAlgebra$Multi;" } : Jvm.MethodName)) ∈ lw_all := lw_g (lw_at lw_m7 235 rfl) rfl
theorem q1771 : (Jvm.Cond.codeWith ({ cls := "BladeAlgebra", name := "valueOf", desc := "(LBladeAlgebra$Node;)LBladeAlgebra$Multi;" } : Jvm.MethodName) prog_1_method_54_code (7 : Nat) (Option.some (Jvm.ClassFile.FieldType.object "BladeAlgebra$Multi")) [((129 : Nat), (155 : Nat), (158 : Nat), (179 : Nat))]) ∈ lw_all := lw_g (lw_at lw_m7 236 rfl) rfl
theorem q1772 : (Jvm.Cond.classLink "BladeAlgebra" (357 : Nat) "BladeAlgebra$Value") ∈ lw_all := lw_g (lw_at lw_m7 237 rfl) rfl
theorem q1773 : (Jvm.Cond.classLink "BladeAlgebra" (362 : Nat) "BladeAlgebra$Changed") ∈ lw_all := lw_g (lw_at lw_m7 238 rfl) rfl
theorem q1774 : (Jvm.Cond.methodLink "BladeAlgebra" (375 : Nat) ({ cls := "java/util/ArrayList", name := "iterator", desc := "()Ljava/util/Iterator;" } : Jvm.MethodName)) ∈ lw_all := lw_g (lw_at lw_m7 239 rfl) rfl
theorem q1797 : (Jvm.Cond.classLink "BladeAlgebra" (66 : Nat) "BladeAlgebra$One") ∈ lw_all := lw_g (lw_at lw_m8 22 rfl) rfl
theorem q1798 : (Jvm.Cond.methodLink "BladeAlgebra" (378 : Nat) ({ cls := "BladeAlgebra", name := "changed", desc := "(LBladeAlgebra$One;LBladeAlgebra$Multi;)LBladeAlgebra$Multi;" } : Jvm.MethodName)) ∈ lw_all := lw_g (lw_at lw_m8 23 rfl) rfl
theorem q1799 : (Jvm.Cond.privateMethod ({ cls := "BladeAlgebra", name := "changed", desc := "(LBladeAlgebra$One;LBladeAlgebra$Multi;)LBladeAlgebra$Multi;" } : Jvm.MethodName)) ∈ lw_tbl := lw_at lw_m8 24 rfl
theorem q1800 : (Jvm.Cond.instanceMethod ({ cls := "BladeAlgebra", name := "changed", desc := "(LBladeAlgebra$One;LBladeAlgebra$Multi;)LBladeAlgebra$Multi;" } : Jvm.MethodName)) ∈ lw_all := lw_g (lw_at lw_m8 25 rfl) rfl
theorem q1801 : (Jvm.Cond.codeWith ({ cls := "BladeAlgebra", name := "changed", desc := "(LBladeAlgebra$One;LBladeAlgebra$Multi;)LBladeAlgebra$Multi;" } : Jvm.MethodName) prog_1_method_55_code (4 : Nat) (Option.some (Jvm.ClassFile.FieldType.object "BladeAlgebra$Multi")) [((0 : Nat), (12 : Nat), (13 : Nat), (179 : Nat))]) ∈ lw_all := lw_g (lw_at lw_m8 26 rfl) rfl
theorem q1802 : (Jvm.Cond.methodLink "BladeAlgebra" (410 : Nat) ({ cls := "BladeAlgebra$Flaw", name := "<init>", desc := "(IILjava/lang/Throwable;)V" } : Jvm.MethodName)) ∈ lw_all := lw_g (lw_at lw_m8 27 rfl) rfl
theorem q1803 : (Jvm.Cond.classLink "BladeAlgebra" (382 : Nat) "BladeAlgebra$Chain") ∈ lw_all := lw_g (lw_at lw_m8 28 rfl) rfl
theorem q1804 : (Jvm.Cond.methodLink "BladeAlgebra" (390 : Nat) ({ cls := "java/util/ArrayList", name := "size", desc := "()I" } : Jvm.MethodName)) ∈ lw_all := lw_g (lw_at lw_m8 29 rfl) rfl
theorem q1808 : (Jvm.Cond.methodLink "BladeAlgebra" (393 : Nat) ({ cls := "java/util/ArrayList", name := "get", desc := "(I)Ljava/lang/Object;" } : Jvm.MethodName)) ∈ lw_all := lw_g (lw_at lw_m8 33 rfl) rfl
theorem q1822 : (Jvm.Cond.classLink "BladeAlgebra" (397 : Nat) "BladeAlgebra$Node") ∈ lw_all := lw_g (lw_at lw_m8 47 rfl) rfl
theorem q1823 : (Jvm.Cond.classLink "BladeAlgebra" (56 : Nat) "BladeAlgebra$Two") ∈ lw_all := lw_g (lw_at lw_m8 48 rfl) rfl
theorem q1824 : (Jvm.Cond.classLink "BladeAlgebra" (405 : Nat) "java/lang/Integer") ∈ lw_all := lw_g (lw_at lw_m8 49 rfl) rfl
theorem q1825 : (Jvm.Cond.methodLink "BladeAlgebra" (407 : Nat) ({ cls := "java/lang/Integer", name := "intValue", desc := "()I" } : Jvm.MethodName)) ∈ lw_all := lw_g (lw_at lw_m8 50 rfl) rfl
theorem q1829 : (Jvm.Cond.methodLink "BladeAlgebra" (428 : Nat) ({ cls := "BladeAlgebra$Flaw", name := "told", desc := "()I" } : Jvm.MethodName)) ∈ lw_all := lw_g (lw_at lw_m8 54 rfl) rfl
theorem q1844 : (Jvm.Cond.instanceMethod ({ cls := "BladeAlgebra", name := "write", desc := "(I)I" } : Jvm.MethodName)) ∈ lw_all := lw_g (lw_at lw_m8 69 rfl) rfl
theorem q1845 : (Jvm.Cond.selects "BladeAlgebra" ({ cls := "BladeAlgebra", name := "write", desc := "(I)I" } : Jvm.MethodName) ({ cls := "BladeAlgebra", name := "write", desc := "(I)I" } : Jvm.MethodName)) ∈ lw_all := lw_g (lw_at lw_m8 70 rfl) rfl
theorem q1846 : (Jvm.Cond.code ({ cls := "BladeAlgebra", name := "write", desc := "(I)I" } : Jvm.MethodName) prog_1_method_62_code (4 : Nat) (Option.some Jvm.ClassFile.FieldType.int)) ∈ lw_all := lw_g (lw_at lw_m8 71 rfl) rfl
theorem q1847 : (Jvm.Cond.methodLink "BladeAlgebra" (447 : Nat) ({ cls := "java/lang/StringBuilder", name := "setLength", desc := "(I)V" } : Jvm.MethodName)) ∈ lw_all := lw_g (lw_at lw_m8 72 rfl) rfl
theorem q1899 : (Jvm.Cond.methodLink "BladeAlgebra" (450 : Nat) ({ cls := "java/lang/StringBuilder", name := "length", desc := "()I" } : Jvm.MethodName)) ∈ lw_all := lw_g (lw_at lw_m8 124 rfl) rfl
theorem q1900 : (Jvm.Cond.methodLink "BladeAlgebra" (453 : Nat) ({ cls := "BladeAlgebra$Term", name := "isNegative", desc := "()Z" } : Jvm.MethodName)) ∈ lw_all := lw_g (lw_at lw_m8 125 rfl) rfl
theorem q1904 : (Jvm.Cond.stringRef "BladeAlgebra" (456 : Nat) " - ") ∈ lw_tbl := lw_at lw_m8 129 rfl
theorem q1905 : (Jvm.Cond.stringRef "BladeAlgebra" (458 : Nat) " + ") ∈ lw_tbl := lw_at lw_m8 130 rfl
theorem q1906 : (Jvm.Cond.methodLink "BladeAlgebra" (460 : Nat) ({ cls := "java/lang/StringBuilder", name := "append", desc := "(Ljava/lang/String;)Ljava/lang/StringBuilder;" } : Jvm.MethodName)) ∈ lw_all := lw_g (lw_at lw_m8 131 rfl) rfl
theorem q1907 : (Jvm.Cond.methodLink "BladeAlgebra" (441 : Nat) ({ cls := "java/lang/StringBuilder", name := "append", desc := "(C)Ljava/lang/StringBuilder;" } : Jvm.MethodName)) ∈ lw_all := lw_g (lw_at lw_m8 132 rfl) rfl
theorem q1927 : (Jvm.Cond.methodLink "BladeAlgebra" (463 : Nat) ({ cls := "BladeAlgebra", name := "writeTerm", desc := "(LBladeAlgebra$Term;)V" } : Jvm.MethodName)) ∈ lw_all := lw_g (lw_at lw_m8 152 rfl) rfl
theorem q1928 : (Jvm.Cond.privateMethod ({ cls := "BladeAlgebra", name := "writeTerm", desc := "(LBladeAlgebra$Term;)V" } : Jvm.MethodName)) ∈ lw_tbl := lw_at lw_m8 153 rfl
theorem q1929 : (Jvm.Cond.instanceMethod ({ cls := "BladeAlgebra", name := "writeTerm", desc := "(LBladeAlgebra$Term;)V" } : Jvm.MethodName)) ∈ lw_all := lw_g (lw_at lw_m8 154 rfl) rfl
theorem q1930 : (Jvm.Cond.code ({ cls := "BladeAlgebra", name := "writeTerm", desc := "(LBladeAlgebra$Term;)V" } : Jvm.MethodName) prog_1_method_61_code (3 : Nat) (Option.none : Option Jvm.ClassFile.FieldType)) ∈ lw_all := lw_g (lw_at lw_m8 155 rfl) rfl
theorem q1931 : (Jvm.Cond.methodLink "BladeAlgebra" (434 : Nat) ({ cls := "BladeAlgebra$Term", name := "isOne", desc := "()Z" } : Jvm.MethodName)) ∈ lw_all := lw_g (lw_at lw_m8 156 rfl) rfl
theorem q1936 : (Jvm.Cond.methodLink "BladeAlgebra" (437 : Nat) ({ cls := "java/lang/StringBuilder", name := "append", desc := "(J)Ljava/lang/StringBuilder;" } : Jvm.MethodName)) ∈ lw_all := lw_g (lw_at lw_m8 161 rfl) rfl
theorem q1963 : (Jvm.Cond.methodLink "BladeAlgebra" (444 : Nat) ({ cls := "java/lang/StringBuilder", name := "append", desc := "(I)Ljava/lang/StringBuilder;" } : Jvm.MethodName)) ∈ lw_all := lw_g (lw_at lw_m8 188 rfl) rfl
theorem q1968 : (Jvm.Cond.instanceMethod ({ cls := "BladeAlgebra", name := "outputByte", desc := "(I)I" } : Jvm.MethodName)) ∈ lw_all := lw_g (lw_at lw_m8 193 rfl) rfl
theorem q1969 : (Jvm.Cond.selects "BladeAlgebra" ({ cls := "BladeAlgebra", name := "outputByte", desc := "(I)I" } : Jvm.MethodName) ({ cls := "BladeAlgebra", name := "outputByte", desc := "(I)I" } : Jvm.MethodName)) ∈ lw_all := lw_g (lw_at lw_m8 194 rfl) rfl
theorem q1970 : (Jvm.Cond.code ({ cls := "BladeAlgebra", name := "outputByte", desc := "(I)I" } : Jvm.MethodName) prog_1_method_63_code (2 : Nat) (Option.some Jvm.ClassFile.FieldType.int)) ∈ lw_all := lw_g (lw_at lw_m8 195 rfl) rfl
theorem q1971 : (Jvm.Cond.methodLink "BladeAlgebra" (467 : Nat) ({ cls := "java/lang/StringBuilder", name := "charAt", desc := "(I)C" } : Jvm.MethodName)) ∈ lw_all := lw_g (lw_at lw_m8 196 rfl) rfl
theorem q1985 : (Jvm.Cond.instanceMethod ({ cls := "BladeAlgebra", name := "save", desc := "(I)V" } : Jvm.MethodName)) ∈ lw_all := lw_g (lw_at lw_m8 210 rfl) rfl
theorem q1986 : (Jvm.Cond.selects "BladeAlgebra" ({ cls := "BladeAlgebra", name := "save", desc := "(I)V" } : Jvm.MethodName) ({ cls := "BladeAlgebra", name := "save", desc := "(I)V" } : Jvm.MethodName)) ∈ lw_all := lw_g (lw_at lw_m8 211 rfl) rfl
theorem q1987 : (Jvm.Cond.code ({ cls := "BladeAlgebra", name := "save", desc := "(I)V" } : Jvm.MethodName) prog_1_method_64_code (2 : Nat) (Option.none : Option Jvm.ClassFile.FieldType)) ∈ lw_all := lw_g (lw_at lw_m8 212 rfl) rfl
theorem q1988 : (Jvm.Cond.methodLink "BladeAlgebra" (471 : Nat) ({ cls := "BladeAlgebra$World", name := "becomes", desc := "(LBladeAlgebra$World;)V" } : Jvm.MethodName)) ∈ lw_all := lw_g (lw_at lw_m8 213 rfl) rfl
theorem q1997 : (Jvm.Cond.instanceMethod ({ cls := "BladeAlgebra", name := "restore", desc := "(I)V" } : Jvm.MethodName)) ∈ lw_all := lw_g (lw_at lw_m8 222 rfl) rfl
theorem q1998 : (Jvm.Cond.selects "BladeAlgebra" ({ cls := "BladeAlgebra", name := "restore", desc := "(I)V" } : Jvm.MethodName) ({ cls := "BladeAlgebra", name := "restore", desc := "(I)V" } : Jvm.MethodName)) ∈ lw_all := lw_g (lw_at lw_m8 223 rfl) rfl
theorem q1999 : (Jvm.Cond.code ({ cls := "BladeAlgebra", name := "restore", desc := "(I)V" } : Jvm.MethodName) prog_1_method_65_code (2 : Nat) (Option.none : Option Jvm.ClassFile.FieldType)) ∈ lw_all := lw_g (lw_at lw_m8 224 rfl) rfl
theorem q2575 : (Jvm.Cond.castable "BladeAlgebra" "java/lang/Object") ∈ lw_tbl := lw_at lw_m11 80 rfl
theorem in_X1 : ∀ w ∈ wsX10, w ∈ lw_all := lw_in wsX10 [296, 298, 300, 302, 304, 306, 308, 310, 312] (by decide +kernel) (by decide +kernel)
