/-! BladeAlgebraModel -/
set_option maxRecDepth 100000
def RX7 : String := "BladeAlgebraModel"
def TX7 : u_T := fun k => match k with
  | 0 => ("BladeAlgebraModel", "thrown", "I", false)
  | 1 => ("BladeAlgebraModel", "p", "I", false)
  | 2 => ("BladeAlgebraModel", "q", "I", false)
  | 3 => ("BladeAlgebraModel", "r", "I", false)
  | 4 => ("BladeAlgebraModel", "savedP", "[I", true)
  | 5 => ("BladeAlgebraModel", "savedQ", "[I", true)
  | 6 => ("BladeAlgebraModel", "savedR", "[I", true)
  | 7 => ("BladeAlgebraModel", "isSaved", "[Z", true)
  | 8 => ("BladeAlgebraModel", "all", "[J", true)
  | 9 => ("BladeAlgebraModel", "made", "[J", true)
  | 10 => ("BladeAlgebraModel", "madeUnder", "J", false)
  | 11 => ("BladeAlgebraModel", "text", "[B", true)
  | 12 => ("BladeAlgebraModel", "length", "I", false)
  | 13 => ("BladeAlgebraModel", "at", "I", false)
  | 14 => ("BladeAlgebraModel", "error", "I", false)
  | 15 => ("BladeAlgebraModel", "errorAt", "I", false)
  | 16 => ("BladeAlgebraModel", "values", "I", false)
  | 17 => ("BladeAlgebraModel", "waiting", "[I", true)
  | 18 => ("BladeAlgebraModel", "places", "[I", true)
  | 19 => ("BladeAlgebraModel", "waits", "I", false)
  | 20 => ("BladeAlgebraModel", "open", "I", false)
  | 21 => ("BladeAlgebraModel", "wants", "Z", false)
  | 22 => ("BladeAlgebraModel", "begins", "Z", false)
  | 23 => ("BladeAlgebraModel", "isPlain", "Z", false)
  | 24 => ("BladeAlgebraModel", "unfitAt", "I", false)
  | 25 => ("BladeAlgebraModel", "output", "[B", true)
  | _ => ("BladeAlgebraModel", "written", "I", false)
def tyX7 : Nat → FieldType := fun k => match k with
  | 0 => .int
  | 1 => .int
  | 2 => .int
  | 3 => .int
  | 4 => .array .int
  | 5 => .array .int
  | 6 => .array .int
  | 7 => .array .boolean
  | 8 => .array .long
  | 9 => .array .long
  | 10 => .long
  | 11 => .array .byte
  | 12 => .int
  | 13 => .int
  | 14 => .int
  | 15 => .int
  | 16 => .int
  | 17 => .array .int
  | 18 => .array .int
  | 19 => .int
  | 20 => .int
  | 21 => .boolean
  | 22 => .boolean
  | 23 => .boolean
  | 24 => .int
  | 25 => .array .byte
  | _ => .int
abbrev wsX70 : List Cond := u_ws RX7 TX7 27
set_option maxRecDepth 100000 in
theorem nmX7 : ∀ a, a < 27 → ∀ b, b < 27 → a ≠ b → (TX7 a).2.1 ≠ (TX7 b).2.1 := by decide +kernel
set_option maxRecDepth 100000 in
theorem tyX7_ok : ∀ k, k < 27 → parseFieldDescriptor (TX7 k).2.2.1 = some (tyX7 k) := by decide +kernel
abbrev cX7_init : ByteArray := prog_42_method_1_code
def yX7_init : MethodName := ⟨RX7, "<init>", "()V"⟩
def dkwX7_init_5 : List UInt8 := [132, 1, 1, 167, 255, 237, 177]
abbrev dktX7_init_5 : List UInt8 := dkwX7_init_5 ++ []
def dkwX7_init_4 : List UInt8 := [188, 8, 181, 0, 51, 3, 60, 27, 16, 80, 162, 0, 19, 42, 180, 0, 27, 16, 33, 27, 104, 10, 80]
abbrev dktX7_init_4 : List UInt8 := dkwX7_init_4 ++ dktX7_init_5
def dkwX7_init_3 : List UInt8 := [181, 0, 42, 42, 16, 100, 188, 10, 181, 0, 45, 42, 16, 100, 188, 10, 181, 0, 48, 42, 17, 4, 176]
abbrev dktX7_init_3 : List UInt8 := dkwX7_init_3 ++ dktX7_init_4
def dkwX7_init_2 : List UInt8 := [16, 32, 188, 11, 181, 0, 31, 42, 10, 181, 0, 34, 42, 17, 0, 200, 188, 8, 181, 0, 38, 42, 2]
abbrev dktX7_init_2 : List UInt8 := dkwX7_init_2 ++ dktX7_init_3
def dkwX7_init_1 : List UInt8 := [5, 188, 10, 181, 0, 20, 42, 5, 188, 4, 181, 0, 23, 42, 17, 10, 80, 188, 11, 181, 0, 27, 42]
abbrev dktX7_init_1 : List UInt8 := dkwX7_init_1 ++ dktX7_init_2
def dkwX7_init_0 : List UInt8 := [42, 183, 0, 1, 42, 6, 181, 0, 7, 42, 5, 188, 10, 181, 0, 13, 42, 5, 188, 10, 181, 0, 17, 42]
abbrev dktX7_init_0 : List UInt8 := dkwX7_init_0 ++ dktX7_init_1
theorem dksX7_init_0 : cX7_init.data.toList.drop 0 = dktX7_init_0 := by decide +kernel
theorem dksX7_init_1 : cX7_init.data.toList.drop 24 = dktX7_init_1 := dk_seg dksX7_init_0 24 rfl rfl
theorem dksX7_init_2 : cX7_init.data.toList.drop 47 = dktX7_init_2 := dk_seg dksX7_init_1 23 rfl rfl
theorem dksX7_init_3 : cX7_init.data.toList.drop 70 = dktX7_init_3 := dk_seg dksX7_init_2 23 rfl rfl
theorem dksX7_init_4 : cX7_init.data.toList.drop 93 = dktX7_init_4 := dk_seg dksX7_init_3 23 rfl rfl
theorem dksX7_init_5 : cX7_init.data.toList.drop 116 = dktX7_init_5 := dk_seg dksX7_init_4 23 rfl rfl
theorem dX7_init_0 : decode cX7_init 0 = .ok (.aload_n 0, 1) := dk_42 (dk_at dksX7_init_0 0 rfl rfl)
theorem dX7_init_1 : decode cX7_init 1 = .ok (.invokespecial 1, 3) := dk_183 0 1 (dk_at dksX7_init_0 1 rfl rfl)
theorem dX7_init_4 : decode cX7_init 4 = .ok (.aload_n 0, 1) := dk_42 (dk_at dksX7_init_0 4 rfl rfl)
theorem dX7_init_5 : decode cX7_init 5 = .ok (.iconst 3, 1) := dk_6 (dk_at dksX7_init_0 5 rfl rfl)
theorem dX7_init_6 : decode cX7_init 6 = .ok (.putfield 7, 3) := dk_181 0 7 (dk_at dksX7_init_0 6 rfl rfl)
theorem dX7_init_9 : decode cX7_init 9 = .ok (.aload_n 0, 1) := dk_42 (dk_at dksX7_init_0 9 rfl rfl)
theorem dX7_init_10 : decode cX7_init 10 = .ok (.iconst 2, 1) := dk_5 (dk_at dksX7_init_0 10 rfl rfl)
theorem dX7_init_11 : decode cX7_init 11 = .ok (.newarray .int, 2) := dk_188_10 (dk_at dksX7_init_0 11 rfl rfl)
theorem dX7_init_13 : decode cX7_init 13 = .ok (.putfield 13, 3) := dk_181 0 13 (dk_at dksX7_init_0 13 rfl rfl)
theorem dX7_init_16 : decode cX7_init 16 = .ok (.aload_n 0, 1) := dk_42 (dk_at dksX7_init_0 16 rfl rfl)
theorem dX7_init_17 : decode cX7_init 17 = .ok (.iconst 2, 1) := dk_5 (dk_at dksX7_init_0 17 rfl rfl)
theorem dX7_init_18 : decode cX7_init 18 = .ok (.newarray .int, 2) := dk_188_10 (dk_at dksX7_init_0 18 rfl rfl)
theorem dX7_init_20 : decode cX7_init 20 = .ok (.putfield 17, 3) := dk_181 0 17 (dk_at dksX7_init_0 20 rfl rfl)
theorem dX7_init_23 : decode cX7_init 23 = .ok (.aload_n 0, 1) := dk_42 (dk_at dksX7_init_0 23 rfl rfl)
theorem dX7_init_24 : decode cX7_init 24 = .ok (.iconst 2, 1) := dk_5 (dk_at dksX7_init_1 0 rfl rfl)
theorem dX7_init_25 : decode cX7_init 25 = .ok (.newarray .int, 2) := dk_188_10 (dk_at dksX7_init_1 1 rfl rfl)
theorem dX7_init_27 : decode cX7_init 27 = .ok (.putfield 20, 3) := dk_181 0 20 (dk_at dksX7_init_1 3 rfl rfl)
theorem dX7_init_30 : decode cX7_init 30 = .ok (.aload_n 0, 1) := dk_42 (dk_at dksX7_init_1 6 rfl rfl)
theorem dX7_init_31 : decode cX7_init 31 = .ok (.iconst 2, 1) := dk_5 (dk_at dksX7_init_1 7 rfl rfl)
theorem dX7_init_32 : decode cX7_init 32 = .ok (.newarray .boolean, 2) := dk_188_4 (dk_at dksX7_init_1 8 rfl rfl)
theorem dX7_init_34 : decode cX7_init 34 = .ok (.putfield 23, 3) := dk_181 0 23 (dk_at dksX7_init_1 10 rfl rfl)
theorem dX7_init_37 : decode cX7_init 37 = .ok (.aload_n 0, 1) := dk_42 (dk_at dksX7_init_1 13 rfl rfl)
theorem dX7_init_38 : decode cX7_init 38 = .ok (.sipush 2640, 3) := dk_17 10 80 (dk_at dksX7_init_1 14 rfl rfl)
theorem dX7_init_41 : decode cX7_init 41 = .ok (.newarray .long, 2) := dk_188_11 (dk_at dksX7_init_1 17 rfl rfl)
theorem dX7_init_43 : decode cX7_init 43 = .ok (.putfield 27, 3) := dk_181 0 27 (dk_at dksX7_init_1 19 rfl rfl)
theorem dX7_init_46 : decode cX7_init 46 = .ok (.aload_n 0, 1) := dk_42 (dk_at dksX7_init_1 22 rfl rfl)
theorem dX7_init_47 : decode cX7_init 47 = .ok (.bipush 32, 2) := dk_16 32 (dk_at dksX7_init_2 0 rfl rfl)
theorem dX7_init_49 : decode cX7_init 49 = .ok (.newarray .long, 2) := dk_188_11 (dk_at dksX7_init_2 2 rfl rfl)
theorem dX7_init_51 : decode cX7_init 51 = .ok (.putfield 31, 3) := dk_181 0 31 (dk_at dksX7_init_2 4 rfl rfl)
theorem dX7_init_54 : decode cX7_init 54 = .ok (.aload_n 0, 1) := dk_42 (dk_at dksX7_init_2 7 rfl rfl)
theorem dX7_init_55 : decode cX7_init 55 = .ok (.lconst 1, 1) := dk_10 (dk_at dksX7_init_2 8 rfl rfl)
theorem dX7_init_56 : decode cX7_init 56 = .ok (.putfield 34, 3) := dk_181 0 34 (dk_at dksX7_init_2 9 rfl rfl)
theorem dX7_init_59 : decode cX7_init 59 = .ok (.aload_n 0, 1) := dk_42 (dk_at dksX7_init_2 12 rfl rfl)
theorem dX7_init_60 : decode cX7_init 60 = .ok (.sipush 200, 3) := dk_17 0 200 (dk_at dksX7_init_2 13 rfl rfl)
theorem dX7_init_63 : decode cX7_init 63 = .ok (.newarray .byte, 2) := dk_188_8 (dk_at dksX7_init_2 16 rfl rfl)
theorem dX7_init_65 : decode cX7_init 65 = .ok (.putfield 38, 3) := dk_181 0 38 (dk_at dksX7_init_2 18 rfl rfl)
theorem dX7_init_68 : decode cX7_init 68 = .ok (.aload_n 0, 1) := dk_42 (dk_at dksX7_init_2 21 rfl rfl)
theorem dX7_init_69 : decode cX7_init 69 = .ok (.iconst (-1), 1) := dk_2 (dk_at dksX7_init_2 22 rfl rfl)
theorem dX7_init_70 : decode cX7_init 70 = .ok (.putfield 42, 3) := dk_181 0 42 (dk_at dksX7_init_3 0 rfl rfl)
theorem dX7_init_73 : decode cX7_init 73 = .ok (.aload_n 0, 1) := dk_42 (dk_at dksX7_init_3 3 rfl rfl)
theorem dX7_init_74 : decode cX7_init 74 = .ok (.bipush 100, 2) := dk_16 100 (dk_at dksX7_init_3 4 rfl rfl)
theorem dX7_init_76 : decode cX7_init 76 = .ok (.newarray .int, 2) := dk_188_10 (dk_at dksX7_init_3 6 rfl rfl)
theorem dX7_init_78 : decode cX7_init 78 = .ok (.putfield 45, 3) := dk_181 0 45 (dk_at dksX7_init_3 8 rfl rfl)
theorem dX7_init_81 : decode cX7_init 81 = .ok (.aload_n 0, 1) := dk_42 (dk_at dksX7_init_3 11 rfl rfl)
theorem dX7_init_82 : decode cX7_init 82 = .ok (.bipush 100, 2) := dk_16 100 (dk_at dksX7_init_3 12 rfl rfl)
theorem dX7_init_84 : decode cX7_init 84 = .ok (.newarray .int, 2) := dk_188_10 (dk_at dksX7_init_3 14 rfl rfl)
theorem dX7_init_86 : decode cX7_init 86 = .ok (.putfield 48, 3) := dk_181 0 48 (dk_at dksX7_init_3 16 rfl rfl)
theorem dX7_init_89 : decode cX7_init 89 = .ok (.aload_n 0, 1) := dk_42 (dk_at dksX7_init_3 19 rfl rfl)
theorem dX7_init_90 : decode cX7_init 90 = .ok (.sipush 1200, 3) := dk_17 4 176 (dk_at dksX7_init_3 20 rfl rfl)
theorem dX7_init_93 : decode cX7_init 93 = .ok (.newarray .byte, 2) := dk_188_8 (dk_at dksX7_init_4 0 rfl rfl)
theorem dX7_init_95 : decode cX7_init 95 = .ok (.putfield 51, 3) := dk_181 0 51 (dk_at dksX7_init_4 2 rfl rfl)
theorem dX7_init_98 : decode cX7_init 98 = .ok (.iconst 0, 1) := dk_3 (dk_at dksX7_init_4 5 rfl rfl)
theorem dX7_init_99 : decode cX7_init 99 = .ok (.istore_n 1, 1) := dk_60 (dk_at dksX7_init_4 6 rfl rfl)
theorem dX7_init_100 : decode cX7_init 100 = .ok (.iload_n 1, 1) := dk_27 (dk_at dksX7_init_4 7 rfl rfl)
theorem dX7_init_101 : decode cX7_init 101 = .ok (.bipush 80, 2) := dk_16 80 (dk_at dksX7_init_4 8 rfl rfl)
theorem dX7_init_103 : decode cX7_init 103 = .ok (.if_icmp .ge 19, 3) := dk_162 0 19 (dk_at dksX7_init_4 10 rfl rfl)
theorem dX7_init_106 : decode cX7_init 106 = .ok (.aload_n 0, 1) := dk_42 (dk_at dksX7_init_4 13 rfl rfl)
theorem dX7_init_107 : decode cX7_init 107 = .ok (.getfield 27, 3) := dk_180 0 27 (dk_at dksX7_init_4 14 rfl rfl)
theorem dX7_init_110 : decode cX7_init 110 = .ok (.bipush 33, 2) := dk_16 33 (dk_at dksX7_init_4 17 rfl rfl)
theorem dX7_init_112 : decode cX7_init 112 = .ok (.iload_n 1, 1) := dk_27 (dk_at dksX7_init_4 19 rfl rfl)
theorem dX7_init_113 : decode cX7_init 113 = .ok (.imul, 1) := dk_104 (dk_at dksX7_init_4 20 rfl rfl)
theorem dX7_init_114 : decode cX7_init 114 = .ok (.lconst 1, 1) := dk_10 (dk_at dksX7_init_4 21 rfl rfl)
theorem dX7_init_115 : decode cX7_init 115 = .ok (.lastore, 1) := dk_80 (dk_at dksX7_init_4 22 rfl rfl)
theorem dX7_init_116 : decode cX7_init 116 = .ok (.iinc 1 1, 3) := dk_132 1 1 (dk_at dksX7_init_5 0 rfl rfl)
theorem dX7_init_119 : decode cX7_init 119 = .ok (.goto (-19), 3) := dk_167 255 237 (dk_at dksX7_init_5 3 rfl rfl)
theorem dX7_init_122 : decode cX7_init 122 = .ok (.return_, 1) := dk_177 (dk_at dksX7_init_5 6 rfl rfl)
abbrev cX7_thrown : ByteArray := prog_42_method_2_code
def yX7_thrown : MethodName := ⟨RX7, "thrown", "()I"⟩
theorem dX7_thrown_0 : decode cX7_thrown 0 = .ok (.aload_n 0, 1) := by decide +kernel
theorem dX7_thrown_1 : decode cX7_thrown 1 = .ok (.getfield 54, 3) := by decide +kernel
theorem dX7_thrown_4 : decode cX7_thrown 4 = .ok (.ireturn, 1) := by decide +kernel
abbrev cX7_combine : ByteArray := prog_42_method_27_code
def yX7_combine : MethodName := ⟨RX7, "combine", "(IIII)I"⟩
def dkwX7_combine_3 : List UInt8 := [182, 0, 144, 172]
abbrev dktX7_combine_3 : List UInt8 := dkwX7_combine_3 ++ []
def dkwX7_combine_2 : List UInt8 := [21, 4, 16, 24, 182, 0, 150, 153, 0, 13, 42, 16, 24, 28, 182, 0, 153, 167, 0, 8, 42, 6]
abbrev dktX7_combine_2 : List UInt8 := dkwX7_combine_2 ++ dktX7_combine_3
def dkwX7_combine_1 : List UInt8 := [184, 0, 147, 153, 0, 11, 21, 4, 184, 0, 147, 154, 0, 9, 42, 5, 182, 0, 144, 172, 42, 27, 29]
abbrev dktX7_combine_1 : List UInt8 := dkwX7_combine_1 ++ dktX7_combine_2
def dkwX7_combine_0 : List UInt8 := [27, 3, 16, 8, 184, 0, 67, 154, 0, 9, 42, 4, 182, 0, 144, 172, 28, 184, 0, 147, 153, 0, 18, 29]
abbrev dktX7_combine_0 : List UInt8 := dkwX7_combine_0 ++ dktX7_combine_1
theorem dksX7_combine_0 : cX7_combine.data.toList.drop 0 = dktX7_combine_0 := by decide +kernel
theorem dksX7_combine_1 : cX7_combine.data.toList.drop 24 = dktX7_combine_1 := dk_seg dksX7_combine_0 24 rfl rfl
theorem dksX7_combine_2 : cX7_combine.data.toList.drop 47 = dktX7_combine_2 := dk_seg dksX7_combine_1 23 rfl rfl
theorem dksX7_combine_3 : cX7_combine.data.toList.drop 69 = dktX7_combine_3 := dk_seg dksX7_combine_2 22 rfl rfl
theorem dX7_combine_0 : decode cX7_combine 0 = .ok (.iload_n 1, 1) := dk_27 (dk_at dksX7_combine_0 0 rfl rfl)
theorem dX7_combine_1 : decode cX7_combine 1 = .ok (.iconst 0, 1) := dk_3 (dk_at dksX7_combine_0 1 rfl rfl)
theorem dX7_combine_2 : decode cX7_combine 2 = .ok (.bipush 8, 2) := dk_16 8 (dk_at dksX7_combine_0 2 rfl rfl)
theorem dX7_combine_4 : decode cX7_combine 4 = .ok (.invokestatic 67, 3) := dk_184 0 67 (dk_at dksX7_combine_0 4 rfl rfl)
theorem dX7_combine_7 : decode cX7_combine 7 = .ok (.ifCond .ne 9, 3) := dk_154 0 9 (dk_at dksX7_combine_0 7 rfl rfl)
theorem dX7_combine_10 : decode cX7_combine 10 = .ok (.aload_n 0, 1) := dk_42 (dk_at dksX7_combine_0 10 rfl rfl)
theorem dX7_combine_11 : decode cX7_combine 11 = .ok (.iconst 1, 1) := dk_4 (dk_at dksX7_combine_0 11 rfl rfl)
theorem dX7_combine_12 : decode cX7_combine 12 = .ok (.invokevirtual 144, 3) := dk_182 0 144 (dk_at dksX7_combine_0 12 rfl rfl)
theorem dX7_combine_15 : decode cX7_combine 15 = .ok (.ireturn, 1) := dk_172 (dk_at dksX7_combine_0 15 rfl rfl)
theorem dX7_combine_16 : decode cX7_combine 16 = .ok (.iload_n 2, 1) := dk_28 (dk_at dksX7_combine_0 16 rfl rfl)
theorem dX7_combine_17 : decode cX7_combine 17 = .ok (.invokestatic 147, 3) := dk_184 0 147 (dk_at dksX7_combine_0 17 rfl rfl)
theorem dX7_combine_20 : decode cX7_combine 20 = .ok (.ifCond .eq 18, 3) := dk_153 0 18 (dk_at dksX7_combine_0 20 rfl rfl)
theorem dX7_combine_23 : decode cX7_combine 23 = .ok (.iload_n 3, 1) := dk_29 (dk_at dksX7_combine_0 23 rfl rfl)
theorem dX7_combine_24 : decode cX7_combine 24 = .ok (.invokestatic 147, 3) := dk_184 0 147 (dk_at dksX7_combine_1 0 rfl rfl)
theorem dX7_combine_27 : decode cX7_combine 27 = .ok (.ifCond .eq 11, 3) := dk_153 0 11 (dk_at dksX7_combine_1 3 rfl rfl)
theorem dX7_combine_30 : decode cX7_combine 30 = .ok (.iload 4, 2) := dk_21 4 (dk_at dksX7_combine_1 6 rfl rfl)
theorem dX7_combine_32 : decode cX7_combine 32 = .ok (.invokestatic 147, 3) := dk_184 0 147 (dk_at dksX7_combine_1 8 rfl rfl)
theorem dX7_combine_35 : decode cX7_combine 35 = .ok (.ifCond .ne 9, 3) := dk_154 0 9 (dk_at dksX7_combine_1 11 rfl rfl)
theorem dX7_combine_38 : decode cX7_combine 38 = .ok (.aload_n 0, 1) := dk_42 (dk_at dksX7_combine_1 14 rfl rfl)
theorem dX7_combine_39 : decode cX7_combine 39 = .ok (.iconst 2, 1) := dk_5 (dk_at dksX7_combine_1 15 rfl rfl)
theorem dX7_combine_40 : decode cX7_combine 40 = .ok (.invokevirtual 144, 3) := dk_182 0 144 (dk_at dksX7_combine_1 16 rfl rfl)
theorem dX7_combine_43 : decode cX7_combine 43 = .ok (.ireturn, 1) := dk_172 (dk_at dksX7_combine_1 19 rfl rfl)
theorem dX7_combine_44 : decode cX7_combine 44 = .ok (.aload_n 0, 1) := dk_42 (dk_at dksX7_combine_1 20 rfl rfl)
theorem dX7_combine_45 : decode cX7_combine 45 = .ok (.iload_n 1, 1) := dk_27 (dk_at dksX7_combine_1 21 rfl rfl)
theorem dX7_combine_46 : decode cX7_combine 46 = .ok (.iload_n 3, 1) := dk_29 (dk_at dksX7_combine_1 22 rfl rfl)
theorem dX7_combine_47 : decode cX7_combine 47 = .ok (.iload 4, 2) := dk_21 4 (dk_at dksX7_combine_2 0 rfl rfl)
theorem dX7_combine_49 : decode cX7_combine 49 = .ok (.bipush 24, 2) := dk_16 24 (dk_at dksX7_combine_2 2 rfl rfl)
theorem dX7_combine_51 : decode cX7_combine 51 = .ok (.invokevirtual 150, 3) := dk_182 0 150 (dk_at dksX7_combine_2 4 rfl rfl)
theorem dX7_combine_54 : decode cX7_combine 54 = .ok (.ifCond .eq 13, 3) := dk_153 0 13 (dk_at dksX7_combine_2 7 rfl rfl)
theorem dX7_combine_57 : decode cX7_combine 57 = .ok (.aload_n 0, 1) := dk_42 (dk_at dksX7_combine_2 10 rfl rfl)
theorem dX7_combine_58 : decode cX7_combine 58 = .ok (.bipush 24, 2) := dk_16 24 (dk_at dksX7_combine_2 11 rfl rfl)
theorem dX7_combine_60 : decode cX7_combine 60 = .ok (.iload_n 2, 1) := dk_28 (dk_at dksX7_combine_2 13 rfl rfl)
theorem dX7_combine_61 : decode cX7_combine 61 = .ok (.invokevirtual 153, 3) := dk_182 0 153 (dk_at dksX7_combine_2 14 rfl rfl)
theorem dX7_combine_64 : decode cX7_combine 64 = .ok (.goto 8, 3) := dk_167 0 8 (dk_at dksX7_combine_2 17 rfl rfl)
theorem dX7_combine_67 : decode cX7_combine 67 = .ok (.aload_n 0, 1) := dk_42 (dk_at dksX7_combine_2 20 rfl rfl)
theorem dX7_combine_68 : decode cX7_combine 68 = .ok (.iconst 3, 1) := dk_6 (dk_at dksX7_combine_2 21 rfl rfl)
theorem dX7_combine_69 : decode cX7_combine 69 = .ok (.invokevirtual 144, 3) := dk_182 0 144 (dk_at dksX7_combine_3 0 rfl rfl)
theorem dX7_combine_72 : decode cX7_combine 72 = .ok (.ireturn, 1) := dk_172 (dk_at dksX7_combine_3 3 rfl rfl)
abbrev cX7_in : ByteArray := prog_42_method_3_code
def yX7_in : MethodName := ⟨RX7, "in", "(III)Z"⟩
def dkwX7_in_0 : List UInt8 := [26, 27, 161, 0, 12, 26, 28, 163, 0, 7, 4, 167, 0, 4, 3, 172]
abbrev dktX7_in_0 : List UInt8 := dkwX7_in_0 ++ []
theorem dksX7_in_0 : cX7_in.data.toList.drop 0 = dktX7_in_0 := by decide +kernel
theorem dX7_in_0 : decode cX7_in 0 = .ok (.iload_n 0, 1) := dk_26 (dk_at dksX7_in_0 0 rfl rfl)
theorem dX7_in_1 : decode cX7_in 1 = .ok (.iload_n 1, 1) := dk_27 (dk_at dksX7_in_0 1 rfl rfl)
theorem dX7_in_2 : decode cX7_in 2 = .ok (.if_icmp .lt 12, 3) := dk_161 0 12 (dk_at dksX7_in_0 2 rfl rfl)
theorem dX7_in_5 : decode cX7_in 5 = .ok (.iload_n 0, 1) := dk_26 (dk_at dksX7_in_0 5 rfl rfl)
theorem dX7_in_6 : decode cX7_in 6 = .ok (.iload_n 2, 1) := dk_28 (dk_at dksX7_in_0 6 rfl rfl)
theorem dX7_in_7 : decode cX7_in 7 = .ok (.if_icmp .gt 7, 3) := dk_163 0 7 (dk_at dksX7_in_0 7 rfl rfl)
theorem dX7_in_10 : decode cX7_in 10 = .ok (.iconst 1, 1) := dk_4 (dk_at dksX7_in_0 10 rfl rfl)
theorem dX7_in_11 : decode cX7_in 11 = .ok (.goto 4, 3) := dk_167 0 4 (dk_at dksX7_in_0 11 rfl rfl)
theorem dX7_in_14 : decode cX7_in 14 = .ok (.iconst 0, 1) := dk_3 (dk_at dksX7_in_0 14 rfl rfl)
theorem dX7_in_15 : decode cX7_in 15 = .ok (.ireturn, 1) := dk_172 (dk_at dksX7_in_0 15 rfl rfl)
abbrev cX7_refuses : ByteArray := prog_42_method_18_code
def yX7_refuses : MethodName := ⟨RX7, "refuses", "(I)I"⟩
def dkwX7_refuses_0 : List UInt8 := [42, 27, 181, 0, 54, 3, 172]
abbrev dktX7_refuses_0 : List UInt8 := dkwX7_refuses_0 ++ []
theorem dksX7_refuses_0 : cX7_refuses.data.toList.drop 0 = dktX7_refuses_0 := by decide +kernel
theorem dX7_refuses_0 : decode cX7_refuses 0 = .ok (.aload_n 0, 1) := dk_42 (dk_at dksX7_refuses_0 0 rfl rfl)
theorem dX7_refuses_1 : decode cX7_refuses 1 = .ok (.iload_n 1, 1) := dk_27 (dk_at dksX7_refuses_0 1 rfl rfl)
theorem dX7_refuses_2 : decode cX7_refuses 2 = .ok (.putfield 54, 3) := dk_181 0 54 (dk_at dksX7_refuses_0 2 rfl rfl)
theorem dX7_refuses_5 : decode cX7_refuses 5 = .ok (.iconst 0, 1) := dk_3 (dk_at dksX7_refuses_0 5 rfl rfl)
theorem dX7_refuses_6 : decode cX7_refuses 6 = .ok (.ireturn, 1) := dk_172 (dk_at dksX7_refuses_0 6 rfl rfl)
abbrev cX7_isRegister : ByteArray := prog_42_method_7_code
def yX7_isRegister : MethodName := ⟨RX7, "isRegister", "(I)Z"⟩
def dkwX7_isRegister_0 : List UInt8 := [26, 3, 16, 7, 184, 0, 67, 172]
abbrev dktX7_isRegister_0 : List UInt8 := dkwX7_isRegister_0 ++ []
theorem dksX7_isRegister_0 : cX7_isRegister.data.toList.drop 0 = dktX7_isRegister_0 := by decide +kernel
theorem dX7_isRegister_0 : decode cX7_isRegister 0 = .ok (.iload_n 0, 1) := dk_26 (dk_at dksX7_isRegister_0 0 rfl rfl)
theorem dX7_isRegister_1 : decode cX7_isRegister 1 = .ok (.iconst 0, 1) := dk_3 (dk_at dksX7_isRegister_0 1 rfl rfl)
theorem dX7_isRegister_2 : decode cX7_isRegister 2 = .ok (.bipush 7, 2) := dk_16 7 (dk_at dksX7_isRegister_0 2 rfl rfl)
theorem dX7_isRegister_4 : decode cX7_isRegister 4 = .ok (.invokestatic 67, 3) := dk_184 0 67 (dk_at dksX7_isRegister_0 4 rfl rfl)
theorem dX7_isRegister_7 : decode cX7_isRegister 7 = .ok (.ireturn, 1) := dk_172 (dk_at dksX7_isRegister_0 7 rfl rfl)
abbrev cX7_carriesOut : ByteArray := prog_42_method_25_code
def yX7_carriesOut : MethodName := ⟨RX7, "carriesOut", "(IIII)Z"⟩
def dkwX7_carriesOut_6 : List UInt8 := [182, 0, 131, 172]
abbrev dktX7_carriesOut_6 : List UInt8 := dkwX7_carriesOut_6 ++ []
def dkwX7_carriesOut_5 : List UInt8 := [20, 0, 134, 21, 4, 182, 0, 136, 153, 0, 7, 4, 167, 0, 4, 3, 172, 42, 27, 28, 29, 21, 4]
abbrev dktX7_carriesOut_5 : List UInt8 := dkwX7_carriesOut_5 ++ dktX7_carriesOut_6
def dkwX7_carriesOut_4 : List UInt8 := [182, 0, 131, 153, 0, 36, 42, 16, 25, 16, 26, 2, 16, 27, 182, 0, 124, 153, 0, 22, 42, 16, 27, 10]
abbrev dktX7_carriesOut_4 : List UInt8 := dkwX7_carriesOut_4 ++ dktX7_carriesOut_5
def dkwX7_carriesOut_3 : List UInt8 := [21, 4, 182, 0, 128, 172, 42, 5, 28, 29, 16, 25, 182, 0, 131, 153, 0, 48, 42, 5, 29, 28, 16, 26]
abbrev dktX7_carriesOut_3 : List UInt8 := dkwX7_carriesOut_3 ++ dktX7_carriesOut_4
def dkwX7_carriesOut_2 : List UInt8 := [42, 28, 29, 4, 21, 4, 182, 0, 124, 172, 42, 28, 29, 2, 21, 4, 182, 0, 124, 172, 42, 28, 29]
abbrev dktX7_carriesOut_2 : List UInt8 := dkwX7_carriesOut_2 ++ dktX7_carriesOut_3
def dkwX7_carriesOut_1 : List UInt8 := [170, 0, 0, 0, 0, 0, 139, 0, 0, 0, 0, 0, 0, 0, 8, 0, 0, 0, 51, 0, 0, 0, 61, 0, 0, 0, 139, 0, 0, 0, 139, 0, 0, 0, 139, 0, 0, 0, 139, 0, 0, 0, 139, 0, 0, 0, 71, 0, 0, 0, 80]
abbrev dktX7_carriesOut_1 : List UInt8 := dkwX7_carriesOut_1 ++ dktX7_carriesOut_2
def dkwX7_carriesOut_0 : List UInt8 := [27]
abbrev dktX7_carriesOut_0 : List UInt8 := dkwX7_carriesOut_0 ++ dktX7_carriesOut_1
theorem dksX7_carriesOut_0 : cX7_carriesOut.data.toList.drop 0 = dktX7_carriesOut_0 := by decide +kernel
theorem dksX7_carriesOut_1 : cX7_carriesOut.data.toList.drop 1 = dktX7_carriesOut_1 := dk_seg dksX7_carriesOut_0 1 rfl rfl
theorem dksX7_carriesOut_2 : cX7_carriesOut.data.toList.drop 52 = dktX7_carriesOut_2 := dk_seg dksX7_carriesOut_1 51 rfl rfl
theorem dksX7_carriesOut_3 : cX7_carriesOut.data.toList.drop 75 = dktX7_carriesOut_3 := dk_seg dksX7_carriesOut_2 23 rfl rfl
theorem dksX7_carriesOut_4 : cX7_carriesOut.data.toList.drop 99 = dktX7_carriesOut_4 := dk_seg dksX7_carriesOut_3 24 rfl rfl
theorem dksX7_carriesOut_5 : cX7_carriesOut.data.toList.drop 123 = dktX7_carriesOut_5 := dk_seg dksX7_carriesOut_4 24 rfl rfl
theorem dksX7_carriesOut_6 : cX7_carriesOut.data.toList.drop 146 = dktX7_carriesOut_6 := dk_seg dksX7_carriesOut_5 23 rfl rfl
theorem dX7_carriesOut_0 : decode cX7_carriesOut 0 = .ok (.iload_n 1, 1) := dk_27 (dk_at dksX7_carriesOut_0 0 rfl rfl)
theorem dX7_carriesOut_1 : decode cX7_carriesOut 1 = .ok (.tableswitch 139 0 8 #[51, 61, 139, 139, 139, 139, 139, 71, 80], 51) := by decide +kernel
theorem dX7_carriesOut_52 : decode cX7_carriesOut 52 = .ok (.aload_n 0, 1) := dk_42 (dk_at dksX7_carriesOut_2 0 rfl rfl)
theorem dX7_carriesOut_53 : decode cX7_carriesOut 53 = .ok (.iload_n 2, 1) := dk_28 (dk_at dksX7_carriesOut_2 1 rfl rfl)
theorem dX7_carriesOut_54 : decode cX7_carriesOut 54 = .ok (.iload_n 3, 1) := dk_29 (dk_at dksX7_carriesOut_2 2 rfl rfl)
theorem dX7_carriesOut_55 : decode cX7_carriesOut 55 = .ok (.iconst 1, 1) := dk_4 (dk_at dksX7_carriesOut_2 3 rfl rfl)
theorem dX7_carriesOut_56 : decode cX7_carriesOut 56 = .ok (.iload 4, 2) := dk_21 4 (dk_at dksX7_carriesOut_2 4 rfl rfl)
theorem dX7_carriesOut_58 : decode cX7_carriesOut 58 = .ok (.invokevirtual 124, 3) := dk_182 0 124 (dk_at dksX7_carriesOut_2 6 rfl rfl)
theorem dX7_carriesOut_61 : decode cX7_carriesOut 61 = .ok (.ireturn, 1) := dk_172 (dk_at dksX7_carriesOut_2 9 rfl rfl)
theorem dX7_carriesOut_62 : decode cX7_carriesOut 62 = .ok (.aload_n 0, 1) := dk_42 (dk_at dksX7_carriesOut_2 10 rfl rfl)
theorem dX7_carriesOut_63 : decode cX7_carriesOut 63 = .ok (.iload_n 2, 1) := dk_28 (dk_at dksX7_carriesOut_2 11 rfl rfl)
theorem dX7_carriesOut_64 : decode cX7_carriesOut 64 = .ok (.iload_n 3, 1) := dk_29 (dk_at dksX7_carriesOut_2 12 rfl rfl)
theorem dX7_carriesOut_65 : decode cX7_carriesOut 65 = .ok (.iconst (-1), 1) := dk_2 (dk_at dksX7_carriesOut_2 13 rfl rfl)
theorem dX7_carriesOut_66 : decode cX7_carriesOut 66 = .ok (.iload 4, 2) := dk_21 4 (dk_at dksX7_carriesOut_2 14 rfl rfl)
theorem dX7_carriesOut_68 : decode cX7_carriesOut 68 = .ok (.invokevirtual 124, 3) := dk_182 0 124 (dk_at dksX7_carriesOut_2 16 rfl rfl)
theorem dX7_carriesOut_71 : decode cX7_carriesOut 71 = .ok (.ireturn, 1) := dk_172 (dk_at dksX7_carriesOut_2 19 rfl rfl)
theorem dX7_carriesOut_72 : decode cX7_carriesOut 72 = .ok (.aload_n 0, 1) := dk_42 (dk_at dksX7_carriesOut_2 20 rfl rfl)
theorem dX7_carriesOut_73 : decode cX7_carriesOut 73 = .ok (.iload_n 2, 1) := dk_28 (dk_at dksX7_carriesOut_2 21 rfl rfl)
theorem dX7_carriesOut_74 : decode cX7_carriesOut 74 = .ok (.iload_n 3, 1) := dk_29 (dk_at dksX7_carriesOut_2 22 rfl rfl)
theorem dX7_carriesOut_75 : decode cX7_carriesOut 75 = .ok (.iload 4, 2) := dk_21 4 (dk_at dksX7_carriesOut_3 0 rfl rfl)
theorem dX7_carriesOut_77 : decode cX7_carriesOut 77 = .ok (.invokevirtual 128, 3) := dk_182 0 128 (dk_at dksX7_carriesOut_3 2 rfl rfl)
theorem dX7_carriesOut_80 : decode cX7_carriesOut 80 = .ok (.ireturn, 1) := dk_172 (dk_at dksX7_carriesOut_3 5 rfl rfl)
theorem dX7_carriesOut_81 : decode cX7_carriesOut 81 = .ok (.aload_n 0, 1) := dk_42 (dk_at dksX7_carriesOut_3 6 rfl rfl)
theorem dX7_carriesOut_82 : decode cX7_carriesOut 82 = .ok (.iconst 2, 1) := dk_5 (dk_at dksX7_carriesOut_3 7 rfl rfl)
theorem dX7_carriesOut_83 : decode cX7_carriesOut 83 = .ok (.iload_n 2, 1) := dk_28 (dk_at dksX7_carriesOut_3 8 rfl rfl)
theorem dX7_carriesOut_84 : decode cX7_carriesOut 84 = .ok (.iload_n 3, 1) := dk_29 (dk_at dksX7_carriesOut_3 9 rfl rfl)
theorem dX7_carriesOut_85 : decode cX7_carriesOut 85 = .ok (.bipush 25, 2) := dk_16 25 (dk_at dksX7_carriesOut_3 10 rfl rfl)
theorem dX7_carriesOut_87 : decode cX7_carriesOut 87 = .ok (.invokevirtual 131, 3) := dk_182 0 131 (dk_at dksX7_carriesOut_3 12 rfl rfl)
theorem dX7_carriesOut_90 : decode cX7_carriesOut 90 = .ok (.ifCond .eq 48, 3) := dk_153 0 48 (dk_at dksX7_carriesOut_3 15 rfl rfl)
theorem dX7_carriesOut_93 : decode cX7_carriesOut 93 = .ok (.aload_n 0, 1) := dk_42 (dk_at dksX7_carriesOut_3 18 rfl rfl)
theorem dX7_carriesOut_94 : decode cX7_carriesOut 94 = .ok (.iconst 2, 1) := dk_5 (dk_at dksX7_carriesOut_3 19 rfl rfl)
theorem dX7_carriesOut_95 : decode cX7_carriesOut 95 = .ok (.iload_n 3, 1) := dk_29 (dk_at dksX7_carriesOut_3 20 rfl rfl)
theorem dX7_carriesOut_96 : decode cX7_carriesOut 96 = .ok (.iload_n 2, 1) := dk_28 (dk_at dksX7_carriesOut_3 21 rfl rfl)
theorem dX7_carriesOut_97 : decode cX7_carriesOut 97 = .ok (.bipush 26, 2) := dk_16 26 (dk_at dksX7_carriesOut_3 22 rfl rfl)
theorem dX7_carriesOut_99 : decode cX7_carriesOut 99 = .ok (.invokevirtual 131, 3) := dk_182 0 131 (dk_at dksX7_carriesOut_4 0 rfl rfl)
theorem dX7_carriesOut_102 : decode cX7_carriesOut 102 = .ok (.ifCond .eq 36, 3) := dk_153 0 36 (dk_at dksX7_carriesOut_4 3 rfl rfl)
theorem dX7_carriesOut_105 : decode cX7_carriesOut 105 = .ok (.aload_n 0, 1) := dk_42 (dk_at dksX7_carriesOut_4 6 rfl rfl)
theorem dX7_carriesOut_106 : decode cX7_carriesOut 106 = .ok (.bipush 25, 2) := dk_16 25 (dk_at dksX7_carriesOut_4 7 rfl rfl)
theorem dX7_carriesOut_108 : decode cX7_carriesOut 108 = .ok (.bipush 26, 2) := dk_16 26 (dk_at dksX7_carriesOut_4 9 rfl rfl)
theorem dX7_carriesOut_110 : decode cX7_carriesOut 110 = .ok (.iconst (-1), 1) := dk_2 (dk_at dksX7_carriesOut_4 11 rfl rfl)
theorem dX7_carriesOut_111 : decode cX7_carriesOut 111 = .ok (.bipush 27, 2) := dk_16 27 (dk_at dksX7_carriesOut_4 12 rfl rfl)
theorem dX7_carriesOut_113 : decode cX7_carriesOut 113 = .ok (.invokevirtual 124, 3) := dk_182 0 124 (dk_at dksX7_carriesOut_4 14 rfl rfl)
theorem dX7_carriesOut_116 : decode cX7_carriesOut 116 = .ok (.ifCond .eq 22, 3) := dk_153 0 22 (dk_at dksX7_carriesOut_4 17 rfl rfl)
theorem dX7_carriesOut_119 : decode cX7_carriesOut 119 = .ok (.aload_n 0, 1) := dk_42 (dk_at dksX7_carriesOut_4 20 rfl rfl)
theorem dX7_carriesOut_120 : decode cX7_carriesOut 120 = .ok (.bipush 27, 2) := dk_16 27 (dk_at dksX7_carriesOut_4 21 rfl rfl)
theorem dX7_carriesOut_122 : decode cX7_carriesOut 122 = .ok (.lconst 1, 1) := dk_10 (dk_at dksX7_carriesOut_4 23 rfl rfl)
theorem dX7_carriesOut_123 : decode cX7_carriesOut 123 = .ok (.ldc2_w 134, 3) := dk_20 0 134 (dk_at dksX7_carriesOut_5 0 rfl rfl)
theorem dX7_carriesOut_126 : decode cX7_carriesOut 126 = .ok (.iload 4, 2) := dk_21 4 (dk_at dksX7_carriesOut_5 3 rfl rfl)
theorem dX7_carriesOut_128 : decode cX7_carriesOut 128 = .ok (.invokevirtual 136, 3) := dk_182 0 136 (dk_at dksX7_carriesOut_5 5 rfl rfl)
theorem dX7_carriesOut_131 : decode cX7_carriesOut 131 = .ok (.ifCond .eq 7, 3) := dk_153 0 7 (dk_at dksX7_carriesOut_5 8 rfl rfl)
theorem dX7_carriesOut_134 : decode cX7_carriesOut 134 = .ok (.iconst 1, 1) := dk_4 (dk_at dksX7_carriesOut_5 11 rfl rfl)
theorem dX7_carriesOut_135 : decode cX7_carriesOut 135 = .ok (.goto 4, 3) := dk_167 0 4 (dk_at dksX7_carriesOut_5 12 rfl rfl)
theorem dX7_carriesOut_138 : decode cX7_carriesOut 138 = .ok (.iconst 0, 1) := dk_3 (dk_at dksX7_carriesOut_5 15 rfl rfl)
theorem dX7_carriesOut_139 : decode cX7_carriesOut 139 = .ok (.ireturn, 1) := dk_172 (dk_at dksX7_carriesOut_5 16 rfl rfl)
theorem dX7_carriesOut_140 : decode cX7_carriesOut 140 = .ok (.aload_n 0, 1) := dk_42 (dk_at dksX7_carriesOut_5 17 rfl rfl)
theorem dX7_carriesOut_141 : decode cX7_carriesOut 141 = .ok (.iload_n 1, 1) := dk_27 (dk_at dksX7_carriesOut_5 18 rfl rfl)
theorem dX7_carriesOut_142 : decode cX7_carriesOut 142 = .ok (.iload_n 2, 1) := dk_28 (dk_at dksX7_carriesOut_5 19 rfl rfl)
theorem dX7_carriesOut_143 : decode cX7_carriesOut 143 = .ok (.iload_n 3, 1) := dk_29 (dk_at dksX7_carriesOut_5 20 rfl rfl)
theorem dX7_carriesOut_144 : decode cX7_carriesOut 144 = .ok (.iload 4, 2) := dk_21 4 (dk_at dksX7_carriesOut_5 21 rfl rfl)
theorem dX7_carriesOut_146 : decode cX7_carriesOut 146 = .ok (.invokevirtual 131, 3) := dk_182 0 131 (dk_at dksX7_carriesOut_6 0 rfl rfl)
theorem dX7_carriesOut_149 : decode cX7_carriesOut 149 = .ok (.ireturn, 1) := dk_172 (dk_at dksX7_carriesOut_6 3 rfl rfl)
abbrev cX7_adds : ByteArray := prog_42_method_23_code
def yX7_adds : MethodName := ⟨RX7, "adds", "(IIII)Z"⟩
def dkwX7_adds_3 : List UInt8 := [42, 21, 4, 182, 0, 118, 172]
abbrev dktX7_adds_3 : List UInt8 := dkwX7_adds_3 ++ []
def dkwX7_adds_2 : List UInt8 := [105, 97, 80, 132, 5, 1, 167, 255, 209, 42, 42, 27, 182, 0, 114, 42, 28, 182, 0, 114, 105, 181, 0, 34]
abbrev dktX7_adds_2 : List UInt8 := dkwX7_adds_2 ++ dktX7_adds_3
def dkwX7_adds_1 : List UInt8 := [182, 0, 94, 42, 28, 182, 0, 114, 105, 29, 133, 42, 28, 21, 5, 182, 0, 94, 105, 42, 27, 182, 0, 114]
abbrev dktX7_adds_1 : List UInt8 := dkwX7_adds_1 ++ dktX7_adds_2
def dkwX7_adds_0 : List UInt8 := [42, 182, 0, 105, 3, 54, 5, 21, 5, 16, 32, 162, 0, 46, 42, 180, 0, 31, 21, 5, 42, 27, 21, 5]
abbrev dktX7_adds_0 : List UInt8 := dkwX7_adds_0 ++ dktX7_adds_1
theorem dksX7_adds_0 : cX7_adds.data.toList.drop 0 = dktX7_adds_0 := by decide +kernel
theorem dksX7_adds_1 : cX7_adds.data.toList.drop 24 = dktX7_adds_1 := dk_seg dksX7_adds_0 24 rfl rfl
theorem dksX7_adds_2 : cX7_adds.data.toList.drop 48 = dktX7_adds_2 := dk_seg dksX7_adds_1 24 rfl rfl
theorem dksX7_adds_3 : cX7_adds.data.toList.drop 72 = dktX7_adds_3 := dk_seg dksX7_adds_2 24 rfl rfl
theorem dX7_adds_0 : decode cX7_adds 0 = .ok (.aload_n 0, 1) := dk_42 (dk_at dksX7_adds_0 0 rfl rfl)
theorem dX7_adds_1 : decode cX7_adds 1 = .ok (.invokevirtual 105, 3) := dk_182 0 105 (dk_at dksX7_adds_0 1 rfl rfl)
theorem dX7_adds_4 : decode cX7_adds 4 = .ok (.iconst 0, 1) := dk_3 (dk_at dksX7_adds_0 4 rfl rfl)
theorem dX7_adds_5 : decode cX7_adds 5 = .ok (.istore 5, 2) := dk_54 5 (dk_at dksX7_adds_0 5 rfl rfl)
theorem dX7_adds_7 : decode cX7_adds 7 = .ok (.iload 5, 2) := dk_21 5 (dk_at dksX7_adds_0 7 rfl rfl)
theorem dX7_adds_9 : decode cX7_adds 9 = .ok (.bipush 32, 2) := dk_16 32 (dk_at dksX7_adds_0 9 rfl rfl)
theorem dX7_adds_11 : decode cX7_adds 11 = .ok (.if_icmp .ge 46, 3) := dk_162 0 46 (dk_at dksX7_adds_0 11 rfl rfl)
theorem dX7_adds_14 : decode cX7_adds 14 = .ok (.aload_n 0, 1) := dk_42 (dk_at dksX7_adds_0 14 rfl rfl)
theorem dX7_adds_15 : decode cX7_adds 15 = .ok (.getfield 31, 3) := dk_180 0 31 (dk_at dksX7_adds_0 15 rfl rfl)
theorem dX7_adds_18 : decode cX7_adds 18 = .ok (.iload 5, 2) := dk_21 5 (dk_at dksX7_adds_0 18 rfl rfl)
theorem dX7_adds_20 : decode cX7_adds 20 = .ok (.aload_n 0, 1) := dk_42 (dk_at dksX7_adds_0 20 rfl rfl)
theorem dX7_adds_21 : decode cX7_adds 21 = .ok (.iload_n 1, 1) := dk_27 (dk_at dksX7_adds_0 21 rfl rfl)
theorem dX7_adds_22 : decode cX7_adds 22 = .ok (.iload 5, 2) := dk_21 5 (dk_at dksX7_adds_0 22 rfl rfl)
theorem dX7_adds_24 : decode cX7_adds 24 = .ok (.invokevirtual 94, 3) := dk_182 0 94 (dk_at dksX7_adds_1 0 rfl rfl)
theorem dX7_adds_27 : decode cX7_adds 27 = .ok (.aload_n 0, 1) := dk_42 (dk_at dksX7_adds_1 3 rfl rfl)
theorem dX7_adds_28 : decode cX7_adds 28 = .ok (.iload_n 2, 1) := dk_28 (dk_at dksX7_adds_1 4 rfl rfl)
theorem dX7_adds_29 : decode cX7_adds 29 = .ok (.invokevirtual 114, 3) := dk_182 0 114 (dk_at dksX7_adds_1 5 rfl rfl)
theorem dX7_adds_32 : decode cX7_adds 32 = .ok (.lmul, 1) := dk_105 (dk_at dksX7_adds_1 8 rfl rfl)
theorem dX7_adds_33 : decode cX7_adds 33 = .ok (.iload_n 3, 1) := dk_29 (dk_at dksX7_adds_1 9 rfl rfl)
theorem dX7_adds_34 : decode cX7_adds 34 = .ok (.i2l, 1) := dk_133 (dk_at dksX7_adds_1 10 rfl rfl)
theorem dX7_adds_35 : decode cX7_adds 35 = .ok (.aload_n 0, 1) := dk_42 (dk_at dksX7_adds_1 11 rfl rfl)
theorem dX7_adds_36 : decode cX7_adds 36 = .ok (.iload_n 2, 1) := dk_28 (dk_at dksX7_adds_1 12 rfl rfl)
theorem dX7_adds_37 : decode cX7_adds 37 = .ok (.iload 5, 2) := dk_21 5 (dk_at dksX7_adds_1 13 rfl rfl)
theorem dX7_adds_39 : decode cX7_adds 39 = .ok (.invokevirtual 94, 3) := dk_182 0 94 (dk_at dksX7_adds_1 15 rfl rfl)
theorem dX7_adds_42 : decode cX7_adds 42 = .ok (.lmul, 1) := dk_105 (dk_at dksX7_adds_1 18 rfl rfl)
theorem dX7_adds_43 : decode cX7_adds 43 = .ok (.aload_n 0, 1) := dk_42 (dk_at dksX7_adds_1 19 rfl rfl)
theorem dX7_adds_44 : decode cX7_adds 44 = .ok (.iload_n 1, 1) := dk_27 (dk_at dksX7_adds_1 20 rfl rfl)
theorem dX7_adds_45 : decode cX7_adds 45 = .ok (.invokevirtual 114, 3) := dk_182 0 114 (dk_at dksX7_adds_1 21 rfl rfl)
theorem dX7_adds_48 : decode cX7_adds 48 = .ok (.lmul, 1) := dk_105 (dk_at dksX7_adds_2 0 rfl rfl)
theorem dX7_adds_49 : decode cX7_adds 49 = .ok (.ladd, 1) := dk_97 (dk_at dksX7_adds_2 1 rfl rfl)
theorem dX7_adds_50 : decode cX7_adds 50 = .ok (.lastore, 1) := dk_80 (dk_at dksX7_adds_2 2 rfl rfl)
theorem dX7_adds_51 : decode cX7_adds 51 = .ok (.iinc 5 1, 3) := dk_132 5 1 (dk_at dksX7_adds_2 3 rfl rfl)
theorem dX7_adds_54 : decode cX7_adds 54 = .ok (.goto (-47), 3) := dk_167 255 209 (dk_at dksX7_adds_2 6 rfl rfl)
theorem dX7_adds_57 : decode cX7_adds 57 = .ok (.aload_n 0, 1) := dk_42 (dk_at dksX7_adds_2 9 rfl rfl)
theorem dX7_adds_58 : decode cX7_adds 58 = .ok (.aload_n 0, 1) := dk_42 (dk_at dksX7_adds_2 10 rfl rfl)
theorem dX7_adds_59 : decode cX7_adds 59 = .ok (.iload_n 1, 1) := dk_27 (dk_at dksX7_adds_2 11 rfl rfl)
theorem dX7_adds_60 : decode cX7_adds 60 = .ok (.invokevirtual 114, 3) := dk_182 0 114 (dk_at dksX7_adds_2 12 rfl rfl)
theorem dX7_adds_63 : decode cX7_adds 63 = .ok (.aload_n 0, 1) := dk_42 (dk_at dksX7_adds_2 15 rfl rfl)
theorem dX7_adds_64 : decode cX7_adds 64 = .ok (.iload_n 2, 1) := dk_28 (dk_at dksX7_adds_2 16 rfl rfl)
theorem dX7_adds_65 : decode cX7_adds 65 = .ok (.invokevirtual 114, 3) := dk_182 0 114 (dk_at dksX7_adds_2 17 rfl rfl)
theorem dX7_adds_68 : decode cX7_adds 68 = .ok (.lmul, 1) := dk_105 (dk_at dksX7_adds_2 20 rfl rfl)
theorem dX7_adds_69 : decode cX7_adds 69 = .ok (.putfield 34, 3) := dk_181 0 34 (dk_at dksX7_adds_2 21 rfl rfl)
theorem dX7_adds_72 : decode cX7_adds 72 = .ok (.aload_n 0, 1) := dk_42 (dk_at dksX7_adds_3 0 rfl rfl)
theorem dX7_adds_73 : decode cX7_adds 73 = .ok (.iload 4, 2) := dk_21 4 (dk_at dksX7_adds_3 1 rfl rfl)
theorem dX7_adds_75 : decode cX7_adds 75 = .ok (.invokevirtual 118, 3) := dk_182 0 118 (dk_at dksX7_adds_3 3 rfl rfl)
theorem dX7_adds_78 : decode cX7_adds 78 = .ok (.ireturn, 1) := dk_172 (dk_at dksX7_adds_3 6 rfl rfl)
abbrev cX7_clearsMade : ByteArray := prog_42_method_11_code
def yX7_clearsMade : MethodName := ⟨RX7, "clearsMade", "()V"⟩
def dkwX7_clearsMade_1 : List UInt8 := [181, 0, 34, 177]
abbrev dktX7_clearsMade_1 : List UInt8 := dkwX7_clearsMade_1 ++ []
def dkwX7_clearsMade_0 : List UInt8 := [3, 60, 27, 16, 32, 162, 0, 16, 42, 180, 0, 31, 27, 9, 80, 132, 1, 1, 167, 255, 240, 42, 10]
abbrev dktX7_clearsMade_0 : List UInt8 := dkwX7_clearsMade_0 ++ dktX7_clearsMade_1
theorem dksX7_clearsMade_0 : cX7_clearsMade.data.toList.drop 0 = dktX7_clearsMade_0 := by decide +kernel
theorem dksX7_clearsMade_1 : cX7_clearsMade.data.toList.drop 23 = dktX7_clearsMade_1 := dk_seg dksX7_clearsMade_0 23 rfl rfl
theorem dX7_clearsMade_0 : decode cX7_clearsMade 0 = .ok (.iconst 0, 1) := dk_3 (dk_at dksX7_clearsMade_0 0 rfl rfl)
theorem dX7_clearsMade_1 : decode cX7_clearsMade 1 = .ok (.istore_n 1, 1) := dk_60 (dk_at dksX7_clearsMade_0 1 rfl rfl)
theorem dX7_clearsMade_2 : decode cX7_clearsMade 2 = .ok (.iload_n 1, 1) := dk_27 (dk_at dksX7_clearsMade_0 2 rfl rfl)
theorem dX7_clearsMade_3 : decode cX7_clearsMade 3 = .ok (.bipush 32, 2) := dk_16 32 (dk_at dksX7_clearsMade_0 3 rfl rfl)
theorem dX7_clearsMade_5 : decode cX7_clearsMade 5 = .ok (.if_icmp .ge 16, 3) := dk_162 0 16 (dk_at dksX7_clearsMade_0 5 rfl rfl)
theorem dX7_clearsMade_8 : decode cX7_clearsMade 8 = .ok (.aload_n 0, 1) := dk_42 (dk_at dksX7_clearsMade_0 8 rfl rfl)
theorem dX7_clearsMade_9 : decode cX7_clearsMade 9 = .ok (.getfield 31, 3) := dk_180 0 31 (dk_at dksX7_clearsMade_0 9 rfl rfl)
theorem dX7_clearsMade_12 : decode cX7_clearsMade 12 = .ok (.iload_n 1, 1) := dk_27 (dk_at dksX7_clearsMade_0 12 rfl rfl)
theorem dX7_clearsMade_13 : decode cX7_clearsMade 13 = .ok (.lconst 0, 1) := dk_9 (dk_at dksX7_clearsMade_0 13 rfl rfl)
theorem dX7_clearsMade_14 : decode cX7_clearsMade 14 = .ok (.lastore, 1) := dk_80 (dk_at dksX7_clearsMade_0 14 rfl rfl)
theorem dX7_clearsMade_15 : decode cX7_clearsMade 15 = .ok (.iinc 1 1, 3) := dk_132 1 1 (dk_at dksX7_clearsMade_0 15 rfl rfl)
theorem dX7_clearsMade_18 : decode cX7_clearsMade 18 = .ok (.goto (-16), 3) := dk_167 255 240 (dk_at dksX7_clearsMade_0 18 rfl rfl)
theorem dX7_clearsMade_21 : decode cX7_clearsMade 21 = .ok (.aload_n 0, 1) := dk_42 (dk_at dksX7_clearsMade_0 21 rfl rfl)
theorem dX7_clearsMade_22 : decode cX7_clearsMade 22 = .ok (.lconst 1, 1) := dk_10 (dk_at dksX7_clearsMade_0 22 rfl rfl)
theorem dX7_clearsMade_23 : decode cX7_clearsMade 23 = .ok (.putfield 34, 3) := dk_181 0 34 (dk_at dksX7_clearsMade_1 0 rfl rfl)
theorem dX7_clearsMade_26 : decode cX7_clearsMade 26 = .ok (.return_, 1) := dk_177 (dk_at dksX7_clearsMade_1 3 rfl rfl)
abbrev cX7_of : ByteArray := prog_42_method_9_code
def yX7_of : MethodName := ⟨RX7, "of", "(II)J"⟩
def dkwX7_of_0 : List UInt8 := [42, 180, 0, 27, 16, 33, 27, 104, 4, 96, 28, 96, 47, 173]
abbrev dktX7_of_0 : List UInt8 := dkwX7_of_0 ++ []
theorem dksX7_of_0 : cX7_of.data.toList.drop 0 = dktX7_of_0 := by decide +kernel
theorem dX7_of_0 : decode cX7_of 0 = .ok (.aload_n 0, 1) := dk_42 (dk_at dksX7_of_0 0 rfl rfl)
theorem dX7_of_1 : decode cX7_of 1 = .ok (.getfield 27, 3) := dk_180 0 27 (dk_at dksX7_of_0 1 rfl rfl)
theorem dX7_of_4 : decode cX7_of 4 = .ok (.bipush 33, 2) := dk_16 33 (dk_at dksX7_of_0 4 rfl rfl)
theorem dX7_of_6 : decode cX7_of 6 = .ok (.iload_n 1, 1) := dk_27 (dk_at dksX7_of_0 6 rfl rfl)
theorem dX7_of_7 : decode cX7_of 7 = .ok (.imul, 1) := dk_104 (dk_at dksX7_of_0 7 rfl rfl)
theorem dX7_of_8 : decode cX7_of 8 = .ok (.iconst 1, 1) := dk_4 (dk_at dksX7_of_0 8 rfl rfl)
theorem dX7_of_9 : decode cX7_of 9 = .ok (.iadd, 1) := dk_96 (dk_at dksX7_of_0 9 rfl rfl)
theorem dX7_of_10 : decode cX7_of 10 = .ok (.iload_n 2, 1) := dk_28 (dk_at dksX7_of_0 10 rfl rfl)
theorem dX7_of_11 : decode cX7_of 11 = .ok (.iadd, 1) := dk_96 (dk_at dksX7_of_0 11 rfl rfl)
theorem dX7_of_12 : decode cX7_of 12 = .ok (.laload, 1) := dk_47 (dk_at dksX7_of_0 12 rfl rfl)
theorem dX7_of_13 : decode cX7_of 13 = .ok (.lreturn, 1) := dk_173 (dk_at dksX7_of_0 13 rfl rfl)
abbrev cX7_under : ByteArray := prog_42_method_10_code
def yX7_under : MethodName := ⟨RX7, "under", "(I)J"⟩
def dkwX7_under_0 : List UInt8 := [42, 180, 0, 27, 16, 33, 27, 104, 47, 173]
abbrev dktX7_under_0 : List UInt8 := dkwX7_under_0 ++ []
theorem dksX7_under_0 : cX7_under.data.toList.drop 0 = dktX7_under_0 := by decide +kernel
theorem dX7_under_0 : decode cX7_under 0 = .ok (.aload_n 0, 1) := dk_42 (dk_at dksX7_under_0 0 rfl rfl)
theorem dX7_under_1 : decode cX7_under 1 = .ok (.getfield 27, 3) := dk_180 0 27 (dk_at dksX7_under_0 1 rfl rfl)
theorem dX7_under_4 : decode cX7_under 4 = .ok (.bipush 33, 2) := dk_16 33 (dk_at dksX7_under_0 4 rfl rfl)
theorem dX7_under_6 : decode cX7_under 6 = .ok (.iload_n 1, 1) := dk_27 (dk_at dksX7_under_0 6 rfl rfl)
theorem dX7_under_7 : decode cX7_under 7 = .ok (.imul, 1) := dk_104 (dk_at dksX7_under_0 7 rfl rfl)
theorem dX7_under_8 : decode cX7_under 8 = .ok (.laload, 1) := dk_47 (dk_at dksX7_under_0 8 rfl rfl)
theorem dX7_under_9 : decode cX7_under 9 = .ok (.lreturn, 1) := dk_173 (dk_at dksX7_under_0 9 rfl rfl)
abbrev cX7_puts : ByteArray := prog_42_method_14_code
def yX7_puts : MethodName := ⟨RX7, "puts", "(I)Z"⟩
def dkwX7_puts_5 : List UInt8 := [4, 96, 21, 5, 96, 42, 180, 0, 31, 21, 5, 47, 32, 109, 80, 132, 5, 1, 167, 255, 223, 4, 172]
abbrev dktX7_puts_5 : List UInt8 := dkwX7_puts_5 ++ []
def dkwX7_puts_4 : List UInt8 := [180, 0, 34, 32, 109, 80, 3, 54, 5, 21, 5, 16, 32, 162, 0, 32, 42, 180, 0, 27, 16, 33, 27, 104]
abbrev dktX7_puts_4 : List UInt8 := dkwX7_puts_4 ++ dktX7_puts_5
def dkwX7_puts_3 : List UInt8 := [54, 4, 132, 5, 1, 167, 255, 227, 21, 4, 154, 0, 5, 3, 172, 42, 180, 0, 27, 16, 33, 27, 104, 42]
abbrev dktX7_puts_3 : List UInt8 := dkwX7_puts_3 ++ dktX7_puts_4
def dkwX7_puts_2 : List UInt8 := [21, 5, 16, 32, 162, 0, 28, 21, 4, 153, 0, 23, 42, 180, 0, 31, 21, 5, 47, 32, 109, 184, 0, 82]
abbrev dktX7_puts_2 : List UInt8 := dkwX7_puts_2 ++ dktX7_puts_3
def dkwX7_puts_1 : List UInt8 := [184, 0, 78, 65, 132, 4, 1, 167, 255, 234, 42, 180, 0, 34, 32, 109, 184, 0, 82, 54, 4, 3, 54, 5]
abbrev dktX7_puts_1 : List UInt8 := dkwX7_puts_1 ++ dktX7_puts_2
def dkwX7_puts_0 : List UInt8 := [42, 180, 0, 34, 65, 3, 54, 4, 21, 4, 16, 32, 162, 0, 21, 32, 42, 180, 0, 31, 21, 4, 47]
abbrev dktX7_puts_0 : List UInt8 := dkwX7_puts_0 ++ dktX7_puts_1
theorem dksX7_puts_0 : cX7_puts.data.toList.drop 0 = dktX7_puts_0 := by decide +kernel
theorem dksX7_puts_1 : cX7_puts.data.toList.drop 23 = dktX7_puts_1 := dk_seg dksX7_puts_0 23 rfl rfl
theorem dksX7_puts_2 : cX7_puts.data.toList.drop 47 = dktX7_puts_2 := dk_seg dksX7_puts_1 24 rfl rfl
theorem dksX7_puts_3 : cX7_puts.data.toList.drop 71 = dktX7_puts_3 := dk_seg dksX7_puts_2 24 rfl rfl
theorem dksX7_puts_4 : cX7_puts.data.toList.drop 95 = dktX7_puts_4 := dk_seg dksX7_puts_3 24 rfl rfl
theorem dksX7_puts_5 : cX7_puts.data.toList.drop 119 = dktX7_puts_5 := dk_seg dksX7_puts_4 24 rfl rfl
theorem dX7_puts_0 : decode cX7_puts 0 = .ok (.aload_n 0, 1) := dk_42 (dk_at dksX7_puts_0 0 rfl rfl)
theorem dX7_puts_1 : decode cX7_puts 1 = .ok (.getfield 34, 3) := dk_180 0 34 (dk_at dksX7_puts_0 1 rfl rfl)
theorem dX7_puts_4 : decode cX7_puts 4 = .ok (.lstore_n 2, 1) := dk_65 (dk_at dksX7_puts_0 4 rfl rfl)
theorem dX7_puts_5 : decode cX7_puts 5 = .ok (.iconst 0, 1) := dk_3 (dk_at dksX7_puts_0 5 rfl rfl)
theorem dX7_puts_6 : decode cX7_puts 6 = .ok (.istore 4, 2) := dk_54 4 (dk_at dksX7_puts_0 6 rfl rfl)
theorem dX7_puts_8 : decode cX7_puts 8 = .ok (.iload 4, 2) := dk_21 4 (dk_at dksX7_puts_0 8 rfl rfl)
theorem dX7_puts_10 : decode cX7_puts 10 = .ok (.bipush 32, 2) := dk_16 32 (dk_at dksX7_puts_0 10 rfl rfl)
theorem dX7_puts_12 : decode cX7_puts 12 = .ok (.if_icmp .ge 21, 3) := dk_162 0 21 (dk_at dksX7_puts_0 12 rfl rfl)
theorem dX7_puts_15 : decode cX7_puts 15 = .ok (.lload_n 2, 1) := dk_32 (dk_at dksX7_puts_0 15 rfl rfl)
theorem dX7_puts_16 : decode cX7_puts 16 = .ok (.aload_n 0, 1) := dk_42 (dk_at dksX7_puts_0 16 rfl rfl)
theorem dX7_puts_17 : decode cX7_puts 17 = .ok (.getfield 31, 3) := dk_180 0 31 (dk_at dksX7_puts_0 17 rfl rfl)
theorem dX7_puts_20 : decode cX7_puts 20 = .ok (.iload 4, 2) := dk_21 4 (dk_at dksX7_puts_0 20 rfl rfl)
theorem dX7_puts_22 : decode cX7_puts 22 = .ok (.laload, 1) := dk_47 (dk_at dksX7_puts_0 22 rfl rfl)
theorem dX7_puts_23 : decode cX7_puts 23 = .ok (.invokestatic 78, 3) := dk_184 0 78 (dk_at dksX7_puts_1 0 rfl rfl)
theorem dX7_puts_26 : decode cX7_puts 26 = .ok (.lstore_n 2, 1) := dk_65 (dk_at dksX7_puts_1 3 rfl rfl)
theorem dX7_puts_27 : decode cX7_puts 27 = .ok (.iinc 4 1, 3) := dk_132 4 1 (dk_at dksX7_puts_1 4 rfl rfl)
theorem dX7_puts_30 : decode cX7_puts 30 = .ok (.goto (-22), 3) := dk_167 255 234 (dk_at dksX7_puts_1 7 rfl rfl)
theorem dX7_puts_33 : decode cX7_puts 33 = .ok (.aload_n 0, 1) := dk_42 (dk_at dksX7_puts_1 10 rfl rfl)
theorem dX7_puts_34 : decode cX7_puts 34 = .ok (.getfield 34, 3) := dk_180 0 34 (dk_at dksX7_puts_1 11 rfl rfl)
theorem dX7_puts_37 : decode cX7_puts 37 = .ok (.lload_n 2, 1) := dk_32 (dk_at dksX7_puts_1 14 rfl rfl)
theorem dX7_puts_38 : decode cX7_puts 38 = .ok (.ldiv, 1) := dk_109 (dk_at dksX7_puts_1 15 rfl rfl)
theorem dX7_puts_39 : decode cX7_puts 39 = .ok (.invokestatic 82, 3) := dk_184 0 82 (dk_at dksX7_puts_1 16 rfl rfl)
theorem dX7_puts_42 : decode cX7_puts 42 = .ok (.istore 4, 2) := dk_54 4 (dk_at dksX7_puts_1 19 rfl rfl)
theorem dX7_puts_44 : decode cX7_puts 44 = .ok (.iconst 0, 1) := dk_3 (dk_at dksX7_puts_1 21 rfl rfl)
theorem dX7_puts_45 : decode cX7_puts 45 = .ok (.istore 5, 2) := dk_54 5 (dk_at dksX7_puts_1 22 rfl rfl)
theorem dX7_puts_47 : decode cX7_puts 47 = .ok (.iload 5, 2) := dk_21 5 (dk_at dksX7_puts_2 0 rfl rfl)
theorem dX7_puts_49 : decode cX7_puts 49 = .ok (.bipush 32, 2) := dk_16 32 (dk_at dksX7_puts_2 2 rfl rfl)
theorem dX7_puts_51 : decode cX7_puts 51 = .ok (.if_icmp .ge 28, 3) := dk_162 0 28 (dk_at dksX7_puts_2 4 rfl rfl)
theorem dX7_puts_54 : decode cX7_puts 54 = .ok (.iload 4, 2) := dk_21 4 (dk_at dksX7_puts_2 7 rfl rfl)
theorem dX7_puts_56 : decode cX7_puts 56 = .ok (.ifCond .eq 23, 3) := dk_153 0 23 (dk_at dksX7_puts_2 9 rfl rfl)
theorem dX7_puts_59 : decode cX7_puts 59 = .ok (.aload_n 0, 1) := dk_42 (dk_at dksX7_puts_2 12 rfl rfl)
theorem dX7_puts_60 : decode cX7_puts 60 = .ok (.getfield 31, 3) := dk_180 0 31 (dk_at dksX7_puts_2 13 rfl rfl)
theorem dX7_puts_63 : decode cX7_puts 63 = .ok (.iload 5, 2) := dk_21 5 (dk_at dksX7_puts_2 16 rfl rfl)
theorem dX7_puts_65 : decode cX7_puts 65 = .ok (.laload, 1) := dk_47 (dk_at dksX7_puts_2 18 rfl rfl)
theorem dX7_puts_66 : decode cX7_puts 66 = .ok (.lload_n 2, 1) := dk_32 (dk_at dksX7_puts_2 19 rfl rfl)
theorem dX7_puts_67 : decode cX7_puts 67 = .ok (.ldiv, 1) := dk_109 (dk_at dksX7_puts_2 20 rfl rfl)
theorem dX7_puts_68 : decode cX7_puts 68 = .ok (.invokestatic 82, 3) := dk_184 0 82 (dk_at dksX7_puts_2 21 rfl rfl)
theorem dX7_puts_71 : decode cX7_puts 71 = .ok (.istore 4, 2) := dk_54 4 (dk_at dksX7_puts_3 0 rfl rfl)
theorem dX7_puts_73 : decode cX7_puts 73 = .ok (.iinc 5 1, 3) := dk_132 5 1 (dk_at dksX7_puts_3 2 rfl rfl)
theorem dX7_puts_76 : decode cX7_puts 76 = .ok (.goto (-29), 3) := dk_167 255 227 (dk_at dksX7_puts_3 5 rfl rfl)
theorem dX7_puts_79 : decode cX7_puts 79 = .ok (.iload 4, 2) := dk_21 4 (dk_at dksX7_puts_3 8 rfl rfl)
theorem dX7_puts_81 : decode cX7_puts 81 = .ok (.ifCond .ne 5, 3) := dk_154 0 5 (dk_at dksX7_puts_3 10 rfl rfl)
theorem dX7_puts_84 : decode cX7_puts 84 = .ok (.iconst 0, 1) := dk_3 (dk_at dksX7_puts_3 13 rfl rfl)
theorem dX7_puts_85 : decode cX7_puts 85 = .ok (.ireturn, 1) := dk_172 (dk_at dksX7_puts_3 14 rfl rfl)
theorem dX7_puts_86 : decode cX7_puts 86 = .ok (.aload_n 0, 1) := dk_42 (dk_at dksX7_puts_3 15 rfl rfl)
theorem dX7_puts_87 : decode cX7_puts 87 = .ok (.getfield 27, 3) := dk_180 0 27 (dk_at dksX7_puts_3 16 rfl rfl)
theorem dX7_puts_90 : decode cX7_puts 90 = .ok (.bipush 33, 2) := dk_16 33 (dk_at dksX7_puts_3 19 rfl rfl)
theorem dX7_puts_92 : decode cX7_puts 92 = .ok (.iload_n 1, 1) := dk_27 (dk_at dksX7_puts_3 21 rfl rfl)
theorem dX7_puts_93 : decode cX7_puts 93 = .ok (.imul, 1) := dk_104 (dk_at dksX7_puts_3 22 rfl rfl)
theorem dX7_puts_94 : decode cX7_puts 94 = .ok (.aload_n 0, 1) := dk_42 (dk_at dksX7_puts_3 23 rfl rfl)
theorem dX7_puts_95 : decode cX7_puts 95 = .ok (.getfield 34, 3) := dk_180 0 34 (dk_at dksX7_puts_4 0 rfl rfl)
theorem dX7_puts_98 : decode cX7_puts 98 = .ok (.lload_n 2, 1) := dk_32 (dk_at dksX7_puts_4 3 rfl rfl)
theorem dX7_puts_99 : decode cX7_puts 99 = .ok (.ldiv, 1) := dk_109 (dk_at dksX7_puts_4 4 rfl rfl)
theorem dX7_puts_100 : decode cX7_puts 100 = .ok (.lastore, 1) := dk_80 (dk_at dksX7_puts_4 5 rfl rfl)
theorem dX7_puts_101 : decode cX7_puts 101 = .ok (.iconst 0, 1) := dk_3 (dk_at dksX7_puts_4 6 rfl rfl)
theorem dX7_puts_102 : decode cX7_puts 102 = .ok (.istore 5, 2) := dk_54 5 (dk_at dksX7_puts_4 7 rfl rfl)
theorem dX7_puts_104 : decode cX7_puts 104 = .ok (.iload 5, 2) := dk_21 5 (dk_at dksX7_puts_4 9 rfl rfl)
theorem dX7_puts_106 : decode cX7_puts 106 = .ok (.bipush 32, 2) := dk_16 32 (dk_at dksX7_puts_4 11 rfl rfl)
theorem dX7_puts_108 : decode cX7_puts 108 = .ok (.if_icmp .ge 32, 3) := dk_162 0 32 (dk_at dksX7_puts_4 13 rfl rfl)
theorem dX7_puts_111 : decode cX7_puts 111 = .ok (.aload_n 0, 1) := dk_42 (dk_at dksX7_puts_4 16 rfl rfl)
theorem dX7_puts_112 : decode cX7_puts 112 = .ok (.getfield 27, 3) := dk_180 0 27 (dk_at dksX7_puts_4 17 rfl rfl)
theorem dX7_puts_115 : decode cX7_puts 115 = .ok (.bipush 33, 2) := dk_16 33 (dk_at dksX7_puts_4 20 rfl rfl)
theorem dX7_puts_117 : decode cX7_puts 117 = .ok (.iload_n 1, 1) := dk_27 (dk_at dksX7_puts_4 22 rfl rfl)
theorem dX7_puts_118 : decode cX7_puts 118 = .ok (.imul, 1) := dk_104 (dk_at dksX7_puts_4 23 rfl rfl)
theorem dX7_puts_119 : decode cX7_puts 119 = .ok (.iconst 1, 1) := dk_4 (dk_at dksX7_puts_5 0 rfl rfl)
theorem dX7_puts_120 : decode cX7_puts 120 = .ok (.iadd, 1) := dk_96 (dk_at dksX7_puts_5 1 rfl rfl)
theorem dX7_puts_121 : decode cX7_puts 121 = .ok (.iload 5, 2) := dk_21 5 (dk_at dksX7_puts_5 2 rfl rfl)
theorem dX7_puts_123 : decode cX7_puts 123 = .ok (.iadd, 1) := dk_96 (dk_at dksX7_puts_5 4 rfl rfl)
theorem dX7_puts_124 : decode cX7_puts 124 = .ok (.aload_n 0, 1) := dk_42 (dk_at dksX7_puts_5 5 rfl rfl)
theorem dX7_puts_125 : decode cX7_puts 125 = .ok (.getfield 31, 3) := dk_180 0 31 (dk_at dksX7_puts_5 6 rfl rfl)
theorem dX7_puts_128 : decode cX7_puts 128 = .ok (.iload 5, 2) := dk_21 5 (dk_at dksX7_puts_5 9 rfl rfl)
theorem dX7_puts_130 : decode cX7_puts 130 = .ok (.laload, 1) := dk_47 (dk_at dksX7_puts_5 11 rfl rfl)
theorem dX7_puts_131 : decode cX7_puts 131 = .ok (.lload_n 2, 1) := dk_32 (dk_at dksX7_puts_5 12 rfl rfl)
theorem dX7_puts_132 : decode cX7_puts 132 = .ok (.ldiv, 1) := dk_109 (dk_at dksX7_puts_5 13 rfl rfl)
theorem dX7_puts_133 : decode cX7_puts 133 = .ok (.lastore, 1) := dk_80 (dk_at dksX7_puts_5 14 rfl rfl)
theorem dX7_puts_134 : decode cX7_puts 134 = .ok (.iinc 5 1, 3) := dk_132 5 1 (dk_at dksX7_puts_5 15 rfl rfl)
theorem dX7_puts_137 : decode cX7_puts 137 = .ok (.goto (-33), 3) := dk_167 255 223 (dk_at dksX7_puts_5 18 rfl rfl)
theorem dX7_puts_140 : decode cX7_puts 140 = .ok (.iconst 1, 1) := dk_4 (dk_at dksX7_puts_5 21 rfl rfl)
theorem dX7_puts_141 : decode cX7_puts 141 = .ok (.ireturn, 1) := dk_172 (dk_at dksX7_puts_5 22 rfl rfl)
abbrev cX7_common : ByteArray := prog_42_method_12_code
def yX7_common : MethodName := ⟨RX7, "common", "(JJ)J"⟩
def dkwX7_common_2 : List UInt8 := [22, 8, 55, 6, 167, 255, 234, 22, 4, 173]
abbrev dktX7_common_2 : List UInt8 := dkwX7_common_2 ++ []
def dkwX7_common_1 : List UInt8 := [167, 0, 4, 32, 55, 6, 22, 6, 9, 148, 153, 0, 21, 22, 4, 22, 6, 113, 55, 8, 22, 6, 55, 4]
abbrev dktX7_common_1 : List UInt8 := dkwX7_common_1 ++ dktX7_common_2
def dkwX7_common_0 : List UInt8 := [30, 9, 148, 156, 0, 8, 30, 117, 167, 0, 4, 30, 55, 4, 32, 9, 148, 156, 0, 8, 32, 117]
abbrev dktX7_common_0 : List UInt8 := dkwX7_common_0 ++ dktX7_common_1
theorem dksX7_common_0 : cX7_common.data.toList.drop 0 = dktX7_common_0 := by decide +kernel
theorem dksX7_common_1 : cX7_common.data.toList.drop 22 = dktX7_common_1 := dk_seg dksX7_common_0 22 rfl rfl
theorem dksX7_common_2 : cX7_common.data.toList.drop 46 = dktX7_common_2 := dk_seg dksX7_common_1 24 rfl rfl
theorem dX7_common_0 : decode cX7_common 0 = .ok (.lload_n 0, 1) := dk_30 (dk_at dksX7_common_0 0 rfl rfl)
theorem dX7_common_1 : decode cX7_common 1 = .ok (.lconst 0, 1) := dk_9 (dk_at dksX7_common_0 1 rfl rfl)
theorem dX7_common_2 : decode cX7_common 2 = .ok (.lcmp, 1) := dk_148 (dk_at dksX7_common_0 2 rfl rfl)
theorem dX7_common_3 : decode cX7_common 3 = .ok (.ifCond .ge 8, 3) := dk_156 0 8 (dk_at dksX7_common_0 3 rfl rfl)
theorem dX7_common_6 : decode cX7_common 6 = .ok (.lload_n 0, 1) := dk_30 (dk_at dksX7_common_0 6 rfl rfl)
theorem dX7_common_7 : decode cX7_common 7 = .ok (.lneg, 1) := dk_117 (dk_at dksX7_common_0 7 rfl rfl)
theorem dX7_common_8 : decode cX7_common 8 = .ok (.goto 4, 3) := dk_167 0 4 (dk_at dksX7_common_0 8 rfl rfl)
theorem dX7_common_11 : decode cX7_common 11 = .ok (.lload_n 0, 1) := dk_30 (dk_at dksX7_common_0 11 rfl rfl)
theorem dX7_common_12 : decode cX7_common 12 = .ok (.lstore 4, 2) := dk_55 4 (dk_at dksX7_common_0 12 rfl rfl)
theorem dX7_common_14 : decode cX7_common 14 = .ok (.lload_n 2, 1) := dk_32 (dk_at dksX7_common_0 14 rfl rfl)
theorem dX7_common_15 : decode cX7_common 15 = .ok (.lconst 0, 1) := dk_9 (dk_at dksX7_common_0 15 rfl rfl)
theorem dX7_common_16 : decode cX7_common 16 = .ok (.lcmp, 1) := dk_148 (dk_at dksX7_common_0 16 rfl rfl)
theorem dX7_common_17 : decode cX7_common 17 = .ok (.ifCond .ge 8, 3) := dk_156 0 8 (dk_at dksX7_common_0 17 rfl rfl)
theorem dX7_common_20 : decode cX7_common 20 = .ok (.lload_n 2, 1) := dk_32 (dk_at dksX7_common_0 20 rfl rfl)
theorem dX7_common_21 : decode cX7_common 21 = .ok (.lneg, 1) := dk_117 (dk_at dksX7_common_0 21 rfl rfl)
theorem dX7_common_22 : decode cX7_common 22 = .ok (.goto 4, 3) := dk_167 0 4 (dk_at dksX7_common_1 0 rfl rfl)
theorem dX7_common_25 : decode cX7_common 25 = .ok (.lload_n 2, 1) := dk_32 (dk_at dksX7_common_1 3 rfl rfl)
theorem dX7_common_26 : decode cX7_common 26 = .ok (.lstore 6, 2) := dk_55 6 (dk_at dksX7_common_1 4 rfl rfl)
theorem dX7_common_28 : decode cX7_common 28 = .ok (.lload 6, 2) := dk_22 6 (dk_at dksX7_common_1 6 rfl rfl)
theorem dX7_common_30 : decode cX7_common 30 = .ok (.lconst 0, 1) := dk_9 (dk_at dksX7_common_1 8 rfl rfl)
theorem dX7_common_31 : decode cX7_common 31 = .ok (.lcmp, 1) := dk_148 (dk_at dksX7_common_1 9 rfl rfl)
theorem dX7_common_32 : decode cX7_common 32 = .ok (.ifCond .eq 21, 3) := dk_153 0 21 (dk_at dksX7_common_1 10 rfl rfl)
theorem dX7_common_35 : decode cX7_common 35 = .ok (.lload 4, 2) := dk_22 4 (dk_at dksX7_common_1 13 rfl rfl)
theorem dX7_common_37 : decode cX7_common 37 = .ok (.lload 6, 2) := dk_22 6 (dk_at dksX7_common_1 15 rfl rfl)
theorem dX7_common_39 : decode cX7_common 39 = .ok (.lrem, 1) := dk_113 (dk_at dksX7_common_1 17 rfl rfl)
theorem dX7_common_40 : decode cX7_common 40 = .ok (.lstore 8, 2) := dk_55 8 (dk_at dksX7_common_1 18 rfl rfl)
theorem dX7_common_42 : decode cX7_common 42 = .ok (.lload 6, 2) := dk_22 6 (dk_at dksX7_common_1 20 rfl rfl)
theorem dX7_common_44 : decode cX7_common 44 = .ok (.lstore 4, 2) := dk_55 4 (dk_at dksX7_common_1 22 rfl rfl)
theorem dX7_common_46 : decode cX7_common 46 = .ok (.lload 8, 2) := dk_22 8 (dk_at dksX7_common_2 0 rfl rfl)
theorem dX7_common_48 : decode cX7_common 48 = .ok (.lstore 6, 2) := dk_55 6 (dk_at dksX7_common_2 2 rfl rfl)
theorem dX7_common_50 : decode cX7_common 50 = .ok (.goto (-22), 3) := dk_167 255 234 (dk_at dksX7_common_2 4 rfl rfl)
theorem dX7_common_53 : decode cX7_common 53 = .ok (.lload 4, 2) := dk_22 4 (dk_at dksX7_common_2 7 rfl rfl)
theorem dX7_common_55 : decode cX7_common 55 = .ok (.lreturn, 1) := dk_173 (dk_at dksX7_common_2 9 rfl rfl)
abbrev cX7_isSmall : ByteArray := prog_42_method_13_code
def yX7_isSmall : MethodName := ⟨RX7, "isSmall", "(J)Z"⟩
def dkwX7_isSmall_0 : List UInt8 := [30, 20, 0, 74, 148, 155, 0, 15, 30, 20, 0, 76, 148, 157, 0, 7, 4, 167, 0, 4, 3, 172]
abbrev dktX7_isSmall_0 : List UInt8 := dkwX7_isSmall_0 ++ []
theorem dksX7_isSmall_0 : cX7_isSmall.data.toList.drop 0 = dktX7_isSmall_0 := by decide +kernel
theorem dX7_isSmall_0 : decode cX7_isSmall 0 = .ok (.lload_n 0, 1) := dk_30 (dk_at dksX7_isSmall_0 0 rfl rfl)
theorem dX7_isSmall_1 : decode cX7_isSmall 1 = .ok (.ldc2_w 74, 3) := dk_20 0 74 (dk_at dksX7_isSmall_0 1 rfl rfl)
theorem dX7_isSmall_4 : decode cX7_isSmall 4 = .ok (.lcmp, 1) := dk_148 (dk_at dksX7_isSmall_0 4 rfl rfl)
theorem dX7_isSmall_5 : decode cX7_isSmall 5 = .ok (.ifCond .lt 15, 3) := dk_155 0 15 (dk_at dksX7_isSmall_0 5 rfl rfl)
theorem dX7_isSmall_8 : decode cX7_isSmall 8 = .ok (.lload_n 0, 1) := dk_30 (dk_at dksX7_isSmall_0 8 rfl rfl)
theorem dX7_isSmall_9 : decode cX7_isSmall 9 = .ok (.ldc2_w 76, 3) := dk_20 0 76 (dk_at dksX7_isSmall_0 9 rfl rfl)
theorem dX7_isSmall_12 : decode cX7_isSmall 12 = .ok (.lcmp, 1) := dk_148 (dk_at dksX7_isSmall_0 12 rfl rfl)
theorem dX7_isSmall_13 : decode cX7_isSmall 13 = .ok (.ifCond .gt 7, 3) := dk_157 0 7 (dk_at dksX7_isSmall_0 13 rfl rfl)
theorem dX7_isSmall_16 : decode cX7_isSmall 16 = .ok (.iconst 1, 1) := dk_4 (dk_at dksX7_isSmall_0 16 rfl rfl)
theorem dX7_isSmall_17 : decode cX7_isSmall 17 = .ok (.goto 4, 3) := dk_167 0 4 (dk_at dksX7_isSmall_0 17 rfl rfl)
theorem dX7_isSmall_20 : decode cX7_isSmall 20 = .ok (.iconst 0, 1) := dk_3 (dk_at dksX7_isSmall_0 20 rfl rfl)
theorem dX7_isSmall_21 : decode cX7_isSmall 21 = .ok (.ireturn, 1) := dk_172 (dk_at dksX7_isSmall_0 21 rfl rfl)
abbrev cX7_meets : ByteArray := prog_42_method_26_code
def yX7_meets : MethodName := ⟨RX7, "meets", "(III)Z"⟩
def dkwX7_meets_1 : List UInt8 := [182, 0, 131, 54, 4, 21, 4, 153, 0, 11, 42, 7, 16, 27, 29, 182, 0, 140, 21, 4, 172]
abbrev dktX7_meets_1 : List UInt8 := dkwX7_meets_1 ++ []
def dkwX7_meets_0 : List UInt8 := [42, 6, 27, 16, 25, 182, 0, 140, 42, 6, 28, 16, 26, 182, 0, 140, 42, 6, 16, 25, 16, 26, 16, 27]
abbrev dktX7_meets_0 : List UInt8 := dkwX7_meets_0 ++ dktX7_meets_1
theorem dksX7_meets_0 : cX7_meets.data.toList.drop 0 = dktX7_meets_0 := by decide +kernel
theorem dksX7_meets_1 : cX7_meets.data.toList.drop 24 = dktX7_meets_1 := dk_seg dksX7_meets_0 24 rfl rfl
theorem dX7_meets_0 : decode cX7_meets 0 = .ok (.aload_n 0, 1) := dk_42 (dk_at dksX7_meets_0 0 rfl rfl)
theorem dX7_meets_1 : decode cX7_meets 1 = .ok (.iconst 3, 1) := dk_6 (dk_at dksX7_meets_0 1 rfl rfl)
theorem dX7_meets_2 : decode cX7_meets 2 = .ok (.iload_n 1, 1) := dk_27 (dk_at dksX7_meets_0 2 rfl rfl)
theorem dX7_meets_3 : decode cX7_meets 3 = .ok (.bipush 25, 2) := dk_16 25 (dk_at dksX7_meets_0 3 rfl rfl)
theorem dX7_meets_5 : decode cX7_meets 5 = .ok (.invokevirtual 140, 3) := dk_182 0 140 (dk_at dksX7_meets_0 5 rfl rfl)
theorem dX7_meets_8 : decode cX7_meets 8 = .ok (.aload_n 0, 1) := dk_42 (dk_at dksX7_meets_0 8 rfl rfl)
theorem dX7_meets_9 : decode cX7_meets 9 = .ok (.iconst 3, 1) := dk_6 (dk_at dksX7_meets_0 9 rfl rfl)
theorem dX7_meets_10 : decode cX7_meets 10 = .ok (.iload_n 2, 1) := dk_28 (dk_at dksX7_meets_0 10 rfl rfl)
theorem dX7_meets_11 : decode cX7_meets 11 = .ok (.bipush 26, 2) := dk_16 26 (dk_at dksX7_meets_0 11 rfl rfl)
theorem dX7_meets_13 : decode cX7_meets 13 = .ok (.invokevirtual 140, 3) := dk_182 0 140 (dk_at dksX7_meets_0 13 rfl rfl)
theorem dX7_meets_16 : decode cX7_meets 16 = .ok (.aload_n 0, 1) := dk_42 (dk_at dksX7_meets_0 16 rfl rfl)
theorem dX7_meets_17 : decode cX7_meets 17 = .ok (.iconst 3, 1) := dk_6 (dk_at dksX7_meets_0 17 rfl rfl)
theorem dX7_meets_18 : decode cX7_meets 18 = .ok (.bipush 25, 2) := dk_16 25 (dk_at dksX7_meets_0 18 rfl rfl)
theorem dX7_meets_20 : decode cX7_meets 20 = .ok (.bipush 26, 2) := dk_16 26 (dk_at dksX7_meets_0 20 rfl rfl)
theorem dX7_meets_22 : decode cX7_meets 22 = .ok (.bipush 27, 2) := dk_16 27 (dk_at dksX7_meets_0 22 rfl rfl)
theorem dX7_meets_24 : decode cX7_meets 24 = .ok (.invokevirtual 131, 3) := dk_182 0 131 (dk_at dksX7_meets_1 0 rfl rfl)
theorem dX7_meets_27 : decode cX7_meets 27 = .ok (.istore 4, 2) := dk_54 4 (dk_at dksX7_meets_1 3 rfl rfl)
theorem dX7_meets_29 : decode cX7_meets 29 = .ok (.iload 4, 2) := dk_21 4 (dk_at dksX7_meets_1 5 rfl rfl)
theorem dX7_meets_31 : decode cX7_meets 31 = .ok (.ifCond .eq 11, 3) := dk_153 0 11 (dk_at dksX7_meets_1 7 rfl rfl)
theorem dX7_meets_34 : decode cX7_meets 34 = .ok (.aload_n 0, 1) := dk_42 (dk_at dksX7_meets_1 10 rfl rfl)
theorem dX7_meets_35 : decode cX7_meets 35 = .ok (.iconst 4, 1) := dk_7 (dk_at dksX7_meets_1 11 rfl rfl)
theorem dX7_meets_36 : decode cX7_meets 36 = .ok (.bipush 27, 2) := dk_16 27 (dk_at dksX7_meets_1 12 rfl rfl)
theorem dX7_meets_38 : decode cX7_meets 38 = .ok (.iload_n 3, 1) := dk_29 (dk_at dksX7_meets_1 14 rfl rfl)
theorem dX7_meets_39 : decode cX7_meets 39 = .ok (.invokevirtual 140, 3) := dk_182 0 140 (dk_at dksX7_meets_1 15 rfl rfl)
theorem dX7_meets_42 : decode cX7_meets 42 = .ok (.iload 4, 2) := dk_21 4 (dk_at dksX7_meets_1 18 rfl rfl)
theorem dX7_meets_44 : decode cX7_meets 44 = .ok (.ireturn, 1) := dk_172 (dk_at dksX7_meets_1 20 rfl rfl)
abbrev cX7_turns : ByteArray := prog_42_method_29_code
def yX7_turns : MethodName := ⟨RX7, "turns", "(III)V"⟩
def dkwX7_turns_7 : List UInt8 := [42, 42, 28, 182, 0, 114, 181, 0, 34, 42, 29, 182, 0, 118, 54, 4, 177]
abbrev dktX7_turns_7 : List UInt8 := dkwX7_turns_7 ++ []
def dkwX7_turns_6 : List UInt8 := [21, 4, 184, 0, 98, 184, 0, 156, 133, 42, 28, 21, 4, 182, 0, 94, 105, 80, 132, 4, 1, 167, 255, 101]
abbrev dktX7_turns_6 : List UInt8 := dkwX7_turns_6 ++ dktX7_turns_7
def dkwX7_turns_5 : List UInt8 := [182, 0, 111, 104, 133, 42, 28, 21, 4, 182, 0, 94, 105, 80, 167, 0, 28, 42, 180, 0, 31, 21, 4, 27]
abbrev dktX7_turns_5 : List UInt8 := dkwX7_turns_5 ++ dktX7_turns_6
def dkwX7_turns_4 : List UInt8 := [180, 0, 31, 21, 5, 42, 42, 182, 0, 71, 42, 182, 0, 71, 182, 0, 111, 42, 21, 4, 42, 182, 0, 71]
abbrev dktX7_turns_4 : List UInt8 := dkwX7_turns_4 ++ dktX7_turns_5
def dkwX7_turns_3 : List UInt8 := [21, 4, 184, 0, 101, 133, 42, 28, 21, 4, 182, 0, 94, 105, 80, 167, 0, 75, 27, 8, 160, 0, 45, 42]
abbrev dktX7_turns_3 : List UInt8 := dkwX7_turns_3 ++ dktX7_turns_4
def dkwX7_turns_2 : List UInt8 := [21, 4, 182, 0, 94, 105, 80, 167, 0, 106, 27, 7, 160, 0, 29, 42, 180, 0, 31, 21, 5, 21, 5]
abbrev dktX7_turns_2 : List UInt8 := dkwX7_turns_2 ++ dktX7_turns_3
def dkwX7_turns_1 : List UInt8 := [54, 5, 27, 6, 160, 0, 29, 42, 180, 0, 31, 21, 5, 21, 4, 21, 5, 184, 0, 101, 133, 42, 28]
abbrev dktX7_turns_1 : List UInt8 := dkwX7_turns_1 ++ dktX7_turns_2
def dkwX7_turns_0 : List UInt8 := [42, 182, 0, 105, 3, 54, 4, 21, 4, 42, 182, 0, 71, 163, 0, 152, 42, 182, 0, 71, 21, 4, 130]
abbrev dktX7_turns_0 : List UInt8 := dkwX7_turns_0 ++ dktX7_turns_1
theorem dksX7_turns_0 : cX7_turns.data.toList.drop 0 = dktX7_turns_0 := by decide +kernel
theorem dksX7_turns_1 : cX7_turns.data.toList.drop 23 = dktX7_turns_1 := dk_seg dksX7_turns_0 23 rfl rfl
theorem dksX7_turns_2 : cX7_turns.data.toList.drop 46 = dktX7_turns_2 := dk_seg dksX7_turns_1 23 rfl rfl
theorem dksX7_turns_3 : cX7_turns.data.toList.drop 69 = dktX7_turns_3 := dk_seg dksX7_turns_2 23 rfl rfl
theorem dksX7_turns_4 : cX7_turns.data.toList.drop 93 = dktX7_turns_4 := dk_seg dksX7_turns_3 24 rfl rfl
theorem dksX7_turns_5 : cX7_turns.data.toList.drop 117 = dktX7_turns_5 := dk_seg dksX7_turns_4 24 rfl rfl
theorem dksX7_turns_6 : cX7_turns.data.toList.drop 141 = dktX7_turns_6 := dk_seg dksX7_turns_5 24 rfl rfl
theorem dksX7_turns_7 : cX7_turns.data.toList.drop 165 = dktX7_turns_7 := dk_seg dksX7_turns_6 24 rfl rfl
theorem dX7_turns_0 : decode cX7_turns 0 = .ok (.aload_n 0, 1) := dk_42 (dk_at dksX7_turns_0 0 rfl rfl)
theorem dX7_turns_1 : decode cX7_turns 1 = .ok (.invokevirtual 105, 3) := dk_182 0 105 (dk_at dksX7_turns_0 1 rfl rfl)
theorem dX7_turns_4 : decode cX7_turns 4 = .ok (.iconst 0, 1) := dk_3 (dk_at dksX7_turns_0 4 rfl rfl)
theorem dX7_turns_5 : decode cX7_turns 5 = .ok (.istore 4, 2) := dk_54 4 (dk_at dksX7_turns_0 5 rfl rfl)
theorem dX7_turns_7 : decode cX7_turns 7 = .ok (.iload 4, 2) := dk_21 4 (dk_at dksX7_turns_0 7 rfl rfl)
theorem dX7_turns_9 : decode cX7_turns 9 = .ok (.aload_n 0, 1) := dk_42 (dk_at dksX7_turns_0 9 rfl rfl)
theorem dX7_turns_10 : decode cX7_turns 10 = .ok (.invokevirtual 71, 3) := dk_182 0 71 (dk_at dksX7_turns_0 10 rfl rfl)
theorem dX7_turns_13 : decode cX7_turns 13 = .ok (.if_icmp .gt 152, 3) := dk_163 0 152 (dk_at dksX7_turns_0 13 rfl rfl)
theorem dX7_turns_16 : decode cX7_turns 16 = .ok (.aload_n 0, 1) := dk_42 (dk_at dksX7_turns_0 16 rfl rfl)
theorem dX7_turns_17 : decode cX7_turns 17 = .ok (.invokevirtual 71, 3) := dk_182 0 71 (dk_at dksX7_turns_0 17 rfl rfl)
theorem dX7_turns_20 : decode cX7_turns 20 = .ok (.iload 4, 2) := dk_21 4 (dk_at dksX7_turns_0 20 rfl rfl)
theorem dX7_turns_22 : decode cX7_turns 22 = .ok (.ixor, 1) := dk_130 (dk_at dksX7_turns_0 22 rfl rfl)
theorem dX7_turns_23 : decode cX7_turns 23 = .ok (.istore 5, 2) := dk_54 5 (dk_at dksX7_turns_1 0 rfl rfl)
theorem dX7_turns_25 : decode cX7_turns 25 = .ok (.iload_n 1, 1) := dk_27 (dk_at dksX7_turns_1 2 rfl rfl)
theorem dX7_turns_26 : decode cX7_turns 26 = .ok (.iconst 3, 1) := dk_6 (dk_at dksX7_turns_1 3 rfl rfl)
theorem dX7_turns_27 : decode cX7_turns 27 = .ok (.if_icmp .ne 29, 3) := dk_160 0 29 (dk_at dksX7_turns_1 4 rfl rfl)
theorem dX7_turns_30 : decode cX7_turns 30 = .ok (.aload_n 0, 1) := dk_42 (dk_at dksX7_turns_1 7 rfl rfl)
theorem dX7_turns_31 : decode cX7_turns 31 = .ok (.getfield 31, 3) := dk_180 0 31 (dk_at dksX7_turns_1 8 rfl rfl)
theorem dX7_turns_34 : decode cX7_turns 34 = .ok (.iload 5, 2) := dk_21 5 (dk_at dksX7_turns_1 11 rfl rfl)
theorem dX7_turns_36 : decode cX7_turns 36 = .ok (.iload 4, 2) := dk_21 4 (dk_at dksX7_turns_1 13 rfl rfl)
theorem dX7_turns_38 : decode cX7_turns 38 = .ok (.iload 5, 2) := dk_21 5 (dk_at dksX7_turns_1 15 rfl rfl)
theorem dX7_turns_40 : decode cX7_turns 40 = .ok (.invokestatic 101, 3) := dk_184 0 101 (dk_at dksX7_turns_1 17 rfl rfl)
theorem dX7_turns_43 : decode cX7_turns 43 = .ok (.i2l, 1) := dk_133 (dk_at dksX7_turns_1 20 rfl rfl)
theorem dX7_turns_44 : decode cX7_turns 44 = .ok (.aload_n 0, 1) := dk_42 (dk_at dksX7_turns_1 21 rfl rfl)
theorem dX7_turns_45 : decode cX7_turns 45 = .ok (.iload_n 2, 1) := dk_28 (dk_at dksX7_turns_1 22 rfl rfl)
theorem dX7_turns_46 : decode cX7_turns 46 = .ok (.iload 4, 2) := dk_21 4 (dk_at dksX7_turns_2 0 rfl rfl)
theorem dX7_turns_48 : decode cX7_turns 48 = .ok (.invokevirtual 94, 3) := dk_182 0 94 (dk_at dksX7_turns_2 2 rfl rfl)
theorem dX7_turns_51 : decode cX7_turns 51 = .ok (.lmul, 1) := dk_105 (dk_at dksX7_turns_2 5 rfl rfl)
theorem dX7_turns_52 : decode cX7_turns 52 = .ok (.lastore, 1) := dk_80 (dk_at dksX7_turns_2 6 rfl rfl)
theorem dX7_turns_53 : decode cX7_turns 53 = .ok (.goto 106, 3) := dk_167 0 106 (dk_at dksX7_turns_2 7 rfl rfl)
theorem dX7_turns_56 : decode cX7_turns 56 = .ok (.iload_n 1, 1) := dk_27 (dk_at dksX7_turns_2 10 rfl rfl)
theorem dX7_turns_57 : decode cX7_turns 57 = .ok (.iconst 4, 1) := dk_7 (dk_at dksX7_turns_2 11 rfl rfl)
theorem dX7_turns_58 : decode cX7_turns 58 = .ok (.if_icmp .ne 29, 3) := dk_160 0 29 (dk_at dksX7_turns_2 12 rfl rfl)
theorem dX7_turns_61 : decode cX7_turns 61 = .ok (.aload_n 0, 1) := dk_42 (dk_at dksX7_turns_2 15 rfl rfl)
theorem dX7_turns_62 : decode cX7_turns 62 = .ok (.getfield 31, 3) := dk_180 0 31 (dk_at dksX7_turns_2 16 rfl rfl)
theorem dX7_turns_65 : decode cX7_turns 65 = .ok (.iload 5, 2) := dk_21 5 (dk_at dksX7_turns_2 19 rfl rfl)
theorem dX7_turns_67 : decode cX7_turns 67 = .ok (.iload 5, 2) := dk_21 5 (dk_at dksX7_turns_2 21 rfl rfl)
theorem dX7_turns_69 : decode cX7_turns 69 = .ok (.iload 4, 2) := dk_21 4 (dk_at dksX7_turns_3 0 rfl rfl)
theorem dX7_turns_71 : decode cX7_turns 71 = .ok (.invokestatic 101, 3) := dk_184 0 101 (dk_at dksX7_turns_3 2 rfl rfl)
theorem dX7_turns_74 : decode cX7_turns 74 = .ok (.i2l, 1) := dk_133 (dk_at dksX7_turns_3 5 rfl rfl)
theorem dX7_turns_75 : decode cX7_turns 75 = .ok (.aload_n 0, 1) := dk_42 (dk_at dksX7_turns_3 6 rfl rfl)
theorem dX7_turns_76 : decode cX7_turns 76 = .ok (.iload_n 2, 1) := dk_28 (dk_at dksX7_turns_3 7 rfl rfl)
theorem dX7_turns_77 : decode cX7_turns 77 = .ok (.iload 4, 2) := dk_21 4 (dk_at dksX7_turns_3 8 rfl rfl)
theorem dX7_turns_79 : decode cX7_turns 79 = .ok (.invokevirtual 94, 3) := dk_182 0 94 (dk_at dksX7_turns_3 10 rfl rfl)
theorem dX7_turns_82 : decode cX7_turns 82 = .ok (.lmul, 1) := dk_105 (dk_at dksX7_turns_3 13 rfl rfl)
theorem dX7_turns_83 : decode cX7_turns 83 = .ok (.lastore, 1) := dk_80 (dk_at dksX7_turns_3 14 rfl rfl)
theorem dX7_turns_84 : decode cX7_turns 84 = .ok (.goto 75, 3) := dk_167 0 75 (dk_at dksX7_turns_3 15 rfl rfl)
theorem dX7_turns_87 : decode cX7_turns 87 = .ok (.iload_n 1, 1) := dk_27 (dk_at dksX7_turns_3 18 rfl rfl)
theorem dX7_turns_88 : decode cX7_turns 88 = .ok (.iconst 5, 1) := dk_8 (dk_at dksX7_turns_3 19 rfl rfl)
theorem dX7_turns_89 : decode cX7_turns 89 = .ok (.if_icmp .ne 45, 3) := dk_160 0 45 (dk_at dksX7_turns_3 20 rfl rfl)
theorem dX7_turns_92 : decode cX7_turns 92 = .ok (.aload_n 0, 1) := dk_42 (dk_at dksX7_turns_3 23 rfl rfl)
theorem dX7_turns_93 : decode cX7_turns 93 = .ok (.getfield 31, 3) := dk_180 0 31 (dk_at dksX7_turns_4 0 rfl rfl)
theorem dX7_turns_96 : decode cX7_turns 96 = .ok (.iload 5, 2) := dk_21 5 (dk_at dksX7_turns_4 3 rfl rfl)
theorem dX7_turns_98 : decode cX7_turns 98 = .ok (.aload_n 0, 1) := dk_42 (dk_at dksX7_turns_4 5 rfl rfl)
theorem dX7_turns_99 : decode cX7_turns 99 = .ok (.aload_n 0, 1) := dk_42 (dk_at dksX7_turns_4 6 rfl rfl)
theorem dX7_turns_100 : decode cX7_turns 100 = .ok (.invokevirtual 71, 3) := dk_182 0 71 (dk_at dksX7_turns_4 7 rfl rfl)
theorem dX7_turns_103 : decode cX7_turns 103 = .ok (.aload_n 0, 1) := dk_42 (dk_at dksX7_turns_4 10 rfl rfl)
theorem dX7_turns_104 : decode cX7_turns 104 = .ok (.invokevirtual 71, 3) := dk_182 0 71 (dk_at dksX7_turns_4 11 rfl rfl)
theorem dX7_turns_107 : decode cX7_turns 107 = .ok (.invokevirtual 111, 3) := dk_182 0 111 (dk_at dksX7_turns_4 14 rfl rfl)
theorem dX7_turns_110 : decode cX7_turns 110 = .ok (.aload_n 0, 1) := dk_42 (dk_at dksX7_turns_4 17 rfl rfl)
theorem dX7_turns_111 : decode cX7_turns 111 = .ok (.iload 4, 2) := dk_21 4 (dk_at dksX7_turns_4 18 rfl rfl)
theorem dX7_turns_113 : decode cX7_turns 113 = .ok (.aload_n 0, 1) := dk_42 (dk_at dksX7_turns_4 20 rfl rfl)
theorem dX7_turns_114 : decode cX7_turns 114 = .ok (.invokevirtual 71, 3) := dk_182 0 71 (dk_at dksX7_turns_4 21 rfl rfl)
theorem dX7_turns_117 : decode cX7_turns 117 = .ok (.invokevirtual 111, 3) := dk_182 0 111 (dk_at dksX7_turns_5 0 rfl rfl)
theorem dX7_turns_120 : decode cX7_turns 120 = .ok (.imul, 1) := dk_104 (dk_at dksX7_turns_5 3 rfl rfl)
theorem dX7_turns_121 : decode cX7_turns 121 = .ok (.i2l, 1) := dk_133 (dk_at dksX7_turns_5 4 rfl rfl)
theorem dX7_turns_122 : decode cX7_turns 122 = .ok (.aload_n 0, 1) := dk_42 (dk_at dksX7_turns_5 5 rfl rfl)
theorem dX7_turns_123 : decode cX7_turns 123 = .ok (.iload_n 2, 1) := dk_28 (dk_at dksX7_turns_5 6 rfl rfl)
theorem dX7_turns_124 : decode cX7_turns 124 = .ok (.iload 4, 2) := dk_21 4 (dk_at dksX7_turns_5 7 rfl rfl)
theorem dX7_turns_126 : decode cX7_turns 126 = .ok (.invokevirtual 94, 3) := dk_182 0 94 (dk_at dksX7_turns_5 9 rfl rfl)
theorem dX7_turns_129 : decode cX7_turns 129 = .ok (.lmul, 1) := dk_105 (dk_at dksX7_turns_5 12 rfl rfl)
theorem dX7_turns_130 : decode cX7_turns 130 = .ok (.lastore, 1) := dk_80 (dk_at dksX7_turns_5 13 rfl rfl)
theorem dX7_turns_131 : decode cX7_turns 131 = .ok (.goto 28, 3) := dk_167 0 28 (dk_at dksX7_turns_5 14 rfl rfl)
theorem dX7_turns_134 : decode cX7_turns 134 = .ok (.aload_n 0, 1) := dk_42 (dk_at dksX7_turns_5 17 rfl rfl)
theorem dX7_turns_135 : decode cX7_turns 135 = .ok (.getfield 31, 3) := dk_180 0 31 (dk_at dksX7_turns_5 18 rfl rfl)
theorem dX7_turns_138 : decode cX7_turns 138 = .ok (.iload 4, 2) := dk_21 4 (dk_at dksX7_turns_5 21 rfl rfl)
theorem dX7_turns_140 : decode cX7_turns 140 = .ok (.iload_n 1, 1) := dk_27 (dk_at dksX7_turns_5 23 rfl rfl)
theorem dX7_turns_141 : decode cX7_turns 141 = .ok (.iload 4, 2) := dk_21 4 (dk_at dksX7_turns_6 0 rfl rfl)
theorem dX7_turns_143 : decode cX7_turns 143 = .ok (.invokestatic 98, 3) := dk_184 0 98 (dk_at dksX7_turns_6 2 rfl rfl)
theorem dX7_turns_146 : decode cX7_turns 146 = .ok (.invokestatic 156, 3) := dk_184 0 156 (dk_at dksX7_turns_6 5 rfl rfl)
theorem dX7_turns_149 : decode cX7_turns 149 = .ok (.i2l, 1) := dk_133 (dk_at dksX7_turns_6 8 rfl rfl)
theorem dX7_turns_150 : decode cX7_turns 150 = .ok (.aload_n 0, 1) := dk_42 (dk_at dksX7_turns_6 9 rfl rfl)
theorem dX7_turns_151 : decode cX7_turns 151 = .ok (.iload_n 2, 1) := dk_28 (dk_at dksX7_turns_6 10 rfl rfl)
theorem dX7_turns_152 : decode cX7_turns 152 = .ok (.iload 4, 2) := dk_21 4 (dk_at dksX7_turns_6 11 rfl rfl)
theorem dX7_turns_154 : decode cX7_turns 154 = .ok (.invokevirtual 94, 3) := dk_182 0 94 (dk_at dksX7_turns_6 13 rfl rfl)
theorem dX7_turns_157 : decode cX7_turns 157 = .ok (.lmul, 1) := dk_105 (dk_at dksX7_turns_6 16 rfl rfl)
theorem dX7_turns_158 : decode cX7_turns 158 = .ok (.lastore, 1) := dk_80 (dk_at dksX7_turns_6 17 rfl rfl)
theorem dX7_turns_159 : decode cX7_turns 159 = .ok (.iinc 4 1, 3) := dk_132 4 1 (dk_at dksX7_turns_6 18 rfl rfl)
theorem dX7_turns_162 : decode cX7_turns 162 = .ok (.goto (-155), 3) := dk_167 255 101 (dk_at dksX7_turns_6 21 rfl rfl)
theorem dX7_turns_165 : decode cX7_turns 165 = .ok (.aload_n 0, 1) := dk_42 (dk_at dksX7_turns_7 0 rfl rfl)
theorem dX7_turns_166 : decode cX7_turns 166 = .ok (.aload_n 0, 1) := dk_42 (dk_at dksX7_turns_7 1 rfl rfl)
theorem dX7_turns_167 : decode cX7_turns 167 = .ok (.iload_n 2, 1) := dk_28 (dk_at dksX7_turns_7 2 rfl rfl)
theorem dX7_turns_168 : decode cX7_turns 168 = .ok (.invokevirtual 114, 3) := dk_182 0 114 (dk_at dksX7_turns_7 3 rfl rfl)
theorem dX7_turns_171 : decode cX7_turns 171 = .ok (.putfield 34, 3) := dk_181 0 34 (dk_at dksX7_turns_7 6 rfl rfl)
theorem dX7_turns_174 : decode cX7_turns 174 = .ok (.aload_n 0, 1) := dk_42 (dk_at dksX7_turns_7 9 rfl rfl)
theorem dX7_turns_175 : decode cX7_turns 175 = .ok (.iload_n 3, 1) := dk_29 (dk_at dksX7_turns_7 10 rfl rfl)
theorem dX7_turns_176 : decode cX7_turns 176 = .ok (.invokevirtual 118, 3) := dk_182 0 118 (dk_at dksX7_turns_7 11 rfl rfl)
theorem dX7_turns_179 : decode cX7_turns 179 = .ok (.istore 4, 2) := dk_54 4 (dk_at dksX7_turns_7 14 rfl rfl)
theorem dX7_turns_181 : decode cX7_turns 181 = .ok (.return_, 1) := dk_177 (dk_at dksX7_turns_7 16 rfl rfl)
abbrev cX7_full : ByteArray := prog_42_method_6_code
def yX7_full : MethodName := ⟨RX7, "full", "()I"⟩
def dkwX7_full_0 : List UInt8 := [4, 42, 182, 0, 63, 120, 4, 100, 172]
abbrev dktX7_full_0 : List UInt8 := dkwX7_full_0 ++ []
theorem dksX7_full_0 : cX7_full.data.toList.drop 0 = dktX7_full_0 := by decide +kernel
theorem dX7_full_0 : decode cX7_full 0 = .ok (.iconst 1, 1) := dk_4 (dk_at dksX7_full_0 0 rfl rfl)
theorem dX7_full_1 : decode cX7_full 1 = .ok (.aload_n 0, 1) := dk_42 (dk_at dksX7_full_0 1 rfl rfl)
theorem dX7_full_2 : decode cX7_full 2 = .ok (.invokevirtual 63, 3) := dk_182 0 63 (dk_at dksX7_full_0 2 rfl rfl)
theorem dX7_full_5 : decode cX7_full 5 = .ok (.ishl, 1) := dk_120 (dk_at dksX7_full_0 5 rfl rfl)
theorem dX7_full_6 : decode cX7_full 6 = .ok (.iconst 1, 1) := dk_4 (dk_at dksX7_full_0 6 rfl rfl)
theorem dX7_full_7 : decode cX7_full 7 = .ok (.isub, 1) := dk_100 (dk_at dksX7_full_0 7 rfl rfl)
theorem dX7_full_8 : decode cX7_full 8 = .ok (.ireturn, 1) := dk_172 (dk_at dksX7_full_0 8 rfl rfl)
abbrev cX7_n : ByteArray := prog_42_method_5_code
def yX7_n : MethodName := ⟨RX7, "n", "()I"⟩
def dkwX7_n_0 : List UInt8 := [42, 180, 0, 7, 42, 180, 0, 57, 96, 42, 180, 0, 60, 96, 172]
abbrev dktX7_n_0 : List UInt8 := dkwX7_n_0 ++ []
theorem dksX7_n_0 : cX7_n.data.toList.drop 0 = dktX7_n_0 := by decide +kernel
theorem dX7_n_0 : decode cX7_n 0 = .ok (.aload_n 0, 1) := dk_42 (dk_at dksX7_n_0 0 rfl rfl)
theorem dX7_n_1 : decode cX7_n 1 = .ok (.getfield 7, 3) := dk_180 0 7 (dk_at dksX7_n_0 1 rfl rfl)
theorem dX7_n_4 : decode cX7_n 4 = .ok (.aload_n 0, 1) := dk_42 (dk_at dksX7_n_0 4 rfl rfl)
theorem dX7_n_5 : decode cX7_n 5 = .ok (.getfield 57, 3) := dk_180 0 57 (dk_at dksX7_n_0 5 rfl rfl)
theorem dX7_n_8 : decode cX7_n 8 = .ok (.iadd, 1) := dk_96 (dk_at dksX7_n_0 8 rfl rfl)
theorem dX7_n_9 : decode cX7_n 9 = .ok (.aload_n 0, 1) := dk_42 (dk_at dksX7_n_0 9 rfl rfl)
theorem dX7_n_10 : decode cX7_n 10 = .ok (.getfield 60, 3) := dk_180 0 60 (dk_at dksX7_n_0 10 rfl rfl)
theorem dX7_n_13 : decode cX7_n 13 = .ok (.iadd, 1) := dk_96 (dk_at dksX7_n_0 13 rfl rfl)
theorem dX7_n_14 : decode cX7_n 14 = .ok (.ireturn, 1) := dk_172 (dk_at dksX7_n_0 14 rfl rfl)
abbrev cX7_order : ByteArray := prog_42_method_19_code
def yX7_order : MethodName := ⟨RX7, "order", "(II)I"⟩
def dkwX7_order_2 : List UInt8 := [167, 0, 4, 2, 172]
abbrev dktX7_order_2 : List UInt8 := dkwX7_order_2 ++ []
def dkwX7_order_1 : List UInt8 := [184, 0, 98, 167, 0, 4, 3, 96, 61, 132, 3, 1, 167, 255, 224, 28, 5, 112, 154, 0, 7, 4]
abbrev dktX7_order_1 : List UInt8 := dkwX7_order_1 ++ dktX7_order_2
def dkwX7_order_0 : List UInt8 := [3, 61, 3, 62, 29, 8, 162, 0, 33, 28, 27, 29, 122, 4, 126, 4, 160, 0, 14, 26, 29, 4, 96, 122]
abbrev dktX7_order_0 : List UInt8 := dkwX7_order_0 ++ dktX7_order_1
theorem dksX7_order_0 : cX7_order.data.toList.drop 0 = dktX7_order_0 := by decide +kernel
theorem dksX7_order_1 : cX7_order.data.toList.drop 24 = dktX7_order_1 := dk_seg dksX7_order_0 24 rfl rfl
theorem dksX7_order_2 : cX7_order.data.toList.drop 46 = dktX7_order_2 := dk_seg dksX7_order_1 22 rfl rfl
theorem dX7_order_0 : decode cX7_order 0 = .ok (.iconst 0, 1) := dk_3 (dk_at dksX7_order_0 0 rfl rfl)
theorem dX7_order_1 : decode cX7_order 1 = .ok (.istore_n 2, 1) := dk_61 (dk_at dksX7_order_0 1 rfl rfl)
theorem dX7_order_2 : decode cX7_order 2 = .ok (.iconst 0, 1) := dk_3 (dk_at dksX7_order_0 2 rfl rfl)
theorem dX7_order_3 : decode cX7_order 3 = .ok (.istore_n 3, 1) := dk_62 (dk_at dksX7_order_0 3 rfl rfl)
theorem dX7_order_4 : decode cX7_order 4 = .ok (.iload_n 3, 1) := dk_29 (dk_at dksX7_order_0 4 rfl rfl)
theorem dX7_order_5 : decode cX7_order 5 = .ok (.iconst 5, 1) := dk_8 (dk_at dksX7_order_0 5 rfl rfl)
theorem dX7_order_6 : decode cX7_order 6 = .ok (.if_icmp .ge 33, 3) := dk_162 0 33 (dk_at dksX7_order_0 6 rfl rfl)
theorem dX7_order_9 : decode cX7_order 9 = .ok (.iload_n 2, 1) := dk_28 (dk_at dksX7_order_0 9 rfl rfl)
theorem dX7_order_10 : decode cX7_order 10 = .ok (.iload_n 1, 1) := dk_27 (dk_at dksX7_order_0 10 rfl rfl)
theorem dX7_order_11 : decode cX7_order 11 = .ok (.iload_n 3, 1) := dk_29 (dk_at dksX7_order_0 11 rfl rfl)
theorem dX7_order_12 : decode cX7_order 12 = .ok (.ishr, 1) := dk_122 (dk_at dksX7_order_0 12 rfl rfl)
theorem dX7_order_13 : decode cX7_order 13 = .ok (.iconst 1, 1) := dk_4 (dk_at dksX7_order_0 13 rfl rfl)
theorem dX7_order_14 : decode cX7_order 14 = .ok (.iand, 1) := dk_126 (dk_at dksX7_order_0 14 rfl rfl)
theorem dX7_order_15 : decode cX7_order 15 = .ok (.iconst 1, 1) := dk_4 (dk_at dksX7_order_0 15 rfl rfl)
theorem dX7_order_16 : decode cX7_order 16 = .ok (.if_icmp .ne 14, 3) := dk_160 0 14 (dk_at dksX7_order_0 16 rfl rfl)
theorem dX7_order_19 : decode cX7_order 19 = .ok (.iload_n 0, 1) := dk_26 (dk_at dksX7_order_0 19 rfl rfl)
theorem dX7_order_20 : decode cX7_order 20 = .ok (.iload_n 3, 1) := dk_29 (dk_at dksX7_order_0 20 rfl rfl)
theorem dX7_order_21 : decode cX7_order 21 = .ok (.iconst 1, 1) := dk_4 (dk_at dksX7_order_0 21 rfl rfl)
theorem dX7_order_22 : decode cX7_order 22 = .ok (.iadd, 1) := dk_96 (dk_at dksX7_order_0 22 rfl rfl)
theorem dX7_order_23 : decode cX7_order 23 = .ok (.ishr, 1) := dk_122 (dk_at dksX7_order_0 23 rfl rfl)
theorem dX7_order_24 : decode cX7_order 24 = .ok (.invokestatic 98, 3) := dk_184 0 98 (dk_at dksX7_order_1 0 rfl rfl)
theorem dX7_order_27 : decode cX7_order 27 = .ok (.goto 4, 3) := dk_167 0 4 (dk_at dksX7_order_1 3 rfl rfl)
theorem dX7_order_30 : decode cX7_order 30 = .ok (.iconst 0, 1) := dk_3 (dk_at dksX7_order_1 6 rfl rfl)
theorem dX7_order_31 : decode cX7_order 31 = .ok (.iadd, 1) := dk_96 (dk_at dksX7_order_1 7 rfl rfl)
theorem dX7_order_32 : decode cX7_order 32 = .ok (.istore_n 2, 1) := dk_61 (dk_at dksX7_order_1 8 rfl rfl)
theorem dX7_order_33 : decode cX7_order 33 = .ok (.iinc 3 1, 3) := dk_132 3 1 (dk_at dksX7_order_1 9 rfl rfl)
theorem dX7_order_36 : decode cX7_order 36 = .ok (.goto (-32), 3) := dk_167 255 224 (dk_at dksX7_order_1 12 rfl rfl)
theorem dX7_order_39 : decode cX7_order 39 = .ok (.iload_n 2, 1) := dk_28 (dk_at dksX7_order_1 15 rfl rfl)
theorem dX7_order_40 : decode cX7_order 40 = .ok (.iconst 2, 1) := dk_5 (dk_at dksX7_order_1 16 rfl rfl)
theorem dX7_order_41 : decode cX7_order 41 = .ok (.irem, 1) := dk_112 (dk_at dksX7_order_1 17 rfl rfl)
theorem dX7_order_42 : decode cX7_order 42 = .ok (.ifCond .ne 7, 3) := dk_154 0 7 (dk_at dksX7_order_1 18 rfl rfl)
theorem dX7_order_45 : decode cX7_order 45 = .ok (.iconst 1, 1) := dk_4 (dk_at dksX7_order_1 21 rfl rfl)
theorem dX7_order_46 : decode cX7_order 46 = .ok (.goto 4, 3) := dk_167 0 4 (dk_at dksX7_order_2 0 rfl rfl)
theorem dX7_order_49 : decode cX7_order 49 = .ok (.iconst (-1), 1) := dk_2 (dk_at dksX7_order_2 3 rfl rfl)
theorem dX7_order_50 : decode cX7_order 50 = .ok (.ireturn, 1) := dk_172 (dk_at dksX7_order_2 4 rfl rfl)
abbrev cX7_size : ByteArray := prog_42_method_4_code
def yX7_size : MethodName := ⟨RX7, "size", "(I)I"⟩
def dkwX7_size_0 : List UInt8 := [3, 60, 26, 61, 28, 153, 0, 15, 132, 1, 1, 28, 28, 4, 100, 126, 61, 167, 255, 243, 27, 172]
abbrev dktX7_size_0 : List UInt8 := dkwX7_size_0 ++ []
theorem dksX7_size_0 : cX7_size.data.toList.drop 0 = dktX7_size_0 := by decide +kernel
theorem dX7_size_0 : decode cX7_size 0 = .ok (.iconst 0, 1) := dk_3 (dk_at dksX7_size_0 0 rfl rfl)
theorem dX7_size_1 : decode cX7_size 1 = .ok (.istore_n 1, 1) := dk_60 (dk_at dksX7_size_0 1 rfl rfl)
theorem dX7_size_2 : decode cX7_size 2 = .ok (.iload_n 0, 1) := dk_26 (dk_at dksX7_size_0 2 rfl rfl)
theorem dX7_size_3 : decode cX7_size 3 = .ok (.istore_n 2, 1) := dk_61 (dk_at dksX7_size_0 3 rfl rfl)
theorem dX7_size_4 : decode cX7_size 4 = .ok (.iload_n 2, 1) := dk_28 (dk_at dksX7_size_0 4 rfl rfl)
theorem dX7_size_5 : decode cX7_size 5 = .ok (.ifCond .eq 15, 3) := dk_153 0 15 (dk_at dksX7_size_0 5 rfl rfl)
theorem dX7_size_8 : decode cX7_size 8 = .ok (.iinc 1 1, 3) := dk_132 1 1 (dk_at dksX7_size_0 8 rfl rfl)
theorem dX7_size_11 : decode cX7_size 11 = .ok (.iload_n 2, 1) := dk_28 (dk_at dksX7_size_0 11 rfl rfl)
theorem dX7_size_12 : decode cX7_size 12 = .ok (.iload_n 2, 1) := dk_28 (dk_at dksX7_size_0 12 rfl rfl)
theorem dX7_size_13 : decode cX7_size 13 = .ok (.iconst 1, 1) := dk_4 (dk_at dksX7_size_0 13 rfl rfl)
theorem dX7_size_14 : decode cX7_size 14 = .ok (.isub, 1) := dk_100 (dk_at dksX7_size_0 14 rfl rfl)
theorem dX7_size_15 : decode cX7_size 15 = .ok (.iand, 1) := dk_126 (dk_at dksX7_size_0 15 rfl rfl)
theorem dX7_size_16 : decode cX7_size 16 = .ok (.istore_n 2, 1) := dk_61 (dk_at dksX7_size_0 16 rfl rfl)
theorem dX7_size_17 : decode cX7_size 17 = .ok (.goto (-13), 3) := dk_167 255 243 (dk_at dksX7_size_0 17 rfl rfl)
theorem dX7_size_20 : decode cX7_size 20 = .ok (.iload_n 1, 1) := dk_27 (dk_at dksX7_size_0 20 rfl rfl)
theorem dX7_size_21 : decode cX7_size 21 = .ok (.ireturn, 1) := dk_172 (dk_at dksX7_size_0 21 rfl rfl)
abbrev cX7_signOf : ByteArray := prog_42_method_20_code
def yX7_signOf : MethodName := ⟨RX7, "signOf", "(II)I"⟩
def dkwX7_signOf_3 : List UInt8 := [29, 172]
abbrev dktX7_signOf_3 : List UInt8 := dkwX7_signOf_3 ++ []
def dkwX7_signOf_2 : List UInt8 := [180, 0, 7, 42, 180, 0, 57, 96, 162, 0, 7, 2, 167, 0, 4, 3, 104, 62, 132, 4, 1, 167, 255, 197]
abbrev dktX7_signOf_2 : List UInt8 := dkwX7_signOf_2 ++ dktX7_signOf_3
def dkwX7_signOf_1 : List UInt8 := [4, 126, 4, 160, 0, 38, 29, 21, 4, 42, 180, 0, 7, 162, 0, 7, 4, 167, 0, 22, 21, 4, 42]
abbrev dktX7_signOf_1 : List UInt8 := dkwX7_signOf_1 ++ dktX7_signOf_2
def dkwX7_signOf_0 : List UInt8 := [27, 28, 184, 0, 101, 62, 3, 54, 4, 21, 4, 42, 182, 0, 63, 162, 0, 56, 27, 28, 126, 21, 4, 122]
abbrev dktX7_signOf_0 : List UInt8 := dkwX7_signOf_0 ++ dktX7_signOf_1
theorem dksX7_signOf_0 : cX7_signOf.data.toList.drop 0 = dktX7_signOf_0 := by decide +kernel
theorem dksX7_signOf_1 : cX7_signOf.data.toList.drop 24 = dktX7_signOf_1 := dk_seg dksX7_signOf_0 24 rfl rfl
theorem dksX7_signOf_2 : cX7_signOf.data.toList.drop 47 = dktX7_signOf_2 := dk_seg dksX7_signOf_1 23 rfl rfl
theorem dksX7_signOf_3 : cX7_signOf.data.toList.drop 71 = dktX7_signOf_3 := dk_seg dksX7_signOf_2 24 rfl rfl
theorem dX7_signOf_0 : decode cX7_signOf 0 = .ok (.iload_n 1, 1) := dk_27 (dk_at dksX7_signOf_0 0 rfl rfl)
theorem dX7_signOf_1 : decode cX7_signOf 1 = .ok (.iload_n 2, 1) := dk_28 (dk_at dksX7_signOf_0 1 rfl rfl)
theorem dX7_signOf_2 : decode cX7_signOf 2 = .ok (.invokestatic 101, 3) := dk_184 0 101 (dk_at dksX7_signOf_0 2 rfl rfl)
theorem dX7_signOf_5 : decode cX7_signOf 5 = .ok (.istore_n 3, 1) := dk_62 (dk_at dksX7_signOf_0 5 rfl rfl)
theorem dX7_signOf_6 : decode cX7_signOf 6 = .ok (.iconst 0, 1) := dk_3 (dk_at dksX7_signOf_0 6 rfl rfl)
theorem dX7_signOf_7 : decode cX7_signOf 7 = .ok (.istore 4, 2) := dk_54 4 (dk_at dksX7_signOf_0 7 rfl rfl)
theorem dX7_signOf_9 : decode cX7_signOf 9 = .ok (.iload 4, 2) := dk_21 4 (dk_at dksX7_signOf_0 9 rfl rfl)
theorem dX7_signOf_11 : decode cX7_signOf 11 = .ok (.aload_n 0, 1) := dk_42 (dk_at dksX7_signOf_0 11 rfl rfl)
theorem dX7_signOf_12 : decode cX7_signOf 12 = .ok (.invokevirtual 63, 3) := dk_182 0 63 (dk_at dksX7_signOf_0 12 rfl rfl)
theorem dX7_signOf_15 : decode cX7_signOf 15 = .ok (.if_icmp .ge 56, 3) := dk_162 0 56 (dk_at dksX7_signOf_0 15 rfl rfl)
theorem dX7_signOf_18 : decode cX7_signOf 18 = .ok (.iload_n 1, 1) := dk_27 (dk_at dksX7_signOf_0 18 rfl rfl)
theorem dX7_signOf_19 : decode cX7_signOf 19 = .ok (.iload_n 2, 1) := dk_28 (dk_at dksX7_signOf_0 19 rfl rfl)
theorem dX7_signOf_20 : decode cX7_signOf 20 = .ok (.iand, 1) := dk_126 (dk_at dksX7_signOf_0 20 rfl rfl)
theorem dX7_signOf_21 : decode cX7_signOf 21 = .ok (.iload 4, 2) := dk_21 4 (dk_at dksX7_signOf_0 21 rfl rfl)
theorem dX7_signOf_23 : decode cX7_signOf 23 = .ok (.ishr, 1) := dk_122 (dk_at dksX7_signOf_0 23 rfl rfl)
theorem dX7_signOf_24 : decode cX7_signOf 24 = .ok (.iconst 1, 1) := dk_4 (dk_at dksX7_signOf_1 0 rfl rfl)
theorem dX7_signOf_25 : decode cX7_signOf 25 = .ok (.iand, 1) := dk_126 (dk_at dksX7_signOf_1 1 rfl rfl)
theorem dX7_signOf_26 : decode cX7_signOf 26 = .ok (.iconst 1, 1) := dk_4 (dk_at dksX7_signOf_1 2 rfl rfl)
theorem dX7_signOf_27 : decode cX7_signOf 27 = .ok (.if_icmp .ne 38, 3) := dk_160 0 38 (dk_at dksX7_signOf_1 3 rfl rfl)
theorem dX7_signOf_30 : decode cX7_signOf 30 = .ok (.iload_n 3, 1) := dk_29 (dk_at dksX7_signOf_1 6 rfl rfl)
theorem dX7_signOf_31 : decode cX7_signOf 31 = .ok (.iload 4, 2) := dk_21 4 (dk_at dksX7_signOf_1 7 rfl rfl)
theorem dX7_signOf_33 : decode cX7_signOf 33 = .ok (.aload_n 0, 1) := dk_42 (dk_at dksX7_signOf_1 9 rfl rfl)
theorem dX7_signOf_34 : decode cX7_signOf 34 = .ok (.getfield 7, 3) := dk_180 0 7 (dk_at dksX7_signOf_1 10 rfl rfl)
theorem dX7_signOf_37 : decode cX7_signOf 37 = .ok (.if_icmp .ge 7, 3) := dk_162 0 7 (dk_at dksX7_signOf_1 13 rfl rfl)
theorem dX7_signOf_40 : decode cX7_signOf 40 = .ok (.iconst 1, 1) := dk_4 (dk_at dksX7_signOf_1 16 rfl rfl)
theorem dX7_signOf_41 : decode cX7_signOf 41 = .ok (.goto 22, 3) := dk_167 0 22 (dk_at dksX7_signOf_1 17 rfl rfl)
theorem dX7_signOf_44 : decode cX7_signOf 44 = .ok (.iload 4, 2) := dk_21 4 (dk_at dksX7_signOf_1 20 rfl rfl)
theorem dX7_signOf_46 : decode cX7_signOf 46 = .ok (.aload_n 0, 1) := dk_42 (dk_at dksX7_signOf_1 22 rfl rfl)
theorem dX7_signOf_47 : decode cX7_signOf 47 = .ok (.getfield 7, 3) := dk_180 0 7 (dk_at dksX7_signOf_2 0 rfl rfl)
theorem dX7_signOf_50 : decode cX7_signOf 50 = .ok (.aload_n 0, 1) := dk_42 (dk_at dksX7_signOf_2 3 rfl rfl)
theorem dX7_signOf_51 : decode cX7_signOf 51 = .ok (.getfield 57, 3) := dk_180 0 57 (dk_at dksX7_signOf_2 4 rfl rfl)
theorem dX7_signOf_54 : decode cX7_signOf 54 = .ok (.iadd, 1) := dk_96 (dk_at dksX7_signOf_2 7 rfl rfl)
theorem dX7_signOf_55 : decode cX7_signOf 55 = .ok (.if_icmp .ge 7, 3) := dk_162 0 7 (dk_at dksX7_signOf_2 8 rfl rfl)
theorem dX7_signOf_58 : decode cX7_signOf 58 = .ok (.iconst (-1), 1) := dk_2 (dk_at dksX7_signOf_2 11 rfl rfl)
theorem dX7_signOf_59 : decode cX7_signOf 59 = .ok (.goto 4, 3) := dk_167 0 4 (dk_at dksX7_signOf_2 12 rfl rfl)
theorem dX7_signOf_62 : decode cX7_signOf 62 = .ok (.iconst 0, 1) := dk_3 (dk_at dksX7_signOf_2 15 rfl rfl)
theorem dX7_signOf_63 : decode cX7_signOf 63 = .ok (.imul, 1) := dk_104 (dk_at dksX7_signOf_2 16 rfl rfl)
theorem dX7_signOf_64 : decode cX7_signOf 64 = .ok (.istore_n 3, 1) := dk_62 (dk_at dksX7_signOf_2 17 rfl rfl)
theorem dX7_signOf_65 : decode cX7_signOf 65 = .ok (.iinc 4 1, 3) := dk_132 4 1 (dk_at dksX7_signOf_2 18 rfl rfl)
theorem dX7_signOf_68 : decode cX7_signOf 68 = .ok (.goto (-59), 3) := dk_167 255 197 (dk_at dksX7_signOf_2 21 rfl rfl)
theorem dX7_signOf_71 : decode cX7_signOf 71 = .ok (.iload_n 3, 1) := dk_29 (dk_at dksX7_signOf_3 0 rfl rfl)
theorem dX7_signOf_72 : decode cX7_signOf 72 = .ok (.ireturn, 1) := dk_172 (dk_at dksX7_signOf_3 1 rfl rfl)
abbrev cX7_turned : ByteArray := prog_42_method_28_code
def yX7_turned : MethodName := ⟨RX7, "turned", "(II)I"⟩
def dkwX7_turned_5 : List UInt8 := [167, 0, 4, 3, 172, 2, 172]
abbrev dktX7_turned_5 : List UInt8 := dkwX7_turned_5 ++ []
def dkwX7_turned_4 : List UInt8 := [4, 172, 27, 5, 112, 154, 0, 7, 4, 167, 0, 4, 3, 172, 27, 5, 112, 4, 160, 0, 7, 4]
abbrev dktX7_turned_4 : List UInt8 := dkwX7_turned_4 ++ dktX7_turned_5
def dkwX7_turned_3 : List UInt8 := [167, 0, 4, 4, 172, 27, 4, 159, 0, 13, 27, 5, 159, 0, 8, 27, 8, 160, 0, 7, 2, 167, 0, 4]
abbrev dktX7_turned_3 : List UInt8 := dkwX7_turned_3 ++ dktX7_turned_4
def dkwX7_turned_2 : List UInt8 := [27, 5, 159, 0, 8, 27, 6, 160, 0, 7, 2, 167, 0, 4, 4, 172, 27, 5, 112, 4, 160, 0, 7, 2]
abbrev dktX7_turned_2 : List UInt8 := dkwX7_turned_2 ++ dktX7_turned_3
def dkwX7_turned_1 : List UInt8 := [170, 0, 0, 0, 0, 0, 122, 0, 0, 0, 0, 0, 0, 0, 7, 0, 0, 0, 47, 0, 0, 0, 63, 0, 0, 0, 76, 0, 0, 0, 122, 0, 0, 0, 122, 0, 0, 0, 122, 0, 0, 0, 97, 0, 0, 0, 109]
abbrev dktX7_turned_1 : List UInt8 := dkwX7_turned_1 ++ dktX7_turned_2
def dkwX7_turned_0 : List UInt8 := [26]
abbrev dktX7_turned_0 : List UInt8 := dkwX7_turned_0 ++ dktX7_turned_1
theorem dksX7_turned_0 : cX7_turned.data.toList.drop 0 = dktX7_turned_0 := by decide +kernel
theorem dksX7_turned_1 : cX7_turned.data.toList.drop 1 = dktX7_turned_1 := dk_seg dksX7_turned_0 1 rfl rfl
theorem dksX7_turned_2 : cX7_turned.data.toList.drop 48 = dktX7_turned_2 := dk_seg dksX7_turned_1 47 rfl rfl
theorem dksX7_turned_3 : cX7_turned.data.toList.drop 72 = dktX7_turned_3 := dk_seg dksX7_turned_2 24 rfl rfl
theorem dksX7_turned_4 : cX7_turned.data.toList.drop 96 = dktX7_turned_4 := dk_seg dksX7_turned_3 24 rfl rfl
theorem dksX7_turned_5 : cX7_turned.data.toList.drop 118 = dktX7_turned_5 := dk_seg dksX7_turned_4 22 rfl rfl
theorem dX7_turned_0 : decode cX7_turned 0 = .ok (.iload_n 0, 1) := dk_26 (dk_at dksX7_turned_0 0 rfl rfl)
theorem dX7_turned_1 : decode cX7_turned 1 = .ok (.tableswitch 122 0 7 #[47, 63, 76, 122, 122, 122, 97, 109], 47) := by decide +kernel
theorem dX7_turned_48 : decode cX7_turned 48 = .ok (.iload_n 1, 1) := dk_27 (dk_at dksX7_turned_2 0 rfl rfl)
theorem dX7_turned_49 : decode cX7_turned 49 = .ok (.iconst 2, 1) := dk_5 (dk_at dksX7_turned_2 1 rfl rfl)
theorem dX7_turned_50 : decode cX7_turned 50 = .ok (.if_icmp .eq 8, 3) := dk_159 0 8 (dk_at dksX7_turned_2 2 rfl rfl)
theorem dX7_turned_53 : decode cX7_turned 53 = .ok (.iload_n 1, 1) := dk_27 (dk_at dksX7_turned_2 5 rfl rfl)
theorem dX7_turned_54 : decode cX7_turned 54 = .ok (.iconst 3, 1) := dk_6 (dk_at dksX7_turned_2 6 rfl rfl)
theorem dX7_turned_55 : decode cX7_turned 55 = .ok (.if_icmp .ne 7, 3) := dk_160 0 7 (dk_at dksX7_turned_2 7 rfl rfl)
theorem dX7_turned_58 : decode cX7_turned 58 = .ok (.iconst (-1), 1) := dk_2 (dk_at dksX7_turned_2 10 rfl rfl)
theorem dX7_turned_59 : decode cX7_turned 59 = .ok (.goto 4, 3) := dk_167 0 4 (dk_at dksX7_turned_2 11 rfl rfl)
theorem dX7_turned_62 : decode cX7_turned 62 = .ok (.iconst 1, 1) := dk_4 (dk_at dksX7_turned_2 14 rfl rfl)
theorem dX7_turned_63 : decode cX7_turned 63 = .ok (.ireturn, 1) := dk_172 (dk_at dksX7_turned_2 15 rfl rfl)
theorem dX7_turned_64 : decode cX7_turned 64 = .ok (.iload_n 1, 1) := dk_27 (dk_at dksX7_turned_2 16 rfl rfl)
theorem dX7_turned_65 : decode cX7_turned 65 = .ok (.iconst 2, 1) := dk_5 (dk_at dksX7_turned_2 17 rfl rfl)
theorem dX7_turned_66 : decode cX7_turned 66 = .ok (.irem, 1) := dk_112 (dk_at dksX7_turned_2 18 rfl rfl)
theorem dX7_turned_67 : decode cX7_turned 67 = .ok (.iconst 1, 1) := dk_4 (dk_at dksX7_turned_2 19 rfl rfl)
theorem dX7_turned_68 : decode cX7_turned 68 = .ok (.if_icmp .ne 7, 3) := dk_160 0 7 (dk_at dksX7_turned_2 20 rfl rfl)
theorem dX7_turned_71 : decode cX7_turned 71 = .ok (.iconst (-1), 1) := dk_2 (dk_at dksX7_turned_2 23 rfl rfl)
theorem dX7_turned_72 : decode cX7_turned 72 = .ok (.goto 4, 3) := dk_167 0 4 (dk_at dksX7_turned_3 0 rfl rfl)
theorem dX7_turned_75 : decode cX7_turned 75 = .ok (.iconst 1, 1) := dk_4 (dk_at dksX7_turned_3 3 rfl rfl)
theorem dX7_turned_76 : decode cX7_turned 76 = .ok (.ireturn, 1) := dk_172 (dk_at dksX7_turned_3 4 rfl rfl)
theorem dX7_turned_77 : decode cX7_turned 77 = .ok (.iload_n 1, 1) := dk_27 (dk_at dksX7_turned_3 5 rfl rfl)
theorem dX7_turned_78 : decode cX7_turned 78 = .ok (.iconst 1, 1) := dk_4 (dk_at dksX7_turned_3 6 rfl rfl)
theorem dX7_turned_79 : decode cX7_turned 79 = .ok (.if_icmp .eq 13, 3) := dk_159 0 13 (dk_at dksX7_turned_3 7 rfl rfl)
theorem dX7_turned_82 : decode cX7_turned 82 = .ok (.iload_n 1, 1) := dk_27 (dk_at dksX7_turned_3 10 rfl rfl)
theorem dX7_turned_83 : decode cX7_turned 83 = .ok (.iconst 2, 1) := dk_5 (dk_at dksX7_turned_3 11 rfl rfl)
theorem dX7_turned_84 : decode cX7_turned 84 = .ok (.if_icmp .eq 8, 3) := dk_159 0 8 (dk_at dksX7_turned_3 12 rfl rfl)
theorem dX7_turned_87 : decode cX7_turned 87 = .ok (.iload_n 1, 1) := dk_27 (dk_at dksX7_turned_3 15 rfl rfl)
theorem dX7_turned_88 : decode cX7_turned 88 = .ok (.iconst 5, 1) := dk_8 (dk_at dksX7_turned_3 16 rfl rfl)
theorem dX7_turned_89 : decode cX7_turned 89 = .ok (.if_icmp .ne 7, 3) := dk_160 0 7 (dk_at dksX7_turned_3 17 rfl rfl)
theorem dX7_turned_92 : decode cX7_turned 92 = .ok (.iconst (-1), 1) := dk_2 (dk_at dksX7_turned_3 20 rfl rfl)
theorem dX7_turned_93 : decode cX7_turned 93 = .ok (.goto 4, 3) := dk_167 0 4 (dk_at dksX7_turned_3 21 rfl rfl)
theorem dX7_turned_96 : decode cX7_turned 96 = .ok (.iconst 1, 1) := dk_4 (dk_at dksX7_turned_4 0 rfl rfl)
theorem dX7_turned_97 : decode cX7_turned 97 = .ok (.ireturn, 1) := dk_172 (dk_at dksX7_turned_4 1 rfl rfl)
theorem dX7_turned_98 : decode cX7_turned 98 = .ok (.iload_n 1, 1) := dk_27 (dk_at dksX7_turned_4 2 rfl rfl)
theorem dX7_turned_99 : decode cX7_turned 99 = .ok (.iconst 2, 1) := dk_5 (dk_at dksX7_turned_4 3 rfl rfl)
theorem dX7_turned_100 : decode cX7_turned 100 = .ok (.irem, 1) := dk_112 (dk_at dksX7_turned_4 4 rfl rfl)
theorem dX7_turned_101 : decode cX7_turned 101 = .ok (.ifCond .ne 7, 3) := dk_154 0 7 (dk_at dksX7_turned_4 5 rfl rfl)
theorem dX7_turned_104 : decode cX7_turned 104 = .ok (.iconst 1, 1) := dk_4 (dk_at dksX7_turned_4 8 rfl rfl)
theorem dX7_turned_105 : decode cX7_turned 105 = .ok (.goto 4, 3) := dk_167 0 4 (dk_at dksX7_turned_4 9 rfl rfl)
theorem dX7_turned_108 : decode cX7_turned 108 = .ok (.iconst 0, 1) := dk_3 (dk_at dksX7_turned_4 12 rfl rfl)
theorem dX7_turned_109 : decode cX7_turned 109 = .ok (.ireturn, 1) := dk_172 (dk_at dksX7_turned_4 13 rfl rfl)
theorem dX7_turned_110 : decode cX7_turned 110 = .ok (.iload_n 1, 1) := dk_27 (dk_at dksX7_turned_4 14 rfl rfl)
theorem dX7_turned_111 : decode cX7_turned 111 = .ok (.iconst 2, 1) := dk_5 (dk_at dksX7_turned_4 15 rfl rfl)
theorem dX7_turned_112 : decode cX7_turned 112 = .ok (.irem, 1) := dk_112 (dk_at dksX7_turned_4 16 rfl rfl)
theorem dX7_turned_113 : decode cX7_turned 113 = .ok (.iconst 1, 1) := dk_4 (dk_at dksX7_turned_4 17 rfl rfl)
theorem dX7_turned_114 : decode cX7_turned 114 = .ok (.if_icmp .ne 7, 3) := dk_160 0 7 (dk_at dksX7_turned_4 18 rfl rfl)
theorem dX7_turned_117 : decode cX7_turned 117 = .ok (.iconst 1, 1) := dk_4 (dk_at dksX7_turned_4 21 rfl rfl)
theorem dX7_turned_118 : decode cX7_turned 118 = .ok (.goto 4, 3) := dk_167 0 4 (dk_at dksX7_turned_5 0 rfl rfl)
theorem dX7_turned_121 : decode cX7_turned 121 = .ok (.iconst 0, 1) := dk_3 (dk_at dksX7_turned_5 3 rfl rfl)
theorem dX7_turned_122 : decode cX7_turned 122 = .ok (.ireturn, 1) := dk_172 (dk_at dksX7_turned_5 4 rfl rfl)
theorem dX7_turned_123 : decode cX7_turned 123 = .ok (.iconst (-1), 1) := dk_2 (dk_at dksX7_turned_5 5 rfl rfl)
theorem dX7_turned_124 : decode cX7_turned 124 = .ok (.ireturn, 1) := dk_172 (dk_at dksX7_turned_5 6 rfl rfl)
abbrev cX7_multiplies : ByteArray := prog_42_method_22_code
def yX7_multiplies : MethodName := ⟨RX7, "multiplies", "(IIII)Z"⟩
def dkwX7_multiplies_5 : List UInt8 := [28, 182, 0, 114, 42, 29, 182, 0, 114, 105, 181, 0, 34, 42, 21, 4, 182, 0, 118, 172]
abbrev dktX7_multiplies_5 : List UInt8 := dkwX7_multiplies_5 ++ []
def dkwX7_multiplies_4 : List UInt8 := [42, 29, 21, 6, 182, 0, 94, 105, 97, 80, 132, 6, 1, 167, 255, 171, 132, 5, 1, 167, 255, 153, 42, 42]
abbrev dktX7_multiplies_4 : List UInt8 := dkwX7_multiplies_4 ++ dktX7_multiplies_5
def dkwX7_multiplies_3 : List UInt8 := [21, 5, 21, 6, 130, 92, 47, 42, 21, 5, 21, 6, 182, 0, 111, 133, 42, 28, 21, 5, 182, 0, 94, 105]
abbrev dktX7_multiplies_3 : List UInt8 := dkwX7_multiplies_3 ++ dktX7_multiplies_4
def dkwX7_multiplies_2 : List UInt8 := [182, 0, 94, 9, 148, 153, 0, 52, 27, 21, 5, 21, 6, 184, 0, 108, 153, 0, 41, 42, 180, 0, 31]
abbrev dktX7_multiplies_2 : List UInt8 := dkwX7_multiplies_2 ++ dktX7_multiplies_3
def dkwX7_multiplies_1 : List UInt8 := [182, 0, 71, 163, 0, 82, 42, 28, 21, 5, 182, 0, 94, 9, 148, 153, 0, 64, 42, 29, 21, 6]
abbrev dktX7_multiplies_1 : List UInt8 := dkwX7_multiplies_1 ++ dktX7_multiplies_2
def dkwX7_multiplies_0 : List UInt8 := [42, 182, 0, 105, 3, 54, 5, 21, 5, 42, 182, 0, 71, 163, 0, 100, 3, 54, 6, 21, 6, 42]
abbrev dktX7_multiplies_0 : List UInt8 := dkwX7_multiplies_0 ++ dktX7_multiplies_1
theorem dksX7_multiplies_0 : cX7_multiplies.data.toList.drop 0 = dktX7_multiplies_0 := by decide +kernel
theorem dksX7_multiplies_1 : cX7_multiplies.data.toList.drop 22 = dktX7_multiplies_1 := dk_seg dksX7_multiplies_0 22 rfl rfl
theorem dksX7_multiplies_2 : cX7_multiplies.data.toList.drop 44 = dktX7_multiplies_2 := dk_seg dksX7_multiplies_1 22 rfl rfl
theorem dksX7_multiplies_3 : cX7_multiplies.data.toList.drop 67 = dktX7_multiplies_3 := dk_seg dksX7_multiplies_2 23 rfl rfl
theorem dksX7_multiplies_4 : cX7_multiplies.data.toList.drop 91 = dktX7_multiplies_4 := dk_seg dksX7_multiplies_3 24 rfl rfl
theorem dksX7_multiplies_5 : cX7_multiplies.data.toList.drop 115 = dktX7_multiplies_5 := dk_seg dksX7_multiplies_4 24 rfl rfl
theorem dX7_multiplies_0 : decode cX7_multiplies 0 = .ok (.aload_n 0, 1) := dk_42 (dk_at dksX7_multiplies_0 0 rfl rfl)
theorem dX7_multiplies_1 : decode cX7_multiplies 1 = .ok (.invokevirtual 105, 3) := dk_182 0 105 (dk_at dksX7_multiplies_0 1 rfl rfl)
theorem dX7_multiplies_4 : decode cX7_multiplies 4 = .ok (.iconst 0, 1) := dk_3 (dk_at dksX7_multiplies_0 4 rfl rfl)
theorem dX7_multiplies_5 : decode cX7_multiplies 5 = .ok (.istore 5, 2) := dk_54 5 (dk_at dksX7_multiplies_0 5 rfl rfl)
theorem dX7_multiplies_7 : decode cX7_multiplies 7 = .ok (.iload 5, 2) := dk_21 5 (dk_at dksX7_multiplies_0 7 rfl rfl)
theorem dX7_multiplies_9 : decode cX7_multiplies 9 = .ok (.aload_n 0, 1) := dk_42 (dk_at dksX7_multiplies_0 9 rfl rfl)
theorem dX7_multiplies_10 : decode cX7_multiplies 10 = .ok (.invokevirtual 71, 3) := dk_182 0 71 (dk_at dksX7_multiplies_0 10 rfl rfl)
theorem dX7_multiplies_13 : decode cX7_multiplies 13 = .ok (.if_icmp .gt 100, 3) := dk_163 0 100 (dk_at dksX7_multiplies_0 13 rfl rfl)
theorem dX7_multiplies_16 : decode cX7_multiplies 16 = .ok (.iconst 0, 1) := dk_3 (dk_at dksX7_multiplies_0 16 rfl rfl)
theorem dX7_multiplies_17 : decode cX7_multiplies 17 = .ok (.istore 6, 2) := dk_54 6 (dk_at dksX7_multiplies_0 17 rfl rfl)
theorem dX7_multiplies_19 : decode cX7_multiplies 19 = .ok (.iload 6, 2) := dk_21 6 (dk_at dksX7_multiplies_0 19 rfl rfl)
theorem dX7_multiplies_21 : decode cX7_multiplies 21 = .ok (.aload_n 0, 1) := dk_42 (dk_at dksX7_multiplies_0 21 rfl rfl)
theorem dX7_multiplies_22 : decode cX7_multiplies 22 = .ok (.invokevirtual 71, 3) := dk_182 0 71 (dk_at dksX7_multiplies_1 0 rfl rfl)
theorem dX7_multiplies_25 : decode cX7_multiplies 25 = .ok (.if_icmp .gt 82, 3) := dk_163 0 82 (dk_at dksX7_multiplies_1 3 rfl rfl)
theorem dX7_multiplies_28 : decode cX7_multiplies 28 = .ok (.aload_n 0, 1) := dk_42 (dk_at dksX7_multiplies_1 6 rfl rfl)
theorem dX7_multiplies_29 : decode cX7_multiplies 29 = .ok (.iload_n 2, 1) := dk_28 (dk_at dksX7_multiplies_1 7 rfl rfl)
theorem dX7_multiplies_30 : decode cX7_multiplies 30 = .ok (.iload 5, 2) := dk_21 5 (dk_at dksX7_multiplies_1 8 rfl rfl)
theorem dX7_multiplies_32 : decode cX7_multiplies 32 = .ok (.invokevirtual 94, 3) := dk_182 0 94 (dk_at dksX7_multiplies_1 10 rfl rfl)
theorem dX7_multiplies_35 : decode cX7_multiplies 35 = .ok (.lconst 0, 1) := dk_9 (dk_at dksX7_multiplies_1 13 rfl rfl)
theorem dX7_multiplies_36 : decode cX7_multiplies 36 = .ok (.lcmp, 1) := dk_148 (dk_at dksX7_multiplies_1 14 rfl rfl)
theorem dX7_multiplies_37 : decode cX7_multiplies 37 = .ok (.ifCond .eq 64, 3) := dk_153 0 64 (dk_at dksX7_multiplies_1 15 rfl rfl)
theorem dX7_multiplies_40 : decode cX7_multiplies 40 = .ok (.aload_n 0, 1) := dk_42 (dk_at dksX7_multiplies_1 18 rfl rfl)
theorem dX7_multiplies_41 : decode cX7_multiplies 41 = .ok (.iload_n 3, 1) := dk_29 (dk_at dksX7_multiplies_1 19 rfl rfl)
theorem dX7_multiplies_42 : decode cX7_multiplies 42 = .ok (.iload 6, 2) := dk_21 6 (dk_at dksX7_multiplies_1 20 rfl rfl)
theorem dX7_multiplies_44 : decode cX7_multiplies 44 = .ok (.invokevirtual 94, 3) := dk_182 0 94 (dk_at dksX7_multiplies_2 0 rfl rfl)
theorem dX7_multiplies_47 : decode cX7_multiplies 47 = .ok (.lconst 0, 1) := dk_9 (dk_at dksX7_multiplies_2 3 rfl rfl)
theorem dX7_multiplies_48 : decode cX7_multiplies 48 = .ok (.lcmp, 1) := dk_148 (dk_at dksX7_multiplies_2 4 rfl rfl)
theorem dX7_multiplies_49 : decode cX7_multiplies 49 = .ok (.ifCond .eq 52, 3) := dk_153 0 52 (dk_at dksX7_multiplies_2 5 rfl rfl)
theorem dX7_multiplies_52 : decode cX7_multiplies 52 = .ok (.iload_n 1, 1) := dk_27 (dk_at dksX7_multiplies_2 8 rfl rfl)
theorem dX7_multiplies_53 : decode cX7_multiplies 53 = .ok (.iload 5, 2) := dk_21 5 (dk_at dksX7_multiplies_2 9 rfl rfl)
theorem dX7_multiplies_55 : decode cX7_multiplies 55 = .ok (.iload 6, 2) := dk_21 6 (dk_at dksX7_multiplies_2 11 rfl rfl)
theorem dX7_multiplies_57 : decode cX7_multiplies 57 = .ok (.invokestatic 108, 3) := dk_184 0 108 (dk_at dksX7_multiplies_2 13 rfl rfl)
theorem dX7_multiplies_60 : decode cX7_multiplies 60 = .ok (.ifCond .eq 41, 3) := dk_153 0 41 (dk_at dksX7_multiplies_2 16 rfl rfl)
theorem dX7_multiplies_63 : decode cX7_multiplies 63 = .ok (.aload_n 0, 1) := dk_42 (dk_at dksX7_multiplies_2 19 rfl rfl)
theorem dX7_multiplies_64 : decode cX7_multiplies 64 = .ok (.getfield 31, 3) := dk_180 0 31 (dk_at dksX7_multiplies_2 20 rfl rfl)
theorem dX7_multiplies_67 : decode cX7_multiplies 67 = .ok (.iload 5, 2) := dk_21 5 (dk_at dksX7_multiplies_3 0 rfl rfl)
theorem dX7_multiplies_69 : decode cX7_multiplies 69 = .ok (.iload 6, 2) := dk_21 6 (dk_at dksX7_multiplies_3 2 rfl rfl)
theorem dX7_multiplies_71 : decode cX7_multiplies 71 = .ok (.ixor, 1) := dk_130 (dk_at dksX7_multiplies_3 4 rfl rfl)
theorem dX7_multiplies_72 : decode cX7_multiplies 72 = .ok (.dup2, 1) := dk_92 (dk_at dksX7_multiplies_3 5 rfl rfl)
theorem dX7_multiplies_73 : decode cX7_multiplies 73 = .ok (.laload, 1) := dk_47 (dk_at dksX7_multiplies_3 6 rfl rfl)
theorem dX7_multiplies_74 : decode cX7_multiplies 74 = .ok (.aload_n 0, 1) := dk_42 (dk_at dksX7_multiplies_3 7 rfl rfl)
theorem dX7_multiplies_75 : decode cX7_multiplies 75 = .ok (.iload 5, 2) := dk_21 5 (dk_at dksX7_multiplies_3 8 rfl rfl)
theorem dX7_multiplies_77 : decode cX7_multiplies 77 = .ok (.iload 6, 2) := dk_21 6 (dk_at dksX7_multiplies_3 10 rfl rfl)
theorem dX7_multiplies_79 : decode cX7_multiplies 79 = .ok (.invokevirtual 111, 3) := dk_182 0 111 (dk_at dksX7_multiplies_3 12 rfl rfl)
theorem dX7_multiplies_82 : decode cX7_multiplies 82 = .ok (.i2l, 1) := dk_133 (dk_at dksX7_multiplies_3 15 rfl rfl)
theorem dX7_multiplies_83 : decode cX7_multiplies 83 = .ok (.aload_n 0, 1) := dk_42 (dk_at dksX7_multiplies_3 16 rfl rfl)
theorem dX7_multiplies_84 : decode cX7_multiplies 84 = .ok (.iload_n 2, 1) := dk_28 (dk_at dksX7_multiplies_3 17 rfl rfl)
theorem dX7_multiplies_85 : decode cX7_multiplies 85 = .ok (.iload 5, 2) := dk_21 5 (dk_at dksX7_multiplies_3 18 rfl rfl)
theorem dX7_multiplies_87 : decode cX7_multiplies 87 = .ok (.invokevirtual 94, 3) := dk_182 0 94 (dk_at dksX7_multiplies_3 20 rfl rfl)
theorem dX7_multiplies_90 : decode cX7_multiplies 90 = .ok (.lmul, 1) := dk_105 (dk_at dksX7_multiplies_3 23 rfl rfl)
theorem dX7_multiplies_91 : decode cX7_multiplies 91 = .ok (.aload_n 0, 1) := dk_42 (dk_at dksX7_multiplies_4 0 rfl rfl)
theorem dX7_multiplies_92 : decode cX7_multiplies 92 = .ok (.iload_n 3, 1) := dk_29 (dk_at dksX7_multiplies_4 1 rfl rfl)
theorem dX7_multiplies_93 : decode cX7_multiplies 93 = .ok (.iload 6, 2) := dk_21 6 (dk_at dksX7_multiplies_4 2 rfl rfl)
theorem dX7_multiplies_95 : decode cX7_multiplies 95 = .ok (.invokevirtual 94, 3) := dk_182 0 94 (dk_at dksX7_multiplies_4 4 rfl rfl)
theorem dX7_multiplies_98 : decode cX7_multiplies 98 = .ok (.lmul, 1) := dk_105 (dk_at dksX7_multiplies_4 7 rfl rfl)
theorem dX7_multiplies_99 : decode cX7_multiplies 99 = .ok (.ladd, 1) := dk_97 (dk_at dksX7_multiplies_4 8 rfl rfl)
theorem dX7_multiplies_100 : decode cX7_multiplies 100 = .ok (.lastore, 1) := dk_80 (dk_at dksX7_multiplies_4 9 rfl rfl)
theorem dX7_multiplies_101 : decode cX7_multiplies 101 = .ok (.iinc 6 1, 3) := dk_132 6 1 (dk_at dksX7_multiplies_4 10 rfl rfl)
theorem dX7_multiplies_104 : decode cX7_multiplies 104 = .ok (.goto (-85), 3) := dk_167 255 171 (dk_at dksX7_multiplies_4 13 rfl rfl)
theorem dX7_multiplies_107 : decode cX7_multiplies 107 = .ok (.iinc 5 1, 3) := dk_132 5 1 (dk_at dksX7_multiplies_4 16 rfl rfl)
theorem dX7_multiplies_110 : decode cX7_multiplies 110 = .ok (.goto (-103), 3) := dk_167 255 153 (dk_at dksX7_multiplies_4 19 rfl rfl)
theorem dX7_multiplies_113 : decode cX7_multiplies 113 = .ok (.aload_n 0, 1) := dk_42 (dk_at dksX7_multiplies_4 22 rfl rfl)
theorem dX7_multiplies_114 : decode cX7_multiplies 114 = .ok (.aload_n 0, 1) := dk_42 (dk_at dksX7_multiplies_4 23 rfl rfl)
theorem dX7_multiplies_115 : decode cX7_multiplies 115 = .ok (.iload_n 2, 1) := dk_28 (dk_at dksX7_multiplies_5 0 rfl rfl)
theorem dX7_multiplies_116 : decode cX7_multiplies 116 = .ok (.invokevirtual 114, 3) := dk_182 0 114 (dk_at dksX7_multiplies_5 1 rfl rfl)
theorem dX7_multiplies_119 : decode cX7_multiplies 119 = .ok (.aload_n 0, 1) := dk_42 (dk_at dksX7_multiplies_5 4 rfl rfl)
theorem dX7_multiplies_120 : decode cX7_multiplies 120 = .ok (.iload_n 3, 1) := dk_29 (dk_at dksX7_multiplies_5 5 rfl rfl)
theorem dX7_multiplies_121 : decode cX7_multiplies 121 = .ok (.invokevirtual 114, 3) := dk_182 0 114 (dk_at dksX7_multiplies_5 6 rfl rfl)
theorem dX7_multiplies_124 : decode cX7_multiplies 124 = .ok (.lmul, 1) := dk_105 (dk_at dksX7_multiplies_5 9 rfl rfl)
theorem dX7_multiplies_125 : decode cX7_multiplies 125 = .ok (.putfield 34, 3) := dk_181 0 34 (dk_at dksX7_multiplies_5 10 rfl rfl)
theorem dX7_multiplies_128 : decode cX7_multiplies 128 = .ok (.aload_n 0, 1) := dk_42 (dk_at dksX7_multiplies_5 13 rfl rfl)
theorem dX7_multiplies_129 : decode cX7_multiplies 129 = .ok (.iload 4, 2) := dk_21 4 (dk_at dksX7_multiplies_5 14 rfl rfl)
theorem dX7_multiplies_131 : decode cX7_multiplies 131 = .ok (.invokevirtual 118, 3) := dk_182 0 118 (dk_at dksX7_multiplies_5 16 rfl rfl)
theorem dX7_multiplies_134 : decode cX7_multiplies 134 = .ok (.ireturn, 1) := dk_172 (dk_at dksX7_multiplies_5 19 rfl rfl)
abbrev cX7_isTaken : ByteArray := prog_42_method_21_code
def yX7_isTaken : MethodName := ⟨RX7, "isTaken", "(III)Z"⟩
def dkwX7_isTaken_4 : List UInt8 := [21, 5, 154, 0, 7, 4, 167, 0, 4, 3, 172]
abbrev dktX7_isTaken_4 : List UInt8 := dkwX7_isTaken_4 ++ []
def dkwX7_isTaken_3 : List UInt8 := [160, 0, 7, 4, 167, 0, 4, 3, 172, 21, 5, 29, 21, 4, 100, 160, 0, 7, 4, 167, 0, 4, 3, 172]
abbrev dktX7_isTaken_3 : List UInt8 := dkwX7_isTaken_3 ++ dktX7_isTaken_4
def dkwX7_isTaken_2 : List UInt8 := [4, 172, 21, 5, 29, 21, 4, 96, 160, 0, 7, 4, 167, 0, 4, 3, 172, 21, 5, 21, 4, 29, 100]
abbrev dktX7_isTaken_2 : List UInt8 := dkwX7_isTaken_2 ++ dktX7_isTaken_3
def dkwX7_isTaken_1 : List UInt8 := [170, 0, 0, 0, 0, 0, 0, 79, 0, 0, 0, 2, 0, 0, 0, 5, 0, 0, 0, 32, 0, 0, 0, 34, 0, 0, 0, 49, 0, 0, 0, 64]
abbrev dktX7_isTaken_1 : List UInt8 := dkwX7_isTaken_1 ++ dktX7_isTaken_2
def dkwX7_isTaken_0 : List UInt8 := [27, 184, 0, 98, 62, 28, 184, 0, 98, 54, 4, 27, 28, 130, 184, 0, 98, 54, 5, 26]
abbrev dktX7_isTaken_0 : List UInt8 := dkwX7_isTaken_0 ++ dktX7_isTaken_1
theorem dksX7_isTaken_0 : cX7_isTaken.data.toList.drop 0 = dktX7_isTaken_0 := by decide +kernel
theorem dksX7_isTaken_1 : cX7_isTaken.data.toList.drop 20 = dktX7_isTaken_1 := dk_seg dksX7_isTaken_0 20 rfl rfl
theorem dksX7_isTaken_2 : cX7_isTaken.data.toList.drop 52 = dktX7_isTaken_2 := dk_seg dksX7_isTaken_1 32 rfl rfl
theorem dksX7_isTaken_3 : cX7_isTaken.data.toList.drop 75 = dktX7_isTaken_3 := dk_seg dksX7_isTaken_2 23 rfl rfl
theorem dksX7_isTaken_4 : cX7_isTaken.data.toList.drop 99 = dktX7_isTaken_4 := dk_seg dksX7_isTaken_3 24 rfl rfl
theorem dX7_isTaken_0 : decode cX7_isTaken 0 = .ok (.iload_n 1, 1) := dk_27 (dk_at dksX7_isTaken_0 0 rfl rfl)
theorem dX7_isTaken_1 : decode cX7_isTaken 1 = .ok (.invokestatic 98, 3) := dk_184 0 98 (dk_at dksX7_isTaken_0 1 rfl rfl)
theorem dX7_isTaken_4 : decode cX7_isTaken 4 = .ok (.istore_n 3, 1) := dk_62 (dk_at dksX7_isTaken_0 4 rfl rfl)
theorem dX7_isTaken_5 : decode cX7_isTaken 5 = .ok (.iload_n 2, 1) := dk_28 (dk_at dksX7_isTaken_0 5 rfl rfl)
theorem dX7_isTaken_6 : decode cX7_isTaken 6 = .ok (.invokestatic 98, 3) := dk_184 0 98 (dk_at dksX7_isTaken_0 6 rfl rfl)
theorem dX7_isTaken_9 : decode cX7_isTaken 9 = .ok (.istore 4, 2) := dk_54 4 (dk_at dksX7_isTaken_0 9 rfl rfl)
theorem dX7_isTaken_11 : decode cX7_isTaken 11 = .ok (.iload_n 1, 1) := dk_27 (dk_at dksX7_isTaken_0 11 rfl rfl)
theorem dX7_isTaken_12 : decode cX7_isTaken 12 = .ok (.iload_n 2, 1) := dk_28 (dk_at dksX7_isTaken_0 12 rfl rfl)
theorem dX7_isTaken_13 : decode cX7_isTaken 13 = .ok (.ixor, 1) := dk_130 (dk_at dksX7_isTaken_0 13 rfl rfl)
theorem dX7_isTaken_14 : decode cX7_isTaken 14 = .ok (.invokestatic 98, 3) := dk_184 0 98 (dk_at dksX7_isTaken_0 14 rfl rfl)
theorem dX7_isTaken_17 : decode cX7_isTaken 17 = .ok (.istore 5, 2) := dk_54 5 (dk_at dksX7_isTaken_0 17 rfl rfl)
theorem dX7_isTaken_19 : decode cX7_isTaken 19 = .ok (.iload_n 0, 1) := dk_26 (dk_at dksX7_isTaken_0 19 rfl rfl)
theorem dX7_isTaken_20 : decode cX7_isTaken 20 = .ok (.tableswitch 79 2 5 #[32, 34, 49, 64], 32) := by decide +kernel
theorem dX7_isTaken_52 : decode cX7_isTaken 52 = .ok (.iconst 1, 1) := dk_4 (dk_at dksX7_isTaken_2 0 rfl rfl)
theorem dX7_isTaken_53 : decode cX7_isTaken 53 = .ok (.ireturn, 1) := dk_172 (dk_at dksX7_isTaken_2 1 rfl rfl)
theorem dX7_isTaken_54 : decode cX7_isTaken 54 = .ok (.iload 5, 2) := dk_21 5 (dk_at dksX7_isTaken_2 2 rfl rfl)
theorem dX7_isTaken_56 : decode cX7_isTaken 56 = .ok (.iload_n 3, 1) := dk_29 (dk_at dksX7_isTaken_2 4 rfl rfl)
theorem dX7_isTaken_57 : decode cX7_isTaken 57 = .ok (.iload 4, 2) := dk_21 4 (dk_at dksX7_isTaken_2 5 rfl rfl)
theorem dX7_isTaken_59 : decode cX7_isTaken 59 = .ok (.iadd, 1) := dk_96 (dk_at dksX7_isTaken_2 7 rfl rfl)
theorem dX7_isTaken_60 : decode cX7_isTaken 60 = .ok (.if_icmp .ne 7, 3) := dk_160 0 7 (dk_at dksX7_isTaken_2 8 rfl rfl)
theorem dX7_isTaken_63 : decode cX7_isTaken 63 = .ok (.iconst 1, 1) := dk_4 (dk_at dksX7_isTaken_2 11 rfl rfl)
theorem dX7_isTaken_64 : decode cX7_isTaken 64 = .ok (.goto 4, 3) := dk_167 0 4 (dk_at dksX7_isTaken_2 12 rfl rfl)
theorem dX7_isTaken_67 : decode cX7_isTaken 67 = .ok (.iconst 0, 1) := dk_3 (dk_at dksX7_isTaken_2 15 rfl rfl)
theorem dX7_isTaken_68 : decode cX7_isTaken 68 = .ok (.ireturn, 1) := dk_172 (dk_at dksX7_isTaken_2 16 rfl rfl)
theorem dX7_isTaken_69 : decode cX7_isTaken 69 = .ok (.iload 5, 2) := dk_21 5 (dk_at dksX7_isTaken_2 17 rfl rfl)
theorem dX7_isTaken_71 : decode cX7_isTaken 71 = .ok (.iload 4, 2) := dk_21 4 (dk_at dksX7_isTaken_2 19 rfl rfl)
theorem dX7_isTaken_73 : decode cX7_isTaken 73 = .ok (.iload_n 3, 1) := dk_29 (dk_at dksX7_isTaken_2 21 rfl rfl)
theorem dX7_isTaken_74 : decode cX7_isTaken 74 = .ok (.isub, 1) := dk_100 (dk_at dksX7_isTaken_2 22 rfl rfl)
theorem dX7_isTaken_75 : decode cX7_isTaken 75 = .ok (.if_icmp .ne 7, 3) := dk_160 0 7 (dk_at dksX7_isTaken_3 0 rfl rfl)
theorem dX7_isTaken_78 : decode cX7_isTaken 78 = .ok (.iconst 1, 1) := dk_4 (dk_at dksX7_isTaken_3 3 rfl rfl)
theorem dX7_isTaken_79 : decode cX7_isTaken 79 = .ok (.goto 4, 3) := dk_167 0 4 (dk_at dksX7_isTaken_3 4 rfl rfl)
theorem dX7_isTaken_82 : decode cX7_isTaken 82 = .ok (.iconst 0, 1) := dk_3 (dk_at dksX7_isTaken_3 7 rfl rfl)
theorem dX7_isTaken_83 : decode cX7_isTaken 83 = .ok (.ireturn, 1) := dk_172 (dk_at dksX7_isTaken_3 8 rfl rfl)
theorem dX7_isTaken_84 : decode cX7_isTaken 84 = .ok (.iload 5, 2) := dk_21 5 (dk_at dksX7_isTaken_3 9 rfl rfl)
theorem dX7_isTaken_86 : decode cX7_isTaken 86 = .ok (.iload_n 3, 1) := dk_29 (dk_at dksX7_isTaken_3 11 rfl rfl)
theorem dX7_isTaken_87 : decode cX7_isTaken 87 = .ok (.iload 4, 2) := dk_21 4 (dk_at dksX7_isTaken_3 12 rfl rfl)
theorem dX7_isTaken_89 : decode cX7_isTaken 89 = .ok (.isub, 1) := dk_100 (dk_at dksX7_isTaken_3 14 rfl rfl)
theorem dX7_isTaken_90 : decode cX7_isTaken 90 = .ok (.if_icmp .ne 7, 3) := dk_160 0 7 (dk_at dksX7_isTaken_3 15 rfl rfl)
theorem dX7_isTaken_93 : decode cX7_isTaken 93 = .ok (.iconst 1, 1) := dk_4 (dk_at dksX7_isTaken_3 18 rfl rfl)
theorem dX7_isTaken_94 : decode cX7_isTaken 94 = .ok (.goto 4, 3) := dk_167 0 4 (dk_at dksX7_isTaken_3 19 rfl rfl)
theorem dX7_isTaken_97 : decode cX7_isTaken 97 = .ok (.iconst 0, 1) := dk_3 (dk_at dksX7_isTaken_3 22 rfl rfl)
theorem dX7_isTaken_98 : decode cX7_isTaken 98 = .ok (.ireturn, 1) := dk_172 (dk_at dksX7_isTaken_3 23 rfl rfl)
theorem dX7_isTaken_99 : decode cX7_isTaken 99 = .ok (.iload 5, 2) := dk_21 5 (dk_at dksX7_isTaken_4 0 rfl rfl)
theorem dX7_isTaken_101 : decode cX7_isTaken 101 = .ok (.ifCond .ne 7, 3) := dk_154 0 7 (dk_at dksX7_isTaken_4 2 rfl rfl)
theorem dX7_isTaken_104 : decode cX7_isTaken 104 = .ok (.iconst 1, 1) := dk_4 (dk_at dksX7_isTaken_4 5 rfl rfl)
theorem dX7_isTaken_105 : decode cX7_isTaken 105 = .ok (.goto 4, 3) := dk_167 0 4 (dk_at dksX7_isTaken_4 6 rfl rfl)
theorem dX7_isTaken_108 : decode cX7_isTaken 108 = .ok (.iconst 0, 1) := dk_3 (dk_at dksX7_isTaken_4 9 rfl rfl)
theorem dX7_isTaken_109 : decode cX7_isTaken 109 = .ok (.ireturn, 1) := dk_172 (dk_at dksX7_isTaken_4 10 rfl rfl)
abbrev cX7_scales : ByteArray := prog_42_method_24_code
def yX7_scales : MethodName := ⟨RX7, "scales", "(IJJI)Z"⟩
def dkwX7_scales_3 : List UInt8 := [21, 6, 182, 0, 118, 172]
abbrev dktX7_scales_3 : List UInt8 := dkwX7_scales_3 ++ []
def dkwX7_scales_2 : List UInt8 := [105, 80, 132, 9, 1, 167, 255, 227, 42, 42, 27, 182, 0, 114, 22, 4, 105, 22, 7, 105, 181, 0, 34, 42]
abbrev dktX7_scales_2 : List UInt8 := dkwX7_scales_2 ++ dktX7_scales_3
def dkwX7_scales_1 : List UInt8 := [21, 9, 16, 32, 162, 0, 28, 42, 180, 0, 31, 21, 9, 42, 27, 21, 9, 182, 0, 94, 32, 105, 22, 7]
abbrev dktX7_scales_1 : List UInt8 := dkwX7_scales_1 ++ dktX7_scales_2
def dkwX7_scales_0 : List UInt8 := [42, 182, 0, 105, 22, 4, 9, 148, 156, 0, 9, 20, 0, 122, 167, 0, 4, 10, 55, 7, 3, 54, 9]
abbrev dktX7_scales_0 : List UInt8 := dkwX7_scales_0 ++ dktX7_scales_1
theorem dksX7_scales_0 : cX7_scales.data.toList.drop 0 = dktX7_scales_0 := by decide +kernel
theorem dksX7_scales_1 : cX7_scales.data.toList.drop 23 = dktX7_scales_1 := dk_seg dksX7_scales_0 23 rfl rfl
theorem dksX7_scales_2 : cX7_scales.data.toList.drop 47 = dktX7_scales_2 := dk_seg dksX7_scales_1 24 rfl rfl
theorem dksX7_scales_3 : cX7_scales.data.toList.drop 71 = dktX7_scales_3 := dk_seg dksX7_scales_2 24 rfl rfl
theorem dX7_scales_0 : decode cX7_scales 0 = .ok (.aload_n 0, 1) := dk_42 (dk_at dksX7_scales_0 0 rfl rfl)
theorem dX7_scales_1 : decode cX7_scales 1 = .ok (.invokevirtual 105, 3) := dk_182 0 105 (dk_at dksX7_scales_0 1 rfl rfl)
theorem dX7_scales_4 : decode cX7_scales 4 = .ok (.lload 4, 2) := dk_22 4 (dk_at dksX7_scales_0 4 rfl rfl)
theorem dX7_scales_6 : decode cX7_scales 6 = .ok (.lconst 0, 1) := dk_9 (dk_at dksX7_scales_0 6 rfl rfl)
theorem dX7_scales_7 : decode cX7_scales 7 = .ok (.lcmp, 1) := dk_148 (dk_at dksX7_scales_0 7 rfl rfl)
theorem dX7_scales_8 : decode cX7_scales 8 = .ok (.ifCond .ge 9, 3) := dk_156 0 9 (dk_at dksX7_scales_0 8 rfl rfl)
theorem dX7_scales_11 : decode cX7_scales 11 = .ok (.ldc2_w 122, 3) := dk_20 0 122 (dk_at dksX7_scales_0 11 rfl rfl)
theorem dX7_scales_14 : decode cX7_scales 14 = .ok (.goto 4, 3) := dk_167 0 4 (dk_at dksX7_scales_0 14 rfl rfl)
theorem dX7_scales_17 : decode cX7_scales 17 = .ok (.lconst 1, 1) := dk_10 (dk_at dksX7_scales_0 17 rfl rfl)
theorem dX7_scales_18 : decode cX7_scales 18 = .ok (.lstore 7, 2) := dk_55 7 (dk_at dksX7_scales_0 18 rfl rfl)
theorem dX7_scales_20 : decode cX7_scales 20 = .ok (.iconst 0, 1) := dk_3 (dk_at dksX7_scales_0 20 rfl rfl)
theorem dX7_scales_21 : decode cX7_scales 21 = .ok (.istore 9, 2) := dk_54 9 (dk_at dksX7_scales_0 21 rfl rfl)
theorem dX7_scales_23 : decode cX7_scales 23 = .ok (.iload 9, 2) := dk_21 9 (dk_at dksX7_scales_1 0 rfl rfl)
theorem dX7_scales_25 : decode cX7_scales 25 = .ok (.bipush 32, 2) := dk_16 32 (dk_at dksX7_scales_1 2 rfl rfl)
theorem dX7_scales_27 : decode cX7_scales 27 = .ok (.if_icmp .ge 28, 3) := dk_162 0 28 (dk_at dksX7_scales_1 4 rfl rfl)
theorem dX7_scales_30 : decode cX7_scales 30 = .ok (.aload_n 0, 1) := dk_42 (dk_at dksX7_scales_1 7 rfl rfl)
theorem dX7_scales_31 : decode cX7_scales 31 = .ok (.getfield 31, 3) := dk_180 0 31 (dk_at dksX7_scales_1 8 rfl rfl)
theorem dX7_scales_34 : decode cX7_scales 34 = .ok (.iload 9, 2) := dk_21 9 (dk_at dksX7_scales_1 11 rfl rfl)
theorem dX7_scales_36 : decode cX7_scales 36 = .ok (.aload_n 0, 1) := dk_42 (dk_at dksX7_scales_1 13 rfl rfl)
theorem dX7_scales_37 : decode cX7_scales 37 = .ok (.iload_n 1, 1) := dk_27 (dk_at dksX7_scales_1 14 rfl rfl)
theorem dX7_scales_38 : decode cX7_scales 38 = .ok (.iload 9, 2) := dk_21 9 (dk_at dksX7_scales_1 15 rfl rfl)
theorem dX7_scales_40 : decode cX7_scales 40 = .ok (.invokevirtual 94, 3) := dk_182 0 94 (dk_at dksX7_scales_1 17 rfl rfl)
theorem dX7_scales_43 : decode cX7_scales 43 = .ok (.lload_n 2, 1) := dk_32 (dk_at dksX7_scales_1 20 rfl rfl)
theorem dX7_scales_44 : decode cX7_scales 44 = .ok (.lmul, 1) := dk_105 (dk_at dksX7_scales_1 21 rfl rfl)
theorem dX7_scales_45 : decode cX7_scales 45 = .ok (.lload 7, 2) := dk_22 7 (dk_at dksX7_scales_1 22 rfl rfl)
theorem dX7_scales_47 : decode cX7_scales 47 = .ok (.lmul, 1) := dk_105 (dk_at dksX7_scales_2 0 rfl rfl)
theorem dX7_scales_48 : decode cX7_scales 48 = .ok (.lastore, 1) := dk_80 (dk_at dksX7_scales_2 1 rfl rfl)
theorem dX7_scales_49 : decode cX7_scales 49 = .ok (.iinc 9 1, 3) := dk_132 9 1 (dk_at dksX7_scales_2 2 rfl rfl)
theorem dX7_scales_52 : decode cX7_scales 52 = .ok (.goto (-29), 3) := dk_167 255 227 (dk_at dksX7_scales_2 5 rfl rfl)
theorem dX7_scales_55 : decode cX7_scales 55 = .ok (.aload_n 0, 1) := dk_42 (dk_at dksX7_scales_2 8 rfl rfl)
theorem dX7_scales_56 : decode cX7_scales 56 = .ok (.aload_n 0, 1) := dk_42 (dk_at dksX7_scales_2 9 rfl rfl)
theorem dX7_scales_57 : decode cX7_scales 57 = .ok (.iload_n 1, 1) := dk_27 (dk_at dksX7_scales_2 10 rfl rfl)
theorem dX7_scales_58 : decode cX7_scales 58 = .ok (.invokevirtual 114, 3) := dk_182 0 114 (dk_at dksX7_scales_2 11 rfl rfl)
theorem dX7_scales_61 : decode cX7_scales 61 = .ok (.lload 4, 2) := dk_22 4 (dk_at dksX7_scales_2 14 rfl rfl)
theorem dX7_scales_63 : decode cX7_scales 63 = .ok (.lmul, 1) := dk_105 (dk_at dksX7_scales_2 16 rfl rfl)
theorem dX7_scales_64 : decode cX7_scales 64 = .ok (.lload 7, 2) := dk_22 7 (dk_at dksX7_scales_2 17 rfl rfl)
theorem dX7_scales_66 : decode cX7_scales 66 = .ok (.lmul, 1) := dk_105 (dk_at dksX7_scales_2 19 rfl rfl)
theorem dX7_scales_67 : decode cX7_scales 67 = .ok (.putfield 34, 3) := dk_181 0 34 (dk_at dksX7_scales_2 20 rfl rfl)
theorem dX7_scales_70 : decode cX7_scales 70 = .ok (.aload_n 0, 1) := dk_42 (dk_at dksX7_scales_2 23 rfl rfl)
theorem dX7_scales_71 : decode cX7_scales 71 = .ok (.iload 6, 2) := dk_21 6 (dk_at dksX7_scales_3 0 rfl rfl)
theorem dX7_scales_73 : decode cX7_scales 73 = .ok (.invokevirtual 118, 3) := dk_182 0 118 (dk_at dksX7_scales_3 2 rfl rfl)
theorem dX7_scales_76 : decode cX7_scales 76 = .ok (.ireturn, 1) := dk_172 (dk_at dksX7_scales_3 5 rfl rfl)
abbrev cX7_gives : ByteArray := prog_42_method_16_code
def yX7_gives : MethodName := ⟨RX7, "gives", "(II)I"⟩
def dkwX7_gives_0 : List UInt8 := [42, 27, 28, 182, 0, 86, 42, 3, 181, 0, 54, 42, 28, 182, 0, 90, 172]
abbrev dktX7_gives_0 : List UInt8 := dkwX7_gives_0 ++ []
theorem dksX7_gives_0 : cX7_gives.data.toList.drop 0 = dktX7_gives_0 := by decide +kernel
theorem dX7_gives_0 : decode cX7_gives 0 = .ok (.aload_n 0, 1) := dk_42 (dk_at dksX7_gives_0 0 rfl rfl)
theorem dX7_gives_1 : decode cX7_gives 1 = .ok (.iload_n 1, 1) := dk_27 (dk_at dksX7_gives_0 1 rfl rfl)
theorem dX7_gives_2 : decode cX7_gives 2 = .ok (.iload_n 2, 1) := dk_28 (dk_at dksX7_gives_0 2 rfl rfl)
theorem dX7_gives_3 : decode cX7_gives 3 = .ok (.invokevirtual 86, 3) := dk_182 0 86 (dk_at dksX7_gives_0 3 rfl rfl)
theorem dX7_gives_6 : decode cX7_gives 6 = .ok (.aload_n 0, 1) := dk_42 (dk_at dksX7_gives_0 6 rfl rfl)
theorem dX7_gives_7 : decode cX7_gives 7 = .ok (.iconst 0, 1) := dk_3 (dk_at dksX7_gives_0 7 rfl rfl)
theorem dX7_gives_8 : decode cX7_gives 8 = .ok (.putfield 54, 3) := dk_181 0 54 (dk_at dksX7_gives_0 8 rfl rfl)
theorem dX7_gives_11 : decode cX7_gives 11 = .ok (.aload_n 0, 1) := dk_42 (dk_at dksX7_gives_0 11 rfl rfl)
theorem dX7_gives_12 : decode cX7_gives 12 = .ok (.iload_n 2, 1) := dk_28 (dk_at dksX7_gives_0 12 rfl rfl)
theorem dX7_gives_13 : decode cX7_gives 13 = .ok (.invokevirtual 90, 3) := dk_182 0 90 (dk_at dksX7_gives_0 13 rfl rfl)
theorem dX7_gives_16 : decode cX7_gives 16 = .ok (.ireturn, 1) := dk_172 (dk_at dksX7_gives_0 16 rfl rfl)
abbrev cX7_copies : ByteArray := prog_42_method_15_code
def yX7_copies : MethodName := ⟨RX7, "copies", "(II)V"⟩
def dkwX7_copies_1 : List UInt8 := [27, 104, 29, 96, 47, 80, 132, 3, 1, 167, 255, 225, 177]
abbrev dktX7_copies_1 : List UInt8 := dkwX7_copies_1 ++ []
def dkwX7_copies_0 : List UInt8 := [3, 62, 29, 16, 33, 162, 0, 31, 42, 180, 0, 27, 16, 33, 28, 104, 29, 96, 42, 180, 0, 27, 16, 33]
abbrev dktX7_copies_0 : List UInt8 := dkwX7_copies_0 ++ dktX7_copies_1
theorem dksX7_copies_0 : cX7_copies.data.toList.drop 0 = dktX7_copies_0 := by decide +kernel
theorem dksX7_copies_1 : cX7_copies.data.toList.drop 24 = dktX7_copies_1 := dk_seg dksX7_copies_0 24 rfl rfl
theorem dX7_copies_0 : decode cX7_copies 0 = .ok (.iconst 0, 1) := dk_3 (dk_at dksX7_copies_0 0 rfl rfl)
theorem dX7_copies_1 : decode cX7_copies 1 = .ok (.istore_n 3, 1) := dk_62 (dk_at dksX7_copies_0 1 rfl rfl)
theorem dX7_copies_2 : decode cX7_copies 2 = .ok (.iload_n 3, 1) := dk_29 (dk_at dksX7_copies_0 2 rfl rfl)
theorem dX7_copies_3 : decode cX7_copies 3 = .ok (.bipush 33, 2) := dk_16 33 (dk_at dksX7_copies_0 3 rfl rfl)
theorem dX7_copies_5 : decode cX7_copies 5 = .ok (.if_icmp .ge 31, 3) := dk_162 0 31 (dk_at dksX7_copies_0 5 rfl rfl)
theorem dX7_copies_8 : decode cX7_copies 8 = .ok (.aload_n 0, 1) := dk_42 (dk_at dksX7_copies_0 8 rfl rfl)
theorem dX7_copies_9 : decode cX7_copies 9 = .ok (.getfield 27, 3) := dk_180 0 27 (dk_at dksX7_copies_0 9 rfl rfl)
theorem dX7_copies_12 : decode cX7_copies 12 = .ok (.bipush 33, 2) := dk_16 33 (dk_at dksX7_copies_0 12 rfl rfl)
theorem dX7_copies_14 : decode cX7_copies 14 = .ok (.iload_n 2, 1) := dk_28 (dk_at dksX7_copies_0 14 rfl rfl)
theorem dX7_copies_15 : decode cX7_copies 15 = .ok (.imul, 1) := dk_104 (dk_at dksX7_copies_0 15 rfl rfl)
theorem dX7_copies_16 : decode cX7_copies 16 = .ok (.iload_n 3, 1) := dk_29 (dk_at dksX7_copies_0 16 rfl rfl)
theorem dX7_copies_17 : decode cX7_copies 17 = .ok (.iadd, 1) := dk_96 (dk_at dksX7_copies_0 17 rfl rfl)
theorem dX7_copies_18 : decode cX7_copies 18 = .ok (.aload_n 0, 1) := dk_42 (dk_at dksX7_copies_0 18 rfl rfl)
theorem dX7_copies_19 : decode cX7_copies 19 = .ok (.getfield 27, 3) := dk_180 0 27 (dk_at dksX7_copies_0 19 rfl rfl)
theorem dX7_copies_22 : decode cX7_copies 22 = .ok (.bipush 33, 2) := dk_16 33 (dk_at dksX7_copies_0 22 rfl rfl)
theorem dX7_copies_24 : decode cX7_copies 24 = .ok (.iload_n 1, 1) := dk_27 (dk_at dksX7_copies_1 0 rfl rfl)
theorem dX7_copies_25 : decode cX7_copies 25 = .ok (.imul, 1) := dk_104 (dk_at dksX7_copies_1 1 rfl rfl)
theorem dX7_copies_26 : decode cX7_copies 26 = .ok (.iload_n 3, 1) := dk_29 (dk_at dksX7_copies_1 2 rfl rfl)
theorem dX7_copies_27 : decode cX7_copies 27 = .ok (.iadd, 1) := dk_96 (dk_at dksX7_copies_1 3 rfl rfl)
theorem dX7_copies_28 : decode cX7_copies 28 = .ok (.laload, 1) := dk_47 (dk_at dksX7_copies_1 4 rfl rfl)
theorem dX7_copies_29 : decode cX7_copies 29 = .ok (.lastore, 1) := dk_80 (dk_at dksX7_copies_1 5 rfl rfl)
theorem dX7_copies_30 : decode cX7_copies 30 = .ok (.iinc 3 1, 3) := dk_132 3 1 (dk_at dksX7_copies_1 6 rfl rfl)
theorem dX7_copies_33 : decode cX7_copies 33 = .ok (.goto (-31), 3) := dk_167 255 225 (dk_at dksX7_copies_1 9 rfl rfl)
theorem dX7_copies_36 : decode cX7_copies 36 = .ok (.return_, 1) := dk_177 (dk_at dksX7_copies_1 12 rfl rfl)
abbrev cX7_terms : ByteArray := prog_42_method_17_code
def yX7_terms : MethodName := ⟨RX7, "terms", "(I)I"⟩
def dkwX7_terms_1 : List UInt8 := [167, 0, 4, 3, 96, 61, 132, 3, 1, 167, 255, 228, 28, 172]
abbrev dktX7_terms_1 : List UInt8 := dkwX7_terms_1 ++ []
def dkwX7_terms_0 : List UInt8 := [3, 61, 3, 62, 29, 16, 32, 162, 0, 28, 28, 42, 27, 29, 182, 0, 94, 9, 148, 153, 0, 7, 4]
abbrev dktX7_terms_0 : List UInt8 := dkwX7_terms_0 ++ dktX7_terms_1
theorem dksX7_terms_0 : cX7_terms.data.toList.drop 0 = dktX7_terms_0 := by decide +kernel
theorem dksX7_terms_1 : cX7_terms.data.toList.drop 23 = dktX7_terms_1 := dk_seg dksX7_terms_0 23 rfl rfl
theorem dX7_terms_0 : decode cX7_terms 0 = .ok (.iconst 0, 1) := dk_3 (dk_at dksX7_terms_0 0 rfl rfl)
theorem dX7_terms_1 : decode cX7_terms 1 = .ok (.istore_n 2, 1) := dk_61 (dk_at dksX7_terms_0 1 rfl rfl)
theorem dX7_terms_2 : decode cX7_terms 2 = .ok (.iconst 0, 1) := dk_3 (dk_at dksX7_terms_0 2 rfl rfl)
theorem dX7_terms_3 : decode cX7_terms 3 = .ok (.istore_n 3, 1) := dk_62 (dk_at dksX7_terms_0 3 rfl rfl)
theorem dX7_terms_4 : decode cX7_terms 4 = .ok (.iload_n 3, 1) := dk_29 (dk_at dksX7_terms_0 4 rfl rfl)
theorem dX7_terms_5 : decode cX7_terms 5 = .ok (.bipush 32, 2) := dk_16 32 (dk_at dksX7_terms_0 5 rfl rfl)
theorem dX7_terms_7 : decode cX7_terms 7 = .ok (.if_icmp .ge 28, 3) := dk_162 0 28 (dk_at dksX7_terms_0 7 rfl rfl)
theorem dX7_terms_10 : decode cX7_terms 10 = .ok (.iload_n 2, 1) := dk_28 (dk_at dksX7_terms_0 10 rfl rfl)
theorem dX7_terms_11 : decode cX7_terms 11 = .ok (.aload_n 0, 1) := dk_42 (dk_at dksX7_terms_0 11 rfl rfl)
theorem dX7_terms_12 : decode cX7_terms 12 = .ok (.iload_n 1, 1) := dk_27 (dk_at dksX7_terms_0 12 rfl rfl)
theorem dX7_terms_13 : decode cX7_terms 13 = .ok (.iload_n 3, 1) := dk_29 (dk_at dksX7_terms_0 13 rfl rfl)
theorem dX7_terms_14 : decode cX7_terms 14 = .ok (.invokevirtual 94, 3) := dk_182 0 94 (dk_at dksX7_terms_0 14 rfl rfl)
theorem dX7_terms_17 : decode cX7_terms 17 = .ok (.lconst 0, 1) := dk_9 (dk_at dksX7_terms_0 17 rfl rfl)
theorem dX7_terms_18 : decode cX7_terms 18 = .ok (.lcmp, 1) := dk_148 (dk_at dksX7_terms_0 18 rfl rfl)
theorem dX7_terms_19 : decode cX7_terms 19 = .ok (.ifCond .eq 7, 3) := dk_153 0 7 (dk_at dksX7_terms_0 19 rfl rfl)
theorem dX7_terms_22 : decode cX7_terms 22 = .ok (.iconst 1, 1) := dk_4 (dk_at dksX7_terms_0 22 rfl rfl)
theorem dX7_terms_23 : decode cX7_terms 23 = .ok (.goto 4, 3) := dk_167 0 4 (dk_at dksX7_terms_1 0 rfl rfl)
theorem dX7_terms_26 : decode cX7_terms 26 = .ok (.iconst 0, 1) := dk_3 (dk_at dksX7_terms_1 3 rfl rfl)
theorem dX7_terms_27 : decode cX7_terms 27 = .ok (.iadd, 1) := dk_96 (dk_at dksX7_terms_1 4 rfl rfl)
theorem dX7_terms_28 : decode cX7_terms 28 = .ok (.istore_n 2, 1) := dk_61 (dk_at dksX7_terms_1 5 rfl rfl)
theorem dX7_terms_29 : decode cX7_terms 29 = .ok (.iinc 3 1, 3) := dk_132 3 1 (dk_at dksX7_terms_1 6 rfl rfl)
theorem dX7_terms_32 : decode cX7_terms 32 = .ok (.goto (-28), 3) := dk_167 255 228 (dk_at dksX7_terms_1 9 rfl rfl)
theorem dX7_terms_35 : decode cX7_terms 35 = .ok (.iload_n 2, 1) := dk_28 (dk_at dksX7_terms_1 12 rfl rfl)
theorem dX7_terms_36 : decode cX7_terms 36 = .ok (.ireturn, 1) := dk_172 (dk_at dksX7_terms_1 13 rfl rfl)
abbrev cX7_change : ByteArray := prog_42_method_33_code
def yX7_change : MethodName := ⟨RX7, "change", "(III)I"⟩
def dkwX7_change_3 : List UInt8 := [182, 0, 140, 42, 16, 24, 28, 182, 0, 153, 172]
abbrev dktX7_change_3 : List UInt8 := dkwX7_change_3 ++ []
def dkwX7_change_2 : List UInt8 := [172, 27, 8, 160, 0, 16, 42, 180, 0, 60, 158, 0, 9, 42, 7, 182, 0, 144, 172, 42, 27, 29, 16, 24]
abbrev dktX7_change_2 : List UInt8 := dkwX7_change_2 ++ dktX7_change_3
def dkwX7_change_1 : List UInt8 := [184, 0, 147, 154, 0, 9, 42, 5, 182, 0, 144, 172, 27, 16, 9, 160, 0, 10, 42, 28, 29, 182, 0, 166]
abbrev dktX7_change_1 : List UInt8 := dkwX7_change_1 ++ dktX7_change_2
def dkwX7_change_0 : List UInt8 := [27, 3, 16, 9, 184, 0, 67, 154, 0, 9, 42, 4, 182, 0, 144, 172, 28, 184, 0, 147, 153, 0, 10, 29]
abbrev dktX7_change_0 : List UInt8 := dkwX7_change_0 ++ dktX7_change_1
theorem dksX7_change_0 : cX7_change.data.toList.drop 0 = dktX7_change_0 := by decide +kernel
theorem dksX7_change_1 : cX7_change.data.toList.drop 24 = dktX7_change_1 := dk_seg dksX7_change_0 24 rfl rfl
theorem dksX7_change_2 : cX7_change.data.toList.drop 48 = dktX7_change_2 := dk_seg dksX7_change_1 24 rfl rfl
theorem dksX7_change_3 : cX7_change.data.toList.drop 72 = dktX7_change_3 := dk_seg dksX7_change_2 24 rfl rfl
theorem dX7_change_0 : decode cX7_change 0 = .ok (.iload_n 1, 1) := dk_27 (dk_at dksX7_change_0 0 rfl rfl)
theorem dX7_change_1 : decode cX7_change 1 = .ok (.iconst 0, 1) := dk_3 (dk_at dksX7_change_0 1 rfl rfl)
theorem dX7_change_2 : decode cX7_change 2 = .ok (.bipush 9, 2) := dk_16 9 (dk_at dksX7_change_0 2 rfl rfl)
theorem dX7_change_4 : decode cX7_change 4 = .ok (.invokestatic 67, 3) := dk_184 0 67 (dk_at dksX7_change_0 4 rfl rfl)
theorem dX7_change_7 : decode cX7_change 7 = .ok (.ifCond .ne 9, 3) := dk_154 0 9 (dk_at dksX7_change_0 7 rfl rfl)
theorem dX7_change_10 : decode cX7_change 10 = .ok (.aload_n 0, 1) := dk_42 (dk_at dksX7_change_0 10 rfl rfl)
theorem dX7_change_11 : decode cX7_change 11 = .ok (.iconst 1, 1) := dk_4 (dk_at dksX7_change_0 11 rfl rfl)
theorem dX7_change_12 : decode cX7_change 12 = .ok (.invokevirtual 144, 3) := dk_182 0 144 (dk_at dksX7_change_0 12 rfl rfl)
theorem dX7_change_15 : decode cX7_change 15 = .ok (.ireturn, 1) := dk_172 (dk_at dksX7_change_0 15 rfl rfl)
theorem dX7_change_16 : decode cX7_change 16 = .ok (.iload_n 2, 1) := dk_28 (dk_at dksX7_change_0 16 rfl rfl)
theorem dX7_change_17 : decode cX7_change 17 = .ok (.invokestatic 147, 3) := dk_184 0 147 (dk_at dksX7_change_0 17 rfl rfl)
theorem dX7_change_20 : decode cX7_change 20 = .ok (.ifCond .eq 10, 3) := dk_153 0 10 (dk_at dksX7_change_0 20 rfl rfl)
theorem dX7_change_23 : decode cX7_change 23 = .ok (.iload_n 3, 1) := dk_29 (dk_at dksX7_change_0 23 rfl rfl)
theorem dX7_change_24 : decode cX7_change 24 = .ok (.invokestatic 147, 3) := dk_184 0 147 (dk_at dksX7_change_1 0 rfl rfl)
theorem dX7_change_27 : decode cX7_change 27 = .ok (.ifCond .ne 9, 3) := dk_154 0 9 (dk_at dksX7_change_1 3 rfl rfl)
theorem dX7_change_30 : decode cX7_change 30 = .ok (.aload_n 0, 1) := dk_42 (dk_at dksX7_change_1 6 rfl rfl)
theorem dX7_change_31 : decode cX7_change 31 = .ok (.iconst 2, 1) := dk_5 (dk_at dksX7_change_1 7 rfl rfl)
theorem dX7_change_32 : decode cX7_change 32 = .ok (.invokevirtual 144, 3) := dk_182 0 144 (dk_at dksX7_change_1 8 rfl rfl)
theorem dX7_change_35 : decode cX7_change 35 = .ok (.ireturn, 1) := dk_172 (dk_at dksX7_change_1 11 rfl rfl)
theorem dX7_change_36 : decode cX7_change 36 = .ok (.iload_n 1, 1) := dk_27 (dk_at dksX7_change_1 12 rfl rfl)
theorem dX7_change_37 : decode cX7_change 37 = .ok (.bipush 9, 2) := dk_16 9 (dk_at dksX7_change_1 13 rfl rfl)
theorem dX7_change_39 : decode cX7_change 39 = .ok (.if_icmp .ne 10, 3) := dk_160 0 10 (dk_at dksX7_change_1 15 rfl rfl)
theorem dX7_change_42 : decode cX7_change 42 = .ok (.aload_n 0, 1) := dk_42 (dk_at dksX7_change_1 18 rfl rfl)
theorem dX7_change_43 : decode cX7_change 43 = .ok (.iload_n 2, 1) := dk_28 (dk_at dksX7_change_1 19 rfl rfl)
theorem dX7_change_44 : decode cX7_change 44 = .ok (.iload_n 3, 1) := dk_29 (dk_at dksX7_change_1 20 rfl rfl)
theorem dX7_change_45 : decode cX7_change 45 = .ok (.invokevirtual 166, 3) := dk_182 0 166 (dk_at dksX7_change_1 21 rfl rfl)
theorem dX7_change_48 : decode cX7_change 48 = .ok (.ireturn, 1) := dk_172 (dk_at dksX7_change_2 0 rfl rfl)
theorem dX7_change_49 : decode cX7_change 49 = .ok (.iload_n 1, 1) := dk_27 (dk_at dksX7_change_2 1 rfl rfl)
theorem dX7_change_50 : decode cX7_change 50 = .ok (.iconst 5, 1) := dk_8 (dk_at dksX7_change_2 2 rfl rfl)
theorem dX7_change_51 : decode cX7_change 51 = .ok (.if_icmp .ne 16, 3) := dk_160 0 16 (dk_at dksX7_change_2 3 rfl rfl)
theorem dX7_change_54 : decode cX7_change 54 = .ok (.aload_n 0, 1) := dk_42 (dk_at dksX7_change_2 6 rfl rfl)
theorem dX7_change_55 : decode cX7_change 55 = .ok (.getfield 60, 3) := dk_180 0 60 (dk_at dksX7_change_2 7 rfl rfl)
theorem dX7_change_58 : decode cX7_change 58 = .ok (.ifCond .le 9, 3) := dk_158 0 9 (dk_at dksX7_change_2 10 rfl rfl)
theorem dX7_change_61 : decode cX7_change 61 = .ok (.aload_n 0, 1) := dk_42 (dk_at dksX7_change_2 13 rfl rfl)
theorem dX7_change_62 : decode cX7_change 62 = .ok (.iconst 4, 1) := dk_7 (dk_at dksX7_change_2 14 rfl rfl)
theorem dX7_change_63 : decode cX7_change 63 = .ok (.invokevirtual 144, 3) := dk_182 0 144 (dk_at dksX7_change_2 15 rfl rfl)
theorem dX7_change_66 : decode cX7_change 66 = .ok (.ireturn, 1) := dk_172 (dk_at dksX7_change_2 18 rfl rfl)
theorem dX7_change_67 : decode cX7_change 67 = .ok (.aload_n 0, 1) := dk_42 (dk_at dksX7_change_2 19 rfl rfl)
theorem dX7_change_68 : decode cX7_change 68 = .ok (.iload_n 1, 1) := dk_27 (dk_at dksX7_change_2 20 rfl rfl)
theorem dX7_change_69 : decode cX7_change 69 = .ok (.iload_n 3, 1) := dk_29 (dk_at dksX7_change_2 21 rfl rfl)
theorem dX7_change_70 : decode cX7_change 70 = .ok (.bipush 24, 2) := dk_16 24 (dk_at dksX7_change_2 22 rfl rfl)
theorem dX7_change_72 : decode cX7_change 72 = .ok (.invokevirtual 140, 3) := dk_182 0 140 (dk_at dksX7_change_3 0 rfl rfl)
theorem dX7_change_75 : decode cX7_change 75 = .ok (.aload_n 0, 1) := dk_42 (dk_at dksX7_change_3 3 rfl rfl)
theorem dX7_change_76 : decode cX7_change 76 = .ok (.bipush 24, 2) := dk_16 24 (dk_at dksX7_change_3 4 rfl rfl)
theorem dX7_change_78 : decode cX7_change 78 = .ok (.iload_n 2, 1) := dk_28 (dk_at dksX7_change_3 6 rfl rfl)
theorem dX7_change_79 : decode cX7_change 79 = .ok (.invokevirtual 153, 3) := dk_182 0 153 (dk_at dksX7_change_3 7 rfl rfl)
theorem dX7_change_82 : decode cX7_change 82 = .ok (.ireturn, 1) := dk_172 (dk_at dksX7_change_3 10 rfl rfl)
abbrev cX7_inverts : ByteArray := prog_42_method_32_code
def yX7_inverts : MethodName := ⟨RX7, "inverts", "(II)I"⟩
def dkwX7_inverts_3 : List UInt8 := [182, 0, 144, 172]
abbrev dktX7_inverts_3 : List UInt8 := dkwX7_inverts_3 ++ []
def dkwX7_inverts_2 : List UInt8 := [182, 0, 94, 16, 24, 182, 0, 136, 153, 0, 13, 42, 16, 24, 27, 182, 0, 153, 167, 0, 8, 42, 6]
abbrev dktX7_inverts_2 : List UInt8 := dkwX7_inverts_2 ++ dktX7_inverts_3
def dkwX7_inverts_1 : List UInt8 := [154, 0, 9, 42, 7, 182, 0, 144, 172, 42, 16, 31, 42, 16, 25, 182, 0, 114, 42, 16, 25, 3]
abbrev dktX7_inverts_1 : List UInt8 := dkwX7_inverts_1 ++ dktX7_inverts_2
def dkwX7_inverts_0 : List UInt8 := [42, 28, 16, 25, 182, 0, 159, 154, 0, 9, 42, 6, 182, 0, 144, 172, 42, 16, 25, 182, 0, 163]
abbrev dktX7_inverts_0 : List UInt8 := dkwX7_inverts_0 ++ dktX7_inverts_1
theorem dksX7_inverts_0 : cX7_inverts.data.toList.drop 0 = dktX7_inverts_0 := by decide +kernel
theorem dksX7_inverts_1 : cX7_inverts.data.toList.drop 22 = dktX7_inverts_1 := dk_seg dksX7_inverts_0 22 rfl rfl
theorem dksX7_inverts_2 : cX7_inverts.data.toList.drop 44 = dktX7_inverts_2 := dk_seg dksX7_inverts_1 22 rfl rfl
theorem dksX7_inverts_3 : cX7_inverts.data.toList.drop 67 = dktX7_inverts_3 := dk_seg dksX7_inverts_2 23 rfl rfl
theorem dX7_inverts_0 : decode cX7_inverts 0 = .ok (.aload_n 0, 1) := dk_42 (dk_at dksX7_inverts_0 0 rfl rfl)
theorem dX7_inverts_1 : decode cX7_inverts 1 = .ok (.iload_n 2, 1) := dk_28 (dk_at dksX7_inverts_0 1 rfl rfl)
theorem dX7_inverts_2 : decode cX7_inverts 2 = .ok (.bipush 25, 2) := dk_16 25 (dk_at dksX7_inverts_0 2 rfl rfl)
theorem dX7_inverts_4 : decode cX7_inverts 4 = .ok (.invokevirtual 159, 3) := dk_182 0 159 (dk_at dksX7_inverts_0 4 rfl rfl)
theorem dX7_inverts_7 : decode cX7_inverts 7 = .ok (.ifCond .ne 9, 3) := dk_154 0 9 (dk_at dksX7_inverts_0 7 rfl rfl)
theorem dX7_inverts_10 : decode cX7_inverts 10 = .ok (.aload_n 0, 1) := dk_42 (dk_at dksX7_inverts_0 10 rfl rfl)
theorem dX7_inverts_11 : decode cX7_inverts 11 = .ok (.iconst 3, 1) := dk_6 (dk_at dksX7_inverts_0 11 rfl rfl)
theorem dX7_inverts_12 : decode cX7_inverts 12 = .ok (.invokevirtual 144, 3) := dk_182 0 144 (dk_at dksX7_inverts_0 12 rfl rfl)
theorem dX7_inverts_15 : decode cX7_inverts 15 = .ok (.ireturn, 1) := dk_172 (dk_at dksX7_inverts_0 15 rfl rfl)
theorem dX7_inverts_16 : decode cX7_inverts 16 = .ok (.aload_n 0, 1) := dk_42 (dk_at dksX7_inverts_0 16 rfl rfl)
theorem dX7_inverts_17 : decode cX7_inverts 17 = .ok (.bipush 25, 2) := dk_16 25 (dk_at dksX7_inverts_0 17 rfl rfl)
theorem dX7_inverts_19 : decode cX7_inverts 19 = .ok (.invokevirtual 163, 3) := dk_182 0 163 (dk_at dksX7_inverts_0 19 rfl rfl)
theorem dX7_inverts_22 : decode cX7_inverts 22 = .ok (.ifCond .ne 9, 3) := dk_154 0 9 (dk_at dksX7_inverts_1 0 rfl rfl)
theorem dX7_inverts_25 : decode cX7_inverts 25 = .ok (.aload_n 0, 1) := dk_42 (dk_at dksX7_inverts_1 3 rfl rfl)
theorem dX7_inverts_26 : decode cX7_inverts 26 = .ok (.iconst 4, 1) := dk_7 (dk_at dksX7_inverts_1 4 rfl rfl)
theorem dX7_inverts_27 : decode cX7_inverts 27 = .ok (.invokevirtual 144, 3) := dk_182 0 144 (dk_at dksX7_inverts_1 5 rfl rfl)
theorem dX7_inverts_30 : decode cX7_inverts 30 = .ok (.ireturn, 1) := dk_172 (dk_at dksX7_inverts_1 8 rfl rfl)
theorem dX7_inverts_31 : decode cX7_inverts 31 = .ok (.aload_n 0, 1) := dk_42 (dk_at dksX7_inverts_1 9 rfl rfl)
theorem dX7_inverts_32 : decode cX7_inverts 32 = .ok (.bipush 31, 2) := dk_16 31 (dk_at dksX7_inverts_1 10 rfl rfl)
theorem dX7_inverts_34 : decode cX7_inverts 34 = .ok (.aload_n 0, 1) := dk_42 (dk_at dksX7_inverts_1 12 rfl rfl)
theorem dX7_inverts_35 : decode cX7_inverts 35 = .ok (.bipush 25, 2) := dk_16 25 (dk_at dksX7_inverts_1 13 rfl rfl)
theorem dX7_inverts_37 : decode cX7_inverts 37 = .ok (.invokevirtual 114, 3) := dk_182 0 114 (dk_at dksX7_inverts_1 15 rfl rfl)
theorem dX7_inverts_40 : decode cX7_inverts 40 = .ok (.aload_n 0, 1) := dk_42 (dk_at dksX7_inverts_1 18 rfl rfl)
theorem dX7_inverts_41 : decode cX7_inverts 41 = .ok (.bipush 25, 2) := dk_16 25 (dk_at dksX7_inverts_1 19 rfl rfl)
theorem dX7_inverts_43 : decode cX7_inverts 43 = .ok (.iconst 0, 1) := dk_3 (dk_at dksX7_inverts_1 21 rfl rfl)
theorem dX7_inverts_44 : decode cX7_inverts 44 = .ok (.invokevirtual 94, 3) := dk_182 0 94 (dk_at dksX7_inverts_2 0 rfl rfl)
theorem dX7_inverts_47 : decode cX7_inverts 47 = .ok (.bipush 24, 2) := dk_16 24 (dk_at dksX7_inverts_2 3 rfl rfl)
theorem dX7_inverts_49 : decode cX7_inverts 49 = .ok (.invokevirtual 136, 3) := dk_182 0 136 (dk_at dksX7_inverts_2 5 rfl rfl)
theorem dX7_inverts_52 : decode cX7_inverts 52 = .ok (.ifCond .eq 13, 3) := dk_153 0 13 (dk_at dksX7_inverts_2 8 rfl rfl)
theorem dX7_inverts_55 : decode cX7_inverts 55 = .ok (.aload_n 0, 1) := dk_42 (dk_at dksX7_inverts_2 11 rfl rfl)
theorem dX7_inverts_56 : decode cX7_inverts 56 = .ok (.bipush 24, 2) := dk_16 24 (dk_at dksX7_inverts_2 12 rfl rfl)
theorem dX7_inverts_58 : decode cX7_inverts 58 = .ok (.iload_n 1, 1) := dk_27 (dk_at dksX7_inverts_2 14 rfl rfl)
theorem dX7_inverts_59 : decode cX7_inverts 59 = .ok (.invokevirtual 153, 3) := dk_182 0 153 (dk_at dksX7_inverts_2 15 rfl rfl)
theorem dX7_inverts_62 : decode cX7_inverts 62 = .ok (.goto 8, 3) := dk_167 0 8 (dk_at dksX7_inverts_2 18 rfl rfl)
theorem dX7_inverts_65 : decode cX7_inverts 65 = .ok (.aload_n 0, 1) := dk_42 (dk_at dksX7_inverts_2 21 rfl rfl)
theorem dX7_inverts_66 : decode cX7_inverts 66 = .ok (.iconst 3, 1) := dk_6 (dk_at dksX7_inverts_2 22 rfl rfl)
theorem dX7_inverts_67 : decode cX7_inverts 67 = .ok (.invokevirtual 144, 3) := dk_182 0 144 (dk_at dksX7_inverts_3 0 rfl rfl)
theorem dX7_inverts_70 : decode cX7_inverts 70 = .ok (.ireturn, 1) := dk_172 (dk_at dksX7_inverts_3 3 rfl rfl)
abbrev cX7_laysSquare : ByteArray := prog_42_method_31_code
def yX7_laysSquare : MethodName := ⟨RX7, "laysSquare", "(II)Z"⟩
def dkwX7_laysSquare_0 : List UInt8 := [42, 3, 27, 16, 31, 182, 0, 140, 42, 5, 27, 16, 31, 28, 182, 0, 131, 172]
abbrev dktX7_laysSquare_0 : List UInt8 := dkwX7_laysSquare_0 ++ []
theorem dksX7_laysSquare_0 : cX7_laysSquare.data.toList.drop 0 = dktX7_laysSquare_0 := by decide +kernel
theorem dX7_laysSquare_0 : decode cX7_laysSquare 0 = .ok (.aload_n 0, 1) := dk_42 (dk_at dksX7_laysSquare_0 0 rfl rfl)
theorem dX7_laysSquare_1 : decode cX7_laysSquare 1 = .ok (.iconst 0, 1) := dk_3 (dk_at dksX7_laysSquare_0 1 rfl rfl)
theorem dX7_laysSquare_2 : decode cX7_laysSquare 2 = .ok (.iload_n 1, 1) := dk_27 (dk_at dksX7_laysSquare_0 2 rfl rfl)
theorem dX7_laysSquare_3 : decode cX7_laysSquare 3 = .ok (.bipush 31, 2) := dk_16 31 (dk_at dksX7_laysSquare_0 3 rfl rfl)
theorem dX7_laysSquare_5 : decode cX7_laysSquare 5 = .ok (.invokevirtual 140, 3) := dk_182 0 140 (dk_at dksX7_laysSquare_0 5 rfl rfl)
theorem dX7_laysSquare_8 : decode cX7_laysSquare 8 = .ok (.aload_n 0, 1) := dk_42 (dk_at dksX7_laysSquare_0 8 rfl rfl)
theorem dX7_laysSquare_9 : decode cX7_laysSquare 9 = .ok (.iconst 2, 1) := dk_5 (dk_at dksX7_laysSquare_0 9 rfl rfl)
theorem dX7_laysSquare_10 : decode cX7_laysSquare 10 = .ok (.iload_n 1, 1) := dk_27 (dk_at dksX7_laysSquare_0 10 rfl rfl)
theorem dX7_laysSquare_11 : decode cX7_laysSquare 11 = .ok (.bipush 31, 2) := dk_16 31 (dk_at dksX7_laysSquare_0 11 rfl rfl)
theorem dX7_laysSquare_13 : decode cX7_laysSquare 13 = .ok (.iload_n 2, 1) := dk_28 (dk_at dksX7_laysSquare_0 13 rfl rfl)
theorem dX7_laysSquare_14 : decode cX7_laysSquare 14 = .ok (.invokevirtual 131, 3) := dk_182 0 131 (dk_at dksX7_laysSquare_0 14 rfl rfl)
theorem dX7_laysSquare_17 : decode cX7_laysSquare 17 = .ok (.ireturn, 1) := dk_172 (dk_at dksX7_laysSquare_0 17 rfl rfl)
abbrev cX7_isNumber : ByteArray := prog_42_method_30_code
def yX7_isNumber : MethodName := ⟨RX7, "isNumber", "(I)Z"⟩
def dkwX7_isNumber_2 : List UInt8 := [132, 3, 1, 167, 255, 226, 28, 172]
abbrev dktX7_isNumber_2 : List UInt8 := dkwX7_isNumber_2 ++ []
def dkwX7_isNumber_1 : List UInt8 := [162, 0, 30, 28, 153, 0, 26, 42, 27, 29, 182, 0, 94, 9, 148, 154, 0, 7, 4, 167, 0, 4, 3, 61]
abbrev dktX7_isNumber_1 : List UInt8 := dkwX7_isNumber_1 ++ dktX7_isNumber_2
def dkwX7_isNumber_0 : List UInt8 := [42, 27, 3, 182, 0, 94, 9, 148, 153, 0, 7, 4, 167, 0, 4, 3, 61, 4, 62, 29, 16, 32]
abbrev dktX7_isNumber_0 : List UInt8 := dkwX7_isNumber_0 ++ dktX7_isNumber_1
theorem dksX7_isNumber_0 : cX7_isNumber.data.toList.drop 0 = dktX7_isNumber_0 := by decide +kernel
theorem dksX7_isNumber_1 : cX7_isNumber.data.toList.drop 22 = dktX7_isNumber_1 := dk_seg dksX7_isNumber_0 22 rfl rfl
theorem dksX7_isNumber_2 : cX7_isNumber.data.toList.drop 46 = dktX7_isNumber_2 := dk_seg dksX7_isNumber_1 24 rfl rfl
theorem dX7_isNumber_0 : decode cX7_isNumber 0 = .ok (.aload_n 0, 1) := dk_42 (dk_at dksX7_isNumber_0 0 rfl rfl)
theorem dX7_isNumber_1 : decode cX7_isNumber 1 = .ok (.iload_n 1, 1) := dk_27 (dk_at dksX7_isNumber_0 1 rfl rfl)
theorem dX7_isNumber_2 : decode cX7_isNumber 2 = .ok (.iconst 0, 1) := dk_3 (dk_at dksX7_isNumber_0 2 rfl rfl)
theorem dX7_isNumber_3 : decode cX7_isNumber 3 = .ok (.invokevirtual 94, 3) := dk_182 0 94 (dk_at dksX7_isNumber_0 3 rfl rfl)
theorem dX7_isNumber_6 : decode cX7_isNumber 6 = .ok (.lconst 0, 1) := dk_9 (dk_at dksX7_isNumber_0 6 rfl rfl)
theorem dX7_isNumber_7 : decode cX7_isNumber 7 = .ok (.lcmp, 1) := dk_148 (dk_at dksX7_isNumber_0 7 rfl rfl)
theorem dX7_isNumber_8 : decode cX7_isNumber 8 = .ok (.ifCond .eq 7, 3) := dk_153 0 7 (dk_at dksX7_isNumber_0 8 rfl rfl)
theorem dX7_isNumber_11 : decode cX7_isNumber 11 = .ok (.iconst 1, 1) := dk_4 (dk_at dksX7_isNumber_0 11 rfl rfl)
theorem dX7_isNumber_12 : decode cX7_isNumber 12 = .ok (.goto 4, 3) := dk_167 0 4 (dk_at dksX7_isNumber_0 12 rfl rfl)
theorem dX7_isNumber_15 : decode cX7_isNumber 15 = .ok (.iconst 0, 1) := dk_3 (dk_at dksX7_isNumber_0 15 rfl rfl)
theorem dX7_isNumber_16 : decode cX7_isNumber 16 = .ok (.istore_n 2, 1) := dk_61 (dk_at dksX7_isNumber_0 16 rfl rfl)
theorem dX7_isNumber_17 : decode cX7_isNumber 17 = .ok (.iconst 1, 1) := dk_4 (dk_at dksX7_isNumber_0 17 rfl rfl)
theorem dX7_isNumber_18 : decode cX7_isNumber 18 = .ok (.istore_n 3, 1) := dk_62 (dk_at dksX7_isNumber_0 18 rfl rfl)
theorem dX7_isNumber_19 : decode cX7_isNumber 19 = .ok (.iload_n 3, 1) := dk_29 (dk_at dksX7_isNumber_0 19 rfl rfl)
theorem dX7_isNumber_20 : decode cX7_isNumber 20 = .ok (.bipush 32, 2) := dk_16 32 (dk_at dksX7_isNumber_0 20 rfl rfl)
theorem dX7_isNumber_22 : decode cX7_isNumber 22 = .ok (.if_icmp .ge 30, 3) := dk_162 0 30 (dk_at dksX7_isNumber_1 0 rfl rfl)
theorem dX7_isNumber_25 : decode cX7_isNumber 25 = .ok (.iload_n 2, 1) := dk_28 (dk_at dksX7_isNumber_1 3 rfl rfl)
theorem dX7_isNumber_26 : decode cX7_isNumber 26 = .ok (.ifCond .eq 26, 3) := dk_153 0 26 (dk_at dksX7_isNumber_1 4 rfl rfl)
theorem dX7_isNumber_29 : decode cX7_isNumber 29 = .ok (.aload_n 0, 1) := dk_42 (dk_at dksX7_isNumber_1 7 rfl rfl)
theorem dX7_isNumber_30 : decode cX7_isNumber 30 = .ok (.iload_n 1, 1) := dk_27 (dk_at dksX7_isNumber_1 8 rfl rfl)
theorem dX7_isNumber_31 : decode cX7_isNumber 31 = .ok (.iload_n 3, 1) := dk_29 (dk_at dksX7_isNumber_1 9 rfl rfl)
theorem dX7_isNumber_32 : decode cX7_isNumber 32 = .ok (.invokevirtual 94, 3) := dk_182 0 94 (dk_at dksX7_isNumber_1 10 rfl rfl)
theorem dX7_isNumber_35 : decode cX7_isNumber 35 = .ok (.lconst 0, 1) := dk_9 (dk_at dksX7_isNumber_1 13 rfl rfl)
theorem dX7_isNumber_36 : decode cX7_isNumber 36 = .ok (.lcmp, 1) := dk_148 (dk_at dksX7_isNumber_1 14 rfl rfl)
theorem dX7_isNumber_37 : decode cX7_isNumber 37 = .ok (.ifCond .ne 7, 3) := dk_154 0 7 (dk_at dksX7_isNumber_1 15 rfl rfl)
theorem dX7_isNumber_40 : decode cX7_isNumber 40 = .ok (.iconst 1, 1) := dk_4 (dk_at dksX7_isNumber_1 18 rfl rfl)
theorem dX7_isNumber_41 : decode cX7_isNumber 41 = .ok (.goto 4, 3) := dk_167 0 4 (dk_at dksX7_isNumber_1 19 rfl rfl)
theorem dX7_isNumber_44 : decode cX7_isNumber 44 = .ok (.iconst 0, 1) := dk_3 (dk_at dksX7_isNumber_1 22 rfl rfl)
theorem dX7_isNumber_45 : decode cX7_isNumber 45 = .ok (.istore_n 2, 1) := dk_61 (dk_at dksX7_isNumber_1 23 rfl rfl)
theorem dX7_isNumber_46 : decode cX7_isNumber 46 = .ok (.iinc 3 1, 3) := dk_132 3 1 (dk_at dksX7_isNumber_2 0 rfl rfl)
theorem dX7_isNumber_49 : decode cX7_isNumber 49 = .ok (.goto (-30), 3) := dk_167 255 226 (dk_at dksX7_isNumber_2 3 rfl rfl)
theorem dX7_isNumber_52 : decode cX7_isNumber 52 = .ok (.iload_n 2, 1) := dk_28 (dk_at dksX7_isNumber_2 6 rfl rfl)
theorem dX7_isNumber_53 : decode cX7_isNumber 53 = .ok (.ireturn, 1) := dk_172 (dk_at dksX7_isNumber_2 7 rfl rfl)
abbrev cX7_gradePart : ByteArray := prog_42_method_34_code
def yX7_gradePart : MethodName := ⟨RX7, "gradePart", "(III)I"⟩
def dkwX7_gradePart_4 : List UInt8 := [181, 0, 34, 42, 16, 24, 182, 0, 118, 54, 4, 42, 16, 24, 27, 182, 0, 153, 172]
abbrev dktX7_gradePart_4 : List UInt8 := dkwX7_gradePart_4 ++ []
def dkwX7_gradePart_3 : List UInt8 := [21, 4, 182, 0, 94, 167, 0, 4, 9, 80, 132, 4, 1, 167, 255, 217, 42, 42, 28, 182, 0, 114]
abbrev dktX7_gradePart_3 : List UInt8 := dkwX7_gradePart_3 ++ dktX7_gradePart_4
def dkwX7_gradePart_2 : List UInt8 := [42, 182, 0, 71, 163, 0, 36, 42, 180, 0, 31, 21, 4, 21, 4, 184, 0, 98, 29, 160, 0, 13, 42, 28]
abbrev dktX7_gradePart_2 : List UInt8 := dkwX7_gradePart_2 ++ dktX7_gradePart_3
def dkwX7_gradePart_1 : List UInt8 := [182, 0, 63, 184, 0, 67, 154, 0, 9, 42, 5, 182, 0, 144, 172, 42, 182, 0, 105, 3, 54, 4, 21, 4]
abbrev dktX7_gradePart_1 : List UInt8 := dkwX7_gradePart_1 ++ dktX7_gradePart_2
def dkwX7_gradePart_0 : List UInt8 := [27, 184, 0, 147, 153, 0, 10, 28, 184, 0, 147, 154, 0, 9, 42, 4, 182, 0, 144, 172, 29, 3, 42]
abbrev dktX7_gradePart_0 : List UInt8 := dkwX7_gradePart_0 ++ dktX7_gradePart_1
theorem dksX7_gradePart_0 : cX7_gradePart.data.toList.drop 0 = dktX7_gradePart_0 := by decide +kernel
theorem dksX7_gradePart_1 : cX7_gradePart.data.toList.drop 23 = dktX7_gradePart_1 := dk_seg dksX7_gradePart_0 23 rfl rfl
theorem dksX7_gradePart_2 : cX7_gradePart.data.toList.drop 47 = dktX7_gradePart_2 := dk_seg dksX7_gradePart_1 24 rfl rfl
theorem dksX7_gradePart_3 : cX7_gradePart.data.toList.drop 71 = dktX7_gradePart_3 := dk_seg dksX7_gradePart_2 24 rfl rfl
theorem dksX7_gradePart_4 : cX7_gradePart.data.toList.drop 93 = dktX7_gradePart_4 := dk_seg dksX7_gradePart_3 22 rfl rfl
theorem dX7_gradePart_0 : decode cX7_gradePart 0 = .ok (.iload_n 1, 1) := dk_27 (dk_at dksX7_gradePart_0 0 rfl rfl)
theorem dX7_gradePart_1 : decode cX7_gradePart 1 = .ok (.invokestatic 147, 3) := dk_184 0 147 (dk_at dksX7_gradePart_0 1 rfl rfl)
theorem dX7_gradePart_4 : decode cX7_gradePart 4 = .ok (.ifCond .eq 10, 3) := dk_153 0 10 (dk_at dksX7_gradePart_0 4 rfl rfl)
theorem dX7_gradePart_7 : decode cX7_gradePart 7 = .ok (.iload_n 2, 1) := dk_28 (dk_at dksX7_gradePart_0 7 rfl rfl)
theorem dX7_gradePart_8 : decode cX7_gradePart 8 = .ok (.invokestatic 147, 3) := dk_184 0 147 (dk_at dksX7_gradePart_0 8 rfl rfl)
theorem dX7_gradePart_11 : decode cX7_gradePart 11 = .ok (.ifCond .ne 9, 3) := dk_154 0 9 (dk_at dksX7_gradePart_0 11 rfl rfl)
theorem dX7_gradePart_14 : decode cX7_gradePart 14 = .ok (.aload_n 0, 1) := dk_42 (dk_at dksX7_gradePart_0 14 rfl rfl)
theorem dX7_gradePart_15 : decode cX7_gradePart 15 = .ok (.iconst 1, 1) := dk_4 (dk_at dksX7_gradePart_0 15 rfl rfl)
theorem dX7_gradePart_16 : decode cX7_gradePart 16 = .ok (.invokevirtual 144, 3) := dk_182 0 144 (dk_at dksX7_gradePart_0 16 rfl rfl)
theorem dX7_gradePart_19 : decode cX7_gradePart 19 = .ok (.ireturn, 1) := dk_172 (dk_at dksX7_gradePart_0 19 rfl rfl)
theorem dX7_gradePart_20 : decode cX7_gradePart 20 = .ok (.iload_n 3, 1) := dk_29 (dk_at dksX7_gradePart_0 20 rfl rfl)
theorem dX7_gradePart_21 : decode cX7_gradePart 21 = .ok (.iconst 0, 1) := dk_3 (dk_at dksX7_gradePart_0 21 rfl rfl)
theorem dX7_gradePart_22 : decode cX7_gradePart 22 = .ok (.aload_n 0, 1) := dk_42 (dk_at dksX7_gradePart_0 22 rfl rfl)
theorem dX7_gradePart_23 : decode cX7_gradePart 23 = .ok (.invokevirtual 63, 3) := dk_182 0 63 (dk_at dksX7_gradePart_1 0 rfl rfl)
theorem dX7_gradePart_26 : decode cX7_gradePart 26 = .ok (.invokestatic 67, 3) := dk_184 0 67 (dk_at dksX7_gradePart_1 3 rfl rfl)
theorem dX7_gradePart_29 : decode cX7_gradePart 29 = .ok (.ifCond .ne 9, 3) := dk_154 0 9 (dk_at dksX7_gradePart_1 6 rfl rfl)
theorem dX7_gradePart_32 : decode cX7_gradePart 32 = .ok (.aload_n 0, 1) := dk_42 (dk_at dksX7_gradePart_1 9 rfl rfl)
theorem dX7_gradePart_33 : decode cX7_gradePart 33 = .ok (.iconst 2, 1) := dk_5 (dk_at dksX7_gradePart_1 10 rfl rfl)
theorem dX7_gradePart_34 : decode cX7_gradePart 34 = .ok (.invokevirtual 144, 3) := dk_182 0 144 (dk_at dksX7_gradePart_1 11 rfl rfl)
theorem dX7_gradePart_37 : decode cX7_gradePart 37 = .ok (.ireturn, 1) := dk_172 (dk_at dksX7_gradePart_1 14 rfl rfl)
theorem dX7_gradePart_38 : decode cX7_gradePart 38 = .ok (.aload_n 0, 1) := dk_42 (dk_at dksX7_gradePart_1 15 rfl rfl)
theorem dX7_gradePart_39 : decode cX7_gradePart 39 = .ok (.invokevirtual 105, 3) := dk_182 0 105 (dk_at dksX7_gradePart_1 16 rfl rfl)
theorem dX7_gradePart_42 : decode cX7_gradePart 42 = .ok (.iconst 0, 1) := dk_3 (dk_at dksX7_gradePart_1 19 rfl rfl)
theorem dX7_gradePart_43 : decode cX7_gradePart 43 = .ok (.istore 4, 2) := dk_54 4 (dk_at dksX7_gradePart_1 20 rfl rfl)
theorem dX7_gradePart_45 : decode cX7_gradePart 45 = .ok (.iload 4, 2) := dk_21 4 (dk_at dksX7_gradePart_1 22 rfl rfl)
theorem dX7_gradePart_47 : decode cX7_gradePart 47 = .ok (.aload_n 0, 1) := dk_42 (dk_at dksX7_gradePart_2 0 rfl rfl)
theorem dX7_gradePart_48 : decode cX7_gradePart 48 = .ok (.invokevirtual 71, 3) := dk_182 0 71 (dk_at dksX7_gradePart_2 1 rfl rfl)
theorem dX7_gradePart_51 : decode cX7_gradePart 51 = .ok (.if_icmp .gt 36, 3) := dk_163 0 36 (dk_at dksX7_gradePart_2 4 rfl rfl)
theorem dX7_gradePart_54 : decode cX7_gradePart 54 = .ok (.aload_n 0, 1) := dk_42 (dk_at dksX7_gradePart_2 7 rfl rfl)
theorem dX7_gradePart_55 : decode cX7_gradePart 55 = .ok (.getfield 31, 3) := dk_180 0 31 (dk_at dksX7_gradePart_2 8 rfl rfl)
theorem dX7_gradePart_58 : decode cX7_gradePart 58 = .ok (.iload 4, 2) := dk_21 4 (dk_at dksX7_gradePart_2 11 rfl rfl)
theorem dX7_gradePart_60 : decode cX7_gradePart 60 = .ok (.iload 4, 2) := dk_21 4 (dk_at dksX7_gradePart_2 13 rfl rfl)
theorem dX7_gradePart_62 : decode cX7_gradePart 62 = .ok (.invokestatic 98, 3) := dk_184 0 98 (dk_at dksX7_gradePart_2 15 rfl rfl)
theorem dX7_gradePart_65 : decode cX7_gradePart 65 = .ok (.iload_n 3, 1) := dk_29 (dk_at dksX7_gradePart_2 18 rfl rfl)
theorem dX7_gradePart_66 : decode cX7_gradePart 66 = .ok (.if_icmp .ne 13, 3) := dk_160 0 13 (dk_at dksX7_gradePart_2 19 rfl rfl)
theorem dX7_gradePart_69 : decode cX7_gradePart 69 = .ok (.aload_n 0, 1) := dk_42 (dk_at dksX7_gradePart_2 22 rfl rfl)
theorem dX7_gradePart_70 : decode cX7_gradePart 70 = .ok (.iload_n 2, 1) := dk_28 (dk_at dksX7_gradePart_2 23 rfl rfl)
theorem dX7_gradePart_71 : decode cX7_gradePart 71 = .ok (.iload 4, 2) := dk_21 4 (dk_at dksX7_gradePart_3 0 rfl rfl)
theorem dX7_gradePart_73 : decode cX7_gradePart 73 = .ok (.invokevirtual 94, 3) := dk_182 0 94 (dk_at dksX7_gradePart_3 2 rfl rfl)
theorem dX7_gradePart_76 : decode cX7_gradePart 76 = .ok (.goto 4, 3) := dk_167 0 4 (dk_at dksX7_gradePart_3 5 rfl rfl)
theorem dX7_gradePart_79 : decode cX7_gradePart 79 = .ok (.lconst 0, 1) := dk_9 (dk_at dksX7_gradePart_3 8 rfl rfl)
theorem dX7_gradePart_80 : decode cX7_gradePart 80 = .ok (.lastore, 1) := dk_80 (dk_at dksX7_gradePart_3 9 rfl rfl)
theorem dX7_gradePart_81 : decode cX7_gradePart 81 = .ok (.iinc 4 1, 3) := dk_132 4 1 (dk_at dksX7_gradePart_3 10 rfl rfl)
theorem dX7_gradePart_84 : decode cX7_gradePart 84 = .ok (.goto (-39), 3) := dk_167 255 217 (dk_at dksX7_gradePart_3 13 rfl rfl)
theorem dX7_gradePart_87 : decode cX7_gradePart 87 = .ok (.aload_n 0, 1) := dk_42 (dk_at dksX7_gradePart_3 16 rfl rfl)
theorem dX7_gradePart_88 : decode cX7_gradePart 88 = .ok (.aload_n 0, 1) := dk_42 (dk_at dksX7_gradePart_3 17 rfl rfl)
theorem dX7_gradePart_89 : decode cX7_gradePart 89 = .ok (.iload_n 2, 1) := dk_28 (dk_at dksX7_gradePart_3 18 rfl rfl)
theorem dX7_gradePart_90 : decode cX7_gradePart 90 = .ok (.invokevirtual 114, 3) := dk_182 0 114 (dk_at dksX7_gradePart_3 19 rfl rfl)
theorem dX7_gradePart_93 : decode cX7_gradePart 93 = .ok (.putfield 34, 3) := dk_181 0 34 (dk_at dksX7_gradePart_4 0 rfl rfl)
theorem dX7_gradePart_96 : decode cX7_gradePart 96 = .ok (.aload_n 0, 1) := dk_42 (dk_at dksX7_gradePart_4 3 rfl rfl)
theorem dX7_gradePart_97 : decode cX7_gradePart 97 = .ok (.bipush 24, 2) := dk_16 24 (dk_at dksX7_gradePart_4 4 rfl rfl)
theorem dX7_gradePart_99 : decode cX7_gradePart 99 = .ok (.invokevirtual 118, 3) := dk_182 0 118 (dk_at dksX7_gradePart_4 6 rfl rfl)
theorem dX7_gradePart_102 : decode cX7_gradePart 102 = .ok (.istore 4, 2) := dk_54 4 (dk_at dksX7_gradePart_4 9 rfl rfl)
theorem dX7_gradePart_104 : decode cX7_gradePart 104 = .ok (.aload_n 0, 1) := dk_42 (dk_at dksX7_gradePart_4 11 rfl rfl)
theorem dX7_gradePart_105 : decode cX7_gradePart 105 = .ok (.bipush 24, 2) := dk_16 24 (dk_at dksX7_gradePart_4 12 rfl rfl)
theorem dX7_gradePart_107 : decode cX7_gradePart 107 = .ok (.iload_n 1, 1) := dk_27 (dk_at dksX7_gradePart_4 14 rfl rfl)
theorem dX7_gradePart_108 : decode cX7_gradePart 108 = .ok (.invokevirtual 153, 3) := dk_182 0 153 (dk_at dksX7_gradePart_4 15 rfl rfl)
theorem dX7_gradePart_111 : decode cX7_gradePart 111 = .ok (.ireturn, 1) := dk_172 (dk_at dksX7_gradePart_4 18 rfl rfl)
abbrev cX7_scale : ByteArray := prog_42_method_35_code
def yX7_scale : MethodName := ⟨RX7, "scale", "(IIII)I"⟩
def dkwX7_scale_3 : List UInt8 := [182, 0, 153, 167, 0, 8, 42, 6, 182, 0, 144, 172]
abbrev dktX7_scale_3 : List UInt8 := dkwX7_scale_3 ++ []
def dkwX7_scale_2 : List UInt8 := [182, 0, 144, 172, 42, 28, 29, 133, 21, 4, 133, 16, 24, 182, 0, 136, 153, 0, 13, 42, 16, 24, 27]
abbrev dktX7_scale_2 : List UInt8 := dkwX7_scale_2 ++ dktX7_scale_3
def dkwX7_scale_1 : List UInt8 := [17, 39, 16, 184, 0, 67, 153, 0, 15, 21, 4, 4, 17, 39, 16, 184, 0, 67, 154, 0, 9, 42, 5]
abbrev dktX7_scale_1 : List UInt8 := dkwX7_scale_1 ++ dktX7_scale_2
def dkwX7_scale_0 : List UInt8 := [27, 184, 0, 147, 153, 0, 10, 28, 184, 0, 147, 154, 0, 9, 42, 4, 182, 0, 144, 172, 29, 17, 216, 240]
abbrev dktX7_scale_0 : List UInt8 := dkwX7_scale_0 ++ dktX7_scale_1
theorem dksX7_scale_0 : cX7_scale.data.toList.drop 0 = dktX7_scale_0 := by decide +kernel
theorem dksX7_scale_1 : cX7_scale.data.toList.drop 24 = dktX7_scale_1 := dk_seg dksX7_scale_0 24 rfl rfl
theorem dksX7_scale_2 : cX7_scale.data.toList.drop 47 = dktX7_scale_2 := dk_seg dksX7_scale_1 23 rfl rfl
theorem dksX7_scale_3 : cX7_scale.data.toList.drop 70 = dktX7_scale_3 := dk_seg dksX7_scale_2 23 rfl rfl
theorem dX7_scale_0 : decode cX7_scale 0 = .ok (.iload_n 1, 1) := dk_27 (dk_at dksX7_scale_0 0 rfl rfl)
theorem dX7_scale_1 : decode cX7_scale 1 = .ok (.invokestatic 147, 3) := dk_184 0 147 (dk_at dksX7_scale_0 1 rfl rfl)
theorem dX7_scale_4 : decode cX7_scale 4 = .ok (.ifCond .eq 10, 3) := dk_153 0 10 (dk_at dksX7_scale_0 4 rfl rfl)
theorem dX7_scale_7 : decode cX7_scale 7 = .ok (.iload_n 2, 1) := dk_28 (dk_at dksX7_scale_0 7 rfl rfl)
theorem dX7_scale_8 : decode cX7_scale 8 = .ok (.invokestatic 147, 3) := dk_184 0 147 (dk_at dksX7_scale_0 8 rfl rfl)
theorem dX7_scale_11 : decode cX7_scale 11 = .ok (.ifCond .ne 9, 3) := dk_154 0 9 (dk_at dksX7_scale_0 11 rfl rfl)
theorem dX7_scale_14 : decode cX7_scale 14 = .ok (.aload_n 0, 1) := dk_42 (dk_at dksX7_scale_0 14 rfl rfl)
theorem dX7_scale_15 : decode cX7_scale 15 = .ok (.iconst 1, 1) := dk_4 (dk_at dksX7_scale_0 15 rfl rfl)
theorem dX7_scale_16 : decode cX7_scale 16 = .ok (.invokevirtual 144, 3) := dk_182 0 144 (dk_at dksX7_scale_0 16 rfl rfl)
theorem dX7_scale_19 : decode cX7_scale 19 = .ok (.ireturn, 1) := dk_172 (dk_at dksX7_scale_0 19 rfl rfl)
theorem dX7_scale_20 : decode cX7_scale 20 = .ok (.iload_n 3, 1) := dk_29 (dk_at dksX7_scale_0 20 rfl rfl)
theorem dX7_scale_21 : decode cX7_scale 21 = .ok (.sipush (-10000), 3) := dk_17 216 240 (dk_at dksX7_scale_0 21 rfl rfl)
theorem dX7_scale_24 : decode cX7_scale 24 = .ok (.sipush 10000, 3) := dk_17 39 16 (dk_at dksX7_scale_1 0 rfl rfl)
theorem dX7_scale_27 : decode cX7_scale 27 = .ok (.invokestatic 67, 3) := dk_184 0 67 (dk_at dksX7_scale_1 3 rfl rfl)
theorem dX7_scale_30 : decode cX7_scale 30 = .ok (.ifCond .eq 15, 3) := dk_153 0 15 (dk_at dksX7_scale_1 6 rfl rfl)
theorem dX7_scale_33 : decode cX7_scale 33 = .ok (.iload 4, 2) := dk_21 4 (dk_at dksX7_scale_1 9 rfl rfl)
theorem dX7_scale_35 : decode cX7_scale 35 = .ok (.iconst 1, 1) := dk_4 (dk_at dksX7_scale_1 11 rfl rfl)
theorem dX7_scale_36 : decode cX7_scale 36 = .ok (.sipush 10000, 3) := dk_17 39 16 (dk_at dksX7_scale_1 12 rfl rfl)
theorem dX7_scale_39 : decode cX7_scale 39 = .ok (.invokestatic 67, 3) := dk_184 0 67 (dk_at dksX7_scale_1 15 rfl rfl)
theorem dX7_scale_42 : decode cX7_scale 42 = .ok (.ifCond .ne 9, 3) := dk_154 0 9 (dk_at dksX7_scale_1 18 rfl rfl)
theorem dX7_scale_45 : decode cX7_scale 45 = .ok (.aload_n 0, 1) := dk_42 (dk_at dksX7_scale_1 21 rfl rfl)
theorem dX7_scale_46 : decode cX7_scale 46 = .ok (.iconst 2, 1) := dk_5 (dk_at dksX7_scale_1 22 rfl rfl)
theorem dX7_scale_47 : decode cX7_scale 47 = .ok (.invokevirtual 144, 3) := dk_182 0 144 (dk_at dksX7_scale_2 0 rfl rfl)
theorem dX7_scale_50 : decode cX7_scale 50 = .ok (.ireturn, 1) := dk_172 (dk_at dksX7_scale_2 3 rfl rfl)
theorem dX7_scale_51 : decode cX7_scale 51 = .ok (.aload_n 0, 1) := dk_42 (dk_at dksX7_scale_2 4 rfl rfl)
theorem dX7_scale_52 : decode cX7_scale 52 = .ok (.iload_n 2, 1) := dk_28 (dk_at dksX7_scale_2 5 rfl rfl)
theorem dX7_scale_53 : decode cX7_scale 53 = .ok (.iload_n 3, 1) := dk_29 (dk_at dksX7_scale_2 6 rfl rfl)
theorem dX7_scale_54 : decode cX7_scale 54 = .ok (.i2l, 1) := dk_133 (dk_at dksX7_scale_2 7 rfl rfl)
theorem dX7_scale_55 : decode cX7_scale 55 = .ok (.iload 4, 2) := dk_21 4 (dk_at dksX7_scale_2 8 rfl rfl)
theorem dX7_scale_57 : decode cX7_scale 57 = .ok (.i2l, 1) := dk_133 (dk_at dksX7_scale_2 10 rfl rfl)
theorem dX7_scale_58 : decode cX7_scale 58 = .ok (.bipush 24, 2) := dk_16 24 (dk_at dksX7_scale_2 11 rfl rfl)
theorem dX7_scale_60 : decode cX7_scale 60 = .ok (.invokevirtual 136, 3) := dk_182 0 136 (dk_at dksX7_scale_2 13 rfl rfl)
theorem dX7_scale_63 : decode cX7_scale 63 = .ok (.ifCond .eq 13, 3) := dk_153 0 13 (dk_at dksX7_scale_2 16 rfl rfl)
theorem dX7_scale_66 : decode cX7_scale 66 = .ok (.aload_n 0, 1) := dk_42 (dk_at dksX7_scale_2 19 rfl rfl)
theorem dX7_scale_67 : decode cX7_scale 67 = .ok (.bipush 24, 2) := dk_16 24 (dk_at dksX7_scale_2 20 rfl rfl)
theorem dX7_scale_69 : decode cX7_scale 69 = .ok (.iload_n 1, 1) := dk_27 (dk_at dksX7_scale_2 22 rfl rfl)
theorem dX7_scale_70 : decode cX7_scale 70 = .ok (.invokevirtual 153, 3) := dk_182 0 153 (dk_at dksX7_scale_3 0 rfl rfl)
theorem dX7_scale_73 : decode cX7_scale 73 = .ok (.goto 8, 3) := dk_167 0 8 (dk_at dksX7_scale_3 3 rfl rfl)
theorem dX7_scale_76 : decode cX7_scale 76 = .ok (.aload_n 0, 1) := dk_42 (dk_at dksX7_scale_3 6 rfl rfl)
theorem dX7_scale_77 : decode cX7_scale 77 = .ok (.iconst 3, 1) := dk_6 (dk_at dksX7_scale_3 7 rfl rfl)
theorem dX7_scale_78 : decode cX7_scale 78 = .ok (.invokevirtual 144, 3) := dk_182 0 144 (dk_at dksX7_scale_3 8 rfl rfl)
theorem dX7_scale_81 : decode cX7_scale 81 = .ok (.ireturn, 1) := dk_172 (dk_at dksX7_scale_3 11 rfl rfl)
abbrev cX7_setSignature : ByteArray := prog_42_method_37_code
def yX7_setSignature : MethodName := ⟨RX7, "setSignature", "(III)I"⟩
def dkwX7_setSignature_4 : List UInt8 := [42, 21, 5, 182, 0, 169, 132, 5, 1, 167, 255, 240, 42, 182, 0, 71, 4, 96, 172]
abbrev dktX7_setSignature_4 : List UInt8 := dkwX7_setSignature_4 ++ []
def dkwX7_setSignature_3 : List UInt8 := [27, 181, 0, 7, 42, 28, 181, 0, 57, 42, 29, 181, 0, 60, 3, 54, 5, 21, 5, 16, 8, 162, 0, 15]
abbrev dktX7_setSignature_3 : List UInt8 := dkwX7_setSignature_3 ++ dktX7_setSignature_4
def dkwX7_setSignature_2 : List UInt8 := [184, 0, 67, 153, 0, 7, 3, 167, 0, 4, 4, 181, 0, 54, 42, 180, 0, 54, 158, 0, 5, 3, 172, 42]
abbrev dktX7_setSignature_2 : List UInt8 := dkwX7_setSignature_2 ++ dktX7_setSignature_3
def dkwX7_setSignature_1 : List UInt8 := [153, 0, 7, 4, 167, 0, 4, 3, 54, 4, 42, 21, 4, 153, 0, 20, 27, 28, 96, 29, 96, 4, 8]
abbrev dktX7_setSignature_1 : List UInt8 := dkwX7_setSignature_1 ++ dktX7_setSignature_2
def dkwX7_setSignature_0 : List UInt8 := [27, 3, 8, 184, 0, 67, 153, 0, 25, 28, 3, 8, 184, 0, 67, 153, 0, 16, 29, 3, 8, 184, 0, 67]
abbrev dktX7_setSignature_0 : List UInt8 := dkwX7_setSignature_0 ++ dktX7_setSignature_1
theorem dksX7_setSignature_0 : cX7_setSignature.data.toList.drop 0 = dktX7_setSignature_0 := by decide +kernel
theorem dksX7_setSignature_1 : cX7_setSignature.data.toList.drop 24 = dktX7_setSignature_1 := dk_seg dksX7_setSignature_0 24 rfl rfl
theorem dksX7_setSignature_2 : cX7_setSignature.data.toList.drop 47 = dktX7_setSignature_2 := dk_seg dksX7_setSignature_1 23 rfl rfl
theorem dksX7_setSignature_3 : cX7_setSignature.data.toList.drop 71 = dktX7_setSignature_3 := dk_seg dksX7_setSignature_2 24 rfl rfl
theorem dksX7_setSignature_4 : cX7_setSignature.data.toList.drop 95 = dktX7_setSignature_4 := dk_seg dksX7_setSignature_3 24 rfl rfl
theorem dX7_setSignature_0 : decode cX7_setSignature 0 = .ok (.iload_n 1, 1) := dk_27 (dk_at dksX7_setSignature_0 0 rfl rfl)
theorem dX7_setSignature_1 : decode cX7_setSignature 1 = .ok (.iconst 0, 1) := dk_3 (dk_at dksX7_setSignature_0 1 rfl rfl)
theorem dX7_setSignature_2 : decode cX7_setSignature 2 = .ok (.iconst 5, 1) := dk_8 (dk_at dksX7_setSignature_0 2 rfl rfl)
theorem dX7_setSignature_3 : decode cX7_setSignature 3 = .ok (.invokestatic 67, 3) := dk_184 0 67 (dk_at dksX7_setSignature_0 3 rfl rfl)
theorem dX7_setSignature_6 : decode cX7_setSignature 6 = .ok (.ifCond .eq 25, 3) := dk_153 0 25 (dk_at dksX7_setSignature_0 6 rfl rfl)
theorem dX7_setSignature_9 : decode cX7_setSignature 9 = .ok (.iload_n 2, 1) := dk_28 (dk_at dksX7_setSignature_0 9 rfl rfl)
theorem dX7_setSignature_10 : decode cX7_setSignature 10 = .ok (.iconst 0, 1) := dk_3 (dk_at dksX7_setSignature_0 10 rfl rfl)
theorem dX7_setSignature_11 : decode cX7_setSignature 11 = .ok (.iconst 5, 1) := dk_8 (dk_at dksX7_setSignature_0 11 rfl rfl)
theorem dX7_setSignature_12 : decode cX7_setSignature 12 = .ok (.invokestatic 67, 3) := dk_184 0 67 (dk_at dksX7_setSignature_0 12 rfl rfl)
theorem dX7_setSignature_15 : decode cX7_setSignature 15 = .ok (.ifCond .eq 16, 3) := dk_153 0 16 (dk_at dksX7_setSignature_0 15 rfl rfl)
theorem dX7_setSignature_18 : decode cX7_setSignature 18 = .ok (.iload_n 3, 1) := dk_29 (dk_at dksX7_setSignature_0 18 rfl rfl)
theorem dX7_setSignature_19 : decode cX7_setSignature 19 = .ok (.iconst 0, 1) := dk_3 (dk_at dksX7_setSignature_0 19 rfl rfl)
theorem dX7_setSignature_20 : decode cX7_setSignature 20 = .ok (.iconst 5, 1) := dk_8 (dk_at dksX7_setSignature_0 20 rfl rfl)
theorem dX7_setSignature_21 : decode cX7_setSignature 21 = .ok (.invokestatic 67, 3) := dk_184 0 67 (dk_at dksX7_setSignature_0 21 rfl rfl)
theorem dX7_setSignature_24 : decode cX7_setSignature 24 = .ok (.ifCond .eq 7, 3) := dk_153 0 7 (dk_at dksX7_setSignature_1 0 rfl rfl)
theorem dX7_setSignature_27 : decode cX7_setSignature 27 = .ok (.iconst 1, 1) := dk_4 (dk_at dksX7_setSignature_1 3 rfl rfl)
theorem dX7_setSignature_28 : decode cX7_setSignature 28 = .ok (.goto 4, 3) := dk_167 0 4 (dk_at dksX7_setSignature_1 4 rfl rfl)
theorem dX7_setSignature_31 : decode cX7_setSignature 31 = .ok (.iconst 0, 1) := dk_3 (dk_at dksX7_setSignature_1 7 rfl rfl)
theorem dX7_setSignature_32 : decode cX7_setSignature 32 = .ok (.istore 4, 2) := dk_54 4 (dk_at dksX7_setSignature_1 8 rfl rfl)
theorem dX7_setSignature_34 : decode cX7_setSignature 34 = .ok (.aload_n 0, 1) := dk_42 (dk_at dksX7_setSignature_1 10 rfl rfl)
theorem dX7_setSignature_35 : decode cX7_setSignature 35 = .ok (.iload 4, 2) := dk_21 4 (dk_at dksX7_setSignature_1 11 rfl rfl)
theorem dX7_setSignature_37 : decode cX7_setSignature 37 = .ok (.ifCond .eq 20, 3) := dk_153 0 20 (dk_at dksX7_setSignature_1 13 rfl rfl)
theorem dX7_setSignature_40 : decode cX7_setSignature 40 = .ok (.iload_n 1, 1) := dk_27 (dk_at dksX7_setSignature_1 16 rfl rfl)
theorem dX7_setSignature_41 : decode cX7_setSignature 41 = .ok (.iload_n 2, 1) := dk_28 (dk_at dksX7_setSignature_1 17 rfl rfl)
theorem dX7_setSignature_42 : decode cX7_setSignature 42 = .ok (.iadd, 1) := dk_96 (dk_at dksX7_setSignature_1 18 rfl rfl)
theorem dX7_setSignature_43 : decode cX7_setSignature 43 = .ok (.iload_n 3, 1) := dk_29 (dk_at dksX7_setSignature_1 19 rfl rfl)
theorem dX7_setSignature_44 : decode cX7_setSignature 44 = .ok (.iadd, 1) := dk_96 (dk_at dksX7_setSignature_1 20 rfl rfl)
theorem dX7_setSignature_45 : decode cX7_setSignature 45 = .ok (.iconst 1, 1) := dk_4 (dk_at dksX7_setSignature_1 21 rfl rfl)
theorem dX7_setSignature_46 : decode cX7_setSignature 46 = .ok (.iconst 5, 1) := dk_8 (dk_at dksX7_setSignature_1 22 rfl rfl)
theorem dX7_setSignature_47 : decode cX7_setSignature 47 = .ok (.invokestatic 67, 3) := dk_184 0 67 (dk_at dksX7_setSignature_2 0 rfl rfl)
theorem dX7_setSignature_50 : decode cX7_setSignature 50 = .ok (.ifCond .eq 7, 3) := dk_153 0 7 (dk_at dksX7_setSignature_2 3 rfl rfl)
theorem dX7_setSignature_53 : decode cX7_setSignature 53 = .ok (.iconst 0, 1) := dk_3 (dk_at dksX7_setSignature_2 6 rfl rfl)
theorem dX7_setSignature_54 : decode cX7_setSignature 54 = .ok (.goto 4, 3) := dk_167 0 4 (dk_at dksX7_setSignature_2 7 rfl rfl)
theorem dX7_setSignature_57 : decode cX7_setSignature 57 = .ok (.iconst 1, 1) := dk_4 (dk_at dksX7_setSignature_2 10 rfl rfl)
theorem dX7_setSignature_58 : decode cX7_setSignature 58 = .ok (.putfield 54, 3) := dk_181 0 54 (dk_at dksX7_setSignature_2 11 rfl rfl)
theorem dX7_setSignature_61 : decode cX7_setSignature 61 = .ok (.aload_n 0, 1) := dk_42 (dk_at dksX7_setSignature_2 14 rfl rfl)
theorem dX7_setSignature_62 : decode cX7_setSignature 62 = .ok (.getfield 54, 3) := dk_180 0 54 (dk_at dksX7_setSignature_2 15 rfl rfl)
theorem dX7_setSignature_65 : decode cX7_setSignature 65 = .ok (.ifCond .le 5, 3) := dk_158 0 5 (dk_at dksX7_setSignature_2 18 rfl rfl)
theorem dX7_setSignature_68 : decode cX7_setSignature 68 = .ok (.iconst 0, 1) := dk_3 (dk_at dksX7_setSignature_2 21 rfl rfl)
theorem dX7_setSignature_69 : decode cX7_setSignature 69 = .ok (.ireturn, 1) := dk_172 (dk_at dksX7_setSignature_2 22 rfl rfl)
theorem dX7_setSignature_70 : decode cX7_setSignature 70 = .ok (.aload_n 0, 1) := dk_42 (dk_at dksX7_setSignature_2 23 rfl rfl)
theorem dX7_setSignature_71 : decode cX7_setSignature 71 = .ok (.iload_n 1, 1) := dk_27 (dk_at dksX7_setSignature_3 0 rfl rfl)
theorem dX7_setSignature_72 : decode cX7_setSignature 72 = .ok (.putfield 7, 3) := dk_181 0 7 (dk_at dksX7_setSignature_3 1 rfl rfl)
theorem dX7_setSignature_75 : decode cX7_setSignature 75 = .ok (.aload_n 0, 1) := dk_42 (dk_at dksX7_setSignature_3 4 rfl rfl)
theorem dX7_setSignature_76 : decode cX7_setSignature 76 = .ok (.iload_n 2, 1) := dk_28 (dk_at dksX7_setSignature_3 5 rfl rfl)
theorem dX7_setSignature_77 : decode cX7_setSignature 77 = .ok (.putfield 57, 3) := dk_181 0 57 (dk_at dksX7_setSignature_3 6 rfl rfl)
theorem dX7_setSignature_80 : decode cX7_setSignature 80 = .ok (.aload_n 0, 1) := dk_42 (dk_at dksX7_setSignature_3 9 rfl rfl)
theorem dX7_setSignature_81 : decode cX7_setSignature 81 = .ok (.iload_n 3, 1) := dk_29 (dk_at dksX7_setSignature_3 10 rfl rfl)
theorem dX7_setSignature_82 : decode cX7_setSignature 82 = .ok (.putfield 60, 3) := dk_181 0 60 (dk_at dksX7_setSignature_3 11 rfl rfl)
theorem dX7_setSignature_85 : decode cX7_setSignature 85 = .ok (.iconst 0, 1) := dk_3 (dk_at dksX7_setSignature_3 14 rfl rfl)
theorem dX7_setSignature_86 : decode cX7_setSignature 86 = .ok (.istore 5, 2) := dk_54 5 (dk_at dksX7_setSignature_3 15 rfl rfl)
theorem dX7_setSignature_88 : decode cX7_setSignature 88 = .ok (.iload 5, 2) := dk_21 5 (dk_at dksX7_setSignature_3 17 rfl rfl)
theorem dX7_setSignature_90 : decode cX7_setSignature 90 = .ok (.bipush 8, 2) := dk_16 8 (dk_at dksX7_setSignature_3 19 rfl rfl)
theorem dX7_setSignature_92 : decode cX7_setSignature 92 = .ok (.if_icmp .ge 15, 3) := dk_162 0 15 (dk_at dksX7_setSignature_3 21 rfl rfl)
theorem dX7_setSignature_95 : decode cX7_setSignature 95 = .ok (.aload_n 0, 1) := dk_42 (dk_at dksX7_setSignature_4 0 rfl rfl)
theorem dX7_setSignature_96 : decode cX7_setSignature 96 = .ok (.iload 5, 2) := dk_21 5 (dk_at dksX7_setSignature_4 1 rfl rfl)
theorem dX7_setSignature_98 : decode cX7_setSignature 98 = .ok (.invokevirtual 169, 3) := dk_182 0 169 (dk_at dksX7_setSignature_4 3 rfl rfl)
theorem dX7_setSignature_101 : decode cX7_setSignature 101 = .ok (.iinc 5 1, 3) := dk_132 5 1 (dk_at dksX7_setSignature_4 6 rfl rfl)
theorem dX7_setSignature_104 : decode cX7_setSignature 104 = .ok (.goto (-16), 3) := dk_167 255 240 (dk_at dksX7_setSignature_4 9 rfl rfl)
theorem dX7_setSignature_107 : decode cX7_setSignature 107 = .ok (.aload_n 0, 1) := dk_42 (dk_at dksX7_setSignature_4 12 rfl rfl)
theorem dX7_setSignature_108 : decode cX7_setSignature 108 = .ok (.invokevirtual 71, 3) := dk_182 0 71 (dk_at dksX7_setSignature_4 13 rfl rfl)
theorem dX7_setSignature_111 : decode cX7_setSignature 111 = .ok (.iconst 1, 1) := dk_4 (dk_at dksX7_setSignature_4 16 rfl rfl)
theorem dX7_setSignature_112 : decode cX7_setSignature 112 = .ok (.iadd, 1) := dk_96 (dk_at dksX7_setSignature_4 17 rfl rfl)
theorem dX7_setSignature_113 : decode cX7_setSignature 113 = .ok (.ireturn, 1) := dk_172 (dk_at dksX7_setSignature_4 18 rfl rfl)
abbrev cX7_empties : ByteArray := prog_42_method_36_code
def yX7_empties : MethodName := ⟨RX7, "empties", "(I)V"⟩
def dkwX7_empties_1 : List UInt8 := [167, 0, 4, 9, 80, 132, 2, 1, 167, 255, 227, 177]
abbrev dktX7_empties_1 : List UInt8 := dkwX7_empties_1 ++ []
def dkwX7_empties_0 : List UInt8 := [3, 61, 28, 16, 33, 162, 0, 29, 42, 180, 0, 27, 16, 33, 27, 104, 28, 96, 28, 154, 0, 7, 10]
abbrev dktX7_empties_0 : List UInt8 := dkwX7_empties_0 ++ dktX7_empties_1
theorem dksX7_empties_0 : cX7_empties.data.toList.drop 0 = dktX7_empties_0 := by decide +kernel
theorem dksX7_empties_1 : cX7_empties.data.toList.drop 23 = dktX7_empties_1 := dk_seg dksX7_empties_0 23 rfl rfl
theorem dX7_empties_0 : decode cX7_empties 0 = .ok (.iconst 0, 1) := dk_3 (dk_at dksX7_empties_0 0 rfl rfl)
theorem dX7_empties_1 : decode cX7_empties 1 = .ok (.istore_n 2, 1) := dk_61 (dk_at dksX7_empties_0 1 rfl rfl)
theorem dX7_empties_2 : decode cX7_empties 2 = .ok (.iload_n 2, 1) := dk_28 (dk_at dksX7_empties_0 2 rfl rfl)
theorem dX7_empties_3 : decode cX7_empties 3 = .ok (.bipush 33, 2) := dk_16 33 (dk_at dksX7_empties_0 3 rfl rfl)
theorem dX7_empties_5 : decode cX7_empties 5 = .ok (.if_icmp .ge 29, 3) := dk_162 0 29 (dk_at dksX7_empties_0 5 rfl rfl)
theorem dX7_empties_8 : decode cX7_empties 8 = .ok (.aload_n 0, 1) := dk_42 (dk_at dksX7_empties_0 8 rfl rfl)
theorem dX7_empties_9 : decode cX7_empties 9 = .ok (.getfield 27, 3) := dk_180 0 27 (dk_at dksX7_empties_0 9 rfl rfl)
theorem dX7_empties_12 : decode cX7_empties 12 = .ok (.bipush 33, 2) := dk_16 33 (dk_at dksX7_empties_0 12 rfl rfl)
theorem dX7_empties_14 : decode cX7_empties 14 = .ok (.iload_n 1, 1) := dk_27 (dk_at dksX7_empties_0 14 rfl rfl)
theorem dX7_empties_15 : decode cX7_empties 15 = .ok (.imul, 1) := dk_104 (dk_at dksX7_empties_0 15 rfl rfl)
theorem dX7_empties_16 : decode cX7_empties 16 = .ok (.iload_n 2, 1) := dk_28 (dk_at dksX7_empties_0 16 rfl rfl)
theorem dX7_empties_17 : decode cX7_empties 17 = .ok (.iadd, 1) := dk_96 (dk_at dksX7_empties_0 17 rfl rfl)
theorem dX7_empties_18 : decode cX7_empties 18 = .ok (.iload_n 2, 1) := dk_28 (dk_at dksX7_empties_0 18 rfl rfl)
theorem dX7_empties_19 : decode cX7_empties 19 = .ok (.ifCond .ne 7, 3) := dk_154 0 7 (dk_at dksX7_empties_0 19 rfl rfl)
theorem dX7_empties_22 : decode cX7_empties 22 = .ok (.lconst 1, 1) := dk_10 (dk_at dksX7_empties_0 22 rfl rfl)
theorem dX7_empties_23 : decode cX7_empties 23 = .ok (.goto 4, 3) := dk_167 0 4 (dk_at dksX7_empties_1 0 rfl rfl)
theorem dX7_empties_26 : decode cX7_empties 26 = .ok (.lconst 0, 1) := dk_9 (dk_at dksX7_empties_1 3 rfl rfl)
theorem dX7_empties_27 : decode cX7_empties 27 = .ok (.lastore, 1) := dk_80 (dk_at dksX7_empties_1 4 rfl rfl)
theorem dX7_empties_28 : decode cX7_empties 28 = .ok (.iinc 2 1, 3) := dk_132 2 1 (dk_at dksX7_empties_1 5 rfl rfl)
theorem dX7_empties_31 : decode cX7_empties 31 = .ok (.goto (-29), 3) := dk_167 255 227 (dk_at dksX7_empties_1 8 rfl rfl)
theorem dX7_empties_34 : decode cX7_empties 34 = .ok (.return_, 1) := dk_177 (dk_at dksX7_empties_1 11 rfl rfl)
abbrev cX7_signature : ByteArray := prog_42_method_38_code
def yX7_signature : MethodName := ⟨RX7, "signature", "(I)I"⟩
def dkwX7_signature_2 : List UInt8 := [180, 0, 57, 167, 0, 19, 27, 5, 160, 0, 10, 42, 180, 0, 60, 167, 0, 7, 42, 182, 0, 63, 172]
abbrev dktX7_signature_2 : List UInt8 := dkwX7_signature_2 ++ []
def dkwX7_signature_1 : List UInt8 := [158, 0, 7, 3, 167, 0, 42, 27, 154, 0, 10, 42, 180, 0, 7, 167, 0, 31, 27, 4, 160, 0, 10, 42]
abbrev dktX7_signature_1 : List UInt8 := dkwX7_signature_1 ++ dktX7_signature_2
def dkwX7_signature_0 : List UInt8 := [42, 27, 3, 6, 184, 0, 67, 153, 0, 7, 3, 167, 0, 4, 4, 181, 0, 54, 42, 180, 0, 54]
abbrev dktX7_signature_0 : List UInt8 := dkwX7_signature_0 ++ dktX7_signature_1
theorem dksX7_signature_0 : cX7_signature.data.toList.drop 0 = dktX7_signature_0 := by decide +kernel
theorem dksX7_signature_1 : cX7_signature.data.toList.drop 22 = dktX7_signature_1 := dk_seg dksX7_signature_0 22 rfl rfl
theorem dksX7_signature_2 : cX7_signature.data.toList.drop 46 = dktX7_signature_2 := dk_seg dksX7_signature_1 24 rfl rfl
theorem dX7_signature_0 : decode cX7_signature 0 = .ok (.aload_n 0, 1) := dk_42 (dk_at dksX7_signature_0 0 rfl rfl)
theorem dX7_signature_1 : decode cX7_signature 1 = .ok (.iload_n 1, 1) := dk_27 (dk_at dksX7_signature_0 1 rfl rfl)
theorem dX7_signature_2 : decode cX7_signature 2 = .ok (.iconst 0, 1) := dk_3 (dk_at dksX7_signature_0 2 rfl rfl)
theorem dX7_signature_3 : decode cX7_signature 3 = .ok (.iconst 3, 1) := dk_6 (dk_at dksX7_signature_0 3 rfl rfl)
theorem dX7_signature_4 : decode cX7_signature 4 = .ok (.invokestatic 67, 3) := dk_184 0 67 (dk_at dksX7_signature_0 4 rfl rfl)
theorem dX7_signature_7 : decode cX7_signature 7 = .ok (.ifCond .eq 7, 3) := dk_153 0 7 (dk_at dksX7_signature_0 7 rfl rfl)
theorem dX7_signature_10 : decode cX7_signature 10 = .ok (.iconst 0, 1) := dk_3 (dk_at dksX7_signature_0 10 rfl rfl)
theorem dX7_signature_11 : decode cX7_signature 11 = .ok (.goto 4, 3) := dk_167 0 4 (dk_at dksX7_signature_0 11 rfl rfl)
theorem dX7_signature_14 : decode cX7_signature 14 = .ok (.iconst 1, 1) := dk_4 (dk_at dksX7_signature_0 14 rfl rfl)
theorem dX7_signature_15 : decode cX7_signature 15 = .ok (.putfield 54, 3) := dk_181 0 54 (dk_at dksX7_signature_0 15 rfl rfl)
theorem dX7_signature_18 : decode cX7_signature 18 = .ok (.aload_n 0, 1) := dk_42 (dk_at dksX7_signature_0 18 rfl rfl)
theorem dX7_signature_19 : decode cX7_signature 19 = .ok (.getfield 54, 3) := dk_180 0 54 (dk_at dksX7_signature_0 19 rfl rfl)
theorem dX7_signature_22 : decode cX7_signature 22 = .ok (.ifCond .le 7, 3) := dk_158 0 7 (dk_at dksX7_signature_1 0 rfl rfl)
theorem dX7_signature_25 : decode cX7_signature 25 = .ok (.iconst 0, 1) := dk_3 (dk_at dksX7_signature_1 3 rfl rfl)
theorem dX7_signature_26 : decode cX7_signature 26 = .ok (.goto 42, 3) := dk_167 0 42 (dk_at dksX7_signature_1 4 rfl rfl)
theorem dX7_signature_29 : decode cX7_signature 29 = .ok (.iload_n 1, 1) := dk_27 (dk_at dksX7_signature_1 7 rfl rfl)
theorem dX7_signature_30 : decode cX7_signature 30 = .ok (.ifCond .ne 10, 3) := dk_154 0 10 (dk_at dksX7_signature_1 8 rfl rfl)
theorem dX7_signature_33 : decode cX7_signature 33 = .ok (.aload_n 0, 1) := dk_42 (dk_at dksX7_signature_1 11 rfl rfl)
theorem dX7_signature_34 : decode cX7_signature 34 = .ok (.getfield 7, 3) := dk_180 0 7 (dk_at dksX7_signature_1 12 rfl rfl)
theorem dX7_signature_37 : decode cX7_signature 37 = .ok (.goto 31, 3) := dk_167 0 31 (dk_at dksX7_signature_1 15 rfl rfl)
theorem dX7_signature_40 : decode cX7_signature 40 = .ok (.iload_n 1, 1) := dk_27 (dk_at dksX7_signature_1 18 rfl rfl)
theorem dX7_signature_41 : decode cX7_signature 41 = .ok (.iconst 1, 1) := dk_4 (dk_at dksX7_signature_1 19 rfl rfl)
theorem dX7_signature_42 : decode cX7_signature 42 = .ok (.if_icmp .ne 10, 3) := dk_160 0 10 (dk_at dksX7_signature_1 20 rfl rfl)
theorem dX7_signature_45 : decode cX7_signature 45 = .ok (.aload_n 0, 1) := dk_42 (dk_at dksX7_signature_1 23 rfl rfl)
theorem dX7_signature_46 : decode cX7_signature 46 = .ok (.getfield 57, 3) := dk_180 0 57 (dk_at dksX7_signature_2 0 rfl rfl)
theorem dX7_signature_49 : decode cX7_signature 49 = .ok (.goto 19, 3) := dk_167 0 19 (dk_at dksX7_signature_2 3 rfl rfl)
theorem dX7_signature_52 : decode cX7_signature 52 = .ok (.iload_n 1, 1) := dk_27 (dk_at dksX7_signature_2 6 rfl rfl)
theorem dX7_signature_53 : decode cX7_signature 53 = .ok (.iconst 2, 1) := dk_5 (dk_at dksX7_signature_2 7 rfl rfl)
theorem dX7_signature_54 : decode cX7_signature 54 = .ok (.if_icmp .ne 10, 3) := dk_160 0 10 (dk_at dksX7_signature_2 8 rfl rfl)
theorem dX7_signature_57 : decode cX7_signature 57 = .ok (.aload_n 0, 1) := dk_42 (dk_at dksX7_signature_2 11 rfl rfl)
theorem dX7_signature_58 : decode cX7_signature 58 = .ok (.getfield 60, 3) := dk_180 0 60 (dk_at dksX7_signature_2 12 rfl rfl)
theorem dX7_signature_61 : decode cX7_signature 61 = .ok (.goto 7, 3) := dk_167 0 7 (dk_at dksX7_signature_2 15 rfl rfl)
theorem dX7_signature_64 : decode cX7_signature 64 = .ok (.aload_n 0, 1) := dk_42 (dk_at dksX7_signature_2 18 rfl rfl)
theorem dX7_signature_65 : decode cX7_signature 65 = .ok (.invokevirtual 63, 3) := dk_182 0 63 (dk_at dksX7_signature_2 19 rfl rfl)
theorem dX7_signature_68 : decode cX7_signature 68 = .ok (.ireturn, 1) := dk_172 (dk_at dksX7_signature_2 22 rfl rfl)
abbrev cX7_setCoefficient : ByteArray := prog_42_method_39_code
def yX7_setCoefficient : MethodName := ⟨RX7, "setCoefficient", "(IIII)V"⟩
def dkwX7_setCoefficient_6 : List UInt8 := [153, 0, 7, 3, 167, 0, 4, 6, 181, 0, 54, 177]
abbrev dktX7_setCoefficient_6 : List UInt8 := dkwX7_setCoefficient_6 ++ []
def dkwX7_setCoefficient_5 : List UInt8 := [182, 0, 114, 105, 80, 42, 42, 27, 182, 0, 114, 21, 4, 133, 105, 181, 0, 34, 42, 42, 27, 182, 0, 118]
abbrev dktX7_setCoefficient_5 : List UInt8 := dkwX7_setCoefficient_5 ++ dktX7_setCoefficient_6
def dkwX7_setCoefficient_4 : List UInt8 := [182, 0, 94, 21, 4, 133, 105, 80, 132, 6, 1, 167, 255, 228, 42, 180, 0, 31, 28, 29, 133, 42, 27]
abbrev dktX7_setCoefficient_4 : List UInt8 := dkwX7_setCoefficient_4 ++ dktX7_setCoefficient_5
def dkwX7_setCoefficient_3 : List UInt8 := [182, 0, 105, 3, 54, 6, 21, 6, 16, 32, 162, 0, 27, 42, 180, 0, 31, 21, 6, 42, 27, 21, 6]
abbrev dktX7_setCoefficient_3 : List UInt8 := dkwX7_setCoefficient_3 ++ dktX7_setCoefficient_4
def dkwX7_setCoefficient_2 : List UInt8 := [184, 0, 67, 154, 0, 7, 5, 167, 0, 4, 3, 181, 0, 54, 42, 180, 0, 54, 158, 0, 4, 177, 42]
abbrev dktX7_setCoefficient_2 : List UInt8 := dkwX7_setCoefficient_2 ++ dktX7_setCoefficient_3
def dkwX7_setCoefficient_1 : List UInt8 := [21, 5, 154, 0, 7, 4, 167, 0, 28, 29, 133, 184, 0, 82, 153, 0, 15, 21, 4, 4, 17, 39, 16]
abbrev dktX7_setCoefficient_1 : List UInt8 := dkwX7_setCoefficient_1 ++ dktX7_setCoefficient_2
def dkwX7_setCoefficient_0 : List UInt8 := [27, 184, 0, 147, 153, 0, 15, 42, 28, 182, 0, 173, 153, 0, 7, 4, 167, 0, 4, 3, 54, 5, 42]
abbrev dktX7_setCoefficient_0 : List UInt8 := dkwX7_setCoefficient_0 ++ dktX7_setCoefficient_1
theorem dksX7_setCoefficient_0 : cX7_setCoefficient.data.toList.drop 0 = dktX7_setCoefficient_0 := by decide +kernel
theorem dksX7_setCoefficient_1 : cX7_setCoefficient.data.toList.drop 23 = dktX7_setCoefficient_1 := dk_seg dksX7_setCoefficient_0 23 rfl rfl
theorem dksX7_setCoefficient_2 : cX7_setCoefficient.data.toList.drop 46 = dktX7_setCoefficient_2 := dk_seg dksX7_setCoefficient_1 23 rfl rfl
theorem dksX7_setCoefficient_3 : cX7_setCoefficient.data.toList.drop 69 = dktX7_setCoefficient_3 := dk_seg dksX7_setCoefficient_2 23 rfl rfl
theorem dksX7_setCoefficient_4 : cX7_setCoefficient.data.toList.drop 92 = dktX7_setCoefficient_4 := dk_seg dksX7_setCoefficient_3 23 rfl rfl
theorem dksX7_setCoefficient_5 : cX7_setCoefficient.data.toList.drop 115 = dktX7_setCoefficient_5 := dk_seg dksX7_setCoefficient_4 23 rfl rfl
theorem dksX7_setCoefficient_6 : cX7_setCoefficient.data.toList.drop 139 = dktX7_setCoefficient_6 := dk_seg dksX7_setCoefficient_5 24 rfl rfl
theorem dX7_setCoefficient_0 : decode cX7_setCoefficient 0 = .ok (.iload_n 1, 1) := dk_27 (dk_at dksX7_setCoefficient_0 0 rfl rfl)
theorem dX7_setCoefficient_1 : decode cX7_setCoefficient 1 = .ok (.invokestatic 147, 3) := dk_184 0 147 (dk_at dksX7_setCoefficient_0 1 rfl rfl)
theorem dX7_setCoefficient_4 : decode cX7_setCoefficient 4 = .ok (.ifCond .eq 15, 3) := dk_153 0 15 (dk_at dksX7_setCoefficient_0 4 rfl rfl)
theorem dX7_setCoefficient_7 : decode cX7_setCoefficient 7 = .ok (.aload_n 0, 1) := dk_42 (dk_at dksX7_setCoefficient_0 7 rfl rfl)
theorem dX7_setCoefficient_8 : decode cX7_setCoefficient 8 = .ok (.iload_n 2, 1) := dk_28 (dk_at dksX7_setCoefficient_0 8 rfl rfl)
theorem dX7_setCoefficient_9 : decode cX7_setCoefficient 9 = .ok (.invokevirtual 173, 3) := dk_182 0 173 (dk_at dksX7_setCoefficient_0 9 rfl rfl)
theorem dX7_setCoefficient_12 : decode cX7_setCoefficient 12 = .ok (.ifCond .eq 7, 3) := dk_153 0 7 (dk_at dksX7_setCoefficient_0 12 rfl rfl)
theorem dX7_setCoefficient_15 : decode cX7_setCoefficient 15 = .ok (.iconst 1, 1) := dk_4 (dk_at dksX7_setCoefficient_0 15 rfl rfl)
theorem dX7_setCoefficient_16 : decode cX7_setCoefficient 16 = .ok (.goto 4, 3) := dk_167 0 4 (dk_at dksX7_setCoefficient_0 16 rfl rfl)
theorem dX7_setCoefficient_19 : decode cX7_setCoefficient 19 = .ok (.iconst 0, 1) := dk_3 (dk_at dksX7_setCoefficient_0 19 rfl rfl)
theorem dX7_setCoefficient_20 : decode cX7_setCoefficient 20 = .ok (.istore 5, 2) := dk_54 5 (dk_at dksX7_setCoefficient_0 20 rfl rfl)
theorem dX7_setCoefficient_22 : decode cX7_setCoefficient 22 = .ok (.aload_n 0, 1) := dk_42 (dk_at dksX7_setCoefficient_0 22 rfl rfl)
theorem dX7_setCoefficient_23 : decode cX7_setCoefficient 23 = .ok (.iload 5, 2) := dk_21 5 (dk_at dksX7_setCoefficient_1 0 rfl rfl)
theorem dX7_setCoefficient_25 : decode cX7_setCoefficient 25 = .ok (.ifCond .ne 7, 3) := dk_154 0 7 (dk_at dksX7_setCoefficient_1 2 rfl rfl)
theorem dX7_setCoefficient_28 : decode cX7_setCoefficient 28 = .ok (.iconst 1, 1) := dk_4 (dk_at dksX7_setCoefficient_1 5 rfl rfl)
theorem dX7_setCoefficient_29 : decode cX7_setCoefficient 29 = .ok (.goto 28, 3) := dk_167 0 28 (dk_at dksX7_setCoefficient_1 6 rfl rfl)
theorem dX7_setCoefficient_32 : decode cX7_setCoefficient 32 = .ok (.iload_n 3, 1) := dk_29 (dk_at dksX7_setCoefficient_1 9 rfl rfl)
theorem dX7_setCoefficient_33 : decode cX7_setCoefficient 33 = .ok (.i2l, 1) := dk_133 (dk_at dksX7_setCoefficient_1 10 rfl rfl)
theorem dX7_setCoefficient_34 : decode cX7_setCoefficient 34 = .ok (.invokestatic 82, 3) := dk_184 0 82 (dk_at dksX7_setCoefficient_1 11 rfl rfl)
theorem dX7_setCoefficient_37 : decode cX7_setCoefficient 37 = .ok (.ifCond .eq 15, 3) := dk_153 0 15 (dk_at dksX7_setCoefficient_1 14 rfl rfl)
theorem dX7_setCoefficient_40 : decode cX7_setCoefficient 40 = .ok (.iload 4, 2) := dk_21 4 (dk_at dksX7_setCoefficient_1 17 rfl rfl)
theorem dX7_setCoefficient_42 : decode cX7_setCoefficient 42 = .ok (.iconst 1, 1) := dk_4 (dk_at dksX7_setCoefficient_1 19 rfl rfl)
theorem dX7_setCoefficient_43 : decode cX7_setCoefficient 43 = .ok (.sipush 10000, 3) := dk_17 39 16 (dk_at dksX7_setCoefficient_1 20 rfl rfl)
theorem dX7_setCoefficient_46 : decode cX7_setCoefficient 46 = .ok (.invokestatic 67, 3) := dk_184 0 67 (dk_at dksX7_setCoefficient_2 0 rfl rfl)
theorem dX7_setCoefficient_49 : decode cX7_setCoefficient 49 = .ok (.ifCond .ne 7, 3) := dk_154 0 7 (dk_at dksX7_setCoefficient_2 3 rfl rfl)
theorem dX7_setCoefficient_52 : decode cX7_setCoefficient 52 = .ok (.iconst 2, 1) := dk_5 (dk_at dksX7_setCoefficient_2 6 rfl rfl)
theorem dX7_setCoefficient_53 : decode cX7_setCoefficient 53 = .ok (.goto 4, 3) := dk_167 0 4 (dk_at dksX7_setCoefficient_2 7 rfl rfl)
theorem dX7_setCoefficient_56 : decode cX7_setCoefficient 56 = .ok (.iconst 0, 1) := dk_3 (dk_at dksX7_setCoefficient_2 10 rfl rfl)
theorem dX7_setCoefficient_57 : decode cX7_setCoefficient 57 = .ok (.putfield 54, 3) := dk_181 0 54 (dk_at dksX7_setCoefficient_2 11 rfl rfl)
theorem dX7_setCoefficient_60 : decode cX7_setCoefficient 60 = .ok (.aload_n 0, 1) := dk_42 (dk_at dksX7_setCoefficient_2 14 rfl rfl)
theorem dX7_setCoefficient_61 : decode cX7_setCoefficient 61 = .ok (.getfield 54, 3) := dk_180 0 54 (dk_at dksX7_setCoefficient_2 15 rfl rfl)
theorem dX7_setCoefficient_64 : decode cX7_setCoefficient 64 = .ok (.ifCond .le 4, 3) := dk_158 0 4 (dk_at dksX7_setCoefficient_2 18 rfl rfl)
theorem dX7_setCoefficient_67 : decode cX7_setCoefficient 67 = .ok (.return_, 1) := dk_177 (dk_at dksX7_setCoefficient_2 21 rfl rfl)
theorem dX7_setCoefficient_68 : decode cX7_setCoefficient 68 = .ok (.aload_n 0, 1) := dk_42 (dk_at dksX7_setCoefficient_2 22 rfl rfl)
theorem dX7_setCoefficient_69 : decode cX7_setCoefficient 69 = .ok (.invokevirtual 105, 3) := dk_182 0 105 (dk_at dksX7_setCoefficient_3 0 rfl rfl)
theorem dX7_setCoefficient_72 : decode cX7_setCoefficient 72 = .ok (.iconst 0, 1) := dk_3 (dk_at dksX7_setCoefficient_3 3 rfl rfl)
theorem dX7_setCoefficient_73 : decode cX7_setCoefficient 73 = .ok (.istore 6, 2) := dk_54 6 (dk_at dksX7_setCoefficient_3 4 rfl rfl)
theorem dX7_setCoefficient_75 : decode cX7_setCoefficient 75 = .ok (.iload 6, 2) := dk_21 6 (dk_at dksX7_setCoefficient_3 6 rfl rfl)
theorem dX7_setCoefficient_77 : decode cX7_setCoefficient 77 = .ok (.bipush 32, 2) := dk_16 32 (dk_at dksX7_setCoefficient_3 8 rfl rfl)
theorem dX7_setCoefficient_79 : decode cX7_setCoefficient 79 = .ok (.if_icmp .ge 27, 3) := dk_162 0 27 (dk_at dksX7_setCoefficient_3 10 rfl rfl)
theorem dX7_setCoefficient_82 : decode cX7_setCoefficient 82 = .ok (.aload_n 0, 1) := dk_42 (dk_at dksX7_setCoefficient_3 13 rfl rfl)
theorem dX7_setCoefficient_83 : decode cX7_setCoefficient 83 = .ok (.getfield 31, 3) := dk_180 0 31 (dk_at dksX7_setCoefficient_3 14 rfl rfl)
theorem dX7_setCoefficient_86 : decode cX7_setCoefficient 86 = .ok (.iload 6, 2) := dk_21 6 (dk_at dksX7_setCoefficient_3 17 rfl rfl)
theorem dX7_setCoefficient_88 : decode cX7_setCoefficient 88 = .ok (.aload_n 0, 1) := dk_42 (dk_at dksX7_setCoefficient_3 19 rfl rfl)
theorem dX7_setCoefficient_89 : decode cX7_setCoefficient 89 = .ok (.iload_n 1, 1) := dk_27 (dk_at dksX7_setCoefficient_3 20 rfl rfl)
theorem dX7_setCoefficient_90 : decode cX7_setCoefficient 90 = .ok (.iload 6, 2) := dk_21 6 (dk_at dksX7_setCoefficient_3 21 rfl rfl)
theorem dX7_setCoefficient_92 : decode cX7_setCoefficient 92 = .ok (.invokevirtual 94, 3) := dk_182 0 94 (dk_at dksX7_setCoefficient_4 0 rfl rfl)
theorem dX7_setCoefficient_95 : decode cX7_setCoefficient 95 = .ok (.iload 4, 2) := dk_21 4 (dk_at dksX7_setCoefficient_4 3 rfl rfl)
theorem dX7_setCoefficient_97 : decode cX7_setCoefficient 97 = .ok (.i2l, 1) := dk_133 (dk_at dksX7_setCoefficient_4 5 rfl rfl)
theorem dX7_setCoefficient_98 : decode cX7_setCoefficient 98 = .ok (.lmul, 1) := dk_105 (dk_at dksX7_setCoefficient_4 6 rfl rfl)
theorem dX7_setCoefficient_99 : decode cX7_setCoefficient 99 = .ok (.lastore, 1) := dk_80 (dk_at dksX7_setCoefficient_4 7 rfl rfl)
theorem dX7_setCoefficient_100 : decode cX7_setCoefficient 100 = .ok (.iinc 6 1, 3) := dk_132 6 1 (dk_at dksX7_setCoefficient_4 8 rfl rfl)
theorem dX7_setCoefficient_103 : decode cX7_setCoefficient 103 = .ok (.goto (-28), 3) := dk_167 255 228 (dk_at dksX7_setCoefficient_4 11 rfl rfl)
theorem dX7_setCoefficient_106 : decode cX7_setCoefficient 106 = .ok (.aload_n 0, 1) := dk_42 (dk_at dksX7_setCoefficient_4 14 rfl rfl)
theorem dX7_setCoefficient_107 : decode cX7_setCoefficient 107 = .ok (.getfield 31, 3) := dk_180 0 31 (dk_at dksX7_setCoefficient_4 15 rfl rfl)
theorem dX7_setCoefficient_110 : decode cX7_setCoefficient 110 = .ok (.iload_n 2, 1) := dk_28 (dk_at dksX7_setCoefficient_4 18 rfl rfl)
theorem dX7_setCoefficient_111 : decode cX7_setCoefficient 111 = .ok (.iload_n 3, 1) := dk_29 (dk_at dksX7_setCoefficient_4 19 rfl rfl)
theorem dX7_setCoefficient_112 : decode cX7_setCoefficient 112 = .ok (.i2l, 1) := dk_133 (dk_at dksX7_setCoefficient_4 20 rfl rfl)
theorem dX7_setCoefficient_113 : decode cX7_setCoefficient 113 = .ok (.aload_n 0, 1) := dk_42 (dk_at dksX7_setCoefficient_4 21 rfl rfl)
theorem dX7_setCoefficient_114 : decode cX7_setCoefficient 114 = .ok (.iload_n 1, 1) := dk_27 (dk_at dksX7_setCoefficient_4 22 rfl rfl)
theorem dX7_setCoefficient_115 : decode cX7_setCoefficient 115 = .ok (.invokevirtual 114, 3) := dk_182 0 114 (dk_at dksX7_setCoefficient_5 0 rfl rfl)
theorem dX7_setCoefficient_118 : decode cX7_setCoefficient 118 = .ok (.lmul, 1) := dk_105 (dk_at dksX7_setCoefficient_5 3 rfl rfl)
theorem dX7_setCoefficient_119 : decode cX7_setCoefficient 119 = .ok (.lastore, 1) := dk_80 (dk_at dksX7_setCoefficient_5 4 rfl rfl)
theorem dX7_setCoefficient_120 : decode cX7_setCoefficient 120 = .ok (.aload_n 0, 1) := dk_42 (dk_at dksX7_setCoefficient_5 5 rfl rfl)
theorem dX7_setCoefficient_121 : decode cX7_setCoefficient 121 = .ok (.aload_n 0, 1) := dk_42 (dk_at dksX7_setCoefficient_5 6 rfl rfl)
theorem dX7_setCoefficient_122 : decode cX7_setCoefficient 122 = .ok (.iload_n 1, 1) := dk_27 (dk_at dksX7_setCoefficient_5 7 rfl rfl)
theorem dX7_setCoefficient_123 : decode cX7_setCoefficient 123 = .ok (.invokevirtual 114, 3) := dk_182 0 114 (dk_at dksX7_setCoefficient_5 8 rfl rfl)
theorem dX7_setCoefficient_126 : decode cX7_setCoefficient 126 = .ok (.iload 4, 2) := dk_21 4 (dk_at dksX7_setCoefficient_5 11 rfl rfl)
theorem dX7_setCoefficient_128 : decode cX7_setCoefficient 128 = .ok (.i2l, 1) := dk_133 (dk_at dksX7_setCoefficient_5 13 rfl rfl)
theorem dX7_setCoefficient_129 : decode cX7_setCoefficient 129 = .ok (.lmul, 1) := dk_105 (dk_at dksX7_setCoefficient_5 14 rfl rfl)
theorem dX7_setCoefficient_130 : decode cX7_setCoefficient 130 = .ok (.putfield 34, 3) := dk_181 0 34 (dk_at dksX7_setCoefficient_5 15 rfl rfl)
theorem dX7_setCoefficient_133 : decode cX7_setCoefficient 133 = .ok (.aload_n 0, 1) := dk_42 (dk_at dksX7_setCoefficient_5 18 rfl rfl)
theorem dX7_setCoefficient_134 : decode cX7_setCoefficient 134 = .ok (.aload_n 0, 1) := dk_42 (dk_at dksX7_setCoefficient_5 19 rfl rfl)
theorem dX7_setCoefficient_135 : decode cX7_setCoefficient 135 = .ok (.iload_n 1, 1) := dk_27 (dk_at dksX7_setCoefficient_5 20 rfl rfl)
theorem dX7_setCoefficient_136 : decode cX7_setCoefficient 136 = .ok (.invokevirtual 118, 3) := dk_182 0 118 (dk_at dksX7_setCoefficient_5 21 rfl rfl)
theorem dX7_setCoefficient_139 : decode cX7_setCoefficient 139 = .ok (.ifCond .eq 7, 3) := dk_153 0 7 (dk_at dksX7_setCoefficient_6 0 rfl rfl)
theorem dX7_setCoefficient_142 : decode cX7_setCoefficient 142 = .ok (.iconst 0, 1) := dk_3 (dk_at dksX7_setCoefficient_6 3 rfl rfl)
theorem dX7_setCoefficient_143 : decode cX7_setCoefficient 143 = .ok (.goto 4, 3) := dk_167 0 4 (dk_at dksX7_setCoefficient_6 4 rfl rfl)
theorem dX7_setCoefficient_146 : decode cX7_setCoefficient 146 = .ok (.iconst 3, 1) := dk_6 (dk_at dksX7_setCoefficient_6 7 rfl rfl)
theorem dX7_setCoefficient_147 : decode cX7_setCoefficient 147 = .ok (.putfield 54, 3) := dk_181 0 54 (dk_at dksX7_setCoefficient_6 8 rfl rfl)
theorem dX7_setCoefficient_150 : decode cX7_setCoefficient 150 = .ok (.return_, 1) := dk_177 (dk_at dksX7_setCoefficient_6 11 rfl rfl)
abbrev cX7_isBlade0 : ByteArray := prog_42_method_8_code
def yX7_isBlade0 : MethodName := ⟨RX7, "isBlade0", "(I)Z"⟩
def dkwX7_isBlade0_0 : List UInt8 := [27, 3, 42, 182, 0, 71, 184, 0, 67, 172]
abbrev dktX7_isBlade0_0 : List UInt8 := dkwX7_isBlade0_0 ++ []
theorem dksX7_isBlade0_0 : cX7_isBlade0.data.toList.drop 0 = dktX7_isBlade0_0 := by decide +kernel
theorem dX7_isBlade0_0 : decode cX7_isBlade0 0 = .ok (.iload_n 1, 1) := dk_27 (dk_at dksX7_isBlade0_0 0 rfl rfl)
theorem dX7_isBlade0_1 : decode cX7_isBlade0 1 = .ok (.iconst 0, 1) := dk_3 (dk_at dksX7_isBlade0_0 1 rfl rfl)
theorem dX7_isBlade0_2 : decode cX7_isBlade0 2 = .ok (.aload_n 0, 1) := dk_42 (dk_at dksX7_isBlade0_0 2 rfl rfl)
theorem dX7_isBlade0_3 : decode cX7_isBlade0 3 = .ok (.invokevirtual 71, 3) := dk_182 0 71 (dk_at dksX7_isBlade0_0 3 rfl rfl)
theorem dX7_isBlade0_6 : decode cX7_isBlade0 6 = .ok (.invokestatic 67, 3) := dk_184 0 67 (dk_at dksX7_isBlade0_0 6 rfl rfl)
theorem dX7_isBlade0_9 : decode cX7_isBlade0 9 = .ok (.ireturn, 1) := dk_172 (dk_at dksX7_isBlade0_0 9 rfl rfl)
abbrev cX7_numerator : ByteArray := prog_42_method_42_code
def yX7_numerator : MethodName := ⟨RX7, "numerator", "(II)I"⟩
def dkwX7_numerator_1 : List UInt8 := [167, 0, 4, 3, 172]
abbrev dktX7_numerator_1 : List UInt8 := dkwX7_numerator_1 ++ []
def dkwX7_numerator_0 : List UInt8 := [42, 27, 28, 182, 0, 176, 153, 0, 20, 42, 27, 28, 182, 0, 94, 42, 27, 28, 182, 0, 179, 109, 136]
abbrev dktX7_numerator_0 : List UInt8 := dkwX7_numerator_0 ++ dktX7_numerator_1
theorem dksX7_numerator_0 : cX7_numerator.data.toList.drop 0 = dktX7_numerator_0 := by decide +kernel
theorem dksX7_numerator_1 : cX7_numerator.data.toList.drop 23 = dktX7_numerator_1 := dk_seg dksX7_numerator_0 23 rfl rfl
theorem dX7_numerator_0 : decode cX7_numerator 0 = .ok (.aload_n 0, 1) := dk_42 (dk_at dksX7_numerator_0 0 rfl rfl)
theorem dX7_numerator_1 : decode cX7_numerator 1 = .ok (.iload_n 1, 1) := dk_27 (dk_at dksX7_numerator_0 1 rfl rfl)
theorem dX7_numerator_2 : decode cX7_numerator 2 = .ok (.iload_n 2, 1) := dk_28 (dk_at dksX7_numerator_0 2 rfl rfl)
theorem dX7_numerator_3 : decode cX7_numerator 3 = .ok (.invokevirtual 176, 3) := dk_182 0 176 (dk_at dksX7_numerator_0 3 rfl rfl)
theorem dX7_numerator_6 : decode cX7_numerator 6 = .ok (.ifCond .eq 20, 3) := dk_153 0 20 (dk_at dksX7_numerator_0 6 rfl rfl)
theorem dX7_numerator_9 : decode cX7_numerator 9 = .ok (.aload_n 0, 1) := dk_42 (dk_at dksX7_numerator_0 9 rfl rfl)
theorem dX7_numerator_10 : decode cX7_numerator 10 = .ok (.iload_n 1, 1) := dk_27 (dk_at dksX7_numerator_0 10 rfl rfl)
theorem dX7_numerator_11 : decode cX7_numerator 11 = .ok (.iload_n 2, 1) := dk_28 (dk_at dksX7_numerator_0 11 rfl rfl)
theorem dX7_numerator_12 : decode cX7_numerator 12 = .ok (.invokevirtual 94, 3) := dk_182 0 94 (dk_at dksX7_numerator_0 12 rfl rfl)
theorem dX7_numerator_15 : decode cX7_numerator 15 = .ok (.aload_n 0, 1) := dk_42 (dk_at dksX7_numerator_0 15 rfl rfl)
theorem dX7_numerator_16 : decode cX7_numerator 16 = .ok (.iload_n 1, 1) := dk_27 (dk_at dksX7_numerator_0 16 rfl rfl)
theorem dX7_numerator_17 : decode cX7_numerator 17 = .ok (.iload_n 2, 1) := dk_28 (dk_at dksX7_numerator_0 17 rfl rfl)
theorem dX7_numerator_18 : decode cX7_numerator 18 = .ok (.invokevirtual 179, 3) := dk_182 0 179 (dk_at dksX7_numerator_0 18 rfl rfl)
theorem dX7_numerator_21 : decode cX7_numerator 21 = .ok (.ldiv, 1) := dk_109 (dk_at dksX7_numerator_0 21 rfl rfl)
theorem dX7_numerator_22 : decode cX7_numerator 22 = .ok (.l2i, 1) := dk_136 (dk_at dksX7_numerator_0 22 rfl rfl)
theorem dX7_numerator_23 : decode cX7_numerator 23 = .ok (.goto 4, 3) := dk_167 0 4 (dk_at dksX7_numerator_1 0 rfl rfl)
theorem dX7_numerator_26 : decode cX7_numerator 26 = .ok (.iconst 0, 1) := dk_3 (dk_at dksX7_numerator_1 3 rfl rfl)
theorem dX7_numerator_27 : decode cX7_numerator 27 = .ok (.ireturn, 1) := dk_172 (dk_at dksX7_numerator_1 4 rfl rfl)
abbrev cX7_isCoefficient : ByteArray := prog_42_method_40_code
def yX7_isCoefficient : MethodName := ⟨RX7, "isCoefficient", "(II)Z"⟩
def dkwX7_isCoefficient_1 : List UInt8 := [42, 180, 0, 54, 154, 0, 7, 4, 167, 0, 4, 3, 172]
abbrev dktX7_isCoefficient_1 : List UInt8 := dkwX7_isCoefficient_1 ++ []
def dkwX7_isCoefficient_0 : List UInt8 := [42, 27, 184, 0, 147, 153, 0, 15, 42, 28, 182, 0, 173, 153, 0, 7, 3, 167, 0, 4, 4, 181, 0, 54]
abbrev dktX7_isCoefficient_0 : List UInt8 := dkwX7_isCoefficient_0 ++ dktX7_isCoefficient_1
theorem dksX7_isCoefficient_0 : cX7_isCoefficient.data.toList.drop 0 = dktX7_isCoefficient_0 := by decide +kernel
theorem dksX7_isCoefficient_1 : cX7_isCoefficient.data.toList.drop 24 = dktX7_isCoefficient_1 := dk_seg dksX7_isCoefficient_0 24 rfl rfl
theorem dX7_isCoefficient_0 : decode cX7_isCoefficient 0 = .ok (.aload_n 0, 1) := dk_42 (dk_at dksX7_isCoefficient_0 0 rfl rfl)
theorem dX7_isCoefficient_1 : decode cX7_isCoefficient 1 = .ok (.iload_n 1, 1) := dk_27 (dk_at dksX7_isCoefficient_0 1 rfl rfl)
theorem dX7_isCoefficient_2 : decode cX7_isCoefficient 2 = .ok (.invokestatic 147, 3) := dk_184 0 147 (dk_at dksX7_isCoefficient_0 2 rfl rfl)
theorem dX7_isCoefficient_5 : decode cX7_isCoefficient 5 = .ok (.ifCond .eq 15, 3) := dk_153 0 15 (dk_at dksX7_isCoefficient_0 5 rfl rfl)
theorem dX7_isCoefficient_8 : decode cX7_isCoefficient 8 = .ok (.aload_n 0, 1) := dk_42 (dk_at dksX7_isCoefficient_0 8 rfl rfl)
theorem dX7_isCoefficient_9 : decode cX7_isCoefficient 9 = .ok (.iload_n 2, 1) := dk_28 (dk_at dksX7_isCoefficient_0 9 rfl rfl)
theorem dX7_isCoefficient_10 : decode cX7_isCoefficient 10 = .ok (.invokevirtual 173, 3) := dk_182 0 173 (dk_at dksX7_isCoefficient_0 10 rfl rfl)
theorem dX7_isCoefficient_13 : decode cX7_isCoefficient 13 = .ok (.ifCond .eq 7, 3) := dk_153 0 7 (dk_at dksX7_isCoefficient_0 13 rfl rfl)
theorem dX7_isCoefficient_16 : decode cX7_isCoefficient 16 = .ok (.iconst 0, 1) := dk_3 (dk_at dksX7_isCoefficient_0 16 rfl rfl)
theorem dX7_isCoefficient_17 : decode cX7_isCoefficient 17 = .ok (.goto 4, 3) := dk_167 0 4 (dk_at dksX7_isCoefficient_0 17 rfl rfl)
theorem dX7_isCoefficient_20 : decode cX7_isCoefficient 20 = .ok (.iconst 1, 1) := dk_4 (dk_at dksX7_isCoefficient_0 20 rfl rfl)
theorem dX7_isCoefficient_21 : decode cX7_isCoefficient 21 = .ok (.putfield 54, 3) := dk_181 0 54 (dk_at dksX7_isCoefficient_0 21 rfl rfl)
theorem dX7_isCoefficient_24 : decode cX7_isCoefficient 24 = .ok (.aload_n 0, 1) := dk_42 (dk_at dksX7_isCoefficient_1 0 rfl rfl)
theorem dX7_isCoefficient_25 : decode cX7_isCoefficient 25 = .ok (.getfield 54, 3) := dk_180 0 54 (dk_at dksX7_isCoefficient_1 1 rfl rfl)
theorem dX7_isCoefficient_28 : decode cX7_isCoefficient 28 = .ok (.ifCond .ne 7, 3) := dk_154 0 7 (dk_at dksX7_isCoefficient_1 4 rfl rfl)
theorem dX7_isCoefficient_31 : decode cX7_isCoefficient 31 = .ok (.iconst 1, 1) := dk_4 (dk_at dksX7_isCoefficient_1 7 rfl rfl)
theorem dX7_isCoefficient_32 : decode cX7_isCoefficient 32 = .ok (.goto 4, 3) := dk_167 0 4 (dk_at dksX7_isCoefficient_1 8 rfl rfl)
theorem dX7_isCoefficient_35 : decode cX7_isCoefficient 35 = .ok (.iconst 0, 1) := dk_3 (dk_at dksX7_isCoefficient_1 11 rfl rfl)
theorem dX7_isCoefficient_36 : decode cX7_isCoefficient 36 = .ok (.ireturn, 1) := dk_172 (dk_at dksX7_isCoefficient_1 12 rfl rfl)
abbrev cX7_shared : ByteArray := prog_42_method_41_code
def yX7_shared : MethodName := ⟨RX7, "shared", "(II)J"⟩
def dkwX7_shared_0 : List UInt8 := [42, 27, 182, 0, 114, 42, 27, 28, 182, 0, 94, 184, 0, 78, 173]
abbrev dktX7_shared_0 : List UInt8 := dkwX7_shared_0 ++ []
theorem dksX7_shared_0 : cX7_shared.data.toList.drop 0 = dktX7_shared_0 := by decide +kernel
theorem dX7_shared_0 : decode cX7_shared 0 = .ok (.aload_n 0, 1) := dk_42 (dk_at dksX7_shared_0 0 rfl rfl)
theorem dX7_shared_1 : decode cX7_shared 1 = .ok (.iload_n 1, 1) := dk_27 (dk_at dksX7_shared_0 1 rfl rfl)
theorem dX7_shared_2 : decode cX7_shared 2 = .ok (.invokevirtual 114, 3) := dk_182 0 114 (dk_at dksX7_shared_0 2 rfl rfl)
theorem dX7_shared_5 : decode cX7_shared 5 = .ok (.aload_n 0, 1) := dk_42 (dk_at dksX7_shared_0 5 rfl rfl)
theorem dX7_shared_6 : decode cX7_shared 6 = .ok (.iload_n 1, 1) := dk_27 (dk_at dksX7_shared_0 6 rfl rfl)
theorem dX7_shared_7 : decode cX7_shared 7 = .ok (.iload_n 2, 1) := dk_28 (dk_at dksX7_shared_0 7 rfl rfl)
theorem dX7_shared_8 : decode cX7_shared 8 = .ok (.invokevirtual 94, 3) := dk_182 0 94 (dk_at dksX7_shared_0 8 rfl rfl)
theorem dX7_shared_11 : decode cX7_shared 11 = .ok (.invokestatic 78, 3) := dk_184 0 78 (dk_at dksX7_shared_0 11 rfl rfl)
theorem dX7_shared_14 : decode cX7_shared 14 = .ok (.lreturn, 1) := dk_173 (dk_at dksX7_shared_0 14 rfl rfl)
abbrev cX7_denominator : ByteArray := prog_42_method_43_code
def yX7_denominator : MethodName := ⟨RX7, "denominator", "(II)I"⟩
def dkwX7_denominator_1 : List UInt8 := [167, 0, 4, 3, 172]
abbrev dktX7_denominator_1 : List UInt8 := dkwX7_denominator_1 ++ []
def dkwX7_denominator_0 : List UInt8 := [42, 27, 28, 182, 0, 176, 153, 0, 19, 42, 27, 182, 0, 114, 42, 27, 28, 182, 0, 179, 109, 136]
abbrev dktX7_denominator_0 : List UInt8 := dkwX7_denominator_0 ++ dktX7_denominator_1
theorem dksX7_denominator_0 : cX7_denominator.data.toList.drop 0 = dktX7_denominator_0 := by decide +kernel
theorem dksX7_denominator_1 : cX7_denominator.data.toList.drop 22 = dktX7_denominator_1 := dk_seg dksX7_denominator_0 22 rfl rfl
theorem dX7_denominator_0 : decode cX7_denominator 0 = .ok (.aload_n 0, 1) := dk_42 (dk_at dksX7_denominator_0 0 rfl rfl)
theorem dX7_denominator_1 : decode cX7_denominator 1 = .ok (.iload_n 1, 1) := dk_27 (dk_at dksX7_denominator_0 1 rfl rfl)
theorem dX7_denominator_2 : decode cX7_denominator 2 = .ok (.iload_n 2, 1) := dk_28 (dk_at dksX7_denominator_0 2 rfl rfl)
theorem dX7_denominator_3 : decode cX7_denominator 3 = .ok (.invokevirtual 176, 3) := dk_182 0 176 (dk_at dksX7_denominator_0 3 rfl rfl)
theorem dX7_denominator_6 : decode cX7_denominator 6 = .ok (.ifCond .eq 19, 3) := dk_153 0 19 (dk_at dksX7_denominator_0 6 rfl rfl)
theorem dX7_denominator_9 : decode cX7_denominator 9 = .ok (.aload_n 0, 1) := dk_42 (dk_at dksX7_denominator_0 9 rfl rfl)
theorem dX7_denominator_10 : decode cX7_denominator 10 = .ok (.iload_n 1, 1) := dk_27 (dk_at dksX7_denominator_0 10 rfl rfl)
theorem dX7_denominator_11 : decode cX7_denominator 11 = .ok (.invokevirtual 114, 3) := dk_182 0 114 (dk_at dksX7_denominator_0 11 rfl rfl)
theorem dX7_denominator_14 : decode cX7_denominator 14 = .ok (.aload_n 0, 1) := dk_42 (dk_at dksX7_denominator_0 14 rfl rfl)
theorem dX7_denominator_15 : decode cX7_denominator 15 = .ok (.iload_n 1, 1) := dk_27 (dk_at dksX7_denominator_0 15 rfl rfl)
theorem dX7_denominator_16 : decode cX7_denominator 16 = .ok (.iload_n 2, 1) := dk_28 (dk_at dksX7_denominator_0 16 rfl rfl)
theorem dX7_denominator_17 : decode cX7_denominator 17 = .ok (.invokevirtual 179, 3) := dk_182 0 179 (dk_at dksX7_denominator_0 17 rfl rfl)
theorem dX7_denominator_20 : decode cX7_denominator 20 = .ok (.ldiv, 1) := dk_109 (dk_at dksX7_denominator_0 20 rfl rfl)
theorem dX7_denominator_21 : decode cX7_denominator 21 = .ok (.l2i, 1) := dk_136 (dk_at dksX7_denominator_0 21 rfl rfl)
theorem dX7_denominator_22 : decode cX7_denominator 22 = .ok (.goto 4, 3) := dk_167 0 4 (dk_at dksX7_denominator_1 0 rfl rfl)
theorem dX7_denominator_25 : decode cX7_denominator 25 = .ok (.iconst 0, 1) := dk_3 (dk_at dksX7_denominator_1 3 rfl rfl)
theorem dX7_denominator_26 : decode cX7_denominator 26 = .ok (.ireturn, 1) := dk_172 (dk_at dksX7_denominator_1 4 rfl rfl)
abbrev cX7_commonDenominator : ByteArray := prog_42_method_44_code
def yX7_commonDenominator : MethodName := ⟨RX7, "commonDenominator", "(I)I"⟩
def dkwX7_commonDenominator_1 : List UInt8 := [167, 0, 9, 42, 27, 182, 0, 114, 136, 172]
abbrev dktX7_commonDenominator_1 : List UInt8 := dkwX7_commonDenominator_1 ++ []
def dkwX7_commonDenominator_0 : List UInt8 := [42, 27, 184, 0, 147, 153, 0, 7, 3, 167, 0, 4, 4, 181, 0, 54, 42, 180, 0, 54, 158, 0, 7, 3]
abbrev dktX7_commonDenominator_0 : List UInt8 := dkwX7_commonDenominator_0 ++ dktX7_commonDenominator_1
theorem dksX7_commonDenominator_0 : cX7_commonDenominator.data.toList.drop 0 = dktX7_commonDenominator_0 := by decide +kernel
theorem dksX7_commonDenominator_1 : cX7_commonDenominator.data.toList.drop 24 = dktX7_commonDenominator_1 := dk_seg dksX7_commonDenominator_0 24 rfl rfl
theorem dX7_commonDenominator_0 : decode cX7_commonDenominator 0 = .ok (.aload_n 0, 1) := dk_42 (dk_at dksX7_commonDenominator_0 0 rfl rfl)
theorem dX7_commonDenominator_1 : decode cX7_commonDenominator 1 = .ok (.iload_n 1, 1) := dk_27 (dk_at dksX7_commonDenominator_0 1 rfl rfl)
theorem dX7_commonDenominator_2 : decode cX7_commonDenominator 2 = .ok (.invokestatic 147, 3) := dk_184 0 147 (dk_at dksX7_commonDenominator_0 2 rfl rfl)
theorem dX7_commonDenominator_5 : decode cX7_commonDenominator 5 = .ok (.ifCond .eq 7, 3) := dk_153 0 7 (dk_at dksX7_commonDenominator_0 5 rfl rfl)
theorem dX7_commonDenominator_8 : decode cX7_commonDenominator 8 = .ok (.iconst 0, 1) := dk_3 (dk_at dksX7_commonDenominator_0 8 rfl rfl)
theorem dX7_commonDenominator_9 : decode cX7_commonDenominator 9 = .ok (.goto 4, 3) := dk_167 0 4 (dk_at dksX7_commonDenominator_0 9 rfl rfl)
theorem dX7_commonDenominator_12 : decode cX7_commonDenominator 12 = .ok (.iconst 1, 1) := dk_4 (dk_at dksX7_commonDenominator_0 12 rfl rfl)
theorem dX7_commonDenominator_13 : decode cX7_commonDenominator 13 = .ok (.putfield 54, 3) := dk_181 0 54 (dk_at dksX7_commonDenominator_0 13 rfl rfl)
theorem dX7_commonDenominator_16 : decode cX7_commonDenominator 16 = .ok (.aload_n 0, 1) := dk_42 (dk_at dksX7_commonDenominator_0 16 rfl rfl)
theorem dX7_commonDenominator_17 : decode cX7_commonDenominator 17 = .ok (.getfield 54, 3) := dk_180 0 54 (dk_at dksX7_commonDenominator_0 17 rfl rfl)
theorem dX7_commonDenominator_20 : decode cX7_commonDenominator 20 = .ok (.ifCond .le 7, 3) := dk_158 0 7 (dk_at dksX7_commonDenominator_0 20 rfl rfl)
theorem dX7_commonDenominator_23 : decode cX7_commonDenominator 23 = .ok (.iconst 0, 1) := dk_3 (dk_at dksX7_commonDenominator_0 23 rfl rfl)
theorem dX7_commonDenominator_24 : decode cX7_commonDenominator 24 = .ok (.goto 9, 3) := dk_167 0 9 (dk_at dksX7_commonDenominator_1 0 rfl rfl)
theorem dX7_commonDenominator_27 : decode cX7_commonDenominator 27 = .ok (.aload_n 0, 1) := dk_42 (dk_at dksX7_commonDenominator_1 3 rfl rfl)
theorem dX7_commonDenominator_28 : decode cX7_commonDenominator 28 = .ok (.iload_n 1, 1) := dk_27 (dk_at dksX7_commonDenominator_1 4 rfl rfl)
theorem dX7_commonDenominator_29 : decode cX7_commonDenominator 29 = .ok (.invokevirtual 114, 3) := dk_182 0 114 (dk_at dksX7_commonDenominator_1 5 rfl rfl)
theorem dX7_commonDenominator_32 : decode cX7_commonDenominator 32 = .ok (.l2i, 1) := dk_136 (dk_at dksX7_commonDenominator_1 8 rfl rfl)
theorem dX7_commonDenominator_33 : decode cX7_commonDenominator 33 = .ok (.ireturn, 1) := dk_172 (dk_at dksX7_commonDenominator_1 9 rfl rfl)
abbrev cX7_sign : ByteArray := prog_42_method_45_code
def yX7_sign : MethodName := ⟨RX7, "sign", "(II)I"⟩
def dkwX7_sign_1 : List UInt8 := [181, 0, 54, 42, 180, 0, 54, 158, 0, 7, 3, 167, 0, 9, 42, 27, 28, 182, 0, 111, 172]
abbrev dktX7_sign_1 : List UInt8 := dkwX7_sign_1 ++ []
def dkwX7_sign_0 : List UInt8 := [42, 42, 27, 182, 0, 173, 153, 0, 15, 42, 28, 182, 0, 173, 153, 0, 7, 3, 167, 0, 4, 4]
abbrev dktX7_sign_0 : List UInt8 := dkwX7_sign_0 ++ dktX7_sign_1
theorem dksX7_sign_0 : cX7_sign.data.toList.drop 0 = dktX7_sign_0 := by decide +kernel
theorem dksX7_sign_1 : cX7_sign.data.toList.drop 22 = dktX7_sign_1 := dk_seg dksX7_sign_0 22 rfl rfl
theorem dX7_sign_0 : decode cX7_sign 0 = .ok (.aload_n 0, 1) := dk_42 (dk_at dksX7_sign_0 0 rfl rfl)
theorem dX7_sign_1 : decode cX7_sign 1 = .ok (.aload_n 0, 1) := dk_42 (dk_at dksX7_sign_0 1 rfl rfl)
theorem dX7_sign_2 : decode cX7_sign 2 = .ok (.iload_n 1, 1) := dk_27 (dk_at dksX7_sign_0 2 rfl rfl)
theorem dX7_sign_3 : decode cX7_sign 3 = .ok (.invokevirtual 173, 3) := dk_182 0 173 (dk_at dksX7_sign_0 3 rfl rfl)
theorem dX7_sign_6 : decode cX7_sign 6 = .ok (.ifCond .eq 15, 3) := dk_153 0 15 (dk_at dksX7_sign_0 6 rfl rfl)
theorem dX7_sign_9 : decode cX7_sign 9 = .ok (.aload_n 0, 1) := dk_42 (dk_at dksX7_sign_0 9 rfl rfl)
theorem dX7_sign_10 : decode cX7_sign 10 = .ok (.iload_n 2, 1) := dk_28 (dk_at dksX7_sign_0 10 rfl rfl)
theorem dX7_sign_11 : decode cX7_sign 11 = .ok (.invokevirtual 173, 3) := dk_182 0 173 (dk_at dksX7_sign_0 11 rfl rfl)
theorem dX7_sign_14 : decode cX7_sign 14 = .ok (.ifCond .eq 7, 3) := dk_153 0 7 (dk_at dksX7_sign_0 14 rfl rfl)
theorem dX7_sign_17 : decode cX7_sign 17 = .ok (.iconst 0, 1) := dk_3 (dk_at dksX7_sign_0 17 rfl rfl)
theorem dX7_sign_18 : decode cX7_sign 18 = .ok (.goto 4, 3) := dk_167 0 4 (dk_at dksX7_sign_0 18 rfl rfl)
theorem dX7_sign_21 : decode cX7_sign 21 = .ok (.iconst 1, 1) := dk_4 (dk_at dksX7_sign_0 21 rfl rfl)
theorem dX7_sign_22 : decode cX7_sign 22 = .ok (.putfield 54, 3) := dk_181 0 54 (dk_at dksX7_sign_1 0 rfl rfl)
theorem dX7_sign_25 : decode cX7_sign 25 = .ok (.aload_n 0, 1) := dk_42 (dk_at dksX7_sign_1 3 rfl rfl)
theorem dX7_sign_26 : decode cX7_sign 26 = .ok (.getfield 54, 3) := dk_180 0 54 (dk_at dksX7_sign_1 4 rfl rfl)
theorem dX7_sign_29 : decode cX7_sign 29 = .ok (.ifCond .le 7, 3) := dk_158 0 7 (dk_at dksX7_sign_1 7 rfl rfl)
theorem dX7_sign_32 : decode cX7_sign 32 = .ok (.iconst 0, 1) := dk_3 (dk_at dksX7_sign_1 10 rfl rfl)
theorem dX7_sign_33 : decode cX7_sign 33 = .ok (.goto 9, 3) := dk_167 0 9 (dk_at dksX7_sign_1 11 rfl rfl)
theorem dX7_sign_36 : decode cX7_sign 36 = .ok (.aload_n 0, 1) := dk_42 (dk_at dksX7_sign_1 14 rfl rfl)
theorem dX7_sign_37 : decode cX7_sign 37 = .ok (.iload_n 1, 1) := dk_27 (dk_at dksX7_sign_1 15 rfl rfl)
theorem dX7_sign_38 : decode cX7_sign 38 = .ok (.iload_n 2, 1) := dk_28 (dk_at dksX7_sign_1 16 rfl rfl)
theorem dX7_sign_39 : decode cX7_sign 39 = .ok (.invokevirtual 111, 3) := dk_182 0 111 (dk_at dksX7_sign_1 17 rfl rfl)
theorem dX7_sign_42 : decode cX7_sign 42 = .ok (.ireturn, 1) := dk_172 (dk_at dksX7_sign_1 20 rfl rfl)
abbrev cX7_copy : ByteArray := prog_42_method_46_code
def yX7_copy : MethodName := ⟨RX7, "copy", "(II)V"⟩
def dkwX7_copy_1 : List UInt8 := [180, 0, 54, 154, 0, 9, 42, 28, 27, 182, 0, 86, 177]
abbrev dktX7_copy_1 : List UInt8 := dkwX7_copy_1 ++ []
def dkwX7_copy_0 : List UInt8 := [42, 27, 184, 0, 147, 153, 0, 14, 28, 184, 0, 147, 153, 0, 7, 3, 167, 0, 4, 4, 181, 0, 54, 42]
abbrev dktX7_copy_0 : List UInt8 := dkwX7_copy_0 ++ dktX7_copy_1
theorem dksX7_copy_0 : cX7_copy.data.toList.drop 0 = dktX7_copy_0 := by decide +kernel
theorem dksX7_copy_1 : cX7_copy.data.toList.drop 24 = dktX7_copy_1 := dk_seg dksX7_copy_0 24 rfl rfl
theorem dX7_copy_0 : decode cX7_copy 0 = .ok (.aload_n 0, 1) := dk_42 (dk_at dksX7_copy_0 0 rfl rfl)
theorem dX7_copy_1 : decode cX7_copy 1 = .ok (.iload_n 1, 1) := dk_27 (dk_at dksX7_copy_0 1 rfl rfl)
theorem dX7_copy_2 : decode cX7_copy 2 = .ok (.invokestatic 147, 3) := dk_184 0 147 (dk_at dksX7_copy_0 2 rfl rfl)
theorem dX7_copy_5 : decode cX7_copy 5 = .ok (.ifCond .eq 14, 3) := dk_153 0 14 (dk_at dksX7_copy_0 5 rfl rfl)
theorem dX7_copy_8 : decode cX7_copy 8 = .ok (.iload_n 2, 1) := dk_28 (dk_at dksX7_copy_0 8 rfl rfl)
theorem dX7_copy_9 : decode cX7_copy 9 = .ok (.invokestatic 147, 3) := dk_184 0 147 (dk_at dksX7_copy_0 9 rfl rfl)
theorem dX7_copy_12 : decode cX7_copy 12 = .ok (.ifCond .eq 7, 3) := dk_153 0 7 (dk_at dksX7_copy_0 12 rfl rfl)
theorem dX7_copy_15 : decode cX7_copy 15 = .ok (.iconst 0, 1) := dk_3 (dk_at dksX7_copy_0 15 rfl rfl)
theorem dX7_copy_16 : decode cX7_copy 16 = .ok (.goto 4, 3) := dk_167 0 4 (dk_at dksX7_copy_0 16 rfl rfl)
theorem dX7_copy_19 : decode cX7_copy 19 = .ok (.iconst 1, 1) := dk_4 (dk_at dksX7_copy_0 19 rfl rfl)
theorem dX7_copy_20 : decode cX7_copy 20 = .ok (.putfield 54, 3) := dk_181 0 54 (dk_at dksX7_copy_0 20 rfl rfl)
theorem dX7_copy_23 : decode cX7_copy 23 = .ok (.aload_n 0, 1) := dk_42 (dk_at dksX7_copy_0 23 rfl rfl)
theorem dX7_copy_24 : decode cX7_copy 24 = .ok (.getfield 54, 3) := dk_180 0 54 (dk_at dksX7_copy_1 0 rfl rfl)
theorem dX7_copy_27 : decode cX7_copy 27 = .ok (.ifCond .ne 9, 3) := dk_154 0 9 (dk_at dksX7_copy_1 3 rfl rfl)
theorem dX7_copy_30 : decode cX7_copy 30 = .ok (.aload_n 0, 1) := dk_42 (dk_at dksX7_copy_1 6 rfl rfl)
theorem dX7_copy_31 : decode cX7_copy 31 = .ok (.iload_n 2, 1) := dk_28 (dk_at dksX7_copy_1 7 rfl rfl)
theorem dX7_copy_32 : decode cX7_copy 32 = .ok (.iload_n 1, 1) := dk_27 (dk_at dksX7_copy_1 8 rfl rfl)
theorem dX7_copy_33 : decode cX7_copy 33 = .ok (.invokevirtual 86, 3) := dk_182 0 86 (dk_at dksX7_copy_1 9 rfl rfl)
theorem dX7_copy_36 : decode cX7_copy 36 = .ok (.return_, 1) := dk_177 (dk_at dksX7_copy_1 12 rfl rfl)
abbrev cX7_apply : ByteArray := prog_42_method_50_code
def yX7_apply : MethodName := ⟨RX7, "apply", "(III)I"⟩
def dkwX7_apply_5 : List UInt8 := [153, 0, 13, 42, 16, 24, 27, 182, 0, 153, 167, 0, 8, 42, 6, 182, 0, 144, 172]
abbrev dktX7_apply_5 : List UInt8 := dkwX7_apply_5 ++ []
def dkwX7_apply_4 : List UInt8 := [42, 16, 25, 3, 182, 0, 94, 16, 24, 182, 0, 136, 153, 0, 7, 4, 167, 0, 4, 3, 54, 4, 21, 4]
abbrev dktX7_apply_4 : List UInt8 := dkwX7_apply_4 ++ dktX7_apply_5
def dkwX7_apply_3 : List UInt8 := [182, 0, 144, 172, 42, 28, 29, 16, 28, 182, 0, 188, 153, 0, 31, 42, 16, 28, 42, 16, 25, 182, 0, 114]
abbrev dktX7_apply_3 : List UInt8 := dkwX7_apply_3 ++ dktX7_apply_4
def dkwX7_apply_2 : List UInt8 := [182, 0, 159, 154, 0, 9, 42, 6, 182, 0, 144, 172, 42, 16, 25, 182, 0, 163, 154, 0, 9, 42, 7]
abbrev dktX7_apply_2 : List UInt8 := dkwX7_apply_2 ++ dktX7_apply_3
def dkwX7_apply_1 : List UInt8 := [182, 0, 144, 172, 42, 28, 182, 0, 185, 153, 0, 9, 42, 5, 182, 0, 144, 172, 42, 28, 16, 25]
abbrev dktX7_apply_1 : List UInt8 := dkwX7_apply_1 ++ dktX7_apply_2
def dkwX7_apply_0 : List UInt8 := [27, 184, 0, 147, 153, 0, 17, 28, 184, 0, 147, 153, 0, 10, 29, 184, 0, 147, 154, 0, 9, 42, 4]
abbrev dktX7_apply_0 : List UInt8 := dkwX7_apply_0 ++ dktX7_apply_1
theorem dksX7_apply_0 : cX7_apply.data.toList.drop 0 = dktX7_apply_0 := by decide +kernel
theorem dksX7_apply_1 : cX7_apply.data.toList.drop 23 = dktX7_apply_1 := dk_seg dksX7_apply_0 23 rfl rfl
theorem dksX7_apply_2 : cX7_apply.data.toList.drop 45 = dktX7_apply_2 := dk_seg dksX7_apply_1 22 rfl rfl
theorem dksX7_apply_3 : cX7_apply.data.toList.drop 68 = dktX7_apply_3 := dk_seg dksX7_apply_2 23 rfl rfl
theorem dksX7_apply_4 : cX7_apply.data.toList.drop 92 = dktX7_apply_4 := dk_seg dksX7_apply_3 24 rfl rfl
theorem dksX7_apply_5 : cX7_apply.data.toList.drop 116 = dktX7_apply_5 := dk_seg dksX7_apply_4 24 rfl rfl
theorem dX7_apply_0 : decode cX7_apply 0 = .ok (.iload_n 1, 1) := dk_27 (dk_at dksX7_apply_0 0 rfl rfl)
theorem dX7_apply_1 : decode cX7_apply 1 = .ok (.invokestatic 147, 3) := dk_184 0 147 (dk_at dksX7_apply_0 1 rfl rfl)
theorem dX7_apply_4 : decode cX7_apply 4 = .ok (.ifCond .eq 17, 3) := dk_153 0 17 (dk_at dksX7_apply_0 4 rfl rfl)
theorem dX7_apply_7 : decode cX7_apply 7 = .ok (.iload_n 2, 1) := dk_28 (dk_at dksX7_apply_0 7 rfl rfl)
theorem dX7_apply_8 : decode cX7_apply 8 = .ok (.invokestatic 147, 3) := dk_184 0 147 (dk_at dksX7_apply_0 8 rfl rfl)
theorem dX7_apply_11 : decode cX7_apply 11 = .ok (.ifCond .eq 10, 3) := dk_153 0 10 (dk_at dksX7_apply_0 11 rfl rfl)
theorem dX7_apply_14 : decode cX7_apply 14 = .ok (.iload_n 3, 1) := dk_29 (dk_at dksX7_apply_0 14 rfl rfl)
theorem dX7_apply_15 : decode cX7_apply 15 = .ok (.invokestatic 147, 3) := dk_184 0 147 (dk_at dksX7_apply_0 15 rfl rfl)
theorem dX7_apply_18 : decode cX7_apply 18 = .ok (.ifCond .ne 9, 3) := dk_154 0 9 (dk_at dksX7_apply_0 18 rfl rfl)
theorem dX7_apply_21 : decode cX7_apply 21 = .ok (.aload_n 0, 1) := dk_42 (dk_at dksX7_apply_0 21 rfl rfl)
theorem dX7_apply_22 : decode cX7_apply 22 = .ok (.iconst 1, 1) := dk_4 (dk_at dksX7_apply_0 22 rfl rfl)
theorem dX7_apply_23 : decode cX7_apply 23 = .ok (.invokevirtual 144, 3) := dk_182 0 144 (dk_at dksX7_apply_1 0 rfl rfl)
theorem dX7_apply_26 : decode cX7_apply 26 = .ok (.ireturn, 1) := dk_172 (dk_at dksX7_apply_1 3 rfl rfl)
theorem dX7_apply_27 : decode cX7_apply 27 = .ok (.aload_n 0, 1) := dk_42 (dk_at dksX7_apply_1 4 rfl rfl)
theorem dX7_apply_28 : decode cX7_apply 28 = .ok (.iload_n 2, 1) := dk_28 (dk_at dksX7_apply_1 5 rfl rfl)
theorem dX7_apply_29 : decode cX7_apply 29 = .ok (.invokevirtual 185, 3) := dk_182 0 185 (dk_at dksX7_apply_1 6 rfl rfl)
theorem dX7_apply_32 : decode cX7_apply 32 = .ok (.ifCond .eq 9, 3) := dk_153 0 9 (dk_at dksX7_apply_1 9 rfl rfl)
theorem dX7_apply_35 : decode cX7_apply 35 = .ok (.aload_n 0, 1) := dk_42 (dk_at dksX7_apply_1 12 rfl rfl)
theorem dX7_apply_36 : decode cX7_apply 36 = .ok (.iconst 2, 1) := dk_5 (dk_at dksX7_apply_1 13 rfl rfl)
theorem dX7_apply_37 : decode cX7_apply 37 = .ok (.invokevirtual 144, 3) := dk_182 0 144 (dk_at dksX7_apply_1 14 rfl rfl)
theorem dX7_apply_40 : decode cX7_apply 40 = .ok (.ireturn, 1) := dk_172 (dk_at dksX7_apply_1 17 rfl rfl)
theorem dX7_apply_41 : decode cX7_apply 41 = .ok (.aload_n 0, 1) := dk_42 (dk_at dksX7_apply_1 18 rfl rfl)
theorem dX7_apply_42 : decode cX7_apply 42 = .ok (.iload_n 2, 1) := dk_28 (dk_at dksX7_apply_1 19 rfl rfl)
theorem dX7_apply_43 : decode cX7_apply 43 = .ok (.bipush 25, 2) := dk_16 25 (dk_at dksX7_apply_1 20 rfl rfl)
theorem dX7_apply_45 : decode cX7_apply 45 = .ok (.invokevirtual 159, 3) := dk_182 0 159 (dk_at dksX7_apply_2 0 rfl rfl)
theorem dX7_apply_48 : decode cX7_apply 48 = .ok (.ifCond .ne 9, 3) := dk_154 0 9 (dk_at dksX7_apply_2 3 rfl rfl)
theorem dX7_apply_51 : decode cX7_apply 51 = .ok (.aload_n 0, 1) := dk_42 (dk_at dksX7_apply_2 6 rfl rfl)
theorem dX7_apply_52 : decode cX7_apply 52 = .ok (.iconst 3, 1) := dk_6 (dk_at dksX7_apply_2 7 rfl rfl)
theorem dX7_apply_53 : decode cX7_apply 53 = .ok (.invokevirtual 144, 3) := dk_182 0 144 (dk_at dksX7_apply_2 8 rfl rfl)
theorem dX7_apply_56 : decode cX7_apply 56 = .ok (.ireturn, 1) := dk_172 (dk_at dksX7_apply_2 11 rfl rfl)
theorem dX7_apply_57 : decode cX7_apply 57 = .ok (.aload_n 0, 1) := dk_42 (dk_at dksX7_apply_2 12 rfl rfl)
theorem dX7_apply_58 : decode cX7_apply 58 = .ok (.bipush 25, 2) := dk_16 25 (dk_at dksX7_apply_2 13 rfl rfl)
theorem dX7_apply_60 : decode cX7_apply 60 = .ok (.invokevirtual 163, 3) := dk_182 0 163 (dk_at dksX7_apply_2 15 rfl rfl)
theorem dX7_apply_63 : decode cX7_apply 63 = .ok (.ifCond .ne 9, 3) := dk_154 0 9 (dk_at dksX7_apply_2 18 rfl rfl)
theorem dX7_apply_66 : decode cX7_apply 66 = .ok (.aload_n 0, 1) := dk_42 (dk_at dksX7_apply_2 21 rfl rfl)
theorem dX7_apply_67 : decode cX7_apply 67 = .ok (.iconst 4, 1) := dk_7 (dk_at dksX7_apply_2 22 rfl rfl)
theorem dX7_apply_68 : decode cX7_apply 68 = .ok (.invokevirtual 144, 3) := dk_182 0 144 (dk_at dksX7_apply_3 0 rfl rfl)
theorem dX7_apply_71 : decode cX7_apply 71 = .ok (.ireturn, 1) := dk_172 (dk_at dksX7_apply_3 3 rfl rfl)
theorem dX7_apply_72 : decode cX7_apply 72 = .ok (.aload_n 0, 1) := dk_42 (dk_at dksX7_apply_3 4 rfl rfl)
theorem dX7_apply_73 : decode cX7_apply 73 = .ok (.iload_n 2, 1) := dk_28 (dk_at dksX7_apply_3 5 rfl rfl)
theorem dX7_apply_74 : decode cX7_apply 74 = .ok (.iload_n 3, 1) := dk_29 (dk_at dksX7_apply_3 6 rfl rfl)
theorem dX7_apply_75 : decode cX7_apply 75 = .ok (.bipush 28, 2) := dk_16 28 (dk_at dksX7_apply_3 7 rfl rfl)
theorem dX7_apply_77 : decode cX7_apply 77 = .ok (.invokevirtual 188, 3) := dk_182 0 188 (dk_at dksX7_apply_3 9 rfl rfl)
theorem dX7_apply_80 : decode cX7_apply 80 = .ok (.ifCond .eq 31, 3) := dk_153 0 31 (dk_at dksX7_apply_3 12 rfl rfl)
theorem dX7_apply_83 : decode cX7_apply 83 = .ok (.aload_n 0, 1) := dk_42 (dk_at dksX7_apply_3 15 rfl rfl)
theorem dX7_apply_84 : decode cX7_apply 84 = .ok (.bipush 28, 2) := dk_16 28 (dk_at dksX7_apply_3 16 rfl rfl)
theorem dX7_apply_86 : decode cX7_apply 86 = .ok (.aload_n 0, 1) := dk_42 (dk_at dksX7_apply_3 18 rfl rfl)
theorem dX7_apply_87 : decode cX7_apply 87 = .ok (.bipush 25, 2) := dk_16 25 (dk_at dksX7_apply_3 19 rfl rfl)
theorem dX7_apply_89 : decode cX7_apply 89 = .ok (.invokevirtual 114, 3) := dk_182 0 114 (dk_at dksX7_apply_3 21 rfl rfl)
theorem dX7_apply_92 : decode cX7_apply 92 = .ok (.aload_n 0, 1) := dk_42 (dk_at dksX7_apply_4 0 rfl rfl)
theorem dX7_apply_93 : decode cX7_apply 93 = .ok (.bipush 25, 2) := dk_16 25 (dk_at dksX7_apply_4 1 rfl rfl)
theorem dX7_apply_95 : decode cX7_apply 95 = .ok (.iconst 0, 1) := dk_3 (dk_at dksX7_apply_4 3 rfl rfl)
theorem dX7_apply_96 : decode cX7_apply 96 = .ok (.invokevirtual 94, 3) := dk_182 0 94 (dk_at dksX7_apply_4 4 rfl rfl)
theorem dX7_apply_99 : decode cX7_apply 99 = .ok (.bipush 24, 2) := dk_16 24 (dk_at dksX7_apply_4 7 rfl rfl)
theorem dX7_apply_101 : decode cX7_apply 101 = .ok (.invokevirtual 136, 3) := dk_182 0 136 (dk_at dksX7_apply_4 9 rfl rfl)
theorem dX7_apply_104 : decode cX7_apply 104 = .ok (.ifCond .eq 7, 3) := dk_153 0 7 (dk_at dksX7_apply_4 12 rfl rfl)
theorem dX7_apply_107 : decode cX7_apply 107 = .ok (.iconst 1, 1) := dk_4 (dk_at dksX7_apply_4 15 rfl rfl)
theorem dX7_apply_108 : decode cX7_apply 108 = .ok (.goto 4, 3) := dk_167 0 4 (dk_at dksX7_apply_4 16 rfl rfl)
theorem dX7_apply_111 : decode cX7_apply 111 = .ok (.iconst 0, 1) := dk_3 (dk_at dksX7_apply_4 19 rfl rfl)
theorem dX7_apply_112 : decode cX7_apply 112 = .ok (.istore 4, 2) := dk_54 4 (dk_at dksX7_apply_4 20 rfl rfl)
theorem dX7_apply_114 : decode cX7_apply 114 = .ok (.iload 4, 2) := dk_21 4 (dk_at dksX7_apply_4 22 rfl rfl)
theorem dX7_apply_116 : decode cX7_apply 116 = .ok (.ifCond .eq 13, 3) := dk_153 0 13 (dk_at dksX7_apply_5 0 rfl rfl)
theorem dX7_apply_119 : decode cX7_apply 119 = .ok (.aload_n 0, 1) := dk_42 (dk_at dksX7_apply_5 3 rfl rfl)
theorem dX7_apply_120 : decode cX7_apply 120 = .ok (.bipush 24, 2) := dk_16 24 (dk_at dksX7_apply_5 4 rfl rfl)
theorem dX7_apply_122 : decode cX7_apply 122 = .ok (.iload_n 1, 1) := dk_27 (dk_at dksX7_apply_5 6 rfl rfl)
theorem dX7_apply_123 : decode cX7_apply 123 = .ok (.invokevirtual 153, 3) := dk_182 0 153 (dk_at dksX7_apply_5 7 rfl rfl)
theorem dX7_apply_126 : decode cX7_apply 126 = .ok (.goto 8, 3) := dk_167 0 8 (dk_at dksX7_apply_5 10 rfl rfl)
theorem dX7_apply_129 : decode cX7_apply 129 = .ok (.aload_n 0, 1) := dk_42 (dk_at dksX7_apply_5 13 rfl rfl)
theorem dX7_apply_130 : decode cX7_apply 130 = .ok (.iconst 3, 1) := dk_6 (dk_at dksX7_apply_5 14 rfl rfl)
theorem dX7_apply_131 : decode cX7_apply 131 = .ok (.invokevirtual 144, 3) := dk_182 0 144 (dk_at dksX7_apply_5 15 rfl rfl)
theorem dX7_apply_134 : decode cX7_apply 134 = .ok (.ireturn, 1) := dk_172 (dk_at dksX7_apply_5 18 rfl rfl)
abbrev cX7_isMixed : ByteArray := prog_42_method_48_code
def yX7_isMixed : MethodName := ⟨RX7, "isMixed", "(I)Z"⟩
def dkwX7_isMixed_1 : List UInt8 := [3, 172]
abbrev dktX7_isMixed_1 : List UInt8 := dkwX7_isMixed_1 ++ []
def dkwX7_isMixed_0 : List UInt8 := [42, 27, 182, 0, 182, 61, 28, 16, 21, 126, 153, 0, 14, 28, 16, 42, 126, 153, 0, 7, 4, 167, 0, 4]
abbrev dktX7_isMixed_0 : List UInt8 := dkwX7_isMixed_0 ++ dktX7_isMixed_1
theorem dksX7_isMixed_0 : cX7_isMixed.data.toList.drop 0 = dktX7_isMixed_0 := by decide +kernel
theorem dksX7_isMixed_1 : cX7_isMixed.data.toList.drop 24 = dktX7_isMixed_1 := dk_seg dksX7_isMixed_0 24 rfl rfl
theorem dX7_isMixed_0 : decode cX7_isMixed 0 = .ok (.aload_n 0, 1) := dk_42 (dk_at dksX7_isMixed_0 0 rfl rfl)
theorem dX7_isMixed_1 : decode cX7_isMixed 1 = .ok (.iload_n 1, 1) := dk_27 (dk_at dksX7_isMixed_0 1 rfl rfl)
theorem dX7_isMixed_2 : decode cX7_isMixed 2 = .ok (.invokevirtual 182, 3) := dk_182 0 182 (dk_at dksX7_isMixed_0 2 rfl rfl)
theorem dX7_isMixed_5 : decode cX7_isMixed 5 = .ok (.istore_n 2, 1) := dk_61 (dk_at dksX7_isMixed_0 5 rfl rfl)
theorem dX7_isMixed_6 : decode cX7_isMixed 6 = .ok (.iload_n 2, 1) := dk_28 (dk_at dksX7_isMixed_0 6 rfl rfl)
theorem dX7_isMixed_7 : decode cX7_isMixed 7 = .ok (.bipush 21, 2) := dk_16 21 (dk_at dksX7_isMixed_0 7 rfl rfl)
theorem dX7_isMixed_9 : decode cX7_isMixed 9 = .ok (.iand, 1) := dk_126 (dk_at dksX7_isMixed_0 9 rfl rfl)
theorem dX7_isMixed_10 : decode cX7_isMixed 10 = .ok (.ifCond .eq 14, 3) := dk_153 0 14 (dk_at dksX7_isMixed_0 10 rfl rfl)
theorem dX7_isMixed_13 : decode cX7_isMixed 13 = .ok (.iload_n 2, 1) := dk_28 (dk_at dksX7_isMixed_0 13 rfl rfl)
theorem dX7_isMixed_14 : decode cX7_isMixed 14 = .ok (.bipush 42, 2) := dk_16 42 (dk_at dksX7_isMixed_0 14 rfl rfl)
theorem dX7_isMixed_16 : decode cX7_isMixed 16 = .ok (.iand, 1) := dk_126 (dk_at dksX7_isMixed_0 16 rfl rfl)
theorem dX7_isMixed_17 : decode cX7_isMixed 17 = .ok (.ifCond .eq 7, 3) := dk_153 0 7 (dk_at dksX7_isMixed_0 17 rfl rfl)
theorem dX7_isMixed_20 : decode cX7_isMixed 20 = .ok (.iconst 1, 1) := dk_4 (dk_at dksX7_isMixed_0 20 rfl rfl)
theorem dX7_isMixed_21 : decode cX7_isMixed 21 = .ok (.goto 4, 3) := dk_167 0 4 (dk_at dksX7_isMixed_0 21 rfl rfl)
theorem dX7_isMixed_24 : decode cX7_isMixed 24 = .ok (.iconst 0, 1) := dk_3 (dk_at dksX7_isMixed_1 0 rfl rfl)
theorem dX7_isMixed_25 : decode cX7_isMixed 25 = .ok (.ireturn, 1) := dk_172 (dk_at dksX7_isMixed_1 1 rfl rfl)
abbrev cX7_gradesOf : ByteArray := prog_42_method_47_code
def yX7_gradesOf : MethodName := ⟨RX7, "gradesOf", "(I)I"⟩
def dkwX7_gradesOf_1 : List UInt8 := [184, 0, 98, 120, 167, 0, 4, 3, 128, 61, 132, 3, 1, 167, 255, 223, 28, 172]
abbrev dktX7_gradesOf_1 : List UInt8 := dkwX7_gradesOf_1 ++ []
def dkwX7_gradesOf_0 : List UInt8 := [3, 61, 3, 62, 29, 16, 32, 162, 0, 33, 28, 42, 27, 29, 182, 0, 94, 9, 148, 153, 0, 12, 4, 29]
abbrev dktX7_gradesOf_0 : List UInt8 := dkwX7_gradesOf_0 ++ dktX7_gradesOf_1
theorem dksX7_gradesOf_0 : cX7_gradesOf.data.toList.drop 0 = dktX7_gradesOf_0 := by decide +kernel
theorem dksX7_gradesOf_1 : cX7_gradesOf.data.toList.drop 24 = dktX7_gradesOf_1 := dk_seg dksX7_gradesOf_0 24 rfl rfl
theorem dX7_gradesOf_0 : decode cX7_gradesOf 0 = .ok (.iconst 0, 1) := dk_3 (dk_at dksX7_gradesOf_0 0 rfl rfl)
theorem dX7_gradesOf_1 : decode cX7_gradesOf 1 = .ok (.istore_n 2, 1) := dk_61 (dk_at dksX7_gradesOf_0 1 rfl rfl)
theorem dX7_gradesOf_2 : decode cX7_gradesOf 2 = .ok (.iconst 0, 1) := dk_3 (dk_at dksX7_gradesOf_0 2 rfl rfl)
theorem dX7_gradesOf_3 : decode cX7_gradesOf 3 = .ok (.istore_n 3, 1) := dk_62 (dk_at dksX7_gradesOf_0 3 rfl rfl)
theorem dX7_gradesOf_4 : decode cX7_gradesOf 4 = .ok (.iload_n 3, 1) := dk_29 (dk_at dksX7_gradesOf_0 4 rfl rfl)
theorem dX7_gradesOf_5 : decode cX7_gradesOf 5 = .ok (.bipush 32, 2) := dk_16 32 (dk_at dksX7_gradesOf_0 5 rfl rfl)
theorem dX7_gradesOf_7 : decode cX7_gradesOf 7 = .ok (.if_icmp .ge 33, 3) := dk_162 0 33 (dk_at dksX7_gradesOf_0 7 rfl rfl)
theorem dX7_gradesOf_10 : decode cX7_gradesOf 10 = .ok (.iload_n 2, 1) := dk_28 (dk_at dksX7_gradesOf_0 10 rfl rfl)
theorem dX7_gradesOf_11 : decode cX7_gradesOf 11 = .ok (.aload_n 0, 1) := dk_42 (dk_at dksX7_gradesOf_0 11 rfl rfl)
theorem dX7_gradesOf_12 : decode cX7_gradesOf 12 = .ok (.iload_n 1, 1) := dk_27 (dk_at dksX7_gradesOf_0 12 rfl rfl)
theorem dX7_gradesOf_13 : decode cX7_gradesOf 13 = .ok (.iload_n 3, 1) := dk_29 (dk_at dksX7_gradesOf_0 13 rfl rfl)
theorem dX7_gradesOf_14 : decode cX7_gradesOf 14 = .ok (.invokevirtual 94, 3) := dk_182 0 94 (dk_at dksX7_gradesOf_0 14 rfl rfl)
theorem dX7_gradesOf_17 : decode cX7_gradesOf 17 = .ok (.lconst 0, 1) := dk_9 (dk_at dksX7_gradesOf_0 17 rfl rfl)
theorem dX7_gradesOf_18 : decode cX7_gradesOf 18 = .ok (.lcmp, 1) := dk_148 (dk_at dksX7_gradesOf_0 18 rfl rfl)
theorem dX7_gradesOf_19 : decode cX7_gradesOf 19 = .ok (.ifCond .eq 12, 3) := dk_153 0 12 (dk_at dksX7_gradesOf_0 19 rfl rfl)
theorem dX7_gradesOf_22 : decode cX7_gradesOf 22 = .ok (.iconst 1, 1) := dk_4 (dk_at dksX7_gradesOf_0 22 rfl rfl)
theorem dX7_gradesOf_23 : decode cX7_gradesOf 23 = .ok (.iload_n 3, 1) := dk_29 (dk_at dksX7_gradesOf_0 23 rfl rfl)
theorem dX7_gradesOf_24 : decode cX7_gradesOf 24 = .ok (.invokestatic 98, 3) := dk_184 0 98 (dk_at dksX7_gradesOf_1 0 rfl rfl)
theorem dX7_gradesOf_27 : decode cX7_gradesOf 27 = .ok (.ishl, 1) := dk_120 (dk_at dksX7_gradesOf_1 3 rfl rfl)
theorem dX7_gradesOf_28 : decode cX7_gradesOf 28 = .ok (.goto 4, 3) := dk_167 0 4 (dk_at dksX7_gradesOf_1 4 rfl rfl)
theorem dX7_gradesOf_31 : decode cX7_gradesOf 31 = .ok (.iconst 0, 1) := dk_3 (dk_at dksX7_gradesOf_1 7 rfl rfl)
theorem dX7_gradesOf_32 : decode cX7_gradesOf 32 = .ok (.ior, 1) := dk_128 (dk_at dksX7_gradesOf_1 8 rfl rfl)
theorem dX7_gradesOf_33 : decode cX7_gradesOf 33 = .ok (.istore_n 2, 1) := dk_61 (dk_at dksX7_gradesOf_1 9 rfl rfl)
theorem dX7_gradesOf_34 : decode cX7_gradesOf 34 = .ok (.iinc 3 1, 3) := dk_132 3 1 (dk_at dksX7_gradesOf_1 10 rfl rfl)
theorem dX7_gradesOf_37 : decode cX7_gradesOf 37 = .ok (.goto (-33), 3) := dk_167 255 223 (dk_at dksX7_gradesOf_1 13 rfl rfl)
theorem dX7_gradesOf_40 : decode cX7_gradesOf 40 = .ok (.iload_n 2, 1) := dk_28 (dk_at dksX7_gradesOf_1 16 rfl rfl)
theorem dX7_gradesOf_41 : decode cX7_gradesOf 41 = .ok (.ireturn, 1) := dk_172 (dk_at dksX7_gradesOf_1 17 rfl rfl)
abbrev cX7_sandwiches : ByteArray := prog_42_method_49_code
def yX7_sandwiches : MethodName := ⟨RX7, "sandwiches", "(III)Z"⟩
def dkwX7_sandwiches_2 : List UInt8 := [29, 182, 0, 131, 153, 0, 7, 4, 167, 0, 4, 3, 172]
abbrev dktX7_sandwiches_2 : List UInt8 := dkwX7_sandwiches_2 ++ []
def dkwX7_sandwiches_1 : List UInt8 := [16, 26, 182, 0, 86, 42, 5, 27, 16, 26, 16, 27, 182, 0, 131, 153, 0, 20, 42, 5, 16, 27, 16, 31]
abbrev dktX7_sandwiches_1 : List UInt8 := dkwX7_sandwiches_1 ++ dktX7_sandwiches_2
def dkwX7_sandwiches_0 : List UInt8 := [42, 27, 182, 0, 182, 16, 42, 126, 153, 0, 14, 42, 4, 28, 16, 26, 182, 0, 140, 167, 0, 10, 42, 28]
abbrev dktX7_sandwiches_0 : List UInt8 := dkwX7_sandwiches_0 ++ dktX7_sandwiches_1
theorem dksX7_sandwiches_0 : cX7_sandwiches.data.toList.drop 0 = dktX7_sandwiches_0 := by decide +kernel
theorem dksX7_sandwiches_1 : cX7_sandwiches.data.toList.drop 24 = dktX7_sandwiches_1 := dk_seg dksX7_sandwiches_0 24 rfl rfl
theorem dksX7_sandwiches_2 : cX7_sandwiches.data.toList.drop 48 = dktX7_sandwiches_2 := dk_seg dksX7_sandwiches_1 24 rfl rfl
theorem dX7_sandwiches_0 : decode cX7_sandwiches 0 = .ok (.aload_n 0, 1) := dk_42 (dk_at dksX7_sandwiches_0 0 rfl rfl)
theorem dX7_sandwiches_1 : decode cX7_sandwiches 1 = .ok (.iload_n 1, 1) := dk_27 (dk_at dksX7_sandwiches_0 1 rfl rfl)
theorem dX7_sandwiches_2 : decode cX7_sandwiches 2 = .ok (.invokevirtual 182, 3) := dk_182 0 182 (dk_at dksX7_sandwiches_0 2 rfl rfl)
theorem dX7_sandwiches_5 : decode cX7_sandwiches 5 = .ok (.bipush 42, 2) := dk_16 42 (dk_at dksX7_sandwiches_0 5 rfl rfl)
theorem dX7_sandwiches_7 : decode cX7_sandwiches 7 = .ok (.iand, 1) := dk_126 (dk_at dksX7_sandwiches_0 7 rfl rfl)
theorem dX7_sandwiches_8 : decode cX7_sandwiches 8 = .ok (.ifCond .eq 14, 3) := dk_153 0 14 (dk_at dksX7_sandwiches_0 8 rfl rfl)
theorem dX7_sandwiches_11 : decode cX7_sandwiches 11 = .ok (.aload_n 0, 1) := dk_42 (dk_at dksX7_sandwiches_0 11 rfl rfl)
theorem dX7_sandwiches_12 : decode cX7_sandwiches 12 = .ok (.iconst 1, 1) := dk_4 (dk_at dksX7_sandwiches_0 12 rfl rfl)
theorem dX7_sandwiches_13 : decode cX7_sandwiches 13 = .ok (.iload_n 2, 1) := dk_28 (dk_at dksX7_sandwiches_0 13 rfl rfl)
theorem dX7_sandwiches_14 : decode cX7_sandwiches 14 = .ok (.bipush 26, 2) := dk_16 26 (dk_at dksX7_sandwiches_0 14 rfl rfl)
theorem dX7_sandwiches_16 : decode cX7_sandwiches 16 = .ok (.invokevirtual 140, 3) := dk_182 0 140 (dk_at dksX7_sandwiches_0 16 rfl rfl)
theorem dX7_sandwiches_19 : decode cX7_sandwiches 19 = .ok (.goto 10, 3) := dk_167 0 10 (dk_at dksX7_sandwiches_0 19 rfl rfl)
theorem dX7_sandwiches_22 : decode cX7_sandwiches 22 = .ok (.aload_n 0, 1) := dk_42 (dk_at dksX7_sandwiches_0 22 rfl rfl)
theorem dX7_sandwiches_23 : decode cX7_sandwiches 23 = .ok (.iload_n 2, 1) := dk_28 (dk_at dksX7_sandwiches_0 23 rfl rfl)
theorem dX7_sandwiches_24 : decode cX7_sandwiches 24 = .ok (.bipush 26, 2) := dk_16 26 (dk_at dksX7_sandwiches_1 0 rfl rfl)
theorem dX7_sandwiches_26 : decode cX7_sandwiches 26 = .ok (.invokevirtual 86, 3) := dk_182 0 86 (dk_at dksX7_sandwiches_1 2 rfl rfl)
theorem dX7_sandwiches_29 : decode cX7_sandwiches 29 = .ok (.aload_n 0, 1) := dk_42 (dk_at dksX7_sandwiches_1 5 rfl rfl)
theorem dX7_sandwiches_30 : decode cX7_sandwiches 30 = .ok (.iconst 2, 1) := dk_5 (dk_at dksX7_sandwiches_1 6 rfl rfl)
theorem dX7_sandwiches_31 : decode cX7_sandwiches 31 = .ok (.iload_n 1, 1) := dk_27 (dk_at dksX7_sandwiches_1 7 rfl rfl)
theorem dX7_sandwiches_32 : decode cX7_sandwiches 32 = .ok (.bipush 26, 2) := dk_16 26 (dk_at dksX7_sandwiches_1 8 rfl rfl)
theorem dX7_sandwiches_34 : decode cX7_sandwiches 34 = .ok (.bipush 27, 2) := dk_16 27 (dk_at dksX7_sandwiches_1 10 rfl rfl)
theorem dX7_sandwiches_36 : decode cX7_sandwiches 36 = .ok (.invokevirtual 131, 3) := dk_182 0 131 (dk_at dksX7_sandwiches_1 12 rfl rfl)
theorem dX7_sandwiches_39 : decode cX7_sandwiches 39 = .ok (.ifCond .eq 20, 3) := dk_153 0 20 (dk_at dksX7_sandwiches_1 15 rfl rfl)
theorem dX7_sandwiches_42 : decode cX7_sandwiches 42 = .ok (.aload_n 0, 1) := dk_42 (dk_at dksX7_sandwiches_1 18 rfl rfl)
theorem dX7_sandwiches_43 : decode cX7_sandwiches 43 = .ok (.iconst 2, 1) := dk_5 (dk_at dksX7_sandwiches_1 19 rfl rfl)
theorem dX7_sandwiches_44 : decode cX7_sandwiches 44 = .ok (.bipush 27, 2) := dk_16 27 (dk_at dksX7_sandwiches_1 20 rfl rfl)
theorem dX7_sandwiches_46 : decode cX7_sandwiches 46 = .ok (.bipush 31, 2) := dk_16 31 (dk_at dksX7_sandwiches_1 22 rfl rfl)
theorem dX7_sandwiches_48 : decode cX7_sandwiches 48 = .ok (.iload_n 3, 1) := dk_29 (dk_at dksX7_sandwiches_2 0 rfl rfl)
theorem dX7_sandwiches_49 : decode cX7_sandwiches 49 = .ok (.invokevirtual 131, 3) := dk_182 0 131 (dk_at dksX7_sandwiches_2 1 rfl rfl)
theorem dX7_sandwiches_52 : decode cX7_sandwiches 52 = .ok (.ifCond .eq 7, 3) := dk_153 0 7 (dk_at dksX7_sandwiches_2 4 rfl rfl)
theorem dX7_sandwiches_55 : decode cX7_sandwiches 55 = .ok (.iconst 1, 1) := dk_4 (dk_at dksX7_sandwiches_2 7 rfl rfl)
theorem dX7_sandwiches_56 : decode cX7_sandwiches 56 = .ok (.goto 4, 3) := dk_167 0 4 (dk_at dksX7_sandwiches_2 8 rfl rfl)
theorem dX7_sandwiches_59 : decode cX7_sandwiches 59 = .ok (.iconst 0, 1) := dk_3 (dk_at dksX7_sandwiches_2 11 rfl rfl)
theorem dX7_sandwiches_60 : decode cX7_sandwiches 60 = .ok (.ireturn, 1) := dk_172 (dk_at dksX7_sandwiches_2 12 rfl rfl)
abbrev cX7_rotor : ByteArray := prog_42_method_53_code
def yX7_rotor : MethodName := ⟨RX7, "rotor", "(III)I"⟩
def dkwX7_rotor_7 : List UInt8 := [182, 0, 144, 167, 0, 10, 42, 16, 24, 27, 182, 0, 153, 172]
abbrev dktX7_rotor_7 : List UInt8 := dkwX7_rotor_7 ++ []
def dkwX7_rotor_6 : List UInt8 := [182, 0, 159, 154, 0, 9, 42, 6, 182, 0, 144, 172, 42, 16, 28, 182, 0, 90, 154, 0, 11, 42, 7]
abbrev dktX7_rotor_6 : List UInt8 := dkwX7_rotor_6 ++ dktX7_rotor_7
def dkwX7_rotor_5 : List UInt8 := [153, 0, 28, 42, 16, 25, 16, 27, 4, 16, 24, 182, 0, 124, 153, 0, 14, 42, 16, 24, 16, 28]
abbrev dktX7_rotor_5 : List UInt8 := dkwX7_rotor_5 ++ dktX7_rotor_6
def dkwX7_rotor_4 : List UInt8 := [16, 26, 182, 0, 194, 154, 0, 9, 42, 7, 182, 0, 144, 172, 42, 5, 29, 28, 16, 27, 182, 0, 131]
abbrev dktX7_rotor_4 : List UInt8 := dkwX7_rotor_4 ++ dktX7_rotor_5
def dkwX7_rotor_3 : List UInt8 := [182, 0, 131, 154, 0, 9, 42, 6, 182, 0, 144, 172, 42, 16, 25, 182, 0, 90, 153, 0, 14, 42, 16, 25]
abbrev dktX7_rotor_3 : List UInt8 := dkwX7_rotor_3 ++ dktX7_rotor_4
def dkwX7_rotor_2 : List UInt8 := [182, 0, 144, 172, 42, 5, 28, 28, 16, 25, 182, 0, 131, 153, 0, 15, 42, 5, 29, 29, 16, 26]
abbrev dktX7_rotor_2 : List UInt8 := dkwX7_rotor_2 ++ dktX7_rotor_3
def dkwX7_rotor_1 : List UInt8 := [182, 0, 144, 172, 42, 28, 182, 0, 191, 153, 0, 11, 42, 29, 182, 0, 191, 154, 0, 9, 42, 5]
abbrev dktX7_rotor_1 : List UInt8 := dkwX7_rotor_1 ++ dktX7_rotor_2
def dkwX7_rotor_0 : List UInt8 := [27, 184, 0, 147, 153, 0, 17, 28, 184, 0, 147, 153, 0, 10, 29, 184, 0, 147, 154, 0, 9, 42, 4]
abbrev dktX7_rotor_0 : List UInt8 := dkwX7_rotor_0 ++ dktX7_rotor_1
theorem dksX7_rotor_0 : cX7_rotor.data.toList.drop 0 = dktX7_rotor_0 := by decide +kernel
theorem dksX7_rotor_1 : cX7_rotor.data.toList.drop 23 = dktX7_rotor_1 := dk_seg dksX7_rotor_0 23 rfl rfl
theorem dksX7_rotor_2 : cX7_rotor.data.toList.drop 45 = dktX7_rotor_2 := dk_seg dksX7_rotor_1 22 rfl rfl
theorem dksX7_rotor_3 : cX7_rotor.data.toList.drop 67 = dktX7_rotor_3 := dk_seg dksX7_rotor_2 22 rfl rfl
theorem dksX7_rotor_4 : cX7_rotor.data.toList.drop 91 = dktX7_rotor_4 := dk_seg dksX7_rotor_3 24 rfl rfl
theorem dksX7_rotor_5 : cX7_rotor.data.toList.drop 114 = dktX7_rotor_5 := dk_seg dksX7_rotor_4 23 rfl rfl
theorem dksX7_rotor_6 : cX7_rotor.data.toList.drop 136 = dktX7_rotor_6 := dk_seg dksX7_rotor_5 22 rfl rfl
theorem dksX7_rotor_7 : cX7_rotor.data.toList.drop 159 = dktX7_rotor_7 := dk_seg dksX7_rotor_6 23 rfl rfl
theorem dX7_rotor_0 : decode cX7_rotor 0 = .ok (.iload_n 1, 1) := dk_27 (dk_at dksX7_rotor_0 0 rfl rfl)
theorem dX7_rotor_1 : decode cX7_rotor 1 = .ok (.invokestatic 147, 3) := dk_184 0 147 (dk_at dksX7_rotor_0 1 rfl rfl)
theorem dX7_rotor_4 : decode cX7_rotor 4 = .ok (.ifCond .eq 17, 3) := dk_153 0 17 (dk_at dksX7_rotor_0 4 rfl rfl)
theorem dX7_rotor_7 : decode cX7_rotor 7 = .ok (.iload_n 2, 1) := dk_28 (dk_at dksX7_rotor_0 7 rfl rfl)
theorem dX7_rotor_8 : decode cX7_rotor 8 = .ok (.invokestatic 147, 3) := dk_184 0 147 (dk_at dksX7_rotor_0 8 rfl rfl)
theorem dX7_rotor_11 : decode cX7_rotor 11 = .ok (.ifCond .eq 10, 3) := dk_153 0 10 (dk_at dksX7_rotor_0 11 rfl rfl)
theorem dX7_rotor_14 : decode cX7_rotor 14 = .ok (.iload_n 3, 1) := dk_29 (dk_at dksX7_rotor_0 14 rfl rfl)
theorem dX7_rotor_15 : decode cX7_rotor 15 = .ok (.invokestatic 147, 3) := dk_184 0 147 (dk_at dksX7_rotor_0 15 rfl rfl)
theorem dX7_rotor_18 : decode cX7_rotor 18 = .ok (.ifCond .ne 9, 3) := dk_154 0 9 (dk_at dksX7_rotor_0 18 rfl rfl)
theorem dX7_rotor_21 : decode cX7_rotor 21 = .ok (.aload_n 0, 1) := dk_42 (dk_at dksX7_rotor_0 21 rfl rfl)
theorem dX7_rotor_22 : decode cX7_rotor 22 = .ok (.iconst 1, 1) := dk_4 (dk_at dksX7_rotor_0 22 rfl rfl)
theorem dX7_rotor_23 : decode cX7_rotor 23 = .ok (.invokevirtual 144, 3) := dk_182 0 144 (dk_at dksX7_rotor_1 0 rfl rfl)
theorem dX7_rotor_26 : decode cX7_rotor 26 = .ok (.ireturn, 1) := dk_172 (dk_at dksX7_rotor_1 3 rfl rfl)
theorem dX7_rotor_27 : decode cX7_rotor 27 = .ok (.aload_n 0, 1) := dk_42 (dk_at dksX7_rotor_1 4 rfl rfl)
theorem dX7_rotor_28 : decode cX7_rotor 28 = .ok (.iload_n 2, 1) := dk_28 (dk_at dksX7_rotor_1 5 rfl rfl)
theorem dX7_rotor_29 : decode cX7_rotor 29 = .ok (.invokevirtual 191, 3) := dk_182 0 191 (dk_at dksX7_rotor_1 6 rfl rfl)
theorem dX7_rotor_32 : decode cX7_rotor 32 = .ok (.ifCond .eq 11, 3) := dk_153 0 11 (dk_at dksX7_rotor_1 9 rfl rfl)
theorem dX7_rotor_35 : decode cX7_rotor 35 = .ok (.aload_n 0, 1) := dk_42 (dk_at dksX7_rotor_1 12 rfl rfl)
theorem dX7_rotor_36 : decode cX7_rotor 36 = .ok (.iload_n 3, 1) := dk_29 (dk_at dksX7_rotor_1 13 rfl rfl)
theorem dX7_rotor_37 : decode cX7_rotor 37 = .ok (.invokevirtual 191, 3) := dk_182 0 191 (dk_at dksX7_rotor_1 14 rfl rfl)
theorem dX7_rotor_40 : decode cX7_rotor 40 = .ok (.ifCond .ne 9, 3) := dk_154 0 9 (dk_at dksX7_rotor_1 17 rfl rfl)
theorem dX7_rotor_43 : decode cX7_rotor 43 = .ok (.aload_n 0, 1) := dk_42 (dk_at dksX7_rotor_1 20 rfl rfl)
theorem dX7_rotor_44 : decode cX7_rotor 44 = .ok (.iconst 2, 1) := dk_5 (dk_at dksX7_rotor_1 21 rfl rfl)
theorem dX7_rotor_45 : decode cX7_rotor 45 = .ok (.invokevirtual 144, 3) := dk_182 0 144 (dk_at dksX7_rotor_2 0 rfl rfl)
theorem dX7_rotor_48 : decode cX7_rotor 48 = .ok (.ireturn, 1) := dk_172 (dk_at dksX7_rotor_2 3 rfl rfl)
theorem dX7_rotor_49 : decode cX7_rotor 49 = .ok (.aload_n 0, 1) := dk_42 (dk_at dksX7_rotor_2 4 rfl rfl)
theorem dX7_rotor_50 : decode cX7_rotor 50 = .ok (.iconst 2, 1) := dk_5 (dk_at dksX7_rotor_2 5 rfl rfl)
theorem dX7_rotor_51 : decode cX7_rotor 51 = .ok (.iload_n 2, 1) := dk_28 (dk_at dksX7_rotor_2 6 rfl rfl)
theorem dX7_rotor_52 : decode cX7_rotor 52 = .ok (.iload_n 2, 1) := dk_28 (dk_at dksX7_rotor_2 7 rfl rfl)
theorem dX7_rotor_53 : decode cX7_rotor 53 = .ok (.bipush 25, 2) := dk_16 25 (dk_at dksX7_rotor_2 8 rfl rfl)
theorem dX7_rotor_55 : decode cX7_rotor 55 = .ok (.invokevirtual 131, 3) := dk_182 0 131 (dk_at dksX7_rotor_2 10 rfl rfl)
theorem dX7_rotor_58 : decode cX7_rotor 58 = .ok (.ifCond .eq 15, 3) := dk_153 0 15 (dk_at dksX7_rotor_2 13 rfl rfl)
theorem dX7_rotor_61 : decode cX7_rotor 61 = .ok (.aload_n 0, 1) := dk_42 (dk_at dksX7_rotor_2 16 rfl rfl)
theorem dX7_rotor_62 : decode cX7_rotor 62 = .ok (.iconst 2, 1) := dk_5 (dk_at dksX7_rotor_2 17 rfl rfl)
theorem dX7_rotor_63 : decode cX7_rotor 63 = .ok (.iload_n 3, 1) := dk_29 (dk_at dksX7_rotor_2 18 rfl rfl)
theorem dX7_rotor_64 : decode cX7_rotor 64 = .ok (.iload_n 3, 1) := dk_29 (dk_at dksX7_rotor_2 19 rfl rfl)
theorem dX7_rotor_65 : decode cX7_rotor 65 = .ok (.bipush 26, 2) := dk_16 26 (dk_at dksX7_rotor_2 20 rfl rfl)
theorem dX7_rotor_67 : decode cX7_rotor 67 = .ok (.invokevirtual 131, 3) := dk_182 0 131 (dk_at dksX7_rotor_3 0 rfl rfl)
theorem dX7_rotor_70 : decode cX7_rotor 70 = .ok (.ifCond .ne 9, 3) := dk_154 0 9 (dk_at dksX7_rotor_3 3 rfl rfl)
theorem dX7_rotor_73 : decode cX7_rotor 73 = .ok (.aload_n 0, 1) := dk_42 (dk_at dksX7_rotor_3 6 rfl rfl)
theorem dX7_rotor_74 : decode cX7_rotor 74 = .ok (.iconst 3, 1) := dk_6 (dk_at dksX7_rotor_3 7 rfl rfl)
theorem dX7_rotor_75 : decode cX7_rotor 75 = .ok (.invokevirtual 144, 3) := dk_182 0 144 (dk_at dksX7_rotor_3 8 rfl rfl)
theorem dX7_rotor_78 : decode cX7_rotor 78 = .ok (.ireturn, 1) := dk_172 (dk_at dksX7_rotor_3 11 rfl rfl)
theorem dX7_rotor_79 : decode cX7_rotor 79 = .ok (.aload_n 0, 1) := dk_42 (dk_at dksX7_rotor_3 12 rfl rfl)
theorem dX7_rotor_80 : decode cX7_rotor 80 = .ok (.bipush 25, 2) := dk_16 25 (dk_at dksX7_rotor_3 13 rfl rfl)
theorem dX7_rotor_82 : decode cX7_rotor 82 = .ok (.invokevirtual 90, 3) := dk_182 0 90 (dk_at dksX7_rotor_3 15 rfl rfl)
theorem dX7_rotor_85 : decode cX7_rotor 85 = .ok (.ifCond .eq 14, 3) := dk_153 0 14 (dk_at dksX7_rotor_3 18 rfl rfl)
theorem dX7_rotor_88 : decode cX7_rotor 88 = .ok (.aload_n 0, 1) := dk_42 (dk_at dksX7_rotor_3 21 rfl rfl)
theorem dX7_rotor_89 : decode cX7_rotor 89 = .ok (.bipush 25, 2) := dk_16 25 (dk_at dksX7_rotor_3 22 rfl rfl)
theorem dX7_rotor_91 : decode cX7_rotor 91 = .ok (.bipush 26, 2) := dk_16 26 (dk_at dksX7_rotor_4 0 rfl rfl)
theorem dX7_rotor_93 : decode cX7_rotor 93 = .ok (.invokevirtual 194, 3) := dk_182 0 194 (dk_at dksX7_rotor_4 2 rfl rfl)
theorem dX7_rotor_96 : decode cX7_rotor 96 = .ok (.ifCond .ne 9, 3) := dk_154 0 9 (dk_at dksX7_rotor_4 5 rfl rfl)
theorem dX7_rotor_99 : decode cX7_rotor 99 = .ok (.aload_n 0, 1) := dk_42 (dk_at dksX7_rotor_4 8 rfl rfl)
theorem dX7_rotor_100 : decode cX7_rotor 100 = .ok (.iconst 4, 1) := dk_7 (dk_at dksX7_rotor_4 9 rfl rfl)
theorem dX7_rotor_101 : decode cX7_rotor 101 = .ok (.invokevirtual 144, 3) := dk_182 0 144 (dk_at dksX7_rotor_4 10 rfl rfl)
theorem dX7_rotor_104 : decode cX7_rotor 104 = .ok (.ireturn, 1) := dk_172 (dk_at dksX7_rotor_4 13 rfl rfl)
theorem dX7_rotor_105 : decode cX7_rotor 105 = .ok (.aload_n 0, 1) := dk_42 (dk_at dksX7_rotor_4 14 rfl rfl)
theorem dX7_rotor_106 : decode cX7_rotor 106 = .ok (.iconst 2, 1) := dk_5 (dk_at dksX7_rotor_4 15 rfl rfl)
theorem dX7_rotor_107 : decode cX7_rotor 107 = .ok (.iload_n 3, 1) := dk_29 (dk_at dksX7_rotor_4 16 rfl rfl)
theorem dX7_rotor_108 : decode cX7_rotor 108 = .ok (.iload_n 2, 1) := dk_28 (dk_at dksX7_rotor_4 17 rfl rfl)
theorem dX7_rotor_109 : decode cX7_rotor 109 = .ok (.bipush 27, 2) := dk_16 27 (dk_at dksX7_rotor_4 18 rfl rfl)
theorem dX7_rotor_111 : decode cX7_rotor 111 = .ok (.invokevirtual 131, 3) := dk_182 0 131 (dk_at dksX7_rotor_4 20 rfl rfl)
theorem dX7_rotor_114 : decode cX7_rotor 114 = .ok (.ifCond .eq 28, 3) := dk_153 0 28 (dk_at dksX7_rotor_5 0 rfl rfl)
theorem dX7_rotor_117 : decode cX7_rotor 117 = .ok (.aload_n 0, 1) := dk_42 (dk_at dksX7_rotor_5 3 rfl rfl)
theorem dX7_rotor_118 : decode cX7_rotor 118 = .ok (.bipush 25, 2) := dk_16 25 (dk_at dksX7_rotor_5 4 rfl rfl)
theorem dX7_rotor_120 : decode cX7_rotor 120 = .ok (.bipush 27, 2) := dk_16 27 (dk_at dksX7_rotor_5 6 rfl rfl)
theorem dX7_rotor_122 : decode cX7_rotor 122 = .ok (.iconst 1, 1) := dk_4 (dk_at dksX7_rotor_5 8 rfl rfl)
theorem dX7_rotor_123 : decode cX7_rotor 123 = .ok (.bipush 24, 2) := dk_16 24 (dk_at dksX7_rotor_5 9 rfl rfl)
theorem dX7_rotor_125 : decode cX7_rotor 125 = .ok (.invokevirtual 124, 3) := dk_182 0 124 (dk_at dksX7_rotor_5 11 rfl rfl)
theorem dX7_rotor_128 : decode cX7_rotor 128 = .ok (.ifCond .eq 14, 3) := dk_153 0 14 (dk_at dksX7_rotor_5 14 rfl rfl)
theorem dX7_rotor_131 : decode cX7_rotor 131 = .ok (.aload_n 0, 1) := dk_42 (dk_at dksX7_rotor_5 17 rfl rfl)
theorem dX7_rotor_132 : decode cX7_rotor 132 = .ok (.bipush 24, 2) := dk_16 24 (dk_at dksX7_rotor_5 18 rfl rfl)
theorem dX7_rotor_134 : decode cX7_rotor 134 = .ok (.bipush 28, 2) := dk_16 28 (dk_at dksX7_rotor_5 20 rfl rfl)
theorem dX7_rotor_136 : decode cX7_rotor 136 = .ok (.invokevirtual 159, 3) := dk_182 0 159 (dk_at dksX7_rotor_6 0 rfl rfl)
theorem dX7_rotor_139 : decode cX7_rotor 139 = .ok (.ifCond .ne 9, 3) := dk_154 0 9 (dk_at dksX7_rotor_6 3 rfl rfl)
theorem dX7_rotor_142 : decode cX7_rotor 142 = .ok (.aload_n 0, 1) := dk_42 (dk_at dksX7_rotor_6 6 rfl rfl)
theorem dX7_rotor_143 : decode cX7_rotor 143 = .ok (.iconst 3, 1) := dk_6 (dk_at dksX7_rotor_6 7 rfl rfl)
theorem dX7_rotor_144 : decode cX7_rotor 144 = .ok (.invokevirtual 144, 3) := dk_182 0 144 (dk_at dksX7_rotor_6 8 rfl rfl)
theorem dX7_rotor_147 : decode cX7_rotor 147 = .ok (.ireturn, 1) := dk_172 (dk_at dksX7_rotor_6 11 rfl rfl)
theorem dX7_rotor_148 : decode cX7_rotor 148 = .ok (.aload_n 0, 1) := dk_42 (dk_at dksX7_rotor_6 12 rfl rfl)
theorem dX7_rotor_149 : decode cX7_rotor 149 = .ok (.bipush 28, 2) := dk_16 28 (dk_at dksX7_rotor_6 13 rfl rfl)
theorem dX7_rotor_151 : decode cX7_rotor 151 = .ok (.invokevirtual 90, 3) := dk_182 0 90 (dk_at dksX7_rotor_6 15 rfl rfl)
theorem dX7_rotor_154 : decode cX7_rotor 154 = .ok (.ifCond .ne 11, 3) := dk_154 0 11 (dk_at dksX7_rotor_6 18 rfl rfl)
theorem dX7_rotor_157 : decode cX7_rotor 157 = .ok (.aload_n 0, 1) := dk_42 (dk_at dksX7_rotor_6 21 rfl rfl)
theorem dX7_rotor_158 : decode cX7_rotor 158 = .ok (.iconst 4, 1) := dk_7 (dk_at dksX7_rotor_6 22 rfl rfl)
theorem dX7_rotor_159 : decode cX7_rotor 159 = .ok (.invokevirtual 144, 3) := dk_182 0 144 (dk_at dksX7_rotor_7 0 rfl rfl)
theorem dX7_rotor_162 : decode cX7_rotor 162 = .ok (.goto 10, 3) := dk_167 0 10 (dk_at dksX7_rotor_7 3 rfl rfl)
theorem dX7_rotor_165 : decode cX7_rotor 165 = .ok (.aload_n 0, 1) := dk_42 (dk_at dksX7_rotor_7 6 rfl rfl)
theorem dX7_rotor_166 : decode cX7_rotor 166 = .ok (.bipush 24, 2) := dk_16 24 (dk_at dksX7_rotor_7 7 rfl rfl)
theorem dX7_rotor_168 : decode cX7_rotor 168 = .ok (.iload_n 1, 1) := dk_27 (dk_at dksX7_rotor_7 9 rfl rfl)
theorem dX7_rotor_169 : decode cX7_rotor 169 = .ok (.invokevirtual 153, 3) := dk_182 0 153 (dk_at dksX7_rotor_7 10 rfl rfl)
theorem dX7_rotor_172 : decode cX7_rotor 172 = .ok (.ireturn, 1) := dk_172 (dk_at dksX7_rotor_7 13 rfl rfl)
abbrev cX7_isVector : ByteArray := prog_42_method_51_code
def yX7_isVector : MethodName := ⟨RX7, "isVector", "(I)Z"⟩
def dkwX7_isVector_0 : List UInt8 := [42, 27, 182, 0, 182, 16, 253, 126, 154, 0, 7, 4, 167, 0, 4, 3, 172]
abbrev dktX7_isVector_0 : List UInt8 := dkwX7_isVector_0 ++ []
theorem dksX7_isVector_0 : cX7_isVector.data.toList.drop 0 = dktX7_isVector_0 := by decide +kernel
theorem dX7_isVector_0 : decode cX7_isVector 0 = .ok (.aload_n 0, 1) := dk_42 (dk_at dksX7_isVector_0 0 rfl rfl)
theorem dX7_isVector_1 : decode cX7_isVector 1 = .ok (.iload_n 1, 1) := dk_27 (dk_at dksX7_isVector_0 1 rfl rfl)
theorem dX7_isVector_2 : decode cX7_isVector 2 = .ok (.invokevirtual 182, 3) := dk_182 0 182 (dk_at dksX7_isVector_0 2 rfl rfl)
theorem dX7_isVector_5 : decode cX7_isVector 5 = .ok (.bipush (-3), 2) := dk_16 253 (dk_at dksX7_isVector_0 5 rfl rfl)
theorem dX7_isVector_7 : decode cX7_isVector 7 = .ok (.iand, 1) := dk_126 (dk_at dksX7_isVector_0 7 rfl rfl)
theorem dX7_isVector_8 : decode cX7_isVector 8 = .ok (.ifCond .ne 7, 3) := dk_154 0 7 (dk_at dksX7_isVector_0 8 rfl rfl)
theorem dX7_isVector_11 : decode cX7_isVector 11 = .ok (.iconst 1, 1) := dk_4 (dk_at dksX7_isVector_0 11 rfl rfl)
theorem dX7_isVector_12 : decode cX7_isVector 12 = .ok (.goto 4, 3) := dk_167 0 4 (dk_at dksX7_isVector_0 12 rfl rfl)
theorem dX7_isVector_15 : decode cX7_isVector 15 = .ok (.iconst 0, 1) := dk_3 (dk_at dksX7_isVector_0 15 rfl rfl)
theorem dX7_isVector_16 : decode cX7_isVector 16 = .ok (.ireturn, 1) := dk_172 (dk_at dksX7_isVector_0 16 rfl rfl)
abbrev cX7_areAlike : ByteArray := prog_42_method_52_code
def yX7_areAlike : MethodName := ⟨RX7, "areAlike", "(II)Z"⟩
def dkwX7_areAlike_2 : List UInt8 := [3, 62, 132, 4, 1, 167, 255, 208, 29, 172]
abbrev dktX7_areAlike_2 : List UInt8 := dkwX7_areAlike_2 ++ []
def dkwX7_areAlike_1 : List UInt8 := [21, 4, 96, 47, 42, 180, 0, 27, 16, 33, 28, 104, 21, 4, 96, 47, 148, 154, 0, 7, 4, 167, 0, 4]
abbrev dktX7_areAlike_1 : List UInt8 := dkwX7_areAlike_1 ++ dktX7_areAlike_2
def dkwX7_areAlike_0 : List UInt8 := [4, 62, 3, 54, 4, 21, 4, 16, 33, 162, 0, 47, 29, 153, 0, 35, 42, 180, 0, 27, 16, 33, 27, 104]
abbrev dktX7_areAlike_0 : List UInt8 := dkwX7_areAlike_0 ++ dktX7_areAlike_1
theorem dksX7_areAlike_0 : cX7_areAlike.data.toList.drop 0 = dktX7_areAlike_0 := by decide +kernel
theorem dksX7_areAlike_1 : cX7_areAlike.data.toList.drop 24 = dktX7_areAlike_1 := dk_seg dksX7_areAlike_0 24 rfl rfl
theorem dksX7_areAlike_2 : cX7_areAlike.data.toList.drop 48 = dktX7_areAlike_2 := dk_seg dksX7_areAlike_1 24 rfl rfl
theorem dX7_areAlike_0 : decode cX7_areAlike 0 = .ok (.iconst 1, 1) := dk_4 (dk_at dksX7_areAlike_0 0 rfl rfl)
theorem dX7_areAlike_1 : decode cX7_areAlike 1 = .ok (.istore_n 3, 1) := dk_62 (dk_at dksX7_areAlike_0 1 rfl rfl)
theorem dX7_areAlike_2 : decode cX7_areAlike 2 = .ok (.iconst 0, 1) := dk_3 (dk_at dksX7_areAlike_0 2 rfl rfl)
theorem dX7_areAlike_3 : decode cX7_areAlike 3 = .ok (.istore 4, 2) := dk_54 4 (dk_at dksX7_areAlike_0 3 rfl rfl)
theorem dX7_areAlike_5 : decode cX7_areAlike 5 = .ok (.iload 4, 2) := dk_21 4 (dk_at dksX7_areAlike_0 5 rfl rfl)
theorem dX7_areAlike_7 : decode cX7_areAlike 7 = .ok (.bipush 33, 2) := dk_16 33 (dk_at dksX7_areAlike_0 7 rfl rfl)
theorem dX7_areAlike_9 : decode cX7_areAlike 9 = .ok (.if_icmp .ge 47, 3) := dk_162 0 47 (dk_at dksX7_areAlike_0 9 rfl rfl)
theorem dX7_areAlike_12 : decode cX7_areAlike 12 = .ok (.iload_n 3, 1) := dk_29 (dk_at dksX7_areAlike_0 12 rfl rfl)
theorem dX7_areAlike_13 : decode cX7_areAlike 13 = .ok (.ifCond .eq 35, 3) := dk_153 0 35 (dk_at dksX7_areAlike_0 13 rfl rfl)
theorem dX7_areAlike_16 : decode cX7_areAlike 16 = .ok (.aload_n 0, 1) := dk_42 (dk_at dksX7_areAlike_0 16 rfl rfl)
theorem dX7_areAlike_17 : decode cX7_areAlike 17 = .ok (.getfield 27, 3) := dk_180 0 27 (dk_at dksX7_areAlike_0 17 rfl rfl)
theorem dX7_areAlike_20 : decode cX7_areAlike 20 = .ok (.bipush 33, 2) := dk_16 33 (dk_at dksX7_areAlike_0 20 rfl rfl)
theorem dX7_areAlike_22 : decode cX7_areAlike 22 = .ok (.iload_n 1, 1) := dk_27 (dk_at dksX7_areAlike_0 22 rfl rfl)
theorem dX7_areAlike_23 : decode cX7_areAlike 23 = .ok (.imul, 1) := dk_104 (dk_at dksX7_areAlike_0 23 rfl rfl)
theorem dX7_areAlike_24 : decode cX7_areAlike 24 = .ok (.iload 4, 2) := dk_21 4 (dk_at dksX7_areAlike_1 0 rfl rfl)
theorem dX7_areAlike_26 : decode cX7_areAlike 26 = .ok (.iadd, 1) := dk_96 (dk_at dksX7_areAlike_1 2 rfl rfl)
theorem dX7_areAlike_27 : decode cX7_areAlike 27 = .ok (.laload, 1) := dk_47 (dk_at dksX7_areAlike_1 3 rfl rfl)
theorem dX7_areAlike_28 : decode cX7_areAlike 28 = .ok (.aload_n 0, 1) := dk_42 (dk_at dksX7_areAlike_1 4 rfl rfl)
theorem dX7_areAlike_29 : decode cX7_areAlike 29 = .ok (.getfield 27, 3) := dk_180 0 27 (dk_at dksX7_areAlike_1 5 rfl rfl)
theorem dX7_areAlike_32 : decode cX7_areAlike 32 = .ok (.bipush 33, 2) := dk_16 33 (dk_at dksX7_areAlike_1 8 rfl rfl)
theorem dX7_areAlike_34 : decode cX7_areAlike 34 = .ok (.iload_n 2, 1) := dk_28 (dk_at dksX7_areAlike_1 10 rfl rfl)
theorem dX7_areAlike_35 : decode cX7_areAlike 35 = .ok (.imul, 1) := dk_104 (dk_at dksX7_areAlike_1 11 rfl rfl)
theorem dX7_areAlike_36 : decode cX7_areAlike 36 = .ok (.iload 4, 2) := dk_21 4 (dk_at dksX7_areAlike_1 12 rfl rfl)
theorem dX7_areAlike_38 : decode cX7_areAlike 38 = .ok (.iadd, 1) := dk_96 (dk_at dksX7_areAlike_1 14 rfl rfl)
theorem dX7_areAlike_39 : decode cX7_areAlike 39 = .ok (.laload, 1) := dk_47 (dk_at dksX7_areAlike_1 15 rfl rfl)
theorem dX7_areAlike_40 : decode cX7_areAlike 40 = .ok (.lcmp, 1) := dk_148 (dk_at dksX7_areAlike_1 16 rfl rfl)
theorem dX7_areAlike_41 : decode cX7_areAlike 41 = .ok (.ifCond .ne 7, 3) := dk_154 0 7 (dk_at dksX7_areAlike_1 17 rfl rfl)
theorem dX7_areAlike_44 : decode cX7_areAlike 44 = .ok (.iconst 1, 1) := dk_4 (dk_at dksX7_areAlike_1 20 rfl rfl)
theorem dX7_areAlike_45 : decode cX7_areAlike 45 = .ok (.goto 4, 3) := dk_167 0 4 (dk_at dksX7_areAlike_1 21 rfl rfl)
theorem dX7_areAlike_48 : decode cX7_areAlike 48 = .ok (.iconst 0, 1) := dk_3 (dk_at dksX7_areAlike_2 0 rfl rfl)
theorem dX7_areAlike_49 : decode cX7_areAlike 49 = .ok (.istore_n 3, 1) := dk_62 (dk_at dksX7_areAlike_2 1 rfl rfl)
theorem dX7_areAlike_50 : decode cX7_areAlike 50 = .ok (.iinc 4 1, 3) := dk_132 4 1 (dk_at dksX7_areAlike_2 2 rfl rfl)
theorem dX7_areAlike_53 : decode cX7_areAlike 53 = .ok (.goto (-48), 3) := dk_167 255 208 (dk_at dksX7_areAlike_2 5 rfl rfl)
theorem dX7_areAlike_56 : decode cX7_areAlike 56 = .ok (.iload_n 3, 1) := dk_29 (dk_at dksX7_areAlike_2 8 rfl rfl)
theorem dX7_areAlike_57 : decode cX7_areAlike 57 = .ok (.ireturn, 1) := dk_172 (dk_at dksX7_areAlike_2 9 rfl rfl)
abbrev cX7_grades : ByteArray := prog_42_method_54_code
def yX7_grades : MethodName := ⟨RX7, "grades", "(I)I"⟩
def dkwX7_grades_1 : List UInt8 := [167, 0, 8, 42, 27, 182, 0, 182, 172]
abbrev dktX7_grades_1 : List UInt8 := dkwX7_grades_1 ++ []
def dkwX7_grades_0 : List UInt8 := [42, 27, 184, 0, 147, 153, 0, 7, 3, 167, 0, 4, 4, 181, 0, 54, 42, 180, 0, 54, 158, 0, 7, 3]
abbrev dktX7_grades_0 : List UInt8 := dkwX7_grades_0 ++ dktX7_grades_1
theorem dksX7_grades_0 : cX7_grades.data.toList.drop 0 = dktX7_grades_0 := by decide +kernel
theorem dksX7_grades_1 : cX7_grades.data.toList.drop 24 = dktX7_grades_1 := dk_seg dksX7_grades_0 24 rfl rfl
theorem dX7_grades_0 : decode cX7_grades 0 = .ok (.aload_n 0, 1) := dk_42 (dk_at dksX7_grades_0 0 rfl rfl)
theorem dX7_grades_1 : decode cX7_grades 1 = .ok (.iload_n 1, 1) := dk_27 (dk_at dksX7_grades_0 1 rfl rfl)
theorem dX7_grades_2 : decode cX7_grades 2 = .ok (.invokestatic 147, 3) := dk_184 0 147 (dk_at dksX7_grades_0 2 rfl rfl)
theorem dX7_grades_5 : decode cX7_grades 5 = .ok (.ifCond .eq 7, 3) := dk_153 0 7 (dk_at dksX7_grades_0 5 rfl rfl)
theorem dX7_grades_8 : decode cX7_grades 8 = .ok (.iconst 0, 1) := dk_3 (dk_at dksX7_grades_0 8 rfl rfl)
theorem dX7_grades_9 : decode cX7_grades 9 = .ok (.goto 4, 3) := dk_167 0 4 (dk_at dksX7_grades_0 9 rfl rfl)
theorem dX7_grades_12 : decode cX7_grades 12 = .ok (.iconst 1, 1) := dk_4 (dk_at dksX7_grades_0 12 rfl rfl)
theorem dX7_grades_13 : decode cX7_grades 13 = .ok (.putfield 54, 3) := dk_181 0 54 (dk_at dksX7_grades_0 13 rfl rfl)
theorem dX7_grades_16 : decode cX7_grades 16 = .ok (.aload_n 0, 1) := dk_42 (dk_at dksX7_grades_0 16 rfl rfl)
theorem dX7_grades_17 : decode cX7_grades 17 = .ok (.getfield 54, 3) := dk_180 0 54 (dk_at dksX7_grades_0 17 rfl rfl)
theorem dX7_grades_20 : decode cX7_grades 20 = .ok (.ifCond .le 7, 3) := dk_158 0 7 (dk_at dksX7_grades_0 20 rfl rfl)
theorem dX7_grades_23 : decode cX7_grades 23 = .ok (.iconst 0, 1) := dk_3 (dk_at dksX7_grades_0 23 rfl rfl)
theorem dX7_grades_24 : decode cX7_grades 24 = .ok (.goto 8, 3) := dk_167 0 8 (dk_at dksX7_grades_1 0 rfl rfl)
theorem dX7_grades_27 : decode cX7_grades 27 = .ok (.aload_n 0, 1) := dk_42 (dk_at dksX7_grades_1 3 rfl rfl)
theorem dX7_grades_28 : decode cX7_grades 28 = .ok (.iload_n 1, 1) := dk_27 (dk_at dksX7_grades_1 4 rfl rfl)
theorem dX7_grades_29 : decode cX7_grades 29 = .ok (.invokevirtual 182, 3) := dk_182 0 182 (dk_at dksX7_grades_1 5 rfl rfl)
theorem dX7_grades_32 : decode cX7_grades 32 = .ok (.ireturn, 1) := dk_172 (dk_at dksX7_grades_1 8 rfl rfl)
abbrev cX7_areEqual : ByteArray := prog_42_method_55_code
def yX7_areEqual : MethodName := ⟨RX7, "areEqual", "(II)Z"⟩
def dkwX7_areEqual_1 : List UInt8 := [180, 0, 54, 154, 0, 16, 42, 27, 28, 182, 0, 194, 153, 0, 7, 4, 167, 0, 4, 3, 172]
abbrev dktX7_areEqual_1 : List UInt8 := dkwX7_areEqual_1 ++ []
def dkwX7_areEqual_0 : List UInt8 := [42, 27, 184, 0, 147, 153, 0, 14, 28, 184, 0, 147, 153, 0, 7, 3, 167, 0, 4, 4, 181, 0, 54, 42]
abbrev dktX7_areEqual_0 : List UInt8 := dkwX7_areEqual_0 ++ dktX7_areEqual_1
theorem dksX7_areEqual_0 : cX7_areEqual.data.toList.drop 0 = dktX7_areEqual_0 := by decide +kernel
theorem dksX7_areEqual_1 : cX7_areEqual.data.toList.drop 24 = dktX7_areEqual_1 := dk_seg dksX7_areEqual_0 24 rfl rfl
theorem dX7_areEqual_0 : decode cX7_areEqual 0 = .ok (.aload_n 0, 1) := dk_42 (dk_at dksX7_areEqual_0 0 rfl rfl)
theorem dX7_areEqual_1 : decode cX7_areEqual 1 = .ok (.iload_n 1, 1) := dk_27 (dk_at dksX7_areEqual_0 1 rfl rfl)
theorem dX7_areEqual_2 : decode cX7_areEqual 2 = .ok (.invokestatic 147, 3) := dk_184 0 147 (dk_at dksX7_areEqual_0 2 rfl rfl)
theorem dX7_areEqual_5 : decode cX7_areEqual 5 = .ok (.ifCond .eq 14, 3) := dk_153 0 14 (dk_at dksX7_areEqual_0 5 rfl rfl)
theorem dX7_areEqual_8 : decode cX7_areEqual 8 = .ok (.iload_n 2, 1) := dk_28 (dk_at dksX7_areEqual_0 8 rfl rfl)
theorem dX7_areEqual_9 : decode cX7_areEqual 9 = .ok (.invokestatic 147, 3) := dk_184 0 147 (dk_at dksX7_areEqual_0 9 rfl rfl)
theorem dX7_areEqual_12 : decode cX7_areEqual 12 = .ok (.ifCond .eq 7, 3) := dk_153 0 7 (dk_at dksX7_areEqual_0 12 rfl rfl)
theorem dX7_areEqual_15 : decode cX7_areEqual 15 = .ok (.iconst 0, 1) := dk_3 (dk_at dksX7_areEqual_0 15 rfl rfl)
theorem dX7_areEqual_16 : decode cX7_areEqual 16 = .ok (.goto 4, 3) := dk_167 0 4 (dk_at dksX7_areEqual_0 16 rfl rfl)
theorem dX7_areEqual_19 : decode cX7_areEqual 19 = .ok (.iconst 1, 1) := dk_4 (dk_at dksX7_areEqual_0 19 rfl rfl)
theorem dX7_areEqual_20 : decode cX7_areEqual 20 = .ok (.putfield 54, 3) := dk_181 0 54 (dk_at dksX7_areEqual_0 20 rfl rfl)
theorem dX7_areEqual_23 : decode cX7_areEqual 23 = .ok (.aload_n 0, 1) := dk_42 (dk_at dksX7_areEqual_0 23 rfl rfl)
theorem dX7_areEqual_24 : decode cX7_areEqual 24 = .ok (.getfield 54, 3) := dk_180 0 54 (dk_at dksX7_areEqual_1 0 rfl rfl)
theorem dX7_areEqual_27 : decode cX7_areEqual 27 = .ok (.ifCond .ne 16, 3) := dk_154 0 16 (dk_at dksX7_areEqual_1 3 rfl rfl)
theorem dX7_areEqual_30 : decode cX7_areEqual 30 = .ok (.aload_n 0, 1) := dk_42 (dk_at dksX7_areEqual_1 6 rfl rfl)
theorem dX7_areEqual_31 : decode cX7_areEqual 31 = .ok (.iload_n 1, 1) := dk_27 (dk_at dksX7_areEqual_1 7 rfl rfl)
theorem dX7_areEqual_32 : decode cX7_areEqual 32 = .ok (.iload_n 2, 1) := dk_28 (dk_at dksX7_areEqual_1 8 rfl rfl)
theorem dX7_areEqual_33 : decode cX7_areEqual 33 = .ok (.invokevirtual 194, 3) := dk_182 0 194 (dk_at dksX7_areEqual_1 9 rfl rfl)
theorem dX7_areEqual_36 : decode cX7_areEqual 36 = .ok (.ifCond .eq 7, 3) := dk_153 0 7 (dk_at dksX7_areEqual_1 12 rfl rfl)
theorem dX7_areEqual_39 : decode cX7_areEqual 39 = .ok (.iconst 1, 1) := dk_4 (dk_at dksX7_areEqual_1 15 rfl rfl)
theorem dX7_areEqual_40 : decode cX7_areEqual 40 = .ok (.goto 4, 3) := dk_167 0 4 (dk_at dksX7_areEqual_1 16 rfl rfl)
theorem dX7_areEqual_43 : decode cX7_areEqual 43 = .ok (.iconst 0, 1) := dk_3 (dk_at dksX7_areEqual_1 19 rfl rfl)
theorem dX7_areEqual_44 : decode cX7_areEqual 44 = .ok (.ireturn, 1) := dk_172 (dk_at dksX7_areEqual_1 20 rfl rfl)
abbrev cX7_isBlade : ByteArray := prog_42_method_57_code
def yX7_isBlade : MethodName := ⟨RX7, "isBlade", "(I)Z"⟩
def dkwX7_isBlade_1 : List UInt8 := [27, 182, 0, 197, 153, 0, 7, 4, 167, 0, 4, 3, 172]
abbrev dktX7_isBlade_1 : List UInt8 := dkwX7_isBlade_1 ++ []
def dkwX7_isBlade_0 : List UInt8 := [42, 27, 184, 0, 147, 153, 0, 7, 3, 167, 0, 4, 4, 181, 0, 54, 42, 180, 0, 54, 154, 0, 15, 42]
abbrev dktX7_isBlade_0 : List UInt8 := dkwX7_isBlade_0 ++ dktX7_isBlade_1
theorem dksX7_isBlade_0 : cX7_isBlade.data.toList.drop 0 = dktX7_isBlade_0 := by decide +kernel
theorem dksX7_isBlade_1 : cX7_isBlade.data.toList.drop 24 = dktX7_isBlade_1 := dk_seg dksX7_isBlade_0 24 rfl rfl
theorem dX7_isBlade_0 : decode cX7_isBlade 0 = .ok (.aload_n 0, 1) := dk_42 (dk_at dksX7_isBlade_0 0 rfl rfl)
theorem dX7_isBlade_1 : decode cX7_isBlade 1 = .ok (.iload_n 1, 1) := dk_27 (dk_at dksX7_isBlade_0 1 rfl rfl)
theorem dX7_isBlade_2 : decode cX7_isBlade 2 = .ok (.invokestatic 147, 3) := dk_184 0 147 (dk_at dksX7_isBlade_0 2 rfl rfl)
theorem dX7_isBlade_5 : decode cX7_isBlade 5 = .ok (.ifCond .eq 7, 3) := dk_153 0 7 (dk_at dksX7_isBlade_0 5 rfl rfl)
theorem dX7_isBlade_8 : decode cX7_isBlade 8 = .ok (.iconst 0, 1) := dk_3 (dk_at dksX7_isBlade_0 8 rfl rfl)
theorem dX7_isBlade_9 : decode cX7_isBlade 9 = .ok (.goto 4, 3) := dk_167 0 4 (dk_at dksX7_isBlade_0 9 rfl rfl)
theorem dX7_isBlade_12 : decode cX7_isBlade 12 = .ok (.iconst 1, 1) := dk_4 (dk_at dksX7_isBlade_0 12 rfl rfl)
theorem dX7_isBlade_13 : decode cX7_isBlade 13 = .ok (.putfield 54, 3) := dk_181 0 54 (dk_at dksX7_isBlade_0 13 rfl rfl)
theorem dX7_isBlade_16 : decode cX7_isBlade 16 = .ok (.aload_n 0, 1) := dk_42 (dk_at dksX7_isBlade_0 16 rfl rfl)
theorem dX7_isBlade_17 : decode cX7_isBlade 17 = .ok (.getfield 54, 3) := dk_180 0 54 (dk_at dksX7_isBlade_0 17 rfl rfl)
theorem dX7_isBlade_20 : decode cX7_isBlade 20 = .ok (.ifCond .ne 15, 3) := dk_154 0 15 (dk_at dksX7_isBlade_0 20 rfl rfl)
theorem dX7_isBlade_23 : decode cX7_isBlade 23 = .ok (.aload_n 0, 1) := dk_42 (dk_at dksX7_isBlade_0 23 rfl rfl)
theorem dX7_isBlade_24 : decode cX7_isBlade 24 = .ok (.iload_n 1, 1) := dk_27 (dk_at dksX7_isBlade_1 0 rfl rfl)
theorem dX7_isBlade_25 : decode cX7_isBlade 25 = .ok (.invokevirtual 197, 3) := dk_182 0 197 (dk_at dksX7_isBlade_1 1 rfl rfl)
theorem dX7_isBlade_28 : decode cX7_isBlade 28 = .ok (.ifCond .eq 7, 3) := dk_153 0 7 (dk_at dksX7_isBlade_1 4 rfl rfl)
theorem dX7_isBlade_31 : decode cX7_isBlade 31 = .ok (.iconst 1, 1) := dk_4 (dk_at dksX7_isBlade_1 7 rfl rfl)
theorem dX7_isBlade_32 : decode cX7_isBlade 32 = .ok (.goto 4, 3) := dk_167 0 4 (dk_at dksX7_isBlade_1 8 rfl rfl)
theorem dX7_isBlade_35 : decode cX7_isBlade 35 = .ok (.iconst 0, 1) := dk_3 (dk_at dksX7_isBlade_1 11 rfl rfl)
theorem dX7_isBlade_36 : decode cX7_isBlade 36 = .ok (.ireturn, 1) := dk_172 (dk_at dksX7_isBlade_1 12 rfl rfl)
abbrev cX7_isOneBlade : ByteArray := prog_42_method_64_code
def yX7_isOneBlade : MethodName := ⟨RX7, "isOneBlade", "(I)Z"⟩
def dkwX7_isOneBlade_3 : List UInt8 := [132, 5, 1, 167, 255, 210, 21, 4, 172]
abbrev dktX7_isOneBlade_3 : List UInt8 := dkwX7_isOneBlade_3 ++ []
def dkwX7_isOneBlade_2 : List UInt8 := [29, 4, 100, 160, 0, 14, 42, 27, 21, 5, 29, 182, 0, 204, 153, 0, 7, 4, 167, 0, 4, 3, 54, 4]
abbrev dktX7_isOneBlade_2 : List UInt8 := dkwX7_isOneBlade_2 ++ dktX7_isOneBlade_3
def dkwX7_isOneBlade_1 : List UInt8 := [54, 4, 3, 54, 5, 21, 5, 42, 182, 0, 71, 163, 0, 43, 21, 4, 153, 0, 38, 21, 5, 184, 0, 98]
abbrev dktX7_isOneBlade_1 : List UInt8 := dkwX7_isOneBlade_1 ++ dktX7_isOneBlade_2
def dkwX7_isOneBlade_0 : List UInt8 := [42, 27, 182, 0, 182, 61, 28, 184, 0, 98, 4, 159, 0, 5, 3, 172, 28, 4, 100, 184, 0, 98, 62, 4]
abbrev dktX7_isOneBlade_0 : List UInt8 := dkwX7_isOneBlade_0 ++ dktX7_isOneBlade_1
theorem dksX7_isOneBlade_0 : cX7_isOneBlade.data.toList.drop 0 = dktX7_isOneBlade_0 := by decide +kernel
theorem dksX7_isOneBlade_1 : cX7_isOneBlade.data.toList.drop 24 = dktX7_isOneBlade_1 := dk_seg dksX7_isOneBlade_0 24 rfl rfl
theorem dksX7_isOneBlade_2 : cX7_isOneBlade.data.toList.drop 48 = dktX7_isOneBlade_2 := dk_seg dksX7_isOneBlade_1 24 rfl rfl
theorem dksX7_isOneBlade_3 : cX7_isOneBlade.data.toList.drop 72 = dktX7_isOneBlade_3 := dk_seg dksX7_isOneBlade_2 24 rfl rfl
theorem dX7_isOneBlade_0 : decode cX7_isOneBlade 0 = .ok (.aload_n 0, 1) := dk_42 (dk_at dksX7_isOneBlade_0 0 rfl rfl)
theorem dX7_isOneBlade_1 : decode cX7_isOneBlade 1 = .ok (.iload_n 1, 1) := dk_27 (dk_at dksX7_isOneBlade_0 1 rfl rfl)
theorem dX7_isOneBlade_2 : decode cX7_isOneBlade 2 = .ok (.invokevirtual 182, 3) := dk_182 0 182 (dk_at dksX7_isOneBlade_0 2 rfl rfl)
theorem dX7_isOneBlade_5 : decode cX7_isOneBlade 5 = .ok (.istore_n 2, 1) := dk_61 (dk_at dksX7_isOneBlade_0 5 rfl rfl)
theorem dX7_isOneBlade_6 : decode cX7_isOneBlade 6 = .ok (.iload_n 2, 1) := dk_28 (dk_at dksX7_isOneBlade_0 6 rfl rfl)
theorem dX7_isOneBlade_7 : decode cX7_isOneBlade 7 = .ok (.invokestatic 98, 3) := dk_184 0 98 (dk_at dksX7_isOneBlade_0 7 rfl rfl)
theorem dX7_isOneBlade_10 : decode cX7_isOneBlade 10 = .ok (.iconst 1, 1) := dk_4 (dk_at dksX7_isOneBlade_0 10 rfl rfl)
theorem dX7_isOneBlade_11 : decode cX7_isOneBlade 11 = .ok (.if_icmp .eq 5, 3) := dk_159 0 5 (dk_at dksX7_isOneBlade_0 11 rfl rfl)
theorem dX7_isOneBlade_14 : decode cX7_isOneBlade 14 = .ok (.iconst 0, 1) := dk_3 (dk_at dksX7_isOneBlade_0 14 rfl rfl)
theorem dX7_isOneBlade_15 : decode cX7_isOneBlade 15 = .ok (.ireturn, 1) := dk_172 (dk_at dksX7_isOneBlade_0 15 rfl rfl)
theorem dX7_isOneBlade_16 : decode cX7_isOneBlade 16 = .ok (.iload_n 2, 1) := dk_28 (dk_at dksX7_isOneBlade_0 16 rfl rfl)
theorem dX7_isOneBlade_17 : decode cX7_isOneBlade 17 = .ok (.iconst 1, 1) := dk_4 (dk_at dksX7_isOneBlade_0 17 rfl rfl)
theorem dX7_isOneBlade_18 : decode cX7_isOneBlade 18 = .ok (.isub, 1) := dk_100 (dk_at dksX7_isOneBlade_0 18 rfl rfl)
theorem dX7_isOneBlade_19 : decode cX7_isOneBlade 19 = .ok (.invokestatic 98, 3) := dk_184 0 98 (dk_at dksX7_isOneBlade_0 19 rfl rfl)
theorem dX7_isOneBlade_22 : decode cX7_isOneBlade 22 = .ok (.istore_n 3, 1) := dk_62 (dk_at dksX7_isOneBlade_0 22 rfl rfl)
theorem dX7_isOneBlade_23 : decode cX7_isOneBlade 23 = .ok (.iconst 1, 1) := dk_4 (dk_at dksX7_isOneBlade_0 23 rfl rfl)
theorem dX7_isOneBlade_24 : decode cX7_isOneBlade 24 = .ok (.istore 4, 2) := dk_54 4 (dk_at dksX7_isOneBlade_1 0 rfl rfl)
theorem dX7_isOneBlade_26 : decode cX7_isOneBlade 26 = .ok (.iconst 0, 1) := dk_3 (dk_at dksX7_isOneBlade_1 2 rfl rfl)
theorem dX7_isOneBlade_27 : decode cX7_isOneBlade 27 = .ok (.istore 5, 2) := dk_54 5 (dk_at dksX7_isOneBlade_1 3 rfl rfl)
theorem dX7_isOneBlade_29 : decode cX7_isOneBlade 29 = .ok (.iload 5, 2) := dk_21 5 (dk_at dksX7_isOneBlade_1 5 rfl rfl)
theorem dX7_isOneBlade_31 : decode cX7_isOneBlade 31 = .ok (.aload_n 0, 1) := dk_42 (dk_at dksX7_isOneBlade_1 7 rfl rfl)
theorem dX7_isOneBlade_32 : decode cX7_isOneBlade 32 = .ok (.invokevirtual 71, 3) := dk_182 0 71 (dk_at dksX7_isOneBlade_1 8 rfl rfl)
theorem dX7_isOneBlade_35 : decode cX7_isOneBlade 35 = .ok (.if_icmp .gt 43, 3) := dk_163 0 43 (dk_at dksX7_isOneBlade_1 11 rfl rfl)
theorem dX7_isOneBlade_38 : decode cX7_isOneBlade 38 = .ok (.iload 4, 2) := dk_21 4 (dk_at dksX7_isOneBlade_1 14 rfl rfl)
theorem dX7_isOneBlade_40 : decode cX7_isOneBlade 40 = .ok (.ifCond .eq 38, 3) := dk_153 0 38 (dk_at dksX7_isOneBlade_1 16 rfl rfl)
theorem dX7_isOneBlade_43 : decode cX7_isOneBlade 43 = .ok (.iload 5, 2) := dk_21 5 (dk_at dksX7_isOneBlade_1 19 rfl rfl)
theorem dX7_isOneBlade_45 : decode cX7_isOneBlade 45 = .ok (.invokestatic 98, 3) := dk_184 0 98 (dk_at dksX7_isOneBlade_1 21 rfl rfl)
theorem dX7_isOneBlade_48 : decode cX7_isOneBlade 48 = .ok (.iload_n 3, 1) := dk_29 (dk_at dksX7_isOneBlade_2 0 rfl rfl)
theorem dX7_isOneBlade_49 : decode cX7_isOneBlade 49 = .ok (.iconst 1, 1) := dk_4 (dk_at dksX7_isOneBlade_2 1 rfl rfl)
theorem dX7_isOneBlade_50 : decode cX7_isOneBlade 50 = .ok (.isub, 1) := dk_100 (dk_at dksX7_isOneBlade_2 2 rfl rfl)
theorem dX7_isOneBlade_51 : decode cX7_isOneBlade 51 = .ok (.if_icmp .ne 14, 3) := dk_160 0 14 (dk_at dksX7_isOneBlade_2 3 rfl rfl)
theorem dX7_isOneBlade_54 : decode cX7_isOneBlade 54 = .ok (.aload_n 0, 1) := dk_42 (dk_at dksX7_isOneBlade_2 6 rfl rfl)
theorem dX7_isOneBlade_55 : decode cX7_isOneBlade 55 = .ok (.iload_n 1, 1) := dk_27 (dk_at dksX7_isOneBlade_2 7 rfl rfl)
theorem dX7_isOneBlade_56 : decode cX7_isOneBlade 56 = .ok (.iload 5, 2) := dk_21 5 (dk_at dksX7_isOneBlade_2 8 rfl rfl)
theorem dX7_isOneBlade_58 : decode cX7_isOneBlade 58 = .ok (.iload_n 3, 1) := dk_29 (dk_at dksX7_isOneBlade_2 10 rfl rfl)
theorem dX7_isOneBlade_59 : decode cX7_isOneBlade 59 = .ok (.invokevirtual 204, 3) := dk_182 0 204 (dk_at dksX7_isOneBlade_2 11 rfl rfl)
theorem dX7_isOneBlade_62 : decode cX7_isOneBlade 62 = .ok (.ifCond .eq 7, 3) := dk_153 0 7 (dk_at dksX7_isOneBlade_2 14 rfl rfl)
theorem dX7_isOneBlade_65 : decode cX7_isOneBlade 65 = .ok (.iconst 1, 1) := dk_4 (dk_at dksX7_isOneBlade_2 17 rfl rfl)
theorem dX7_isOneBlade_66 : decode cX7_isOneBlade 66 = .ok (.goto 4, 3) := dk_167 0 4 (dk_at dksX7_isOneBlade_2 18 rfl rfl)
theorem dX7_isOneBlade_69 : decode cX7_isOneBlade 69 = .ok (.iconst 0, 1) := dk_3 (dk_at dksX7_isOneBlade_2 21 rfl rfl)
theorem dX7_isOneBlade_70 : decode cX7_isOneBlade 70 = .ok (.istore 4, 2) := dk_54 4 (dk_at dksX7_isOneBlade_2 22 rfl rfl)
theorem dX7_isOneBlade_72 : decode cX7_isOneBlade 72 = .ok (.iinc 5 1, 3) := dk_132 5 1 (dk_at dksX7_isOneBlade_3 0 rfl rfl)
theorem dX7_isOneBlade_75 : decode cX7_isOneBlade 75 = .ok (.goto (-46), 3) := dk_167 255 210 (dk_at dksX7_isOneBlade_3 3 rfl rfl)
theorem dX7_isOneBlade_78 : decode cX7_isOneBlade 78 = .ok (.iload 4, 2) := dk_21 4 (dk_at dksX7_isOneBlade_3 6 rfl rfl)
theorem dX7_isOneBlade_80 : decode cX7_isOneBlade 80 = .ok (.ireturn, 1) := dk_172 (dk_at dksX7_isOneBlade_3 8 rfl rfl)
abbrev cX7_liesIn : ByteArray := prog_42_method_56_code
def yX7_liesIn : MethodName := ⟨RX7, "liesIn", "(III)Z"⟩
def dkwX7_liesIn_6 : List UInt8 := [167, 255, 124, 21, 4, 172]
abbrev dktX7_liesIn_6 : List UInt8 := dkwX7_liesIn_6 ++ []
def dkwX7_liesIn_5 : List UInt8 := [132, 8, 1, 167, 255, 178, 22, 6, 9, 148, 154, 0, 7, 4, 167, 0, 4, 3, 54, 4, 132, 5, 1]
abbrev dktX7_liesIn_5 : List UInt8 := dkwX7_liesIn_5 ++ dktX7_liesIn_6
def dkwX7_liesIn_4 : List UInt8 := [21, 9, 130, 184, 0, 101, 133, 105, 42, 27, 21, 5, 21, 9, 130, 182, 0, 94, 105, 97, 55, 6]
abbrev dktX7_liesIn_4 : List UInt8 := dkwX7_liesIn_4 ++ dktX7_liesIn_5
def dkwX7_liesIn_3 : List UInt8 := [22, 6, 28, 21, 9, 184, 0, 101, 133, 42, 27, 28, 21, 9, 128, 182, 0, 94, 105, 21, 9, 21, 5]
abbrev dktX7_liesIn_3 : List UInt8 := dkwX7_liesIn_3 ++ dktX7_liesIn_4
def dkwX7_liesIn_2 : List UInt8 := [162, 0, 75, 4, 21, 8, 120, 54, 9, 21, 5, 21, 9, 126, 153, 0, 55, 28, 21, 9, 126, 154, 0, 48]
abbrev dktX7_liesIn_2 : List UInt8 := dkwX7_liesIn_2 ++ dktX7_liesIn_3
def dkwX7_liesIn_1 : List UInt8 := [184, 0, 98, 29, 4, 96, 159, 0, 6, 167, 0, 104, 9, 55, 6, 3, 54, 8, 21, 8, 42, 182, 0, 63]
abbrev dktX7_liesIn_1 : List UInt8 := dkwX7_liesIn_1 ++ dktX7_liesIn_2
def dkwX7_liesIn_0 : List UInt8 := [4, 54, 4, 3, 54, 5, 21, 5, 42, 182, 0, 71, 163, 0, 129, 21, 4, 153, 0, 124, 21, 5]
abbrev dktX7_liesIn_0 : List UInt8 := dkwX7_liesIn_0 ++ dktX7_liesIn_1
theorem dksX7_liesIn_0 : cX7_liesIn.data.toList.drop 0 = dktX7_liesIn_0 := by decide +kernel
theorem dksX7_liesIn_1 : cX7_liesIn.data.toList.drop 22 = dktX7_liesIn_1 := dk_seg dksX7_liesIn_0 22 rfl rfl
theorem dksX7_liesIn_2 : cX7_liesIn.data.toList.drop 46 = dktX7_liesIn_2 := dk_seg dksX7_liesIn_1 24 rfl rfl
theorem dksX7_liesIn_3 : cX7_liesIn.data.toList.drop 70 = dktX7_liesIn_3 := dk_seg dksX7_liesIn_2 24 rfl rfl
theorem dksX7_liesIn_4 : cX7_liesIn.data.toList.drop 93 = dktX7_liesIn_4 := dk_seg dksX7_liesIn_3 23 rfl rfl
theorem dksX7_liesIn_5 : cX7_liesIn.data.toList.drop 115 = dktX7_liesIn_5 := dk_seg dksX7_liesIn_4 22 rfl rfl
theorem dksX7_liesIn_6 : cX7_liesIn.data.toList.drop 138 = dktX7_liesIn_6 := dk_seg dksX7_liesIn_5 23 rfl rfl
theorem dX7_liesIn_0 : decode cX7_liesIn 0 = .ok (.iconst 1, 1) := dk_4 (dk_at dksX7_liesIn_0 0 rfl rfl)
theorem dX7_liesIn_1 : decode cX7_liesIn 1 = .ok (.istore 4, 2) := dk_54 4 (dk_at dksX7_liesIn_0 1 rfl rfl)
theorem dX7_liesIn_3 : decode cX7_liesIn 3 = .ok (.iconst 0, 1) := dk_3 (dk_at dksX7_liesIn_0 3 rfl rfl)
theorem dX7_liesIn_4 : decode cX7_liesIn 4 = .ok (.istore 5, 2) := dk_54 5 (dk_at dksX7_liesIn_0 4 rfl rfl)
theorem dX7_liesIn_6 : decode cX7_liesIn 6 = .ok (.iload 5, 2) := dk_21 5 (dk_at dksX7_liesIn_0 6 rfl rfl)
theorem dX7_liesIn_8 : decode cX7_liesIn 8 = .ok (.aload_n 0, 1) := dk_42 (dk_at dksX7_liesIn_0 8 rfl rfl)
theorem dX7_liesIn_9 : decode cX7_liesIn 9 = .ok (.invokevirtual 71, 3) := dk_182 0 71 (dk_at dksX7_liesIn_0 9 rfl rfl)
theorem dX7_liesIn_12 : decode cX7_liesIn 12 = .ok (.if_icmp .gt 129, 3) := dk_163 0 129 (dk_at dksX7_liesIn_0 12 rfl rfl)
theorem dX7_liesIn_15 : decode cX7_liesIn 15 = .ok (.iload 4, 2) := dk_21 4 (dk_at dksX7_liesIn_0 15 rfl rfl)
theorem dX7_liesIn_17 : decode cX7_liesIn 17 = .ok (.ifCond .eq 124, 3) := dk_153 0 124 (dk_at dksX7_liesIn_0 17 rfl rfl)
theorem dX7_liesIn_20 : decode cX7_liesIn 20 = .ok (.iload 5, 2) := dk_21 5 (dk_at dksX7_liesIn_0 20 rfl rfl)
theorem dX7_liesIn_22 : decode cX7_liesIn 22 = .ok (.invokestatic 98, 3) := dk_184 0 98 (dk_at dksX7_liesIn_1 0 rfl rfl)
theorem dX7_liesIn_25 : decode cX7_liesIn 25 = .ok (.iload_n 3, 1) := dk_29 (dk_at dksX7_liesIn_1 3 rfl rfl)
theorem dX7_liesIn_26 : decode cX7_liesIn 26 = .ok (.iconst 1, 1) := dk_4 (dk_at dksX7_liesIn_1 4 rfl rfl)
theorem dX7_liesIn_27 : decode cX7_liesIn 27 = .ok (.iadd, 1) := dk_96 (dk_at dksX7_liesIn_1 5 rfl rfl)
theorem dX7_liesIn_28 : decode cX7_liesIn 28 = .ok (.if_icmp .eq 6, 3) := dk_159 0 6 (dk_at dksX7_liesIn_1 6 rfl rfl)
theorem dX7_liesIn_31 : decode cX7_liesIn 31 = .ok (.goto 104, 3) := dk_167 0 104 (dk_at dksX7_liesIn_1 9 rfl rfl)
theorem dX7_liesIn_34 : decode cX7_liesIn 34 = .ok (.lconst 0, 1) := dk_9 (dk_at dksX7_liesIn_1 12 rfl rfl)
theorem dX7_liesIn_35 : decode cX7_liesIn 35 = .ok (.lstore 6, 2) := dk_55 6 (dk_at dksX7_liesIn_1 13 rfl rfl)
theorem dX7_liesIn_37 : decode cX7_liesIn 37 = .ok (.iconst 0, 1) := dk_3 (dk_at dksX7_liesIn_1 15 rfl rfl)
theorem dX7_liesIn_38 : decode cX7_liesIn 38 = .ok (.istore 8, 2) := dk_54 8 (dk_at dksX7_liesIn_1 16 rfl rfl)
theorem dX7_liesIn_40 : decode cX7_liesIn 40 = .ok (.iload 8, 2) := dk_21 8 (dk_at dksX7_liesIn_1 18 rfl rfl)
theorem dX7_liesIn_42 : decode cX7_liesIn 42 = .ok (.aload_n 0, 1) := dk_42 (dk_at dksX7_liesIn_1 20 rfl rfl)
theorem dX7_liesIn_43 : decode cX7_liesIn 43 = .ok (.invokevirtual 63, 3) := dk_182 0 63 (dk_at dksX7_liesIn_1 21 rfl rfl)
theorem dX7_liesIn_46 : decode cX7_liesIn 46 = .ok (.if_icmp .ge 75, 3) := dk_162 0 75 (dk_at dksX7_liesIn_2 0 rfl rfl)
theorem dX7_liesIn_49 : decode cX7_liesIn 49 = .ok (.iconst 1, 1) := dk_4 (dk_at dksX7_liesIn_2 3 rfl rfl)
theorem dX7_liesIn_50 : decode cX7_liesIn 50 = .ok (.iload 8, 2) := dk_21 8 (dk_at dksX7_liesIn_2 4 rfl rfl)
theorem dX7_liesIn_52 : decode cX7_liesIn 52 = .ok (.ishl, 1) := dk_120 (dk_at dksX7_liesIn_2 6 rfl rfl)
theorem dX7_liesIn_53 : decode cX7_liesIn 53 = .ok (.istore 9, 2) := dk_54 9 (dk_at dksX7_liesIn_2 7 rfl rfl)
theorem dX7_liesIn_55 : decode cX7_liesIn 55 = .ok (.iload 5, 2) := dk_21 5 (dk_at dksX7_liesIn_2 9 rfl rfl)
theorem dX7_liesIn_57 : decode cX7_liesIn 57 = .ok (.iload 9, 2) := dk_21 9 (dk_at dksX7_liesIn_2 11 rfl rfl)
theorem dX7_liesIn_59 : decode cX7_liesIn 59 = .ok (.iand, 1) := dk_126 (dk_at dksX7_liesIn_2 13 rfl rfl)
theorem dX7_liesIn_60 : decode cX7_liesIn 60 = .ok (.ifCond .eq 55, 3) := dk_153 0 55 (dk_at dksX7_liesIn_2 14 rfl rfl)
theorem dX7_liesIn_63 : decode cX7_liesIn 63 = .ok (.iload_n 2, 1) := dk_28 (dk_at dksX7_liesIn_2 17 rfl rfl)
theorem dX7_liesIn_64 : decode cX7_liesIn 64 = .ok (.iload 9, 2) := dk_21 9 (dk_at dksX7_liesIn_2 18 rfl rfl)
theorem dX7_liesIn_66 : decode cX7_liesIn 66 = .ok (.iand, 1) := dk_126 (dk_at dksX7_liesIn_2 20 rfl rfl)
theorem dX7_liesIn_67 : decode cX7_liesIn 67 = .ok (.ifCond .ne 48, 3) := dk_154 0 48 (dk_at dksX7_liesIn_2 21 rfl rfl)
theorem dX7_liesIn_70 : decode cX7_liesIn 70 = .ok (.lload 6, 2) := dk_22 6 (dk_at dksX7_liesIn_3 0 rfl rfl)
theorem dX7_liesIn_72 : decode cX7_liesIn 72 = .ok (.iload_n 2, 1) := dk_28 (dk_at dksX7_liesIn_3 2 rfl rfl)
theorem dX7_liesIn_73 : decode cX7_liesIn 73 = .ok (.iload 9, 2) := dk_21 9 (dk_at dksX7_liesIn_3 3 rfl rfl)
theorem dX7_liesIn_75 : decode cX7_liesIn 75 = .ok (.invokestatic 101, 3) := dk_184 0 101 (dk_at dksX7_liesIn_3 5 rfl rfl)
theorem dX7_liesIn_78 : decode cX7_liesIn 78 = .ok (.i2l, 1) := dk_133 (dk_at dksX7_liesIn_3 8 rfl rfl)
theorem dX7_liesIn_79 : decode cX7_liesIn 79 = .ok (.aload_n 0, 1) := dk_42 (dk_at dksX7_liesIn_3 9 rfl rfl)
theorem dX7_liesIn_80 : decode cX7_liesIn 80 = .ok (.iload_n 1, 1) := dk_27 (dk_at dksX7_liesIn_3 10 rfl rfl)
theorem dX7_liesIn_81 : decode cX7_liesIn 81 = .ok (.iload_n 2, 1) := dk_28 (dk_at dksX7_liesIn_3 11 rfl rfl)
theorem dX7_liesIn_82 : decode cX7_liesIn 82 = .ok (.iload 9, 2) := dk_21 9 (dk_at dksX7_liesIn_3 12 rfl rfl)
theorem dX7_liesIn_84 : decode cX7_liesIn 84 = .ok (.ior, 1) := dk_128 (dk_at dksX7_liesIn_3 14 rfl rfl)
theorem dX7_liesIn_85 : decode cX7_liesIn 85 = .ok (.invokevirtual 94, 3) := dk_182 0 94 (dk_at dksX7_liesIn_3 15 rfl rfl)
theorem dX7_liesIn_88 : decode cX7_liesIn 88 = .ok (.lmul, 1) := dk_105 (dk_at dksX7_liesIn_3 18 rfl rfl)
theorem dX7_liesIn_89 : decode cX7_liesIn 89 = .ok (.iload 9, 2) := dk_21 9 (dk_at dksX7_liesIn_3 19 rfl rfl)
theorem dX7_liesIn_91 : decode cX7_liesIn 91 = .ok (.iload 5, 2) := dk_21 5 (dk_at dksX7_liesIn_3 21 rfl rfl)
theorem dX7_liesIn_93 : decode cX7_liesIn 93 = .ok (.iload 9, 2) := dk_21 9 (dk_at dksX7_liesIn_4 0 rfl rfl)
theorem dX7_liesIn_95 : decode cX7_liesIn 95 = .ok (.ixor, 1) := dk_130 (dk_at dksX7_liesIn_4 2 rfl rfl)
theorem dX7_liesIn_96 : decode cX7_liesIn 96 = .ok (.invokestatic 101, 3) := dk_184 0 101 (dk_at dksX7_liesIn_4 3 rfl rfl)
theorem dX7_liesIn_99 : decode cX7_liesIn 99 = .ok (.i2l, 1) := dk_133 (dk_at dksX7_liesIn_4 6 rfl rfl)
theorem dX7_liesIn_100 : decode cX7_liesIn 100 = .ok (.lmul, 1) := dk_105 (dk_at dksX7_liesIn_4 7 rfl rfl)
theorem dX7_liesIn_101 : decode cX7_liesIn 101 = .ok (.aload_n 0, 1) := dk_42 (dk_at dksX7_liesIn_4 8 rfl rfl)
theorem dX7_liesIn_102 : decode cX7_liesIn 102 = .ok (.iload_n 1, 1) := dk_27 (dk_at dksX7_liesIn_4 9 rfl rfl)
theorem dX7_liesIn_103 : decode cX7_liesIn 103 = .ok (.iload 5, 2) := dk_21 5 (dk_at dksX7_liesIn_4 10 rfl rfl)
theorem dX7_liesIn_105 : decode cX7_liesIn 105 = .ok (.iload 9, 2) := dk_21 9 (dk_at dksX7_liesIn_4 12 rfl rfl)
theorem dX7_liesIn_107 : decode cX7_liesIn 107 = .ok (.ixor, 1) := dk_130 (dk_at dksX7_liesIn_4 14 rfl rfl)
theorem dX7_liesIn_108 : decode cX7_liesIn 108 = .ok (.invokevirtual 94, 3) := dk_182 0 94 (dk_at dksX7_liesIn_4 15 rfl rfl)
theorem dX7_liesIn_111 : decode cX7_liesIn 111 = .ok (.lmul, 1) := dk_105 (dk_at dksX7_liesIn_4 18 rfl rfl)
theorem dX7_liesIn_112 : decode cX7_liesIn 112 = .ok (.ladd, 1) := dk_97 (dk_at dksX7_liesIn_4 19 rfl rfl)
theorem dX7_liesIn_113 : decode cX7_liesIn 113 = .ok (.lstore 6, 2) := dk_55 6 (dk_at dksX7_liesIn_4 20 rfl rfl)
theorem dX7_liesIn_115 : decode cX7_liesIn 115 = .ok (.iinc 8 1, 3) := dk_132 8 1 (dk_at dksX7_liesIn_5 0 rfl rfl)
theorem dX7_liesIn_118 : decode cX7_liesIn 118 = .ok (.goto (-78), 3) := dk_167 255 178 (dk_at dksX7_liesIn_5 3 rfl rfl)
theorem dX7_liesIn_121 : decode cX7_liesIn 121 = .ok (.lload 6, 2) := dk_22 6 (dk_at dksX7_liesIn_5 6 rfl rfl)
theorem dX7_liesIn_123 : decode cX7_liesIn 123 = .ok (.lconst 0, 1) := dk_9 (dk_at dksX7_liesIn_5 8 rfl rfl)
theorem dX7_liesIn_124 : decode cX7_liesIn 124 = .ok (.lcmp, 1) := dk_148 (dk_at dksX7_liesIn_5 9 rfl rfl)
theorem dX7_liesIn_125 : decode cX7_liesIn 125 = .ok (.ifCond .ne 7, 3) := dk_154 0 7 (dk_at dksX7_liesIn_5 10 rfl rfl)
theorem dX7_liesIn_128 : decode cX7_liesIn 128 = .ok (.iconst 1, 1) := dk_4 (dk_at dksX7_liesIn_5 13 rfl rfl)
theorem dX7_liesIn_129 : decode cX7_liesIn 129 = .ok (.goto 4, 3) := dk_167 0 4 (dk_at dksX7_liesIn_5 14 rfl rfl)
theorem dX7_liesIn_132 : decode cX7_liesIn 132 = .ok (.iconst 0, 1) := dk_3 (dk_at dksX7_liesIn_5 17 rfl rfl)
theorem dX7_liesIn_133 : decode cX7_liesIn 133 = .ok (.istore 4, 2) := dk_54 4 (dk_at dksX7_liesIn_5 18 rfl rfl)
theorem dX7_liesIn_135 : decode cX7_liesIn 135 = .ok (.iinc 5 1, 3) := dk_132 5 1 (dk_at dksX7_liesIn_5 20 rfl rfl)
theorem dX7_liesIn_138 : decode cX7_liesIn 138 = .ok (.goto (-132), 3) := dk_167 255 124 (dk_at dksX7_liesIn_6 0 rfl rfl)
theorem dX7_liesIn_141 : decode cX7_liesIn 141 = .ok (.iload 4, 2) := dk_21 4 (dk_at dksX7_liesIn_6 3 rfl rfl)
theorem dX7_liesIn_143 : decode cX7_liesIn 143 = .ok (.ireturn, 1) := dk_172 (dk_at dksX7_liesIn_6 5 rfl rfl)
abbrev cX7_isVersor : ByteArray := prog_42_method_58_code
def yX7_isVersor : MethodName := ⟨RX7, "isVersor", "(I)Z"⟩
def dkwX7_isVersor_5 : List UInt8 := [167, 255, 196, 28, 172]
abbrev dktX7_isVersor_5 : List UInt8 := dkwX7_isVersor_5 ++ []
def dkwX7_isVersor_4 : List UInt8 := [182, 0, 188, 154, 0, 10, 42, 5, 181, 0, 54, 3, 172, 42, 16, 28, 182, 0, 191, 61, 132, 3, 1]
abbrev dktX7_isVersor_4 : List UInt8 := dkwX7_isVersor_4 ++ dktX7_isVersor_5
def dkwX7_isVersor_3 : List UInt8 := [16, 29, 182, 0, 169, 42, 180, 0, 27, 17, 3, 190, 4, 29, 120, 96, 10, 80, 42, 27, 16, 29, 16, 28]
abbrev dktX7_isVersor_3 : List UInt8 := dkwX7_isVersor_3 ++ dktX7_isVersor_4
def dkwX7_isVersor_2 : List UInt8 := [3, 172, 42, 16, 25, 182, 0, 163, 61, 3, 62, 29, 42, 182, 0, 63, 162, 0, 58, 28, 153, 0, 54, 42]
abbrev dktX7_isVersor_2 : List UInt8 := dkwX7_isVersor_2 ++ dktX7_isVersor_3
def dkwX7_isVersor_1 : List UInt8 := [27, 182, 0, 185, 153, 0, 5, 3, 172, 42, 27, 16, 25, 182, 0, 159, 154, 0, 10, 42, 5, 181, 0, 54]
abbrev dktX7_isVersor_1 : List UInt8 := dkwX7_isVersor_1 ++ dktX7_isVersor_2
def dkwX7_isVersor_0 : List UInt8 := [42, 27, 184, 0, 147, 153, 0, 7, 3, 167, 0, 4, 4, 181, 0, 54, 42, 180, 0, 54, 157, 0, 11, 42]
abbrev dktX7_isVersor_0 : List UInt8 := dkwX7_isVersor_0 ++ dktX7_isVersor_1
theorem dksX7_isVersor_0 : cX7_isVersor.data.toList.drop 0 = dktX7_isVersor_0 := by decide +kernel
theorem dksX7_isVersor_1 : cX7_isVersor.data.toList.drop 24 = dktX7_isVersor_1 := dk_seg dksX7_isVersor_0 24 rfl rfl
theorem dksX7_isVersor_2 : cX7_isVersor.data.toList.drop 48 = dktX7_isVersor_2 := dk_seg dksX7_isVersor_1 24 rfl rfl
theorem dksX7_isVersor_3 : cX7_isVersor.data.toList.drop 72 = dktX7_isVersor_3 := dk_seg dksX7_isVersor_2 24 rfl rfl
theorem dksX7_isVersor_4 : cX7_isVersor.data.toList.drop 96 = dktX7_isVersor_4 := dk_seg dksX7_isVersor_3 24 rfl rfl
theorem dksX7_isVersor_5 : cX7_isVersor.data.toList.drop 119 = dktX7_isVersor_5 := dk_seg dksX7_isVersor_4 23 rfl rfl
theorem dX7_isVersor_0 : decode cX7_isVersor 0 = .ok (.aload_n 0, 1) := dk_42 (dk_at dksX7_isVersor_0 0 rfl rfl)
theorem dX7_isVersor_1 : decode cX7_isVersor 1 = .ok (.iload_n 1, 1) := dk_27 (dk_at dksX7_isVersor_0 1 rfl rfl)
theorem dX7_isVersor_2 : decode cX7_isVersor 2 = .ok (.invokestatic 147, 3) := dk_184 0 147 (dk_at dksX7_isVersor_0 2 rfl rfl)
theorem dX7_isVersor_5 : decode cX7_isVersor 5 = .ok (.ifCond .eq 7, 3) := dk_153 0 7 (dk_at dksX7_isVersor_0 5 rfl rfl)
theorem dX7_isVersor_8 : decode cX7_isVersor 8 = .ok (.iconst 0, 1) := dk_3 (dk_at dksX7_isVersor_0 8 rfl rfl)
theorem dX7_isVersor_9 : decode cX7_isVersor 9 = .ok (.goto 4, 3) := dk_167 0 4 (dk_at dksX7_isVersor_0 9 rfl rfl)
theorem dX7_isVersor_12 : decode cX7_isVersor 12 = .ok (.iconst 1, 1) := dk_4 (dk_at dksX7_isVersor_0 12 rfl rfl)
theorem dX7_isVersor_13 : decode cX7_isVersor 13 = .ok (.putfield 54, 3) := dk_181 0 54 (dk_at dksX7_isVersor_0 13 rfl rfl)
theorem dX7_isVersor_16 : decode cX7_isVersor 16 = .ok (.aload_n 0, 1) := dk_42 (dk_at dksX7_isVersor_0 16 rfl rfl)
theorem dX7_isVersor_17 : decode cX7_isVersor 17 = .ok (.getfield 54, 3) := dk_180 0 54 (dk_at dksX7_isVersor_0 17 rfl rfl)
theorem dX7_isVersor_20 : decode cX7_isVersor 20 = .ok (.ifCond .gt 11, 3) := dk_157 0 11 (dk_at dksX7_isVersor_0 20 rfl rfl)
theorem dX7_isVersor_23 : decode cX7_isVersor 23 = .ok (.aload_n 0, 1) := dk_42 (dk_at dksX7_isVersor_0 23 rfl rfl)
theorem dX7_isVersor_24 : decode cX7_isVersor 24 = .ok (.iload_n 1, 1) := dk_27 (dk_at dksX7_isVersor_1 0 rfl rfl)
theorem dX7_isVersor_25 : decode cX7_isVersor 25 = .ok (.invokevirtual 185, 3) := dk_182 0 185 (dk_at dksX7_isVersor_1 1 rfl rfl)
theorem dX7_isVersor_28 : decode cX7_isVersor 28 = .ok (.ifCond .eq 5, 3) := dk_153 0 5 (dk_at dksX7_isVersor_1 4 rfl rfl)
theorem dX7_isVersor_31 : decode cX7_isVersor 31 = .ok (.iconst 0, 1) := dk_3 (dk_at dksX7_isVersor_1 7 rfl rfl)
theorem dX7_isVersor_32 : decode cX7_isVersor 32 = .ok (.ireturn, 1) := dk_172 (dk_at dksX7_isVersor_1 8 rfl rfl)
theorem dX7_isVersor_33 : decode cX7_isVersor 33 = .ok (.aload_n 0, 1) := dk_42 (dk_at dksX7_isVersor_1 9 rfl rfl)
theorem dX7_isVersor_34 : decode cX7_isVersor 34 = .ok (.iload_n 1, 1) := dk_27 (dk_at dksX7_isVersor_1 10 rfl rfl)
theorem dX7_isVersor_35 : decode cX7_isVersor 35 = .ok (.bipush 25, 2) := dk_16 25 (dk_at dksX7_isVersor_1 11 rfl rfl)
theorem dX7_isVersor_37 : decode cX7_isVersor 37 = .ok (.invokevirtual 159, 3) := dk_182 0 159 (dk_at dksX7_isVersor_1 13 rfl rfl)
theorem dX7_isVersor_40 : decode cX7_isVersor 40 = .ok (.ifCond .ne 10, 3) := dk_154 0 10 (dk_at dksX7_isVersor_1 16 rfl rfl)
theorem dX7_isVersor_43 : decode cX7_isVersor 43 = .ok (.aload_n 0, 1) := dk_42 (dk_at dksX7_isVersor_1 19 rfl rfl)
theorem dX7_isVersor_44 : decode cX7_isVersor 44 = .ok (.iconst 2, 1) := dk_5 (dk_at dksX7_isVersor_1 20 rfl rfl)
theorem dX7_isVersor_45 : decode cX7_isVersor 45 = .ok (.putfield 54, 3) := dk_181 0 54 (dk_at dksX7_isVersor_1 21 rfl rfl)
theorem dX7_isVersor_48 : decode cX7_isVersor 48 = .ok (.iconst 0, 1) := dk_3 (dk_at dksX7_isVersor_2 0 rfl rfl)
theorem dX7_isVersor_49 : decode cX7_isVersor 49 = .ok (.ireturn, 1) := dk_172 (dk_at dksX7_isVersor_2 1 rfl rfl)
theorem dX7_isVersor_50 : decode cX7_isVersor 50 = .ok (.aload_n 0, 1) := dk_42 (dk_at dksX7_isVersor_2 2 rfl rfl)
theorem dX7_isVersor_51 : decode cX7_isVersor 51 = .ok (.bipush 25, 2) := dk_16 25 (dk_at dksX7_isVersor_2 3 rfl rfl)
theorem dX7_isVersor_53 : decode cX7_isVersor 53 = .ok (.invokevirtual 163, 3) := dk_182 0 163 (dk_at dksX7_isVersor_2 5 rfl rfl)
theorem dX7_isVersor_56 : decode cX7_isVersor 56 = .ok (.istore_n 2, 1) := dk_61 (dk_at dksX7_isVersor_2 8 rfl rfl)
theorem dX7_isVersor_57 : decode cX7_isVersor 57 = .ok (.iconst 0, 1) := dk_3 (dk_at dksX7_isVersor_2 9 rfl rfl)
theorem dX7_isVersor_58 : decode cX7_isVersor 58 = .ok (.istore_n 3, 1) := dk_62 (dk_at dksX7_isVersor_2 10 rfl rfl)
theorem dX7_isVersor_59 : decode cX7_isVersor 59 = .ok (.iload_n 3, 1) := dk_29 (dk_at dksX7_isVersor_2 11 rfl rfl)
theorem dX7_isVersor_60 : decode cX7_isVersor 60 = .ok (.aload_n 0, 1) := dk_42 (dk_at dksX7_isVersor_2 12 rfl rfl)
theorem dX7_isVersor_61 : decode cX7_isVersor 61 = .ok (.invokevirtual 63, 3) := dk_182 0 63 (dk_at dksX7_isVersor_2 13 rfl rfl)
theorem dX7_isVersor_64 : decode cX7_isVersor 64 = .ok (.if_icmp .ge 58, 3) := dk_162 0 58 (dk_at dksX7_isVersor_2 16 rfl rfl)
theorem dX7_isVersor_67 : decode cX7_isVersor 67 = .ok (.iload_n 2, 1) := dk_28 (dk_at dksX7_isVersor_2 19 rfl rfl)
theorem dX7_isVersor_68 : decode cX7_isVersor 68 = .ok (.ifCond .eq 54, 3) := dk_153 0 54 (dk_at dksX7_isVersor_2 20 rfl rfl)
theorem dX7_isVersor_71 : decode cX7_isVersor 71 = .ok (.aload_n 0, 1) := dk_42 (dk_at dksX7_isVersor_2 23 rfl rfl)
theorem dX7_isVersor_72 : decode cX7_isVersor 72 = .ok (.bipush 29, 2) := dk_16 29 (dk_at dksX7_isVersor_3 0 rfl rfl)
theorem dX7_isVersor_74 : decode cX7_isVersor 74 = .ok (.invokevirtual 169, 3) := dk_182 0 169 (dk_at dksX7_isVersor_3 2 rfl rfl)
theorem dX7_isVersor_77 : decode cX7_isVersor 77 = .ok (.aload_n 0, 1) := dk_42 (dk_at dksX7_isVersor_3 5 rfl rfl)
theorem dX7_isVersor_78 : decode cX7_isVersor 78 = .ok (.getfield 27, 3) := dk_180 0 27 (dk_at dksX7_isVersor_3 6 rfl rfl)
theorem dX7_isVersor_81 : decode cX7_isVersor 81 = .ok (.sipush 958, 3) := dk_17 3 190 (dk_at dksX7_isVersor_3 9 rfl rfl)
theorem dX7_isVersor_84 : decode cX7_isVersor 84 = .ok (.iconst 1, 1) := dk_4 (dk_at dksX7_isVersor_3 12 rfl rfl)
theorem dX7_isVersor_85 : decode cX7_isVersor 85 = .ok (.iload_n 3, 1) := dk_29 (dk_at dksX7_isVersor_3 13 rfl rfl)
theorem dX7_isVersor_86 : decode cX7_isVersor 86 = .ok (.ishl, 1) := dk_120 (dk_at dksX7_isVersor_3 14 rfl rfl)
theorem dX7_isVersor_87 : decode cX7_isVersor 87 = .ok (.iadd, 1) := dk_96 (dk_at dksX7_isVersor_3 15 rfl rfl)
theorem dX7_isVersor_88 : decode cX7_isVersor 88 = .ok (.lconst 1, 1) := dk_10 (dk_at dksX7_isVersor_3 16 rfl rfl)
theorem dX7_isVersor_89 : decode cX7_isVersor 89 = .ok (.lastore, 1) := dk_80 (dk_at dksX7_isVersor_3 17 rfl rfl)
theorem dX7_isVersor_90 : decode cX7_isVersor 90 = .ok (.aload_n 0, 1) := dk_42 (dk_at dksX7_isVersor_3 18 rfl rfl)
theorem dX7_isVersor_91 : decode cX7_isVersor 91 = .ok (.iload_n 1, 1) := dk_27 (dk_at dksX7_isVersor_3 19 rfl rfl)
theorem dX7_isVersor_92 : decode cX7_isVersor 92 = .ok (.bipush 29, 2) := dk_16 29 (dk_at dksX7_isVersor_3 20 rfl rfl)
theorem dX7_isVersor_94 : decode cX7_isVersor 94 = .ok (.bipush 28, 2) := dk_16 28 (dk_at dksX7_isVersor_3 22 rfl rfl)
theorem dX7_isVersor_96 : decode cX7_isVersor 96 = .ok (.invokevirtual 188, 3) := dk_182 0 188 (dk_at dksX7_isVersor_4 0 rfl rfl)
theorem dX7_isVersor_99 : decode cX7_isVersor 99 = .ok (.ifCond .ne 10, 3) := dk_154 0 10 (dk_at dksX7_isVersor_4 3 rfl rfl)
theorem dX7_isVersor_102 : decode cX7_isVersor 102 = .ok (.aload_n 0, 1) := dk_42 (dk_at dksX7_isVersor_4 6 rfl rfl)
theorem dX7_isVersor_103 : decode cX7_isVersor 103 = .ok (.iconst 2, 1) := dk_5 (dk_at dksX7_isVersor_4 7 rfl rfl)
theorem dX7_isVersor_104 : decode cX7_isVersor 104 = .ok (.putfield 54, 3) := dk_181 0 54 (dk_at dksX7_isVersor_4 8 rfl rfl)
theorem dX7_isVersor_107 : decode cX7_isVersor 107 = .ok (.iconst 0, 1) := dk_3 (dk_at dksX7_isVersor_4 11 rfl rfl)
theorem dX7_isVersor_108 : decode cX7_isVersor 108 = .ok (.ireturn, 1) := dk_172 (dk_at dksX7_isVersor_4 12 rfl rfl)
theorem dX7_isVersor_109 : decode cX7_isVersor 109 = .ok (.aload_n 0, 1) := dk_42 (dk_at dksX7_isVersor_4 13 rfl rfl)
theorem dX7_isVersor_110 : decode cX7_isVersor 110 = .ok (.bipush 28, 2) := dk_16 28 (dk_at dksX7_isVersor_4 14 rfl rfl)
theorem dX7_isVersor_112 : decode cX7_isVersor 112 = .ok (.invokevirtual 191, 3) := dk_182 0 191 (dk_at dksX7_isVersor_4 16 rfl rfl)
theorem dX7_isVersor_115 : decode cX7_isVersor 115 = .ok (.istore_n 2, 1) := dk_61 (dk_at dksX7_isVersor_4 19 rfl rfl)
theorem dX7_isVersor_116 : decode cX7_isVersor 116 = .ok (.iinc 3 1, 3) := dk_132 3 1 (dk_at dksX7_isVersor_4 20 rfl rfl)
theorem dX7_isVersor_119 : decode cX7_isVersor 119 = .ok (.goto (-60), 3) := dk_167 255 196 (dk_at dksX7_isVersor_5 0 rfl rfl)
theorem dX7_isVersor_122 : decode cX7_isVersor 122 = .ok (.iload_n 2, 1) := dk_28 (dk_at dksX7_isVersor_5 3 rfl rfl)
theorem dX7_isVersor_123 : decode cX7_isVersor 123 = .ok (.ireturn, 1) := dk_172 (dk_at dksX7_isVersor_5 4 rfl rfl)
abbrev cX7_commute : ByteArray := prog_42_method_59_code
def yX7_commute : MethodName := ⟨RX7, "commute", "(II)Z"⟩
def dkwX7_commute_3 : List UInt8 := [42, 16, 25, 16, 26, 182, 0, 194, 153, 0, 7, 4, 167, 0, 4, 3, 172]
abbrev dktX7_commute_3 : List UInt8 := dkwX7_commute_3 ++ []
def dkwX7_commute_2 : List UInt8 := [27, 16, 26, 182, 0, 131, 153, 0, 7, 3, 167, 0, 4, 5, 181, 0, 54, 42, 180, 0, 54, 154, 0, 18]
abbrev dktX7_commute_2 : List UInt8 := dkwX7_commute_2 ++ dktX7_commute_3
def dkwX7_commute_1 : List UInt8 := [180, 0, 54, 158, 0, 5, 3, 172, 42, 42, 5, 27, 28, 16, 25, 182, 0, 131, 153, 0, 19, 42, 5, 28]
abbrev dktX7_commute_1 : List UInt8 := dkwX7_commute_1 ++ dktX7_commute_2
def dkwX7_commute_0 : List UInt8 := [42, 27, 184, 0, 147, 153, 0, 14, 28, 184, 0, 147, 153, 0, 7, 3, 167, 0, 4, 4, 181, 0, 54, 42]
abbrev dktX7_commute_0 : List UInt8 := dkwX7_commute_0 ++ dktX7_commute_1
theorem dksX7_commute_0 : cX7_commute.data.toList.drop 0 = dktX7_commute_0 := by decide +kernel
theorem dksX7_commute_1 : cX7_commute.data.toList.drop 24 = dktX7_commute_1 := dk_seg dksX7_commute_0 24 rfl rfl
theorem dksX7_commute_2 : cX7_commute.data.toList.drop 48 = dktX7_commute_2 := dk_seg dksX7_commute_1 24 rfl rfl
theorem dksX7_commute_3 : cX7_commute.data.toList.drop 72 = dktX7_commute_3 := dk_seg dksX7_commute_2 24 rfl rfl
theorem dX7_commute_0 : decode cX7_commute 0 = .ok (.aload_n 0, 1) := dk_42 (dk_at dksX7_commute_0 0 rfl rfl)
theorem dX7_commute_1 : decode cX7_commute 1 = .ok (.iload_n 1, 1) := dk_27 (dk_at dksX7_commute_0 1 rfl rfl)
theorem dX7_commute_2 : decode cX7_commute 2 = .ok (.invokestatic 147, 3) := dk_184 0 147 (dk_at dksX7_commute_0 2 rfl rfl)
theorem dX7_commute_5 : decode cX7_commute 5 = .ok (.ifCond .eq 14, 3) := dk_153 0 14 (dk_at dksX7_commute_0 5 rfl rfl)
theorem dX7_commute_8 : decode cX7_commute 8 = .ok (.iload_n 2, 1) := dk_28 (dk_at dksX7_commute_0 8 rfl rfl)
theorem dX7_commute_9 : decode cX7_commute 9 = .ok (.invokestatic 147, 3) := dk_184 0 147 (dk_at dksX7_commute_0 9 rfl rfl)
theorem dX7_commute_12 : decode cX7_commute 12 = .ok (.ifCond .eq 7, 3) := dk_153 0 7 (dk_at dksX7_commute_0 12 rfl rfl)
theorem dX7_commute_15 : decode cX7_commute 15 = .ok (.iconst 0, 1) := dk_3 (dk_at dksX7_commute_0 15 rfl rfl)
theorem dX7_commute_16 : decode cX7_commute 16 = .ok (.goto 4, 3) := dk_167 0 4 (dk_at dksX7_commute_0 16 rfl rfl)
theorem dX7_commute_19 : decode cX7_commute 19 = .ok (.iconst 1, 1) := dk_4 (dk_at dksX7_commute_0 19 rfl rfl)
theorem dX7_commute_20 : decode cX7_commute 20 = .ok (.putfield 54, 3) := dk_181 0 54 (dk_at dksX7_commute_0 20 rfl rfl)
theorem dX7_commute_23 : decode cX7_commute 23 = .ok (.aload_n 0, 1) := dk_42 (dk_at dksX7_commute_0 23 rfl rfl)
theorem dX7_commute_24 : decode cX7_commute 24 = .ok (.getfield 54, 3) := dk_180 0 54 (dk_at dksX7_commute_1 0 rfl rfl)
theorem dX7_commute_27 : decode cX7_commute 27 = .ok (.ifCond .le 5, 3) := dk_158 0 5 (dk_at dksX7_commute_1 3 rfl rfl)
theorem dX7_commute_30 : decode cX7_commute 30 = .ok (.iconst 0, 1) := dk_3 (dk_at dksX7_commute_1 6 rfl rfl)
theorem dX7_commute_31 : decode cX7_commute 31 = .ok (.ireturn, 1) := dk_172 (dk_at dksX7_commute_1 7 rfl rfl)
theorem dX7_commute_32 : decode cX7_commute 32 = .ok (.aload_n 0, 1) := dk_42 (dk_at dksX7_commute_1 8 rfl rfl)
theorem dX7_commute_33 : decode cX7_commute 33 = .ok (.aload_n 0, 1) := dk_42 (dk_at dksX7_commute_1 9 rfl rfl)
theorem dX7_commute_34 : decode cX7_commute 34 = .ok (.iconst 2, 1) := dk_5 (dk_at dksX7_commute_1 10 rfl rfl)
theorem dX7_commute_35 : decode cX7_commute 35 = .ok (.iload_n 1, 1) := dk_27 (dk_at dksX7_commute_1 11 rfl rfl)
theorem dX7_commute_36 : decode cX7_commute 36 = .ok (.iload_n 2, 1) := dk_28 (dk_at dksX7_commute_1 12 rfl rfl)
theorem dX7_commute_37 : decode cX7_commute 37 = .ok (.bipush 25, 2) := dk_16 25 (dk_at dksX7_commute_1 13 rfl rfl)
theorem dX7_commute_39 : decode cX7_commute 39 = .ok (.invokevirtual 131, 3) := dk_182 0 131 (dk_at dksX7_commute_1 15 rfl rfl)
theorem dX7_commute_42 : decode cX7_commute 42 = .ok (.ifCond .eq 19, 3) := dk_153 0 19 (dk_at dksX7_commute_1 18 rfl rfl)
theorem dX7_commute_45 : decode cX7_commute 45 = .ok (.aload_n 0, 1) := dk_42 (dk_at dksX7_commute_1 21 rfl rfl)
theorem dX7_commute_46 : decode cX7_commute 46 = .ok (.iconst 2, 1) := dk_5 (dk_at dksX7_commute_1 22 rfl rfl)
theorem dX7_commute_47 : decode cX7_commute 47 = .ok (.iload_n 2, 1) := dk_28 (dk_at dksX7_commute_1 23 rfl rfl)
theorem dX7_commute_48 : decode cX7_commute 48 = .ok (.iload_n 1, 1) := dk_27 (dk_at dksX7_commute_2 0 rfl rfl)
theorem dX7_commute_49 : decode cX7_commute 49 = .ok (.bipush 26, 2) := dk_16 26 (dk_at dksX7_commute_2 1 rfl rfl)
theorem dX7_commute_51 : decode cX7_commute 51 = .ok (.invokevirtual 131, 3) := dk_182 0 131 (dk_at dksX7_commute_2 3 rfl rfl)
theorem dX7_commute_54 : decode cX7_commute 54 = .ok (.ifCond .eq 7, 3) := dk_153 0 7 (dk_at dksX7_commute_2 6 rfl rfl)
theorem dX7_commute_57 : decode cX7_commute 57 = .ok (.iconst 0, 1) := dk_3 (dk_at dksX7_commute_2 9 rfl rfl)
theorem dX7_commute_58 : decode cX7_commute 58 = .ok (.goto 4, 3) := dk_167 0 4 (dk_at dksX7_commute_2 10 rfl rfl)
theorem dX7_commute_61 : decode cX7_commute 61 = .ok (.iconst 2, 1) := dk_5 (dk_at dksX7_commute_2 13 rfl rfl)
theorem dX7_commute_62 : decode cX7_commute 62 = .ok (.putfield 54, 3) := dk_181 0 54 (dk_at dksX7_commute_2 14 rfl rfl)
theorem dX7_commute_65 : decode cX7_commute 65 = .ok (.aload_n 0, 1) := dk_42 (dk_at dksX7_commute_2 17 rfl rfl)
theorem dX7_commute_66 : decode cX7_commute 66 = .ok (.getfield 54, 3) := dk_180 0 54 (dk_at dksX7_commute_2 18 rfl rfl)
theorem dX7_commute_69 : decode cX7_commute 69 = .ok (.ifCond .ne 18, 3) := dk_154 0 18 (dk_at dksX7_commute_2 21 rfl rfl)
theorem dX7_commute_72 : decode cX7_commute 72 = .ok (.aload_n 0, 1) := dk_42 (dk_at dksX7_commute_3 0 rfl rfl)
theorem dX7_commute_73 : decode cX7_commute 73 = .ok (.bipush 25, 2) := dk_16 25 (dk_at dksX7_commute_3 1 rfl rfl)
theorem dX7_commute_75 : decode cX7_commute 75 = .ok (.bipush 26, 2) := dk_16 26 (dk_at dksX7_commute_3 3 rfl rfl)
theorem dX7_commute_77 : decode cX7_commute 77 = .ok (.invokevirtual 194, 3) := dk_182 0 194 (dk_at dksX7_commute_3 5 rfl rfl)
theorem dX7_commute_80 : decode cX7_commute 80 = .ok (.ifCond .eq 7, 3) := dk_153 0 7 (dk_at dksX7_commute_3 8 rfl rfl)
theorem dX7_commute_83 : decode cX7_commute 83 = .ok (.iconst 1, 1) := dk_4 (dk_at dksX7_commute_3 11 rfl rfl)
theorem dX7_commute_84 : decode cX7_commute 84 = .ok (.goto 4, 3) := dk_167 0 4 (dk_at dksX7_commute_3 12 rfl rfl)
theorem dX7_commute_87 : decode cX7_commute 87 = .ok (.iconst 0, 1) := dk_3 (dk_at dksX7_commute_3 15 rfl rfl)
theorem dX7_commute_88 : decode cX7_commute 88 = .ok (.ireturn, 1) := dk_172 (dk_at dksX7_commute_3 16 rfl rfl)
abbrev cX7_vectorsIn : ByteArray := prog_42_method_60_code
def yX7_vectorsIn : MethodName := ⟨RX7, "vectorsIn", "(I)I"⟩
def dkwX7_vectorsIn_3 : List UInt8 := [167, 0, 4, 28, 172]
abbrev dktX7_vectorsIn_3 : List UInt8 := dkwX7_vectorsIn_3 ++ []
def dkwX7_vectorsIn_2 : List UInt8 := [153, 0, 7, 29, 167, 0, 4, 28, 126, 61, 132, 3, 1, 167, 255, 219, 42, 180, 0, 54, 158, 0, 7, 3]
abbrev dktX7_vectorsIn_2 : List UInt8 := dkwX7_vectorsIn_2 ++ dktX7_vectorsIn_3
def dkwX7_vectorsIn_1 : List UInt8 := [42, 182, 0, 71, 163, 0, 35, 42, 180, 0, 54, 154, 0, 28, 28, 42, 27, 29, 182, 0, 94, 9, 148]
abbrev dktX7_vectorsIn_1 : List UInt8 := dkwX7_vectorsIn_1 ++ dktX7_vectorsIn_2
def dkwX7_vectorsIn_0 : List UInt8 := [42, 27, 184, 0, 147, 153, 0, 7, 3, 167, 0, 4, 4, 181, 0, 54, 42, 182, 0, 71, 61, 3, 62, 29]
abbrev dktX7_vectorsIn_0 : List UInt8 := dkwX7_vectorsIn_0 ++ dktX7_vectorsIn_1
theorem dksX7_vectorsIn_0 : cX7_vectorsIn.data.toList.drop 0 = dktX7_vectorsIn_0 := by decide +kernel
theorem dksX7_vectorsIn_1 : cX7_vectorsIn.data.toList.drop 24 = dktX7_vectorsIn_1 := dk_seg dksX7_vectorsIn_0 24 rfl rfl
theorem dksX7_vectorsIn_2 : cX7_vectorsIn.data.toList.drop 47 = dktX7_vectorsIn_2 := dk_seg dksX7_vectorsIn_1 23 rfl rfl
theorem dksX7_vectorsIn_3 : cX7_vectorsIn.data.toList.drop 71 = dktX7_vectorsIn_3 := dk_seg dksX7_vectorsIn_2 24 rfl rfl
theorem dX7_vectorsIn_0 : decode cX7_vectorsIn 0 = .ok (.aload_n 0, 1) := dk_42 (dk_at dksX7_vectorsIn_0 0 rfl rfl)
theorem dX7_vectorsIn_1 : decode cX7_vectorsIn 1 = .ok (.iload_n 1, 1) := dk_27 (dk_at dksX7_vectorsIn_0 1 rfl rfl)
theorem dX7_vectorsIn_2 : decode cX7_vectorsIn 2 = .ok (.invokestatic 147, 3) := dk_184 0 147 (dk_at dksX7_vectorsIn_0 2 rfl rfl)
theorem dX7_vectorsIn_5 : decode cX7_vectorsIn 5 = .ok (.ifCond .eq 7, 3) := dk_153 0 7 (dk_at dksX7_vectorsIn_0 5 rfl rfl)
theorem dX7_vectorsIn_8 : decode cX7_vectorsIn 8 = .ok (.iconst 0, 1) := dk_3 (dk_at dksX7_vectorsIn_0 8 rfl rfl)
theorem dX7_vectorsIn_9 : decode cX7_vectorsIn 9 = .ok (.goto 4, 3) := dk_167 0 4 (dk_at dksX7_vectorsIn_0 9 rfl rfl)
theorem dX7_vectorsIn_12 : decode cX7_vectorsIn 12 = .ok (.iconst 1, 1) := dk_4 (dk_at dksX7_vectorsIn_0 12 rfl rfl)
theorem dX7_vectorsIn_13 : decode cX7_vectorsIn 13 = .ok (.putfield 54, 3) := dk_181 0 54 (dk_at dksX7_vectorsIn_0 13 rfl rfl)
theorem dX7_vectorsIn_16 : decode cX7_vectorsIn 16 = .ok (.aload_n 0, 1) := dk_42 (dk_at dksX7_vectorsIn_0 16 rfl rfl)
theorem dX7_vectorsIn_17 : decode cX7_vectorsIn 17 = .ok (.invokevirtual 71, 3) := dk_182 0 71 (dk_at dksX7_vectorsIn_0 17 rfl rfl)
theorem dX7_vectorsIn_20 : decode cX7_vectorsIn 20 = .ok (.istore_n 2, 1) := dk_61 (dk_at dksX7_vectorsIn_0 20 rfl rfl)
theorem dX7_vectorsIn_21 : decode cX7_vectorsIn 21 = .ok (.iconst 0, 1) := dk_3 (dk_at dksX7_vectorsIn_0 21 rfl rfl)
theorem dX7_vectorsIn_22 : decode cX7_vectorsIn 22 = .ok (.istore_n 3, 1) := dk_62 (dk_at dksX7_vectorsIn_0 22 rfl rfl)
theorem dX7_vectorsIn_23 : decode cX7_vectorsIn 23 = .ok (.iload_n 3, 1) := dk_29 (dk_at dksX7_vectorsIn_0 23 rfl rfl)
theorem dX7_vectorsIn_24 : decode cX7_vectorsIn 24 = .ok (.aload_n 0, 1) := dk_42 (dk_at dksX7_vectorsIn_1 0 rfl rfl)
theorem dX7_vectorsIn_25 : decode cX7_vectorsIn 25 = .ok (.invokevirtual 71, 3) := dk_182 0 71 (dk_at dksX7_vectorsIn_1 1 rfl rfl)
theorem dX7_vectorsIn_28 : decode cX7_vectorsIn 28 = .ok (.if_icmp .gt 35, 3) := dk_163 0 35 (dk_at dksX7_vectorsIn_1 4 rfl rfl)
theorem dX7_vectorsIn_31 : decode cX7_vectorsIn 31 = .ok (.aload_n 0, 1) := dk_42 (dk_at dksX7_vectorsIn_1 7 rfl rfl)
theorem dX7_vectorsIn_32 : decode cX7_vectorsIn 32 = .ok (.getfield 54, 3) := dk_180 0 54 (dk_at dksX7_vectorsIn_1 8 rfl rfl)
theorem dX7_vectorsIn_35 : decode cX7_vectorsIn 35 = .ok (.ifCond .ne 28, 3) := dk_154 0 28 (dk_at dksX7_vectorsIn_1 11 rfl rfl)
theorem dX7_vectorsIn_38 : decode cX7_vectorsIn 38 = .ok (.iload_n 2, 1) := dk_28 (dk_at dksX7_vectorsIn_1 14 rfl rfl)
theorem dX7_vectorsIn_39 : decode cX7_vectorsIn 39 = .ok (.aload_n 0, 1) := dk_42 (dk_at dksX7_vectorsIn_1 15 rfl rfl)
theorem dX7_vectorsIn_40 : decode cX7_vectorsIn 40 = .ok (.iload_n 1, 1) := dk_27 (dk_at dksX7_vectorsIn_1 16 rfl rfl)
theorem dX7_vectorsIn_41 : decode cX7_vectorsIn 41 = .ok (.iload_n 3, 1) := dk_29 (dk_at dksX7_vectorsIn_1 17 rfl rfl)
theorem dX7_vectorsIn_42 : decode cX7_vectorsIn 42 = .ok (.invokevirtual 94, 3) := dk_182 0 94 (dk_at dksX7_vectorsIn_1 18 rfl rfl)
theorem dX7_vectorsIn_45 : decode cX7_vectorsIn 45 = .ok (.lconst 0, 1) := dk_9 (dk_at dksX7_vectorsIn_1 21 rfl rfl)
theorem dX7_vectorsIn_46 : decode cX7_vectorsIn 46 = .ok (.lcmp, 1) := dk_148 (dk_at dksX7_vectorsIn_1 22 rfl rfl)
theorem dX7_vectorsIn_47 : decode cX7_vectorsIn 47 = .ok (.ifCond .eq 7, 3) := dk_153 0 7 (dk_at dksX7_vectorsIn_2 0 rfl rfl)
theorem dX7_vectorsIn_50 : decode cX7_vectorsIn 50 = .ok (.iload_n 3, 1) := dk_29 (dk_at dksX7_vectorsIn_2 3 rfl rfl)
theorem dX7_vectorsIn_51 : decode cX7_vectorsIn 51 = .ok (.goto 4, 3) := dk_167 0 4 (dk_at dksX7_vectorsIn_2 4 rfl rfl)
theorem dX7_vectorsIn_54 : decode cX7_vectorsIn 54 = .ok (.iload_n 2, 1) := dk_28 (dk_at dksX7_vectorsIn_2 7 rfl rfl)
theorem dX7_vectorsIn_55 : decode cX7_vectorsIn 55 = .ok (.iand, 1) := dk_126 (dk_at dksX7_vectorsIn_2 8 rfl rfl)
theorem dX7_vectorsIn_56 : decode cX7_vectorsIn 56 = .ok (.istore_n 2, 1) := dk_61 (dk_at dksX7_vectorsIn_2 9 rfl rfl)
theorem dX7_vectorsIn_57 : decode cX7_vectorsIn 57 = .ok (.iinc 3 1, 3) := dk_132 3 1 (dk_at dksX7_vectorsIn_2 10 rfl rfl)
theorem dX7_vectorsIn_60 : decode cX7_vectorsIn 60 = .ok (.goto (-37), 3) := dk_167 255 219 (dk_at dksX7_vectorsIn_2 13 rfl rfl)
theorem dX7_vectorsIn_63 : decode cX7_vectorsIn 63 = .ok (.aload_n 0, 1) := dk_42 (dk_at dksX7_vectorsIn_2 16 rfl rfl)
theorem dX7_vectorsIn_64 : decode cX7_vectorsIn 64 = .ok (.getfield 54, 3) := dk_180 0 54 (dk_at dksX7_vectorsIn_2 17 rfl rfl)
theorem dX7_vectorsIn_67 : decode cX7_vectorsIn 67 = .ok (.ifCond .le 7, 3) := dk_158 0 7 (dk_at dksX7_vectorsIn_2 20 rfl rfl)
theorem dX7_vectorsIn_70 : decode cX7_vectorsIn 70 = .ok (.iconst 0, 1) := dk_3 (dk_at dksX7_vectorsIn_2 23 rfl rfl)
theorem dX7_vectorsIn_71 : decode cX7_vectorsIn 71 = .ok (.goto 4, 3) := dk_167 0 4 (dk_at dksX7_vectorsIn_3 0 rfl rfl)
theorem dX7_vectorsIn_74 : decode cX7_vectorsIn 74 = .ok (.iload_n 2, 1) := dk_28 (dk_at dksX7_vectorsIn_3 3 rfl rfl)
theorem dX7_vectorsIn_75 : decode cX7_vectorsIn 75 = .ok (.ireturn, 1) := dk_172 (dk_at dksX7_vectorsIn_3 4 rfl rfl)
abbrev cX7_power : ByteArray := prog_42_method_62_code
def yX7_power : MethodName := ⟨RX7, "power", "(III)I"⟩
def dkwX7_power_4 : List UInt8 := [6, 182, 0, 144, 172]
abbrev dktX7_power_4 : List UInt8 := dkwX7_power_4 ++ []
def dkwX7_power_3 : List UInt8 := [54, 4, 132, 5, 1, 167, 255, 230, 21, 4, 153, 0, 13, 42, 16, 24, 27, 182, 0, 153, 167, 0, 8, 42]
abbrev dktX7_power_3 : List UInt8 := dkwX7_power_3 ++ dktX7_power_4
def dkwX7_power_2 : List UInt8 := [54, 5, 21, 5, 29, 162, 0, 26, 21, 4, 153, 0, 21, 42, 5, 16, 24, 28, 16, 24, 182, 0, 131]
abbrev dktX7_power_2 : List UInt8 := dkwX7_power_2 ++ dktX7_power_3
def dkwX7_power_1 : List UInt8 := [184, 0, 67, 154, 0, 9, 42, 5, 182, 0, 144, 172, 42, 16, 24, 10, 182, 0, 200, 4, 54, 4, 3]
abbrev dktX7_power_1 : List UInt8 := dkwX7_power_1 ++ dktX7_power_2
def dkwX7_power_0 : List UInt8 := [27, 184, 0, 147, 153, 0, 10, 28, 184, 0, 147, 154, 0, 9, 42, 4, 182, 0, 144, 172, 29, 3, 16, 20]
abbrev dktX7_power_0 : List UInt8 := dkwX7_power_0 ++ dktX7_power_1
theorem dksX7_power_0 : cX7_power.data.toList.drop 0 = dktX7_power_0 := by decide +kernel
theorem dksX7_power_1 : cX7_power.data.toList.drop 24 = dktX7_power_1 := dk_seg dksX7_power_0 24 rfl rfl
theorem dksX7_power_2 : cX7_power.data.toList.drop 47 = dktX7_power_2 := dk_seg dksX7_power_1 23 rfl rfl
theorem dksX7_power_3 : cX7_power.data.toList.drop 70 = dktX7_power_3 := dk_seg dksX7_power_2 23 rfl rfl
theorem dksX7_power_4 : cX7_power.data.toList.drop 94 = dktX7_power_4 := dk_seg dksX7_power_3 24 rfl rfl
theorem dX7_power_0 : decode cX7_power 0 = .ok (.iload_n 1, 1) := dk_27 (dk_at dksX7_power_0 0 rfl rfl)
theorem dX7_power_1 : decode cX7_power 1 = .ok (.invokestatic 147, 3) := dk_184 0 147 (dk_at dksX7_power_0 1 rfl rfl)
theorem dX7_power_4 : decode cX7_power 4 = .ok (.ifCond .eq 10, 3) := dk_153 0 10 (dk_at dksX7_power_0 4 rfl rfl)
theorem dX7_power_7 : decode cX7_power 7 = .ok (.iload_n 2, 1) := dk_28 (dk_at dksX7_power_0 7 rfl rfl)
theorem dX7_power_8 : decode cX7_power 8 = .ok (.invokestatic 147, 3) := dk_184 0 147 (dk_at dksX7_power_0 8 rfl rfl)
theorem dX7_power_11 : decode cX7_power 11 = .ok (.ifCond .ne 9, 3) := dk_154 0 9 (dk_at dksX7_power_0 11 rfl rfl)
theorem dX7_power_14 : decode cX7_power 14 = .ok (.aload_n 0, 1) := dk_42 (dk_at dksX7_power_0 14 rfl rfl)
theorem dX7_power_15 : decode cX7_power 15 = .ok (.iconst 1, 1) := dk_4 (dk_at dksX7_power_0 15 rfl rfl)
theorem dX7_power_16 : decode cX7_power 16 = .ok (.invokevirtual 144, 3) := dk_182 0 144 (dk_at dksX7_power_0 16 rfl rfl)
theorem dX7_power_19 : decode cX7_power 19 = .ok (.ireturn, 1) := dk_172 (dk_at dksX7_power_0 19 rfl rfl)
theorem dX7_power_20 : decode cX7_power 20 = .ok (.iload_n 3, 1) := dk_29 (dk_at dksX7_power_0 20 rfl rfl)
theorem dX7_power_21 : decode cX7_power 21 = .ok (.iconst 0, 1) := dk_3 (dk_at dksX7_power_0 21 rfl rfl)
theorem dX7_power_22 : decode cX7_power 22 = .ok (.bipush 20, 2) := dk_16 20 (dk_at dksX7_power_0 22 rfl rfl)
theorem dX7_power_24 : decode cX7_power 24 = .ok (.invokestatic 67, 3) := dk_184 0 67 (dk_at dksX7_power_1 0 rfl rfl)
theorem dX7_power_27 : decode cX7_power 27 = .ok (.ifCond .ne 9, 3) := dk_154 0 9 (dk_at dksX7_power_1 3 rfl rfl)
theorem dX7_power_30 : decode cX7_power 30 = .ok (.aload_n 0, 1) := dk_42 (dk_at dksX7_power_1 6 rfl rfl)
theorem dX7_power_31 : decode cX7_power 31 = .ok (.iconst 2, 1) := dk_5 (dk_at dksX7_power_1 7 rfl rfl)
theorem dX7_power_32 : decode cX7_power 32 = .ok (.invokevirtual 144, 3) := dk_182 0 144 (dk_at dksX7_power_1 8 rfl rfl)
theorem dX7_power_35 : decode cX7_power 35 = .ok (.ireturn, 1) := dk_172 (dk_at dksX7_power_1 11 rfl rfl)
theorem dX7_power_36 : decode cX7_power 36 = .ok (.aload_n 0, 1) := dk_42 (dk_at dksX7_power_1 12 rfl rfl)
theorem dX7_power_37 : decode cX7_power 37 = .ok (.bipush 24, 2) := dk_16 24 (dk_at dksX7_power_1 13 rfl rfl)
theorem dX7_power_39 : decode cX7_power 39 = .ok (.lconst 1, 1) := dk_10 (dk_at dksX7_power_1 15 rfl rfl)
theorem dX7_power_40 : decode cX7_power 40 = .ok (.invokevirtual 200, 3) := dk_182 0 200 (dk_at dksX7_power_1 16 rfl rfl)
theorem dX7_power_43 : decode cX7_power 43 = .ok (.iconst 1, 1) := dk_4 (dk_at dksX7_power_1 19 rfl rfl)
theorem dX7_power_44 : decode cX7_power 44 = .ok (.istore 4, 2) := dk_54 4 (dk_at dksX7_power_1 20 rfl rfl)
theorem dX7_power_46 : decode cX7_power 46 = .ok (.iconst 0, 1) := dk_3 (dk_at dksX7_power_1 22 rfl rfl)
theorem dX7_power_47 : decode cX7_power 47 = .ok (.istore 5, 2) := dk_54 5 (dk_at dksX7_power_2 0 rfl rfl)
theorem dX7_power_49 : decode cX7_power 49 = .ok (.iload 5, 2) := dk_21 5 (dk_at dksX7_power_2 2 rfl rfl)
theorem dX7_power_51 : decode cX7_power 51 = .ok (.iload_n 3, 1) := dk_29 (dk_at dksX7_power_2 4 rfl rfl)
theorem dX7_power_52 : decode cX7_power 52 = .ok (.if_icmp .ge 26, 3) := dk_162 0 26 (dk_at dksX7_power_2 5 rfl rfl)
theorem dX7_power_55 : decode cX7_power 55 = .ok (.iload 4, 2) := dk_21 4 (dk_at dksX7_power_2 8 rfl rfl)
theorem dX7_power_57 : decode cX7_power 57 = .ok (.ifCond .eq 21, 3) := dk_153 0 21 (dk_at dksX7_power_2 10 rfl rfl)
theorem dX7_power_60 : decode cX7_power 60 = .ok (.aload_n 0, 1) := dk_42 (dk_at dksX7_power_2 13 rfl rfl)
theorem dX7_power_61 : decode cX7_power 61 = .ok (.iconst 2, 1) := dk_5 (dk_at dksX7_power_2 14 rfl rfl)
theorem dX7_power_62 : decode cX7_power 62 = .ok (.bipush 24, 2) := dk_16 24 (dk_at dksX7_power_2 15 rfl rfl)
theorem dX7_power_64 : decode cX7_power 64 = .ok (.iload_n 2, 1) := dk_28 (dk_at dksX7_power_2 17 rfl rfl)
theorem dX7_power_65 : decode cX7_power 65 = .ok (.bipush 24, 2) := dk_16 24 (dk_at dksX7_power_2 18 rfl rfl)
theorem dX7_power_67 : decode cX7_power 67 = .ok (.invokevirtual 131, 3) := dk_182 0 131 (dk_at dksX7_power_2 20 rfl rfl)
theorem dX7_power_70 : decode cX7_power 70 = .ok (.istore 4, 2) := dk_54 4 (dk_at dksX7_power_3 0 rfl rfl)
theorem dX7_power_72 : decode cX7_power 72 = .ok (.iinc 5 1, 3) := dk_132 5 1 (dk_at dksX7_power_3 2 rfl rfl)
theorem dX7_power_75 : decode cX7_power 75 = .ok (.goto (-26), 3) := dk_167 255 230 (dk_at dksX7_power_3 5 rfl rfl)
theorem dX7_power_78 : decode cX7_power 78 = .ok (.iload 4, 2) := dk_21 4 (dk_at dksX7_power_3 8 rfl rfl)
theorem dX7_power_80 : decode cX7_power 80 = .ok (.ifCond .eq 13, 3) := dk_153 0 13 (dk_at dksX7_power_3 10 rfl rfl)
theorem dX7_power_83 : decode cX7_power 83 = .ok (.aload_n 0, 1) := dk_42 (dk_at dksX7_power_3 13 rfl rfl)
theorem dX7_power_84 : decode cX7_power 84 = .ok (.bipush 24, 2) := dk_16 24 (dk_at dksX7_power_3 14 rfl rfl)
theorem dX7_power_86 : decode cX7_power 86 = .ok (.iload_n 1, 1) := dk_27 (dk_at dksX7_power_3 16 rfl rfl)
theorem dX7_power_87 : decode cX7_power 87 = .ok (.invokevirtual 153, 3) := dk_182 0 153 (dk_at dksX7_power_3 17 rfl rfl)
theorem dX7_power_90 : decode cX7_power 90 = .ok (.goto 8, 3) := dk_167 0 8 (dk_at dksX7_power_3 20 rfl rfl)
theorem dX7_power_93 : decode cX7_power 93 = .ok (.aload_n 0, 1) := dk_42 (dk_at dksX7_power_3 23 rfl rfl)
theorem dX7_power_94 : decode cX7_power 94 = .ok (.iconst 3, 1) := dk_6 (dk_at dksX7_power_4 0 rfl rfl)
theorem dX7_power_95 : decode cX7_power 95 = .ok (.invokevirtual 144, 3) := dk_182 0 144 (dk_at dksX7_power_4 1 rfl rfl)
theorem dX7_power_98 : decode cX7_power 98 = .ok (.ireturn, 1) := dk_172 (dk_at dksX7_power_4 4 rfl rfl)
abbrev cX7_laysNumber : ByteArray := prog_42_method_61_code
def yX7_laysNumber : MethodName := ⟨RX7, "laysNumber", "(IJ)V"⟩
def dkwX7_laysNumber_0 : List UInt8 := [42, 27, 182, 0, 169, 42, 180, 0, 27, 16, 33, 27, 104, 4, 96, 32, 80, 177]
abbrev dktX7_laysNumber_0 : List UInt8 := dkwX7_laysNumber_0 ++ []
theorem dksX7_laysNumber_0 : cX7_laysNumber.data.toList.drop 0 = dktX7_laysNumber_0 := by decide +kernel
theorem dX7_laysNumber_0 : decode cX7_laysNumber 0 = .ok (.aload_n 0, 1) := dk_42 (dk_at dksX7_laysNumber_0 0 rfl rfl)
theorem dX7_laysNumber_1 : decode cX7_laysNumber 1 = .ok (.iload_n 1, 1) := dk_27 (dk_at dksX7_laysNumber_0 1 rfl rfl)
theorem dX7_laysNumber_2 : decode cX7_laysNumber 2 = .ok (.invokevirtual 169, 3) := dk_182 0 169 (dk_at dksX7_laysNumber_0 2 rfl rfl)
theorem dX7_laysNumber_5 : decode cX7_laysNumber 5 = .ok (.aload_n 0, 1) := dk_42 (dk_at dksX7_laysNumber_0 5 rfl rfl)
theorem dX7_laysNumber_6 : decode cX7_laysNumber 6 = .ok (.getfield 27, 3) := dk_180 0 27 (dk_at dksX7_laysNumber_0 6 rfl rfl)
theorem dX7_laysNumber_9 : decode cX7_laysNumber 9 = .ok (.bipush 33, 2) := dk_16 33 (dk_at dksX7_laysNumber_0 9 rfl rfl)
theorem dX7_laysNumber_11 : decode cX7_laysNumber 11 = .ok (.iload_n 1, 1) := dk_27 (dk_at dksX7_laysNumber_0 11 rfl rfl)
theorem dX7_laysNumber_12 : decode cX7_laysNumber 12 = .ok (.imul, 1) := dk_104 (dk_at dksX7_laysNumber_0 12 rfl rfl)
theorem dX7_laysNumber_13 : decode cX7_laysNumber 13 = .ok (.iconst 1, 1) := dk_4 (dk_at dksX7_laysNumber_0 13 rfl rfl)
theorem dX7_laysNumber_14 : decode cX7_laysNumber 14 = .ok (.iadd, 1) := dk_96 (dk_at dksX7_laysNumber_0 14 rfl rfl)
theorem dX7_laysNumber_15 : decode cX7_laysNumber 15 = .ok (.lload_n 2, 1) := dk_32 (dk_at dksX7_laysNumber_0 15 rfl rfl)
theorem dX7_laysNumber_16 : decode cX7_laysNumber 16 = .ok (.lastore, 1) := dk_80 (dk_at dksX7_laysNumber_0 16 rfl rfl)
theorem dX7_laysNumber_17 : decode cX7_laysNumber 17 = .ok (.return_, 1) := dk_177 (dk_at dksX7_laysNumber_0 17 rfl rfl)
abbrev cX7_project : ByteArray := prog_42_method_63_code
def yX7_project : MethodName := ⟨RX7, "project", "(III)I"⟩
def dkwX7_project_5 : List UInt8 := [153, 0, 13, 42, 16, 24, 27, 182, 0, 153, 167, 0, 8, 42, 5, 182, 0, 144, 172]
abbrev dktX7_project_5 : List UInt8 := dkwX7_project_5 ++ []
def dkwX7_project_4 : List UInt8 := [42, 5, 16, 27, 16, 26, 16, 24, 182, 0, 131, 153, 0, 7, 4, 167, 0, 4, 3, 54, 4, 21, 4]
abbrev dktX7_project_4 : List UInt8 := dkwX7_project_4 ++ dktX7_project_5
def dkwX7_project_3 : List UInt8 := [3, 182, 0, 94, 16, 26, 182, 0, 136, 153, 0, 33, 42, 7, 28, 29, 16, 27, 182, 0, 131, 153, 0, 21]
abbrev dktX7_project_3 : List UInt8 := dkwX7_project_3 ++ dktX7_project_4
def dkwX7_project_2 : List UInt8 := [182, 0, 163, 154, 0, 9, 42, 6, 182, 0, 144, 172, 42, 16, 31, 42, 16, 25, 182, 0, 114, 42, 16, 25]
abbrev dktX7_project_2 : List UInt8 := dkwX7_project_2 ++ dktX7_project_3
def dkwX7_project_1 : List UInt8 := [182, 0, 144, 172, 42, 29, 16, 25, 182, 0, 159, 154, 0, 9, 42, 5, 182, 0, 144, 172, 42, 16, 25]
abbrev dktX7_project_1 : List UInt8 := dkwX7_project_1 ++ dktX7_project_2
def dkwX7_project_0 : List UInt8 := [27, 184, 0, 147, 153, 0, 17, 28, 184, 0, 147, 153, 0, 10, 29, 184, 0, 147, 154, 0, 9, 42, 4]
abbrev dktX7_project_0 : List UInt8 := dkwX7_project_0 ++ dktX7_project_1
theorem dksX7_project_0 : cX7_project.data.toList.drop 0 = dktX7_project_0 := by decide +kernel
theorem dksX7_project_1 : cX7_project.data.toList.drop 23 = dktX7_project_1 := dk_seg dksX7_project_0 23 rfl rfl
theorem dksX7_project_2 : cX7_project.data.toList.drop 46 = dktX7_project_2 := dk_seg dksX7_project_1 23 rfl rfl
theorem dksX7_project_3 : cX7_project.data.toList.drop 70 = dktX7_project_3 := dk_seg dksX7_project_2 24 rfl rfl
theorem dksX7_project_4 : cX7_project.data.toList.drop 94 = dktX7_project_4 := dk_seg dksX7_project_3 24 rfl rfl
theorem dksX7_project_5 : cX7_project.data.toList.drop 117 = dktX7_project_5 := dk_seg dksX7_project_4 23 rfl rfl
theorem dX7_project_0 : decode cX7_project 0 = .ok (.iload_n 1, 1) := dk_27 (dk_at dksX7_project_0 0 rfl rfl)
theorem dX7_project_1 : decode cX7_project 1 = .ok (.invokestatic 147, 3) := dk_184 0 147 (dk_at dksX7_project_0 1 rfl rfl)
theorem dX7_project_4 : decode cX7_project 4 = .ok (.ifCond .eq 17, 3) := dk_153 0 17 (dk_at dksX7_project_0 4 rfl rfl)
theorem dX7_project_7 : decode cX7_project 7 = .ok (.iload_n 2, 1) := dk_28 (dk_at dksX7_project_0 7 rfl rfl)
theorem dX7_project_8 : decode cX7_project 8 = .ok (.invokestatic 147, 3) := dk_184 0 147 (dk_at dksX7_project_0 8 rfl rfl)
theorem dX7_project_11 : decode cX7_project 11 = .ok (.ifCond .eq 10, 3) := dk_153 0 10 (dk_at dksX7_project_0 11 rfl rfl)
theorem dX7_project_14 : decode cX7_project 14 = .ok (.iload_n 3, 1) := dk_29 (dk_at dksX7_project_0 14 rfl rfl)
theorem dX7_project_15 : decode cX7_project 15 = .ok (.invokestatic 147, 3) := dk_184 0 147 (dk_at dksX7_project_0 15 rfl rfl)
theorem dX7_project_18 : decode cX7_project 18 = .ok (.ifCond .ne 9, 3) := dk_154 0 9 (dk_at dksX7_project_0 18 rfl rfl)
theorem dX7_project_21 : decode cX7_project 21 = .ok (.aload_n 0, 1) := dk_42 (dk_at dksX7_project_0 21 rfl rfl)
theorem dX7_project_22 : decode cX7_project 22 = .ok (.iconst 1, 1) := dk_4 (dk_at dksX7_project_0 22 rfl rfl)
theorem dX7_project_23 : decode cX7_project 23 = .ok (.invokevirtual 144, 3) := dk_182 0 144 (dk_at dksX7_project_1 0 rfl rfl)
theorem dX7_project_26 : decode cX7_project 26 = .ok (.ireturn, 1) := dk_172 (dk_at dksX7_project_1 3 rfl rfl)
theorem dX7_project_27 : decode cX7_project 27 = .ok (.aload_n 0, 1) := dk_42 (dk_at dksX7_project_1 4 rfl rfl)
theorem dX7_project_28 : decode cX7_project 28 = .ok (.iload_n 3, 1) := dk_29 (dk_at dksX7_project_1 5 rfl rfl)
theorem dX7_project_29 : decode cX7_project 29 = .ok (.bipush 25, 2) := dk_16 25 (dk_at dksX7_project_1 6 rfl rfl)
theorem dX7_project_31 : decode cX7_project 31 = .ok (.invokevirtual 159, 3) := dk_182 0 159 (dk_at dksX7_project_1 8 rfl rfl)
theorem dX7_project_34 : decode cX7_project 34 = .ok (.ifCond .ne 9, 3) := dk_154 0 9 (dk_at dksX7_project_1 11 rfl rfl)
theorem dX7_project_37 : decode cX7_project 37 = .ok (.aload_n 0, 1) := dk_42 (dk_at dksX7_project_1 14 rfl rfl)
theorem dX7_project_38 : decode cX7_project 38 = .ok (.iconst 2, 1) := dk_5 (dk_at dksX7_project_1 15 rfl rfl)
theorem dX7_project_39 : decode cX7_project 39 = .ok (.invokevirtual 144, 3) := dk_182 0 144 (dk_at dksX7_project_1 16 rfl rfl)
theorem dX7_project_42 : decode cX7_project 42 = .ok (.ireturn, 1) := dk_172 (dk_at dksX7_project_1 19 rfl rfl)
theorem dX7_project_43 : decode cX7_project 43 = .ok (.aload_n 0, 1) := dk_42 (dk_at dksX7_project_1 20 rfl rfl)
theorem dX7_project_44 : decode cX7_project 44 = .ok (.bipush 25, 2) := dk_16 25 (dk_at dksX7_project_1 21 rfl rfl)
theorem dX7_project_46 : decode cX7_project 46 = .ok (.invokevirtual 163, 3) := dk_182 0 163 (dk_at dksX7_project_2 0 rfl rfl)
theorem dX7_project_49 : decode cX7_project 49 = .ok (.ifCond .ne 9, 3) := dk_154 0 9 (dk_at dksX7_project_2 3 rfl rfl)
theorem dX7_project_52 : decode cX7_project 52 = .ok (.aload_n 0, 1) := dk_42 (dk_at dksX7_project_2 6 rfl rfl)
theorem dX7_project_53 : decode cX7_project 53 = .ok (.iconst 3, 1) := dk_6 (dk_at dksX7_project_2 7 rfl rfl)
theorem dX7_project_54 : decode cX7_project 54 = .ok (.invokevirtual 144, 3) := dk_182 0 144 (dk_at dksX7_project_2 8 rfl rfl)
theorem dX7_project_57 : decode cX7_project 57 = .ok (.ireturn, 1) := dk_172 (dk_at dksX7_project_2 11 rfl rfl)
theorem dX7_project_58 : decode cX7_project 58 = .ok (.aload_n 0, 1) := dk_42 (dk_at dksX7_project_2 12 rfl rfl)
theorem dX7_project_59 : decode cX7_project 59 = .ok (.bipush 31, 2) := dk_16 31 (dk_at dksX7_project_2 13 rfl rfl)
theorem dX7_project_61 : decode cX7_project 61 = .ok (.aload_n 0, 1) := dk_42 (dk_at dksX7_project_2 15 rfl rfl)
theorem dX7_project_62 : decode cX7_project 62 = .ok (.bipush 25, 2) := dk_16 25 (dk_at dksX7_project_2 16 rfl rfl)
theorem dX7_project_64 : decode cX7_project 64 = .ok (.invokevirtual 114, 3) := dk_182 0 114 (dk_at dksX7_project_2 18 rfl rfl)
theorem dX7_project_67 : decode cX7_project 67 = .ok (.aload_n 0, 1) := dk_42 (dk_at dksX7_project_2 21 rfl rfl)
theorem dX7_project_68 : decode cX7_project 68 = .ok (.bipush 25, 2) := dk_16 25 (dk_at dksX7_project_2 22 rfl rfl)
theorem dX7_project_70 : decode cX7_project 70 = .ok (.iconst 0, 1) := dk_3 (dk_at dksX7_project_3 0 rfl rfl)
theorem dX7_project_71 : decode cX7_project 71 = .ok (.invokevirtual 94, 3) := dk_182 0 94 (dk_at dksX7_project_3 1 rfl rfl)
theorem dX7_project_74 : decode cX7_project 74 = .ok (.bipush 26, 2) := dk_16 26 (dk_at dksX7_project_3 4 rfl rfl)
theorem dX7_project_76 : decode cX7_project 76 = .ok (.invokevirtual 136, 3) := dk_182 0 136 (dk_at dksX7_project_3 6 rfl rfl)
theorem dX7_project_79 : decode cX7_project 79 = .ok (.ifCond .eq 33, 3) := dk_153 0 33 (dk_at dksX7_project_3 9 rfl rfl)
theorem dX7_project_82 : decode cX7_project 82 = .ok (.aload_n 0, 1) := dk_42 (dk_at dksX7_project_3 12 rfl rfl)
theorem dX7_project_83 : decode cX7_project 83 = .ok (.iconst 4, 1) := dk_7 (dk_at dksX7_project_3 13 rfl rfl)
theorem dX7_project_84 : decode cX7_project 84 = .ok (.iload_n 2, 1) := dk_28 (dk_at dksX7_project_3 14 rfl rfl)
theorem dX7_project_85 : decode cX7_project 85 = .ok (.iload_n 3, 1) := dk_29 (dk_at dksX7_project_3 15 rfl rfl)
theorem dX7_project_86 : decode cX7_project 86 = .ok (.bipush 27, 2) := dk_16 27 (dk_at dksX7_project_3 16 rfl rfl)
theorem dX7_project_88 : decode cX7_project 88 = .ok (.invokevirtual 131, 3) := dk_182 0 131 (dk_at dksX7_project_3 18 rfl rfl)
theorem dX7_project_91 : decode cX7_project 91 = .ok (.ifCond .eq 21, 3) := dk_153 0 21 (dk_at dksX7_project_3 21 rfl rfl)
theorem dX7_project_94 : decode cX7_project 94 = .ok (.aload_n 0, 1) := dk_42 (dk_at dksX7_project_4 0 rfl rfl)
theorem dX7_project_95 : decode cX7_project 95 = .ok (.iconst 2, 1) := dk_5 (dk_at dksX7_project_4 1 rfl rfl)
theorem dX7_project_96 : decode cX7_project 96 = .ok (.bipush 27, 2) := dk_16 27 (dk_at dksX7_project_4 2 rfl rfl)
theorem dX7_project_98 : decode cX7_project 98 = .ok (.bipush 26, 2) := dk_16 26 (dk_at dksX7_project_4 4 rfl rfl)
theorem dX7_project_100 : decode cX7_project 100 = .ok (.bipush 24, 2) := dk_16 24 (dk_at dksX7_project_4 6 rfl rfl)
theorem dX7_project_102 : decode cX7_project 102 = .ok (.invokevirtual 131, 3) := dk_182 0 131 (dk_at dksX7_project_4 8 rfl rfl)
theorem dX7_project_105 : decode cX7_project 105 = .ok (.ifCond .eq 7, 3) := dk_153 0 7 (dk_at dksX7_project_4 11 rfl rfl)
theorem dX7_project_108 : decode cX7_project 108 = .ok (.iconst 1, 1) := dk_4 (dk_at dksX7_project_4 14 rfl rfl)
theorem dX7_project_109 : decode cX7_project 109 = .ok (.goto 4, 3) := dk_167 0 4 (dk_at dksX7_project_4 15 rfl rfl)
theorem dX7_project_112 : decode cX7_project 112 = .ok (.iconst 0, 1) := dk_3 (dk_at dksX7_project_4 18 rfl rfl)
theorem dX7_project_113 : decode cX7_project 113 = .ok (.istore 4, 2) := dk_54 4 (dk_at dksX7_project_4 19 rfl rfl)
theorem dX7_project_115 : decode cX7_project 115 = .ok (.iload 4, 2) := dk_21 4 (dk_at dksX7_project_4 21 rfl rfl)
theorem dX7_project_117 : decode cX7_project 117 = .ok (.ifCond .eq 13, 3) := dk_153 0 13 (dk_at dksX7_project_5 0 rfl rfl)
theorem dX7_project_120 : decode cX7_project 120 = .ok (.aload_n 0, 1) := dk_42 (dk_at dksX7_project_5 3 rfl rfl)
theorem dX7_project_121 : decode cX7_project 121 = .ok (.bipush 24, 2) := dk_16 24 (dk_at dksX7_project_5 4 rfl rfl)
theorem dX7_project_123 : decode cX7_project 123 = .ok (.iload_n 1, 1) := dk_27 (dk_at dksX7_project_5 6 rfl rfl)
theorem dX7_project_124 : decode cX7_project 124 = .ok (.invokevirtual 153, 3) := dk_182 0 153 (dk_at dksX7_project_5 7 rfl rfl)
theorem dX7_project_127 : decode cX7_project 127 = .ok (.goto 8, 3) := dk_167 0 8 (dk_at dksX7_project_5 10 rfl rfl)
theorem dX7_project_130 : decode cX7_project 130 = .ok (.aload_n 0, 1) := dk_42 (dk_at dksX7_project_5 13 rfl rfl)
theorem dX7_project_131 : decode cX7_project 131 = .ok (.iconst 2, 1) := dk_5 (dk_at dksX7_project_5 14 rfl rfl)
theorem dX7_project_132 : decode cX7_project 132 = .ok (.invokevirtual 144, 3) := dk_182 0 144 (dk_at dksX7_project_5 15 rfl rfl)
theorem dX7_project_135 : decode cX7_project 135 = .ok (.ireturn, 1) := dk_172 (dk_at dksX7_project_5 18 rfl rfl)
abbrev cX7_factor : ByteArray := prog_42_method_67_code
def yX7_factor : MethodName := ⟨RX7, "factor", "(III)I"⟩
def dkwX7_factor_11 : List UInt8 := [42, 16, 24, 27, 182, 0, 153, 167, 0, 8, 42, 7, 182, 0, 144, 172]
abbrev dktX7_factor_11 : List UInt8 := dkwX7_factor_11 ++ []
def dkwX7_factor_10 : List UInt8 := [21, 10, 120, 92, 47, 22, 8, 105, 80, 132, 10, 1, 167, 255, 230, 42, 16, 24, 182, 0, 118, 153, 0, 13]
abbrev dktX7_factor_10 : List UInt8 := dkwX7_factor_10 ++ dktX7_factor_11
def dkwX7_factor_9 : List UInt8 := [22, 8, 105, 181, 0, 34, 3, 54, 10, 21, 10, 42, 182, 0, 63, 162, 0, 23, 42, 180, 0, 31, 4]
abbrev dktX7_factor_9 : List UInt8 := dkwX7_factor_9 ++ dktX7_factor_10
def dkwX7_factor_8 : List UInt8 := [42, 180, 0, 34, 9, 148, 156, 0, 9, 20, 0, 122, 167, 0, 4, 10, 55, 8, 42, 89, 180, 0, 34]
abbrev dktX7_factor_8 : List UInt8 := dkwX7_factor_8 ++ dktX7_factor_9
def dkwX7_factor_7 : List UInt8 := [120, 128, 182, 0, 94, 105, 80, 132, 8, 1, 167, 255, 197, 42, 42, 180, 0, 31, 21, 6, 47, 181, 0, 34]
abbrev dktX7_factor_7 : List UInt8 := dkwX7_factor_7 ++ dktX7_factor_8
def dkwX7_factor_6 : List UInt8 := [160, 0, 7, 9, 167, 0, 26, 21, 7, 4, 21, 8, 120, 184, 0, 101, 133, 42, 28, 21, 7, 4, 21, 8]
abbrev dktX7_factor_6 : List UInt8 := dkwX7_factor_6 ++ dktX7_factor_7
def dkwX7_factor_5 : List UInt8 := [182, 0, 63, 162, 0, 56, 42, 180, 0, 31, 4, 21, 8, 120, 21, 7, 21, 8, 122, 4, 126, 4]
abbrev dktX7_factor_5 : List UInt8 := dkwX7_factor_5 ++ dktX7_factor_6
def dkwX7_factor_4 : List UInt8 := [21, 5, 116, 126, 54, 6, 21, 4, 21, 6, 130, 54, 7, 42, 182, 0, 105, 3, 54, 8, 21, 8, 42]
abbrev dktX7_factor_4 : List UInt8 := dkwX7_factor_4 ++ dktX7_factor_5
def dkwX7_factor_3 : List UInt8 := [21, 6, 29, 162, 0, 18, 21, 5, 21, 5, 4, 100, 126, 54, 5, 132, 6, 1, 167, 255, 238, 21, 5]
abbrev dktX7_factor_3 : List UInt8 := dkwX7_factor_3 ++ dktX7_factor_4
def dkwX7_factor_2 : List UInt8 := [184, 0, 98, 4, 100, 184, 0, 67, 154, 0, 9, 42, 6, 182, 0, 144, 172, 21, 4, 54, 5, 3, 54, 6]
abbrev dktX7_factor_2 : List UInt8 := dkwX7_factor_2 ++ dktX7_factor_3
def dkwX7_factor_1 : List UInt8 := [182, 0, 197, 154, 0, 9, 42, 5, 182, 0, 144, 172, 42, 28, 182, 0, 211, 54, 4, 29, 3, 21, 4]
abbrev dktX7_factor_1 : List UInt8 := dkwX7_factor_1 ++ dktX7_factor_2
def dkwX7_factor_0 : List UInt8 := [27, 184, 0, 147, 153, 0, 10, 28, 184, 0, 147, 154, 0, 9, 42, 4, 182, 0, 144, 172, 42, 28]
abbrev dktX7_factor_0 : List UInt8 := dkwX7_factor_0 ++ dktX7_factor_1
theorem dksX7_factor_0 : cX7_factor.data.toList.drop 0 = dktX7_factor_0 := by decide +kernel
theorem dksX7_factor_1 : cX7_factor.data.toList.drop 22 = dktX7_factor_1 := dk_seg dksX7_factor_0 22 rfl rfl
theorem dksX7_factor_2 : cX7_factor.data.toList.drop 45 = dktX7_factor_2 := dk_seg dksX7_factor_1 23 rfl rfl
theorem dksX7_factor_3 : cX7_factor.data.toList.drop 69 = dktX7_factor_3 := dk_seg dksX7_factor_2 24 rfl rfl
theorem dksX7_factor_4 : cX7_factor.data.toList.drop 92 = dktX7_factor_4 := dk_seg dksX7_factor_3 23 rfl rfl
theorem dksX7_factor_5 : cX7_factor.data.toList.drop 115 = dktX7_factor_5 := dk_seg dksX7_factor_4 23 rfl rfl
theorem dksX7_factor_6 : cX7_factor.data.toList.drop 137 = dktX7_factor_6 := dk_seg dksX7_factor_5 22 rfl rfl
theorem dksX7_factor_7 : cX7_factor.data.toList.drop 161 = dktX7_factor_7 := dk_seg dksX7_factor_6 24 rfl rfl
theorem dksX7_factor_8 : cX7_factor.data.toList.drop 185 = dktX7_factor_8 := dk_seg dksX7_factor_7 24 rfl rfl
theorem dksX7_factor_9 : cX7_factor.data.toList.drop 208 = dktX7_factor_9 := dk_seg dksX7_factor_8 23 rfl rfl
theorem dksX7_factor_10 : cX7_factor.data.toList.drop 231 = dktX7_factor_10 := dk_seg dksX7_factor_9 23 rfl rfl
theorem dksX7_factor_11 : cX7_factor.data.toList.drop 255 = dktX7_factor_11 := dk_seg dksX7_factor_10 24 rfl rfl
theorem dX7_factor_0 : decode cX7_factor 0 = .ok (.iload_n 1, 1) := dk_27 (dk_at dksX7_factor_0 0 rfl rfl)
theorem dX7_factor_1 : decode cX7_factor 1 = .ok (.invokestatic 147, 3) := dk_184 0 147 (dk_at dksX7_factor_0 1 rfl rfl)
theorem dX7_factor_4 : decode cX7_factor 4 = .ok (.ifCond .eq 10, 3) := dk_153 0 10 (dk_at dksX7_factor_0 4 rfl rfl)
theorem dX7_factor_7 : decode cX7_factor 7 = .ok (.iload_n 2, 1) := dk_28 (dk_at dksX7_factor_0 7 rfl rfl)
theorem dX7_factor_8 : decode cX7_factor 8 = .ok (.invokestatic 147, 3) := dk_184 0 147 (dk_at dksX7_factor_0 8 rfl rfl)
theorem dX7_factor_11 : decode cX7_factor 11 = .ok (.ifCond .ne 9, 3) := dk_154 0 9 (dk_at dksX7_factor_0 11 rfl rfl)
theorem dX7_factor_14 : decode cX7_factor 14 = .ok (.aload_n 0, 1) := dk_42 (dk_at dksX7_factor_0 14 rfl rfl)
theorem dX7_factor_15 : decode cX7_factor 15 = .ok (.iconst 1, 1) := dk_4 (dk_at dksX7_factor_0 15 rfl rfl)
theorem dX7_factor_16 : decode cX7_factor 16 = .ok (.invokevirtual 144, 3) := dk_182 0 144 (dk_at dksX7_factor_0 16 rfl rfl)
theorem dX7_factor_19 : decode cX7_factor 19 = .ok (.ireturn, 1) := dk_172 (dk_at dksX7_factor_0 19 rfl rfl)
theorem dX7_factor_20 : decode cX7_factor 20 = .ok (.aload_n 0, 1) := dk_42 (dk_at dksX7_factor_0 20 rfl rfl)
theorem dX7_factor_21 : decode cX7_factor 21 = .ok (.iload_n 2, 1) := dk_28 (dk_at dksX7_factor_0 21 rfl rfl)
theorem dX7_factor_22 : decode cX7_factor 22 = .ok (.invokevirtual 197, 3) := dk_182 0 197 (dk_at dksX7_factor_1 0 rfl rfl)
theorem dX7_factor_25 : decode cX7_factor 25 = .ok (.ifCond .ne 9, 3) := dk_154 0 9 (dk_at dksX7_factor_1 3 rfl rfl)
theorem dX7_factor_28 : decode cX7_factor 28 = .ok (.aload_n 0, 1) := dk_42 (dk_at dksX7_factor_1 6 rfl rfl)
theorem dX7_factor_29 : decode cX7_factor 29 = .ok (.iconst 2, 1) := dk_5 (dk_at dksX7_factor_1 7 rfl rfl)
theorem dX7_factor_30 : decode cX7_factor 30 = .ok (.invokevirtual 144, 3) := dk_182 0 144 (dk_at dksX7_factor_1 8 rfl rfl)
theorem dX7_factor_33 : decode cX7_factor 33 = .ok (.ireturn, 1) := dk_172 (dk_at dksX7_factor_1 11 rfl rfl)
theorem dX7_factor_34 : decode cX7_factor 34 = .ok (.aload_n 0, 1) := dk_42 (dk_at dksX7_factor_1 12 rfl rfl)
theorem dX7_factor_35 : decode cX7_factor 35 = .ok (.iload_n 2, 1) := dk_28 (dk_at dksX7_factor_1 13 rfl rfl)
theorem dX7_factor_36 : decode cX7_factor 36 = .ok (.invokevirtual 211, 3) := dk_182 0 211 (dk_at dksX7_factor_1 14 rfl rfl)
theorem dX7_factor_39 : decode cX7_factor 39 = .ok (.istore 4, 2) := dk_54 4 (dk_at dksX7_factor_1 17 rfl rfl)
theorem dX7_factor_41 : decode cX7_factor 41 = .ok (.iload_n 3, 1) := dk_29 (dk_at dksX7_factor_1 19 rfl rfl)
theorem dX7_factor_42 : decode cX7_factor 42 = .ok (.iconst 0, 1) := dk_3 (dk_at dksX7_factor_1 20 rfl rfl)
theorem dX7_factor_43 : decode cX7_factor 43 = .ok (.iload 4, 2) := dk_21 4 (dk_at dksX7_factor_1 21 rfl rfl)
theorem dX7_factor_45 : decode cX7_factor 45 = .ok (.invokestatic 98, 3) := dk_184 0 98 (dk_at dksX7_factor_2 0 rfl rfl)
theorem dX7_factor_48 : decode cX7_factor 48 = .ok (.iconst 1, 1) := dk_4 (dk_at dksX7_factor_2 3 rfl rfl)
theorem dX7_factor_49 : decode cX7_factor 49 = .ok (.isub, 1) := dk_100 (dk_at dksX7_factor_2 4 rfl rfl)
theorem dX7_factor_50 : decode cX7_factor 50 = .ok (.invokestatic 67, 3) := dk_184 0 67 (dk_at dksX7_factor_2 5 rfl rfl)
theorem dX7_factor_53 : decode cX7_factor 53 = .ok (.ifCond .ne 9, 3) := dk_154 0 9 (dk_at dksX7_factor_2 8 rfl rfl)
theorem dX7_factor_56 : decode cX7_factor 56 = .ok (.aload_n 0, 1) := dk_42 (dk_at dksX7_factor_2 11 rfl rfl)
theorem dX7_factor_57 : decode cX7_factor 57 = .ok (.iconst 3, 1) := dk_6 (dk_at dksX7_factor_2 12 rfl rfl)
theorem dX7_factor_58 : decode cX7_factor 58 = .ok (.invokevirtual 144, 3) := dk_182 0 144 (dk_at dksX7_factor_2 13 rfl rfl)
theorem dX7_factor_61 : decode cX7_factor 61 = .ok (.ireturn, 1) := dk_172 (dk_at dksX7_factor_2 16 rfl rfl)
theorem dX7_factor_62 : decode cX7_factor 62 = .ok (.iload 4, 2) := dk_21 4 (dk_at dksX7_factor_2 17 rfl rfl)
theorem dX7_factor_64 : decode cX7_factor 64 = .ok (.istore 5, 2) := dk_54 5 (dk_at dksX7_factor_2 19 rfl rfl)
theorem dX7_factor_66 : decode cX7_factor 66 = .ok (.iconst 0, 1) := dk_3 (dk_at dksX7_factor_2 21 rfl rfl)
theorem dX7_factor_67 : decode cX7_factor 67 = .ok (.istore 6, 2) := dk_54 6 (dk_at dksX7_factor_2 22 rfl rfl)
theorem dX7_factor_69 : decode cX7_factor 69 = .ok (.iload 6, 2) := dk_21 6 (dk_at dksX7_factor_3 0 rfl rfl)
theorem dX7_factor_71 : decode cX7_factor 71 = .ok (.iload_n 3, 1) := dk_29 (dk_at dksX7_factor_3 2 rfl rfl)
theorem dX7_factor_72 : decode cX7_factor 72 = .ok (.if_icmp .ge 18, 3) := dk_162 0 18 (dk_at dksX7_factor_3 3 rfl rfl)
theorem dX7_factor_75 : decode cX7_factor 75 = .ok (.iload 5, 2) := dk_21 5 (dk_at dksX7_factor_3 6 rfl rfl)
theorem dX7_factor_77 : decode cX7_factor 77 = .ok (.iload 5, 2) := dk_21 5 (dk_at dksX7_factor_3 8 rfl rfl)
theorem dX7_factor_79 : decode cX7_factor 79 = .ok (.iconst 1, 1) := dk_4 (dk_at dksX7_factor_3 10 rfl rfl)
theorem dX7_factor_80 : decode cX7_factor 80 = .ok (.isub, 1) := dk_100 (dk_at dksX7_factor_3 11 rfl rfl)
theorem dX7_factor_81 : decode cX7_factor 81 = .ok (.iand, 1) := dk_126 (dk_at dksX7_factor_3 12 rfl rfl)
theorem dX7_factor_82 : decode cX7_factor 82 = .ok (.istore 5, 2) := dk_54 5 (dk_at dksX7_factor_3 13 rfl rfl)
theorem dX7_factor_84 : decode cX7_factor 84 = .ok (.iinc 6 1, 3) := dk_132 6 1 (dk_at dksX7_factor_3 15 rfl rfl)
theorem dX7_factor_87 : decode cX7_factor 87 = .ok (.goto (-18), 3) := dk_167 255 238 (dk_at dksX7_factor_3 18 rfl rfl)
theorem dX7_factor_90 : decode cX7_factor 90 = .ok (.iload 5, 2) := dk_21 5 (dk_at dksX7_factor_3 21 rfl rfl)
theorem dX7_factor_92 : decode cX7_factor 92 = .ok (.iload 5, 2) := dk_21 5 (dk_at dksX7_factor_4 0 rfl rfl)
theorem dX7_factor_94 : decode cX7_factor 94 = .ok (.ineg, 1) := dk_116 (dk_at dksX7_factor_4 2 rfl rfl)
theorem dX7_factor_95 : decode cX7_factor 95 = .ok (.iand, 1) := dk_126 (dk_at dksX7_factor_4 3 rfl rfl)
theorem dX7_factor_96 : decode cX7_factor 96 = .ok (.istore 6, 2) := dk_54 6 (dk_at dksX7_factor_4 4 rfl rfl)
theorem dX7_factor_98 : decode cX7_factor 98 = .ok (.iload 4, 2) := dk_21 4 (dk_at dksX7_factor_4 6 rfl rfl)
theorem dX7_factor_100 : decode cX7_factor 100 = .ok (.iload 6, 2) := dk_21 6 (dk_at dksX7_factor_4 8 rfl rfl)
theorem dX7_factor_102 : decode cX7_factor 102 = .ok (.ixor, 1) := dk_130 (dk_at dksX7_factor_4 10 rfl rfl)
theorem dX7_factor_103 : decode cX7_factor 103 = .ok (.istore 7, 2) := dk_54 7 (dk_at dksX7_factor_4 11 rfl rfl)
theorem dX7_factor_105 : decode cX7_factor 105 = .ok (.aload_n 0, 1) := dk_42 (dk_at dksX7_factor_4 13 rfl rfl)
theorem dX7_factor_106 : decode cX7_factor 106 = .ok (.invokevirtual 105, 3) := dk_182 0 105 (dk_at dksX7_factor_4 14 rfl rfl)
theorem dX7_factor_109 : decode cX7_factor 109 = .ok (.iconst 0, 1) := dk_3 (dk_at dksX7_factor_4 17 rfl rfl)
theorem dX7_factor_110 : decode cX7_factor 110 = .ok (.istore 8, 2) := dk_54 8 (dk_at dksX7_factor_4 18 rfl rfl)
theorem dX7_factor_112 : decode cX7_factor 112 = .ok (.iload 8, 2) := dk_21 8 (dk_at dksX7_factor_4 20 rfl rfl)
theorem dX7_factor_114 : decode cX7_factor 114 = .ok (.aload_n 0, 1) := dk_42 (dk_at dksX7_factor_4 22 rfl rfl)
theorem dX7_factor_115 : decode cX7_factor 115 = .ok (.invokevirtual 63, 3) := dk_182 0 63 (dk_at dksX7_factor_5 0 rfl rfl)
theorem dX7_factor_118 : decode cX7_factor 118 = .ok (.if_icmp .ge 56, 3) := dk_162 0 56 (dk_at dksX7_factor_5 3 rfl rfl)
theorem dX7_factor_121 : decode cX7_factor 121 = .ok (.aload_n 0, 1) := dk_42 (dk_at dksX7_factor_5 6 rfl rfl)
theorem dX7_factor_122 : decode cX7_factor 122 = .ok (.getfield 31, 3) := dk_180 0 31 (dk_at dksX7_factor_5 7 rfl rfl)
theorem dX7_factor_125 : decode cX7_factor 125 = .ok (.iconst 1, 1) := dk_4 (dk_at dksX7_factor_5 10 rfl rfl)
theorem dX7_factor_126 : decode cX7_factor 126 = .ok (.iload 8, 2) := dk_21 8 (dk_at dksX7_factor_5 11 rfl rfl)
theorem dX7_factor_128 : decode cX7_factor 128 = .ok (.ishl, 1) := dk_120 (dk_at dksX7_factor_5 13 rfl rfl)
theorem dX7_factor_129 : decode cX7_factor 129 = .ok (.iload 7, 2) := dk_21 7 (dk_at dksX7_factor_5 14 rfl rfl)
theorem dX7_factor_131 : decode cX7_factor 131 = .ok (.iload 8, 2) := dk_21 8 (dk_at dksX7_factor_5 16 rfl rfl)
theorem dX7_factor_133 : decode cX7_factor 133 = .ok (.ishr, 1) := dk_122 (dk_at dksX7_factor_5 18 rfl rfl)
theorem dX7_factor_134 : decode cX7_factor 134 = .ok (.iconst 1, 1) := dk_4 (dk_at dksX7_factor_5 19 rfl rfl)
theorem dX7_factor_135 : decode cX7_factor 135 = .ok (.iand, 1) := dk_126 (dk_at dksX7_factor_5 20 rfl rfl)
theorem dX7_factor_136 : decode cX7_factor 136 = .ok (.iconst 1, 1) := dk_4 (dk_at dksX7_factor_5 21 rfl rfl)
theorem dX7_factor_137 : decode cX7_factor 137 = .ok (.if_icmp .ne 7, 3) := dk_160 0 7 (dk_at dksX7_factor_6 0 rfl rfl)
theorem dX7_factor_140 : decode cX7_factor 140 = .ok (.lconst 0, 1) := dk_9 (dk_at dksX7_factor_6 3 rfl rfl)
theorem dX7_factor_141 : decode cX7_factor 141 = .ok (.goto 26, 3) := dk_167 0 26 (dk_at dksX7_factor_6 4 rfl rfl)
theorem dX7_factor_144 : decode cX7_factor 144 = .ok (.iload 7, 2) := dk_21 7 (dk_at dksX7_factor_6 7 rfl rfl)
theorem dX7_factor_146 : decode cX7_factor 146 = .ok (.iconst 1, 1) := dk_4 (dk_at dksX7_factor_6 9 rfl rfl)
theorem dX7_factor_147 : decode cX7_factor 147 = .ok (.iload 8, 2) := dk_21 8 (dk_at dksX7_factor_6 10 rfl rfl)
theorem dX7_factor_149 : decode cX7_factor 149 = .ok (.ishl, 1) := dk_120 (dk_at dksX7_factor_6 12 rfl rfl)
theorem dX7_factor_150 : decode cX7_factor 150 = .ok (.invokestatic 101, 3) := dk_184 0 101 (dk_at dksX7_factor_6 13 rfl rfl)
theorem dX7_factor_153 : decode cX7_factor 153 = .ok (.i2l, 1) := dk_133 (dk_at dksX7_factor_6 16 rfl rfl)
theorem dX7_factor_154 : decode cX7_factor 154 = .ok (.aload_n 0, 1) := dk_42 (dk_at dksX7_factor_6 17 rfl rfl)
theorem dX7_factor_155 : decode cX7_factor 155 = .ok (.iload_n 2, 1) := dk_28 (dk_at dksX7_factor_6 18 rfl rfl)
theorem dX7_factor_156 : decode cX7_factor 156 = .ok (.iload 7, 2) := dk_21 7 (dk_at dksX7_factor_6 19 rfl rfl)
theorem dX7_factor_158 : decode cX7_factor 158 = .ok (.iconst 1, 1) := dk_4 (dk_at dksX7_factor_6 21 rfl rfl)
theorem dX7_factor_159 : decode cX7_factor 159 = .ok (.iload 8, 2) := dk_21 8 (dk_at dksX7_factor_6 22 rfl rfl)
theorem dX7_factor_161 : decode cX7_factor 161 = .ok (.ishl, 1) := dk_120 (dk_at dksX7_factor_7 0 rfl rfl)
theorem dX7_factor_162 : decode cX7_factor 162 = .ok (.ior, 1) := dk_128 (dk_at dksX7_factor_7 1 rfl rfl)
theorem dX7_factor_163 : decode cX7_factor 163 = .ok (.invokevirtual 94, 3) := dk_182 0 94 (dk_at dksX7_factor_7 2 rfl rfl)
theorem dX7_factor_166 : decode cX7_factor 166 = .ok (.lmul, 1) := dk_105 (dk_at dksX7_factor_7 5 rfl rfl)
theorem dX7_factor_167 : decode cX7_factor 167 = .ok (.lastore, 1) := dk_80 (dk_at dksX7_factor_7 6 rfl rfl)
theorem dX7_factor_168 : decode cX7_factor 168 = .ok (.iinc 8 1, 3) := dk_132 8 1 (dk_at dksX7_factor_7 7 rfl rfl)
theorem dX7_factor_171 : decode cX7_factor 171 = .ok (.goto (-59), 3) := dk_167 255 197 (dk_at dksX7_factor_7 10 rfl rfl)
theorem dX7_factor_174 : decode cX7_factor 174 = .ok (.aload_n 0, 1) := dk_42 (dk_at dksX7_factor_7 13 rfl rfl)
theorem dX7_factor_175 : decode cX7_factor 175 = .ok (.aload_n 0, 1) := dk_42 (dk_at dksX7_factor_7 14 rfl rfl)
theorem dX7_factor_176 : decode cX7_factor 176 = .ok (.getfield 31, 3) := dk_180 0 31 (dk_at dksX7_factor_7 15 rfl rfl)
theorem dX7_factor_179 : decode cX7_factor 179 = .ok (.iload 6, 2) := dk_21 6 (dk_at dksX7_factor_7 18 rfl rfl)
theorem dX7_factor_181 : decode cX7_factor 181 = .ok (.laload, 1) := dk_47 (dk_at dksX7_factor_7 20 rfl rfl)
theorem dX7_factor_182 : decode cX7_factor 182 = .ok (.putfield 34, 3) := dk_181 0 34 (dk_at dksX7_factor_7 21 rfl rfl)
theorem dX7_factor_185 : decode cX7_factor 185 = .ok (.aload_n 0, 1) := dk_42 (dk_at dksX7_factor_8 0 rfl rfl)
theorem dX7_factor_186 : decode cX7_factor 186 = .ok (.getfield 34, 3) := dk_180 0 34 (dk_at dksX7_factor_8 1 rfl rfl)
theorem dX7_factor_189 : decode cX7_factor 189 = .ok (.lconst 0, 1) := dk_9 (dk_at dksX7_factor_8 4 rfl rfl)
theorem dX7_factor_190 : decode cX7_factor 190 = .ok (.lcmp, 1) := dk_148 (dk_at dksX7_factor_8 5 rfl rfl)
theorem dX7_factor_191 : decode cX7_factor 191 = .ok (.ifCond .ge 9, 3) := dk_156 0 9 (dk_at dksX7_factor_8 6 rfl rfl)
theorem dX7_factor_194 : decode cX7_factor 194 = .ok (.ldc2_w 122, 3) := dk_20 0 122 (dk_at dksX7_factor_8 9 rfl rfl)
theorem dX7_factor_197 : decode cX7_factor 197 = .ok (.goto 4, 3) := dk_167 0 4 (dk_at dksX7_factor_8 12 rfl rfl)
theorem dX7_factor_200 : decode cX7_factor 200 = .ok (.lconst 1, 1) := dk_10 (dk_at dksX7_factor_8 15 rfl rfl)
theorem dX7_factor_201 : decode cX7_factor 201 = .ok (.lstore 8, 2) := dk_55 8 (dk_at dksX7_factor_8 16 rfl rfl)
theorem dX7_factor_203 : decode cX7_factor 203 = .ok (.aload_n 0, 1) := dk_42 (dk_at dksX7_factor_8 18 rfl rfl)
theorem dX7_factor_204 : decode cX7_factor 204 = .ok (.dup, 1) := dk_89 (dk_at dksX7_factor_8 19 rfl rfl)
theorem dX7_factor_205 : decode cX7_factor 205 = .ok (.getfield 34, 3) := dk_180 0 34 (dk_at dksX7_factor_8 20 rfl rfl)
theorem dX7_factor_208 : decode cX7_factor 208 = .ok (.lload 8, 2) := dk_22 8 (dk_at dksX7_factor_9 0 rfl rfl)
theorem dX7_factor_210 : decode cX7_factor 210 = .ok (.lmul, 1) := dk_105 (dk_at dksX7_factor_9 2 rfl rfl)
theorem dX7_factor_211 : decode cX7_factor 211 = .ok (.putfield 34, 3) := dk_181 0 34 (dk_at dksX7_factor_9 3 rfl rfl)
theorem dX7_factor_214 : decode cX7_factor 214 = .ok (.iconst 0, 1) := dk_3 (dk_at dksX7_factor_9 6 rfl rfl)
theorem dX7_factor_215 : decode cX7_factor 215 = .ok (.istore 10, 2) := dk_54 10 (dk_at dksX7_factor_9 7 rfl rfl)
theorem dX7_factor_217 : decode cX7_factor 217 = .ok (.iload 10, 2) := dk_21 10 (dk_at dksX7_factor_9 9 rfl rfl)
theorem dX7_factor_219 : decode cX7_factor 219 = .ok (.aload_n 0, 1) := dk_42 (dk_at dksX7_factor_9 11 rfl rfl)
theorem dX7_factor_220 : decode cX7_factor 220 = .ok (.invokevirtual 63, 3) := dk_182 0 63 (dk_at dksX7_factor_9 12 rfl rfl)
theorem dX7_factor_223 : decode cX7_factor 223 = .ok (.if_icmp .ge 23, 3) := dk_162 0 23 (dk_at dksX7_factor_9 15 rfl rfl)
theorem dX7_factor_226 : decode cX7_factor 226 = .ok (.aload_n 0, 1) := dk_42 (dk_at dksX7_factor_9 18 rfl rfl)
theorem dX7_factor_227 : decode cX7_factor 227 = .ok (.getfield 31, 3) := dk_180 0 31 (dk_at dksX7_factor_9 19 rfl rfl)
theorem dX7_factor_230 : decode cX7_factor 230 = .ok (.iconst 1, 1) := dk_4 (dk_at dksX7_factor_9 22 rfl rfl)
theorem dX7_factor_231 : decode cX7_factor 231 = .ok (.iload 10, 2) := dk_21 10 (dk_at dksX7_factor_10 0 rfl rfl)
theorem dX7_factor_233 : decode cX7_factor 233 = .ok (.ishl, 1) := dk_120 (dk_at dksX7_factor_10 2 rfl rfl)
theorem dX7_factor_234 : decode cX7_factor 234 = .ok (.dup2, 1) := dk_92 (dk_at dksX7_factor_10 3 rfl rfl)
theorem dX7_factor_235 : decode cX7_factor 235 = .ok (.laload, 1) := dk_47 (dk_at dksX7_factor_10 4 rfl rfl)
theorem dX7_factor_236 : decode cX7_factor 236 = .ok (.lload 8, 2) := dk_22 8 (dk_at dksX7_factor_10 5 rfl rfl)
theorem dX7_factor_238 : decode cX7_factor 238 = .ok (.lmul, 1) := dk_105 (dk_at dksX7_factor_10 7 rfl rfl)
theorem dX7_factor_239 : decode cX7_factor 239 = .ok (.lastore, 1) := dk_80 (dk_at dksX7_factor_10 8 rfl rfl)
theorem dX7_factor_240 : decode cX7_factor 240 = .ok (.iinc 10 1, 3) := dk_132 10 1 (dk_at dksX7_factor_10 9 rfl rfl)
theorem dX7_factor_243 : decode cX7_factor 243 = .ok (.goto (-26), 3) := dk_167 255 230 (dk_at dksX7_factor_10 12 rfl rfl)
theorem dX7_factor_246 : decode cX7_factor 246 = .ok (.aload_n 0, 1) := dk_42 (dk_at dksX7_factor_10 15 rfl rfl)
theorem dX7_factor_247 : decode cX7_factor 247 = .ok (.bipush 24, 2) := dk_16 24 (dk_at dksX7_factor_10 16 rfl rfl)
theorem dX7_factor_249 : decode cX7_factor 249 = .ok (.invokevirtual 118, 3) := dk_182 0 118 (dk_at dksX7_factor_10 18 rfl rfl)
theorem dX7_factor_252 : decode cX7_factor 252 = .ok (.ifCond .eq 13, 3) := dk_153 0 13 (dk_at dksX7_factor_10 21 rfl rfl)
theorem dX7_factor_255 : decode cX7_factor 255 = .ok (.aload_n 0, 1) := dk_42 (dk_at dksX7_factor_11 0 rfl rfl)
theorem dX7_factor_256 : decode cX7_factor 256 = .ok (.bipush 24, 2) := dk_16 24 (dk_at dksX7_factor_11 1 rfl rfl)
theorem dX7_factor_258 : decode cX7_factor 258 = .ok (.iload_n 1, 1) := dk_27 (dk_at dksX7_factor_11 3 rfl rfl)
theorem dX7_factor_259 : decode cX7_factor 259 = .ok (.invokevirtual 153, 3) := dk_182 0 153 (dk_at dksX7_factor_11 4 rfl rfl)
theorem dX7_factor_262 : decode cX7_factor 262 = .ok (.goto 8, 3) := dk_167 0 8 (dk_at dksX7_factor_11 7 rfl rfl)
theorem dX7_factor_265 : decode cX7_factor 265 = .ok (.aload_n 0, 1) := dk_42 (dk_at dksX7_factor_11 10 rfl rfl)
theorem dX7_factor_266 : decode cX7_factor 266 = .ok (.iconst 4, 1) := dk_7 (dk_at dksX7_factor_11 11 rfl rfl)
theorem dX7_factor_267 : decode cX7_factor 267 = .ok (.invokevirtual 144, 3) := dk_182 0 144 (dk_at dksX7_factor_11 12 rfl rfl)
theorem dX7_factor_270 : decode cX7_factor 270 = .ok (.ireturn, 1) := dk_172 (dk_at dksX7_factor_11 15 rfl rfl)
abbrev cX7_greatest : ByteArray := prog_42_method_66_code
def yX7_greatest : MethodName := ⟨RX7, "greatest", "(I)I"⟩
def dkwX7_greatest_1 : List UInt8 := [182, 0, 94, 184, 0, 207, 148, 158, 0, 7, 29, 167, 0, 4, 28, 61, 132, 3, 1, 167, 255, 217, 28, 172]
abbrev dktX7_greatest_1 : List UInt8 := dkwX7_greatest_1 ++ []
def dkwX7_greatest_0 : List UInt8 := [3, 61, 4, 62, 29, 42, 182, 0, 71, 163, 0, 37, 42, 27, 29, 182, 0, 94, 184, 0, 207, 42, 27, 28]
abbrev dktX7_greatest_0 : List UInt8 := dkwX7_greatest_0 ++ dktX7_greatest_1
theorem dksX7_greatest_0 : cX7_greatest.data.toList.drop 0 = dktX7_greatest_0 := by decide +kernel
theorem dksX7_greatest_1 : cX7_greatest.data.toList.drop 24 = dktX7_greatest_1 := dk_seg dksX7_greatest_0 24 rfl rfl
theorem dX7_greatest_0 : decode cX7_greatest 0 = .ok (.iconst 0, 1) := dk_3 (dk_at dksX7_greatest_0 0 rfl rfl)
theorem dX7_greatest_1 : decode cX7_greatest 1 = .ok (.istore_n 2, 1) := dk_61 (dk_at dksX7_greatest_0 1 rfl rfl)
theorem dX7_greatest_2 : decode cX7_greatest 2 = .ok (.iconst 1, 1) := dk_4 (dk_at dksX7_greatest_0 2 rfl rfl)
theorem dX7_greatest_3 : decode cX7_greatest 3 = .ok (.istore_n 3, 1) := dk_62 (dk_at dksX7_greatest_0 3 rfl rfl)
theorem dX7_greatest_4 : decode cX7_greatest 4 = .ok (.iload_n 3, 1) := dk_29 (dk_at dksX7_greatest_0 4 rfl rfl)
theorem dX7_greatest_5 : decode cX7_greatest 5 = .ok (.aload_n 0, 1) := dk_42 (dk_at dksX7_greatest_0 5 rfl rfl)
theorem dX7_greatest_6 : decode cX7_greatest 6 = .ok (.invokevirtual 71, 3) := dk_182 0 71 (dk_at dksX7_greatest_0 6 rfl rfl)
theorem dX7_greatest_9 : decode cX7_greatest 9 = .ok (.if_icmp .gt 37, 3) := dk_163 0 37 (dk_at dksX7_greatest_0 9 rfl rfl)
theorem dX7_greatest_12 : decode cX7_greatest 12 = .ok (.aload_n 0, 1) := dk_42 (dk_at dksX7_greatest_0 12 rfl rfl)
theorem dX7_greatest_13 : decode cX7_greatest 13 = .ok (.iload_n 1, 1) := dk_27 (dk_at dksX7_greatest_0 13 rfl rfl)
theorem dX7_greatest_14 : decode cX7_greatest 14 = .ok (.iload_n 3, 1) := dk_29 (dk_at dksX7_greatest_0 14 rfl rfl)
theorem dX7_greatest_15 : decode cX7_greatest 15 = .ok (.invokevirtual 94, 3) := dk_182 0 94 (dk_at dksX7_greatest_0 15 rfl rfl)
theorem dX7_greatest_18 : decode cX7_greatest 18 = .ok (.invokestatic 207, 3) := dk_184 0 207 (dk_at dksX7_greatest_0 18 rfl rfl)
theorem dX7_greatest_21 : decode cX7_greatest 21 = .ok (.aload_n 0, 1) := dk_42 (dk_at dksX7_greatest_0 21 rfl rfl)
theorem dX7_greatest_22 : decode cX7_greatest 22 = .ok (.iload_n 1, 1) := dk_27 (dk_at dksX7_greatest_0 22 rfl rfl)
theorem dX7_greatest_23 : decode cX7_greatest 23 = .ok (.iload_n 2, 1) := dk_28 (dk_at dksX7_greatest_0 23 rfl rfl)
theorem dX7_greatest_24 : decode cX7_greatest 24 = .ok (.invokevirtual 94, 3) := dk_182 0 94 (dk_at dksX7_greatest_1 0 rfl rfl)
theorem dX7_greatest_27 : decode cX7_greatest 27 = .ok (.invokestatic 207, 3) := dk_184 0 207 (dk_at dksX7_greatest_1 3 rfl rfl)
theorem dX7_greatest_30 : decode cX7_greatest 30 = .ok (.lcmp, 1) := dk_148 (dk_at dksX7_greatest_1 6 rfl rfl)
theorem dX7_greatest_31 : decode cX7_greatest 31 = .ok (.ifCond .le 7, 3) := dk_158 0 7 (dk_at dksX7_greatest_1 7 rfl rfl)
theorem dX7_greatest_34 : decode cX7_greatest 34 = .ok (.iload_n 3, 1) := dk_29 (dk_at dksX7_greatest_1 10 rfl rfl)
theorem dX7_greatest_35 : decode cX7_greatest 35 = .ok (.goto 4, 3) := dk_167 0 4 (dk_at dksX7_greatest_1 11 rfl rfl)
theorem dX7_greatest_38 : decode cX7_greatest 38 = .ok (.iload_n 2, 1) := dk_28 (dk_at dksX7_greatest_1 14 rfl rfl)
theorem dX7_greatest_39 : decode cX7_greatest 39 = .ok (.istore_n 2, 1) := dk_61 (dk_at dksX7_greatest_1 15 rfl rfl)
theorem dX7_greatest_40 : decode cX7_greatest 40 = .ok (.iinc 3 1, 3) := dk_132 3 1 (dk_at dksX7_greatest_1 16 rfl rfl)
theorem dX7_greatest_43 : decode cX7_greatest 43 = .ok (.goto (-39), 3) := dk_167 255 217 (dk_at dksX7_greatest_1 19 rfl rfl)
theorem dX7_greatest_46 : decode cX7_greatest 46 = .ok (.iload_n 2, 1) := dk_28 (dk_at dksX7_greatest_1 22 rfl rfl)
theorem dX7_greatest_47 : decode cX7_greatest 47 = .ok (.ireturn, 1) := dk_172 (dk_at dksX7_greatest_1 23 rfl rfl)
abbrev cX7_amount : ByteArray := prog_42_method_65_code
def yX7_amount : MethodName := ⟨RX7, "amount", "(J)J"⟩
def dkwX7_amount_0 : List UInt8 := [30, 9, 148, 156, 0, 8, 30, 117, 167, 0, 4, 30, 173]
abbrev dktX7_amount_0 : List UInt8 := dkwX7_amount_0 ++ []
theorem dksX7_amount_0 : cX7_amount.data.toList.drop 0 = dktX7_amount_0 := by decide +kernel
theorem dX7_amount_0 : decode cX7_amount 0 = .ok (.lload_n 0, 1) := dk_30 (dk_at dksX7_amount_0 0 rfl rfl)
theorem dX7_amount_1 : decode cX7_amount 1 = .ok (.lconst 0, 1) := dk_9 (dk_at dksX7_amount_0 1 rfl rfl)
theorem dX7_amount_2 : decode cX7_amount 2 = .ok (.lcmp, 1) := dk_148 (dk_at dksX7_amount_0 2 rfl rfl)
theorem dX7_amount_3 : decode cX7_amount 3 = .ok (.ifCond .ge 8, 3) := dk_156 0 8 (dk_at dksX7_amount_0 3 rfl rfl)
theorem dX7_amount_6 : decode cX7_amount 6 = .ok (.lload_n 0, 1) := dk_30 (dk_at dksX7_amount_0 6 rfl rfl)
theorem dX7_amount_7 : decode cX7_amount 7 = .ok (.lneg, 1) := dk_117 (dk_at dksX7_amount_0 7 rfl rfl)
theorem dX7_amount_8 : decode cX7_amount 8 = .ok (.goto 4, 3) := dk_167 0 4 (dk_at dksX7_amount_0 8 rfl rfl)
theorem dX7_amount_11 : decode cX7_amount 11 = .ok (.lload_n 0, 1) := dk_30 (dk_at dksX7_amount_0 11 rfl rfl)
theorem dX7_amount_12 : decode cX7_amount 12 = .ok (.lreturn, 1) := dk_173 (dk_at dksX7_amount_0 12 rfl rfl)
abbrev cX7_map : ByteArray := prog_42_method_71_code
def yX7_map : MethodName := ⟨RX7, "map", "(III)I"⟩
def dkwX7_map_2 : List UInt8 := [16, 24, 27, 182, 0, 153, 167, 0, 8, 42, 6, 182, 0, 144, 172]
abbrev dktX7_map_2 : List UInt8 := dkwX7_map_2 ++ []
def dkwX7_map_1 : List UInt8 := [54, 4, 21, 4, 158, 0, 10, 42, 21, 4, 182, 0, 144, 172, 42, 28, 29, 182, 0, 221, 153, 0, 13, 42]
abbrev dktX7_map_1 : List UInt8 := dkwX7_map_1 ++ dktX7_map_2
def dkwX7_map_0 : List UInt8 := [42, 27, 184, 0, 147, 153, 0, 14, 28, 184, 0, 147, 153, 0, 7, 4, 167, 0, 4, 3, 29, 182, 0, 217]
abbrev dktX7_map_0 : List UInt8 := dkwX7_map_0 ++ dktX7_map_1
theorem dksX7_map_0 : cX7_map.data.toList.drop 0 = dktX7_map_0 := by decide +kernel
theorem dksX7_map_1 : cX7_map.data.toList.drop 24 = dktX7_map_1 := dk_seg dksX7_map_0 24 rfl rfl
theorem dksX7_map_2 : cX7_map.data.toList.drop 48 = dktX7_map_2 := dk_seg dksX7_map_1 24 rfl rfl
theorem dX7_map_0 : decode cX7_map 0 = .ok (.aload_n 0, 1) := dk_42 (dk_at dksX7_map_0 0 rfl rfl)
theorem dX7_map_1 : decode cX7_map 1 = .ok (.iload_n 1, 1) := dk_27 (dk_at dksX7_map_0 1 rfl rfl)
theorem dX7_map_2 : decode cX7_map 2 = .ok (.invokestatic 147, 3) := dk_184 0 147 (dk_at dksX7_map_0 2 rfl rfl)
theorem dX7_map_5 : decode cX7_map 5 = .ok (.ifCond .eq 14, 3) := dk_153 0 14 (dk_at dksX7_map_0 5 rfl rfl)
theorem dX7_map_8 : decode cX7_map 8 = .ok (.iload_n 2, 1) := dk_28 (dk_at dksX7_map_0 8 rfl rfl)
theorem dX7_map_9 : decode cX7_map 9 = .ok (.invokestatic 147, 3) := dk_184 0 147 (dk_at dksX7_map_0 9 rfl rfl)
theorem dX7_map_12 : decode cX7_map 12 = .ok (.ifCond .eq 7, 3) := dk_153 0 7 (dk_at dksX7_map_0 12 rfl rfl)
theorem dX7_map_15 : decode cX7_map 15 = .ok (.iconst 1, 1) := dk_4 (dk_at dksX7_map_0 15 rfl rfl)
theorem dX7_map_16 : decode cX7_map 16 = .ok (.goto 4, 3) := dk_167 0 4 (dk_at dksX7_map_0 16 rfl rfl)
theorem dX7_map_19 : decode cX7_map 19 = .ok (.iconst 0, 1) := dk_3 (dk_at dksX7_map_0 19 rfl rfl)
theorem dX7_map_20 : decode cX7_map 20 = .ok (.iload_n 3, 1) := dk_29 (dk_at dksX7_map_0 20 rfl rfl)
theorem dX7_map_21 : decode cX7_map 21 = .ok (.invokevirtual 217, 3) := dk_182 0 217 (dk_at dksX7_map_0 21 rfl rfl)
theorem dX7_map_24 : decode cX7_map 24 = .ok (.istore 4, 2) := dk_54 4 (dk_at dksX7_map_1 0 rfl rfl)
theorem dX7_map_26 : decode cX7_map 26 = .ok (.iload 4, 2) := dk_21 4 (dk_at dksX7_map_1 2 rfl rfl)
theorem dX7_map_28 : decode cX7_map 28 = .ok (.ifCond .le 10, 3) := dk_158 0 10 (dk_at dksX7_map_1 4 rfl rfl)
theorem dX7_map_31 : decode cX7_map 31 = .ok (.aload_n 0, 1) := dk_42 (dk_at dksX7_map_1 7 rfl rfl)
theorem dX7_map_32 : decode cX7_map 32 = .ok (.iload 4, 2) := dk_21 4 (dk_at dksX7_map_1 8 rfl rfl)
theorem dX7_map_34 : decode cX7_map 34 = .ok (.invokevirtual 144, 3) := dk_182 0 144 (dk_at dksX7_map_1 10 rfl rfl)
theorem dX7_map_37 : decode cX7_map 37 = .ok (.ireturn, 1) := dk_172 (dk_at dksX7_map_1 13 rfl rfl)
theorem dX7_map_38 : decode cX7_map 38 = .ok (.aload_n 0, 1) := dk_42 (dk_at dksX7_map_1 14 rfl rfl)
theorem dX7_map_39 : decode cX7_map 39 = .ok (.iload_n 2, 1) := dk_28 (dk_at dksX7_map_1 15 rfl rfl)
theorem dX7_map_40 : decode cX7_map 40 = .ok (.iload_n 3, 1) := dk_29 (dk_at dksX7_map_1 16 rfl rfl)
theorem dX7_map_41 : decode cX7_map 41 = .ok (.invokevirtual 221, 3) := dk_182 0 221 (dk_at dksX7_map_1 17 rfl rfl)
theorem dX7_map_44 : decode cX7_map 44 = .ok (.ifCond .eq 13, 3) := dk_153 0 13 (dk_at dksX7_map_1 20 rfl rfl)
theorem dX7_map_47 : decode cX7_map 47 = .ok (.aload_n 0, 1) := dk_42 (dk_at dksX7_map_1 23 rfl rfl)
theorem dX7_map_48 : decode cX7_map 48 = .ok (.bipush 24, 2) := dk_16 24 (dk_at dksX7_map_2 0 rfl rfl)
theorem dX7_map_50 : decode cX7_map 50 = .ok (.iload_n 1, 1) := dk_27 (dk_at dksX7_map_2 2 rfl rfl)
theorem dX7_map_51 : decode cX7_map 51 = .ok (.invokevirtual 153, 3) := dk_182 0 153 (dk_at dksX7_map_2 3 rfl rfl)
theorem dX7_map_54 : decode cX7_map 54 = .ok (.goto 8, 3) := dk_167 0 8 (dk_at dksX7_map_2 6 rfl rfl)
theorem dX7_map_57 : decode cX7_map 57 = .ok (.aload_n 0, 1) := dk_42 (dk_at dksX7_map_2 9 rfl rfl)
theorem dX7_map_58 : decode cX7_map 58 = .ok (.iconst 3, 1) := dk_6 (dk_at dksX7_map_2 10 rfl rfl)
theorem dX7_map_59 : decode cX7_map 59 = .ok (.invokevirtual 144, 3) := dk_182 0 144 (dk_at dksX7_map_2 11 rfl rfl)
theorem dX7_map_62 : decode cX7_map 62 = .ok (.ireturn, 1) := dk_172 (dk_at dksX7_map_2 14 rfl rfl)
abbrev cX7_wrongMap : ByteArray := prog_42_method_68_code
def yX7_wrongMap : MethodName := ⟨RX7, "wrongMap", "(ZI)I"⟩
def dkwX7_wrongMap_3 : List UInt8 := [172]
abbrev dktX7_wrongMap_3 : List UInt8 := dkwX7_wrongMap_3 ++ []
def dkwX7_wrongMap_2 : List UInt8 := [153, 0, 7, 4, 167, 0, 4, 3, 62, 132, 4, 1, 167, 255, 223, 29, 153, 0, 7, 3, 167, 0, 4, 5]
abbrev dktX7_wrongMap_2 : List UInt8 := dkwX7_wrongMap_2 ++ dktX7_wrongMap_3
def dkwX7_wrongMap_1 : List UInt8 := [54, 4, 21, 4, 42, 182, 0, 63, 162, 0, 30, 29, 153, 0, 18, 42, 28, 21, 4, 96, 182, 0, 191]
abbrev dktX7_wrongMap_1 : List UInt8 := dkwX7_wrongMap_1 ++ dktX7_wrongMap_2
def dkwX7_wrongMap_0 : List UInt8 := [27, 153, 0, 18, 28, 3, 16, 8, 42, 182, 0, 63, 100, 184, 0, 67, 154, 0, 5, 4, 172, 4, 62, 3]
abbrev dktX7_wrongMap_0 : List UInt8 := dkwX7_wrongMap_0 ++ dktX7_wrongMap_1
theorem dksX7_wrongMap_0 : cX7_wrongMap.data.toList.drop 0 = dktX7_wrongMap_0 := by decide +kernel
theorem dksX7_wrongMap_1 : cX7_wrongMap.data.toList.drop 24 = dktX7_wrongMap_1 := dk_seg dksX7_wrongMap_0 24 rfl rfl
theorem dksX7_wrongMap_2 : cX7_wrongMap.data.toList.drop 47 = dktX7_wrongMap_2 := dk_seg dksX7_wrongMap_1 23 rfl rfl
theorem dksX7_wrongMap_3 : cX7_wrongMap.data.toList.drop 71 = dktX7_wrongMap_3 := dk_seg dksX7_wrongMap_2 24 rfl rfl
theorem dX7_wrongMap_0 : decode cX7_wrongMap 0 = .ok (.iload_n 1, 1) := dk_27 (dk_at dksX7_wrongMap_0 0 rfl rfl)
theorem dX7_wrongMap_1 : decode cX7_wrongMap 1 = .ok (.ifCond .eq 18, 3) := dk_153 0 18 (dk_at dksX7_wrongMap_0 1 rfl rfl)
theorem dX7_wrongMap_4 : decode cX7_wrongMap 4 = .ok (.iload_n 2, 1) := dk_28 (dk_at dksX7_wrongMap_0 4 rfl rfl)
theorem dX7_wrongMap_5 : decode cX7_wrongMap 5 = .ok (.iconst 0, 1) := dk_3 (dk_at dksX7_wrongMap_0 5 rfl rfl)
theorem dX7_wrongMap_6 : decode cX7_wrongMap 6 = .ok (.bipush 8, 2) := dk_16 8 (dk_at dksX7_wrongMap_0 6 rfl rfl)
theorem dX7_wrongMap_8 : decode cX7_wrongMap 8 = .ok (.aload_n 0, 1) := dk_42 (dk_at dksX7_wrongMap_0 8 rfl rfl)
theorem dX7_wrongMap_9 : decode cX7_wrongMap 9 = .ok (.invokevirtual 63, 3) := dk_182 0 63 (dk_at dksX7_wrongMap_0 9 rfl rfl)
theorem dX7_wrongMap_12 : decode cX7_wrongMap 12 = .ok (.isub, 1) := dk_100 (dk_at dksX7_wrongMap_0 12 rfl rfl)
theorem dX7_wrongMap_13 : decode cX7_wrongMap 13 = .ok (.invokestatic 67, 3) := dk_184 0 67 (dk_at dksX7_wrongMap_0 13 rfl rfl)
theorem dX7_wrongMap_16 : decode cX7_wrongMap 16 = .ok (.ifCond .ne 5, 3) := dk_154 0 5 (dk_at dksX7_wrongMap_0 16 rfl rfl)
theorem dX7_wrongMap_19 : decode cX7_wrongMap 19 = .ok (.iconst 1, 1) := dk_4 (dk_at dksX7_wrongMap_0 19 rfl rfl)
theorem dX7_wrongMap_20 : decode cX7_wrongMap 20 = .ok (.ireturn, 1) := dk_172 (dk_at dksX7_wrongMap_0 20 rfl rfl)
theorem dX7_wrongMap_21 : decode cX7_wrongMap 21 = .ok (.iconst 1, 1) := dk_4 (dk_at dksX7_wrongMap_0 21 rfl rfl)
theorem dX7_wrongMap_22 : decode cX7_wrongMap 22 = .ok (.istore_n 3, 1) := dk_62 (dk_at dksX7_wrongMap_0 22 rfl rfl)
theorem dX7_wrongMap_23 : decode cX7_wrongMap 23 = .ok (.iconst 0, 1) := dk_3 (dk_at dksX7_wrongMap_0 23 rfl rfl)
theorem dX7_wrongMap_24 : decode cX7_wrongMap 24 = .ok (.istore 4, 2) := dk_54 4 (dk_at dksX7_wrongMap_1 0 rfl rfl)
theorem dX7_wrongMap_26 : decode cX7_wrongMap 26 = .ok (.iload 4, 2) := dk_21 4 (dk_at dksX7_wrongMap_1 2 rfl rfl)
theorem dX7_wrongMap_28 : decode cX7_wrongMap 28 = .ok (.aload_n 0, 1) := dk_42 (dk_at dksX7_wrongMap_1 4 rfl rfl)
theorem dX7_wrongMap_29 : decode cX7_wrongMap 29 = .ok (.invokevirtual 63, 3) := dk_182 0 63 (dk_at dksX7_wrongMap_1 5 rfl rfl)
theorem dX7_wrongMap_32 : decode cX7_wrongMap 32 = .ok (.if_icmp .ge 30, 3) := dk_162 0 30 (dk_at dksX7_wrongMap_1 8 rfl rfl)
theorem dX7_wrongMap_35 : decode cX7_wrongMap 35 = .ok (.iload_n 3, 1) := dk_29 (dk_at dksX7_wrongMap_1 11 rfl rfl)
theorem dX7_wrongMap_36 : decode cX7_wrongMap 36 = .ok (.ifCond .eq 18, 3) := dk_153 0 18 (dk_at dksX7_wrongMap_1 12 rfl rfl)
theorem dX7_wrongMap_39 : decode cX7_wrongMap 39 = .ok (.aload_n 0, 1) := dk_42 (dk_at dksX7_wrongMap_1 15 rfl rfl)
theorem dX7_wrongMap_40 : decode cX7_wrongMap 40 = .ok (.iload_n 2, 1) := dk_28 (dk_at dksX7_wrongMap_1 16 rfl rfl)
theorem dX7_wrongMap_41 : decode cX7_wrongMap 41 = .ok (.iload 4, 2) := dk_21 4 (dk_at dksX7_wrongMap_1 17 rfl rfl)
theorem dX7_wrongMap_43 : decode cX7_wrongMap 43 = .ok (.iadd, 1) := dk_96 (dk_at dksX7_wrongMap_1 19 rfl rfl)
theorem dX7_wrongMap_44 : decode cX7_wrongMap 44 = .ok (.invokevirtual 191, 3) := dk_182 0 191 (dk_at dksX7_wrongMap_1 20 rfl rfl)
theorem dX7_wrongMap_47 : decode cX7_wrongMap 47 = .ok (.ifCond .eq 7, 3) := dk_153 0 7 (dk_at dksX7_wrongMap_2 0 rfl rfl)
theorem dX7_wrongMap_50 : decode cX7_wrongMap 50 = .ok (.iconst 1, 1) := dk_4 (dk_at dksX7_wrongMap_2 3 rfl rfl)
theorem dX7_wrongMap_51 : decode cX7_wrongMap 51 = .ok (.goto 4, 3) := dk_167 0 4 (dk_at dksX7_wrongMap_2 4 rfl rfl)
theorem dX7_wrongMap_54 : decode cX7_wrongMap 54 = .ok (.iconst 0, 1) := dk_3 (dk_at dksX7_wrongMap_2 7 rfl rfl)
theorem dX7_wrongMap_55 : decode cX7_wrongMap 55 = .ok (.istore_n 3, 1) := dk_62 (dk_at dksX7_wrongMap_2 8 rfl rfl)
theorem dX7_wrongMap_56 : decode cX7_wrongMap 56 = .ok (.iinc 4 1, 3) := dk_132 4 1 (dk_at dksX7_wrongMap_2 9 rfl rfl)
theorem dX7_wrongMap_59 : decode cX7_wrongMap 59 = .ok (.goto (-33), 3) := dk_167 255 223 (dk_at dksX7_wrongMap_2 12 rfl rfl)
theorem dX7_wrongMap_62 : decode cX7_wrongMap 62 = .ok (.iload_n 3, 1) := dk_29 (dk_at dksX7_wrongMap_2 15 rfl rfl)
theorem dX7_wrongMap_63 : decode cX7_wrongMap 63 = .ok (.ifCond .eq 7, 3) := dk_153 0 7 (dk_at dksX7_wrongMap_2 16 rfl rfl)
theorem dX7_wrongMap_66 : decode cX7_wrongMap 66 = .ok (.iconst 0, 1) := dk_3 (dk_at dksX7_wrongMap_2 19 rfl rfl)
theorem dX7_wrongMap_67 : decode cX7_wrongMap 67 = .ok (.goto 4, 3) := dk_167 0 4 (dk_at dksX7_wrongMap_2 20 rfl rfl)
theorem dX7_wrongMap_70 : decode cX7_wrongMap 70 = .ok (.iconst 2, 1) := dk_5 (dk_at dksX7_wrongMap_2 23 rfl rfl)
theorem dX7_wrongMap_71 : decode cX7_wrongMap 71 = .ok (.ireturn, 1) := dk_172 (dk_at dksX7_wrongMap_3 0 rfl rfl)
abbrev cX7_maps : ByteArray := prog_42_method_70_code
def yX7_maps : MethodName := ⟨RX7, "maps", "(II)Z"⟩
def dkwX7_maps_3 : List UInt8 := [167, 255, 197, 29, 172]
abbrev dktX7_maps_3 : List UInt8 := dkwX7_maps_3 ++ []
def dkwX7_maps_2 : List UInt8 := [16, 24, 16, 25, 4, 16, 24, 182, 0, 124, 153, 0, 7, 4, 167, 0, 4, 3, 62, 132, 4, 1]
abbrev dktX7_maps_2 : List UInt8 := dkwX7_maps_2 ++ dktX7_maps_3
def dkwX7_maps_1 : List UInt8 := [42, 27, 21, 4, 182, 0, 94, 9, 148, 153, 0, 34, 42, 27, 21, 4, 28, 182, 0, 214, 153, 0, 21, 42]
abbrev dktX7_maps_1 : List UInt8 := dkwX7_maps_1 ++ dktX7_maps_2
def dkwX7_maps_0 : List UInt8 := [42, 16, 24, 182, 0, 169, 4, 62, 3, 54, 4, 21, 4, 42, 182, 0, 71, 163, 0, 56, 29, 153, 0, 52]
abbrev dktX7_maps_0 : List UInt8 := dkwX7_maps_0 ++ dktX7_maps_1
theorem dksX7_maps_0 : cX7_maps.data.toList.drop 0 = dktX7_maps_0 := by decide +kernel
theorem dksX7_maps_1 : cX7_maps.data.toList.drop 24 = dktX7_maps_1 := dk_seg dksX7_maps_0 24 rfl rfl
theorem dksX7_maps_2 : cX7_maps.data.toList.drop 48 = dktX7_maps_2 := dk_seg dksX7_maps_1 24 rfl rfl
theorem dksX7_maps_3 : cX7_maps.data.toList.drop 70 = dktX7_maps_3 := dk_seg dksX7_maps_2 22 rfl rfl
theorem dX7_maps_0 : decode cX7_maps 0 = .ok (.aload_n 0, 1) := dk_42 (dk_at dksX7_maps_0 0 rfl rfl)
theorem dX7_maps_1 : decode cX7_maps 1 = .ok (.bipush 24, 2) := dk_16 24 (dk_at dksX7_maps_0 1 rfl rfl)
theorem dX7_maps_3 : decode cX7_maps 3 = .ok (.invokevirtual 169, 3) := dk_182 0 169 (dk_at dksX7_maps_0 3 rfl rfl)
theorem dX7_maps_6 : decode cX7_maps 6 = .ok (.iconst 1, 1) := dk_4 (dk_at dksX7_maps_0 6 rfl rfl)
theorem dX7_maps_7 : decode cX7_maps 7 = .ok (.istore_n 3, 1) := dk_62 (dk_at dksX7_maps_0 7 rfl rfl)
theorem dX7_maps_8 : decode cX7_maps 8 = .ok (.iconst 0, 1) := dk_3 (dk_at dksX7_maps_0 8 rfl rfl)
theorem dX7_maps_9 : decode cX7_maps 9 = .ok (.istore 4, 2) := dk_54 4 (dk_at dksX7_maps_0 9 rfl rfl)
theorem dX7_maps_11 : decode cX7_maps 11 = .ok (.iload 4, 2) := dk_21 4 (dk_at dksX7_maps_0 11 rfl rfl)
theorem dX7_maps_13 : decode cX7_maps 13 = .ok (.aload_n 0, 1) := dk_42 (dk_at dksX7_maps_0 13 rfl rfl)
theorem dX7_maps_14 : decode cX7_maps 14 = .ok (.invokevirtual 71, 3) := dk_182 0 71 (dk_at dksX7_maps_0 14 rfl rfl)
theorem dX7_maps_17 : decode cX7_maps 17 = .ok (.if_icmp .gt 56, 3) := dk_163 0 56 (dk_at dksX7_maps_0 17 rfl rfl)
theorem dX7_maps_20 : decode cX7_maps 20 = .ok (.iload_n 3, 1) := dk_29 (dk_at dksX7_maps_0 20 rfl rfl)
theorem dX7_maps_21 : decode cX7_maps 21 = .ok (.ifCond .eq 52, 3) := dk_153 0 52 (dk_at dksX7_maps_0 21 rfl rfl)
theorem dX7_maps_24 : decode cX7_maps 24 = .ok (.aload_n 0, 1) := dk_42 (dk_at dksX7_maps_1 0 rfl rfl)
theorem dX7_maps_25 : decode cX7_maps 25 = .ok (.iload_n 1, 1) := dk_27 (dk_at dksX7_maps_1 1 rfl rfl)
theorem dX7_maps_26 : decode cX7_maps 26 = .ok (.iload 4, 2) := dk_21 4 (dk_at dksX7_maps_1 2 rfl rfl)
theorem dX7_maps_28 : decode cX7_maps 28 = .ok (.invokevirtual 94, 3) := dk_182 0 94 (dk_at dksX7_maps_1 4 rfl rfl)
theorem dX7_maps_31 : decode cX7_maps 31 = .ok (.lconst 0, 1) := dk_9 (dk_at dksX7_maps_1 7 rfl rfl)
theorem dX7_maps_32 : decode cX7_maps 32 = .ok (.lcmp, 1) := dk_148 (dk_at dksX7_maps_1 8 rfl rfl)
theorem dX7_maps_33 : decode cX7_maps 33 = .ok (.ifCond .eq 34, 3) := dk_153 0 34 (dk_at dksX7_maps_1 9 rfl rfl)
theorem dX7_maps_36 : decode cX7_maps 36 = .ok (.aload_n 0, 1) := dk_42 (dk_at dksX7_maps_1 12 rfl rfl)
theorem dX7_maps_37 : decode cX7_maps 37 = .ok (.iload_n 1, 1) := dk_27 (dk_at dksX7_maps_1 13 rfl rfl)
theorem dX7_maps_38 : decode cX7_maps 38 = .ok (.iload 4, 2) := dk_21 4 (dk_at dksX7_maps_1 14 rfl rfl)
theorem dX7_maps_40 : decode cX7_maps 40 = .ok (.iload_n 2, 1) := dk_28 (dk_at dksX7_maps_1 16 rfl rfl)
theorem dX7_maps_41 : decode cX7_maps 41 = .ok (.invokevirtual 214, 3) := dk_182 0 214 (dk_at dksX7_maps_1 17 rfl rfl)
theorem dX7_maps_44 : decode cX7_maps 44 = .ok (.ifCond .eq 21, 3) := dk_153 0 21 (dk_at dksX7_maps_1 20 rfl rfl)
theorem dX7_maps_47 : decode cX7_maps 47 = .ok (.aload_n 0, 1) := dk_42 (dk_at dksX7_maps_1 23 rfl rfl)
theorem dX7_maps_48 : decode cX7_maps 48 = .ok (.bipush 24, 2) := dk_16 24 (dk_at dksX7_maps_2 0 rfl rfl)
theorem dX7_maps_50 : decode cX7_maps 50 = .ok (.bipush 25, 2) := dk_16 25 (dk_at dksX7_maps_2 2 rfl rfl)
theorem dX7_maps_52 : decode cX7_maps 52 = .ok (.iconst 1, 1) := dk_4 (dk_at dksX7_maps_2 4 rfl rfl)
theorem dX7_maps_53 : decode cX7_maps 53 = .ok (.bipush 24, 2) := dk_16 24 (dk_at dksX7_maps_2 5 rfl rfl)
theorem dX7_maps_55 : decode cX7_maps 55 = .ok (.invokevirtual 124, 3) := dk_182 0 124 (dk_at dksX7_maps_2 7 rfl rfl)
theorem dX7_maps_58 : decode cX7_maps 58 = .ok (.ifCond .eq 7, 3) := dk_153 0 7 (dk_at dksX7_maps_2 10 rfl rfl)
theorem dX7_maps_61 : decode cX7_maps 61 = .ok (.iconst 1, 1) := dk_4 (dk_at dksX7_maps_2 13 rfl rfl)
theorem dX7_maps_62 : decode cX7_maps 62 = .ok (.goto 4, 3) := dk_167 0 4 (dk_at dksX7_maps_2 14 rfl rfl)
theorem dX7_maps_65 : decode cX7_maps 65 = .ok (.iconst 0, 1) := dk_3 (dk_at dksX7_maps_2 17 rfl rfl)
theorem dX7_maps_66 : decode cX7_maps 66 = .ok (.istore_n 3, 1) := dk_62 (dk_at dksX7_maps_2 18 rfl rfl)
theorem dX7_maps_67 : decode cX7_maps 67 = .ok (.iinc 4 1, 3) := dk_132 4 1 (dk_at dksX7_maps_2 19 rfl rfl)
theorem dX7_maps_70 : decode cX7_maps 70 = .ok (.goto (-59), 3) := dk_167 255 197 (dk_at dksX7_maps_3 0 rfl rfl)
theorem dX7_maps_73 : decode cX7_maps 73 = .ok (.iload_n 3, 1) := dk_29 (dk_at dksX7_maps_3 3 rfl rfl)
theorem dX7_maps_74 : decode cX7_maps 74 = .ok (.ireturn, 1) := dk_172 (dk_at dksX7_maps_3 4 rfl rfl)
abbrev cX7_mapsTerm : ByteArray := prog_42_method_69_code
def yX7_mapsTerm : MethodName := ⟨RX7, "mapsTerm", "(III)Z"⟩
def dkwX7_mapsTerm_3 : List UInt8 := [21, 5, 96, 16, 25, 182, 0, 131, 54, 4, 132, 5, 1, 167, 255, 214, 21, 4, 172]
abbrev dktX7_mapsTerm_3 : List UInt8 := dkwX7_mapsTerm_3 ++ []
def dkwX7_mapsTerm_2 : List UInt8 := [162, 0, 39, 21, 4, 153, 0, 34, 28, 21, 5, 122, 4, 126, 4, 160, 0, 18, 42, 6, 16, 25, 29]
abbrev dktX7_mapsTerm_2 : List UInt8 := dkwX7_mapsTerm_2 ++ dktX7_mapsTerm_3
def dkwX7_mapsTerm_1 : List UInt8 := [80, 42, 16, 25, 10, 10, 16, 25, 182, 0, 136, 54, 4, 3, 54, 5, 21, 5, 42, 182, 0, 63]
abbrev dktX7_mapsTerm_1 : List UInt8 := dkwX7_mapsTerm_1 ++ dktX7_mapsTerm_2
def dkwX7_mapsTerm_0 : List UInt8 := [42, 16, 25, 42, 27, 28, 182, 0, 94, 182, 0, 200, 42, 180, 0, 27, 17, 3, 57, 42, 27, 182, 0, 114]
abbrev dktX7_mapsTerm_0 : List UInt8 := dkwX7_mapsTerm_0 ++ dktX7_mapsTerm_1
theorem dksX7_mapsTerm_0 : cX7_mapsTerm.data.toList.drop 0 = dktX7_mapsTerm_0 := by decide +kernel
theorem dksX7_mapsTerm_1 : cX7_mapsTerm.data.toList.drop 24 = dktX7_mapsTerm_1 := dk_seg dksX7_mapsTerm_0 24 rfl rfl
theorem dksX7_mapsTerm_2 : cX7_mapsTerm.data.toList.drop 46 = dktX7_mapsTerm_2 := dk_seg dksX7_mapsTerm_1 22 rfl rfl
theorem dksX7_mapsTerm_3 : cX7_mapsTerm.data.toList.drop 69 = dktX7_mapsTerm_3 := dk_seg dksX7_mapsTerm_2 23 rfl rfl
theorem dX7_mapsTerm_0 : decode cX7_mapsTerm 0 = .ok (.aload_n 0, 1) := dk_42 (dk_at dksX7_mapsTerm_0 0 rfl rfl)
theorem dX7_mapsTerm_1 : decode cX7_mapsTerm 1 = .ok (.bipush 25, 2) := dk_16 25 (dk_at dksX7_mapsTerm_0 1 rfl rfl)
theorem dX7_mapsTerm_3 : decode cX7_mapsTerm 3 = .ok (.aload_n 0, 1) := dk_42 (dk_at dksX7_mapsTerm_0 3 rfl rfl)
theorem dX7_mapsTerm_4 : decode cX7_mapsTerm 4 = .ok (.iload_n 1, 1) := dk_27 (dk_at dksX7_mapsTerm_0 4 rfl rfl)
theorem dX7_mapsTerm_5 : decode cX7_mapsTerm 5 = .ok (.iload_n 2, 1) := dk_28 (dk_at dksX7_mapsTerm_0 5 rfl rfl)
theorem dX7_mapsTerm_6 : decode cX7_mapsTerm 6 = .ok (.invokevirtual 94, 3) := dk_182 0 94 (dk_at dksX7_mapsTerm_0 6 rfl rfl)
theorem dX7_mapsTerm_9 : decode cX7_mapsTerm 9 = .ok (.invokevirtual 200, 3) := dk_182 0 200 (dk_at dksX7_mapsTerm_0 9 rfl rfl)
theorem dX7_mapsTerm_12 : decode cX7_mapsTerm 12 = .ok (.aload_n 0, 1) := dk_42 (dk_at dksX7_mapsTerm_0 12 rfl rfl)
theorem dX7_mapsTerm_13 : decode cX7_mapsTerm 13 = .ok (.getfield 27, 3) := dk_180 0 27 (dk_at dksX7_mapsTerm_0 13 rfl rfl)
theorem dX7_mapsTerm_16 : decode cX7_mapsTerm 16 = .ok (.sipush 825, 3) := dk_17 3 57 (dk_at dksX7_mapsTerm_0 16 rfl rfl)
theorem dX7_mapsTerm_19 : decode cX7_mapsTerm 19 = .ok (.aload_n 0, 1) := dk_42 (dk_at dksX7_mapsTerm_0 19 rfl rfl)
theorem dX7_mapsTerm_20 : decode cX7_mapsTerm 20 = .ok (.iload_n 1, 1) := dk_27 (dk_at dksX7_mapsTerm_0 20 rfl rfl)
theorem dX7_mapsTerm_21 : decode cX7_mapsTerm 21 = .ok (.invokevirtual 114, 3) := dk_182 0 114 (dk_at dksX7_mapsTerm_0 21 rfl rfl)
theorem dX7_mapsTerm_24 : decode cX7_mapsTerm 24 = .ok (.lastore, 1) := dk_80 (dk_at dksX7_mapsTerm_1 0 rfl rfl)
theorem dX7_mapsTerm_25 : decode cX7_mapsTerm 25 = .ok (.aload_n 0, 1) := dk_42 (dk_at dksX7_mapsTerm_1 1 rfl rfl)
theorem dX7_mapsTerm_26 : decode cX7_mapsTerm 26 = .ok (.bipush 25, 2) := dk_16 25 (dk_at dksX7_mapsTerm_1 2 rfl rfl)
theorem dX7_mapsTerm_28 : decode cX7_mapsTerm 28 = .ok (.lconst 1, 1) := dk_10 (dk_at dksX7_mapsTerm_1 4 rfl rfl)
theorem dX7_mapsTerm_29 : decode cX7_mapsTerm 29 = .ok (.lconst 1, 1) := dk_10 (dk_at dksX7_mapsTerm_1 5 rfl rfl)
theorem dX7_mapsTerm_30 : decode cX7_mapsTerm 30 = .ok (.bipush 25, 2) := dk_16 25 (dk_at dksX7_mapsTerm_1 6 rfl rfl)
theorem dX7_mapsTerm_32 : decode cX7_mapsTerm 32 = .ok (.invokevirtual 136, 3) := dk_182 0 136 (dk_at dksX7_mapsTerm_1 8 rfl rfl)
theorem dX7_mapsTerm_35 : decode cX7_mapsTerm 35 = .ok (.istore 4, 2) := dk_54 4 (dk_at dksX7_mapsTerm_1 11 rfl rfl)
theorem dX7_mapsTerm_37 : decode cX7_mapsTerm 37 = .ok (.iconst 0, 1) := dk_3 (dk_at dksX7_mapsTerm_1 13 rfl rfl)
theorem dX7_mapsTerm_38 : decode cX7_mapsTerm 38 = .ok (.istore 5, 2) := dk_54 5 (dk_at dksX7_mapsTerm_1 14 rfl rfl)
theorem dX7_mapsTerm_40 : decode cX7_mapsTerm 40 = .ok (.iload 5, 2) := dk_21 5 (dk_at dksX7_mapsTerm_1 16 rfl rfl)
theorem dX7_mapsTerm_42 : decode cX7_mapsTerm 42 = .ok (.aload_n 0, 1) := dk_42 (dk_at dksX7_mapsTerm_1 18 rfl rfl)
theorem dX7_mapsTerm_43 : decode cX7_mapsTerm 43 = .ok (.invokevirtual 63, 3) := dk_182 0 63 (dk_at dksX7_mapsTerm_1 19 rfl rfl)
theorem dX7_mapsTerm_46 : decode cX7_mapsTerm 46 = .ok (.if_icmp .ge 39, 3) := dk_162 0 39 (dk_at dksX7_mapsTerm_2 0 rfl rfl)
theorem dX7_mapsTerm_49 : decode cX7_mapsTerm 49 = .ok (.iload 4, 2) := dk_21 4 (dk_at dksX7_mapsTerm_2 3 rfl rfl)
theorem dX7_mapsTerm_51 : decode cX7_mapsTerm 51 = .ok (.ifCond .eq 34, 3) := dk_153 0 34 (dk_at dksX7_mapsTerm_2 5 rfl rfl)
theorem dX7_mapsTerm_54 : decode cX7_mapsTerm 54 = .ok (.iload_n 2, 1) := dk_28 (dk_at dksX7_mapsTerm_2 8 rfl rfl)
theorem dX7_mapsTerm_55 : decode cX7_mapsTerm 55 = .ok (.iload 5, 2) := dk_21 5 (dk_at dksX7_mapsTerm_2 9 rfl rfl)
theorem dX7_mapsTerm_57 : decode cX7_mapsTerm 57 = .ok (.ishr, 1) := dk_122 (dk_at dksX7_mapsTerm_2 11 rfl rfl)
theorem dX7_mapsTerm_58 : decode cX7_mapsTerm 58 = .ok (.iconst 1, 1) := dk_4 (dk_at dksX7_mapsTerm_2 12 rfl rfl)
theorem dX7_mapsTerm_59 : decode cX7_mapsTerm 59 = .ok (.iand, 1) := dk_126 (dk_at dksX7_mapsTerm_2 13 rfl rfl)
theorem dX7_mapsTerm_60 : decode cX7_mapsTerm 60 = .ok (.iconst 1, 1) := dk_4 (dk_at dksX7_mapsTerm_2 14 rfl rfl)
theorem dX7_mapsTerm_61 : decode cX7_mapsTerm 61 = .ok (.if_icmp .ne 18, 3) := dk_160 0 18 (dk_at dksX7_mapsTerm_2 15 rfl rfl)
theorem dX7_mapsTerm_64 : decode cX7_mapsTerm 64 = .ok (.aload_n 0, 1) := dk_42 (dk_at dksX7_mapsTerm_2 18 rfl rfl)
theorem dX7_mapsTerm_65 : decode cX7_mapsTerm 65 = .ok (.iconst 3, 1) := dk_6 (dk_at dksX7_mapsTerm_2 19 rfl rfl)
theorem dX7_mapsTerm_66 : decode cX7_mapsTerm 66 = .ok (.bipush 25, 2) := dk_16 25 (dk_at dksX7_mapsTerm_2 20 rfl rfl)
theorem dX7_mapsTerm_68 : decode cX7_mapsTerm 68 = .ok (.iload_n 3, 1) := dk_29 (dk_at dksX7_mapsTerm_2 22 rfl rfl)
theorem dX7_mapsTerm_69 : decode cX7_mapsTerm 69 = .ok (.iload 5, 2) := dk_21 5 (dk_at dksX7_mapsTerm_3 0 rfl rfl)
theorem dX7_mapsTerm_71 : decode cX7_mapsTerm 71 = .ok (.iadd, 1) := dk_96 (dk_at dksX7_mapsTerm_3 2 rfl rfl)
theorem dX7_mapsTerm_72 : decode cX7_mapsTerm 72 = .ok (.bipush 25, 2) := dk_16 25 (dk_at dksX7_mapsTerm_3 3 rfl rfl)
theorem dX7_mapsTerm_74 : decode cX7_mapsTerm 74 = .ok (.invokevirtual 131, 3) := dk_182 0 131 (dk_at dksX7_mapsTerm_3 5 rfl rfl)
theorem dX7_mapsTerm_77 : decode cX7_mapsTerm 77 = .ok (.istore 4, 2) := dk_54 4 (dk_at dksX7_mapsTerm_3 8 rfl rfl)
theorem dX7_mapsTerm_79 : decode cX7_mapsTerm 79 = .ok (.iinc 5 1, 3) := dk_132 5 1 (dk_at dksX7_mapsTerm_3 10 rfl rfl)
theorem dX7_mapsTerm_82 : decode cX7_mapsTerm 82 = .ok (.goto (-42), 3) := dk_167 255 214 (dk_at dksX7_mapsTerm_3 13 rfl rfl)
theorem dX7_mapsTerm_85 : decode cX7_mapsTerm 85 = .ok (.iload 4, 2) := dk_21 4 (dk_at dksX7_mapsTerm_3 16 rfl rfl)
theorem dX7_mapsTerm_87 : decode cX7_mapsTerm 87 = .ok (.ireturn, 1) := dk_172 (dk_at dksX7_mapsTerm_3 18 rfl rfl)
abbrev cX7_determinant : ByteArray := prog_42_method_72_code
def yX7_determinant : MethodName := ⟨RX7, "determinant", "(II)I"⟩
def dkwX7_determinant_4 : List UInt8 := [54, 4, 42, 16, 24, 27, 182, 0, 153, 172]
abbrev dktX7_determinant_4 : List UInt8 := dkwX7_determinant_4 ++ []
def dkwX7_determinant_3 : List UInt8 := [182, 0, 71, 182, 0, 94, 80, 42, 42, 16, 24, 182, 0, 114, 181, 0, 34, 42, 16, 24, 182, 0, 118]
abbrev dktX7_determinant_3 : List UInt8 := dkwX7_determinant_3 ++ dktX7_determinant_4
def dkwX7_determinant_2 : List UInt8 := [154, 0, 9, 42, 6, 182, 0, 144, 172, 42, 182, 0, 105, 42, 180, 0, 31, 3, 42, 16, 24, 42]
abbrev dktX7_determinant_2 : List UInt8 := dkwX7_determinant_2 ++ dktX7_determinant_3
def dkwX7_determinant_1 : List UInt8 := [182, 0, 169, 42, 180, 0, 27, 17, 3, 190, 42, 182, 0, 71, 96, 10, 80, 42, 16, 29, 28, 182, 0, 221]
abbrev dktX7_determinant_1 : List UInt8 := dkwX7_determinant_1 ++ dktX7_determinant_2
def dkwX7_determinant_0 : List UInt8 := [42, 27, 184, 0, 147, 28, 182, 0, 217, 62, 29, 158, 0, 9, 42, 29, 182, 0, 144, 172, 42, 16, 29]
abbrev dktX7_determinant_0 : List UInt8 := dkwX7_determinant_0 ++ dktX7_determinant_1
theorem dksX7_determinant_0 : cX7_determinant.data.toList.drop 0 = dktX7_determinant_0 := by decide +kernel
theorem dksX7_determinant_1 : cX7_determinant.data.toList.drop 23 = dktX7_determinant_1 := dk_seg dksX7_determinant_0 23 rfl rfl
theorem dksX7_determinant_2 : cX7_determinant.data.toList.drop 47 = dktX7_determinant_2 := dk_seg dksX7_determinant_1 24 rfl rfl
theorem dksX7_determinant_3 : cX7_determinant.data.toList.drop 69 = dktX7_determinant_3 := dk_seg dksX7_determinant_2 22 rfl rfl
theorem dksX7_determinant_4 : cX7_determinant.data.toList.drop 92 = dktX7_determinant_4 := dk_seg dksX7_determinant_3 23 rfl rfl
theorem dX7_determinant_0 : decode cX7_determinant 0 = .ok (.aload_n 0, 1) := dk_42 (dk_at dksX7_determinant_0 0 rfl rfl)
theorem dX7_determinant_1 : decode cX7_determinant 1 = .ok (.iload_n 1, 1) := dk_27 (dk_at dksX7_determinant_0 1 rfl rfl)
theorem dX7_determinant_2 : decode cX7_determinant 2 = .ok (.invokestatic 147, 3) := dk_184 0 147 (dk_at dksX7_determinant_0 2 rfl rfl)
theorem dX7_determinant_5 : decode cX7_determinant 5 = .ok (.iload_n 2, 1) := dk_28 (dk_at dksX7_determinant_0 5 rfl rfl)
theorem dX7_determinant_6 : decode cX7_determinant 6 = .ok (.invokevirtual 217, 3) := dk_182 0 217 (dk_at dksX7_determinant_0 6 rfl rfl)
theorem dX7_determinant_9 : decode cX7_determinant 9 = .ok (.istore_n 3, 1) := dk_62 (dk_at dksX7_determinant_0 9 rfl rfl)
theorem dX7_determinant_10 : decode cX7_determinant 10 = .ok (.iload_n 3, 1) := dk_29 (dk_at dksX7_determinant_0 10 rfl rfl)
theorem dX7_determinant_11 : decode cX7_determinant 11 = .ok (.ifCond .le 9, 3) := dk_158 0 9 (dk_at dksX7_determinant_0 11 rfl rfl)
theorem dX7_determinant_14 : decode cX7_determinant 14 = .ok (.aload_n 0, 1) := dk_42 (dk_at dksX7_determinant_0 14 rfl rfl)
theorem dX7_determinant_15 : decode cX7_determinant 15 = .ok (.iload_n 3, 1) := dk_29 (dk_at dksX7_determinant_0 15 rfl rfl)
theorem dX7_determinant_16 : decode cX7_determinant 16 = .ok (.invokevirtual 144, 3) := dk_182 0 144 (dk_at dksX7_determinant_0 16 rfl rfl)
theorem dX7_determinant_19 : decode cX7_determinant 19 = .ok (.ireturn, 1) := dk_172 (dk_at dksX7_determinant_0 19 rfl rfl)
theorem dX7_determinant_20 : decode cX7_determinant 20 = .ok (.aload_n 0, 1) := dk_42 (dk_at dksX7_determinant_0 20 rfl rfl)
theorem dX7_determinant_21 : decode cX7_determinant 21 = .ok (.bipush 29, 2) := dk_16 29 (dk_at dksX7_determinant_0 21 rfl rfl)
theorem dX7_determinant_23 : decode cX7_determinant 23 = .ok (.invokevirtual 169, 3) := dk_182 0 169 (dk_at dksX7_determinant_1 0 rfl rfl)
theorem dX7_determinant_26 : decode cX7_determinant 26 = .ok (.aload_n 0, 1) := dk_42 (dk_at dksX7_determinant_1 3 rfl rfl)
theorem dX7_determinant_27 : decode cX7_determinant 27 = .ok (.getfield 27, 3) := dk_180 0 27 (dk_at dksX7_determinant_1 4 rfl rfl)
theorem dX7_determinant_30 : decode cX7_determinant 30 = .ok (.sipush 958, 3) := dk_17 3 190 (dk_at dksX7_determinant_1 7 rfl rfl)
theorem dX7_determinant_33 : decode cX7_determinant 33 = .ok (.aload_n 0, 1) := dk_42 (dk_at dksX7_determinant_1 10 rfl rfl)
theorem dX7_determinant_34 : decode cX7_determinant 34 = .ok (.invokevirtual 71, 3) := dk_182 0 71 (dk_at dksX7_determinant_1 11 rfl rfl)
theorem dX7_determinant_37 : decode cX7_determinant 37 = .ok (.iadd, 1) := dk_96 (dk_at dksX7_determinant_1 14 rfl rfl)
theorem dX7_determinant_38 : decode cX7_determinant 38 = .ok (.lconst 1, 1) := dk_10 (dk_at dksX7_determinant_1 15 rfl rfl)
theorem dX7_determinant_39 : decode cX7_determinant 39 = .ok (.lastore, 1) := dk_80 (dk_at dksX7_determinant_1 16 rfl rfl)
theorem dX7_determinant_40 : decode cX7_determinant 40 = .ok (.aload_n 0, 1) := dk_42 (dk_at dksX7_determinant_1 17 rfl rfl)
theorem dX7_determinant_41 : decode cX7_determinant 41 = .ok (.bipush 29, 2) := dk_16 29 (dk_at dksX7_determinant_1 18 rfl rfl)
theorem dX7_determinant_43 : decode cX7_determinant 43 = .ok (.iload_n 2, 1) := dk_28 (dk_at dksX7_determinant_1 20 rfl rfl)
theorem dX7_determinant_44 : decode cX7_determinant 44 = .ok (.invokevirtual 221, 3) := dk_182 0 221 (dk_at dksX7_determinant_1 21 rfl rfl)
theorem dX7_determinant_47 : decode cX7_determinant 47 = .ok (.ifCond .ne 9, 3) := dk_154 0 9 (dk_at dksX7_determinant_2 0 rfl rfl)
theorem dX7_determinant_50 : decode cX7_determinant 50 = .ok (.aload_n 0, 1) := dk_42 (dk_at dksX7_determinant_2 3 rfl rfl)
theorem dX7_determinant_51 : decode cX7_determinant 51 = .ok (.iconst 3, 1) := dk_6 (dk_at dksX7_determinant_2 4 rfl rfl)
theorem dX7_determinant_52 : decode cX7_determinant 52 = .ok (.invokevirtual 144, 3) := dk_182 0 144 (dk_at dksX7_determinant_2 5 rfl rfl)
theorem dX7_determinant_55 : decode cX7_determinant 55 = .ok (.ireturn, 1) := dk_172 (dk_at dksX7_determinant_2 8 rfl rfl)
theorem dX7_determinant_56 : decode cX7_determinant 56 = .ok (.aload_n 0, 1) := dk_42 (dk_at dksX7_determinant_2 9 rfl rfl)
theorem dX7_determinant_57 : decode cX7_determinant 57 = .ok (.invokevirtual 105, 3) := dk_182 0 105 (dk_at dksX7_determinant_2 10 rfl rfl)
theorem dX7_determinant_60 : decode cX7_determinant 60 = .ok (.aload_n 0, 1) := dk_42 (dk_at dksX7_determinant_2 13 rfl rfl)
theorem dX7_determinant_61 : decode cX7_determinant 61 = .ok (.getfield 31, 3) := dk_180 0 31 (dk_at dksX7_determinant_2 14 rfl rfl)
theorem dX7_determinant_64 : decode cX7_determinant 64 = .ok (.iconst 0, 1) := dk_3 (dk_at dksX7_determinant_2 17 rfl rfl)
theorem dX7_determinant_65 : decode cX7_determinant 65 = .ok (.aload_n 0, 1) := dk_42 (dk_at dksX7_determinant_2 18 rfl rfl)
theorem dX7_determinant_66 : decode cX7_determinant 66 = .ok (.bipush 24, 2) := dk_16 24 (dk_at dksX7_determinant_2 19 rfl rfl)
theorem dX7_determinant_68 : decode cX7_determinant 68 = .ok (.aload_n 0, 1) := dk_42 (dk_at dksX7_determinant_2 21 rfl rfl)
theorem dX7_determinant_69 : decode cX7_determinant 69 = .ok (.invokevirtual 71, 3) := dk_182 0 71 (dk_at dksX7_determinant_3 0 rfl rfl)
theorem dX7_determinant_72 : decode cX7_determinant 72 = .ok (.invokevirtual 94, 3) := dk_182 0 94 (dk_at dksX7_determinant_3 3 rfl rfl)
theorem dX7_determinant_75 : decode cX7_determinant 75 = .ok (.lastore, 1) := dk_80 (dk_at dksX7_determinant_3 6 rfl rfl)
theorem dX7_determinant_76 : decode cX7_determinant 76 = .ok (.aload_n 0, 1) := dk_42 (dk_at dksX7_determinant_3 7 rfl rfl)
theorem dX7_determinant_77 : decode cX7_determinant 77 = .ok (.aload_n 0, 1) := dk_42 (dk_at dksX7_determinant_3 8 rfl rfl)
theorem dX7_determinant_78 : decode cX7_determinant 78 = .ok (.bipush 24, 2) := dk_16 24 (dk_at dksX7_determinant_3 9 rfl rfl)
theorem dX7_determinant_80 : decode cX7_determinant 80 = .ok (.invokevirtual 114, 3) := dk_182 0 114 (dk_at dksX7_determinant_3 11 rfl rfl)
theorem dX7_determinant_83 : decode cX7_determinant 83 = .ok (.putfield 34, 3) := dk_181 0 34 (dk_at dksX7_determinant_3 14 rfl rfl)
theorem dX7_determinant_86 : decode cX7_determinant 86 = .ok (.aload_n 0, 1) := dk_42 (dk_at dksX7_determinant_3 17 rfl rfl)
theorem dX7_determinant_87 : decode cX7_determinant 87 = .ok (.bipush 24, 2) := dk_16 24 (dk_at dksX7_determinant_3 18 rfl rfl)
theorem dX7_determinant_89 : decode cX7_determinant 89 = .ok (.invokevirtual 118, 3) := dk_182 0 118 (dk_at dksX7_determinant_3 20 rfl rfl)
theorem dX7_determinant_92 : decode cX7_determinant 92 = .ok (.istore 4, 2) := dk_54 4 (dk_at dksX7_determinant_4 0 rfl rfl)
theorem dX7_determinant_94 : decode cX7_determinant 94 = .ok (.aload_n 0, 1) := dk_42 (dk_at dksX7_determinant_4 2 rfl rfl)
theorem dX7_determinant_95 : decode cX7_determinant 95 = .ok (.bipush 24, 2) := dk_16 24 (dk_at dksX7_determinant_4 3 rfl rfl)
theorem dX7_determinant_97 : decode cX7_determinant 97 = .ok (.iload_n 1, 1) := dk_27 (dk_at dksX7_determinant_4 5 rfl rfl)
theorem dX7_determinant_98 : decode cX7_determinant 98 = .ok (.invokevirtual 153, 3) := dk_182 0 153 (dk_at dksX7_determinant_4 6 rfl rfl)
theorem dX7_determinant_101 : decode cX7_determinant 101 = .ok (.ireturn, 1) := dk_172 (dk_at dksX7_determinant_4 9 rfl rfl)
abbrev cX7_squareKind : ByteArray := prog_42_method_73_code
def yX7_squareKind : MethodName := ⟨RX7, "squareKind", "(I)I"⟩
def dkwX7_squareKind_3 : List UInt8 := [9, 148, 156, 0, 7, 5, 167, 0, 4, 6, 172]
abbrev dktX7_squareKind_3 : List UInt8 := dkwX7_squareKind_3 ++ []
def dkwX7_squareKind_2 : List UInt8 := [153, 0, 5, 3, 172, 42, 16, 25, 3, 182, 0, 94, 65, 32, 9, 148, 158, 0, 7, 4, 167, 0, 14, 32]
abbrev dktX7_squareKind_2 : List UInt8 := dkwX7_squareKind_2 ++ dktX7_squareKind_3
def dkwX7_squareKind_1 : List UInt8 := [154, 0, 9, 42, 5, 182, 0, 144, 172, 42, 3, 181, 0, 54, 42, 16, 25, 182, 0, 182, 16, 254, 126]
abbrev dktX7_squareKind_1 : List UInt8 := dkwX7_squareKind_1 ++ dktX7_squareKind_2
def dkwX7_squareKind_0 : List UInt8 := [27, 184, 0, 147, 154, 0, 9, 42, 4, 182, 0, 144, 172, 42, 5, 27, 27, 16, 25, 182, 0, 131]
abbrev dktX7_squareKind_0 : List UInt8 := dkwX7_squareKind_0 ++ dktX7_squareKind_1
theorem dksX7_squareKind_0 : cX7_squareKind.data.toList.drop 0 = dktX7_squareKind_0 := by decide +kernel
theorem dksX7_squareKind_1 : cX7_squareKind.data.toList.drop 22 = dktX7_squareKind_1 := dk_seg dksX7_squareKind_0 22 rfl rfl
theorem dksX7_squareKind_2 : cX7_squareKind.data.toList.drop 45 = dktX7_squareKind_2 := dk_seg dksX7_squareKind_1 23 rfl rfl
theorem dksX7_squareKind_3 : cX7_squareKind.data.toList.drop 69 = dktX7_squareKind_3 := dk_seg dksX7_squareKind_2 24 rfl rfl
theorem dX7_squareKind_0 : decode cX7_squareKind 0 = .ok (.iload_n 1, 1) := dk_27 (dk_at dksX7_squareKind_0 0 rfl rfl)
theorem dX7_squareKind_1 : decode cX7_squareKind 1 = .ok (.invokestatic 147, 3) := dk_184 0 147 (dk_at dksX7_squareKind_0 1 rfl rfl)
theorem dX7_squareKind_4 : decode cX7_squareKind 4 = .ok (.ifCond .ne 9, 3) := dk_154 0 9 (dk_at dksX7_squareKind_0 4 rfl rfl)
theorem dX7_squareKind_7 : decode cX7_squareKind 7 = .ok (.aload_n 0, 1) := dk_42 (dk_at dksX7_squareKind_0 7 rfl rfl)
theorem dX7_squareKind_8 : decode cX7_squareKind 8 = .ok (.iconst 1, 1) := dk_4 (dk_at dksX7_squareKind_0 8 rfl rfl)
theorem dX7_squareKind_9 : decode cX7_squareKind 9 = .ok (.invokevirtual 144, 3) := dk_182 0 144 (dk_at dksX7_squareKind_0 9 rfl rfl)
theorem dX7_squareKind_12 : decode cX7_squareKind 12 = .ok (.ireturn, 1) := dk_172 (dk_at dksX7_squareKind_0 12 rfl rfl)
theorem dX7_squareKind_13 : decode cX7_squareKind 13 = .ok (.aload_n 0, 1) := dk_42 (dk_at dksX7_squareKind_0 13 rfl rfl)
theorem dX7_squareKind_14 : decode cX7_squareKind 14 = .ok (.iconst 2, 1) := dk_5 (dk_at dksX7_squareKind_0 14 rfl rfl)
theorem dX7_squareKind_15 : decode cX7_squareKind 15 = .ok (.iload_n 1, 1) := dk_27 (dk_at dksX7_squareKind_0 15 rfl rfl)
theorem dX7_squareKind_16 : decode cX7_squareKind 16 = .ok (.iload_n 1, 1) := dk_27 (dk_at dksX7_squareKind_0 16 rfl rfl)
theorem dX7_squareKind_17 : decode cX7_squareKind 17 = .ok (.bipush 25, 2) := dk_16 25 (dk_at dksX7_squareKind_0 17 rfl rfl)
theorem dX7_squareKind_19 : decode cX7_squareKind 19 = .ok (.invokevirtual 131, 3) := dk_182 0 131 (dk_at dksX7_squareKind_0 19 rfl rfl)
theorem dX7_squareKind_22 : decode cX7_squareKind 22 = .ok (.ifCond .ne 9, 3) := dk_154 0 9 (dk_at dksX7_squareKind_1 0 rfl rfl)
theorem dX7_squareKind_25 : decode cX7_squareKind 25 = .ok (.aload_n 0, 1) := dk_42 (dk_at dksX7_squareKind_1 3 rfl rfl)
theorem dX7_squareKind_26 : decode cX7_squareKind 26 = .ok (.iconst 2, 1) := dk_5 (dk_at dksX7_squareKind_1 4 rfl rfl)
theorem dX7_squareKind_27 : decode cX7_squareKind 27 = .ok (.invokevirtual 144, 3) := dk_182 0 144 (dk_at dksX7_squareKind_1 5 rfl rfl)
theorem dX7_squareKind_30 : decode cX7_squareKind 30 = .ok (.ireturn, 1) := dk_172 (dk_at dksX7_squareKind_1 8 rfl rfl)
theorem dX7_squareKind_31 : decode cX7_squareKind 31 = .ok (.aload_n 0, 1) := dk_42 (dk_at dksX7_squareKind_1 9 rfl rfl)
theorem dX7_squareKind_32 : decode cX7_squareKind 32 = .ok (.iconst 0, 1) := dk_3 (dk_at dksX7_squareKind_1 10 rfl rfl)
theorem dX7_squareKind_33 : decode cX7_squareKind 33 = .ok (.putfield 54, 3) := dk_181 0 54 (dk_at dksX7_squareKind_1 11 rfl rfl)
theorem dX7_squareKind_36 : decode cX7_squareKind 36 = .ok (.aload_n 0, 1) := dk_42 (dk_at dksX7_squareKind_1 14 rfl rfl)
theorem dX7_squareKind_37 : decode cX7_squareKind 37 = .ok (.bipush 25, 2) := dk_16 25 (dk_at dksX7_squareKind_1 15 rfl rfl)
theorem dX7_squareKind_39 : decode cX7_squareKind 39 = .ok (.invokevirtual 182, 3) := dk_182 0 182 (dk_at dksX7_squareKind_1 17 rfl rfl)
theorem dX7_squareKind_42 : decode cX7_squareKind 42 = .ok (.bipush (-2), 2) := dk_16 254 (dk_at dksX7_squareKind_1 20 rfl rfl)
theorem dX7_squareKind_44 : decode cX7_squareKind 44 = .ok (.iand, 1) := dk_126 (dk_at dksX7_squareKind_1 22 rfl rfl)
theorem dX7_squareKind_45 : decode cX7_squareKind 45 = .ok (.ifCond .eq 5, 3) := dk_153 0 5 (dk_at dksX7_squareKind_2 0 rfl rfl)
theorem dX7_squareKind_48 : decode cX7_squareKind 48 = .ok (.iconst 0, 1) := dk_3 (dk_at dksX7_squareKind_2 3 rfl rfl)
theorem dX7_squareKind_49 : decode cX7_squareKind 49 = .ok (.ireturn, 1) := dk_172 (dk_at dksX7_squareKind_2 4 rfl rfl)
theorem dX7_squareKind_50 : decode cX7_squareKind 50 = .ok (.aload_n 0, 1) := dk_42 (dk_at dksX7_squareKind_2 5 rfl rfl)
theorem dX7_squareKind_51 : decode cX7_squareKind 51 = .ok (.bipush 25, 2) := dk_16 25 (dk_at dksX7_squareKind_2 6 rfl rfl)
theorem dX7_squareKind_53 : decode cX7_squareKind 53 = .ok (.iconst 0, 1) := dk_3 (dk_at dksX7_squareKind_2 8 rfl rfl)
theorem dX7_squareKind_54 : decode cX7_squareKind 54 = .ok (.invokevirtual 94, 3) := dk_182 0 94 (dk_at dksX7_squareKind_2 9 rfl rfl)
theorem dX7_squareKind_57 : decode cX7_squareKind 57 = .ok (.lstore_n 2, 1) := dk_65 (dk_at dksX7_squareKind_2 12 rfl rfl)
theorem dX7_squareKind_58 : decode cX7_squareKind 58 = .ok (.lload_n 2, 1) := dk_32 (dk_at dksX7_squareKind_2 13 rfl rfl)
theorem dX7_squareKind_59 : decode cX7_squareKind 59 = .ok (.lconst 0, 1) := dk_9 (dk_at dksX7_squareKind_2 14 rfl rfl)
theorem dX7_squareKind_60 : decode cX7_squareKind 60 = .ok (.lcmp, 1) := dk_148 (dk_at dksX7_squareKind_2 15 rfl rfl)
theorem dX7_squareKind_61 : decode cX7_squareKind 61 = .ok (.ifCond .le 7, 3) := dk_158 0 7 (dk_at dksX7_squareKind_2 16 rfl rfl)
theorem dX7_squareKind_64 : decode cX7_squareKind 64 = .ok (.iconst 1, 1) := dk_4 (dk_at dksX7_squareKind_2 19 rfl rfl)
theorem dX7_squareKind_65 : decode cX7_squareKind 65 = .ok (.goto 14, 3) := dk_167 0 14 (dk_at dksX7_squareKind_2 20 rfl rfl)
theorem dX7_squareKind_68 : decode cX7_squareKind 68 = .ok (.lload_n 2, 1) := dk_32 (dk_at dksX7_squareKind_2 23 rfl rfl)
theorem dX7_squareKind_69 : decode cX7_squareKind 69 = .ok (.lconst 0, 1) := dk_9 (dk_at dksX7_squareKind_3 0 rfl rfl)
theorem dX7_squareKind_70 : decode cX7_squareKind 70 = .ok (.lcmp, 1) := dk_148 (dk_at dksX7_squareKind_3 1 rfl rfl)
theorem dX7_squareKind_71 : decode cX7_squareKind 71 = .ok (.ifCond .ge 7, 3) := dk_156 0 7 (dk_at dksX7_squareKind_3 2 rfl rfl)
theorem dX7_squareKind_74 : decode cX7_squareKind 74 = .ok (.iconst 2, 1) := dk_5 (dk_at dksX7_squareKind_3 5 rfl rfl)
theorem dX7_squareKind_75 : decode cX7_squareKind 75 = .ok (.goto 4, 3) := dk_167 0 4 (dk_at dksX7_squareKind_3 6 rfl rfl)
theorem dX7_squareKind_78 : decode cX7_squareKind 78 = .ok (.iconst 3, 1) := dk_6 (dk_at dksX7_squareKind_3 9 rfl rfl)
theorem dX7_squareKind_79 : decode cX7_squareKind 79 = .ok (.ireturn, 1) := dk_172 (dk_at dksX7_squareKind_3 10 rfl rfl)
abbrev cX7_point : ByteArray := prog_42_method_80_code
def yX7_point : MethodName := ⟨RX7, "point", "(IIIII)I"⟩
def dkwX7_point_11 : List UInt8 := [42, 7, 182, 0, 144, 172]
abbrev dktX7_point_11 : List UInt8 := dkwX7_point_11 ++ []
def dkwX7_point_10 : List UInt8 := [180, 0, 34, 97, 80, 42, 16, 24, 182, 0, 118, 153, 0, 13, 42, 16, 24, 27, 182, 0, 153, 167, 0, 8]
abbrev dktX7_point_10 : List UInt8 := dkwX7_point_10 ++ dktX7_point_11
def dkwX7_point_9 : List UInt8 := [182, 0, 238, 22, 7, 42, 180, 0, 34, 101, 80, 42, 180, 0, 31, 42, 182, 0, 241, 22, 7, 42]
abbrev dktX7_point_9 : List UInt8 := dkwX7_point_9 ++ dktX7_point_10
def dkwX7_point_8 : List UInt8 := [132, 9, 1, 167, 255, 203, 42, 21, 5, 133, 21, 5, 133, 105, 181, 0, 34, 42, 180, 0, 31, 42]
abbrev dktX7_point_8 : List UInt8 := dkwX7_point_8 ++ dktX7_point_9
def dkwX7_point_7 : List UInt8 := [21, 9, 120, 20, 0, 134, 22, 10, 105, 21, 5, 133, 105, 80, 22, 7, 22, 10, 22, 10, 105, 97, 55, 7]
abbrev dktX7_point_7 : List UInt8 := dkwX7_point_7 ++ dktX7_point_8
def dkwX7_point_6 : List UInt8 := [42, 182, 0, 231, 162, 0, 50, 21, 9, 28, 29, 21, 4, 184, 0, 234, 133, 55, 10, 42, 180, 0, 31, 4]
abbrev dktX7_point_6 : List UInt8 := dkwX7_point_6 ++ dktX7_point_7
def dkwX7_point_5 : List UInt8 := [182, 0, 227, 154, 0, 9, 42, 6, 182, 0, 144, 172, 42, 182, 0, 105, 9, 55, 7, 3, 54, 9, 21, 9]
abbrev dktX7_point_5 : List UInt8 := dkwX7_point_5 ++ dktX7_point_6
def dkwX7_point_4 : List UInt8 := [167, 0, 4, 3, 54, 6, 132, 7, 1, 167, 255, 223, 21, 6, 154, 0, 9, 42, 5, 182, 0, 144, 172, 42]
abbrev dktX7_point_4 : List UInt8 := dkwX7_point_4 ++ dktX7_point_5
def dkwX7_point_3 : List UInt8 := [21, 7, 6, 162, 0, 33, 21, 6, 153, 0, 19, 21, 7, 28, 29, 21, 4, 184, 0, 234, 154, 0, 7, 4]
abbrev dktX7_point_3 : List UInt8 := dkwX7_point_3 ++ dktX7_point_4
def dkwX7_point_2 : List UInt8 := [167, 0, 4, 3, 54, 6, 42, 182, 0, 227, 153, 0, 10, 42, 182, 0, 231, 167, 0, 4, 6, 54, 7]
abbrev dktX7_point_2 : List UInt8 := dkwX7_point_2 ++ dktX7_point_3
def dkwX7_point_1 : List UInt8 := [153, 0, 26, 21, 4, 184, 0, 224, 153, 0, 18, 21, 5, 4, 16, 100, 184, 0, 67, 153, 0, 7, 4]
abbrev dktX7_point_1 : List UInt8 := dkwX7_point_1 ++ dktX7_point_2
def dkwX7_point_0 : List UInt8 := [27, 184, 0, 147, 154, 0, 9, 42, 4, 182, 0, 144, 172, 28, 184, 0, 224, 153, 0, 33, 29, 184, 0, 224]
abbrev dktX7_point_0 : List UInt8 := dkwX7_point_0 ++ dktX7_point_1
theorem dksX7_point_0 : cX7_point.data.toList.drop 0 = dktX7_point_0 := by decide +kernel
theorem dksX7_point_1 : cX7_point.data.toList.drop 24 = dktX7_point_1 := dk_seg dksX7_point_0 24 rfl rfl
theorem dksX7_point_2 : cX7_point.data.toList.drop 47 = dktX7_point_2 := dk_seg dksX7_point_1 23 rfl rfl
theorem dksX7_point_3 : cX7_point.data.toList.drop 70 = dktX7_point_3 := dk_seg dksX7_point_2 23 rfl rfl
theorem dksX7_point_4 : cX7_point.data.toList.drop 94 = dktX7_point_4 := dk_seg dksX7_point_3 24 rfl rfl
theorem dksX7_point_5 : cX7_point.data.toList.drop 118 = dktX7_point_5 := dk_seg dksX7_point_4 24 rfl rfl
theorem dksX7_point_6 : cX7_point.data.toList.drop 142 = dktX7_point_6 := dk_seg dksX7_point_5 24 rfl rfl
theorem dksX7_point_7 : cX7_point.data.toList.drop 166 = dktX7_point_7 := dk_seg dksX7_point_6 24 rfl rfl
theorem dksX7_point_8 : cX7_point.data.toList.drop 190 = dktX7_point_8 := dk_seg dksX7_point_7 24 rfl rfl
theorem dksX7_point_9 : cX7_point.data.toList.drop 212 = dktX7_point_9 := dk_seg dksX7_point_8 22 rfl rfl
theorem dksX7_point_10 : cX7_point.data.toList.drop 234 = dktX7_point_10 := dk_seg dksX7_point_9 22 rfl rfl
theorem dksX7_point_11 : cX7_point.data.toList.drop 258 = dktX7_point_11 := dk_seg dksX7_point_10 24 rfl rfl
theorem dX7_point_0 : decode cX7_point 0 = .ok (.iload_n 1, 1) := dk_27 (dk_at dksX7_point_0 0 rfl rfl)
theorem dX7_point_1 : decode cX7_point 1 = .ok (.invokestatic 147, 3) := dk_184 0 147 (dk_at dksX7_point_0 1 rfl rfl)
theorem dX7_point_4 : decode cX7_point 4 = .ok (.ifCond .ne 9, 3) := dk_154 0 9 (dk_at dksX7_point_0 4 rfl rfl)
theorem dX7_point_7 : decode cX7_point 7 = .ok (.aload_n 0, 1) := dk_42 (dk_at dksX7_point_0 7 rfl rfl)
theorem dX7_point_8 : decode cX7_point 8 = .ok (.iconst 1, 1) := dk_4 (dk_at dksX7_point_0 8 rfl rfl)
theorem dX7_point_9 : decode cX7_point 9 = .ok (.invokevirtual 144, 3) := dk_182 0 144 (dk_at dksX7_point_0 9 rfl rfl)
theorem dX7_point_12 : decode cX7_point 12 = .ok (.ireturn, 1) := dk_172 (dk_at dksX7_point_0 12 rfl rfl)
theorem dX7_point_13 : decode cX7_point 13 = .ok (.iload_n 2, 1) := dk_28 (dk_at dksX7_point_0 13 rfl rfl)
theorem dX7_point_14 : decode cX7_point 14 = .ok (.invokestatic 224, 3) := dk_184 0 224 (dk_at dksX7_point_0 14 rfl rfl)
theorem dX7_point_17 : decode cX7_point 17 = .ok (.ifCond .eq 33, 3) := dk_153 0 33 (dk_at dksX7_point_0 17 rfl rfl)
theorem dX7_point_20 : decode cX7_point 20 = .ok (.iload_n 3, 1) := dk_29 (dk_at dksX7_point_0 20 rfl rfl)
theorem dX7_point_21 : decode cX7_point 21 = .ok (.invokestatic 224, 3) := dk_184 0 224 (dk_at dksX7_point_0 21 rfl rfl)
theorem dX7_point_24 : decode cX7_point 24 = .ok (.ifCond .eq 26, 3) := dk_153 0 26 (dk_at dksX7_point_1 0 rfl rfl)
theorem dX7_point_27 : decode cX7_point 27 = .ok (.iload 4, 2) := dk_21 4 (dk_at dksX7_point_1 3 rfl rfl)
theorem dX7_point_29 : decode cX7_point 29 = .ok (.invokestatic 224, 3) := dk_184 0 224 (dk_at dksX7_point_1 5 rfl rfl)
theorem dX7_point_32 : decode cX7_point 32 = .ok (.ifCond .eq 18, 3) := dk_153 0 18 (dk_at dksX7_point_1 8 rfl rfl)
theorem dX7_point_35 : decode cX7_point 35 = .ok (.iload 5, 2) := dk_21 5 (dk_at dksX7_point_1 11 rfl rfl)
theorem dX7_point_37 : decode cX7_point 37 = .ok (.iconst 1, 1) := dk_4 (dk_at dksX7_point_1 13 rfl rfl)
theorem dX7_point_38 : decode cX7_point 38 = .ok (.bipush 100, 2) := dk_16 100 (dk_at dksX7_point_1 14 rfl rfl)
theorem dX7_point_40 : decode cX7_point 40 = .ok (.invokestatic 67, 3) := dk_184 0 67 (dk_at dksX7_point_1 16 rfl rfl)
theorem dX7_point_43 : decode cX7_point 43 = .ok (.ifCond .eq 7, 3) := dk_153 0 7 (dk_at dksX7_point_1 19 rfl rfl)
theorem dX7_point_46 : decode cX7_point 46 = .ok (.iconst 1, 1) := dk_4 (dk_at dksX7_point_1 22 rfl rfl)
theorem dX7_point_47 : decode cX7_point 47 = .ok (.goto 4, 3) := dk_167 0 4 (dk_at dksX7_point_2 0 rfl rfl)
theorem dX7_point_50 : decode cX7_point 50 = .ok (.iconst 0, 1) := dk_3 (dk_at dksX7_point_2 3 rfl rfl)
theorem dX7_point_51 : decode cX7_point 51 = .ok (.istore 6, 2) := dk_54 6 (dk_at dksX7_point_2 4 rfl rfl)
theorem dX7_point_53 : decode cX7_point 53 = .ok (.aload_n 0, 1) := dk_42 (dk_at dksX7_point_2 6 rfl rfl)
theorem dX7_point_54 : decode cX7_point 54 = .ok (.invokevirtual 227, 3) := dk_182 0 227 (dk_at dksX7_point_2 7 rfl rfl)
theorem dX7_point_57 : decode cX7_point 57 = .ok (.ifCond .eq 10, 3) := dk_153 0 10 (dk_at dksX7_point_2 10 rfl rfl)
theorem dX7_point_60 : decode cX7_point 60 = .ok (.aload_n 0, 1) := dk_42 (dk_at dksX7_point_2 13 rfl rfl)
theorem dX7_point_61 : decode cX7_point 61 = .ok (.invokevirtual 231, 3) := dk_182 0 231 (dk_at dksX7_point_2 14 rfl rfl)
theorem dX7_point_64 : decode cX7_point 64 = .ok (.goto 4, 3) := dk_167 0 4 (dk_at dksX7_point_2 17 rfl rfl)
theorem dX7_point_67 : decode cX7_point 67 = .ok (.iconst 3, 1) := dk_6 (dk_at dksX7_point_2 20 rfl rfl)
theorem dX7_point_68 : decode cX7_point 68 = .ok (.istore 7, 2) := dk_54 7 (dk_at dksX7_point_2 21 rfl rfl)
theorem dX7_point_70 : decode cX7_point 70 = .ok (.iload 7, 2) := dk_21 7 (dk_at dksX7_point_3 0 rfl rfl)
theorem dX7_point_72 : decode cX7_point 72 = .ok (.iconst 3, 1) := dk_6 (dk_at dksX7_point_3 2 rfl rfl)
theorem dX7_point_73 : decode cX7_point 73 = .ok (.if_icmp .ge 33, 3) := dk_162 0 33 (dk_at dksX7_point_3 3 rfl rfl)
theorem dX7_point_76 : decode cX7_point 76 = .ok (.iload 6, 2) := dk_21 6 (dk_at dksX7_point_3 6 rfl rfl)
theorem dX7_point_78 : decode cX7_point 78 = .ok (.ifCond .eq 19, 3) := dk_153 0 19 (dk_at dksX7_point_3 8 rfl rfl)
theorem dX7_point_81 : decode cX7_point 81 = .ok (.iload 7, 2) := dk_21 7 (dk_at dksX7_point_3 11 rfl rfl)
theorem dX7_point_83 : decode cX7_point 83 = .ok (.iload_n 2, 1) := dk_28 (dk_at dksX7_point_3 13 rfl rfl)
theorem dX7_point_84 : decode cX7_point 84 = .ok (.iload_n 3, 1) := dk_29 (dk_at dksX7_point_3 14 rfl rfl)
theorem dX7_point_85 : decode cX7_point 85 = .ok (.iload 4, 2) := dk_21 4 (dk_at dksX7_point_3 15 rfl rfl)
theorem dX7_point_87 : decode cX7_point 87 = .ok (.invokestatic 234, 3) := dk_184 0 234 (dk_at dksX7_point_3 17 rfl rfl)
theorem dX7_point_90 : decode cX7_point 90 = .ok (.ifCond .ne 7, 3) := dk_154 0 7 (dk_at dksX7_point_3 20 rfl rfl)
theorem dX7_point_93 : decode cX7_point 93 = .ok (.iconst 1, 1) := dk_4 (dk_at dksX7_point_3 23 rfl rfl)
theorem dX7_point_94 : decode cX7_point 94 = .ok (.goto 4, 3) := dk_167 0 4 (dk_at dksX7_point_4 0 rfl rfl)
theorem dX7_point_97 : decode cX7_point 97 = .ok (.iconst 0, 1) := dk_3 (dk_at dksX7_point_4 3 rfl rfl)
theorem dX7_point_98 : decode cX7_point 98 = .ok (.istore 6, 2) := dk_54 6 (dk_at dksX7_point_4 4 rfl rfl)
theorem dX7_point_100 : decode cX7_point 100 = .ok (.iinc 7 1, 3) := dk_132 7 1 (dk_at dksX7_point_4 6 rfl rfl)
theorem dX7_point_103 : decode cX7_point 103 = .ok (.goto (-33), 3) := dk_167 255 223 (dk_at dksX7_point_4 9 rfl rfl)
theorem dX7_point_106 : decode cX7_point 106 = .ok (.iload 6, 2) := dk_21 6 (dk_at dksX7_point_4 12 rfl rfl)
theorem dX7_point_108 : decode cX7_point 108 = .ok (.ifCond .ne 9, 3) := dk_154 0 9 (dk_at dksX7_point_4 14 rfl rfl)
theorem dX7_point_111 : decode cX7_point 111 = .ok (.aload_n 0, 1) := dk_42 (dk_at dksX7_point_4 17 rfl rfl)
theorem dX7_point_112 : decode cX7_point 112 = .ok (.iconst 2, 1) := dk_5 (dk_at dksX7_point_4 18 rfl rfl)
theorem dX7_point_113 : decode cX7_point 113 = .ok (.invokevirtual 144, 3) := dk_182 0 144 (dk_at dksX7_point_4 19 rfl rfl)
theorem dX7_point_116 : decode cX7_point 116 = .ok (.ireturn, 1) := dk_172 (dk_at dksX7_point_4 22 rfl rfl)
theorem dX7_point_117 : decode cX7_point 117 = .ok (.aload_n 0, 1) := dk_42 (dk_at dksX7_point_4 23 rfl rfl)
theorem dX7_point_118 : decode cX7_point 118 = .ok (.invokevirtual 227, 3) := dk_182 0 227 (dk_at dksX7_point_5 0 rfl rfl)
theorem dX7_point_121 : decode cX7_point 121 = .ok (.ifCond .ne 9, 3) := dk_154 0 9 (dk_at dksX7_point_5 3 rfl rfl)
theorem dX7_point_124 : decode cX7_point 124 = .ok (.aload_n 0, 1) := dk_42 (dk_at dksX7_point_5 6 rfl rfl)
theorem dX7_point_125 : decode cX7_point 125 = .ok (.iconst 3, 1) := dk_6 (dk_at dksX7_point_5 7 rfl rfl)
theorem dX7_point_126 : decode cX7_point 126 = .ok (.invokevirtual 144, 3) := dk_182 0 144 (dk_at dksX7_point_5 8 rfl rfl)
theorem dX7_point_129 : decode cX7_point 129 = .ok (.ireturn, 1) := dk_172 (dk_at dksX7_point_5 11 rfl rfl)
theorem dX7_point_130 : decode cX7_point 130 = .ok (.aload_n 0, 1) := dk_42 (dk_at dksX7_point_5 12 rfl rfl)
theorem dX7_point_131 : decode cX7_point 131 = .ok (.invokevirtual 105, 3) := dk_182 0 105 (dk_at dksX7_point_5 13 rfl rfl)
theorem dX7_point_134 : decode cX7_point 134 = .ok (.lconst 0, 1) := dk_9 (dk_at dksX7_point_5 16 rfl rfl)
theorem dX7_point_135 : decode cX7_point 135 = .ok (.lstore 7, 2) := dk_55 7 (dk_at dksX7_point_5 17 rfl rfl)
theorem dX7_point_137 : decode cX7_point 137 = .ok (.iconst 0, 1) := dk_3 (dk_at dksX7_point_5 19 rfl rfl)
theorem dX7_point_138 : decode cX7_point 138 = .ok (.istore 9, 2) := dk_54 9 (dk_at dksX7_point_5 20 rfl rfl)
theorem dX7_point_140 : decode cX7_point 140 = .ok (.iload 9, 2) := dk_21 9 (dk_at dksX7_point_5 22 rfl rfl)
theorem dX7_point_142 : decode cX7_point 142 = .ok (.aload_n 0, 1) := dk_42 (dk_at dksX7_point_6 0 rfl rfl)
theorem dX7_point_143 : decode cX7_point 143 = .ok (.invokevirtual 231, 3) := dk_182 0 231 (dk_at dksX7_point_6 1 rfl rfl)
theorem dX7_point_146 : decode cX7_point 146 = .ok (.if_icmp .ge 50, 3) := dk_162 0 50 (dk_at dksX7_point_6 4 rfl rfl)
theorem dX7_point_149 : decode cX7_point 149 = .ok (.iload 9, 2) := dk_21 9 (dk_at dksX7_point_6 7 rfl rfl)
theorem dX7_point_151 : decode cX7_point 151 = .ok (.iload_n 2, 1) := dk_28 (dk_at dksX7_point_6 9 rfl rfl)
theorem dX7_point_152 : decode cX7_point 152 = .ok (.iload_n 3, 1) := dk_29 (dk_at dksX7_point_6 10 rfl rfl)
theorem dX7_point_153 : decode cX7_point 153 = .ok (.iload 4, 2) := dk_21 4 (dk_at dksX7_point_6 11 rfl rfl)
theorem dX7_point_155 : decode cX7_point 155 = .ok (.invokestatic 234, 3) := dk_184 0 234 (dk_at dksX7_point_6 13 rfl rfl)
theorem dX7_point_158 : decode cX7_point 158 = .ok (.i2l, 1) := dk_133 (dk_at dksX7_point_6 16 rfl rfl)
theorem dX7_point_159 : decode cX7_point 159 = .ok (.lstore 10, 2) := dk_55 10 (dk_at dksX7_point_6 17 rfl rfl)
theorem dX7_point_161 : decode cX7_point 161 = .ok (.aload_n 0, 1) := dk_42 (dk_at dksX7_point_6 19 rfl rfl)
theorem dX7_point_162 : decode cX7_point 162 = .ok (.getfield 31, 3) := dk_180 0 31 (dk_at dksX7_point_6 20 rfl rfl)
theorem dX7_point_165 : decode cX7_point 165 = .ok (.iconst 1, 1) := dk_4 (dk_at dksX7_point_6 23 rfl rfl)
theorem dX7_point_166 : decode cX7_point 166 = .ok (.iload 9, 2) := dk_21 9 (dk_at dksX7_point_7 0 rfl rfl)
theorem dX7_point_168 : decode cX7_point 168 = .ok (.ishl, 1) := dk_120 (dk_at dksX7_point_7 2 rfl rfl)
theorem dX7_point_169 : decode cX7_point 169 = .ok (.ldc2_w 134, 3) := dk_20 0 134 (dk_at dksX7_point_7 3 rfl rfl)
theorem dX7_point_172 : decode cX7_point 172 = .ok (.lload 10, 2) := dk_22 10 (dk_at dksX7_point_7 6 rfl rfl)
theorem dX7_point_174 : decode cX7_point 174 = .ok (.lmul, 1) := dk_105 (dk_at dksX7_point_7 8 rfl rfl)
theorem dX7_point_175 : decode cX7_point 175 = .ok (.iload 5, 2) := dk_21 5 (dk_at dksX7_point_7 9 rfl rfl)
theorem dX7_point_177 : decode cX7_point 177 = .ok (.i2l, 1) := dk_133 (dk_at dksX7_point_7 11 rfl rfl)
theorem dX7_point_178 : decode cX7_point 178 = .ok (.lmul, 1) := dk_105 (dk_at dksX7_point_7 12 rfl rfl)
theorem dX7_point_179 : decode cX7_point 179 = .ok (.lastore, 1) := dk_80 (dk_at dksX7_point_7 13 rfl rfl)
theorem dX7_point_180 : decode cX7_point 180 = .ok (.lload 7, 2) := dk_22 7 (dk_at dksX7_point_7 14 rfl rfl)
theorem dX7_point_182 : decode cX7_point 182 = .ok (.lload 10, 2) := dk_22 10 (dk_at dksX7_point_7 16 rfl rfl)
theorem dX7_point_184 : decode cX7_point 184 = .ok (.lload 10, 2) := dk_22 10 (dk_at dksX7_point_7 18 rfl rfl)
theorem dX7_point_186 : decode cX7_point 186 = .ok (.lmul, 1) := dk_105 (dk_at dksX7_point_7 20 rfl rfl)
theorem dX7_point_187 : decode cX7_point 187 = .ok (.ladd, 1) := dk_97 (dk_at dksX7_point_7 21 rfl rfl)
theorem dX7_point_188 : decode cX7_point 188 = .ok (.lstore 7, 2) := dk_55 7 (dk_at dksX7_point_7 22 rfl rfl)
theorem dX7_point_190 : decode cX7_point 190 = .ok (.iinc 9 1, 3) := dk_132 9 1 (dk_at dksX7_point_8 0 rfl rfl)
theorem dX7_point_193 : decode cX7_point 193 = .ok (.goto (-53), 3) := dk_167 255 203 (dk_at dksX7_point_8 3 rfl rfl)
theorem dX7_point_196 : decode cX7_point 196 = .ok (.aload_n 0, 1) := dk_42 (dk_at dksX7_point_8 6 rfl rfl)
theorem dX7_point_197 : decode cX7_point 197 = .ok (.iload 5, 2) := dk_21 5 (dk_at dksX7_point_8 7 rfl rfl)
theorem dX7_point_199 : decode cX7_point 199 = .ok (.i2l, 1) := dk_133 (dk_at dksX7_point_8 9 rfl rfl)
theorem dX7_point_200 : decode cX7_point 200 = .ok (.iload 5, 2) := dk_21 5 (dk_at dksX7_point_8 10 rfl rfl)
theorem dX7_point_202 : decode cX7_point 202 = .ok (.i2l, 1) := dk_133 (dk_at dksX7_point_8 12 rfl rfl)
theorem dX7_point_203 : decode cX7_point 203 = .ok (.lmul, 1) := dk_105 (dk_at dksX7_point_8 13 rfl rfl)
theorem dX7_point_204 : decode cX7_point 204 = .ok (.putfield 34, 3) := dk_181 0 34 (dk_at dksX7_point_8 14 rfl rfl)
theorem dX7_point_207 : decode cX7_point 207 = .ok (.aload_n 0, 1) := dk_42 (dk_at dksX7_point_8 17 rfl rfl)
theorem dX7_point_208 : decode cX7_point 208 = .ok (.getfield 31, 3) := dk_180 0 31 (dk_at dksX7_point_8 18 rfl rfl)
theorem dX7_point_211 : decode cX7_point 211 = .ok (.aload_n 0, 1) := dk_42 (dk_at dksX7_point_8 21 rfl rfl)
theorem dX7_point_212 : decode cX7_point 212 = .ok (.invokevirtual 238, 3) := dk_182 0 238 (dk_at dksX7_point_9 0 rfl rfl)
theorem dX7_point_215 : decode cX7_point 215 = .ok (.lload 7, 2) := dk_22 7 (dk_at dksX7_point_9 3 rfl rfl)
theorem dX7_point_217 : decode cX7_point 217 = .ok (.aload_n 0, 1) := dk_42 (dk_at dksX7_point_9 5 rfl rfl)
theorem dX7_point_218 : decode cX7_point 218 = .ok (.getfield 34, 3) := dk_180 0 34 (dk_at dksX7_point_9 6 rfl rfl)
theorem dX7_point_221 : decode cX7_point 221 = .ok (.lsub, 1) := dk_101 (dk_at dksX7_point_9 9 rfl rfl)
theorem dX7_point_222 : decode cX7_point 222 = .ok (.lastore, 1) := dk_80 (dk_at dksX7_point_9 10 rfl rfl)
theorem dX7_point_223 : decode cX7_point 223 = .ok (.aload_n 0, 1) := dk_42 (dk_at dksX7_point_9 11 rfl rfl)
theorem dX7_point_224 : decode cX7_point 224 = .ok (.getfield 31, 3) := dk_180 0 31 (dk_at dksX7_point_9 12 rfl rfl)
theorem dX7_point_227 : decode cX7_point 227 = .ok (.aload_n 0, 1) := dk_42 (dk_at dksX7_point_9 15 rfl rfl)
theorem dX7_point_228 : decode cX7_point 228 = .ok (.invokevirtual 241, 3) := dk_182 0 241 (dk_at dksX7_point_9 16 rfl rfl)
theorem dX7_point_231 : decode cX7_point 231 = .ok (.lload 7, 2) := dk_22 7 (dk_at dksX7_point_9 19 rfl rfl)
theorem dX7_point_233 : decode cX7_point 233 = .ok (.aload_n 0, 1) := dk_42 (dk_at dksX7_point_9 21 rfl rfl)
theorem dX7_point_234 : decode cX7_point 234 = .ok (.getfield 34, 3) := dk_180 0 34 (dk_at dksX7_point_10 0 rfl rfl)
theorem dX7_point_237 : decode cX7_point 237 = .ok (.ladd, 1) := dk_97 (dk_at dksX7_point_10 3 rfl rfl)
theorem dX7_point_238 : decode cX7_point 238 = .ok (.lastore, 1) := dk_80 (dk_at dksX7_point_10 4 rfl rfl)
theorem dX7_point_239 : decode cX7_point 239 = .ok (.aload_n 0, 1) := dk_42 (dk_at dksX7_point_10 5 rfl rfl)
theorem dX7_point_240 : decode cX7_point 240 = .ok (.bipush 24, 2) := dk_16 24 (dk_at dksX7_point_10 6 rfl rfl)
theorem dX7_point_242 : decode cX7_point 242 = .ok (.invokevirtual 118, 3) := dk_182 0 118 (dk_at dksX7_point_10 8 rfl rfl)
theorem dX7_point_245 : decode cX7_point 245 = .ok (.ifCond .eq 13, 3) := dk_153 0 13 (dk_at dksX7_point_10 11 rfl rfl)
theorem dX7_point_248 : decode cX7_point 248 = .ok (.aload_n 0, 1) := dk_42 (dk_at dksX7_point_10 14 rfl rfl)
theorem dX7_point_249 : decode cX7_point 249 = .ok (.bipush 24, 2) := dk_16 24 (dk_at dksX7_point_10 15 rfl rfl)
theorem dX7_point_251 : decode cX7_point 251 = .ok (.iload_n 1, 1) := dk_27 (dk_at dksX7_point_10 17 rfl rfl)
theorem dX7_point_252 : decode cX7_point 252 = .ok (.invokevirtual 153, 3) := dk_182 0 153 (dk_at dksX7_point_10 18 rfl rfl)
theorem dX7_point_255 : decode cX7_point 255 = .ok (.goto 8, 3) := dk_167 0 8 (dk_at dksX7_point_10 21 rfl rfl)
theorem dX7_point_258 : decode cX7_point 258 = .ok (.aload_n 0, 1) := dk_42 (dk_at dksX7_point_11 0 rfl rfl)
theorem dX7_point_259 : decode cX7_point 259 = .ok (.iconst 4, 1) := dk_7 (dk_at dksX7_point_11 1 rfl rfl)
theorem dX7_point_260 : decode cX7_point 260 = .ok (.invokevirtual 144, 3) := dk_182 0 144 (dk_at dksX7_point_11 2 rfl rfl)
theorem dX7_point_263 : decode cX7_point 263 = .ok (.ireturn, 1) := dk_172 (dk_at dksX7_point_11 5 rfl rfl)
abbrev cX7_isCoordinate : ByteArray := prog_42_method_78_code
def yX7_isCoordinate : MethodName := ⟨RX7, "isCoordinate", "(I)Z"⟩
def dkwX7_isCoordinate_0 : List UInt8 := [26, 17, 252, 24, 17, 3, 232, 184, 0, 67, 172]
abbrev dktX7_isCoordinate_0 : List UInt8 := dkwX7_isCoordinate_0 ++ []
theorem dksX7_isCoordinate_0 : cX7_isCoordinate.data.toList.drop 0 = dktX7_isCoordinate_0 := by decide +kernel
theorem dX7_isCoordinate_0 : decode cX7_isCoordinate 0 = .ok (.iload_n 0, 1) := dk_26 (dk_at dksX7_isCoordinate_0 0 rfl rfl)
theorem dX7_isCoordinate_1 : decode cX7_isCoordinate 1 = .ok (.sipush (-1000), 3) := dk_17 252 24 (dk_at dksX7_isCoordinate_0 1 rfl rfl)
theorem dX7_isCoordinate_4 : decode cX7_isCoordinate 4 = .ok (.sipush 1000, 3) := dk_17 3 232 (dk_at dksX7_isCoordinate_0 4 rfl rfl)
theorem dX7_isCoordinate_7 : decode cX7_isCoordinate 7 = .ok (.invokestatic 67, 3) := dk_184 0 67 (dk_at dksX7_isCoordinate_0 7 rfl rfl)
theorem dX7_isCoordinate_10 : decode cX7_isCoordinate 10 = .ok (.ireturn, 1) := dk_172 (dk_at dksX7_isCoordinate_0 10 rfl rfl)
abbrev cX7_isConformal : ByteArray := prog_42_method_74_code
def yX7_isConformal : MethodName := ⟨RX7, "isConformal", "()Z"⟩
def dkwX7_isConformal_1 : List UInt8 := [153, 0, 7, 4, 167, 0, 4, 3, 172]
abbrev dktX7_isConformal_1 : List UInt8 := dkwX7_isConformal_1 ++ []
def dkwX7_isConformal_0 : List UInt8 := [42, 180, 0, 57, 4, 160, 0, 26, 42, 180, 0, 60, 154, 0, 19, 42, 180, 0, 7, 5, 7, 184, 0, 67]
abbrev dktX7_isConformal_0 : List UInt8 := dkwX7_isConformal_0 ++ dktX7_isConformal_1
theorem dksX7_isConformal_0 : cX7_isConformal.data.toList.drop 0 = dktX7_isConformal_0 := by decide +kernel
theorem dksX7_isConformal_1 : cX7_isConformal.data.toList.drop 24 = dktX7_isConformal_1 := dk_seg dksX7_isConformal_0 24 rfl rfl
theorem dX7_isConformal_0 : decode cX7_isConformal 0 = .ok (.aload_n 0, 1) := dk_42 (dk_at dksX7_isConformal_0 0 rfl rfl)
theorem dX7_isConformal_1 : decode cX7_isConformal 1 = .ok (.getfield 57, 3) := dk_180 0 57 (dk_at dksX7_isConformal_0 1 rfl rfl)
theorem dX7_isConformal_4 : decode cX7_isConformal 4 = .ok (.iconst 1, 1) := dk_4 (dk_at dksX7_isConformal_0 4 rfl rfl)
theorem dX7_isConformal_5 : decode cX7_isConformal 5 = .ok (.if_icmp .ne 26, 3) := dk_160 0 26 (dk_at dksX7_isConformal_0 5 rfl rfl)
theorem dX7_isConformal_8 : decode cX7_isConformal 8 = .ok (.aload_n 0, 1) := dk_42 (dk_at dksX7_isConformal_0 8 rfl rfl)
theorem dX7_isConformal_9 : decode cX7_isConformal 9 = .ok (.getfield 60, 3) := dk_180 0 60 (dk_at dksX7_isConformal_0 9 rfl rfl)
theorem dX7_isConformal_12 : decode cX7_isConformal 12 = .ok (.ifCond .ne 19, 3) := dk_154 0 19 (dk_at dksX7_isConformal_0 12 rfl rfl)
theorem dX7_isConformal_15 : decode cX7_isConformal 15 = .ok (.aload_n 0, 1) := dk_42 (dk_at dksX7_isConformal_0 15 rfl rfl)
theorem dX7_isConformal_16 : decode cX7_isConformal 16 = .ok (.getfield 7, 3) := dk_180 0 7 (dk_at dksX7_isConformal_0 16 rfl rfl)
theorem dX7_isConformal_19 : decode cX7_isConformal 19 = .ok (.iconst 2, 1) := dk_5 (dk_at dksX7_isConformal_0 19 rfl rfl)
theorem dX7_isConformal_20 : decode cX7_isConformal 20 = .ok (.iconst 4, 1) := dk_7 (dk_at dksX7_isConformal_0 20 rfl rfl)
theorem dX7_isConformal_21 : decode cX7_isConformal 21 = .ok (.invokestatic 67, 3) := dk_184 0 67 (dk_at dksX7_isConformal_0 21 rfl rfl)
theorem dX7_isConformal_24 : decode cX7_isConformal 24 = .ok (.ifCond .eq 7, 3) := dk_153 0 7 (dk_at dksX7_isConformal_1 0 rfl rfl)
theorem dX7_isConformal_27 : decode cX7_isConformal 27 = .ok (.iconst 1, 1) := dk_4 (dk_at dksX7_isConformal_1 3 rfl rfl)
theorem dX7_isConformal_28 : decode cX7_isConformal 28 = .ok (.goto 4, 3) := dk_167 0 4 (dk_at dksX7_isConformal_1 4 rfl rfl)
theorem dX7_isConformal_31 : decode cX7_isConformal 31 = .ok (.iconst 0, 1) := dk_3 (dk_at dksX7_isConformal_1 7 rfl rfl)
theorem dX7_isConformal_32 : decode cX7_isConformal 32 = .ok (.ireturn, 1) := dk_172 (dk_at dksX7_isConformal_1 8 rfl rfl)
abbrev cX7_dimension : ByteArray := prog_42_method_75_code
def yX7_dimension : MethodName := ⟨RX7, "dimension", "()I"⟩
def dkwX7_dimension_0 : List UInt8 := [42, 180, 0, 7, 4, 100, 172]
abbrev dktX7_dimension_0 : List UInt8 := dkwX7_dimension_0 ++ []
theorem dksX7_dimension_0 : cX7_dimension.data.toList.drop 0 = dktX7_dimension_0 := by decide +kernel
theorem dX7_dimension_0 : decode cX7_dimension 0 = .ok (.aload_n 0, 1) := dk_42 (dk_at dksX7_dimension_0 0 rfl rfl)
theorem dX7_dimension_1 : decode cX7_dimension 1 = .ok (.getfield 7, 3) := dk_180 0 7 (dk_at dksX7_dimension_0 1 rfl rfl)
theorem dX7_dimension_4 : decode cX7_dimension 4 = .ok (.iconst 1, 1) := dk_4 (dk_at dksX7_dimension_0 4 rfl rfl)
theorem dX7_dimension_5 : decode cX7_dimension 5 = .ok (.isub, 1) := dk_100 (dk_at dksX7_dimension_0 5 rfl rfl)
theorem dX7_dimension_6 : decode cX7_dimension 6 = .ok (.ireturn, 1) := dk_172 (dk_at dksX7_dimension_0 6 rfl rfl)
abbrev cX7_coordinate : ByteArray := prog_42_method_79_code
def yX7_coordinate : MethodName := ⟨RX7, "coordinate", "(IIII)I"⟩
def dkwX7_coordinate_0 : List UInt8 := [26, 154, 0, 7, 27, 167, 0, 13, 26, 4, 160, 0, 7, 28, 167, 0, 4, 29, 172]
abbrev dktX7_coordinate_0 : List UInt8 := dkwX7_coordinate_0 ++ []
theorem dksX7_coordinate_0 : cX7_coordinate.data.toList.drop 0 = dktX7_coordinate_0 := by decide +kernel
theorem dX7_coordinate_0 : decode cX7_coordinate 0 = .ok (.iload_n 0, 1) := dk_26 (dk_at dksX7_coordinate_0 0 rfl rfl)
theorem dX7_coordinate_1 : decode cX7_coordinate 1 = .ok (.ifCond .ne 7, 3) := dk_154 0 7 (dk_at dksX7_coordinate_0 1 rfl rfl)
theorem dX7_coordinate_4 : decode cX7_coordinate 4 = .ok (.iload_n 1, 1) := dk_27 (dk_at dksX7_coordinate_0 4 rfl rfl)
theorem dX7_coordinate_5 : decode cX7_coordinate 5 = .ok (.goto 13, 3) := dk_167 0 13 (dk_at dksX7_coordinate_0 5 rfl rfl)
theorem dX7_coordinate_8 : decode cX7_coordinate 8 = .ok (.iload_n 0, 1) := dk_26 (dk_at dksX7_coordinate_0 8 rfl rfl)
theorem dX7_coordinate_9 : decode cX7_coordinate 9 = .ok (.iconst 1, 1) := dk_4 (dk_at dksX7_coordinate_0 9 rfl rfl)
theorem dX7_coordinate_10 : decode cX7_coordinate 10 = .ok (.if_icmp .ne 7, 3) := dk_160 0 7 (dk_at dksX7_coordinate_0 10 rfl rfl)
theorem dX7_coordinate_13 : decode cX7_coordinate 13 = .ok (.iload_n 2, 1) := dk_28 (dk_at dksX7_coordinate_0 13 rfl rfl)
theorem dX7_coordinate_14 : decode cX7_coordinate 14 = .ok (.goto 4, 3) := dk_167 0 4 (dk_at dksX7_coordinate_0 14 rfl rfl)
theorem dX7_coordinate_17 : decode cX7_coordinate 17 = .ok (.iload_n 3, 1) := dk_29 (dk_at dksX7_coordinate_0 17 rfl rfl)
theorem dX7_coordinate_18 : decode cX7_coordinate 18 = .ok (.ireturn, 1) := dk_172 (dk_at dksX7_coordinate_0 18 rfl rfl)
abbrev cX7_first : ByteArray := prog_42_method_76_code
def yX7_first : MethodName := ⟨RX7, "first", "()I"⟩
def dkwX7_first_0 : List UInt8 := [4, 42, 180, 0, 7, 4, 100, 120, 172]
abbrev dktX7_first_0 : List UInt8 := dkwX7_first_0 ++ []
theorem dksX7_first_0 : cX7_first.data.toList.drop 0 = dktX7_first_0 := by decide +kernel
theorem dX7_first_0 : decode cX7_first 0 = .ok (.iconst 1, 1) := dk_4 (dk_at dksX7_first_0 0 rfl rfl)
theorem dX7_first_1 : decode cX7_first 1 = .ok (.aload_n 0, 1) := dk_42 (dk_at dksX7_first_0 1 rfl rfl)
theorem dX7_first_2 : decode cX7_first 2 = .ok (.getfield 7, 3) := dk_180 0 7 (dk_at dksX7_first_0 2 rfl rfl)
theorem dX7_first_5 : decode cX7_first 5 = .ok (.iconst 1, 1) := dk_4 (dk_at dksX7_first_0 5 rfl rfl)
theorem dX7_first_6 : decode cX7_first 6 = .ok (.isub, 1) := dk_100 (dk_at dksX7_first_0 6 rfl rfl)
theorem dX7_first_7 : decode cX7_first 7 = .ok (.ishl, 1) := dk_120 (dk_at dksX7_first_0 7 rfl rfl)
theorem dX7_first_8 : decode cX7_first 8 = .ok (.ireturn, 1) := dk_172 (dk_at dksX7_first_0 8 rfl rfl)
abbrev cX7_second : ByteArray := prog_42_method_77_code
def yX7_second : MethodName := ⟨RX7, "second", "()I"⟩
def dkwX7_second_0 : List UInt8 := [4, 42, 180, 0, 7, 120, 172]
abbrev dktX7_second_0 : List UInt8 := dkwX7_second_0 ++ []
theorem dksX7_second_0 : cX7_second.data.toList.drop 0 = dktX7_second_0 := by decide +kernel
theorem dX7_second_0 : decode cX7_second 0 = .ok (.iconst 1, 1) := dk_4 (dk_at dksX7_second_0 0 rfl rfl)
theorem dX7_second_1 : decode cX7_second 1 = .ok (.aload_n 0, 1) := dk_42 (dk_at dksX7_second_0 1 rfl rfl)
theorem dX7_second_2 : decode cX7_second 2 = .ok (.getfield 7, 3) := dk_180 0 7 (dk_at dksX7_second_0 2 rfl rfl)
theorem dX7_second_5 : decode cX7_second 5 = .ok (.ishl, 1) := dk_120 (dk_at dksX7_second_0 5 rfl rfl)
theorem dX7_second_6 : decode cX7_second 6 = .ok (.ireturn, 1) := dk_172 (dk_at dksX7_second_0 6 rfl rfl)
abbrev cX7_center : ByteArray := prog_42_method_83_code
def yX7_center : MethodName := ⟨RX7, "center", "(II)I"⟩
def dkwX7_center_4 : List UInt8 := [182, 0, 118, 153, 0, 13, 42, 16, 24, 27, 182, 0, 153, 167, 0, 8, 42, 6, 182, 0, 144, 172]
abbrev dktX7_center_4 : List UInt8 := dkwX7_center_4 ++ []
def dkwX7_center_3 : List UInt8 := [120, 182, 0, 94, 105, 80, 132, 8, 1, 167, 255, 223, 42, 22, 6, 22, 4, 105, 181, 0, 34, 42, 16, 24]
abbrev dktX7_center_3 : List UInt8 := dkwX7_center_3 ++ dktX7_center_4
def dkwX7_center_2 : List UInt8 := [21, 8, 42, 182, 0, 231, 162, 0, 30, 42, 180, 0, 31, 4, 21, 8, 120, 22, 6, 42, 28, 4, 21, 8]
abbrev dktX7_center_2 : List UInt8 := dkwX7_center_2 ++ dktX7_center_3
def dkwX7_center_1 : List UInt8 := [22, 4, 9, 148, 156, 0, 9, 20, 0, 122, 167, 0, 4, 10, 55, 6, 42, 182, 0, 105, 3, 54, 8]
abbrev dktX7_center_1 : List UInt8 := dkwX7_center_1 ++ dktX7_center_2
def dkwX7_center_0 : List UInt8 := [42, 27, 28, 182, 0, 247, 62, 29, 158, 0, 9, 42, 29, 182, 0, 144, 172, 42, 28, 182, 0, 244, 55, 4]
abbrev dktX7_center_0 : List UInt8 := dkwX7_center_0 ++ dktX7_center_1
theorem dksX7_center_0 : cX7_center.data.toList.drop 0 = dktX7_center_0 := by decide +kernel
theorem dksX7_center_1 : cX7_center.data.toList.drop 24 = dktX7_center_1 := dk_seg dksX7_center_0 24 rfl rfl
theorem dksX7_center_2 : cX7_center.data.toList.drop 47 = dktX7_center_2 := dk_seg dksX7_center_1 23 rfl rfl
theorem dksX7_center_3 : cX7_center.data.toList.drop 71 = dktX7_center_3 := dk_seg dksX7_center_2 24 rfl rfl
theorem dksX7_center_4 : cX7_center.data.toList.drop 95 = dktX7_center_4 := dk_seg dksX7_center_3 24 rfl rfl
theorem dX7_center_0 : decode cX7_center 0 = .ok (.aload_n 0, 1) := dk_42 (dk_at dksX7_center_0 0 rfl rfl)
theorem dX7_center_1 : decode cX7_center 1 = .ok (.iload_n 1, 1) := dk_27 (dk_at dksX7_center_0 1 rfl rfl)
theorem dX7_center_2 : decode cX7_center 2 = .ok (.iload_n 2, 1) := dk_28 (dk_at dksX7_center_0 2 rfl rfl)
theorem dX7_center_3 : decode cX7_center 3 = .ok (.invokevirtual 247, 3) := dk_182 0 247 (dk_at dksX7_center_0 3 rfl rfl)
theorem dX7_center_6 : decode cX7_center 6 = .ok (.istore_n 3, 1) := dk_62 (dk_at dksX7_center_0 6 rfl rfl)
theorem dX7_center_7 : decode cX7_center 7 = .ok (.iload_n 3, 1) := dk_29 (dk_at dksX7_center_0 7 rfl rfl)
theorem dX7_center_8 : decode cX7_center 8 = .ok (.ifCond .le 9, 3) := dk_158 0 9 (dk_at dksX7_center_0 8 rfl rfl)
theorem dX7_center_11 : decode cX7_center 11 = .ok (.aload_n 0, 1) := dk_42 (dk_at dksX7_center_0 11 rfl rfl)
theorem dX7_center_12 : decode cX7_center 12 = .ok (.iload_n 3, 1) := dk_29 (dk_at dksX7_center_0 12 rfl rfl)
theorem dX7_center_13 : decode cX7_center 13 = .ok (.invokevirtual 144, 3) := dk_182 0 144 (dk_at dksX7_center_0 13 rfl rfl)
theorem dX7_center_16 : decode cX7_center 16 = .ok (.ireturn, 1) := dk_172 (dk_at dksX7_center_0 16 rfl rfl)
theorem dX7_center_17 : decode cX7_center 17 = .ok (.aload_n 0, 1) := dk_42 (dk_at dksX7_center_0 17 rfl rfl)
theorem dX7_center_18 : decode cX7_center 18 = .ok (.iload_n 2, 1) := dk_28 (dk_at dksX7_center_0 18 rfl rfl)
theorem dX7_center_19 : decode cX7_center 19 = .ok (.invokevirtual 244, 3) := dk_182 0 244 (dk_at dksX7_center_0 19 rfl rfl)
theorem dX7_center_22 : decode cX7_center 22 = .ok (.lstore 4, 2) := dk_55 4 (dk_at dksX7_center_0 22 rfl rfl)
theorem dX7_center_24 : decode cX7_center 24 = .ok (.lload 4, 2) := dk_22 4 (dk_at dksX7_center_1 0 rfl rfl)
theorem dX7_center_26 : decode cX7_center 26 = .ok (.lconst 0, 1) := dk_9 (dk_at dksX7_center_1 2 rfl rfl)
theorem dX7_center_27 : decode cX7_center 27 = .ok (.lcmp, 1) := dk_148 (dk_at dksX7_center_1 3 rfl rfl)
theorem dX7_center_28 : decode cX7_center 28 = .ok (.ifCond .ge 9, 3) := dk_156 0 9 (dk_at dksX7_center_1 4 rfl rfl)
theorem dX7_center_31 : decode cX7_center 31 = .ok (.ldc2_w 122, 3) := dk_20 0 122 (dk_at dksX7_center_1 7 rfl rfl)
theorem dX7_center_34 : decode cX7_center 34 = .ok (.goto 4, 3) := dk_167 0 4 (dk_at dksX7_center_1 10 rfl rfl)
theorem dX7_center_37 : decode cX7_center 37 = .ok (.lconst 1, 1) := dk_10 (dk_at dksX7_center_1 13 rfl rfl)
theorem dX7_center_38 : decode cX7_center 38 = .ok (.lstore 6, 2) := dk_55 6 (dk_at dksX7_center_1 14 rfl rfl)
theorem dX7_center_40 : decode cX7_center 40 = .ok (.aload_n 0, 1) := dk_42 (dk_at dksX7_center_1 16 rfl rfl)
theorem dX7_center_41 : decode cX7_center 41 = .ok (.invokevirtual 105, 3) := dk_182 0 105 (dk_at dksX7_center_1 17 rfl rfl)
theorem dX7_center_44 : decode cX7_center 44 = .ok (.iconst 0, 1) := dk_3 (dk_at dksX7_center_1 20 rfl rfl)
theorem dX7_center_45 : decode cX7_center 45 = .ok (.istore 8, 2) := dk_54 8 (dk_at dksX7_center_1 21 rfl rfl)
theorem dX7_center_47 : decode cX7_center 47 = .ok (.iload 8, 2) := dk_21 8 (dk_at dksX7_center_2 0 rfl rfl)
theorem dX7_center_49 : decode cX7_center 49 = .ok (.aload_n 0, 1) := dk_42 (dk_at dksX7_center_2 2 rfl rfl)
theorem dX7_center_50 : decode cX7_center 50 = .ok (.invokevirtual 231, 3) := dk_182 0 231 (dk_at dksX7_center_2 3 rfl rfl)
theorem dX7_center_53 : decode cX7_center 53 = .ok (.if_icmp .ge 30, 3) := dk_162 0 30 (dk_at dksX7_center_2 6 rfl rfl)
theorem dX7_center_56 : decode cX7_center 56 = .ok (.aload_n 0, 1) := dk_42 (dk_at dksX7_center_2 9 rfl rfl)
theorem dX7_center_57 : decode cX7_center 57 = .ok (.getfield 31, 3) := dk_180 0 31 (dk_at dksX7_center_2 10 rfl rfl)
theorem dX7_center_60 : decode cX7_center 60 = .ok (.iconst 1, 1) := dk_4 (dk_at dksX7_center_2 13 rfl rfl)
theorem dX7_center_61 : decode cX7_center 61 = .ok (.iload 8, 2) := dk_21 8 (dk_at dksX7_center_2 14 rfl rfl)
theorem dX7_center_63 : decode cX7_center 63 = .ok (.ishl, 1) := dk_120 (dk_at dksX7_center_2 16 rfl rfl)
theorem dX7_center_64 : decode cX7_center 64 = .ok (.lload 6, 2) := dk_22 6 (dk_at dksX7_center_2 17 rfl rfl)
theorem dX7_center_66 : decode cX7_center 66 = .ok (.aload_n 0, 1) := dk_42 (dk_at dksX7_center_2 19 rfl rfl)
theorem dX7_center_67 : decode cX7_center 67 = .ok (.iload_n 2, 1) := dk_28 (dk_at dksX7_center_2 20 rfl rfl)
theorem dX7_center_68 : decode cX7_center 68 = .ok (.iconst 1, 1) := dk_4 (dk_at dksX7_center_2 21 rfl rfl)
theorem dX7_center_69 : decode cX7_center 69 = .ok (.iload 8, 2) := dk_21 8 (dk_at dksX7_center_2 22 rfl rfl)
theorem dX7_center_71 : decode cX7_center 71 = .ok (.ishl, 1) := dk_120 (dk_at dksX7_center_3 0 rfl rfl)
theorem dX7_center_72 : decode cX7_center 72 = .ok (.invokevirtual 94, 3) := dk_182 0 94 (dk_at dksX7_center_3 1 rfl rfl)
theorem dX7_center_75 : decode cX7_center 75 = .ok (.lmul, 1) := dk_105 (dk_at dksX7_center_3 4 rfl rfl)
theorem dX7_center_76 : decode cX7_center 76 = .ok (.lastore, 1) := dk_80 (dk_at dksX7_center_3 5 rfl rfl)
theorem dX7_center_77 : decode cX7_center 77 = .ok (.iinc 8 1, 3) := dk_132 8 1 (dk_at dksX7_center_3 6 rfl rfl)
theorem dX7_center_80 : decode cX7_center 80 = .ok (.goto (-33), 3) := dk_167 255 223 (dk_at dksX7_center_3 9 rfl rfl)
theorem dX7_center_83 : decode cX7_center 83 = .ok (.aload_n 0, 1) := dk_42 (dk_at dksX7_center_3 12 rfl rfl)
theorem dX7_center_84 : decode cX7_center 84 = .ok (.lload 6, 2) := dk_22 6 (dk_at dksX7_center_3 13 rfl rfl)
theorem dX7_center_86 : decode cX7_center 86 = .ok (.lload 4, 2) := dk_22 4 (dk_at dksX7_center_3 15 rfl rfl)
theorem dX7_center_88 : decode cX7_center 88 = .ok (.lmul, 1) := dk_105 (dk_at dksX7_center_3 17 rfl rfl)
theorem dX7_center_89 : decode cX7_center 89 = .ok (.putfield 34, 3) := dk_181 0 34 (dk_at dksX7_center_3 18 rfl rfl)
theorem dX7_center_92 : decode cX7_center 92 = .ok (.aload_n 0, 1) := dk_42 (dk_at dksX7_center_3 21 rfl rfl)
theorem dX7_center_93 : decode cX7_center 93 = .ok (.bipush 24, 2) := dk_16 24 (dk_at dksX7_center_3 22 rfl rfl)
theorem dX7_center_95 : decode cX7_center 95 = .ok (.invokevirtual 118, 3) := dk_182 0 118 (dk_at dksX7_center_4 0 rfl rfl)
theorem dX7_center_98 : decode cX7_center 98 = .ok (.ifCond .eq 13, 3) := dk_153 0 13 (dk_at dksX7_center_4 3 rfl rfl)
theorem dX7_center_101 : decode cX7_center 101 = .ok (.aload_n 0, 1) := dk_42 (dk_at dksX7_center_4 6 rfl rfl)
theorem dX7_center_102 : decode cX7_center 102 = .ok (.bipush 24, 2) := dk_16 24 (dk_at dksX7_center_4 7 rfl rfl)
theorem dX7_center_104 : decode cX7_center 104 = .ok (.iload_n 1, 1) := dk_27 (dk_at dksX7_center_4 9 rfl rfl)
theorem dX7_center_105 : decode cX7_center 105 = .ok (.invokevirtual 153, 3) := dk_182 0 153 (dk_at dksX7_center_4 10 rfl rfl)
theorem dX7_center_108 : decode cX7_center 108 = .ok (.goto 8, 3) := dk_167 0 8 (dk_at dksX7_center_4 13 rfl rfl)
theorem dX7_center_111 : decode cX7_center 111 = .ok (.aload_n 0, 1) := dk_42 (dk_at dksX7_center_4 16 rfl rfl)
theorem dX7_center_112 : decode cX7_center 112 = .ok (.iconst 3, 1) := dk_6 (dk_at dksX7_center_4 17 rfl rfl)
theorem dX7_center_113 : decode cX7_center 113 = .ok (.invokevirtual 144, 3) := dk_182 0 144 (dk_at dksX7_center_4 18 rfl rfl)
theorem dX7_center_116 : decode cX7_center 116 = .ok (.ireturn, 1) := dk_172 (dk_at dksX7_center_4 21 rfl rfl)
abbrev cX7_wrongSphere : ByteArray := prog_42_method_82_code
def yX7_wrongSphere : MethodName := ⟨RX7, "wrongSphere", "(II)I"⟩
def dkwX7_wrongSphere_1 : List UInt8 := [28, 182, 0, 191, 153, 0, 17, 42, 28, 182, 0, 244, 9, 148, 153, 0, 7, 3, 167, 0, 4, 5, 172]
abbrev dktX7_wrongSphere_1 : List UInt8 := dkwX7_wrongSphere_1 ++ []
def dkwX7_wrongSphere_0 : List UInt8 := [27, 184, 0, 147, 153, 0, 10, 28, 184, 0, 147, 154, 0, 5, 4, 172, 42, 182, 0, 227, 153, 0, 25, 42]
abbrev dktX7_wrongSphere_0 : List UInt8 := dkwX7_wrongSphere_0 ++ dktX7_wrongSphere_1
theorem dksX7_wrongSphere_0 : cX7_wrongSphere.data.toList.drop 0 = dktX7_wrongSphere_0 := by decide +kernel
theorem dksX7_wrongSphere_1 : cX7_wrongSphere.data.toList.drop 24 = dktX7_wrongSphere_1 := dk_seg dksX7_wrongSphere_0 24 rfl rfl
theorem dX7_wrongSphere_0 : decode cX7_wrongSphere 0 = .ok (.iload_n 1, 1) := dk_27 (dk_at dksX7_wrongSphere_0 0 rfl rfl)
theorem dX7_wrongSphere_1 : decode cX7_wrongSphere 1 = .ok (.invokestatic 147, 3) := dk_184 0 147 (dk_at dksX7_wrongSphere_0 1 rfl rfl)
theorem dX7_wrongSphere_4 : decode cX7_wrongSphere 4 = .ok (.ifCond .eq 10, 3) := dk_153 0 10 (dk_at dksX7_wrongSphere_0 4 rfl rfl)
theorem dX7_wrongSphere_7 : decode cX7_wrongSphere 7 = .ok (.iload_n 2, 1) := dk_28 (dk_at dksX7_wrongSphere_0 7 rfl rfl)
theorem dX7_wrongSphere_8 : decode cX7_wrongSphere 8 = .ok (.invokestatic 147, 3) := dk_184 0 147 (dk_at dksX7_wrongSphere_0 8 rfl rfl)
theorem dX7_wrongSphere_11 : decode cX7_wrongSphere 11 = .ok (.ifCond .ne 5, 3) := dk_154 0 5 (dk_at dksX7_wrongSphere_0 11 rfl rfl)
theorem dX7_wrongSphere_14 : decode cX7_wrongSphere 14 = .ok (.iconst 1, 1) := dk_4 (dk_at dksX7_wrongSphere_0 14 rfl rfl)
theorem dX7_wrongSphere_15 : decode cX7_wrongSphere 15 = .ok (.ireturn, 1) := dk_172 (dk_at dksX7_wrongSphere_0 15 rfl rfl)
theorem dX7_wrongSphere_16 : decode cX7_wrongSphere 16 = .ok (.aload_n 0, 1) := dk_42 (dk_at dksX7_wrongSphere_0 16 rfl rfl)
theorem dX7_wrongSphere_17 : decode cX7_wrongSphere 17 = .ok (.invokevirtual 227, 3) := dk_182 0 227 (dk_at dksX7_wrongSphere_0 17 rfl rfl)
theorem dX7_wrongSphere_20 : decode cX7_wrongSphere 20 = .ok (.ifCond .eq 25, 3) := dk_153 0 25 (dk_at dksX7_wrongSphere_0 20 rfl rfl)
theorem dX7_wrongSphere_23 : decode cX7_wrongSphere 23 = .ok (.aload_n 0, 1) := dk_42 (dk_at dksX7_wrongSphere_0 23 rfl rfl)
theorem dX7_wrongSphere_24 : decode cX7_wrongSphere 24 = .ok (.iload_n 2, 1) := dk_28 (dk_at dksX7_wrongSphere_1 0 rfl rfl)
theorem dX7_wrongSphere_25 : decode cX7_wrongSphere 25 = .ok (.invokevirtual 191, 3) := dk_182 0 191 (dk_at dksX7_wrongSphere_1 1 rfl rfl)
theorem dX7_wrongSphere_28 : decode cX7_wrongSphere 28 = .ok (.ifCond .eq 17, 3) := dk_153 0 17 (dk_at dksX7_wrongSphere_1 4 rfl rfl)
theorem dX7_wrongSphere_31 : decode cX7_wrongSphere 31 = .ok (.aload_n 0, 1) := dk_42 (dk_at dksX7_wrongSphere_1 7 rfl rfl)
theorem dX7_wrongSphere_32 : decode cX7_wrongSphere 32 = .ok (.iload_n 2, 1) := dk_28 (dk_at dksX7_wrongSphere_1 8 rfl rfl)
theorem dX7_wrongSphere_33 : decode cX7_wrongSphere 33 = .ok (.invokevirtual 244, 3) := dk_182 0 244 (dk_at dksX7_wrongSphere_1 9 rfl rfl)
theorem dX7_wrongSphere_36 : decode cX7_wrongSphere 36 = .ok (.lconst 0, 1) := dk_9 (dk_at dksX7_wrongSphere_1 12 rfl rfl)
theorem dX7_wrongSphere_37 : decode cX7_wrongSphere 37 = .ok (.lcmp, 1) := dk_148 (dk_at dksX7_wrongSphere_1 13 rfl rfl)
theorem dX7_wrongSphere_38 : decode cX7_wrongSphere 38 = .ok (.ifCond .eq 7, 3) := dk_153 0 7 (dk_at dksX7_wrongSphere_1 14 rfl rfl)
theorem dX7_wrongSphere_41 : decode cX7_wrongSphere 41 = .ok (.iconst 0, 1) := dk_3 (dk_at dksX7_wrongSphere_1 17 rfl rfl)
theorem dX7_wrongSphere_42 : decode cX7_wrongSphere 42 = .ok (.goto 4, 3) := dk_167 0 4 (dk_at dksX7_wrongSphere_1 18 rfl rfl)
theorem dX7_wrongSphere_45 : decode cX7_wrongSphere 45 = .ok (.iconst 2, 1) := dk_5 (dk_at dksX7_wrongSphere_1 21 rfl rfl)
theorem dX7_wrongSphere_46 : decode cX7_wrongSphere 46 = .ok (.ireturn, 1) := dk_172 (dk_at dksX7_wrongSphere_1 22 rfl rfl)
abbrev cX7_twiceWeight : ByteArray := prog_42_method_81_code
def yX7_twiceWeight : MethodName := ⟨RX7, "twiceWeight", "(I)J"⟩
def dkwX7_twiceWeight_0 : List UInt8 := [42, 27, 42, 182, 0, 241, 182, 0, 94, 42, 27, 42, 182, 0, 238, 182, 0, 94, 101, 173]
abbrev dktX7_twiceWeight_0 : List UInt8 := dkwX7_twiceWeight_0 ++ []
theorem dksX7_twiceWeight_0 : cX7_twiceWeight.data.toList.drop 0 = dktX7_twiceWeight_0 := by decide +kernel
theorem dX7_twiceWeight_0 : decode cX7_twiceWeight 0 = .ok (.aload_n 0, 1) := dk_42 (dk_at dksX7_twiceWeight_0 0 rfl rfl)
theorem dX7_twiceWeight_1 : decode cX7_twiceWeight 1 = .ok (.iload_n 1, 1) := dk_27 (dk_at dksX7_twiceWeight_0 1 rfl rfl)
theorem dX7_twiceWeight_2 : decode cX7_twiceWeight 2 = .ok (.aload_n 0, 1) := dk_42 (dk_at dksX7_twiceWeight_0 2 rfl rfl)
theorem dX7_twiceWeight_3 : decode cX7_twiceWeight 3 = .ok (.invokevirtual 241, 3) := dk_182 0 241 (dk_at dksX7_twiceWeight_0 3 rfl rfl)
theorem dX7_twiceWeight_6 : decode cX7_twiceWeight 6 = .ok (.invokevirtual 94, 3) := dk_182 0 94 (dk_at dksX7_twiceWeight_0 6 rfl rfl)
theorem dX7_twiceWeight_9 : decode cX7_twiceWeight 9 = .ok (.aload_n 0, 1) := dk_42 (dk_at dksX7_twiceWeight_0 9 rfl rfl)
theorem dX7_twiceWeight_10 : decode cX7_twiceWeight 10 = .ok (.iload_n 1, 1) := dk_27 (dk_at dksX7_twiceWeight_0 10 rfl rfl)
theorem dX7_twiceWeight_11 : decode cX7_twiceWeight 11 = .ok (.aload_n 0, 1) := dk_42 (dk_at dksX7_twiceWeight_0 11 rfl rfl)
theorem dX7_twiceWeight_12 : decode cX7_twiceWeight 12 = .ok (.invokevirtual 238, 3) := dk_182 0 238 (dk_at dksX7_twiceWeight_0 12 rfl rfl)
theorem dX7_twiceWeight_15 : decode cX7_twiceWeight 15 = .ok (.invokevirtual 94, 3) := dk_182 0 94 (dk_at dksX7_twiceWeight_0 15 rfl rfl)
theorem dX7_twiceWeight_18 : decode cX7_twiceWeight 18 = .ok (.lsub, 1) := dk_101 (dk_at dksX7_twiceWeight_0 18 rfl rfl)
theorem dX7_twiceWeight_19 : decode cX7_twiceWeight 19 = .ok (.lreturn, 1) := dk_173 (dk_at dksX7_twiceWeight_0 19 rfl rfl)
abbrev cX7_radiusSquare : ByteArray := prog_42_method_84_code
def yX7_radiusSquare : MethodName := ⟨RX7, "radiusSquare", "(II)I"⟩
def dkwX7_radiusSquare_5 : List UInt8 := [16, 24, 182, 0, 118, 153, 0, 13, 42, 16, 24, 27, 182, 0, 153, 167, 0, 8, 42, 6, 182, 0, 144, 172]
abbrev dktX7_radiusSquare_5 : List UInt8 := dkwX7_radiusSquare_5 ++ []
def dkwX7_radiusSquare_4 : List UInt8 := [97, 80, 132, 4, 1, 167, 255, 202, 42, 42, 28, 182, 0, 244, 42, 28, 182, 0, 244, 105, 181, 0, 34, 42]
abbrev dktX7_radiusSquare_4 : List UInt8 := dkwX7_radiusSquare_4 ++ dktX7_radiusSquare_5
def dkwX7_radiusSquare_3 : List UInt8 := [182, 0, 111, 133, 42, 28, 4, 21, 4, 120, 182, 0, 94, 105, 42, 28, 4, 21, 4, 120, 182, 0, 94, 105]
abbrev dktX7_radiusSquare_3 : List UInt8 := dkwX7_radiusSquare_3 ++ dktX7_radiusSquare_4
def dkwX7_radiusSquare_2 : List UInt8 := [182, 0, 63, 162, 0, 51, 42, 180, 0, 31, 3, 92, 47, 42, 4, 21, 4, 120, 4, 21, 4, 120]
abbrev dktX7_radiusSquare_2 : List UInt8 := dkwX7_radiusSquare_2 ++ dktX7_radiusSquare_3
def dkwX7_radiusSquare_1 : List UInt8 := [182, 0, 131, 154, 0, 9, 42, 6, 182, 0, 144, 172, 42, 182, 0, 105, 3, 54, 4, 21, 4, 42]
abbrev dktX7_radiusSquare_1 : List UInt8 := dkwX7_radiusSquare_1 ++ dktX7_radiusSquare_2
def dkwX7_radiusSquare_0 : List UInt8 := [42, 27, 28, 182, 0, 247, 62, 29, 158, 0, 9, 42, 29, 182, 0, 144, 172, 42, 16, 6, 28, 28, 16, 25]
abbrev dktX7_radiusSquare_0 : List UInt8 := dkwX7_radiusSquare_0 ++ dktX7_radiusSquare_1
theorem dksX7_radiusSquare_0 : cX7_radiusSquare.data.toList.drop 0 = dktX7_radiusSquare_0 := by decide +kernel
theorem dksX7_radiusSquare_1 : cX7_radiusSquare.data.toList.drop 24 = dktX7_radiusSquare_1 := dk_seg dksX7_radiusSquare_0 24 rfl rfl
theorem dksX7_radiusSquare_2 : cX7_radiusSquare.data.toList.drop 46 = dktX7_radiusSquare_2 := dk_seg dksX7_radiusSquare_1 22 rfl rfl
theorem dksX7_radiusSquare_3 : cX7_radiusSquare.data.toList.drop 68 = dktX7_radiusSquare_3 := dk_seg dksX7_radiusSquare_2 22 rfl rfl
theorem dksX7_radiusSquare_4 : cX7_radiusSquare.data.toList.drop 92 = dktX7_radiusSquare_4 := dk_seg dksX7_radiusSquare_3 24 rfl rfl
theorem dksX7_radiusSquare_5 : cX7_radiusSquare.data.toList.drop 116 = dktX7_radiusSquare_5 := dk_seg dksX7_radiusSquare_4 24 rfl rfl
theorem dX7_radiusSquare_0 : decode cX7_radiusSquare 0 = .ok (.aload_n 0, 1) := dk_42 (dk_at dksX7_radiusSquare_0 0 rfl rfl)
theorem dX7_radiusSquare_1 : decode cX7_radiusSquare 1 = .ok (.iload_n 1, 1) := dk_27 (dk_at dksX7_radiusSquare_0 1 rfl rfl)
theorem dX7_radiusSquare_2 : decode cX7_radiusSquare 2 = .ok (.iload_n 2, 1) := dk_28 (dk_at dksX7_radiusSquare_0 2 rfl rfl)
theorem dX7_radiusSquare_3 : decode cX7_radiusSquare 3 = .ok (.invokevirtual 247, 3) := dk_182 0 247 (dk_at dksX7_radiusSquare_0 3 rfl rfl)
theorem dX7_radiusSquare_6 : decode cX7_radiusSquare 6 = .ok (.istore_n 3, 1) := dk_62 (dk_at dksX7_radiusSquare_0 6 rfl rfl)
theorem dX7_radiusSquare_7 : decode cX7_radiusSquare 7 = .ok (.iload_n 3, 1) := dk_29 (dk_at dksX7_radiusSquare_0 7 rfl rfl)
theorem dX7_radiusSquare_8 : decode cX7_radiusSquare 8 = .ok (.ifCond .le 9, 3) := dk_158 0 9 (dk_at dksX7_radiusSquare_0 8 rfl rfl)
theorem dX7_radiusSquare_11 : decode cX7_radiusSquare 11 = .ok (.aload_n 0, 1) := dk_42 (dk_at dksX7_radiusSquare_0 11 rfl rfl)
theorem dX7_radiusSquare_12 : decode cX7_radiusSquare 12 = .ok (.iload_n 3, 1) := dk_29 (dk_at dksX7_radiusSquare_0 12 rfl rfl)
theorem dX7_radiusSquare_13 : decode cX7_radiusSquare 13 = .ok (.invokevirtual 144, 3) := dk_182 0 144 (dk_at dksX7_radiusSquare_0 13 rfl rfl)
theorem dX7_radiusSquare_16 : decode cX7_radiusSquare 16 = .ok (.ireturn, 1) := dk_172 (dk_at dksX7_radiusSquare_0 16 rfl rfl)
theorem dX7_radiusSquare_17 : decode cX7_radiusSquare 17 = .ok (.aload_n 0, 1) := dk_42 (dk_at dksX7_radiusSquare_0 17 rfl rfl)
theorem dX7_radiusSquare_18 : decode cX7_radiusSquare 18 = .ok (.bipush 6, 2) := dk_16 6 (dk_at dksX7_radiusSquare_0 18 rfl rfl)
theorem dX7_radiusSquare_20 : decode cX7_radiusSquare 20 = .ok (.iload_n 2, 1) := dk_28 (dk_at dksX7_radiusSquare_0 20 rfl rfl)
theorem dX7_radiusSquare_21 : decode cX7_radiusSquare 21 = .ok (.iload_n 2, 1) := dk_28 (dk_at dksX7_radiusSquare_0 21 rfl rfl)
theorem dX7_radiusSquare_22 : decode cX7_radiusSquare 22 = .ok (.bipush 25, 2) := dk_16 25 (dk_at dksX7_radiusSquare_0 22 rfl rfl)
theorem dX7_radiusSquare_24 : decode cX7_radiusSquare 24 = .ok (.invokevirtual 131, 3) := dk_182 0 131 (dk_at dksX7_radiusSquare_1 0 rfl rfl)
theorem dX7_radiusSquare_27 : decode cX7_radiusSquare 27 = .ok (.ifCond .ne 9, 3) := dk_154 0 9 (dk_at dksX7_radiusSquare_1 3 rfl rfl)
theorem dX7_radiusSquare_30 : decode cX7_radiusSquare 30 = .ok (.aload_n 0, 1) := dk_42 (dk_at dksX7_radiusSquare_1 6 rfl rfl)
theorem dX7_radiusSquare_31 : decode cX7_radiusSquare 31 = .ok (.iconst 3, 1) := dk_6 (dk_at dksX7_radiusSquare_1 7 rfl rfl)
theorem dX7_radiusSquare_32 : decode cX7_radiusSquare 32 = .ok (.invokevirtual 144, 3) := dk_182 0 144 (dk_at dksX7_radiusSquare_1 8 rfl rfl)
theorem dX7_radiusSquare_35 : decode cX7_radiusSquare 35 = .ok (.ireturn, 1) := dk_172 (dk_at dksX7_radiusSquare_1 11 rfl rfl)
theorem dX7_radiusSquare_36 : decode cX7_radiusSquare 36 = .ok (.aload_n 0, 1) := dk_42 (dk_at dksX7_radiusSquare_1 12 rfl rfl)
theorem dX7_radiusSquare_37 : decode cX7_radiusSquare 37 = .ok (.invokevirtual 105, 3) := dk_182 0 105 (dk_at dksX7_radiusSquare_1 13 rfl rfl)
theorem dX7_radiusSquare_40 : decode cX7_radiusSquare 40 = .ok (.iconst 0, 1) := dk_3 (dk_at dksX7_radiusSquare_1 16 rfl rfl)
theorem dX7_radiusSquare_41 : decode cX7_radiusSquare 41 = .ok (.istore 4, 2) := dk_54 4 (dk_at dksX7_radiusSquare_1 17 rfl rfl)
theorem dX7_radiusSquare_43 : decode cX7_radiusSquare 43 = .ok (.iload 4, 2) := dk_21 4 (dk_at dksX7_radiusSquare_1 19 rfl rfl)
theorem dX7_radiusSquare_45 : decode cX7_radiusSquare 45 = .ok (.aload_n 0, 1) := dk_42 (dk_at dksX7_radiusSquare_1 21 rfl rfl)
theorem dX7_radiusSquare_46 : decode cX7_radiusSquare 46 = .ok (.invokevirtual 63, 3) := dk_182 0 63 (dk_at dksX7_radiusSquare_2 0 rfl rfl)
theorem dX7_radiusSquare_49 : decode cX7_radiusSquare 49 = .ok (.if_icmp .ge 51, 3) := dk_162 0 51 (dk_at dksX7_radiusSquare_2 3 rfl rfl)
theorem dX7_radiusSquare_52 : decode cX7_radiusSquare 52 = .ok (.aload_n 0, 1) := dk_42 (dk_at dksX7_radiusSquare_2 6 rfl rfl)
theorem dX7_radiusSquare_53 : decode cX7_radiusSquare 53 = .ok (.getfield 31, 3) := dk_180 0 31 (dk_at dksX7_radiusSquare_2 7 rfl rfl)
theorem dX7_radiusSquare_56 : decode cX7_radiusSquare 56 = .ok (.iconst 0, 1) := dk_3 (dk_at dksX7_radiusSquare_2 10 rfl rfl)
theorem dX7_radiusSquare_57 : decode cX7_radiusSquare 57 = .ok (.dup2, 1) := dk_92 (dk_at dksX7_radiusSquare_2 11 rfl rfl)
theorem dX7_radiusSquare_58 : decode cX7_radiusSquare 58 = .ok (.laload, 1) := dk_47 (dk_at dksX7_radiusSquare_2 12 rfl rfl)
theorem dX7_radiusSquare_59 : decode cX7_radiusSquare 59 = .ok (.aload_n 0, 1) := dk_42 (dk_at dksX7_radiusSquare_2 13 rfl rfl)
theorem dX7_radiusSquare_60 : decode cX7_radiusSquare 60 = .ok (.iconst 1, 1) := dk_4 (dk_at dksX7_radiusSquare_2 14 rfl rfl)
theorem dX7_radiusSquare_61 : decode cX7_radiusSquare 61 = .ok (.iload 4, 2) := dk_21 4 (dk_at dksX7_radiusSquare_2 15 rfl rfl)
theorem dX7_radiusSquare_63 : decode cX7_radiusSquare 63 = .ok (.ishl, 1) := dk_120 (dk_at dksX7_radiusSquare_2 17 rfl rfl)
theorem dX7_radiusSquare_64 : decode cX7_radiusSquare 64 = .ok (.iconst 1, 1) := dk_4 (dk_at dksX7_radiusSquare_2 18 rfl rfl)
theorem dX7_radiusSquare_65 : decode cX7_radiusSquare 65 = .ok (.iload 4, 2) := dk_21 4 (dk_at dksX7_radiusSquare_2 19 rfl rfl)
theorem dX7_radiusSquare_67 : decode cX7_radiusSquare 67 = .ok (.ishl, 1) := dk_120 (dk_at dksX7_radiusSquare_2 21 rfl rfl)
theorem dX7_radiusSquare_68 : decode cX7_radiusSquare 68 = .ok (.invokevirtual 111, 3) := dk_182 0 111 (dk_at dksX7_radiusSquare_3 0 rfl rfl)
theorem dX7_radiusSquare_71 : decode cX7_radiusSquare 71 = .ok (.i2l, 1) := dk_133 (dk_at dksX7_radiusSquare_3 3 rfl rfl)
theorem dX7_radiusSquare_72 : decode cX7_radiusSquare 72 = .ok (.aload_n 0, 1) := dk_42 (dk_at dksX7_radiusSquare_3 4 rfl rfl)
theorem dX7_radiusSquare_73 : decode cX7_radiusSquare 73 = .ok (.iload_n 2, 1) := dk_28 (dk_at dksX7_radiusSquare_3 5 rfl rfl)
theorem dX7_radiusSquare_74 : decode cX7_radiusSquare 74 = .ok (.iconst 1, 1) := dk_4 (dk_at dksX7_radiusSquare_3 6 rfl rfl)
theorem dX7_radiusSquare_75 : decode cX7_radiusSquare 75 = .ok (.iload 4, 2) := dk_21 4 (dk_at dksX7_radiusSquare_3 7 rfl rfl)
theorem dX7_radiusSquare_77 : decode cX7_radiusSquare 77 = .ok (.ishl, 1) := dk_120 (dk_at dksX7_radiusSquare_3 9 rfl rfl)
theorem dX7_radiusSquare_78 : decode cX7_radiusSquare 78 = .ok (.invokevirtual 94, 3) := dk_182 0 94 (dk_at dksX7_radiusSquare_3 10 rfl rfl)
theorem dX7_radiusSquare_81 : decode cX7_radiusSquare 81 = .ok (.lmul, 1) := dk_105 (dk_at dksX7_radiusSquare_3 13 rfl rfl)
theorem dX7_radiusSquare_82 : decode cX7_radiusSquare 82 = .ok (.aload_n 0, 1) := dk_42 (dk_at dksX7_radiusSquare_3 14 rfl rfl)
theorem dX7_radiusSquare_83 : decode cX7_radiusSquare 83 = .ok (.iload_n 2, 1) := dk_28 (dk_at dksX7_radiusSquare_3 15 rfl rfl)
theorem dX7_radiusSquare_84 : decode cX7_radiusSquare 84 = .ok (.iconst 1, 1) := dk_4 (dk_at dksX7_radiusSquare_3 16 rfl rfl)
theorem dX7_radiusSquare_85 : decode cX7_radiusSquare 85 = .ok (.iload 4, 2) := dk_21 4 (dk_at dksX7_radiusSquare_3 17 rfl rfl)
theorem dX7_radiusSquare_87 : decode cX7_radiusSquare 87 = .ok (.ishl, 1) := dk_120 (dk_at dksX7_radiusSquare_3 19 rfl rfl)
theorem dX7_radiusSquare_88 : decode cX7_radiusSquare 88 = .ok (.invokevirtual 94, 3) := dk_182 0 94 (dk_at dksX7_radiusSquare_3 20 rfl rfl)
theorem dX7_radiusSquare_91 : decode cX7_radiusSquare 91 = .ok (.lmul, 1) := dk_105 (dk_at dksX7_radiusSquare_3 23 rfl rfl)
theorem dX7_radiusSquare_92 : decode cX7_radiusSquare 92 = .ok (.ladd, 1) := dk_97 (dk_at dksX7_radiusSquare_4 0 rfl rfl)
theorem dX7_radiusSquare_93 : decode cX7_radiusSquare 93 = .ok (.lastore, 1) := dk_80 (dk_at dksX7_radiusSquare_4 1 rfl rfl)
theorem dX7_radiusSquare_94 : decode cX7_radiusSquare 94 = .ok (.iinc 4 1, 3) := dk_132 4 1 (dk_at dksX7_radiusSquare_4 2 rfl rfl)
theorem dX7_radiusSquare_97 : decode cX7_radiusSquare 97 = .ok (.goto (-54), 3) := dk_167 255 202 (dk_at dksX7_radiusSquare_4 5 rfl rfl)
theorem dX7_radiusSquare_100 : decode cX7_radiusSquare 100 = .ok (.aload_n 0, 1) := dk_42 (dk_at dksX7_radiusSquare_4 8 rfl rfl)
theorem dX7_radiusSquare_101 : decode cX7_radiusSquare 101 = .ok (.aload_n 0, 1) := dk_42 (dk_at dksX7_radiusSquare_4 9 rfl rfl)
theorem dX7_radiusSquare_102 : decode cX7_radiusSquare 102 = .ok (.iload_n 2, 1) := dk_28 (dk_at dksX7_radiusSquare_4 10 rfl rfl)
theorem dX7_radiusSquare_103 : decode cX7_radiusSquare 103 = .ok (.invokevirtual 244, 3) := dk_182 0 244 (dk_at dksX7_radiusSquare_4 11 rfl rfl)
theorem dX7_radiusSquare_106 : decode cX7_radiusSquare 106 = .ok (.aload_n 0, 1) := dk_42 (dk_at dksX7_radiusSquare_4 14 rfl rfl)
theorem dX7_radiusSquare_107 : decode cX7_radiusSquare 107 = .ok (.iload_n 2, 1) := dk_28 (dk_at dksX7_radiusSquare_4 15 rfl rfl)
theorem dX7_radiusSquare_108 : decode cX7_radiusSquare 108 = .ok (.invokevirtual 244, 3) := dk_182 0 244 (dk_at dksX7_radiusSquare_4 16 rfl rfl)
theorem dX7_radiusSquare_111 : decode cX7_radiusSquare 111 = .ok (.lmul, 1) := dk_105 (dk_at dksX7_radiusSquare_4 19 rfl rfl)
theorem dX7_radiusSquare_112 : decode cX7_radiusSquare 112 = .ok (.putfield 34, 3) := dk_181 0 34 (dk_at dksX7_radiusSquare_4 20 rfl rfl)
theorem dX7_radiusSquare_115 : decode cX7_radiusSquare 115 = .ok (.aload_n 0, 1) := dk_42 (dk_at dksX7_radiusSquare_4 23 rfl rfl)
theorem dX7_radiusSquare_116 : decode cX7_radiusSquare 116 = .ok (.bipush 24, 2) := dk_16 24 (dk_at dksX7_radiusSquare_5 0 rfl rfl)
theorem dX7_radiusSquare_118 : decode cX7_radiusSquare 118 = .ok (.invokevirtual 118, 3) := dk_182 0 118 (dk_at dksX7_radiusSquare_5 2 rfl rfl)
theorem dX7_radiusSquare_121 : decode cX7_radiusSquare 121 = .ok (.ifCond .eq 13, 3) := dk_153 0 13 (dk_at dksX7_radiusSquare_5 5 rfl rfl)
theorem dX7_radiusSquare_124 : decode cX7_radiusSquare 124 = .ok (.aload_n 0, 1) := dk_42 (dk_at dksX7_radiusSquare_5 8 rfl rfl)
theorem dX7_radiusSquare_125 : decode cX7_radiusSquare 125 = .ok (.bipush 24, 2) := dk_16 24 (dk_at dksX7_radiusSquare_5 9 rfl rfl)
theorem dX7_radiusSquare_127 : decode cX7_radiusSquare 127 = .ok (.iload_n 1, 1) := dk_27 (dk_at dksX7_radiusSquare_5 11 rfl rfl)
theorem dX7_radiusSquare_128 : decode cX7_radiusSquare 128 = .ok (.invokevirtual 153, 3) := dk_182 0 153 (dk_at dksX7_radiusSquare_5 12 rfl rfl)
theorem dX7_radiusSquare_131 : decode cX7_radiusSquare 131 = .ok (.goto 8, 3) := dk_167 0 8 (dk_at dksX7_radiusSquare_5 15 rfl rfl)
theorem dX7_radiusSquare_134 : decode cX7_radiusSquare 134 = .ok (.aload_n 0, 1) := dk_42 (dk_at dksX7_radiusSquare_5 18 rfl rfl)
theorem dX7_radiusSquare_135 : decode cX7_radiusSquare 135 = .ok (.iconst 3, 1) := dk_6 (dk_at dksX7_radiusSquare_5 19 rfl rfl)
theorem dX7_radiusSquare_136 : decode cX7_radiusSquare 136 = .ok (.invokevirtual 144, 3) := dk_182 0 144 (dk_at dksX7_radiusSquare_5 20 rfl rfl)
theorem dX7_radiusSquare_139 : decode cX7_radiusSquare 139 = .ok (.ireturn, 1) := dk_172 (dk_at dksX7_radiusSquare_5 23 rfl rfl)
abbrev cX7_appendText : ByteArray := prog_42_method_85_code
def yX7_appendText : MethodName := ⟨RX7, "appendText", "(I)I"⟩
def dkwX7_appendText_3 : List UInt8 := [172]
abbrev dktX7_appendText_3 : List UInt8 := dkwX7_appendText_3 ++ []
def dkwX7_appendText_2 : List UInt8 := [28, 122, 145, 84, 42, 89, 180, 0, 250, 4, 96, 181, 0, 250, 132, 2, 248, 167, 255, 226, 42, 180, 0, 250]
abbrev dktX7_appendText_2 : List UInt8 := dkwX7_appendText_2 ++ dktX7_appendText_3
def dkwX7_appendText_1 : List UInt8 := [180, 0, 54, 158, 0, 5, 3, 172, 16, 24, 61, 28, 155, 0, 32, 42, 180, 0, 38, 42, 180, 0, 250, 27]
abbrev dktX7_appendText_1 : List UInt8 := dkwX7_appendText_1 ++ dktX7_appendText_2
def dkwX7_appendText_0 : List UInt8 := [42, 42, 180, 0, 250, 7, 96, 17, 0, 200, 163, 0, 7, 3, 167, 0, 4, 4, 181, 0, 54, 42]
abbrev dktX7_appendText_0 : List UInt8 := dkwX7_appendText_0 ++ dktX7_appendText_1
theorem dksX7_appendText_0 : cX7_appendText.data.toList.drop 0 = dktX7_appendText_0 := by decide +kernel
theorem dksX7_appendText_1 : cX7_appendText.data.toList.drop 22 = dktX7_appendText_1 := dk_seg dksX7_appendText_0 22 rfl rfl
theorem dksX7_appendText_2 : cX7_appendText.data.toList.drop 46 = dktX7_appendText_2 := dk_seg dksX7_appendText_1 24 rfl rfl
theorem dksX7_appendText_3 : cX7_appendText.data.toList.drop 70 = dktX7_appendText_3 := dk_seg dksX7_appendText_2 24 rfl rfl
theorem dX7_appendText_0 : decode cX7_appendText 0 = .ok (.aload_n 0, 1) := dk_42 (dk_at dksX7_appendText_0 0 rfl rfl)
theorem dX7_appendText_1 : decode cX7_appendText 1 = .ok (.aload_n 0, 1) := dk_42 (dk_at dksX7_appendText_0 1 rfl rfl)
theorem dX7_appendText_2 : decode cX7_appendText 2 = .ok (.getfield 250, 3) := dk_180 0 250 (dk_at dksX7_appendText_0 2 rfl rfl)
theorem dX7_appendText_5 : decode cX7_appendText 5 = .ok (.iconst 4, 1) := dk_7 (dk_at dksX7_appendText_0 5 rfl rfl)
theorem dX7_appendText_6 : decode cX7_appendText 6 = .ok (.iadd, 1) := dk_96 (dk_at dksX7_appendText_0 6 rfl rfl)
theorem dX7_appendText_7 : decode cX7_appendText 7 = .ok (.sipush 200, 3) := dk_17 0 200 (dk_at dksX7_appendText_0 7 rfl rfl)
theorem dX7_appendText_10 : decode cX7_appendText 10 = .ok (.if_icmp .gt 7, 3) := dk_163 0 7 (dk_at dksX7_appendText_0 10 rfl rfl)
theorem dX7_appendText_13 : decode cX7_appendText 13 = .ok (.iconst 0, 1) := dk_3 (dk_at dksX7_appendText_0 13 rfl rfl)
theorem dX7_appendText_14 : decode cX7_appendText 14 = .ok (.goto 4, 3) := dk_167 0 4 (dk_at dksX7_appendText_0 14 rfl rfl)
theorem dX7_appendText_17 : decode cX7_appendText 17 = .ok (.iconst 1, 1) := dk_4 (dk_at dksX7_appendText_0 17 rfl rfl)
theorem dX7_appendText_18 : decode cX7_appendText 18 = .ok (.putfield 54, 3) := dk_181 0 54 (dk_at dksX7_appendText_0 18 rfl rfl)
theorem dX7_appendText_21 : decode cX7_appendText 21 = .ok (.aload_n 0, 1) := dk_42 (dk_at dksX7_appendText_0 21 rfl rfl)
theorem dX7_appendText_22 : decode cX7_appendText 22 = .ok (.getfield 54, 3) := dk_180 0 54 (dk_at dksX7_appendText_1 0 rfl rfl)
theorem dX7_appendText_25 : decode cX7_appendText 25 = .ok (.ifCond .le 5, 3) := dk_158 0 5 (dk_at dksX7_appendText_1 3 rfl rfl)
theorem dX7_appendText_28 : decode cX7_appendText 28 = .ok (.iconst 0, 1) := dk_3 (dk_at dksX7_appendText_1 6 rfl rfl)
theorem dX7_appendText_29 : decode cX7_appendText 29 = .ok (.ireturn, 1) := dk_172 (dk_at dksX7_appendText_1 7 rfl rfl)
theorem dX7_appendText_30 : decode cX7_appendText 30 = .ok (.bipush 24, 2) := dk_16 24 (dk_at dksX7_appendText_1 8 rfl rfl)
theorem dX7_appendText_32 : decode cX7_appendText 32 = .ok (.istore_n 2, 1) := dk_61 (dk_at dksX7_appendText_1 10 rfl rfl)
theorem dX7_appendText_33 : decode cX7_appendText 33 = .ok (.iload_n 2, 1) := dk_28 (dk_at dksX7_appendText_1 11 rfl rfl)
theorem dX7_appendText_34 : decode cX7_appendText 34 = .ok (.ifCond .lt 32, 3) := dk_155 0 32 (dk_at dksX7_appendText_1 12 rfl rfl)
theorem dX7_appendText_37 : decode cX7_appendText 37 = .ok (.aload_n 0, 1) := dk_42 (dk_at dksX7_appendText_1 15 rfl rfl)
theorem dX7_appendText_38 : decode cX7_appendText 38 = .ok (.getfield 38, 3) := dk_180 0 38 (dk_at dksX7_appendText_1 16 rfl rfl)
theorem dX7_appendText_41 : decode cX7_appendText 41 = .ok (.aload_n 0, 1) := dk_42 (dk_at dksX7_appendText_1 19 rfl rfl)
theorem dX7_appendText_42 : decode cX7_appendText 42 = .ok (.getfield 250, 3) := dk_180 0 250 (dk_at dksX7_appendText_1 20 rfl rfl)
theorem dX7_appendText_45 : decode cX7_appendText 45 = .ok (.iload_n 1, 1) := dk_27 (dk_at dksX7_appendText_1 23 rfl rfl)
theorem dX7_appendText_46 : decode cX7_appendText 46 = .ok (.iload_n 2, 1) := dk_28 (dk_at dksX7_appendText_2 0 rfl rfl)
theorem dX7_appendText_47 : decode cX7_appendText 47 = .ok (.ishr, 1) := dk_122 (dk_at dksX7_appendText_2 1 rfl rfl)
theorem dX7_appendText_48 : decode cX7_appendText 48 = .ok (.i2b, 1) := dk_145 (dk_at dksX7_appendText_2 2 rfl rfl)
theorem dX7_appendText_49 : decode cX7_appendText 49 = .ok (.bastore, 1) := dk_84 (dk_at dksX7_appendText_2 3 rfl rfl)
theorem dX7_appendText_50 : decode cX7_appendText 50 = .ok (.aload_n 0, 1) := dk_42 (dk_at dksX7_appendText_2 4 rfl rfl)
theorem dX7_appendText_51 : decode cX7_appendText 51 = .ok (.dup, 1) := dk_89 (dk_at dksX7_appendText_2 5 rfl rfl)
theorem dX7_appendText_52 : decode cX7_appendText 52 = .ok (.getfield 250, 3) := dk_180 0 250 (dk_at dksX7_appendText_2 6 rfl rfl)
theorem dX7_appendText_55 : decode cX7_appendText 55 = .ok (.iconst 1, 1) := dk_4 (dk_at dksX7_appendText_2 9 rfl rfl)
theorem dX7_appendText_56 : decode cX7_appendText 56 = .ok (.iadd, 1) := dk_96 (dk_at dksX7_appendText_2 10 rfl rfl)
theorem dX7_appendText_57 : decode cX7_appendText 57 = .ok (.putfield 250, 3) := dk_181 0 250 (dk_at dksX7_appendText_2 11 rfl rfl)
theorem dX7_appendText_60 : decode cX7_appendText 60 = .ok (.iinc 2 (-8), 3) := dk_132 2 248 (dk_at dksX7_appendText_2 14 rfl rfl)
theorem dX7_appendText_63 : decode cX7_appendText 63 = .ok (.goto (-30), 3) := dk_167 255 226 (dk_at dksX7_appendText_2 17 rfl rfl)
theorem dX7_appendText_66 : decode cX7_appendText 66 = .ok (.aload_n 0, 1) := dk_42 (dk_at dksX7_appendText_2 20 rfl rfl)
theorem dX7_appendText_67 : decode cX7_appendText 67 = .ok (.getfield 250, 3) := dk_180 0 250 (dk_at dksX7_appendText_2 21 rfl rfl)
theorem dX7_appendText_70 : decode cX7_appendText 70 = .ok (.ireturn, 1) := dk_172 (dk_at dksX7_appendText_3 0 rfl rfl)
abbrev cX7_truncateText : ByteArray := prog_42_method_86_code
def yX7_truncateText : MethodName := ⟨RX7, "truncateText", "(I)I"⟩
def dkwX7_truncateText_1 : List UInt8 := [180, 0, 54, 158, 0, 5, 3, 172, 42, 27, 181, 0, 250, 42, 180, 0, 250, 172]
abbrev dktX7_truncateText_1 : List UInt8 := dkwX7_truncateText_1 ++ []
def dkwX7_truncateText_0 : List UInt8 := [42, 27, 3, 42, 180, 0, 250, 184, 0, 67, 153, 0, 7, 3, 167, 0, 4, 4, 181, 0, 54, 42]
abbrev dktX7_truncateText_0 : List UInt8 := dkwX7_truncateText_0 ++ dktX7_truncateText_1
theorem dksX7_truncateText_0 : cX7_truncateText.data.toList.drop 0 = dktX7_truncateText_0 := by decide +kernel
theorem dksX7_truncateText_1 : cX7_truncateText.data.toList.drop 22 = dktX7_truncateText_1 := dk_seg dksX7_truncateText_0 22 rfl rfl
theorem dX7_truncateText_0 : decode cX7_truncateText 0 = .ok (.aload_n 0, 1) := dk_42 (dk_at dksX7_truncateText_0 0 rfl rfl)
theorem dX7_truncateText_1 : decode cX7_truncateText 1 = .ok (.iload_n 1, 1) := dk_27 (dk_at dksX7_truncateText_0 1 rfl rfl)
theorem dX7_truncateText_2 : decode cX7_truncateText 2 = .ok (.iconst 0, 1) := dk_3 (dk_at dksX7_truncateText_0 2 rfl rfl)
theorem dX7_truncateText_3 : decode cX7_truncateText 3 = .ok (.aload_n 0, 1) := dk_42 (dk_at dksX7_truncateText_0 3 rfl rfl)
theorem dX7_truncateText_4 : decode cX7_truncateText 4 = .ok (.getfield 250, 3) := dk_180 0 250 (dk_at dksX7_truncateText_0 4 rfl rfl)
theorem dX7_truncateText_7 : decode cX7_truncateText 7 = .ok (.invokestatic 67, 3) := dk_184 0 67 (dk_at dksX7_truncateText_0 7 rfl rfl)
theorem dX7_truncateText_10 : decode cX7_truncateText 10 = .ok (.ifCond .eq 7, 3) := dk_153 0 7 (dk_at dksX7_truncateText_0 10 rfl rfl)
theorem dX7_truncateText_13 : decode cX7_truncateText 13 = .ok (.iconst 0, 1) := dk_3 (dk_at dksX7_truncateText_0 13 rfl rfl)
theorem dX7_truncateText_14 : decode cX7_truncateText 14 = .ok (.goto 4, 3) := dk_167 0 4 (dk_at dksX7_truncateText_0 14 rfl rfl)
theorem dX7_truncateText_17 : decode cX7_truncateText 17 = .ok (.iconst 1, 1) := dk_4 (dk_at dksX7_truncateText_0 17 rfl rfl)
theorem dX7_truncateText_18 : decode cX7_truncateText 18 = .ok (.putfield 54, 3) := dk_181 0 54 (dk_at dksX7_truncateText_0 18 rfl rfl)
theorem dX7_truncateText_21 : decode cX7_truncateText 21 = .ok (.aload_n 0, 1) := dk_42 (dk_at dksX7_truncateText_0 21 rfl rfl)
theorem dX7_truncateText_22 : decode cX7_truncateText 22 = .ok (.getfield 54, 3) := dk_180 0 54 (dk_at dksX7_truncateText_1 0 rfl rfl)
theorem dX7_truncateText_25 : decode cX7_truncateText 25 = .ok (.ifCond .le 5, 3) := dk_158 0 5 (dk_at dksX7_truncateText_1 3 rfl rfl)
theorem dX7_truncateText_28 : decode cX7_truncateText 28 = .ok (.iconst 0, 1) := dk_3 (dk_at dksX7_truncateText_1 6 rfl rfl)
theorem dX7_truncateText_29 : decode cX7_truncateText 29 = .ok (.ireturn, 1) := dk_172 (dk_at dksX7_truncateText_1 7 rfl rfl)
theorem dX7_truncateText_30 : decode cX7_truncateText 30 = .ok (.aload_n 0, 1) := dk_42 (dk_at dksX7_truncateText_1 8 rfl rfl)
theorem dX7_truncateText_31 : decode cX7_truncateText 31 = .ok (.iload_n 1, 1) := dk_27 (dk_at dksX7_truncateText_1 9 rfl rfl)
theorem dX7_truncateText_32 : decode cX7_truncateText 32 = .ok (.putfield 250, 3) := dk_181 0 250 (dk_at dksX7_truncateText_1 10 rfl rfl)
theorem dX7_truncateText_35 : decode cX7_truncateText 35 = .ok (.aload_n 0, 1) := dk_42 (dk_at dksX7_truncateText_1 13 rfl rfl)
theorem dX7_truncateText_36 : decode cX7_truncateText 36 = .ok (.getfield 250, 3) := dk_180 0 250 (dk_at dksX7_truncateText_1 14 rfl rfl)
theorem dX7_truncateText_39 : decode cX7_truncateText 39 = .ok (.ireturn, 1) := dk_172 (dk_at dksX7_truncateText_1 17 rfl rfl)
abbrev cX7_evaluate : ByteArray := prog_42_method_104_code
def yX7_evaluate : MethodName := ⟨RX7, "evaluate", "(I)I"⟩
def dkwX7_evaluate_2 : List UInt8 := [27, 182, 0, 153, 172]
abbrev dktX7_evaluate_2 : List UInt8 := dkwX7_evaluate_2 ++ []
def dkwX7_evaluate_1 : List UInt8 := [172, 42, 182, 1, 73, 42, 3, 181, 0, 250, 42, 180, 1, 3, 158, 0, 7, 2, 167, 0, 10, 42, 16, 32]
abbrev dktX7_evaluate_1 : List UInt8 := dkwX7_evaluate_1 ++ dktX7_evaluate_2
def dkwX7_evaluate_0 : List UInt8 := [42, 27, 184, 0, 147, 153, 0, 7, 3, 167, 0, 4, 4, 181, 0, 54, 42, 180, 0, 54, 158, 0, 5, 3]
abbrev dktX7_evaluate_0 : List UInt8 := dkwX7_evaluate_0 ++ dktX7_evaluate_1
theorem dksX7_evaluate_0 : cX7_evaluate.data.toList.drop 0 = dktX7_evaluate_0 := by decide +kernel
theorem dksX7_evaluate_1 : cX7_evaluate.data.toList.drop 24 = dktX7_evaluate_1 := dk_seg dksX7_evaluate_0 24 rfl rfl
theorem dksX7_evaluate_2 : cX7_evaluate.data.toList.drop 48 = dktX7_evaluate_2 := dk_seg dksX7_evaluate_1 24 rfl rfl
theorem dX7_evaluate_0 : decode cX7_evaluate 0 = .ok (.aload_n 0, 1) := dk_42 (dk_at dksX7_evaluate_0 0 rfl rfl)
theorem dX7_evaluate_1 : decode cX7_evaluate 1 = .ok (.iload_n 1, 1) := dk_27 (dk_at dksX7_evaluate_0 1 rfl rfl)
theorem dX7_evaluate_2 : decode cX7_evaluate 2 = .ok (.invokestatic 147, 3) := dk_184 0 147 (dk_at dksX7_evaluate_0 2 rfl rfl)
theorem dX7_evaluate_5 : decode cX7_evaluate 5 = .ok (.ifCond .eq 7, 3) := dk_153 0 7 (dk_at dksX7_evaluate_0 5 rfl rfl)
theorem dX7_evaluate_8 : decode cX7_evaluate 8 = .ok (.iconst 0, 1) := dk_3 (dk_at dksX7_evaluate_0 8 rfl rfl)
theorem dX7_evaluate_9 : decode cX7_evaluate 9 = .ok (.goto 4, 3) := dk_167 0 4 (dk_at dksX7_evaluate_0 9 rfl rfl)
theorem dX7_evaluate_12 : decode cX7_evaluate 12 = .ok (.iconst 1, 1) := dk_4 (dk_at dksX7_evaluate_0 12 rfl rfl)
theorem dX7_evaluate_13 : decode cX7_evaluate 13 = .ok (.putfield 54, 3) := dk_181 0 54 (dk_at dksX7_evaluate_0 13 rfl rfl)
theorem dX7_evaluate_16 : decode cX7_evaluate 16 = .ok (.aload_n 0, 1) := dk_42 (dk_at dksX7_evaluate_0 16 rfl rfl)
theorem dX7_evaluate_17 : decode cX7_evaluate 17 = .ok (.getfield 54, 3) := dk_180 0 54 (dk_at dksX7_evaluate_0 17 rfl rfl)
theorem dX7_evaluate_20 : decode cX7_evaluate 20 = .ok (.ifCond .le 5, 3) := dk_158 0 5 (dk_at dksX7_evaluate_0 20 rfl rfl)
theorem dX7_evaluate_23 : decode cX7_evaluate 23 = .ok (.iconst 0, 1) := dk_3 (dk_at dksX7_evaluate_0 23 rfl rfl)
theorem dX7_evaluate_24 : decode cX7_evaluate 24 = .ok (.ireturn, 1) := dk_172 (dk_at dksX7_evaluate_1 0 rfl rfl)
theorem dX7_evaluate_25 : decode cX7_evaluate 25 = .ok (.aload_n 0, 1) := dk_42 (dk_at dksX7_evaluate_1 1 rfl rfl)
theorem dX7_evaluate_26 : decode cX7_evaluate 26 = .ok (.invokevirtual 329, 3) := dk_182 1 73 (dk_at dksX7_evaluate_1 2 rfl rfl)
theorem dX7_evaluate_29 : decode cX7_evaluate 29 = .ok (.aload_n 0, 1) := dk_42 (dk_at dksX7_evaluate_1 5 rfl rfl)
theorem dX7_evaluate_30 : decode cX7_evaluate 30 = .ok (.iconst 0, 1) := dk_3 (dk_at dksX7_evaluate_1 6 rfl rfl)
theorem dX7_evaluate_31 : decode cX7_evaluate 31 = .ok (.putfield 250, 3) := dk_181 0 250 (dk_at dksX7_evaluate_1 7 rfl rfl)
theorem dX7_evaluate_34 : decode cX7_evaluate 34 = .ok (.aload_n 0, 1) := dk_42 (dk_at dksX7_evaluate_1 10 rfl rfl)
theorem dX7_evaluate_35 : decode cX7_evaluate 35 = .ok (.getfield 259, 3) := dk_180 1 3 (dk_at dksX7_evaluate_1 11 rfl rfl)
theorem dX7_evaluate_38 : decode cX7_evaluate 38 = .ok (.ifCond .le 7, 3) := dk_158 0 7 (dk_at dksX7_evaluate_1 14 rfl rfl)
theorem dX7_evaluate_41 : decode cX7_evaluate 41 = .ok (.iconst (-1), 1) := dk_2 (dk_at dksX7_evaluate_1 17 rfl rfl)
theorem dX7_evaluate_42 : decode cX7_evaluate 42 = .ok (.goto 10, 3) := dk_167 0 10 (dk_at dksX7_evaluate_1 18 rfl rfl)
theorem dX7_evaluate_45 : decode cX7_evaluate 45 = .ok (.aload_n 0, 1) := dk_42 (dk_at dksX7_evaluate_1 21 rfl rfl)
theorem dX7_evaluate_46 : decode cX7_evaluate 46 = .ok (.bipush 32, 2) := dk_16 32 (dk_at dksX7_evaluate_1 22 rfl rfl)
theorem dX7_evaluate_48 : decode cX7_evaluate 48 = .ok (.iload_n 1, 1) := dk_27 (dk_at dksX7_evaluate_2 0 rfl rfl)
theorem dX7_evaluate_49 : decode cX7_evaluate 49 = .ok (.invokevirtual 153, 3) := dk_182 0 153 (dk_at dksX7_evaluate_2 1 rfl rfl)
theorem dX7_evaluate_52 : decode cX7_evaluate 52 = .ok (.ireturn, 1) := dk_172 (dk_at dksX7_evaluate_2 4 rfl rfl)
abbrev cX7_computes : ByteArray := prog_42_method_103_code
def yX7_computes : MethodName := ⟨RX7, "computes", "()V"⟩
def dkwX7_computes_4 : List UInt8 := [180, 1, 31, 182, 1, 9, 177]
abbrev dktX7_computes_4 : List UInt8 := dkwX7_computes_4 ++ []
def dkwX7_computes_3 : List UInt8 := [167, 255, 234, 42, 182, 1, 70, 60, 167, 255, 226, 42, 180, 1, 31, 2, 159, 0, 12, 42, 6, 42]
abbrev dktX7_computes_3 : List UInt8 := dkwX7_computes_3 ++ dktX7_computes_4
def dkwX7_computes_2 : List UInt8 := [60, 27, 153, 0, 32, 42, 180, 1, 3, 154, 0, 25, 42, 180, 1, 22, 153, 0, 10, 42, 182, 1, 67]
abbrev dktX7_computes_2 : List UInt8 := dkwX7_computes_2 ++ dktX7_computes_3
def dkwX7_computes_1 : List UInt8 := [181, 1, 28, 42, 3, 181, 1, 40, 42, 2, 181, 1, 31, 42, 4, 181, 1, 22, 42, 4, 181, 1, 46, 4]
abbrev dktX7_computes_1 : List UInt8 := dkwX7_computes_1 ++ dktX7_computes_2
def dkwX7_computes_0 : List UInt8 := [42, 3, 181, 0, 253, 42, 3, 181, 1, 3, 42, 2, 181, 0, 42, 42, 3, 181, 1, 12, 42, 3]
abbrev dktX7_computes_0 : List UInt8 := dkwX7_computes_0 ++ dktX7_computes_1
theorem dksX7_computes_0 : cX7_computes.data.toList.drop 0 = dktX7_computes_0 := by decide +kernel
theorem dksX7_computes_1 : cX7_computes.data.toList.drop 22 = dktX7_computes_1 := dk_seg dksX7_computes_0 22 rfl rfl
theorem dksX7_computes_2 : cX7_computes.data.toList.drop 46 = dktX7_computes_2 := dk_seg dksX7_computes_1 24 rfl rfl
theorem dksX7_computes_3 : cX7_computes.data.toList.drop 69 = dktX7_computes_3 := dk_seg dksX7_computes_2 23 rfl rfl
theorem dksX7_computes_4 : cX7_computes.data.toList.drop 91 = dktX7_computes_4 := dk_seg dksX7_computes_3 22 rfl rfl
theorem dX7_computes_0 : decode cX7_computes 0 = .ok (.aload_n 0, 1) := dk_42 (dk_at dksX7_computes_0 0 rfl rfl)
theorem dX7_computes_1 : decode cX7_computes 1 = .ok (.iconst 0, 1) := dk_3 (dk_at dksX7_computes_0 1 rfl rfl)
theorem dX7_computes_2 : decode cX7_computes 2 = .ok (.putfield 253, 3) := dk_181 0 253 (dk_at dksX7_computes_0 2 rfl rfl)
theorem dX7_computes_5 : decode cX7_computes 5 = .ok (.aload_n 0, 1) := dk_42 (dk_at dksX7_computes_0 5 rfl rfl)
theorem dX7_computes_6 : decode cX7_computes 6 = .ok (.iconst 0, 1) := dk_3 (dk_at dksX7_computes_0 6 rfl rfl)
theorem dX7_computes_7 : decode cX7_computes 7 = .ok (.putfield 259, 3) := dk_181 1 3 (dk_at dksX7_computes_0 7 rfl rfl)
theorem dX7_computes_10 : decode cX7_computes 10 = .ok (.aload_n 0, 1) := dk_42 (dk_at dksX7_computes_0 10 rfl rfl)
theorem dX7_computes_11 : decode cX7_computes 11 = .ok (.iconst (-1), 1) := dk_2 (dk_at dksX7_computes_0 11 rfl rfl)
theorem dX7_computes_12 : decode cX7_computes 12 = .ok (.putfield 42, 3) := dk_181 0 42 (dk_at dksX7_computes_0 12 rfl rfl)
theorem dX7_computes_15 : decode cX7_computes 15 = .ok (.aload_n 0, 1) := dk_42 (dk_at dksX7_computes_0 15 rfl rfl)
theorem dX7_computes_16 : decode cX7_computes 16 = .ok (.iconst 0, 1) := dk_3 (dk_at dksX7_computes_0 16 rfl rfl)
theorem dX7_computes_17 : decode cX7_computes 17 = .ok (.putfield 268, 3) := dk_181 1 12 (dk_at dksX7_computes_0 17 rfl rfl)
theorem dX7_computes_20 : decode cX7_computes 20 = .ok (.aload_n 0, 1) := dk_42 (dk_at dksX7_computes_0 20 rfl rfl)
theorem dX7_computes_21 : decode cX7_computes 21 = .ok (.iconst 0, 1) := dk_3 (dk_at dksX7_computes_0 21 rfl rfl)
theorem dX7_computes_22 : decode cX7_computes 22 = .ok (.putfield 284, 3) := dk_181 1 28 (dk_at dksX7_computes_1 0 rfl rfl)
theorem dX7_computes_25 : decode cX7_computes 25 = .ok (.aload_n 0, 1) := dk_42 (dk_at dksX7_computes_1 3 rfl rfl)
theorem dX7_computes_26 : decode cX7_computes 26 = .ok (.iconst 0, 1) := dk_3 (dk_at dksX7_computes_1 4 rfl rfl)
theorem dX7_computes_27 : decode cX7_computes 27 = .ok (.putfield 296, 3) := dk_181 1 40 (dk_at dksX7_computes_1 5 rfl rfl)
theorem dX7_computes_30 : decode cX7_computes 30 = .ok (.aload_n 0, 1) := dk_42 (dk_at dksX7_computes_1 8 rfl rfl)
theorem dX7_computes_31 : decode cX7_computes 31 = .ok (.iconst (-1), 1) := dk_2 (dk_at dksX7_computes_1 9 rfl rfl)
theorem dX7_computes_32 : decode cX7_computes 32 = .ok (.putfield 287, 3) := dk_181 1 31 (dk_at dksX7_computes_1 10 rfl rfl)
theorem dX7_computes_35 : decode cX7_computes 35 = .ok (.aload_n 0, 1) := dk_42 (dk_at dksX7_computes_1 13 rfl rfl)
theorem dX7_computes_36 : decode cX7_computes 36 = .ok (.iconst 1, 1) := dk_4 (dk_at dksX7_computes_1 14 rfl rfl)
theorem dX7_computes_37 : decode cX7_computes 37 = .ok (.putfield 278, 3) := dk_181 1 22 (dk_at dksX7_computes_1 15 rfl rfl)
theorem dX7_computes_40 : decode cX7_computes 40 = .ok (.aload_n 0, 1) := dk_42 (dk_at dksX7_computes_1 18 rfl rfl)
theorem dX7_computes_41 : decode cX7_computes 41 = .ok (.iconst 1, 1) := dk_4 (dk_at dksX7_computes_1 19 rfl rfl)
theorem dX7_computes_42 : decode cX7_computes 42 = .ok (.putfield 302, 3) := dk_181 1 46 (dk_at dksX7_computes_1 20 rfl rfl)
theorem dX7_computes_45 : decode cX7_computes 45 = .ok (.iconst 1, 1) := dk_4 (dk_at dksX7_computes_1 23 rfl rfl)
theorem dX7_computes_46 : decode cX7_computes 46 = .ok (.istore_n 1, 1) := dk_60 (dk_at dksX7_computes_2 0 rfl rfl)
theorem dX7_computes_47 : decode cX7_computes 47 = .ok (.iload_n 1, 1) := dk_27 (dk_at dksX7_computes_2 1 rfl rfl)
theorem dX7_computes_48 : decode cX7_computes 48 = .ok (.ifCond .eq 32, 3) := dk_153 0 32 (dk_at dksX7_computes_2 2 rfl rfl)
theorem dX7_computes_51 : decode cX7_computes 51 = .ok (.aload_n 0, 1) := dk_42 (dk_at dksX7_computes_2 5 rfl rfl)
theorem dX7_computes_52 : decode cX7_computes 52 = .ok (.getfield 259, 3) := dk_180 1 3 (dk_at dksX7_computes_2 6 rfl rfl)
theorem dX7_computes_55 : decode cX7_computes 55 = .ok (.ifCond .ne 25, 3) := dk_154 0 25 (dk_at dksX7_computes_2 9 rfl rfl)
theorem dX7_computes_58 : decode cX7_computes 58 = .ok (.aload_n 0, 1) := dk_42 (dk_at dksX7_computes_2 12 rfl rfl)
theorem dX7_computes_59 : decode cX7_computes 59 = .ok (.getfield 278, 3) := dk_180 1 22 (dk_at dksX7_computes_2 13 rfl rfl)
theorem dX7_computes_62 : decode cX7_computes 62 = .ok (.ifCond .eq 10, 3) := dk_153 0 10 (dk_at dksX7_computes_2 16 rfl rfl)
theorem dX7_computes_65 : decode cX7_computes 65 = .ok (.aload_n 0, 1) := dk_42 (dk_at dksX7_computes_2 19 rfl rfl)
theorem dX7_computes_66 : decode cX7_computes 66 = .ok (.invokevirtual 323, 3) := dk_182 1 67 (dk_at dksX7_computes_2 20 rfl rfl)
theorem dX7_computes_69 : decode cX7_computes 69 = .ok (.goto (-22), 3) := dk_167 255 234 (dk_at dksX7_computes_3 0 rfl rfl)
theorem dX7_computes_72 : decode cX7_computes 72 = .ok (.aload_n 0, 1) := dk_42 (dk_at dksX7_computes_3 3 rfl rfl)
theorem dX7_computes_73 : decode cX7_computes 73 = .ok (.invokevirtual 326, 3) := dk_182 1 70 (dk_at dksX7_computes_3 4 rfl rfl)
theorem dX7_computes_76 : decode cX7_computes 76 = .ok (.istore_n 1, 1) := dk_60 (dk_at dksX7_computes_3 7 rfl rfl)
theorem dX7_computes_77 : decode cX7_computes 77 = .ok (.goto (-30), 3) := dk_167 255 226 (dk_at dksX7_computes_3 8 rfl rfl)
theorem dX7_computes_80 : decode cX7_computes 80 = .ok (.aload_n 0, 1) := dk_42 (dk_at dksX7_computes_3 11 rfl rfl)
theorem dX7_computes_81 : decode cX7_computes 81 = .ok (.getfield 287, 3) := dk_180 1 31 (dk_at dksX7_computes_3 12 rfl rfl)
theorem dX7_computes_84 : decode cX7_computes 84 = .ok (.iconst (-1), 1) := dk_2 (dk_at dksX7_computes_3 15 rfl rfl)
theorem dX7_computes_85 : decode cX7_computes 85 = .ok (.if_icmp .eq 12, 3) := dk_159 0 12 (dk_at dksX7_computes_3 16 rfl rfl)
theorem dX7_computes_88 : decode cX7_computes 88 = .ok (.aload_n 0, 1) := dk_42 (dk_at dksX7_computes_3 19 rfl rfl)
theorem dX7_computes_89 : decode cX7_computes 89 = .ok (.iconst 3, 1) := dk_6 (dk_at dksX7_computes_3 20 rfl rfl)
theorem dX7_computes_90 : decode cX7_computes 90 = .ok (.aload_n 0, 1) := dk_42 (dk_at dksX7_computes_3 21 rfl rfl)
theorem dX7_computes_91 : decode cX7_computes 91 = .ok (.getfield 287, 3) := dk_180 1 31 (dk_at dksX7_computes_4 0 rfl rfl)
theorem dX7_computes_94 : decode cX7_computes 94 = .ok (.invokevirtual 265, 3) := dk_182 1 9 (dk_at dksX7_computes_4 3 rfl rfl)
theorem dX7_computes_97 : decode cX7_computes 97 = .ok (.return_, 1) := dk_177 (dk_at dksX7_computes_4 6 rfl rfl)
abbrev cX7_readsOperand : ByteArray := prog_42_method_101_code
def yX7_readsOperand : MethodName := ⟨RX7, "readsOperand", "()V"⟩
def dkwX7_readsOperand_4 : List UInt8 := [4, 42, 180, 0, 253, 182, 1, 9, 177]
abbrev dktX7_readsOperand_4 : List UInt8 := dkwX7_readsOperand_4 ++ []
def dkwX7_readsOperand_3 : List UInt8 := [160, 0, 10, 42, 182, 1, 55, 167, 0, 25, 27, 16, 40, 160, 0, 10, 42, 182, 1, 58, 167, 0, 12, 42]
abbrev dktX7_readsOperand_3 : List UInt8 := dkwX7_readsOperand_3 ++ dktX7_readsOperand_4
def dkwX7_readsOperand_2 : List UInt8 := [182, 1, 6, 153, 0, 10, 42, 182, 1, 52, 167, 0, 44, 27, 16, 101, 159, 0, 9, 27, 16, 114]
abbrev dktX7_readsOperand_2 : List UInt8 := dkwX7_readsOperand_2 ++ dktX7_readsOperand_3
def dkwX7_readsOperand_1 : List UInt8 := [153, 0, 22, 42, 16, 110, 182, 1, 43, 42, 89, 180, 0, 253, 4, 96, 181, 0, 253, 167, 0, 58, 42]
abbrev dktX7_readsOperand_1 : List UInt8 := dkwX7_readsOperand_1 ++ dktX7_readsOperand_2
def dkwX7_readsOperand_0 : List UInt8 := [42, 182, 1, 25, 60, 42, 180, 1, 46, 61, 42, 3, 181, 1, 46, 27, 16, 45, 160, 0, 26, 28]
abbrev dktX7_readsOperand_0 : List UInt8 := dkwX7_readsOperand_0 ++ dktX7_readsOperand_1
theorem dksX7_readsOperand_0 : cX7_readsOperand.data.toList.drop 0 = dktX7_readsOperand_0 := by decide +kernel
theorem dksX7_readsOperand_1 : cX7_readsOperand.data.toList.drop 22 = dktX7_readsOperand_1 := dk_seg dksX7_readsOperand_0 22 rfl rfl
theorem dksX7_readsOperand_2 : cX7_readsOperand.data.toList.drop 45 = dktX7_readsOperand_2 := dk_seg dksX7_readsOperand_1 23 rfl rfl
theorem dksX7_readsOperand_3 : cX7_readsOperand.data.toList.drop 67 = dktX7_readsOperand_3 := dk_seg dksX7_readsOperand_2 22 rfl rfl
theorem dksX7_readsOperand_4 : cX7_readsOperand.data.toList.drop 91 = dktX7_readsOperand_4 := dk_seg dksX7_readsOperand_3 24 rfl rfl
theorem dX7_readsOperand_0 : decode cX7_readsOperand 0 = .ok (.aload_n 0, 1) := dk_42 (dk_at dksX7_readsOperand_0 0 rfl rfl)
theorem dX7_readsOperand_1 : decode cX7_readsOperand 1 = .ok (.invokevirtual 281, 3) := dk_182 1 25 (dk_at dksX7_readsOperand_0 1 rfl rfl)
theorem dX7_readsOperand_4 : decode cX7_readsOperand 4 = .ok (.istore_n 1, 1) := dk_60 (dk_at dksX7_readsOperand_0 4 rfl rfl)
theorem dX7_readsOperand_5 : decode cX7_readsOperand 5 = .ok (.aload_n 0, 1) := dk_42 (dk_at dksX7_readsOperand_0 5 rfl rfl)
theorem dX7_readsOperand_6 : decode cX7_readsOperand 6 = .ok (.getfield 302, 3) := dk_180 1 46 (dk_at dksX7_readsOperand_0 6 rfl rfl)
theorem dX7_readsOperand_9 : decode cX7_readsOperand 9 = .ok (.istore_n 2, 1) := dk_61 (dk_at dksX7_readsOperand_0 9 rfl rfl)
theorem dX7_readsOperand_10 : decode cX7_readsOperand 10 = .ok (.aload_n 0, 1) := dk_42 (dk_at dksX7_readsOperand_0 10 rfl rfl)
theorem dX7_readsOperand_11 : decode cX7_readsOperand 11 = .ok (.iconst 0, 1) := dk_3 (dk_at dksX7_readsOperand_0 11 rfl rfl)
theorem dX7_readsOperand_12 : decode cX7_readsOperand 12 = .ok (.putfield 302, 3) := dk_181 1 46 (dk_at dksX7_readsOperand_0 12 rfl rfl)
theorem dX7_readsOperand_15 : decode cX7_readsOperand 15 = .ok (.iload_n 1, 1) := dk_27 (dk_at dksX7_readsOperand_0 15 rfl rfl)
theorem dX7_readsOperand_16 : decode cX7_readsOperand 16 = .ok (.bipush 45, 2) := dk_16 45 (dk_at dksX7_readsOperand_0 16 rfl rfl)
theorem dX7_readsOperand_18 : decode cX7_readsOperand 18 = .ok (.if_icmp .ne 26, 3) := dk_160 0 26 (dk_at dksX7_readsOperand_0 18 rfl rfl)
theorem dX7_readsOperand_21 : decode cX7_readsOperand 21 = .ok (.iload_n 2, 1) := dk_28 (dk_at dksX7_readsOperand_0 21 rfl rfl)
theorem dX7_readsOperand_22 : decode cX7_readsOperand 22 = .ok (.ifCond .eq 22, 3) := dk_153 0 22 (dk_at dksX7_readsOperand_1 0 rfl rfl)
theorem dX7_readsOperand_25 : decode cX7_readsOperand 25 = .ok (.aload_n 0, 1) := dk_42 (dk_at dksX7_readsOperand_1 3 rfl rfl)
theorem dX7_readsOperand_26 : decode cX7_readsOperand 26 = .ok (.bipush 110, 2) := dk_16 110 (dk_at dksX7_readsOperand_1 4 rfl rfl)
theorem dX7_readsOperand_28 : decode cX7_readsOperand 28 = .ok (.invokevirtual 299, 3) := dk_182 1 43 (dk_at dksX7_readsOperand_1 6 rfl rfl)
theorem dX7_readsOperand_31 : decode cX7_readsOperand 31 = .ok (.aload_n 0, 1) := dk_42 (dk_at dksX7_readsOperand_1 9 rfl rfl)
theorem dX7_readsOperand_32 : decode cX7_readsOperand 32 = .ok (.dup, 1) := dk_89 (dk_at dksX7_readsOperand_1 10 rfl rfl)
theorem dX7_readsOperand_33 : decode cX7_readsOperand 33 = .ok (.getfield 253, 3) := dk_180 0 253 (dk_at dksX7_readsOperand_1 11 rfl rfl)
theorem dX7_readsOperand_36 : decode cX7_readsOperand 36 = .ok (.iconst 1, 1) := dk_4 (dk_at dksX7_readsOperand_1 14 rfl rfl)
theorem dX7_readsOperand_37 : decode cX7_readsOperand 37 = .ok (.iadd, 1) := dk_96 (dk_at dksX7_readsOperand_1 15 rfl rfl)
theorem dX7_readsOperand_38 : decode cX7_readsOperand 38 = .ok (.putfield 253, 3) := dk_181 0 253 (dk_at dksX7_readsOperand_1 16 rfl rfl)
theorem dX7_readsOperand_41 : decode cX7_readsOperand 41 = .ok (.goto 58, 3) := dk_167 0 58 (dk_at dksX7_readsOperand_1 19 rfl rfl)
theorem dX7_readsOperand_44 : decode cX7_readsOperand 44 = .ok (.aload_n 0, 1) := dk_42 (dk_at dksX7_readsOperand_1 22 rfl rfl)
theorem dX7_readsOperand_45 : decode cX7_readsOperand 45 = .ok (.invokevirtual 262, 3) := dk_182 1 6 (dk_at dksX7_readsOperand_2 0 rfl rfl)
theorem dX7_readsOperand_48 : decode cX7_readsOperand 48 = .ok (.ifCond .eq 10, 3) := dk_153 0 10 (dk_at dksX7_readsOperand_2 3 rfl rfl)
theorem dX7_readsOperand_51 : decode cX7_readsOperand 51 = .ok (.aload_n 0, 1) := dk_42 (dk_at dksX7_readsOperand_2 6 rfl rfl)
theorem dX7_readsOperand_52 : decode cX7_readsOperand 52 = .ok (.invokevirtual 308, 3) := dk_182 1 52 (dk_at dksX7_readsOperand_2 7 rfl rfl)
theorem dX7_readsOperand_55 : decode cX7_readsOperand 55 = .ok (.goto 44, 3) := dk_167 0 44 (dk_at dksX7_readsOperand_2 10 rfl rfl)
theorem dX7_readsOperand_58 : decode cX7_readsOperand 58 = .ok (.iload_n 1, 1) := dk_27 (dk_at dksX7_readsOperand_2 13 rfl rfl)
theorem dX7_readsOperand_59 : decode cX7_readsOperand 59 = .ok (.bipush 101, 2) := dk_16 101 (dk_at dksX7_readsOperand_2 14 rfl rfl)
theorem dX7_readsOperand_61 : decode cX7_readsOperand 61 = .ok (.if_icmp .eq 9, 3) := dk_159 0 9 (dk_at dksX7_readsOperand_2 16 rfl rfl)
theorem dX7_readsOperand_64 : decode cX7_readsOperand 64 = .ok (.iload_n 1, 1) := dk_27 (dk_at dksX7_readsOperand_2 19 rfl rfl)
theorem dX7_readsOperand_65 : decode cX7_readsOperand 65 = .ok (.bipush 114, 2) := dk_16 114 (dk_at dksX7_readsOperand_2 20 rfl rfl)
theorem dX7_readsOperand_67 : decode cX7_readsOperand 67 = .ok (.if_icmp .ne 10, 3) := dk_160 0 10 (dk_at dksX7_readsOperand_3 0 rfl rfl)
theorem dX7_readsOperand_70 : decode cX7_readsOperand 70 = .ok (.aload_n 0, 1) := dk_42 (dk_at dksX7_readsOperand_3 3 rfl rfl)
theorem dX7_readsOperand_71 : decode cX7_readsOperand 71 = .ok (.invokevirtual 311, 3) := dk_182 1 55 (dk_at dksX7_readsOperand_3 4 rfl rfl)
theorem dX7_readsOperand_74 : decode cX7_readsOperand 74 = .ok (.goto 25, 3) := dk_167 0 25 (dk_at dksX7_readsOperand_3 7 rfl rfl)
theorem dX7_readsOperand_77 : decode cX7_readsOperand 77 = .ok (.iload_n 1, 1) := dk_27 (dk_at dksX7_readsOperand_3 10 rfl rfl)
theorem dX7_readsOperand_78 : decode cX7_readsOperand 78 = .ok (.bipush 40, 2) := dk_16 40 (dk_at dksX7_readsOperand_3 11 rfl rfl)
theorem dX7_readsOperand_80 : decode cX7_readsOperand 80 = .ok (.if_icmp .ne 10, 3) := dk_160 0 10 (dk_at dksX7_readsOperand_3 13 rfl rfl)
theorem dX7_readsOperand_83 : decode cX7_readsOperand 83 = .ok (.aload_n 0, 1) := dk_42 (dk_at dksX7_readsOperand_3 16 rfl rfl)
theorem dX7_readsOperand_84 : decode cX7_readsOperand 84 = .ok (.invokevirtual 314, 3) := dk_182 1 58 (dk_at dksX7_readsOperand_3 17 rfl rfl)
theorem dX7_readsOperand_87 : decode cX7_readsOperand 87 = .ok (.goto 12, 3) := dk_167 0 12 (dk_at dksX7_readsOperand_3 20 rfl rfl)
theorem dX7_readsOperand_90 : decode cX7_readsOperand 90 = .ok (.aload_n 0, 1) := dk_42 (dk_at dksX7_readsOperand_3 23 rfl rfl)
theorem dX7_readsOperand_91 : decode cX7_readsOperand 91 = .ok (.iconst 1, 1) := dk_4 (dk_at dksX7_readsOperand_4 0 rfl rfl)
theorem dX7_readsOperand_92 : decode cX7_readsOperand 92 = .ok (.aload_n 0, 1) := dk_42 (dk_at dksX7_readsOperand_4 1 rfl rfl)
theorem dX7_readsOperand_93 : decode cX7_readsOperand 93 = .ok (.getfield 253, 3) := dk_180 0 253 (dk_at dksX7_readsOperand_4 2 rfl rfl)
theorem dX7_readsOperand_96 : decode cX7_readsOperand 96 = .ok (.invokevirtual 265, 3) := dk_182 1 9 (dk_at dksX7_readsOperand_4 5 rfl rfl)
theorem dX7_readsOperand_99 : decode cX7_readsOperand 99 = .ok (.return_, 1) := dk_177 (dk_at dksX7_readsOperand_4 8 rfl rfl)
abbrev cX7_next : ByteArray := prog_42_method_88_code
def yX7_next : MethodName := ⟨RX7, "next", "()I"⟩
def dkwX7_next_1 : List UInt8 := [182, 1, 0, 172]
abbrev dktX7_next_1 : List UInt8 := dkwX7_next_1 ++ []
def dkwX7_next_0 : List UInt8 := [42, 182, 1, 0, 16, 32, 160, 0, 16, 42, 89, 180, 0, 253, 4, 96, 181, 0, 253, 167, 255, 237, 42]
abbrev dktX7_next_0 : List UInt8 := dkwX7_next_0 ++ dktX7_next_1
theorem dksX7_next_0 : cX7_next.data.toList.drop 0 = dktX7_next_0 := by decide +kernel
theorem dksX7_next_1 : cX7_next.data.toList.drop 23 = dktX7_next_1 := dk_seg dksX7_next_0 23 rfl rfl
theorem dX7_next_0 : decode cX7_next 0 = .ok (.aload_n 0, 1) := dk_42 (dk_at dksX7_next_0 0 rfl rfl)
theorem dX7_next_1 : decode cX7_next 1 = .ok (.invokevirtual 256, 3) := dk_182 1 0 (dk_at dksX7_next_0 1 rfl rfl)
theorem dX7_next_4 : decode cX7_next 4 = .ok (.bipush 32, 2) := dk_16 32 (dk_at dksX7_next_0 4 rfl rfl)
theorem dX7_next_6 : decode cX7_next 6 = .ok (.if_icmp .ne 16, 3) := dk_160 0 16 (dk_at dksX7_next_0 6 rfl rfl)
theorem dX7_next_9 : decode cX7_next 9 = .ok (.aload_n 0, 1) := dk_42 (dk_at dksX7_next_0 9 rfl rfl)
theorem dX7_next_10 : decode cX7_next 10 = .ok (.dup, 1) := dk_89 (dk_at dksX7_next_0 10 rfl rfl)
theorem dX7_next_11 : decode cX7_next 11 = .ok (.getfield 253, 3) := dk_180 0 253 (dk_at dksX7_next_0 11 rfl rfl)
theorem dX7_next_14 : decode cX7_next 14 = .ok (.iconst 1, 1) := dk_4 (dk_at dksX7_next_0 14 rfl rfl)
theorem dX7_next_15 : decode cX7_next 15 = .ok (.iadd, 1) := dk_96 (dk_at dksX7_next_0 15 rfl rfl)
theorem dX7_next_16 : decode cX7_next 16 = .ok (.putfield 253, 3) := dk_181 0 253 (dk_at dksX7_next_0 16 rfl rfl)
theorem dX7_next_19 : decode cX7_next 19 = .ok (.goto (-19), 3) := dk_167 255 237 (dk_at dksX7_next_0 19 rfl rfl)
theorem dX7_next_22 : decode cX7_next 22 = .ok (.aload_n 0, 1) := dk_42 (dk_at dksX7_next_0 22 rfl rfl)
theorem dX7_next_23 : decode cX7_next 23 = .ok (.invokevirtual 256, 3) := dk_182 1 0 (dk_at dksX7_next_1 0 rfl rfl)
theorem dX7_next_26 : decode cX7_next 26 = .ok (.ireturn, 1) := dk_172 (dk_at dksX7_next_1 3 rfl rfl)
abbrev cX7_see : ByteArray := prog_42_method_87_code
def yX7_see : MethodName := ⟨RX7, "see", "()I"⟩
def dkwX7_see_1 : List UInt8 := [167, 0, 4, 2, 172]
abbrev dktX7_see_1 : List UInt8 := dkwX7_see_1 ++ []
def dkwX7_see_0 : List UInt8 := [42, 180, 0, 253, 42, 180, 0, 250, 162, 0, 19, 42, 180, 0, 38, 42, 180, 0, 253, 51, 17, 0, 255, 126]
abbrev dktX7_see_0 : List UInt8 := dkwX7_see_0 ++ dktX7_see_1
theorem dksX7_see_0 : cX7_see.data.toList.drop 0 = dktX7_see_0 := by decide +kernel
theorem dksX7_see_1 : cX7_see.data.toList.drop 24 = dktX7_see_1 := dk_seg dksX7_see_0 24 rfl rfl
theorem dX7_see_0 : decode cX7_see 0 = .ok (.aload_n 0, 1) := dk_42 (dk_at dksX7_see_0 0 rfl rfl)
theorem dX7_see_1 : decode cX7_see 1 = .ok (.getfield 253, 3) := dk_180 0 253 (dk_at dksX7_see_0 1 rfl rfl)
theorem dX7_see_4 : decode cX7_see 4 = .ok (.aload_n 0, 1) := dk_42 (dk_at dksX7_see_0 4 rfl rfl)
theorem dX7_see_5 : decode cX7_see 5 = .ok (.getfield 250, 3) := dk_180 0 250 (dk_at dksX7_see_0 5 rfl rfl)
theorem dX7_see_8 : decode cX7_see 8 = .ok (.if_icmp .ge 19, 3) := dk_162 0 19 (dk_at dksX7_see_0 8 rfl rfl)
theorem dX7_see_11 : decode cX7_see 11 = .ok (.aload_n 0, 1) := dk_42 (dk_at dksX7_see_0 11 rfl rfl)
theorem dX7_see_12 : decode cX7_see 12 = .ok (.getfield 38, 3) := dk_180 0 38 (dk_at dksX7_see_0 12 rfl rfl)
theorem dX7_see_15 : decode cX7_see 15 = .ok (.aload_n 0, 1) := dk_42 (dk_at dksX7_see_0 15 rfl rfl)
theorem dX7_see_16 : decode cX7_see 16 = .ok (.getfield 253, 3) := dk_180 0 253 (dk_at dksX7_see_0 16 rfl rfl)
theorem dX7_see_19 : decode cX7_see 19 = .ok (.baload, 1) := dk_51 (dk_at dksX7_see_0 19 rfl rfl)
theorem dX7_see_20 : decode cX7_see 20 = .ok (.sipush 255, 3) := dk_17 0 255 (dk_at dksX7_see_0 20 rfl rfl)
theorem dX7_see_23 : decode cX7_see 23 = .ok (.iand, 1) := dk_126 (dk_at dksX7_see_0 23 rfl rfl)
theorem dX7_see_24 : decode cX7_see 24 = .ok (.goto 4, 3) := dk_167 0 4 (dk_at dksX7_see_1 0 rfl rfl)
theorem dX7_see_27 : decode cX7_see 27 = .ok (.iconst (-1), 1) := dk_2 (dk_at dksX7_see_1 3 rfl rfl)
theorem dX7_see_28 : decode cX7_see 28 = .ok (.ireturn, 1) := dk_172 (dk_at dksX7_see_1 4 rfl rfl)
abbrev cX7_waitsFor : ByteArray := prog_42_method_95_code
def yX7_waitsFor : MethodName := ⟨RX7, "waitsFor", "(I)V"⟩
def dkwX7_waitsFor_1 : List UInt8 := [89, 180, 1, 28, 4, 96, 181, 1, 28, 177]
abbrev dktX7_waitsFor_1 : List UInt8 := dkwX7_waitsFor_1 ++ []
def dkwX7_waitsFor_0 : List UInt8 := [42, 180, 0, 45, 42, 180, 1, 28, 27, 79, 42, 180, 0, 48, 42, 180, 1, 28, 42, 180, 0, 253, 79, 42]
abbrev dktX7_waitsFor_0 : List UInt8 := dkwX7_waitsFor_0 ++ dktX7_waitsFor_1
theorem dksX7_waitsFor_0 : cX7_waitsFor.data.toList.drop 0 = dktX7_waitsFor_0 := by decide +kernel
theorem dksX7_waitsFor_1 : cX7_waitsFor.data.toList.drop 24 = dktX7_waitsFor_1 := dk_seg dksX7_waitsFor_0 24 rfl rfl
theorem dX7_waitsFor_0 : decode cX7_waitsFor 0 = .ok (.aload_n 0, 1) := dk_42 (dk_at dksX7_waitsFor_0 0 rfl rfl)
theorem dX7_waitsFor_1 : decode cX7_waitsFor 1 = .ok (.getfield 45, 3) := dk_180 0 45 (dk_at dksX7_waitsFor_0 1 rfl rfl)
theorem dX7_waitsFor_4 : decode cX7_waitsFor 4 = .ok (.aload_n 0, 1) := dk_42 (dk_at dksX7_waitsFor_0 4 rfl rfl)
theorem dX7_waitsFor_5 : decode cX7_waitsFor 5 = .ok (.getfield 284, 3) := dk_180 1 28 (dk_at dksX7_waitsFor_0 5 rfl rfl)
theorem dX7_waitsFor_8 : decode cX7_waitsFor 8 = .ok (.iload_n 1, 1) := dk_27 (dk_at dksX7_waitsFor_0 8 rfl rfl)
theorem dX7_waitsFor_9 : decode cX7_waitsFor 9 = .ok (.iastore, 1) := dk_79 (dk_at dksX7_waitsFor_0 9 rfl rfl)
theorem dX7_waitsFor_10 : decode cX7_waitsFor 10 = .ok (.aload_n 0, 1) := dk_42 (dk_at dksX7_waitsFor_0 10 rfl rfl)
theorem dX7_waitsFor_11 : decode cX7_waitsFor 11 = .ok (.getfield 48, 3) := dk_180 0 48 (dk_at dksX7_waitsFor_0 11 rfl rfl)
theorem dX7_waitsFor_14 : decode cX7_waitsFor 14 = .ok (.aload_n 0, 1) := dk_42 (dk_at dksX7_waitsFor_0 14 rfl rfl)
theorem dX7_waitsFor_15 : decode cX7_waitsFor 15 = .ok (.getfield 284, 3) := dk_180 1 28 (dk_at dksX7_waitsFor_0 15 rfl rfl)
theorem dX7_waitsFor_18 : decode cX7_waitsFor 18 = .ok (.aload_n 0, 1) := dk_42 (dk_at dksX7_waitsFor_0 18 rfl rfl)
theorem dX7_waitsFor_19 : decode cX7_waitsFor 19 = .ok (.getfield 253, 3) := dk_180 0 253 (dk_at dksX7_waitsFor_0 19 rfl rfl)
theorem dX7_waitsFor_22 : decode cX7_waitsFor 22 = .ok (.iastore, 1) := dk_79 (dk_at dksX7_waitsFor_0 22 rfl rfl)
theorem dX7_waitsFor_23 : decode cX7_waitsFor 23 = .ok (.aload_n 0, 1) := dk_42 (dk_at dksX7_waitsFor_0 23 rfl rfl)
theorem dX7_waitsFor_24 : decode cX7_waitsFor 24 = .ok (.dup, 1) := dk_89 (dk_at dksX7_waitsFor_1 0 rfl rfl)
theorem dX7_waitsFor_25 : decode cX7_waitsFor 25 = .ok (.getfield 284, 3) := dk_180 1 28 (dk_at dksX7_waitsFor_1 1 rfl rfl)
theorem dX7_waitsFor_28 : decode cX7_waitsFor 28 = .ok (.iconst 1, 1) := dk_4 (dk_at dksX7_waitsFor_1 4 rfl rfl)
theorem dX7_waitsFor_29 : decode cX7_waitsFor 29 = .ok (.iadd, 1) := dk_96 (dk_at dksX7_waitsFor_1 5 rfl rfl)
theorem dX7_waitsFor_30 : decode cX7_waitsFor 30 = .ok (.putfield 284, 3) := dk_181 1 28 (dk_at dksX7_waitsFor_1 6 rfl rfl)
theorem dX7_waitsFor_33 : decode cX7_waitsFor 33 = .ok (.return_, 1) := dk_177 (dk_at dksX7_waitsFor_1 9 rfl rfl)
abbrev cX7_isDigit : ByteArray := prog_42_method_89_code
def yX7_isDigit : MethodName := ⟨RX7, "isDigit", "()Z"⟩
def dkwX7_isDigit_0 : List UInt8 := [42, 182, 1, 0, 16, 48, 16, 57, 184, 0, 67, 172]
abbrev dktX7_isDigit_0 : List UInt8 := dkwX7_isDigit_0 ++ []
theorem dksX7_isDigit_0 : cX7_isDigit.data.toList.drop 0 = dktX7_isDigit_0 := by decide +kernel
theorem dX7_isDigit_0 : decode cX7_isDigit 0 = .ok (.aload_n 0, 1) := dk_42 (dk_at dksX7_isDigit_0 0 rfl rfl)
theorem dX7_isDigit_1 : decode cX7_isDigit 1 = .ok (.invokevirtual 256, 3) := dk_182 1 0 (dk_at dksX7_isDigit_0 1 rfl rfl)
theorem dX7_isDigit_4 : decode cX7_isDigit 4 = .ok (.bipush 48, 2) := dk_16 48 (dk_at dksX7_isDigit_0 4 rfl rfl)
theorem dX7_isDigit_6 : decode cX7_isDigit 6 = .ok (.bipush 57, 2) := dk_16 57 (dk_at dksX7_isDigit_0 6 rfl rfl)
theorem dX7_isDigit_8 : decode cX7_isDigit 8 = .ok (.invokestatic 67, 3) := dk_184 0 67 (dk_at dksX7_isDigit_0 8 rfl rfl)
theorem dX7_isDigit_11 : decode cX7_isDigit 11 = .ok (.ireturn, 1) := dk_172 (dk_at dksX7_isDigit_0 11 rfl rfl)
abbrev cX7_readsNumber : ByteArray := prog_42_method_92_code
def yX7_readsNumber : MethodName := ⟨RX7, "readsNumber", "()V"⟩
def dkwX7_readsNumber_2 : List UInt8 := [181, 1, 18, 42, 3, 181, 1, 22, 177]
abbrev dktX7_readsNumber_2 : List UInt8 := dkwX7_readsNumber_2 ++ []
def dkwX7_readsNumber_1 : List UInt8 := [104, 4, 96, 42, 3, 182, 1, 15, 133, 80, 42, 89, 180, 1, 12, 4, 96, 181, 1, 12, 42, 4]
abbrev dktX7_readsNumber_1 : List UInt8 := dkwX7_readsNumber_1 ++ dktX7_readsNumber_2
def dkwX7_readsNumber_0 : List UInt8 := [42, 16, 32, 42, 180, 1, 12, 96, 182, 0, 169, 42, 180, 0, 27, 16, 33, 16, 32, 42, 180, 1, 12, 96]
abbrev dktX7_readsNumber_0 : List UInt8 := dkwX7_readsNumber_0 ++ dktX7_readsNumber_1
theorem dksX7_readsNumber_0 : cX7_readsNumber.data.toList.drop 0 = dktX7_readsNumber_0 := by decide +kernel
theorem dksX7_readsNumber_1 : cX7_readsNumber.data.toList.drop 24 = dktX7_readsNumber_1 := dk_seg dksX7_readsNumber_0 24 rfl rfl
theorem dksX7_readsNumber_2 : cX7_readsNumber.data.toList.drop 46 = dktX7_readsNumber_2 := dk_seg dksX7_readsNumber_1 22 rfl rfl
theorem dX7_readsNumber_0 : decode cX7_readsNumber 0 = .ok (.aload_n 0, 1) := dk_42 (dk_at dksX7_readsNumber_0 0 rfl rfl)
theorem dX7_readsNumber_1 : decode cX7_readsNumber 1 = .ok (.bipush 32, 2) := dk_16 32 (dk_at dksX7_readsNumber_0 1 rfl rfl)
theorem dX7_readsNumber_3 : decode cX7_readsNumber 3 = .ok (.aload_n 0, 1) := dk_42 (dk_at dksX7_readsNumber_0 3 rfl rfl)
theorem dX7_readsNumber_4 : decode cX7_readsNumber 4 = .ok (.getfield 268, 3) := dk_180 1 12 (dk_at dksX7_readsNumber_0 4 rfl rfl)
theorem dX7_readsNumber_7 : decode cX7_readsNumber 7 = .ok (.iadd, 1) := dk_96 (dk_at dksX7_readsNumber_0 7 rfl rfl)
theorem dX7_readsNumber_8 : decode cX7_readsNumber 8 = .ok (.invokevirtual 169, 3) := dk_182 0 169 (dk_at dksX7_readsNumber_0 8 rfl rfl)
theorem dX7_readsNumber_11 : decode cX7_readsNumber 11 = .ok (.aload_n 0, 1) := dk_42 (dk_at dksX7_readsNumber_0 11 rfl rfl)
theorem dX7_readsNumber_12 : decode cX7_readsNumber 12 = .ok (.getfield 27, 3) := dk_180 0 27 (dk_at dksX7_readsNumber_0 12 rfl rfl)
theorem dX7_readsNumber_15 : decode cX7_readsNumber 15 = .ok (.bipush 33, 2) := dk_16 33 (dk_at dksX7_readsNumber_0 15 rfl rfl)
theorem dX7_readsNumber_17 : decode cX7_readsNumber 17 = .ok (.bipush 32, 2) := dk_16 32 (dk_at dksX7_readsNumber_0 17 rfl rfl)
theorem dX7_readsNumber_19 : decode cX7_readsNumber 19 = .ok (.aload_n 0, 1) := dk_42 (dk_at dksX7_readsNumber_0 19 rfl rfl)
theorem dX7_readsNumber_20 : decode cX7_readsNumber 20 = .ok (.getfield 268, 3) := dk_180 1 12 (dk_at dksX7_readsNumber_0 20 rfl rfl)
theorem dX7_readsNumber_23 : decode cX7_readsNumber 23 = .ok (.iadd, 1) := dk_96 (dk_at dksX7_readsNumber_0 23 rfl rfl)
theorem dX7_readsNumber_24 : decode cX7_readsNumber 24 = .ok (.imul, 1) := dk_104 (dk_at dksX7_readsNumber_1 0 rfl rfl)
theorem dX7_readsNumber_25 : decode cX7_readsNumber 25 = .ok (.iconst 1, 1) := dk_4 (dk_at dksX7_readsNumber_1 1 rfl rfl)
theorem dX7_readsNumber_26 : decode cX7_readsNumber 26 = .ok (.iadd, 1) := dk_96 (dk_at dksX7_readsNumber_1 2 rfl rfl)
theorem dX7_readsNumber_27 : decode cX7_readsNumber 27 = .ok (.aload_n 0, 1) := dk_42 (dk_at dksX7_readsNumber_1 3 rfl rfl)
theorem dX7_readsNumber_28 : decode cX7_readsNumber 28 = .ok (.iconst 0, 1) := dk_3 (dk_at dksX7_readsNumber_1 4 rfl rfl)
theorem dX7_readsNumber_29 : decode cX7_readsNumber 29 = .ok (.invokevirtual 271, 3) := dk_182 1 15 (dk_at dksX7_readsNumber_1 5 rfl rfl)
theorem dX7_readsNumber_32 : decode cX7_readsNumber 32 = .ok (.i2l, 1) := dk_133 (dk_at dksX7_readsNumber_1 8 rfl rfl)
theorem dX7_readsNumber_33 : decode cX7_readsNumber 33 = .ok (.lastore, 1) := dk_80 (dk_at dksX7_readsNumber_1 9 rfl rfl)
theorem dX7_readsNumber_34 : decode cX7_readsNumber 34 = .ok (.aload_n 0, 1) := dk_42 (dk_at dksX7_readsNumber_1 10 rfl rfl)
theorem dX7_readsNumber_35 : decode cX7_readsNumber 35 = .ok (.dup, 1) := dk_89 (dk_at dksX7_readsNumber_1 11 rfl rfl)
theorem dX7_readsNumber_36 : decode cX7_readsNumber 36 = .ok (.getfield 268, 3) := dk_180 1 12 (dk_at dksX7_readsNumber_1 12 rfl rfl)
theorem dX7_readsNumber_39 : decode cX7_readsNumber 39 = .ok (.iconst 1, 1) := dk_4 (dk_at dksX7_readsNumber_1 15 rfl rfl)
theorem dX7_readsNumber_40 : decode cX7_readsNumber 40 = .ok (.iadd, 1) := dk_96 (dk_at dksX7_readsNumber_1 16 rfl rfl)
theorem dX7_readsNumber_41 : decode cX7_readsNumber 41 = .ok (.putfield 268, 3) := dk_181 1 12 (dk_at dksX7_readsNumber_1 17 rfl rfl)
theorem dX7_readsNumber_44 : decode cX7_readsNumber 44 = .ok (.aload_n 0, 1) := dk_42 (dk_at dksX7_readsNumber_1 20 rfl rfl)
theorem dX7_readsNumber_45 : decode cX7_readsNumber 45 = .ok (.iconst 1, 1) := dk_4 (dk_at dksX7_readsNumber_1 21 rfl rfl)
theorem dX7_readsNumber_46 : decode cX7_readsNumber 46 = .ok (.putfield 274, 3) := dk_181 1 18 (dk_at dksX7_readsNumber_2 0 rfl rfl)
theorem dX7_readsNumber_49 : decode cX7_readsNumber 49 = .ok (.aload_n 0, 1) := dk_42 (dk_at dksX7_readsNumber_2 3 rfl rfl)
theorem dX7_readsNumber_50 : decode cX7_readsNumber 50 = .ok (.iconst 0, 1) := dk_3 (dk_at dksX7_readsNumber_2 4 rfl rfl)
theorem dX7_readsNumber_51 : decode cX7_readsNumber 51 = .ok (.putfield 278, 3) := dk_181 1 22 (dk_at dksX7_readsNumber_2 5 rfl rfl)
theorem dX7_readsNumber_54 : decode cX7_readsNumber 54 = .ok (.return_, 1) := dk_177 (dk_at dksX7_readsNumber_2 8 rfl rfl)
abbrev cX7_number : ByteArray := prog_42_method_91_code
def yX7_number : MethodName := ⟨RX7, "number", "(I)I"⟩
def dkwX7_number_3 : List UInt8 := [180, 0, 253, 28, 100, 16, 8, 163, 0, 8, 29, 27, 162, 0, 9, 42, 5, 28, 182, 1, 9, 29, 172]
abbrev dktX7_number_3 : List UInt8 := dkwX7_number_3 ++ []
def dkwX7_number_2 : List UInt8 := [16, 48, 100, 167, 0, 4, 29, 62, 42, 89, 180, 0, 253, 4, 96, 181, 0, 253, 167, 255, 211, 42]
abbrev dktX7_number_2 : List UInt8 := dkwX7_number_2 ++ dktX7_number_3
def dkwX7_number_1 : List UInt8 := [153, 0, 44, 42, 180, 0, 253, 28, 100, 16, 8, 162, 0, 18, 16, 10, 29, 104, 42, 182, 1, 0, 96]
abbrev dktX7_number_1 : List UInt8 := dkwX7_number_1 ++ dktX7_number_2
def dkwX7_number_0 : List UInt8 := [42, 180, 0, 253, 61, 3, 62, 42, 182, 1, 6, 154, 0, 9, 42, 4, 28, 182, 1, 9, 42, 182, 1, 6]
abbrev dktX7_number_0 : List UInt8 := dkwX7_number_0 ++ dktX7_number_1
theorem dksX7_number_0 : cX7_number.data.toList.drop 0 = dktX7_number_0 := by decide +kernel
theorem dksX7_number_1 : cX7_number.data.toList.drop 24 = dktX7_number_1 := dk_seg dksX7_number_0 24 rfl rfl
theorem dksX7_number_2 : cX7_number.data.toList.drop 47 = dktX7_number_2 := dk_seg dksX7_number_1 23 rfl rfl
theorem dksX7_number_3 : cX7_number.data.toList.drop 69 = dktX7_number_3 := dk_seg dksX7_number_2 22 rfl rfl
theorem dX7_number_0 : decode cX7_number 0 = .ok (.aload_n 0, 1) := dk_42 (dk_at dksX7_number_0 0 rfl rfl)
theorem dX7_number_1 : decode cX7_number 1 = .ok (.getfield 253, 3) := dk_180 0 253 (dk_at dksX7_number_0 1 rfl rfl)
theorem dX7_number_4 : decode cX7_number 4 = .ok (.istore_n 2, 1) := dk_61 (dk_at dksX7_number_0 4 rfl rfl)
theorem dX7_number_5 : decode cX7_number 5 = .ok (.iconst 0, 1) := dk_3 (dk_at dksX7_number_0 5 rfl rfl)
theorem dX7_number_6 : decode cX7_number 6 = .ok (.istore_n 3, 1) := dk_62 (dk_at dksX7_number_0 6 rfl rfl)
theorem dX7_number_7 : decode cX7_number 7 = .ok (.aload_n 0, 1) := dk_42 (dk_at dksX7_number_0 7 rfl rfl)
theorem dX7_number_8 : decode cX7_number 8 = .ok (.invokevirtual 262, 3) := dk_182 1 6 (dk_at dksX7_number_0 8 rfl rfl)
theorem dX7_number_11 : decode cX7_number 11 = .ok (.ifCond .ne 9, 3) := dk_154 0 9 (dk_at dksX7_number_0 11 rfl rfl)
theorem dX7_number_14 : decode cX7_number 14 = .ok (.aload_n 0, 1) := dk_42 (dk_at dksX7_number_0 14 rfl rfl)
theorem dX7_number_15 : decode cX7_number 15 = .ok (.iconst 1, 1) := dk_4 (dk_at dksX7_number_0 15 rfl rfl)
theorem dX7_number_16 : decode cX7_number 16 = .ok (.iload_n 2, 1) := dk_28 (dk_at dksX7_number_0 16 rfl rfl)
theorem dX7_number_17 : decode cX7_number 17 = .ok (.invokevirtual 265, 3) := dk_182 1 9 (dk_at dksX7_number_0 17 rfl rfl)
theorem dX7_number_20 : decode cX7_number 20 = .ok (.aload_n 0, 1) := dk_42 (dk_at dksX7_number_0 20 rfl rfl)
theorem dX7_number_21 : decode cX7_number 21 = .ok (.invokevirtual 262, 3) := dk_182 1 6 (dk_at dksX7_number_0 21 rfl rfl)
theorem dX7_number_24 : decode cX7_number 24 = .ok (.ifCond .eq 44, 3) := dk_153 0 44 (dk_at dksX7_number_1 0 rfl rfl)
theorem dX7_number_27 : decode cX7_number 27 = .ok (.aload_n 0, 1) := dk_42 (dk_at dksX7_number_1 3 rfl rfl)
theorem dX7_number_28 : decode cX7_number 28 = .ok (.getfield 253, 3) := dk_180 0 253 (dk_at dksX7_number_1 4 rfl rfl)
theorem dX7_number_31 : decode cX7_number 31 = .ok (.iload_n 2, 1) := dk_28 (dk_at dksX7_number_1 7 rfl rfl)
theorem dX7_number_32 : decode cX7_number 32 = .ok (.isub, 1) := dk_100 (dk_at dksX7_number_1 8 rfl rfl)
theorem dX7_number_33 : decode cX7_number 33 = .ok (.bipush 8, 2) := dk_16 8 (dk_at dksX7_number_1 9 rfl rfl)
theorem dX7_number_35 : decode cX7_number 35 = .ok (.if_icmp .ge 18, 3) := dk_162 0 18 (dk_at dksX7_number_1 11 rfl rfl)
theorem dX7_number_38 : decode cX7_number 38 = .ok (.bipush 10, 2) := dk_16 10 (dk_at dksX7_number_1 14 rfl rfl)
theorem dX7_number_40 : decode cX7_number 40 = .ok (.iload_n 3, 1) := dk_29 (dk_at dksX7_number_1 16 rfl rfl)
theorem dX7_number_41 : decode cX7_number 41 = .ok (.imul, 1) := dk_104 (dk_at dksX7_number_1 17 rfl rfl)
theorem dX7_number_42 : decode cX7_number 42 = .ok (.aload_n 0, 1) := dk_42 (dk_at dksX7_number_1 18 rfl rfl)
theorem dX7_number_43 : decode cX7_number 43 = .ok (.invokevirtual 256, 3) := dk_182 1 0 (dk_at dksX7_number_1 19 rfl rfl)
theorem dX7_number_46 : decode cX7_number 46 = .ok (.iadd, 1) := dk_96 (dk_at dksX7_number_1 22 rfl rfl)
theorem dX7_number_47 : decode cX7_number 47 = .ok (.bipush 48, 2) := dk_16 48 (dk_at dksX7_number_2 0 rfl rfl)
theorem dX7_number_49 : decode cX7_number 49 = .ok (.isub, 1) := dk_100 (dk_at dksX7_number_2 2 rfl rfl)
theorem dX7_number_50 : decode cX7_number 50 = .ok (.goto 4, 3) := dk_167 0 4 (dk_at dksX7_number_2 3 rfl rfl)
theorem dX7_number_53 : decode cX7_number 53 = .ok (.iload_n 3, 1) := dk_29 (dk_at dksX7_number_2 6 rfl rfl)
theorem dX7_number_54 : decode cX7_number 54 = .ok (.istore_n 3, 1) := dk_62 (dk_at dksX7_number_2 7 rfl rfl)
theorem dX7_number_55 : decode cX7_number 55 = .ok (.aload_n 0, 1) := dk_42 (dk_at dksX7_number_2 8 rfl rfl)
theorem dX7_number_56 : decode cX7_number 56 = .ok (.dup, 1) := dk_89 (dk_at dksX7_number_2 9 rfl rfl)
theorem dX7_number_57 : decode cX7_number 57 = .ok (.getfield 253, 3) := dk_180 0 253 (dk_at dksX7_number_2 10 rfl rfl)
theorem dX7_number_60 : decode cX7_number 60 = .ok (.iconst 1, 1) := dk_4 (dk_at dksX7_number_2 13 rfl rfl)
theorem dX7_number_61 : decode cX7_number 61 = .ok (.iadd, 1) := dk_96 (dk_at dksX7_number_2 14 rfl rfl)
theorem dX7_number_62 : decode cX7_number 62 = .ok (.putfield 253, 3) := dk_181 0 253 (dk_at dksX7_number_2 15 rfl rfl)
theorem dX7_number_65 : decode cX7_number 65 = .ok (.goto (-45), 3) := dk_167 255 211 (dk_at dksX7_number_2 18 rfl rfl)
theorem dX7_number_68 : decode cX7_number 68 = .ok (.aload_n 0, 1) := dk_42 (dk_at dksX7_number_2 21 rfl rfl)
theorem dX7_number_69 : decode cX7_number 69 = .ok (.getfield 253, 3) := dk_180 0 253 (dk_at dksX7_number_3 0 rfl rfl)
theorem dX7_number_72 : decode cX7_number 72 = .ok (.iload_n 2, 1) := dk_28 (dk_at dksX7_number_3 3 rfl rfl)
theorem dX7_number_73 : decode cX7_number 73 = .ok (.isub, 1) := dk_100 (dk_at dksX7_number_3 4 rfl rfl)
theorem dX7_number_74 : decode cX7_number 74 = .ok (.bipush 8, 2) := dk_16 8 (dk_at dksX7_number_3 5 rfl rfl)
theorem dX7_number_76 : decode cX7_number 76 = .ok (.if_icmp .gt 8, 3) := dk_163 0 8 (dk_at dksX7_number_3 7 rfl rfl)
theorem dX7_number_79 : decode cX7_number 79 = .ok (.iload_n 3, 1) := dk_29 (dk_at dksX7_number_3 10 rfl rfl)
theorem dX7_number_80 : decode cX7_number 80 = .ok (.iload_n 1, 1) := dk_27 (dk_at dksX7_number_3 11 rfl rfl)
theorem dX7_number_81 : decode cX7_number 81 = .ok (.if_icmp .ge 9, 3) := dk_162 0 9 (dk_at dksX7_number_3 12 rfl rfl)
theorem dX7_number_84 : decode cX7_number 84 = .ok (.aload_n 0, 1) := dk_42 (dk_at dksX7_number_3 15 rfl rfl)
theorem dX7_number_85 : decode cX7_number 85 = .ok (.iconst 2, 1) := dk_5 (dk_at dksX7_number_3 16 rfl rfl)
theorem dX7_number_86 : decode cX7_number 86 = .ok (.iload_n 2, 1) := dk_28 (dk_at dksX7_number_3 17 rfl rfl)
theorem dX7_number_87 : decode cX7_number 87 = .ok (.invokevirtual 265, 3) := dk_182 1 9 (dk_at dksX7_number_3 18 rfl rfl)
theorem dX7_number_90 : decode cX7_number 90 = .ok (.iload_n 3, 1) := dk_29 (dk_at dksX7_number_3 21 rfl rfl)
theorem dX7_number_91 : decode cX7_number 91 = .ok (.ireturn, 1) := dk_172 (dk_at dksX7_number_3 22 rfl rfl)
abbrev cX7_fails : ByteArray := prog_42_method_90_code
def yX7_fails : MethodName := ⟨RX7, "fails", "(II)V"⟩
def dkwX7_fails_0 : List UInt8 := [42, 180, 1, 3, 154, 0, 13, 42, 27, 181, 1, 3, 42, 28, 181, 0, 42, 177]
abbrev dktX7_fails_0 : List UInt8 := dkwX7_fails_0 ++ []
theorem dksX7_fails_0 : cX7_fails.data.toList.drop 0 = dktX7_fails_0 := by decide +kernel
theorem dX7_fails_0 : decode cX7_fails 0 = .ok (.aload_n 0, 1) := dk_42 (dk_at dksX7_fails_0 0 rfl rfl)
theorem dX7_fails_1 : decode cX7_fails 1 = .ok (.getfield 259, 3) := dk_180 1 3 (dk_at dksX7_fails_0 1 rfl rfl)
theorem dX7_fails_4 : decode cX7_fails 4 = .ok (.ifCond .ne 13, 3) := dk_154 0 13 (dk_at dksX7_fails_0 4 rfl rfl)
theorem dX7_fails_7 : decode cX7_fails 7 = .ok (.aload_n 0, 1) := dk_42 (dk_at dksX7_fails_0 7 rfl rfl)
theorem dX7_fails_8 : decode cX7_fails 8 = .ok (.iload_n 1, 1) := dk_27 (dk_at dksX7_fails_0 8 rfl rfl)
theorem dX7_fails_9 : decode cX7_fails 9 = .ok (.putfield 259, 3) := dk_181 1 3 (dk_at dksX7_fails_0 9 rfl rfl)
theorem dX7_fails_12 : decode cX7_fails 12 = .ok (.aload_n 0, 1) := dk_42 (dk_at dksX7_fails_0 12 rfl rfl)
theorem dX7_fails_13 : decode cX7_fails 13 = .ok (.iload_n 2, 1) := dk_28 (dk_at dksX7_fails_0 13 rfl rfl)
theorem dX7_fails_14 : decode cX7_fails 14 = .ok (.putfield 42, 3) := dk_181 0 42 (dk_at dksX7_fails_0 14 rfl rfl)
theorem dX7_fails_17 : decode cX7_fails 17 = .ok (.return_, 1) := dk_177 (dk_at dksX7_fails_0 17 rfl rfl)
abbrev cX7_readsName : ByteArray := prog_42_method_94_code
def yX7_readsName : MethodName := ⟨RX7, "readsName", "()V"⟩
def dkwX7_readsName_11 : List UInt8 := [182, 0, 86, 42, 89, 180, 1, 12, 4, 96, 181, 1, 12, 42, 3, 181, 1, 22, 42, 3, 181, 1, 18, 177]
abbrev dktX7_readsName_11 : List UInt8 := dkwX7_readsName_11 ++ []
def dkwX7_readsName_10 : List UInt8 := [4, 96, 21, 5, 96, 21, 6, 133, 80, 167, 0, 18, 42, 180, 1, 3, 154, 0, 11, 42, 21, 7, 21, 4]
abbrev dktX7_readsName_10 : List UInt8 := dkwX7_readsName_10 ++ dktX7_readsName_11
def dkwX7_readsName_9 : List UInt8 := [16, 8, 161, 0, 9, 42, 5, 27, 182, 1, 9, 28, 153, 0, 24, 42, 180, 0, 27, 16, 33, 21, 4, 104]
abbrev dktX7_readsName_9 : List UInt8 := dkwX7_readsName_9 ++ dktX7_readsName_10
def dkwX7_readsName_8 : List UInt8 := [153, 0, 29, 21, 9, 28, 153, 0, 8, 16, 10, 167, 0, 4, 4, 163, 0, 14, 28, 154, 0, 16, 21, 7]
abbrev dktX7_readsName_8 : List UInt8 := dkwX7_readsName_8 ++ dktX7_readsName_9
def dkwX7_readsName_7 : List UInt8 := [167, 255, 156, 42, 180, 0, 253, 29, 100, 54, 9, 21, 9, 154, 0, 9, 42, 4, 27, 182, 1, 9, 21, 8]
abbrev dktX7_readsName_7 : List UInt8 := dkwX7_readsName_7 ++ dktX7_readsName_8
def dkwX7_readsName_6 : List UInt8 := [184, 0, 67, 153, 0, 7, 4, 167, 0, 4, 3, 54, 8, 42, 89, 180, 0, 253, 4, 96, 181, 0, 253]
abbrev dktX7_readsName_6 : List UInt8 := dkwX7_readsName_6 ++ dktX7_readsName_7
def dkwX7_readsName_5 : List UInt8 := [21, 7, 4, 100, 120, 130, 54, 5, 21, 8, 153, 0, 24, 28, 153, 0, 16, 21, 7, 4, 42, 182, 0, 63]
abbrev dktX7_readsName_5 : List UInt8 := dkwX7_readsName_5 ++ dktX7_readsName_6
def dkwX7_readsName_4 : List UInt8 := [153, 0, 31, 21, 6, 42, 21, 5, 4, 21, 7, 4, 100, 120, 182, 0, 111, 104, 54, 6, 21, 5, 4]
abbrev dktX7_readsName_4 : List UInt8 := dkwX7_readsName_4 ++ dktX7_readsName_5
def dkwX7_readsName_3 : List UInt8 := [42, 182, 1, 0, 16, 48, 100, 54, 7, 28, 153, 0, 44, 21, 7, 4, 42, 182, 0, 63, 184, 0, 67]
abbrev dktX7_readsName_3 : List UInt8 := dkwX7_readsName_3 ++ dktX7_readsName_4
def dkwX7_readsName_2 : List UInt8 := [21, 4, 182, 0, 169, 3, 54, 5, 4, 54, 6, 3, 54, 7, 4, 54, 8, 42, 182, 1, 6, 153, 0, 99]
abbrev dktX7_readsName_2 : List UInt8 := dkwX7_readsName_2 ++ dktX7_readsName_3
def dkwX7_readsName_1 : List UInt8 := [180, 0, 253, 4, 96, 181, 0, 253, 42, 180, 0, 253, 62, 16, 32, 42, 180, 1, 12, 96, 54, 4, 42]
abbrev dktX7_readsName_1 : List UInt8 := dkwX7_readsName_1 ++ dktX7_readsName_2
def dkwX7_readsName_0 : List UInt8 := [42, 180, 0, 253, 60, 42, 182, 1, 0, 16, 101, 160, 0, 7, 4, 167, 0, 4, 3, 61, 42, 89]
abbrev dktX7_readsName_0 : List UInt8 := dkwX7_readsName_0 ++ dktX7_readsName_1
theorem dksX7_readsName_0 : cX7_readsName.data.toList.drop 0 = dktX7_readsName_0 := by decide +kernel
theorem dksX7_readsName_1 : cX7_readsName.data.toList.drop 22 = dktX7_readsName_1 := dk_seg dksX7_readsName_0 22 rfl rfl
theorem dksX7_readsName_2 : cX7_readsName.data.toList.drop 45 = dktX7_readsName_2 := dk_seg dksX7_readsName_1 23 rfl rfl
theorem dksX7_readsName_3 : cX7_readsName.data.toList.drop 69 = dktX7_readsName_3 := dk_seg dksX7_readsName_2 24 rfl rfl
theorem dksX7_readsName_4 : cX7_readsName.data.toList.drop 92 = dktX7_readsName_4 := dk_seg dksX7_readsName_3 23 rfl rfl
theorem dksX7_readsName_5 : cX7_readsName.data.toList.drop 115 = dktX7_readsName_5 := dk_seg dksX7_readsName_4 23 rfl rfl
theorem dksX7_readsName_6 : cX7_readsName.data.toList.drop 139 = dktX7_readsName_6 := dk_seg dksX7_readsName_5 24 rfl rfl
theorem dksX7_readsName_7 : cX7_readsName.data.toList.drop 162 = dktX7_readsName_7 := dk_seg dksX7_readsName_6 23 rfl rfl
theorem dksX7_readsName_8 : cX7_readsName.data.toList.drop 186 = dktX7_readsName_8 := dk_seg dksX7_readsName_7 24 rfl rfl
theorem dksX7_readsName_9 : cX7_readsName.data.toList.drop 210 = dktX7_readsName_9 := dk_seg dksX7_readsName_8 24 rfl rfl
theorem dksX7_readsName_10 : cX7_readsName.data.toList.drop 234 = dktX7_readsName_10 := dk_seg dksX7_readsName_9 24 rfl rfl
theorem dksX7_readsName_11 : cX7_readsName.data.toList.drop 258 = dktX7_readsName_11 := dk_seg dksX7_readsName_10 24 rfl rfl
theorem dX7_readsName_0 : decode cX7_readsName 0 = .ok (.aload_n 0, 1) := dk_42 (dk_at dksX7_readsName_0 0 rfl rfl)
theorem dX7_readsName_1 : decode cX7_readsName 1 = .ok (.getfield 253, 3) := dk_180 0 253 (dk_at dksX7_readsName_0 1 rfl rfl)
theorem dX7_readsName_4 : decode cX7_readsName 4 = .ok (.istore_n 1, 1) := dk_60 (dk_at dksX7_readsName_0 4 rfl rfl)
theorem dX7_readsName_5 : decode cX7_readsName 5 = .ok (.aload_n 0, 1) := dk_42 (dk_at dksX7_readsName_0 5 rfl rfl)
theorem dX7_readsName_6 : decode cX7_readsName 6 = .ok (.invokevirtual 256, 3) := dk_182 1 0 (dk_at dksX7_readsName_0 6 rfl rfl)
theorem dX7_readsName_9 : decode cX7_readsName 9 = .ok (.bipush 101, 2) := dk_16 101 (dk_at dksX7_readsName_0 9 rfl rfl)
theorem dX7_readsName_11 : decode cX7_readsName 11 = .ok (.if_icmp .ne 7, 3) := dk_160 0 7 (dk_at dksX7_readsName_0 11 rfl rfl)
theorem dX7_readsName_14 : decode cX7_readsName 14 = .ok (.iconst 1, 1) := dk_4 (dk_at dksX7_readsName_0 14 rfl rfl)
theorem dX7_readsName_15 : decode cX7_readsName 15 = .ok (.goto 4, 3) := dk_167 0 4 (dk_at dksX7_readsName_0 15 rfl rfl)
theorem dX7_readsName_18 : decode cX7_readsName 18 = .ok (.iconst 0, 1) := dk_3 (dk_at dksX7_readsName_0 18 rfl rfl)
theorem dX7_readsName_19 : decode cX7_readsName 19 = .ok (.istore_n 2, 1) := dk_61 (dk_at dksX7_readsName_0 19 rfl rfl)
theorem dX7_readsName_20 : decode cX7_readsName 20 = .ok (.aload_n 0, 1) := dk_42 (dk_at dksX7_readsName_0 20 rfl rfl)
theorem dX7_readsName_21 : decode cX7_readsName 21 = .ok (.dup, 1) := dk_89 (dk_at dksX7_readsName_0 21 rfl rfl)
theorem dX7_readsName_22 : decode cX7_readsName 22 = .ok (.getfield 253, 3) := dk_180 0 253 (dk_at dksX7_readsName_1 0 rfl rfl)
theorem dX7_readsName_25 : decode cX7_readsName 25 = .ok (.iconst 1, 1) := dk_4 (dk_at dksX7_readsName_1 3 rfl rfl)
theorem dX7_readsName_26 : decode cX7_readsName 26 = .ok (.iadd, 1) := dk_96 (dk_at dksX7_readsName_1 4 rfl rfl)
theorem dX7_readsName_27 : decode cX7_readsName 27 = .ok (.putfield 253, 3) := dk_181 0 253 (dk_at dksX7_readsName_1 5 rfl rfl)
theorem dX7_readsName_30 : decode cX7_readsName 30 = .ok (.aload_n 0, 1) := dk_42 (dk_at dksX7_readsName_1 8 rfl rfl)
theorem dX7_readsName_31 : decode cX7_readsName 31 = .ok (.getfield 253, 3) := dk_180 0 253 (dk_at dksX7_readsName_1 9 rfl rfl)
theorem dX7_readsName_34 : decode cX7_readsName 34 = .ok (.istore_n 3, 1) := dk_62 (dk_at dksX7_readsName_1 12 rfl rfl)
theorem dX7_readsName_35 : decode cX7_readsName 35 = .ok (.bipush 32, 2) := dk_16 32 (dk_at dksX7_readsName_1 13 rfl rfl)
theorem dX7_readsName_37 : decode cX7_readsName 37 = .ok (.aload_n 0, 1) := dk_42 (dk_at dksX7_readsName_1 15 rfl rfl)
theorem dX7_readsName_38 : decode cX7_readsName 38 = .ok (.getfield 268, 3) := dk_180 1 12 (dk_at dksX7_readsName_1 16 rfl rfl)
theorem dX7_readsName_41 : decode cX7_readsName 41 = .ok (.iadd, 1) := dk_96 (dk_at dksX7_readsName_1 19 rfl rfl)
theorem dX7_readsName_42 : decode cX7_readsName 42 = .ok (.istore 4, 2) := dk_54 4 (dk_at dksX7_readsName_1 20 rfl rfl)
theorem dX7_readsName_44 : decode cX7_readsName 44 = .ok (.aload_n 0, 1) := dk_42 (dk_at dksX7_readsName_1 22 rfl rfl)
theorem dX7_readsName_45 : decode cX7_readsName 45 = .ok (.iload 4, 2) := dk_21 4 (dk_at dksX7_readsName_2 0 rfl rfl)
theorem dX7_readsName_47 : decode cX7_readsName 47 = .ok (.invokevirtual 169, 3) := dk_182 0 169 (dk_at dksX7_readsName_2 2 rfl rfl)
theorem dX7_readsName_50 : decode cX7_readsName 50 = .ok (.iconst 0, 1) := dk_3 (dk_at dksX7_readsName_2 5 rfl rfl)
theorem dX7_readsName_51 : decode cX7_readsName 51 = .ok (.istore 5, 2) := dk_54 5 (dk_at dksX7_readsName_2 6 rfl rfl)
theorem dX7_readsName_53 : decode cX7_readsName 53 = .ok (.iconst 1, 1) := dk_4 (dk_at dksX7_readsName_2 8 rfl rfl)
theorem dX7_readsName_54 : decode cX7_readsName 54 = .ok (.istore 6, 2) := dk_54 6 (dk_at dksX7_readsName_2 9 rfl rfl)
theorem dX7_readsName_56 : decode cX7_readsName 56 = .ok (.iconst 0, 1) := dk_3 (dk_at dksX7_readsName_2 11 rfl rfl)
theorem dX7_readsName_57 : decode cX7_readsName 57 = .ok (.istore 7, 2) := dk_54 7 (dk_at dksX7_readsName_2 12 rfl rfl)
theorem dX7_readsName_59 : decode cX7_readsName 59 = .ok (.iconst 1, 1) := dk_4 (dk_at dksX7_readsName_2 14 rfl rfl)
theorem dX7_readsName_60 : decode cX7_readsName 60 = .ok (.istore 8, 2) := dk_54 8 (dk_at dksX7_readsName_2 15 rfl rfl)
theorem dX7_readsName_62 : decode cX7_readsName 62 = .ok (.aload_n 0, 1) := dk_42 (dk_at dksX7_readsName_2 17 rfl rfl)
theorem dX7_readsName_63 : decode cX7_readsName 63 = .ok (.invokevirtual 262, 3) := dk_182 1 6 (dk_at dksX7_readsName_2 18 rfl rfl)
theorem dX7_readsName_66 : decode cX7_readsName 66 = .ok (.ifCond .eq 99, 3) := dk_153 0 99 (dk_at dksX7_readsName_2 21 rfl rfl)
theorem dX7_readsName_69 : decode cX7_readsName 69 = .ok (.aload_n 0, 1) := dk_42 (dk_at dksX7_readsName_3 0 rfl rfl)
theorem dX7_readsName_70 : decode cX7_readsName 70 = .ok (.invokevirtual 256, 3) := dk_182 1 0 (dk_at dksX7_readsName_3 1 rfl rfl)
theorem dX7_readsName_73 : decode cX7_readsName 73 = .ok (.bipush 48, 2) := dk_16 48 (dk_at dksX7_readsName_3 4 rfl rfl)
theorem dX7_readsName_75 : decode cX7_readsName 75 = .ok (.isub, 1) := dk_100 (dk_at dksX7_readsName_3 6 rfl rfl)
theorem dX7_readsName_76 : decode cX7_readsName 76 = .ok (.istore 7, 2) := dk_54 7 (dk_at dksX7_readsName_3 7 rfl rfl)
theorem dX7_readsName_78 : decode cX7_readsName 78 = .ok (.iload_n 2, 1) := dk_28 (dk_at dksX7_readsName_3 9 rfl rfl)
theorem dX7_readsName_79 : decode cX7_readsName 79 = .ok (.ifCond .eq 44, 3) := dk_153 0 44 (dk_at dksX7_readsName_3 10 rfl rfl)
theorem dX7_readsName_82 : decode cX7_readsName 82 = .ok (.iload 7, 2) := dk_21 7 (dk_at dksX7_readsName_3 13 rfl rfl)
theorem dX7_readsName_84 : decode cX7_readsName 84 = .ok (.iconst 1, 1) := dk_4 (dk_at dksX7_readsName_3 15 rfl rfl)
theorem dX7_readsName_85 : decode cX7_readsName 85 = .ok (.aload_n 0, 1) := dk_42 (dk_at dksX7_readsName_3 16 rfl rfl)
theorem dX7_readsName_86 : decode cX7_readsName 86 = .ok (.invokevirtual 63, 3) := dk_182 0 63 (dk_at dksX7_readsName_3 17 rfl rfl)
theorem dX7_readsName_89 : decode cX7_readsName 89 = .ok (.invokestatic 67, 3) := dk_184 0 67 (dk_at dksX7_readsName_3 20 rfl rfl)
theorem dX7_readsName_92 : decode cX7_readsName 92 = .ok (.ifCond .eq 31, 3) := dk_153 0 31 (dk_at dksX7_readsName_4 0 rfl rfl)
theorem dX7_readsName_95 : decode cX7_readsName 95 = .ok (.iload 6, 2) := dk_21 6 (dk_at dksX7_readsName_4 3 rfl rfl)
theorem dX7_readsName_97 : decode cX7_readsName 97 = .ok (.aload_n 0, 1) := dk_42 (dk_at dksX7_readsName_4 5 rfl rfl)
theorem dX7_readsName_98 : decode cX7_readsName 98 = .ok (.iload 5, 2) := dk_21 5 (dk_at dksX7_readsName_4 6 rfl rfl)
theorem dX7_readsName_100 : decode cX7_readsName 100 = .ok (.iconst 1, 1) := dk_4 (dk_at dksX7_readsName_4 8 rfl rfl)
theorem dX7_readsName_101 : decode cX7_readsName 101 = .ok (.iload 7, 2) := dk_21 7 (dk_at dksX7_readsName_4 9 rfl rfl)
theorem dX7_readsName_103 : decode cX7_readsName 103 = .ok (.iconst 1, 1) := dk_4 (dk_at dksX7_readsName_4 11 rfl rfl)
theorem dX7_readsName_104 : decode cX7_readsName 104 = .ok (.isub, 1) := dk_100 (dk_at dksX7_readsName_4 12 rfl rfl)
theorem dX7_readsName_105 : decode cX7_readsName 105 = .ok (.ishl, 1) := dk_120 (dk_at dksX7_readsName_4 13 rfl rfl)
theorem dX7_readsName_106 : decode cX7_readsName 106 = .ok (.invokevirtual 111, 3) := dk_182 0 111 (dk_at dksX7_readsName_4 14 rfl rfl)
theorem dX7_readsName_109 : decode cX7_readsName 109 = .ok (.imul, 1) := dk_104 (dk_at dksX7_readsName_4 17 rfl rfl)
theorem dX7_readsName_110 : decode cX7_readsName 110 = .ok (.istore 6, 2) := dk_54 6 (dk_at dksX7_readsName_4 18 rfl rfl)
theorem dX7_readsName_112 : decode cX7_readsName 112 = .ok (.iload 5, 2) := dk_21 5 (dk_at dksX7_readsName_4 20 rfl rfl)
theorem dX7_readsName_114 : decode cX7_readsName 114 = .ok (.iconst 1, 1) := dk_4 (dk_at dksX7_readsName_4 22 rfl rfl)
theorem dX7_readsName_115 : decode cX7_readsName 115 = .ok (.iload 7, 2) := dk_21 7 (dk_at dksX7_readsName_5 0 rfl rfl)
theorem dX7_readsName_117 : decode cX7_readsName 117 = .ok (.iconst 1, 1) := dk_4 (dk_at dksX7_readsName_5 2 rfl rfl)
theorem dX7_readsName_118 : decode cX7_readsName 118 = .ok (.isub, 1) := dk_100 (dk_at dksX7_readsName_5 3 rfl rfl)
theorem dX7_readsName_119 : decode cX7_readsName 119 = .ok (.ishl, 1) := dk_120 (dk_at dksX7_readsName_5 4 rfl rfl)
theorem dX7_readsName_120 : decode cX7_readsName 120 = .ok (.ixor, 1) := dk_130 (dk_at dksX7_readsName_5 5 rfl rfl)
theorem dX7_readsName_121 : decode cX7_readsName 121 = .ok (.istore 5, 2) := dk_54 5 (dk_at dksX7_readsName_5 6 rfl rfl)
theorem dX7_readsName_123 : decode cX7_readsName 123 = .ok (.iload 8, 2) := dk_21 8 (dk_at dksX7_readsName_5 8 rfl rfl)
theorem dX7_readsName_125 : decode cX7_readsName 125 = .ok (.ifCond .eq 24, 3) := dk_153 0 24 (dk_at dksX7_readsName_5 10 rfl rfl)
theorem dX7_readsName_128 : decode cX7_readsName 128 = .ok (.iload_n 2, 1) := dk_28 (dk_at dksX7_readsName_5 13 rfl rfl)
theorem dX7_readsName_129 : decode cX7_readsName 129 = .ok (.ifCond .eq 16, 3) := dk_153 0 16 (dk_at dksX7_readsName_5 14 rfl rfl)
theorem dX7_readsName_132 : decode cX7_readsName 132 = .ok (.iload 7, 2) := dk_21 7 (dk_at dksX7_readsName_5 17 rfl rfl)
theorem dX7_readsName_134 : decode cX7_readsName 134 = .ok (.iconst 1, 1) := dk_4 (dk_at dksX7_readsName_5 19 rfl rfl)
theorem dX7_readsName_135 : decode cX7_readsName 135 = .ok (.aload_n 0, 1) := dk_42 (dk_at dksX7_readsName_5 20 rfl rfl)
theorem dX7_readsName_136 : decode cX7_readsName 136 = .ok (.invokevirtual 63, 3) := dk_182 0 63 (dk_at dksX7_readsName_5 21 rfl rfl)
theorem dX7_readsName_139 : decode cX7_readsName 139 = .ok (.invokestatic 67, 3) := dk_184 0 67 (dk_at dksX7_readsName_6 0 rfl rfl)
theorem dX7_readsName_142 : decode cX7_readsName 142 = .ok (.ifCond .eq 7, 3) := dk_153 0 7 (dk_at dksX7_readsName_6 3 rfl rfl)
theorem dX7_readsName_145 : decode cX7_readsName 145 = .ok (.iconst 1, 1) := dk_4 (dk_at dksX7_readsName_6 6 rfl rfl)
theorem dX7_readsName_146 : decode cX7_readsName 146 = .ok (.goto 4, 3) := dk_167 0 4 (dk_at dksX7_readsName_6 7 rfl rfl)
theorem dX7_readsName_149 : decode cX7_readsName 149 = .ok (.iconst 0, 1) := dk_3 (dk_at dksX7_readsName_6 10 rfl rfl)
theorem dX7_readsName_150 : decode cX7_readsName 150 = .ok (.istore 8, 2) := dk_54 8 (dk_at dksX7_readsName_6 11 rfl rfl)
theorem dX7_readsName_152 : decode cX7_readsName 152 = .ok (.aload_n 0, 1) := dk_42 (dk_at dksX7_readsName_6 13 rfl rfl)
theorem dX7_readsName_153 : decode cX7_readsName 153 = .ok (.dup, 1) := dk_89 (dk_at dksX7_readsName_6 14 rfl rfl)
theorem dX7_readsName_154 : decode cX7_readsName 154 = .ok (.getfield 253, 3) := dk_180 0 253 (dk_at dksX7_readsName_6 15 rfl rfl)
theorem dX7_readsName_157 : decode cX7_readsName 157 = .ok (.iconst 1, 1) := dk_4 (dk_at dksX7_readsName_6 18 rfl rfl)
theorem dX7_readsName_158 : decode cX7_readsName 158 = .ok (.iadd, 1) := dk_96 (dk_at dksX7_readsName_6 19 rfl rfl)
theorem dX7_readsName_159 : decode cX7_readsName 159 = .ok (.putfield 253, 3) := dk_181 0 253 (dk_at dksX7_readsName_6 20 rfl rfl)
theorem dX7_readsName_162 : decode cX7_readsName 162 = .ok (.goto (-100), 3) := dk_167 255 156 (dk_at dksX7_readsName_7 0 rfl rfl)
theorem dX7_readsName_165 : decode cX7_readsName 165 = .ok (.aload_n 0, 1) := dk_42 (dk_at dksX7_readsName_7 3 rfl rfl)
theorem dX7_readsName_166 : decode cX7_readsName 166 = .ok (.getfield 253, 3) := dk_180 0 253 (dk_at dksX7_readsName_7 4 rfl rfl)
theorem dX7_readsName_169 : decode cX7_readsName 169 = .ok (.iload_n 3, 1) := dk_29 (dk_at dksX7_readsName_7 7 rfl rfl)
theorem dX7_readsName_170 : decode cX7_readsName 170 = .ok (.isub, 1) := dk_100 (dk_at dksX7_readsName_7 8 rfl rfl)
theorem dX7_readsName_171 : decode cX7_readsName 171 = .ok (.istore 9, 2) := dk_54 9 (dk_at dksX7_readsName_7 9 rfl rfl)
theorem dX7_readsName_173 : decode cX7_readsName 173 = .ok (.iload 9, 2) := dk_21 9 (dk_at dksX7_readsName_7 11 rfl rfl)
theorem dX7_readsName_175 : decode cX7_readsName 175 = .ok (.ifCond .ne 9, 3) := dk_154 0 9 (dk_at dksX7_readsName_7 13 rfl rfl)
theorem dX7_readsName_178 : decode cX7_readsName 178 = .ok (.aload_n 0, 1) := dk_42 (dk_at dksX7_readsName_7 16 rfl rfl)
theorem dX7_readsName_179 : decode cX7_readsName 179 = .ok (.iconst 1, 1) := dk_4 (dk_at dksX7_readsName_7 17 rfl rfl)
theorem dX7_readsName_180 : decode cX7_readsName 180 = .ok (.iload_n 1, 1) := dk_27 (dk_at dksX7_readsName_7 18 rfl rfl)
theorem dX7_readsName_181 : decode cX7_readsName 181 = .ok (.invokevirtual 265, 3) := dk_182 1 9 (dk_at dksX7_readsName_7 19 rfl rfl)
theorem dX7_readsName_184 : decode cX7_readsName 184 = .ok (.iload 8, 2) := dk_21 8 (dk_at dksX7_readsName_7 22 rfl rfl)
theorem dX7_readsName_186 : decode cX7_readsName 186 = .ok (.ifCond .eq 29, 3) := dk_153 0 29 (dk_at dksX7_readsName_8 0 rfl rfl)
theorem dX7_readsName_189 : decode cX7_readsName 189 = .ok (.iload 9, 2) := dk_21 9 (dk_at dksX7_readsName_8 3 rfl rfl)
theorem dX7_readsName_191 : decode cX7_readsName 191 = .ok (.iload_n 2, 1) := dk_28 (dk_at dksX7_readsName_8 5 rfl rfl)
theorem dX7_readsName_192 : decode cX7_readsName 192 = .ok (.ifCond .eq 8, 3) := dk_153 0 8 (dk_at dksX7_readsName_8 6 rfl rfl)
theorem dX7_readsName_195 : decode cX7_readsName 195 = .ok (.bipush 10, 2) := dk_16 10 (dk_at dksX7_readsName_8 9 rfl rfl)
theorem dX7_readsName_197 : decode cX7_readsName 197 = .ok (.goto 4, 3) := dk_167 0 4 (dk_at dksX7_readsName_8 11 rfl rfl)
theorem dX7_readsName_200 : decode cX7_readsName 200 = .ok (.iconst 1, 1) := dk_4 (dk_at dksX7_readsName_8 14 rfl rfl)
theorem dX7_readsName_201 : decode cX7_readsName 201 = .ok (.if_icmp .gt 14, 3) := dk_163 0 14 (dk_at dksX7_readsName_8 15 rfl rfl)
theorem dX7_readsName_204 : decode cX7_readsName 204 = .ok (.iload_n 2, 1) := dk_28 (dk_at dksX7_readsName_8 18 rfl rfl)
theorem dX7_readsName_205 : decode cX7_readsName 205 = .ok (.ifCond .ne 16, 3) := dk_154 0 16 (dk_at dksX7_readsName_8 19 rfl rfl)
theorem dX7_readsName_208 : decode cX7_readsName 208 = .ok (.iload 7, 2) := dk_21 7 (dk_at dksX7_readsName_8 22 rfl rfl)
theorem dX7_readsName_210 : decode cX7_readsName 210 = .ok (.bipush 8, 2) := dk_16 8 (dk_at dksX7_readsName_9 0 rfl rfl)
theorem dX7_readsName_212 : decode cX7_readsName 212 = .ok (.if_icmp .lt 9, 3) := dk_161 0 9 (dk_at dksX7_readsName_9 2 rfl rfl)
theorem dX7_readsName_215 : decode cX7_readsName 215 = .ok (.aload_n 0, 1) := dk_42 (dk_at dksX7_readsName_9 5 rfl rfl)
theorem dX7_readsName_216 : decode cX7_readsName 216 = .ok (.iconst 2, 1) := dk_5 (dk_at dksX7_readsName_9 6 rfl rfl)
theorem dX7_readsName_217 : decode cX7_readsName 217 = .ok (.iload_n 1, 1) := dk_27 (dk_at dksX7_readsName_9 7 rfl rfl)
theorem dX7_readsName_218 : decode cX7_readsName 218 = .ok (.invokevirtual 265, 3) := dk_182 1 9 (dk_at dksX7_readsName_9 8 rfl rfl)
theorem dX7_readsName_221 : decode cX7_readsName 221 = .ok (.iload_n 2, 1) := dk_28 (dk_at dksX7_readsName_9 11 rfl rfl)
theorem dX7_readsName_222 : decode cX7_readsName 222 = .ok (.ifCond .eq 24, 3) := dk_153 0 24 (dk_at dksX7_readsName_9 12 rfl rfl)
theorem dX7_readsName_225 : decode cX7_readsName 225 = .ok (.aload_n 0, 1) := dk_42 (dk_at dksX7_readsName_9 15 rfl rfl)
theorem dX7_readsName_226 : decode cX7_readsName 226 = .ok (.getfield 27, 3) := dk_180 0 27 (dk_at dksX7_readsName_9 16 rfl rfl)
theorem dX7_readsName_229 : decode cX7_readsName 229 = .ok (.bipush 33, 2) := dk_16 33 (dk_at dksX7_readsName_9 19 rfl rfl)
theorem dX7_readsName_231 : decode cX7_readsName 231 = .ok (.iload 4, 2) := dk_21 4 (dk_at dksX7_readsName_9 21 rfl rfl)
theorem dX7_readsName_233 : decode cX7_readsName 233 = .ok (.imul, 1) := dk_104 (dk_at dksX7_readsName_9 23 rfl rfl)
theorem dX7_readsName_234 : decode cX7_readsName 234 = .ok (.iconst 1, 1) := dk_4 (dk_at dksX7_readsName_10 0 rfl rfl)
theorem dX7_readsName_235 : decode cX7_readsName 235 = .ok (.iadd, 1) := dk_96 (dk_at dksX7_readsName_10 1 rfl rfl)
theorem dX7_readsName_236 : decode cX7_readsName 236 = .ok (.iload 5, 2) := dk_21 5 (dk_at dksX7_readsName_10 2 rfl rfl)
theorem dX7_readsName_238 : decode cX7_readsName 238 = .ok (.iadd, 1) := dk_96 (dk_at dksX7_readsName_10 4 rfl rfl)
theorem dX7_readsName_239 : decode cX7_readsName 239 = .ok (.iload 6, 2) := dk_21 6 (dk_at dksX7_readsName_10 5 rfl rfl)
theorem dX7_readsName_241 : decode cX7_readsName 241 = .ok (.i2l, 1) := dk_133 (dk_at dksX7_readsName_10 7 rfl rfl)
theorem dX7_readsName_242 : decode cX7_readsName 242 = .ok (.lastore, 1) := dk_80 (dk_at dksX7_readsName_10 8 rfl rfl)
theorem dX7_readsName_243 : decode cX7_readsName 243 = .ok (.goto 18, 3) := dk_167 0 18 (dk_at dksX7_readsName_10 9 rfl rfl)
theorem dX7_readsName_246 : decode cX7_readsName 246 = .ok (.aload_n 0, 1) := dk_42 (dk_at dksX7_readsName_10 12 rfl rfl)
theorem dX7_readsName_247 : decode cX7_readsName 247 = .ok (.getfield 259, 3) := dk_180 1 3 (dk_at dksX7_readsName_10 13 rfl rfl)
theorem dX7_readsName_250 : decode cX7_readsName 250 = .ok (.ifCond .ne 11, 3) := dk_154 0 11 (dk_at dksX7_readsName_10 16 rfl rfl)
theorem dX7_readsName_253 : decode cX7_readsName 253 = .ok (.aload_n 0, 1) := dk_42 (dk_at dksX7_readsName_10 19 rfl rfl)
theorem dX7_readsName_254 : decode cX7_readsName 254 = .ok (.iload 7, 2) := dk_21 7 (dk_at dksX7_readsName_10 20 rfl rfl)
theorem dX7_readsName_256 : decode cX7_readsName 256 = .ok (.iload 4, 2) := dk_21 4 (dk_at dksX7_readsName_10 22 rfl rfl)
theorem dX7_readsName_258 : decode cX7_readsName 258 = .ok (.invokevirtual 86, 3) := dk_182 0 86 (dk_at dksX7_readsName_11 0 rfl rfl)
theorem dX7_readsName_261 : decode cX7_readsName 261 = .ok (.aload_n 0, 1) := dk_42 (dk_at dksX7_readsName_11 3 rfl rfl)
theorem dX7_readsName_262 : decode cX7_readsName 262 = .ok (.dup, 1) := dk_89 (dk_at dksX7_readsName_11 4 rfl rfl)
theorem dX7_readsName_263 : decode cX7_readsName 263 = .ok (.getfield 268, 3) := dk_180 1 12 (dk_at dksX7_readsName_11 5 rfl rfl)
theorem dX7_readsName_266 : decode cX7_readsName 266 = .ok (.iconst 1, 1) := dk_4 (dk_at dksX7_readsName_11 8 rfl rfl)
theorem dX7_readsName_267 : decode cX7_readsName 267 = .ok (.iadd, 1) := dk_96 (dk_at dksX7_readsName_11 9 rfl rfl)
theorem dX7_readsName_268 : decode cX7_readsName 268 = .ok (.putfield 268, 3) := dk_181 1 12 (dk_at dksX7_readsName_11 10 rfl rfl)
theorem dX7_readsName_271 : decode cX7_readsName 271 = .ok (.aload_n 0, 1) := dk_42 (dk_at dksX7_readsName_11 13 rfl rfl)
theorem dX7_readsName_272 : decode cX7_readsName 272 = .ok (.iconst 0, 1) := dk_3 (dk_at dksX7_readsName_11 14 rfl rfl)
theorem dX7_readsName_273 : decode cX7_readsName 273 = .ok (.putfield 278, 3) := dk_181 1 22 (dk_at dksX7_readsName_11 15 rfl rfl)
theorem dX7_readsName_276 : decode cX7_readsName 276 = .ok (.aload_n 0, 1) := dk_42 (dk_at dksX7_readsName_11 18 rfl rfl)
theorem dX7_readsName_277 : decode cX7_readsName 277 = .ok (.iconst 0, 1) := dk_3 (dk_at dksX7_readsName_11 19 rfl rfl)
theorem dX7_readsName_278 : decode cX7_readsName 278 = .ok (.putfield 274, 3) := dk_181 1 18 (dk_at dksX7_readsName_11 20 rfl rfl)
theorem dX7_readsName_281 : decode cX7_readsName 281 = .ok (.return_, 1) := dk_177 (dk_at dksX7_readsName_11 23 rfl rfl)
abbrev cX7_opens : ByteArray := prog_42_method_99_code
def yX7_opens : MethodName := ⟨RX7, "opens", "()V"⟩
def dkwX7_opens_2 : List UInt8 := [181, 1, 46, 177]
abbrev dktX7_opens_2 : List UInt8 := dkwX7_opens_2 ++ []
def dkwX7_opens_1 : List UInt8 := [42, 89, 180, 1, 40, 4, 96, 181, 1, 40, 42, 89, 180, 0, 253, 4, 96, 181, 0, 253, 42, 4]
abbrev dktX7_opens_1 : List UInt8 := dkwX7_opens_1 ++ dktX7_opens_2
def dkwX7_opens_0 : List UInt8 := [42, 180, 1, 40, 16, 12, 160, 0, 12, 42, 7, 42, 180, 0, 253, 182, 1, 9, 42, 16, 40, 182, 1, 43]
abbrev dktX7_opens_0 : List UInt8 := dkwX7_opens_0 ++ dktX7_opens_1
theorem dksX7_opens_0 : cX7_opens.data.toList.drop 0 = dktX7_opens_0 := by decide +kernel
theorem dksX7_opens_1 : cX7_opens.data.toList.drop 24 = dktX7_opens_1 := dk_seg dksX7_opens_0 24 rfl rfl
theorem dksX7_opens_2 : cX7_opens.data.toList.drop 46 = dktX7_opens_2 := dk_seg dksX7_opens_1 22 rfl rfl
theorem dX7_opens_0 : decode cX7_opens 0 = .ok (.aload_n 0, 1) := dk_42 (dk_at dksX7_opens_0 0 rfl rfl)
theorem dX7_opens_1 : decode cX7_opens 1 = .ok (.getfield 296, 3) := dk_180 1 40 (dk_at dksX7_opens_0 1 rfl rfl)
theorem dX7_opens_4 : decode cX7_opens 4 = .ok (.bipush 12, 2) := dk_16 12 (dk_at dksX7_opens_0 4 rfl rfl)
theorem dX7_opens_6 : decode cX7_opens 6 = .ok (.if_icmp .ne 12, 3) := dk_160 0 12 (dk_at dksX7_opens_0 6 rfl rfl)
theorem dX7_opens_9 : decode cX7_opens 9 = .ok (.aload_n 0, 1) := dk_42 (dk_at dksX7_opens_0 9 rfl rfl)
theorem dX7_opens_10 : decode cX7_opens 10 = .ok (.iconst 4, 1) := dk_7 (dk_at dksX7_opens_0 10 rfl rfl)
theorem dX7_opens_11 : decode cX7_opens 11 = .ok (.aload_n 0, 1) := dk_42 (dk_at dksX7_opens_0 11 rfl rfl)
theorem dX7_opens_12 : decode cX7_opens 12 = .ok (.getfield 253, 3) := dk_180 0 253 (dk_at dksX7_opens_0 12 rfl rfl)
theorem dX7_opens_15 : decode cX7_opens 15 = .ok (.invokevirtual 265, 3) := dk_182 1 9 (dk_at dksX7_opens_0 15 rfl rfl)
theorem dX7_opens_18 : decode cX7_opens 18 = .ok (.aload_n 0, 1) := dk_42 (dk_at dksX7_opens_0 18 rfl rfl)
theorem dX7_opens_19 : decode cX7_opens 19 = .ok (.bipush 40, 2) := dk_16 40 (dk_at dksX7_opens_0 19 rfl rfl)
theorem dX7_opens_21 : decode cX7_opens 21 = .ok (.invokevirtual 299, 3) := dk_182 1 43 (dk_at dksX7_opens_0 21 rfl rfl)
theorem dX7_opens_24 : decode cX7_opens 24 = .ok (.aload_n 0, 1) := dk_42 (dk_at dksX7_opens_1 0 rfl rfl)
theorem dX7_opens_25 : decode cX7_opens 25 = .ok (.dup, 1) := dk_89 (dk_at dksX7_opens_1 1 rfl rfl)
theorem dX7_opens_26 : decode cX7_opens 26 = .ok (.getfield 296, 3) := dk_180 1 40 (dk_at dksX7_opens_1 2 rfl rfl)
theorem dX7_opens_29 : decode cX7_opens 29 = .ok (.iconst 1, 1) := dk_4 (dk_at dksX7_opens_1 5 rfl rfl)
theorem dX7_opens_30 : decode cX7_opens 30 = .ok (.iadd, 1) := dk_96 (dk_at dksX7_opens_1 6 rfl rfl)
theorem dX7_opens_31 : decode cX7_opens 31 = .ok (.putfield 296, 3) := dk_181 1 40 (dk_at dksX7_opens_1 7 rfl rfl)
theorem dX7_opens_34 : decode cX7_opens 34 = .ok (.aload_n 0, 1) := dk_42 (dk_at dksX7_opens_1 10 rfl rfl)
theorem dX7_opens_35 : decode cX7_opens 35 = .ok (.dup, 1) := dk_89 (dk_at dksX7_opens_1 11 rfl rfl)
theorem dX7_opens_36 : decode cX7_opens 36 = .ok (.getfield 253, 3) := dk_180 0 253 (dk_at dksX7_opens_1 12 rfl rfl)
theorem dX7_opens_39 : decode cX7_opens 39 = .ok (.iconst 1, 1) := dk_4 (dk_at dksX7_opens_1 15 rfl rfl)
theorem dX7_opens_40 : decode cX7_opens 40 = .ok (.iadd, 1) := dk_96 (dk_at dksX7_opens_1 16 rfl rfl)
theorem dX7_opens_41 : decode cX7_opens 41 = .ok (.putfield 253, 3) := dk_181 0 253 (dk_at dksX7_opens_1 17 rfl rfl)
theorem dX7_opens_44 : decode cX7_opens 44 = .ok (.aload_n 0, 1) := dk_42 (dk_at dksX7_opens_1 20 rfl rfl)
theorem dX7_opens_45 : decode cX7_opens 45 = .ok (.iconst 1, 1) := dk_4 (dk_at dksX7_opens_1 21 rfl rfl)
theorem dX7_opens_46 : decode cX7_opens 46 = .ok (.putfield 302, 3) := dk_181 1 46 (dk_at dksX7_opens_2 0 rfl rfl)
theorem dX7_opens_49 : decode cX7_opens 49 = .ok (.return_, 1) := dk_177 (dk_at dksX7_opens_2 3 rfl rfl)
abbrev cX7_readsBehind : ByteArray := prog_42_method_102_code
def yX7_readsBehind : MethodName := ⟨RX7, "readsBehind", "()Z"⟩
def dkwX7_readsBehind_7 : List UInt8 := [181, 1, 22, 167, 0, 12, 42, 4, 42, 180, 0, 253, 182, 1, 9, 4, 172]
abbrev dktX7_readsBehind_7 : List UInt8 := dkwX7_readsBehind_7 ++ []
def dkwX7_readsBehind_6 : List UInt8 := [27, 184, 1, 34, 182, 1, 49, 42, 27, 182, 1, 43, 42, 89, 180, 0, 253, 4, 96, 181, 0, 253, 42, 4]
abbrev dktX7_readsBehind_6 : List UInt8 := dkwX7_readsBehind_6 ++ dktX7_readsBehind_7
def dkwX7_readsBehind_5 : List UInt8 := [158, 0, 10, 42, 182, 1, 64, 167, 0, 56, 27, 184, 1, 34, 158, 0, 40, 27, 16, 110, 159, 0, 34, 42]
abbrev dktX7_readsBehind_5 : List UInt8 := dkwX7_readsBehind_5 ++ dktX7_readsBehind_6
def dkwX7_readsBehind_4 : List UInt8 := [96, 181, 0, 253, 42, 3, 181, 1, 18, 167, 0, 76, 27, 16, 41, 160, 0, 17, 42, 180, 1, 40]
abbrev dktX7_readsBehind_4 : List UInt8 := dkwX7_readsBehind_4 ++ dktX7_readsBehind_5
def dkwX7_readsBehind_3 : List UInt8 := [180, 1, 12, 96, 4, 100, 16, 32, 42, 180, 1, 12, 96, 4, 100, 182, 0, 140, 42, 89, 180, 0, 253, 4]
abbrev dktX7_readsBehind_3 : List UInt8 := dkwX7_readsBehind_3 ++ dktX7_readsBehind_4
def dkwX7_readsBehind_2 : List UInt8 := [159, 0, 9, 27, 16, 33, 160, 0, 54, 42, 27, 16, 126, 160, 0, 7, 3, 167, 0, 4, 6, 16, 32, 42]
abbrev dktX7_readsBehind_2 : List UInt8 := dkwX7_readsBehind_2 ++ dktX7_readsBehind_3
def dkwX7_readsBehind_1 : List UInt8 := [27, 16, 47, 160, 0, 17, 42, 180, 1, 18, 153, 0, 10, 42, 182, 1, 61, 167, 0, 139, 27, 16, 126]
abbrev dktX7_readsBehind_1 : List UInt8 := dkwX7_readsBehind_1 ++ dktX7_readsBehind_2
def dkwX7_readsBehind_0 : List UInt8 := [42, 182, 1, 25, 60, 27, 2, 160, 0, 17, 42, 180, 1, 40, 154, 0, 10, 42, 4, 182, 1, 49, 3, 172]
abbrev dktX7_readsBehind_0 : List UInt8 := dkwX7_readsBehind_0 ++ dktX7_readsBehind_1
theorem dksX7_readsBehind_0 : cX7_readsBehind.data.toList.drop 0 = dktX7_readsBehind_0 := by decide +kernel
theorem dksX7_readsBehind_1 : cX7_readsBehind.data.toList.drop 24 = dktX7_readsBehind_1 := dk_seg dksX7_readsBehind_0 24 rfl rfl
theorem dksX7_readsBehind_2 : cX7_readsBehind.data.toList.drop 47 = dktX7_readsBehind_2 := dk_seg dksX7_readsBehind_1 23 rfl rfl
theorem dksX7_readsBehind_3 : cX7_readsBehind.data.toList.drop 71 = dktX7_readsBehind_3 := dk_seg dksX7_readsBehind_2 24 rfl rfl
theorem dksX7_readsBehind_4 : cX7_readsBehind.data.toList.drop 95 = dktX7_readsBehind_4 := dk_seg dksX7_readsBehind_3 24 rfl rfl
theorem dksX7_readsBehind_5 : cX7_readsBehind.data.toList.drop 117 = dktX7_readsBehind_5 := dk_seg dksX7_readsBehind_4 22 rfl rfl
theorem dksX7_readsBehind_6 : cX7_readsBehind.data.toList.drop 141 = dktX7_readsBehind_6 := dk_seg dksX7_readsBehind_5 24 rfl rfl
theorem dksX7_readsBehind_7 : cX7_readsBehind.data.toList.drop 165 = dktX7_readsBehind_7 := dk_seg dksX7_readsBehind_6 24 rfl rfl
theorem dX7_readsBehind_0 : decode cX7_readsBehind 0 = .ok (.aload_n 0, 1) := dk_42 (dk_at dksX7_readsBehind_0 0 rfl rfl)
theorem dX7_readsBehind_1 : decode cX7_readsBehind 1 = .ok (.invokevirtual 281, 3) := dk_182 1 25 (dk_at dksX7_readsBehind_0 1 rfl rfl)
theorem dX7_readsBehind_4 : decode cX7_readsBehind 4 = .ok (.istore_n 1, 1) := dk_60 (dk_at dksX7_readsBehind_0 4 rfl rfl)
theorem dX7_readsBehind_5 : decode cX7_readsBehind 5 = .ok (.iload_n 1, 1) := dk_27 (dk_at dksX7_readsBehind_0 5 rfl rfl)
theorem dX7_readsBehind_6 : decode cX7_readsBehind 6 = .ok (.iconst (-1), 1) := dk_2 (dk_at dksX7_readsBehind_0 6 rfl rfl)
theorem dX7_readsBehind_7 : decode cX7_readsBehind 7 = .ok (.if_icmp .ne 17, 3) := dk_160 0 17 (dk_at dksX7_readsBehind_0 7 rfl rfl)
theorem dX7_readsBehind_10 : decode cX7_readsBehind 10 = .ok (.aload_n 0, 1) := dk_42 (dk_at dksX7_readsBehind_0 10 rfl rfl)
theorem dX7_readsBehind_11 : decode cX7_readsBehind 11 = .ok (.getfield 296, 3) := dk_180 1 40 (dk_at dksX7_readsBehind_0 11 rfl rfl)
theorem dX7_readsBehind_14 : decode cX7_readsBehind 14 = .ok (.ifCond .ne 10, 3) := dk_154 0 10 (dk_at dksX7_readsBehind_0 14 rfl rfl)
theorem dX7_readsBehind_17 : decode cX7_readsBehind 17 = .ok (.aload_n 0, 1) := dk_42 (dk_at dksX7_readsBehind_0 17 rfl rfl)
theorem dX7_readsBehind_18 : decode cX7_readsBehind 18 = .ok (.iconst 1, 1) := dk_4 (dk_at dksX7_readsBehind_0 18 rfl rfl)
theorem dX7_readsBehind_19 : decode cX7_readsBehind 19 = .ok (.invokevirtual 305, 3) := dk_182 1 49 (dk_at dksX7_readsBehind_0 19 rfl rfl)
theorem dX7_readsBehind_22 : decode cX7_readsBehind 22 = .ok (.iconst 0, 1) := dk_3 (dk_at dksX7_readsBehind_0 22 rfl rfl)
theorem dX7_readsBehind_23 : decode cX7_readsBehind 23 = .ok (.ireturn, 1) := dk_172 (dk_at dksX7_readsBehind_0 23 rfl rfl)
theorem dX7_readsBehind_24 : decode cX7_readsBehind 24 = .ok (.iload_n 1, 1) := dk_27 (dk_at dksX7_readsBehind_1 0 rfl rfl)
theorem dX7_readsBehind_25 : decode cX7_readsBehind 25 = .ok (.bipush 47, 2) := dk_16 47 (dk_at dksX7_readsBehind_1 1 rfl rfl)
theorem dX7_readsBehind_27 : decode cX7_readsBehind 27 = .ok (.if_icmp .ne 17, 3) := dk_160 0 17 (dk_at dksX7_readsBehind_1 3 rfl rfl)
theorem dX7_readsBehind_30 : decode cX7_readsBehind 30 = .ok (.aload_n 0, 1) := dk_42 (dk_at dksX7_readsBehind_1 6 rfl rfl)
theorem dX7_readsBehind_31 : decode cX7_readsBehind 31 = .ok (.getfield 274, 3) := dk_180 1 18 (dk_at dksX7_readsBehind_1 7 rfl rfl)
theorem dX7_readsBehind_34 : decode cX7_readsBehind 34 = .ok (.ifCond .eq 10, 3) := dk_153 0 10 (dk_at dksX7_readsBehind_1 10 rfl rfl)
theorem dX7_readsBehind_37 : decode cX7_readsBehind 37 = .ok (.aload_n 0, 1) := dk_42 (dk_at dksX7_readsBehind_1 13 rfl rfl)
theorem dX7_readsBehind_38 : decode cX7_readsBehind 38 = .ok (.invokevirtual 317, 3) := dk_182 1 61 (dk_at dksX7_readsBehind_1 14 rfl rfl)
theorem dX7_readsBehind_41 : decode cX7_readsBehind 41 = .ok (.goto 139, 3) := dk_167 0 139 (dk_at dksX7_readsBehind_1 17 rfl rfl)
theorem dX7_readsBehind_44 : decode cX7_readsBehind 44 = .ok (.iload_n 1, 1) := dk_27 (dk_at dksX7_readsBehind_1 20 rfl rfl)
theorem dX7_readsBehind_45 : decode cX7_readsBehind 45 = .ok (.bipush 126, 2) := dk_16 126 (dk_at dksX7_readsBehind_1 21 rfl rfl)
theorem dX7_readsBehind_47 : decode cX7_readsBehind 47 = .ok (.if_icmp .eq 9, 3) := dk_159 0 9 (dk_at dksX7_readsBehind_2 0 rfl rfl)
theorem dX7_readsBehind_50 : decode cX7_readsBehind 50 = .ok (.iload_n 1, 1) := dk_27 (dk_at dksX7_readsBehind_2 3 rfl rfl)
theorem dX7_readsBehind_51 : decode cX7_readsBehind 51 = .ok (.bipush 33, 2) := dk_16 33 (dk_at dksX7_readsBehind_2 4 rfl rfl)
theorem dX7_readsBehind_53 : decode cX7_readsBehind 53 = .ok (.if_icmp .ne 54, 3) := dk_160 0 54 (dk_at dksX7_readsBehind_2 6 rfl rfl)
theorem dX7_readsBehind_56 : decode cX7_readsBehind 56 = .ok (.aload_n 0, 1) := dk_42 (dk_at dksX7_readsBehind_2 9 rfl rfl)
theorem dX7_readsBehind_57 : decode cX7_readsBehind 57 = .ok (.iload_n 1, 1) := dk_27 (dk_at dksX7_readsBehind_2 10 rfl rfl)
theorem dX7_readsBehind_58 : decode cX7_readsBehind 58 = .ok (.bipush 126, 2) := dk_16 126 (dk_at dksX7_readsBehind_2 11 rfl rfl)
theorem dX7_readsBehind_60 : decode cX7_readsBehind 60 = .ok (.if_icmp .ne 7, 3) := dk_160 0 7 (dk_at dksX7_readsBehind_2 13 rfl rfl)
theorem dX7_readsBehind_63 : decode cX7_readsBehind 63 = .ok (.iconst 0, 1) := dk_3 (dk_at dksX7_readsBehind_2 16 rfl rfl)
theorem dX7_readsBehind_64 : decode cX7_readsBehind 64 = .ok (.goto 4, 3) := dk_167 0 4 (dk_at dksX7_readsBehind_2 17 rfl rfl)
theorem dX7_readsBehind_67 : decode cX7_readsBehind 67 = .ok (.iconst 3, 1) := dk_6 (dk_at dksX7_readsBehind_2 20 rfl rfl)
theorem dX7_readsBehind_68 : decode cX7_readsBehind 68 = .ok (.bipush 32, 2) := dk_16 32 (dk_at dksX7_readsBehind_2 21 rfl rfl)
theorem dX7_readsBehind_70 : decode cX7_readsBehind 70 = .ok (.aload_n 0, 1) := dk_42 (dk_at dksX7_readsBehind_2 23 rfl rfl)
theorem dX7_readsBehind_71 : decode cX7_readsBehind 71 = .ok (.getfield 268, 3) := dk_180 1 12 (dk_at dksX7_readsBehind_3 0 rfl rfl)
theorem dX7_readsBehind_74 : decode cX7_readsBehind 74 = .ok (.iadd, 1) := dk_96 (dk_at dksX7_readsBehind_3 3 rfl rfl)
theorem dX7_readsBehind_75 : decode cX7_readsBehind 75 = .ok (.iconst 1, 1) := dk_4 (dk_at dksX7_readsBehind_3 4 rfl rfl)
theorem dX7_readsBehind_76 : decode cX7_readsBehind 76 = .ok (.isub, 1) := dk_100 (dk_at dksX7_readsBehind_3 5 rfl rfl)
theorem dX7_readsBehind_77 : decode cX7_readsBehind 77 = .ok (.bipush 32, 2) := dk_16 32 (dk_at dksX7_readsBehind_3 6 rfl rfl)
theorem dX7_readsBehind_79 : decode cX7_readsBehind 79 = .ok (.aload_n 0, 1) := dk_42 (dk_at dksX7_readsBehind_3 8 rfl rfl)
theorem dX7_readsBehind_80 : decode cX7_readsBehind 80 = .ok (.getfield 268, 3) := dk_180 1 12 (dk_at dksX7_readsBehind_3 9 rfl rfl)
theorem dX7_readsBehind_83 : decode cX7_readsBehind 83 = .ok (.iadd, 1) := dk_96 (dk_at dksX7_readsBehind_3 12 rfl rfl)
theorem dX7_readsBehind_84 : decode cX7_readsBehind 84 = .ok (.iconst 1, 1) := dk_4 (dk_at dksX7_readsBehind_3 13 rfl rfl)
theorem dX7_readsBehind_85 : decode cX7_readsBehind 85 = .ok (.isub, 1) := dk_100 (dk_at dksX7_readsBehind_3 14 rfl rfl)
theorem dX7_readsBehind_86 : decode cX7_readsBehind 86 = .ok (.invokevirtual 140, 3) := dk_182 0 140 (dk_at dksX7_readsBehind_3 15 rfl rfl)
theorem dX7_readsBehind_89 : decode cX7_readsBehind 89 = .ok (.aload_n 0, 1) := dk_42 (dk_at dksX7_readsBehind_3 18 rfl rfl)
theorem dX7_readsBehind_90 : decode cX7_readsBehind 90 = .ok (.dup, 1) := dk_89 (dk_at dksX7_readsBehind_3 19 rfl rfl)
theorem dX7_readsBehind_91 : decode cX7_readsBehind 91 = .ok (.getfield 253, 3) := dk_180 0 253 (dk_at dksX7_readsBehind_3 20 rfl rfl)
theorem dX7_readsBehind_94 : decode cX7_readsBehind 94 = .ok (.iconst 1, 1) := dk_4 (dk_at dksX7_readsBehind_3 23 rfl rfl)
theorem dX7_readsBehind_95 : decode cX7_readsBehind 95 = .ok (.iadd, 1) := dk_96 (dk_at dksX7_readsBehind_4 0 rfl rfl)
theorem dX7_readsBehind_96 : decode cX7_readsBehind 96 = .ok (.putfield 253, 3) := dk_181 0 253 (dk_at dksX7_readsBehind_4 1 rfl rfl)
theorem dX7_readsBehind_99 : decode cX7_readsBehind 99 = .ok (.aload_n 0, 1) := dk_42 (dk_at dksX7_readsBehind_4 4 rfl rfl)
theorem dX7_readsBehind_100 : decode cX7_readsBehind 100 = .ok (.iconst 0, 1) := dk_3 (dk_at dksX7_readsBehind_4 5 rfl rfl)
theorem dX7_readsBehind_101 : decode cX7_readsBehind 101 = .ok (.putfield 274, 3) := dk_181 1 18 (dk_at dksX7_readsBehind_4 6 rfl rfl)
theorem dX7_readsBehind_104 : decode cX7_readsBehind 104 = .ok (.goto 76, 3) := dk_167 0 76 (dk_at dksX7_readsBehind_4 9 rfl rfl)
theorem dX7_readsBehind_107 : decode cX7_readsBehind 107 = .ok (.iload_n 1, 1) := dk_27 (dk_at dksX7_readsBehind_4 12 rfl rfl)
theorem dX7_readsBehind_108 : decode cX7_readsBehind 108 = .ok (.bipush 41, 2) := dk_16 41 (dk_at dksX7_readsBehind_4 13 rfl rfl)
theorem dX7_readsBehind_110 : decode cX7_readsBehind 110 = .ok (.if_icmp .ne 17, 3) := dk_160 0 17 (dk_at dksX7_readsBehind_4 15 rfl rfl)
theorem dX7_readsBehind_113 : decode cX7_readsBehind 113 = .ok (.aload_n 0, 1) := dk_42 (dk_at dksX7_readsBehind_4 18 rfl rfl)
theorem dX7_readsBehind_114 : decode cX7_readsBehind 114 = .ok (.getfield 296, 3) := dk_180 1 40 (dk_at dksX7_readsBehind_4 19 rfl rfl)
theorem dX7_readsBehind_117 : decode cX7_readsBehind 117 = .ok (.ifCond .le 10, 3) := dk_158 0 10 (dk_at dksX7_readsBehind_5 0 rfl rfl)
theorem dX7_readsBehind_120 : decode cX7_readsBehind 120 = .ok (.aload_n 0, 1) := dk_42 (dk_at dksX7_readsBehind_5 3 rfl rfl)
theorem dX7_readsBehind_121 : decode cX7_readsBehind 121 = .ok (.invokevirtual 320, 3) := dk_182 1 64 (dk_at dksX7_readsBehind_5 4 rfl rfl)
theorem dX7_readsBehind_124 : decode cX7_readsBehind 124 = .ok (.goto 56, 3) := dk_167 0 56 (dk_at dksX7_readsBehind_5 7 rfl rfl)
theorem dX7_readsBehind_127 : decode cX7_readsBehind 127 = .ok (.iload_n 1, 1) := dk_27 (dk_at dksX7_readsBehind_5 10 rfl rfl)
theorem dX7_readsBehind_128 : decode cX7_readsBehind 128 = .ok (.invokestatic 290, 3) := dk_184 1 34 (dk_at dksX7_readsBehind_5 11 rfl rfl)
theorem dX7_readsBehind_131 : decode cX7_readsBehind 131 = .ok (.ifCond .le 40, 3) := dk_158 0 40 (dk_at dksX7_readsBehind_5 14 rfl rfl)
theorem dX7_readsBehind_134 : decode cX7_readsBehind 134 = .ok (.iload_n 1, 1) := dk_27 (dk_at dksX7_readsBehind_5 17 rfl rfl)
theorem dX7_readsBehind_135 : decode cX7_readsBehind 135 = .ok (.bipush 110, 2) := dk_16 110 (dk_at dksX7_readsBehind_5 18 rfl rfl)
theorem dX7_readsBehind_137 : decode cX7_readsBehind 137 = .ok (.if_icmp .eq 34, 3) := dk_159 0 34 (dk_at dksX7_readsBehind_5 20 rfl rfl)
theorem dX7_readsBehind_140 : decode cX7_readsBehind 140 = .ok (.aload_n 0, 1) := dk_42 (dk_at dksX7_readsBehind_5 23 rfl rfl)
theorem dX7_readsBehind_141 : decode cX7_readsBehind 141 = .ok (.iload_n 1, 1) := dk_27 (dk_at dksX7_readsBehind_6 0 rfl rfl)
theorem dX7_readsBehind_142 : decode cX7_readsBehind 142 = .ok (.invokestatic 290, 3) := dk_184 1 34 (dk_at dksX7_readsBehind_6 1 rfl rfl)
theorem dX7_readsBehind_145 : decode cX7_readsBehind 145 = .ok (.invokevirtual 305, 3) := dk_182 1 49 (dk_at dksX7_readsBehind_6 4 rfl rfl)
theorem dX7_readsBehind_148 : decode cX7_readsBehind 148 = .ok (.aload_n 0, 1) := dk_42 (dk_at dksX7_readsBehind_6 7 rfl rfl)
theorem dX7_readsBehind_149 : decode cX7_readsBehind 149 = .ok (.iload_n 1, 1) := dk_27 (dk_at dksX7_readsBehind_6 8 rfl rfl)
theorem dX7_readsBehind_150 : decode cX7_readsBehind 150 = .ok (.invokevirtual 299, 3) := dk_182 1 43 (dk_at dksX7_readsBehind_6 9 rfl rfl)
theorem dX7_readsBehind_153 : decode cX7_readsBehind 153 = .ok (.aload_n 0, 1) := dk_42 (dk_at dksX7_readsBehind_6 12 rfl rfl)
theorem dX7_readsBehind_154 : decode cX7_readsBehind 154 = .ok (.dup, 1) := dk_89 (dk_at dksX7_readsBehind_6 13 rfl rfl)
theorem dX7_readsBehind_155 : decode cX7_readsBehind 155 = .ok (.getfield 253, 3) := dk_180 0 253 (dk_at dksX7_readsBehind_6 14 rfl rfl)
theorem dX7_readsBehind_158 : decode cX7_readsBehind 158 = .ok (.iconst 1, 1) := dk_4 (dk_at dksX7_readsBehind_6 17 rfl rfl)
theorem dX7_readsBehind_159 : decode cX7_readsBehind 159 = .ok (.iadd, 1) := dk_96 (dk_at dksX7_readsBehind_6 18 rfl rfl)
theorem dX7_readsBehind_160 : decode cX7_readsBehind 160 = .ok (.putfield 253, 3) := dk_181 0 253 (dk_at dksX7_readsBehind_6 19 rfl rfl)
theorem dX7_readsBehind_163 : decode cX7_readsBehind 163 = .ok (.aload_n 0, 1) := dk_42 (dk_at dksX7_readsBehind_6 22 rfl rfl)
theorem dX7_readsBehind_164 : decode cX7_readsBehind 164 = .ok (.iconst 1, 1) := dk_4 (dk_at dksX7_readsBehind_6 23 rfl rfl)
theorem dX7_readsBehind_165 : decode cX7_readsBehind 165 = .ok (.putfield 278, 3) := dk_181 1 22 (dk_at dksX7_readsBehind_7 0 rfl rfl)
theorem dX7_readsBehind_168 : decode cX7_readsBehind 168 = .ok (.goto 12, 3) := dk_167 0 12 (dk_at dksX7_readsBehind_7 3 rfl rfl)
theorem dX7_readsBehind_171 : decode cX7_readsBehind 171 = .ok (.aload_n 0, 1) := dk_42 (dk_at dksX7_readsBehind_7 6 rfl rfl)
theorem dX7_readsBehind_172 : decode cX7_readsBehind 172 = .ok (.iconst 1, 1) := dk_4 (dk_at dksX7_readsBehind_7 7 rfl rfl)
theorem dX7_readsBehind_173 : decode cX7_readsBehind 173 = .ok (.aload_n 0, 1) := dk_42 (dk_at dksX7_readsBehind_7 8 rfl rfl)
theorem dX7_readsBehind_174 : decode cX7_readsBehind 174 = .ok (.getfield 253, 3) := dk_180 0 253 (dk_at dksX7_readsBehind_7 9 rfl rfl)
theorem dX7_readsBehind_177 : decode cX7_readsBehind 177 = .ok (.invokevirtual 265, 3) := dk_182 1 9 (dk_at dksX7_readsBehind_7 12 rfl rfl)
theorem dX7_readsBehind_180 : decode cX7_readsBehind 180 = .ok (.iconst 1, 1) := dk_4 (dk_at dksX7_readsBehind_7 15 rfl rfl)
theorem dX7_readsBehind_181 : decode cX7_readsBehind 181 = .ok (.ireturn, 1) := dk_172 (dk_at dksX7_readsBehind_7 16 rfl rfl)
abbrev cX7_settles : ByteArray := prog_42_method_98_code
def yX7_settles : MethodName := ⟨RX7, "settles", "(I)V"⟩
def dkwX7_settles_2 : List UInt8 := [177]
abbrev dktX7_settles_2 : List UInt8 := dkwX7_settles_2 ++ []
def dkwX7_settles_1 : List UInt8 := [180, 0, 45, 42, 180, 1, 28, 4, 100, 46, 184, 1, 34, 27, 161, 0, 10, 42, 182, 1, 37, 167, 255, 211]
abbrev dktX7_settles_1 : List UInt8 := dkwX7_settles_1 ++ dktX7_settles_2
def dkwX7_settles_0 : List UInt8 := [42, 180, 1, 28, 158, 0, 44, 42, 180, 0, 45, 42, 180, 1, 28, 4, 100, 46, 16, 40, 159, 0, 28, 42]
abbrev dktX7_settles_0 : List UInt8 := dkwX7_settles_0 ++ dktX7_settles_1
theorem dksX7_settles_0 : cX7_settles.data.toList.drop 0 = dktX7_settles_0 := by decide +kernel
theorem dksX7_settles_1 : cX7_settles.data.toList.drop 24 = dktX7_settles_1 := dk_seg dksX7_settles_0 24 rfl rfl
theorem dksX7_settles_2 : cX7_settles.data.toList.drop 48 = dktX7_settles_2 := dk_seg dksX7_settles_1 24 rfl rfl
theorem dX7_settles_0 : decode cX7_settles 0 = .ok (.aload_n 0, 1) := dk_42 (dk_at dksX7_settles_0 0 rfl rfl)
theorem dX7_settles_1 : decode cX7_settles 1 = .ok (.getfield 284, 3) := dk_180 1 28 (dk_at dksX7_settles_0 1 rfl rfl)
theorem dX7_settles_4 : decode cX7_settles 4 = .ok (.ifCond .le 44, 3) := dk_158 0 44 (dk_at dksX7_settles_0 4 rfl rfl)
theorem dX7_settles_7 : decode cX7_settles 7 = .ok (.aload_n 0, 1) := dk_42 (dk_at dksX7_settles_0 7 rfl rfl)
theorem dX7_settles_8 : decode cX7_settles 8 = .ok (.getfield 45, 3) := dk_180 0 45 (dk_at dksX7_settles_0 8 rfl rfl)
theorem dX7_settles_11 : decode cX7_settles 11 = .ok (.aload_n 0, 1) := dk_42 (dk_at dksX7_settles_0 11 rfl rfl)
theorem dX7_settles_12 : decode cX7_settles 12 = .ok (.getfield 284, 3) := dk_180 1 28 (dk_at dksX7_settles_0 12 rfl rfl)
theorem dX7_settles_15 : decode cX7_settles 15 = .ok (.iconst 1, 1) := dk_4 (dk_at dksX7_settles_0 15 rfl rfl)
theorem dX7_settles_16 : decode cX7_settles 16 = .ok (.isub, 1) := dk_100 (dk_at dksX7_settles_0 16 rfl rfl)
theorem dX7_settles_17 : decode cX7_settles 17 = .ok (.iaload, 1) := dk_46 (dk_at dksX7_settles_0 17 rfl rfl)
theorem dX7_settles_18 : decode cX7_settles 18 = .ok (.bipush 40, 2) := dk_16 40 (dk_at dksX7_settles_0 18 rfl rfl)
theorem dX7_settles_20 : decode cX7_settles 20 = .ok (.if_icmp .eq 28, 3) := dk_159 0 28 (dk_at dksX7_settles_0 20 rfl rfl)
theorem dX7_settles_23 : decode cX7_settles 23 = .ok (.aload_n 0, 1) := dk_42 (dk_at dksX7_settles_0 23 rfl rfl)
theorem dX7_settles_24 : decode cX7_settles 24 = .ok (.getfield 45, 3) := dk_180 0 45 (dk_at dksX7_settles_1 0 rfl rfl)
theorem dX7_settles_27 : decode cX7_settles 27 = .ok (.aload_n 0, 1) := dk_42 (dk_at dksX7_settles_1 3 rfl rfl)
theorem dX7_settles_28 : decode cX7_settles 28 = .ok (.getfield 284, 3) := dk_180 1 28 (dk_at dksX7_settles_1 4 rfl rfl)
theorem dX7_settles_31 : decode cX7_settles 31 = .ok (.iconst 1, 1) := dk_4 (dk_at dksX7_settles_1 7 rfl rfl)
theorem dX7_settles_32 : decode cX7_settles 32 = .ok (.isub, 1) := dk_100 (dk_at dksX7_settles_1 8 rfl rfl)
theorem dX7_settles_33 : decode cX7_settles 33 = .ok (.iaload, 1) := dk_46 (dk_at dksX7_settles_1 9 rfl rfl)
theorem dX7_settles_34 : decode cX7_settles 34 = .ok (.invokestatic 290, 3) := dk_184 1 34 (dk_at dksX7_settles_1 10 rfl rfl)
theorem dX7_settles_37 : decode cX7_settles 37 = .ok (.iload_n 1, 1) := dk_27 (dk_at dksX7_settles_1 13 rfl rfl)
theorem dX7_settles_38 : decode cX7_settles 38 = .ok (.if_icmp .lt 10, 3) := dk_161 0 10 (dk_at dksX7_settles_1 14 rfl rfl)
theorem dX7_settles_41 : decode cX7_settles 41 = .ok (.aload_n 0, 1) := dk_42 (dk_at dksX7_settles_1 17 rfl rfl)
theorem dX7_settles_42 : decode cX7_settles 42 = .ok (.invokevirtual 293, 3) := dk_182 1 37 (dk_at dksX7_settles_1 18 rfl rfl)
theorem dX7_settles_45 : decode cX7_settles 45 = .ok (.goto (-45), 3) := dk_167 255 211 (dk_at dksX7_settles_1 21 rfl rfl)
theorem dX7_settles_48 : decode cX7_settles 48 = .ok (.return_, 1) := dk_177 (dk_at dksX7_settles_2 0 rfl rfl)
abbrev cX7_level : ByteArray := prog_42_method_96_code
def yX7_level : MethodName := ⟨RX7, "level", "(I)I"⟩
def dkwX7_level_2 : List UInt8 := [4, 172, 5, 172, 6, 172, 3, 172]
abbrev dktX7_level_2 : List UInt8 := dkwX7_level_2 ++ []
def dkwX7_level_1 : List UInt8 := [171, 0, 0, 0, 0, 0, 65, 0, 0, 0, 6, 0, 0, 0, 42, 0, 0, 0, 61, 0, 0, 0, 43, 0, 0, 0, 59, 0, 0, 0, 45, 0, 0, 0, 59, 0, 0, 0, 46, 0, 0, 0, 63, 0, 0, 0, 94, 0, 0, 0, 63, 0, 0, 0, 110, 0, 0, 0, 59]
abbrev dktX7_level_1 : List UInt8 := dkwX7_level_1 ++ dktX7_level_2
def dkwX7_level_0 : List UInt8 := [26]
abbrev dktX7_level_0 : List UInt8 := dkwX7_level_0 ++ dktX7_level_1
theorem dksX7_level_0 : cX7_level.data.toList.drop 0 = dktX7_level_0 := by decide +kernel
theorem dksX7_level_1 : cX7_level.data.toList.drop 1 = dktX7_level_1 := dk_seg dksX7_level_0 1 rfl rfl
theorem dksX7_level_2 : cX7_level.data.toList.drop 60 = dktX7_level_2 := dk_seg dksX7_level_1 59 rfl rfl
theorem dX7_level_0 : decode cX7_level 0 = .ok (.iload_n 0, 1) := dk_26 (dk_at dksX7_level_0 0 rfl rfl)
theorem dX7_level_1 : decode cX7_level 1 = .ok (.lookupswitch 65 #[(42, 61), (43, 59), (45, 59), (46, 63), (94, 63), (110, 59)], 59) := by decide +kernel
theorem dX7_level_60 : decode cX7_level 60 = .ok (.iconst 1, 1) := dk_4 (dk_at dksX7_level_2 0 rfl rfl)
theorem dX7_level_61 : decode cX7_level 61 = .ok (.ireturn, 1) := dk_172 (dk_at dksX7_level_2 1 rfl rfl)
theorem dX7_level_62 : decode cX7_level 62 = .ok (.iconst 2, 1) := dk_5 (dk_at dksX7_level_2 2 rfl rfl)
theorem dX7_level_63 : decode cX7_level 63 = .ok (.ireturn, 1) := dk_172 (dk_at dksX7_level_2 3 rfl rfl)
theorem dX7_level_64 : decode cX7_level 64 = .ok (.iconst 3, 1) := dk_6 (dk_at dksX7_level_2 4 rfl rfl)
theorem dX7_level_65 : decode cX7_level 65 = .ok (.ireturn, 1) := dk_172 (dk_at dksX7_level_2 5 rfl rfl)
theorem dX7_level_66 : decode cX7_level 66 = .ok (.iconst 0, 1) := dk_3 (dk_at dksX7_level_2 6 rfl rfl)
theorem dX7_level_67 : decode cX7_level 67 = .ok (.ireturn, 1) := dk_172 (dk_at dksX7_level_2 7 rfl rfl)
abbrev cX7_carriesOutLatest : ByteArray := prog_42_method_97_code
def yX7_carriesOutLatest : MethodName := ⟨RX7, "carriesOutLatest", "()V"⟩
def dkwX7_carriesOutLatest_5 : List UInt8 := [154, 0, 16, 42, 42, 180, 0, 48, 42, 180, 1, 28, 46, 181, 1, 31, 177]
abbrev dktX7_carriesOutLatest_5 : List UInt8 := dkwX7_carriesOutLatest_5 ++ []
def dkwX7_carriesOutLatest_4 : List UInt8 := [181, 1, 12, 42, 180, 1, 31, 2, 160, 0, 31, 42, 29, 27, 4, 100, 27, 27, 4, 100, 182, 0, 150]
abbrev dktX7_carriesOutLatest_4 : List UInt8 := dkwX7_carriesOutLatest_4 ++ dktX7_carriesOutLatest_5
def dkwX7_carriesOutLatest_3 : List UInt8 := [167, 0, 14, 28, 16, 94, 160, 0, 7, 6, 167, 0, 4, 7, 62, 42, 89, 180, 1, 12, 4, 100]
abbrev dktX7_carriesOutLatest_3 : List UInt8 := dkwX7_carriesOutLatest_3 ++ dktX7_carriesOutLatest_4
def dkwX7_carriesOutLatest_2 : List UInt8 := [160, 0, 7, 3, 167, 0, 34, 28, 16, 45, 160, 0, 7, 4, 167, 0, 24, 28, 16, 42, 160, 0, 7, 5]
abbrev dktX7_carriesOutLatest_2 : List UInt8 := dkwX7_carriesOutLatest_2 ++ dktX7_carriesOutLatest_3
def dkwX7_carriesOutLatest_1 : List UInt8 := [42, 180, 1, 28, 46, 61, 28, 16, 110, 160, 0, 12, 42, 16, 8, 27, 27, 182, 0, 140, 177, 28, 16, 43]
abbrev dktX7_carriesOutLatest_1 : List UInt8 := dkwX7_carriesOutLatest_1 ++ dktX7_carriesOutLatest_2
def dkwX7_carriesOutLatest_0 : List UInt8 := [42, 89, 180, 1, 28, 4, 100, 181, 1, 28, 16, 32, 42, 180, 1, 12, 96, 4, 100, 60, 42, 180, 0, 45]
abbrev dktX7_carriesOutLatest_0 : List UInt8 := dkwX7_carriesOutLatest_0 ++ dktX7_carriesOutLatest_1
theorem dksX7_carriesOutLatest_0 : cX7_carriesOutLatest.data.toList.drop 0 = dktX7_carriesOutLatest_0 := by decide +kernel
theorem dksX7_carriesOutLatest_1 : cX7_carriesOutLatest.data.toList.drop 24 = dktX7_carriesOutLatest_1 := dk_seg dksX7_carriesOutLatest_0 24 rfl rfl
theorem dksX7_carriesOutLatest_2 : cX7_carriesOutLatest.data.toList.drop 48 = dktX7_carriesOutLatest_2 := dk_seg dksX7_carriesOutLatest_1 24 rfl rfl
theorem dksX7_carriesOutLatest_3 : cX7_carriesOutLatest.data.toList.drop 72 = dktX7_carriesOutLatest_3 := dk_seg dksX7_carriesOutLatest_2 24 rfl rfl
theorem dksX7_carriesOutLatest_4 : cX7_carriesOutLatest.data.toList.drop 94 = dktX7_carriesOutLatest_4 := dk_seg dksX7_carriesOutLatest_3 22 rfl rfl
theorem dksX7_carriesOutLatest_5 : cX7_carriesOutLatest.data.toList.drop 117 = dktX7_carriesOutLatest_5 := dk_seg dksX7_carriesOutLatest_4 23 rfl rfl
theorem dX7_carriesOutLatest_0 : decode cX7_carriesOutLatest 0 = .ok (.aload_n 0, 1) := dk_42 (dk_at dksX7_carriesOutLatest_0 0 rfl rfl)
theorem dX7_carriesOutLatest_1 : decode cX7_carriesOutLatest 1 = .ok (.dup, 1) := dk_89 (dk_at dksX7_carriesOutLatest_0 1 rfl rfl)
theorem dX7_carriesOutLatest_2 : decode cX7_carriesOutLatest 2 = .ok (.getfield 284, 3) := dk_180 1 28 (dk_at dksX7_carriesOutLatest_0 2 rfl rfl)
theorem dX7_carriesOutLatest_5 : decode cX7_carriesOutLatest 5 = .ok (.iconst 1, 1) := dk_4 (dk_at dksX7_carriesOutLatest_0 5 rfl rfl)
theorem dX7_carriesOutLatest_6 : decode cX7_carriesOutLatest 6 = .ok (.isub, 1) := dk_100 (dk_at dksX7_carriesOutLatest_0 6 rfl rfl)
theorem dX7_carriesOutLatest_7 : decode cX7_carriesOutLatest 7 = .ok (.putfield 284, 3) := dk_181 1 28 (dk_at dksX7_carriesOutLatest_0 7 rfl rfl)
theorem dX7_carriesOutLatest_10 : decode cX7_carriesOutLatest 10 = .ok (.bipush 32, 2) := dk_16 32 (dk_at dksX7_carriesOutLatest_0 10 rfl rfl)
theorem dX7_carriesOutLatest_12 : decode cX7_carriesOutLatest 12 = .ok (.aload_n 0, 1) := dk_42 (dk_at dksX7_carriesOutLatest_0 12 rfl rfl)
theorem dX7_carriesOutLatest_13 : decode cX7_carriesOutLatest 13 = .ok (.getfield 268, 3) := dk_180 1 12 (dk_at dksX7_carriesOutLatest_0 13 rfl rfl)
theorem dX7_carriesOutLatest_16 : decode cX7_carriesOutLatest 16 = .ok (.iadd, 1) := dk_96 (dk_at dksX7_carriesOutLatest_0 16 rfl rfl)
theorem dX7_carriesOutLatest_17 : decode cX7_carriesOutLatest 17 = .ok (.iconst 1, 1) := dk_4 (dk_at dksX7_carriesOutLatest_0 17 rfl rfl)
theorem dX7_carriesOutLatest_18 : decode cX7_carriesOutLatest 18 = .ok (.isub, 1) := dk_100 (dk_at dksX7_carriesOutLatest_0 18 rfl rfl)
theorem dX7_carriesOutLatest_19 : decode cX7_carriesOutLatest 19 = .ok (.istore_n 1, 1) := dk_60 (dk_at dksX7_carriesOutLatest_0 19 rfl rfl)
theorem dX7_carriesOutLatest_20 : decode cX7_carriesOutLatest 20 = .ok (.aload_n 0, 1) := dk_42 (dk_at dksX7_carriesOutLatest_0 20 rfl rfl)
theorem dX7_carriesOutLatest_21 : decode cX7_carriesOutLatest 21 = .ok (.getfield 45, 3) := dk_180 0 45 (dk_at dksX7_carriesOutLatest_0 21 rfl rfl)
theorem dX7_carriesOutLatest_24 : decode cX7_carriesOutLatest 24 = .ok (.aload_n 0, 1) := dk_42 (dk_at dksX7_carriesOutLatest_1 0 rfl rfl)
theorem dX7_carriesOutLatest_25 : decode cX7_carriesOutLatest 25 = .ok (.getfield 284, 3) := dk_180 1 28 (dk_at dksX7_carriesOutLatest_1 1 rfl rfl)
theorem dX7_carriesOutLatest_28 : decode cX7_carriesOutLatest 28 = .ok (.iaload, 1) := dk_46 (dk_at dksX7_carriesOutLatest_1 4 rfl rfl)
theorem dX7_carriesOutLatest_29 : decode cX7_carriesOutLatest 29 = .ok (.istore_n 2, 1) := dk_61 (dk_at dksX7_carriesOutLatest_1 5 rfl rfl)
theorem dX7_carriesOutLatest_30 : decode cX7_carriesOutLatest 30 = .ok (.iload_n 2, 1) := dk_28 (dk_at dksX7_carriesOutLatest_1 6 rfl rfl)
theorem dX7_carriesOutLatest_31 : decode cX7_carriesOutLatest 31 = .ok (.bipush 110, 2) := dk_16 110 (dk_at dksX7_carriesOutLatest_1 7 rfl rfl)
theorem dX7_carriesOutLatest_33 : decode cX7_carriesOutLatest 33 = .ok (.if_icmp .ne 12, 3) := dk_160 0 12 (dk_at dksX7_carriesOutLatest_1 9 rfl rfl)
theorem dX7_carriesOutLatest_36 : decode cX7_carriesOutLatest 36 = .ok (.aload_n 0, 1) := dk_42 (dk_at dksX7_carriesOutLatest_1 12 rfl rfl)
theorem dX7_carriesOutLatest_37 : decode cX7_carriesOutLatest 37 = .ok (.bipush 8, 2) := dk_16 8 (dk_at dksX7_carriesOutLatest_1 13 rfl rfl)
theorem dX7_carriesOutLatest_39 : decode cX7_carriesOutLatest 39 = .ok (.iload_n 1, 1) := dk_27 (dk_at dksX7_carriesOutLatest_1 15 rfl rfl)
theorem dX7_carriesOutLatest_40 : decode cX7_carriesOutLatest 40 = .ok (.iload_n 1, 1) := dk_27 (dk_at dksX7_carriesOutLatest_1 16 rfl rfl)
theorem dX7_carriesOutLatest_41 : decode cX7_carriesOutLatest 41 = .ok (.invokevirtual 140, 3) := dk_182 0 140 (dk_at dksX7_carriesOutLatest_1 17 rfl rfl)
theorem dX7_carriesOutLatest_44 : decode cX7_carriesOutLatest 44 = .ok (.return_, 1) := dk_177 (dk_at dksX7_carriesOutLatest_1 20 rfl rfl)
theorem dX7_carriesOutLatest_45 : decode cX7_carriesOutLatest 45 = .ok (.iload_n 2, 1) := dk_28 (dk_at dksX7_carriesOutLatest_1 21 rfl rfl)
theorem dX7_carriesOutLatest_46 : decode cX7_carriesOutLatest 46 = .ok (.bipush 43, 2) := dk_16 43 (dk_at dksX7_carriesOutLatest_1 22 rfl rfl)
theorem dX7_carriesOutLatest_48 : decode cX7_carriesOutLatest 48 = .ok (.if_icmp .ne 7, 3) := dk_160 0 7 (dk_at dksX7_carriesOutLatest_2 0 rfl rfl)
theorem dX7_carriesOutLatest_51 : decode cX7_carriesOutLatest 51 = .ok (.iconst 0, 1) := dk_3 (dk_at dksX7_carriesOutLatest_2 3 rfl rfl)
theorem dX7_carriesOutLatest_52 : decode cX7_carriesOutLatest 52 = .ok (.goto 34, 3) := dk_167 0 34 (dk_at dksX7_carriesOutLatest_2 4 rfl rfl)
theorem dX7_carriesOutLatest_55 : decode cX7_carriesOutLatest 55 = .ok (.iload_n 2, 1) := dk_28 (dk_at dksX7_carriesOutLatest_2 7 rfl rfl)
theorem dX7_carriesOutLatest_56 : decode cX7_carriesOutLatest 56 = .ok (.bipush 45, 2) := dk_16 45 (dk_at dksX7_carriesOutLatest_2 8 rfl rfl)
theorem dX7_carriesOutLatest_58 : decode cX7_carriesOutLatest 58 = .ok (.if_icmp .ne 7, 3) := dk_160 0 7 (dk_at dksX7_carriesOutLatest_2 10 rfl rfl)
theorem dX7_carriesOutLatest_61 : decode cX7_carriesOutLatest 61 = .ok (.iconst 1, 1) := dk_4 (dk_at dksX7_carriesOutLatest_2 13 rfl rfl)
theorem dX7_carriesOutLatest_62 : decode cX7_carriesOutLatest 62 = .ok (.goto 24, 3) := dk_167 0 24 (dk_at dksX7_carriesOutLatest_2 14 rfl rfl)
theorem dX7_carriesOutLatest_65 : decode cX7_carriesOutLatest 65 = .ok (.iload_n 2, 1) := dk_28 (dk_at dksX7_carriesOutLatest_2 17 rfl rfl)
theorem dX7_carriesOutLatest_66 : decode cX7_carriesOutLatest 66 = .ok (.bipush 42, 2) := dk_16 42 (dk_at dksX7_carriesOutLatest_2 18 rfl rfl)
theorem dX7_carriesOutLatest_68 : decode cX7_carriesOutLatest 68 = .ok (.if_icmp .ne 7, 3) := dk_160 0 7 (dk_at dksX7_carriesOutLatest_2 20 rfl rfl)
theorem dX7_carriesOutLatest_71 : decode cX7_carriesOutLatest 71 = .ok (.iconst 2, 1) := dk_5 (dk_at dksX7_carriesOutLatest_2 23 rfl rfl)
theorem dX7_carriesOutLatest_72 : decode cX7_carriesOutLatest 72 = .ok (.goto 14, 3) := dk_167 0 14 (dk_at dksX7_carriesOutLatest_3 0 rfl rfl)
theorem dX7_carriesOutLatest_75 : decode cX7_carriesOutLatest 75 = .ok (.iload_n 2, 1) := dk_28 (dk_at dksX7_carriesOutLatest_3 3 rfl rfl)
theorem dX7_carriesOutLatest_76 : decode cX7_carriesOutLatest 76 = .ok (.bipush 94, 2) := dk_16 94 (dk_at dksX7_carriesOutLatest_3 4 rfl rfl)
theorem dX7_carriesOutLatest_78 : decode cX7_carriesOutLatest 78 = .ok (.if_icmp .ne 7, 3) := dk_160 0 7 (dk_at dksX7_carriesOutLatest_3 6 rfl rfl)
theorem dX7_carriesOutLatest_81 : decode cX7_carriesOutLatest 81 = .ok (.iconst 3, 1) := dk_6 (dk_at dksX7_carriesOutLatest_3 9 rfl rfl)
theorem dX7_carriesOutLatest_82 : decode cX7_carriesOutLatest 82 = .ok (.goto 4, 3) := dk_167 0 4 (dk_at dksX7_carriesOutLatest_3 10 rfl rfl)
theorem dX7_carriesOutLatest_85 : decode cX7_carriesOutLatest 85 = .ok (.iconst 4, 1) := dk_7 (dk_at dksX7_carriesOutLatest_3 13 rfl rfl)
theorem dX7_carriesOutLatest_86 : decode cX7_carriesOutLatest 86 = .ok (.istore_n 3, 1) := dk_62 (dk_at dksX7_carriesOutLatest_3 14 rfl rfl)
theorem dX7_carriesOutLatest_87 : decode cX7_carriesOutLatest 87 = .ok (.aload_n 0, 1) := dk_42 (dk_at dksX7_carriesOutLatest_3 15 rfl rfl)
theorem dX7_carriesOutLatest_88 : decode cX7_carriesOutLatest 88 = .ok (.dup, 1) := dk_89 (dk_at dksX7_carriesOutLatest_3 16 rfl rfl)
theorem dX7_carriesOutLatest_89 : decode cX7_carriesOutLatest 89 = .ok (.getfield 268, 3) := dk_180 1 12 (dk_at dksX7_carriesOutLatest_3 17 rfl rfl)
theorem dX7_carriesOutLatest_92 : decode cX7_carriesOutLatest 92 = .ok (.iconst 1, 1) := dk_4 (dk_at dksX7_carriesOutLatest_3 20 rfl rfl)
theorem dX7_carriesOutLatest_93 : decode cX7_carriesOutLatest 93 = .ok (.isub, 1) := dk_100 (dk_at dksX7_carriesOutLatest_3 21 rfl rfl)
theorem dX7_carriesOutLatest_94 : decode cX7_carriesOutLatest 94 = .ok (.putfield 268, 3) := dk_181 1 12 (dk_at dksX7_carriesOutLatest_4 0 rfl rfl)
theorem dX7_carriesOutLatest_97 : decode cX7_carriesOutLatest 97 = .ok (.aload_n 0, 1) := dk_42 (dk_at dksX7_carriesOutLatest_4 3 rfl rfl)
theorem dX7_carriesOutLatest_98 : decode cX7_carriesOutLatest 98 = .ok (.getfield 287, 3) := dk_180 1 31 (dk_at dksX7_carriesOutLatest_4 4 rfl rfl)
theorem dX7_carriesOutLatest_101 : decode cX7_carriesOutLatest 101 = .ok (.iconst (-1), 1) := dk_2 (dk_at dksX7_carriesOutLatest_4 7 rfl rfl)
theorem dX7_carriesOutLatest_102 : decode cX7_carriesOutLatest 102 = .ok (.if_icmp .ne 31, 3) := dk_160 0 31 (dk_at dksX7_carriesOutLatest_4 8 rfl rfl)
theorem dX7_carriesOutLatest_105 : decode cX7_carriesOutLatest 105 = .ok (.aload_n 0, 1) := dk_42 (dk_at dksX7_carriesOutLatest_4 11 rfl rfl)
theorem dX7_carriesOutLatest_106 : decode cX7_carriesOutLatest 106 = .ok (.iload_n 3, 1) := dk_29 (dk_at dksX7_carriesOutLatest_4 12 rfl rfl)
theorem dX7_carriesOutLatest_107 : decode cX7_carriesOutLatest 107 = .ok (.iload_n 1, 1) := dk_27 (dk_at dksX7_carriesOutLatest_4 13 rfl rfl)
theorem dX7_carriesOutLatest_108 : decode cX7_carriesOutLatest 108 = .ok (.iconst 1, 1) := dk_4 (dk_at dksX7_carriesOutLatest_4 14 rfl rfl)
theorem dX7_carriesOutLatest_109 : decode cX7_carriesOutLatest 109 = .ok (.isub, 1) := dk_100 (dk_at dksX7_carriesOutLatest_4 15 rfl rfl)
theorem dX7_carriesOutLatest_110 : decode cX7_carriesOutLatest 110 = .ok (.iload_n 1, 1) := dk_27 (dk_at dksX7_carriesOutLatest_4 16 rfl rfl)
theorem dX7_carriesOutLatest_111 : decode cX7_carriesOutLatest 111 = .ok (.iload_n 1, 1) := dk_27 (dk_at dksX7_carriesOutLatest_4 17 rfl rfl)
theorem dX7_carriesOutLatest_112 : decode cX7_carriesOutLatest 112 = .ok (.iconst 1, 1) := dk_4 (dk_at dksX7_carriesOutLatest_4 18 rfl rfl)
theorem dX7_carriesOutLatest_113 : decode cX7_carriesOutLatest 113 = .ok (.isub, 1) := dk_100 (dk_at dksX7_carriesOutLatest_4 19 rfl rfl)
theorem dX7_carriesOutLatest_114 : decode cX7_carriesOutLatest 114 = .ok (.invokevirtual 150, 3) := dk_182 0 150 (dk_at dksX7_carriesOutLatest_4 20 rfl rfl)
theorem dX7_carriesOutLatest_117 : decode cX7_carriesOutLatest 117 = .ok (.ifCond .ne 16, 3) := dk_154 0 16 (dk_at dksX7_carriesOutLatest_5 0 rfl rfl)
theorem dX7_carriesOutLatest_120 : decode cX7_carriesOutLatest 120 = .ok (.aload_n 0, 1) := dk_42 (dk_at dksX7_carriesOutLatest_5 3 rfl rfl)
theorem dX7_carriesOutLatest_121 : decode cX7_carriesOutLatest 121 = .ok (.aload_n 0, 1) := dk_42 (dk_at dksX7_carriesOutLatest_5 4 rfl rfl)
theorem dX7_carriesOutLatest_122 : decode cX7_carriesOutLatest 122 = .ok (.getfield 48, 3) := dk_180 0 48 (dk_at dksX7_carriesOutLatest_5 5 rfl rfl)
theorem dX7_carriesOutLatest_125 : decode cX7_carriesOutLatest 125 = .ok (.aload_n 0, 1) := dk_42 (dk_at dksX7_carriesOutLatest_5 8 rfl rfl)
theorem dX7_carriesOutLatest_126 : decode cX7_carriesOutLatest 126 = .ok (.getfield 284, 3) := dk_180 1 28 (dk_at dksX7_carriesOutLatest_5 9 rfl rfl)
theorem dX7_carriesOutLatest_129 : decode cX7_carriesOutLatest 129 = .ok (.iaload, 1) := dk_46 (dk_at dksX7_carriesOutLatest_5 12 rfl rfl)
theorem dX7_carriesOutLatest_130 : decode cX7_carriesOutLatest 130 = .ok (.putfield 287, 3) := dk_181 1 31 (dk_at dksX7_carriesOutLatest_5 13 rfl rfl)
theorem dX7_carriesOutLatest_133 : decode cX7_carriesOutLatest 133 = .ok (.return_, 1) := dk_177 (dk_at dksX7_carriesOutLatest_5 16 rfl rfl)
abbrev cX7_divides : ByteArray := prog_42_method_93_code
def yX7_divides : MethodName := ⟨RX7, "divides", "()V"⟩
def dkwX7_divides_2 : List UInt8 := [180, 1, 12, 96, 4, 100, 182, 0, 136, 62, 42, 3, 181, 1, 18, 177]
abbrev dktX7_divides_2 : List UInt8 := dkwX7_divides_2 ++ []
def dkwX7_divides_1 : List UInt8 := [180, 1, 3, 154, 0, 29, 42, 16, 32, 42, 180, 1, 12, 96, 4, 100, 10, 28, 133, 16, 32, 42]
abbrev dktX7_divides_1 : List UInt8 := dkwX7_divides_1 ++ dktX7_divides_2
def dkwX7_divides_0 : List UInt8 := [42, 89, 180, 0, 253, 4, 96, 181, 0, 253, 42, 182, 1, 25, 60, 42, 4, 182, 1, 15, 61, 42]
abbrev dktX7_divides_0 : List UInt8 := dkwX7_divides_0 ++ dktX7_divides_1
theorem dksX7_divides_0 : cX7_divides.data.toList.drop 0 = dktX7_divides_0 := by decide +kernel
theorem dksX7_divides_1 : cX7_divides.data.toList.drop 22 = dktX7_divides_1 := dk_seg dksX7_divides_0 22 rfl rfl
theorem dksX7_divides_2 : cX7_divides.data.toList.drop 44 = dktX7_divides_2 := dk_seg dksX7_divides_1 22 rfl rfl
theorem dX7_divides_0 : decode cX7_divides 0 = .ok (.aload_n 0, 1) := dk_42 (dk_at dksX7_divides_0 0 rfl rfl)
theorem dX7_divides_1 : decode cX7_divides 1 = .ok (.dup, 1) := dk_89 (dk_at dksX7_divides_0 1 rfl rfl)
theorem dX7_divides_2 : decode cX7_divides 2 = .ok (.getfield 253, 3) := dk_180 0 253 (dk_at dksX7_divides_0 2 rfl rfl)
theorem dX7_divides_5 : decode cX7_divides 5 = .ok (.iconst 1, 1) := dk_4 (dk_at dksX7_divides_0 5 rfl rfl)
theorem dX7_divides_6 : decode cX7_divides 6 = .ok (.iadd, 1) := dk_96 (dk_at dksX7_divides_0 6 rfl rfl)
theorem dX7_divides_7 : decode cX7_divides 7 = .ok (.putfield 253, 3) := dk_181 0 253 (dk_at dksX7_divides_0 7 rfl rfl)
theorem dX7_divides_10 : decode cX7_divides 10 = .ok (.aload_n 0, 1) := dk_42 (dk_at dksX7_divides_0 10 rfl rfl)
theorem dX7_divides_11 : decode cX7_divides 11 = .ok (.invokevirtual 281, 3) := dk_182 1 25 (dk_at dksX7_divides_0 11 rfl rfl)
theorem dX7_divides_14 : decode cX7_divides 14 = .ok (.istore_n 1, 1) := dk_60 (dk_at dksX7_divides_0 14 rfl rfl)
theorem dX7_divides_15 : decode cX7_divides 15 = .ok (.aload_n 0, 1) := dk_42 (dk_at dksX7_divides_0 15 rfl rfl)
theorem dX7_divides_16 : decode cX7_divides 16 = .ok (.iconst 1, 1) := dk_4 (dk_at dksX7_divides_0 16 rfl rfl)
theorem dX7_divides_17 : decode cX7_divides 17 = .ok (.invokevirtual 271, 3) := dk_182 1 15 (dk_at dksX7_divides_0 17 rfl rfl)
theorem dX7_divides_20 : decode cX7_divides 20 = .ok (.istore_n 2, 1) := dk_61 (dk_at dksX7_divides_0 20 rfl rfl)
theorem dX7_divides_21 : decode cX7_divides 21 = .ok (.aload_n 0, 1) := dk_42 (dk_at dksX7_divides_0 21 rfl rfl)
theorem dX7_divides_22 : decode cX7_divides 22 = .ok (.getfield 259, 3) := dk_180 1 3 (dk_at dksX7_divides_1 0 rfl rfl)
theorem dX7_divides_25 : decode cX7_divides 25 = .ok (.ifCond .ne 29, 3) := dk_154 0 29 (dk_at dksX7_divides_1 3 rfl rfl)
theorem dX7_divides_28 : decode cX7_divides 28 = .ok (.aload_n 0, 1) := dk_42 (dk_at dksX7_divides_1 6 rfl rfl)
theorem dX7_divides_29 : decode cX7_divides 29 = .ok (.bipush 32, 2) := dk_16 32 (dk_at dksX7_divides_1 7 rfl rfl)
theorem dX7_divides_31 : decode cX7_divides 31 = .ok (.aload_n 0, 1) := dk_42 (dk_at dksX7_divides_1 9 rfl rfl)
theorem dX7_divides_32 : decode cX7_divides 32 = .ok (.getfield 268, 3) := dk_180 1 12 (dk_at dksX7_divides_1 10 rfl rfl)
theorem dX7_divides_35 : decode cX7_divides 35 = .ok (.iadd, 1) := dk_96 (dk_at dksX7_divides_1 13 rfl rfl)
theorem dX7_divides_36 : decode cX7_divides 36 = .ok (.iconst 1, 1) := dk_4 (dk_at dksX7_divides_1 14 rfl rfl)
theorem dX7_divides_37 : decode cX7_divides 37 = .ok (.isub, 1) := dk_100 (dk_at dksX7_divides_1 15 rfl rfl)
theorem dX7_divides_38 : decode cX7_divides 38 = .ok (.lconst 1, 1) := dk_10 (dk_at dksX7_divides_1 16 rfl rfl)
theorem dX7_divides_39 : decode cX7_divides 39 = .ok (.iload_n 2, 1) := dk_28 (dk_at dksX7_divides_1 17 rfl rfl)
theorem dX7_divides_40 : decode cX7_divides 40 = .ok (.i2l, 1) := dk_133 (dk_at dksX7_divides_1 18 rfl rfl)
theorem dX7_divides_41 : decode cX7_divides 41 = .ok (.bipush 32, 2) := dk_16 32 (dk_at dksX7_divides_1 19 rfl rfl)
theorem dX7_divides_43 : decode cX7_divides 43 = .ok (.aload_n 0, 1) := dk_42 (dk_at dksX7_divides_1 21 rfl rfl)
theorem dX7_divides_44 : decode cX7_divides 44 = .ok (.getfield 268, 3) := dk_180 1 12 (dk_at dksX7_divides_2 0 rfl rfl)
theorem dX7_divides_47 : decode cX7_divides 47 = .ok (.iadd, 1) := dk_96 (dk_at dksX7_divides_2 3 rfl rfl)
theorem dX7_divides_48 : decode cX7_divides 48 = .ok (.iconst 1, 1) := dk_4 (dk_at dksX7_divides_2 4 rfl rfl)
theorem dX7_divides_49 : decode cX7_divides 49 = .ok (.isub, 1) := dk_100 (dk_at dksX7_divides_2 5 rfl rfl)
theorem dX7_divides_50 : decode cX7_divides 50 = .ok (.invokevirtual 136, 3) := dk_182 0 136 (dk_at dksX7_divides_2 6 rfl rfl)
theorem dX7_divides_53 : decode cX7_divides 53 = .ok (.istore_n 3, 1) := dk_62 (dk_at dksX7_divides_2 9 rfl rfl)
theorem dX7_divides_54 : decode cX7_divides 54 = .ok (.aload_n 0, 1) := dk_42 (dk_at dksX7_divides_2 10 rfl rfl)
theorem dX7_divides_55 : decode cX7_divides 55 = .ok (.iconst 0, 1) := dk_3 (dk_at dksX7_divides_2 11 rfl rfl)
theorem dX7_divides_56 : decode cX7_divides 56 = .ok (.putfield 274, 3) := dk_181 1 18 (dk_at dksX7_divides_2 12 rfl rfl)
theorem dX7_divides_59 : decode cX7_divides 59 = .ok (.return_, 1) := dk_177 (dk_at dksX7_divides_2 15 rfl rfl)
abbrev cX7_closes : ByteArray := prog_42_method_100_code
def yX7_closes : MethodName := ⟨RX7, "closes", "()V"⟩
def dkwX7_closes_1 : List UInt8 := [181, 1, 40, 42, 89, 180, 0, 253, 4, 96, 181, 0, 253, 42, 3, 181, 1, 18, 177]
abbrev dktX7_closes_1 : List UInt8 := dkwX7_closes_1 ++ []
def dkwX7_closes_0 : List UInt8 := [42, 4, 182, 1, 49, 42, 89, 180, 1, 28, 4, 100, 181, 1, 28, 42, 89, 180, 1, 40, 4, 100]
abbrev dktX7_closes_0 : List UInt8 := dkwX7_closes_0 ++ dktX7_closes_1
theorem dksX7_closes_0 : cX7_closes.data.toList.drop 0 = dktX7_closes_0 := by decide +kernel
theorem dksX7_closes_1 : cX7_closes.data.toList.drop 22 = dktX7_closes_1 := dk_seg dksX7_closes_0 22 rfl rfl
theorem dX7_closes_0 : decode cX7_closes 0 = .ok (.aload_n 0, 1) := dk_42 (dk_at dksX7_closes_0 0 rfl rfl)
theorem dX7_closes_1 : decode cX7_closes 1 = .ok (.iconst 1, 1) := dk_4 (dk_at dksX7_closes_0 1 rfl rfl)
theorem dX7_closes_2 : decode cX7_closes 2 = .ok (.invokevirtual 305, 3) := dk_182 1 49 (dk_at dksX7_closes_0 2 rfl rfl)
theorem dX7_closes_5 : decode cX7_closes 5 = .ok (.aload_n 0, 1) := dk_42 (dk_at dksX7_closes_0 5 rfl rfl)
theorem dX7_closes_6 : decode cX7_closes 6 = .ok (.dup, 1) := dk_89 (dk_at dksX7_closes_0 6 rfl rfl)
theorem dX7_closes_7 : decode cX7_closes 7 = .ok (.getfield 284, 3) := dk_180 1 28 (dk_at dksX7_closes_0 7 rfl rfl)
theorem dX7_closes_10 : decode cX7_closes 10 = .ok (.iconst 1, 1) := dk_4 (dk_at dksX7_closes_0 10 rfl rfl)
theorem dX7_closes_11 : decode cX7_closes 11 = .ok (.isub, 1) := dk_100 (dk_at dksX7_closes_0 11 rfl rfl)
theorem dX7_closes_12 : decode cX7_closes 12 = .ok (.putfield 284, 3) := dk_181 1 28 (dk_at dksX7_closes_0 12 rfl rfl)
theorem dX7_closes_15 : decode cX7_closes 15 = .ok (.aload_n 0, 1) := dk_42 (dk_at dksX7_closes_0 15 rfl rfl)
theorem dX7_closes_16 : decode cX7_closes 16 = .ok (.dup, 1) := dk_89 (dk_at dksX7_closes_0 16 rfl rfl)
theorem dX7_closes_17 : decode cX7_closes 17 = .ok (.getfield 296, 3) := dk_180 1 40 (dk_at dksX7_closes_0 17 rfl rfl)
theorem dX7_closes_20 : decode cX7_closes 20 = .ok (.iconst 1, 1) := dk_4 (dk_at dksX7_closes_0 20 rfl rfl)
theorem dX7_closes_21 : decode cX7_closes 21 = .ok (.isub, 1) := dk_100 (dk_at dksX7_closes_0 21 rfl rfl)
theorem dX7_closes_22 : decode cX7_closes 22 = .ok (.putfield 296, 3) := dk_181 1 40 (dk_at dksX7_closes_1 0 rfl rfl)
theorem dX7_closes_25 : decode cX7_closes 25 = .ok (.aload_n 0, 1) := dk_42 (dk_at dksX7_closes_1 3 rfl rfl)
theorem dX7_closes_26 : decode cX7_closes 26 = .ok (.dup, 1) := dk_89 (dk_at dksX7_closes_1 4 rfl rfl)
theorem dX7_closes_27 : decode cX7_closes 27 = .ok (.getfield 253, 3) := dk_180 0 253 (dk_at dksX7_closes_1 5 rfl rfl)
theorem dX7_closes_30 : decode cX7_closes 30 = .ok (.iconst 1, 1) := dk_4 (dk_at dksX7_closes_1 8 rfl rfl)
theorem dX7_closes_31 : decode cX7_closes 31 = .ok (.iadd, 1) := dk_96 (dk_at dksX7_closes_1 9 rfl rfl)
theorem dX7_closes_32 : decode cX7_closes 32 = .ok (.putfield 253, 3) := dk_181 0 253 (dk_at dksX7_closes_1 10 rfl rfl)
theorem dX7_closes_35 : decode cX7_closes 35 = .ok (.aload_n 0, 1) := dk_42 (dk_at dksX7_closes_1 13 rfl rfl)
theorem dX7_closes_36 : decode cX7_closes 36 = .ok (.iconst 0, 1) := dk_3 (dk_at dksX7_closes_1 14 rfl rfl)
theorem dX7_closes_37 : decode cX7_closes 37 = .ok (.putfield 274, 3) := dk_181 1 18 (dk_at dksX7_closes_1 15 rfl rfl)
theorem dX7_closes_40 : decode cX7_closes 40 = .ok (.return_, 1) := dk_177 (dk_at dksX7_closes_1 18 rfl rfl)
abbrev cX7_errorCode : ByteArray := prog_42_method_105_code
def yX7_errorCode : MethodName := ⟨RX7, "errorCode", "()I"⟩
def dkwX7_errorCode_0 : List UInt8 := [42, 3, 181, 0, 54, 42, 180, 1, 3, 172]
abbrev dktX7_errorCode_0 : List UInt8 := dkwX7_errorCode_0 ++ []
theorem dksX7_errorCode_0 : cX7_errorCode.data.toList.drop 0 = dktX7_errorCode_0 := by decide +kernel
theorem dX7_errorCode_0 : decode cX7_errorCode 0 = .ok (.aload_n 0, 1) := dk_42 (dk_at dksX7_errorCode_0 0 rfl rfl)
theorem dX7_errorCode_1 : decode cX7_errorCode 1 = .ok (.iconst 0, 1) := dk_3 (dk_at dksX7_errorCode_0 1 rfl rfl)
theorem dX7_errorCode_2 : decode cX7_errorCode 2 = .ok (.putfield 54, 3) := dk_181 0 54 (dk_at dksX7_errorCode_0 2 rfl rfl)
theorem dX7_errorCode_5 : decode cX7_errorCode 5 = .ok (.aload_n 0, 1) := dk_42 (dk_at dksX7_errorCode_0 5 rfl rfl)
theorem dX7_errorCode_6 : decode cX7_errorCode 6 = .ok (.getfield 259, 3) := dk_180 1 3 (dk_at dksX7_errorCode_0 6 rfl rfl)
theorem dX7_errorCode_9 : decode cX7_errorCode 9 = .ok (.ireturn, 1) := dk_172 (dk_at dksX7_errorCode_0 9 rfl rfl)
abbrev cX7_errorPosition : ByteArray := prog_42_method_106_code
def yX7_errorPosition : MethodName := ⟨RX7, "errorPosition", "()I"⟩
def dkwX7_errorPosition_0 : List UInt8 := [42, 3, 181, 0, 54, 42, 180, 0, 42, 172]
abbrev dktX7_errorPosition_0 : List UInt8 := dkwX7_errorPosition_0 ++ []
theorem dksX7_errorPosition_0 : cX7_errorPosition.data.toList.drop 0 = dktX7_errorPosition_0 := by decide +kernel
theorem dX7_errorPosition_0 : decode cX7_errorPosition 0 = .ok (.aload_n 0, 1) := dk_42 (dk_at dksX7_errorPosition_0 0 rfl rfl)
theorem dX7_errorPosition_1 : decode cX7_errorPosition 1 = .ok (.iconst 0, 1) := dk_3 (dk_at dksX7_errorPosition_0 1 rfl rfl)
theorem dX7_errorPosition_2 : decode cX7_errorPosition 2 = .ok (.putfield 54, 3) := dk_181 0 54 (dk_at dksX7_errorPosition_0 2 rfl rfl)
theorem dX7_errorPosition_5 : decode cX7_errorPosition 5 = .ok (.aload_n 0, 1) := dk_42 (dk_at dksX7_errorPosition_0 5 rfl rfl)
theorem dX7_errorPosition_6 : decode cX7_errorPosition 6 = .ok (.getfield 42, 3) := dk_180 0 42 (dk_at dksX7_errorPosition_0 6 rfl rfl)
theorem dX7_errorPosition_9 : decode cX7_errorPosition 9 = .ok (.ireturn, 1) := dk_172 (dk_at dksX7_errorPosition_0 9 rfl rfl)
abbrev cX7_write : ByteArray := prog_42_method_110_code
def yX7_write : MethodName := ⟨RX7, "write", "(I)I"⟩
def dkwX7_write_6 : List UInt8 := [180, 1, 76, 172]
abbrev dktX7_write_6 : List UInt8 := dkwX7_write_6 ++ []
def dkwX7_write_5 : List UInt8 := [28, 182, 1, 90, 132, 2, 1, 167, 255, 163, 42, 180, 1, 76, 154, 0, 9, 42, 16, 48, 182, 1, 83, 42]
abbrev dktX7_write_5 : List UInt8 := dkwX7_write_5 ++ dktX7_write_6
def dkwX7_write_4 : List UInt8 := [182, 1, 83, 42, 16, 32, 182, 1, 83, 167, 0, 13, 29, 153, 0, 9, 42, 16, 45, 182, 1, 83, 42, 27]
abbrev dktX7_write_4 : List UInt8 := dkwX7_write_4 ++ dktX7_write_5
def dkwX7_write_3 : List UInt8 := [180, 1, 76, 158, 0, 33, 42, 16, 32, 182, 1, 83, 42, 29, 153, 0, 8, 16, 45, 167, 0, 5, 16, 43]
abbrev dktX7_write_3 : List UInt8 := dkwX7_write_3 ++ dktX7_write_4
def dkwX7_write_2 : List UInt8 := [154, 0, 6, 167, 0, 73, 42, 27, 28, 182, 0, 94, 9, 148, 156, 0, 7, 4, 167, 0, 4, 3, 62, 42]
abbrev dktX7_write_2 : List UInt8 := dkwX7_write_2 ++ dktX7_write_3
def dkwX7_write_1 : List UInt8 := [172, 42, 3, 181, 1, 76, 3, 61, 28, 16, 32, 162, 0, 93, 42, 27, 28, 182, 0, 94, 9, 148]
abbrev dktX7_write_1 : List UInt8 := dkwX7_write_1 ++ dktX7_write_2
def dkwX7_write_0 : List UInt8 := [42, 27, 184, 0, 147, 153, 0, 7, 3, 167, 0, 4, 4, 181, 0, 54, 42, 180, 0, 54, 158, 0, 5, 3]
abbrev dktX7_write_0 : List UInt8 := dkwX7_write_0 ++ dktX7_write_1
theorem dksX7_write_0 : cX7_write.data.toList.drop 0 = dktX7_write_0 := by decide +kernel
theorem dksX7_write_1 : cX7_write.data.toList.drop 24 = dktX7_write_1 := dk_seg dksX7_write_0 24 rfl rfl
theorem dksX7_write_2 : cX7_write.data.toList.drop 46 = dktX7_write_2 := dk_seg dksX7_write_1 22 rfl rfl
theorem dksX7_write_3 : cX7_write.data.toList.drop 70 = dktX7_write_3 := dk_seg dksX7_write_2 24 rfl rfl
theorem dksX7_write_4 : cX7_write.data.toList.drop 94 = dktX7_write_4 := dk_seg dksX7_write_3 24 rfl rfl
theorem dksX7_write_5 : cX7_write.data.toList.drop 118 = dktX7_write_5 := dk_seg dksX7_write_4 24 rfl rfl
theorem dksX7_write_6 : cX7_write.data.toList.drop 142 = dktX7_write_6 := dk_seg dksX7_write_5 24 rfl rfl
theorem dX7_write_0 : decode cX7_write 0 = .ok (.aload_n 0, 1) := dk_42 (dk_at dksX7_write_0 0 rfl rfl)
theorem dX7_write_1 : decode cX7_write 1 = .ok (.iload_n 1, 1) := dk_27 (dk_at dksX7_write_0 1 rfl rfl)
theorem dX7_write_2 : decode cX7_write 2 = .ok (.invokestatic 147, 3) := dk_184 0 147 (dk_at dksX7_write_0 2 rfl rfl)
theorem dX7_write_5 : decode cX7_write 5 = .ok (.ifCond .eq 7, 3) := dk_153 0 7 (dk_at dksX7_write_0 5 rfl rfl)
theorem dX7_write_8 : decode cX7_write 8 = .ok (.iconst 0, 1) := dk_3 (dk_at dksX7_write_0 8 rfl rfl)
theorem dX7_write_9 : decode cX7_write 9 = .ok (.goto 4, 3) := dk_167 0 4 (dk_at dksX7_write_0 9 rfl rfl)
theorem dX7_write_12 : decode cX7_write 12 = .ok (.iconst 1, 1) := dk_4 (dk_at dksX7_write_0 12 rfl rfl)
theorem dX7_write_13 : decode cX7_write 13 = .ok (.putfield 54, 3) := dk_181 0 54 (dk_at dksX7_write_0 13 rfl rfl)
theorem dX7_write_16 : decode cX7_write 16 = .ok (.aload_n 0, 1) := dk_42 (dk_at dksX7_write_0 16 rfl rfl)
theorem dX7_write_17 : decode cX7_write 17 = .ok (.getfield 54, 3) := dk_180 0 54 (dk_at dksX7_write_0 17 rfl rfl)
theorem dX7_write_20 : decode cX7_write 20 = .ok (.ifCond .le 5, 3) := dk_158 0 5 (dk_at dksX7_write_0 20 rfl rfl)
theorem dX7_write_23 : decode cX7_write 23 = .ok (.iconst 0, 1) := dk_3 (dk_at dksX7_write_0 23 rfl rfl)
theorem dX7_write_24 : decode cX7_write 24 = .ok (.ireturn, 1) := dk_172 (dk_at dksX7_write_1 0 rfl rfl)
theorem dX7_write_25 : decode cX7_write 25 = .ok (.aload_n 0, 1) := dk_42 (dk_at dksX7_write_1 1 rfl rfl)
theorem dX7_write_26 : decode cX7_write 26 = .ok (.iconst 0, 1) := dk_3 (dk_at dksX7_write_1 2 rfl rfl)
theorem dX7_write_27 : decode cX7_write 27 = .ok (.putfield 332, 3) := dk_181 1 76 (dk_at dksX7_write_1 3 rfl rfl)
theorem dX7_write_30 : decode cX7_write 30 = .ok (.iconst 0, 1) := dk_3 (dk_at dksX7_write_1 6 rfl rfl)
theorem dX7_write_31 : decode cX7_write 31 = .ok (.istore_n 2, 1) := dk_61 (dk_at dksX7_write_1 7 rfl rfl)
theorem dX7_write_32 : decode cX7_write 32 = .ok (.iload_n 2, 1) := dk_28 (dk_at dksX7_write_1 8 rfl rfl)
theorem dX7_write_33 : decode cX7_write 33 = .ok (.bipush 32, 2) := dk_16 32 (dk_at dksX7_write_1 9 rfl rfl)
theorem dX7_write_35 : decode cX7_write 35 = .ok (.if_icmp .ge 93, 3) := dk_162 0 93 (dk_at dksX7_write_1 11 rfl rfl)
theorem dX7_write_38 : decode cX7_write 38 = .ok (.aload_n 0, 1) := dk_42 (dk_at dksX7_write_1 14 rfl rfl)
theorem dX7_write_39 : decode cX7_write 39 = .ok (.iload_n 1, 1) := dk_27 (dk_at dksX7_write_1 15 rfl rfl)
theorem dX7_write_40 : decode cX7_write 40 = .ok (.iload_n 2, 1) := dk_28 (dk_at dksX7_write_1 16 rfl rfl)
theorem dX7_write_41 : decode cX7_write 41 = .ok (.invokevirtual 94, 3) := dk_182 0 94 (dk_at dksX7_write_1 17 rfl rfl)
theorem dX7_write_44 : decode cX7_write 44 = .ok (.lconst 0, 1) := dk_9 (dk_at dksX7_write_1 20 rfl rfl)
theorem dX7_write_45 : decode cX7_write 45 = .ok (.lcmp, 1) := dk_148 (dk_at dksX7_write_1 21 rfl rfl)
theorem dX7_write_46 : decode cX7_write 46 = .ok (.ifCond .ne 6, 3) := dk_154 0 6 (dk_at dksX7_write_2 0 rfl rfl)
theorem dX7_write_49 : decode cX7_write 49 = .ok (.goto 73, 3) := dk_167 0 73 (dk_at dksX7_write_2 3 rfl rfl)
theorem dX7_write_52 : decode cX7_write 52 = .ok (.aload_n 0, 1) := dk_42 (dk_at dksX7_write_2 6 rfl rfl)
theorem dX7_write_53 : decode cX7_write 53 = .ok (.iload_n 1, 1) := dk_27 (dk_at dksX7_write_2 7 rfl rfl)
theorem dX7_write_54 : decode cX7_write 54 = .ok (.iload_n 2, 1) := dk_28 (dk_at dksX7_write_2 8 rfl rfl)
theorem dX7_write_55 : decode cX7_write 55 = .ok (.invokevirtual 94, 3) := dk_182 0 94 (dk_at dksX7_write_2 9 rfl rfl)
theorem dX7_write_58 : decode cX7_write 58 = .ok (.lconst 0, 1) := dk_9 (dk_at dksX7_write_2 12 rfl rfl)
theorem dX7_write_59 : decode cX7_write 59 = .ok (.lcmp, 1) := dk_148 (dk_at dksX7_write_2 13 rfl rfl)
theorem dX7_write_60 : decode cX7_write 60 = .ok (.ifCond .ge 7, 3) := dk_156 0 7 (dk_at dksX7_write_2 14 rfl rfl)
theorem dX7_write_63 : decode cX7_write 63 = .ok (.iconst 1, 1) := dk_4 (dk_at dksX7_write_2 17 rfl rfl)
theorem dX7_write_64 : decode cX7_write 64 = .ok (.goto 4, 3) := dk_167 0 4 (dk_at dksX7_write_2 18 rfl rfl)
theorem dX7_write_67 : decode cX7_write 67 = .ok (.iconst 0, 1) := dk_3 (dk_at dksX7_write_2 21 rfl rfl)
theorem dX7_write_68 : decode cX7_write 68 = .ok (.istore_n 3, 1) := dk_62 (dk_at dksX7_write_2 22 rfl rfl)
theorem dX7_write_69 : decode cX7_write 69 = .ok (.aload_n 0, 1) := dk_42 (dk_at dksX7_write_2 23 rfl rfl)
theorem dX7_write_70 : decode cX7_write 70 = .ok (.getfield 332, 3) := dk_180 1 76 (dk_at dksX7_write_3 0 rfl rfl)
theorem dX7_write_73 : decode cX7_write 73 = .ok (.ifCond .le 33, 3) := dk_158 0 33 (dk_at dksX7_write_3 3 rfl rfl)
theorem dX7_write_76 : decode cX7_write 76 = .ok (.aload_n 0, 1) := dk_42 (dk_at dksX7_write_3 6 rfl rfl)
theorem dX7_write_77 : decode cX7_write 77 = .ok (.bipush 32, 2) := dk_16 32 (dk_at dksX7_write_3 7 rfl rfl)
theorem dX7_write_79 : decode cX7_write 79 = .ok (.invokevirtual 339, 3) := dk_182 1 83 (dk_at dksX7_write_3 9 rfl rfl)
theorem dX7_write_82 : decode cX7_write 82 = .ok (.aload_n 0, 1) := dk_42 (dk_at dksX7_write_3 12 rfl rfl)
theorem dX7_write_83 : decode cX7_write 83 = .ok (.iload_n 3, 1) := dk_29 (dk_at dksX7_write_3 13 rfl rfl)
theorem dX7_write_84 : decode cX7_write 84 = .ok (.ifCond .eq 8, 3) := dk_153 0 8 (dk_at dksX7_write_3 14 rfl rfl)
theorem dX7_write_87 : decode cX7_write 87 = .ok (.bipush 45, 2) := dk_16 45 (dk_at dksX7_write_3 17 rfl rfl)
theorem dX7_write_89 : decode cX7_write 89 = .ok (.goto 5, 3) := dk_167 0 5 (dk_at dksX7_write_3 19 rfl rfl)
theorem dX7_write_92 : decode cX7_write 92 = .ok (.bipush 43, 2) := dk_16 43 (dk_at dksX7_write_3 22 rfl rfl)
theorem dX7_write_94 : decode cX7_write 94 = .ok (.invokevirtual 339, 3) := dk_182 1 83 (dk_at dksX7_write_4 0 rfl rfl)
theorem dX7_write_97 : decode cX7_write 97 = .ok (.aload_n 0, 1) := dk_42 (dk_at dksX7_write_4 3 rfl rfl)
theorem dX7_write_98 : decode cX7_write 98 = .ok (.bipush 32, 2) := dk_16 32 (dk_at dksX7_write_4 4 rfl rfl)
theorem dX7_write_100 : decode cX7_write 100 = .ok (.invokevirtual 339, 3) := dk_182 1 83 (dk_at dksX7_write_4 6 rfl rfl)
theorem dX7_write_103 : decode cX7_write 103 = .ok (.goto 13, 3) := dk_167 0 13 (dk_at dksX7_write_4 9 rfl rfl)
theorem dX7_write_106 : decode cX7_write 106 = .ok (.iload_n 3, 1) := dk_29 (dk_at dksX7_write_4 12 rfl rfl)
theorem dX7_write_107 : decode cX7_write 107 = .ok (.ifCond .eq 9, 3) := dk_153 0 9 (dk_at dksX7_write_4 13 rfl rfl)
theorem dX7_write_110 : decode cX7_write 110 = .ok (.aload_n 0, 1) := dk_42 (dk_at dksX7_write_4 16 rfl rfl)
theorem dX7_write_111 : decode cX7_write 111 = .ok (.bipush 45, 2) := dk_16 45 (dk_at dksX7_write_4 17 rfl rfl)
theorem dX7_write_113 : decode cX7_write 113 = .ok (.invokevirtual 339, 3) := dk_182 1 83 (dk_at dksX7_write_4 19 rfl rfl)
theorem dX7_write_116 : decode cX7_write 116 = .ok (.aload_n 0, 1) := dk_42 (dk_at dksX7_write_4 22 rfl rfl)
theorem dX7_write_117 : decode cX7_write 117 = .ok (.iload_n 1, 1) := dk_27 (dk_at dksX7_write_4 23 rfl rfl)
theorem dX7_write_118 : decode cX7_write 118 = .ok (.iload_n 2, 1) := dk_28 (dk_at dksX7_write_5 0 rfl rfl)
theorem dX7_write_119 : decode cX7_write 119 = .ok (.invokevirtual 346, 3) := dk_182 1 90 (dk_at dksX7_write_5 1 rfl rfl)
theorem dX7_write_122 : decode cX7_write 122 = .ok (.iinc 2 1, 3) := dk_132 2 1 (dk_at dksX7_write_5 4 rfl rfl)
theorem dX7_write_125 : decode cX7_write 125 = .ok (.goto (-93), 3) := dk_167 255 163 (dk_at dksX7_write_5 7 rfl rfl)
theorem dX7_write_128 : decode cX7_write 128 = .ok (.aload_n 0, 1) := dk_42 (dk_at dksX7_write_5 10 rfl rfl)
theorem dX7_write_129 : decode cX7_write 129 = .ok (.getfield 332, 3) := dk_180 1 76 (dk_at dksX7_write_5 11 rfl rfl)
theorem dX7_write_132 : decode cX7_write 132 = .ok (.ifCond .ne 9, 3) := dk_154 0 9 (dk_at dksX7_write_5 14 rfl rfl)
theorem dX7_write_135 : decode cX7_write 135 = .ok (.aload_n 0, 1) := dk_42 (dk_at dksX7_write_5 17 rfl rfl)
theorem dX7_write_136 : decode cX7_write 136 = .ok (.bipush 48, 2) := dk_16 48 (dk_at dksX7_write_5 18 rfl rfl)
theorem dX7_write_138 : decode cX7_write 138 = .ok (.invokevirtual 339, 3) := dk_182 1 83 (dk_at dksX7_write_5 20 rfl rfl)
theorem dX7_write_141 : decode cX7_write 141 = .ok (.aload_n 0, 1) := dk_42 (dk_at dksX7_write_5 23 rfl rfl)
theorem dX7_write_142 : decode cX7_write 142 = .ok (.getfield 332, 3) := dk_180 1 76 (dk_at dksX7_write_6 0 rfl rfl)
theorem dX7_write_145 : decode cX7_write 145 = .ok (.ireturn, 1) := dk_172 (dk_at dksX7_write_6 3 rfl rfl)
abbrev cX7_writes : ByteArray := prog_42_method_107_code
def yX7_writes : MethodName := ⟨RX7, "writes", "(I)V"⟩
def dkwX7_writes_0 : List UInt8 := [42, 180, 0, 51, 42, 180, 1, 76, 27, 145, 84, 42, 89, 180, 1, 76, 4, 96, 181, 1, 76, 177]
abbrev dktX7_writes_0 : List UInt8 := dkwX7_writes_0 ++ []
theorem dksX7_writes_0 : cX7_writes.data.toList.drop 0 = dktX7_writes_0 := by decide +kernel
theorem dX7_writes_0 : decode cX7_writes 0 = .ok (.aload_n 0, 1) := dk_42 (dk_at dksX7_writes_0 0 rfl rfl)
theorem dX7_writes_1 : decode cX7_writes 1 = .ok (.getfield 51, 3) := dk_180 0 51 (dk_at dksX7_writes_0 1 rfl rfl)
theorem dX7_writes_4 : decode cX7_writes 4 = .ok (.aload_n 0, 1) := dk_42 (dk_at dksX7_writes_0 4 rfl rfl)
theorem dX7_writes_5 : decode cX7_writes 5 = .ok (.getfield 332, 3) := dk_180 1 76 (dk_at dksX7_writes_0 5 rfl rfl)
theorem dX7_writes_8 : decode cX7_writes 8 = .ok (.iload_n 1, 1) := dk_27 (dk_at dksX7_writes_0 8 rfl rfl)
theorem dX7_writes_9 : decode cX7_writes 9 = .ok (.i2b, 1) := dk_145 (dk_at dksX7_writes_0 9 rfl rfl)
theorem dX7_writes_10 : decode cX7_writes 10 = .ok (.bastore, 1) := dk_84 (dk_at dksX7_writes_0 10 rfl rfl)
theorem dX7_writes_11 : decode cX7_writes 11 = .ok (.aload_n 0, 1) := dk_42 (dk_at dksX7_writes_0 11 rfl rfl)
theorem dX7_writes_12 : decode cX7_writes 12 = .ok (.dup, 1) := dk_89 (dk_at dksX7_writes_0 12 rfl rfl)
theorem dX7_writes_13 : decode cX7_writes 13 = .ok (.getfield 332, 3) := dk_180 1 76 (dk_at dksX7_writes_0 13 rfl rfl)
theorem dX7_writes_16 : decode cX7_writes 16 = .ok (.iconst 1, 1) := dk_4 (dk_at dksX7_writes_0 16 rfl rfl)
theorem dX7_writes_17 : decode cX7_writes 17 = .ok (.iadd, 1) := dk_96 (dk_at dksX7_writes_0 17 rfl rfl)
theorem dX7_writes_18 : decode cX7_writes 18 = .ok (.putfield 332, 3) := dk_181 1 76 (dk_at dksX7_writes_0 18 rfl rfl)
theorem dX7_writes_21 : decode cX7_writes 21 = .ok (.return_, 1) := dk_177 (dk_at dksX7_writes_0 21 rfl rfl)
abbrev cX7_writesTerm : ByteArray := prog_42_method_109_code
def yX7_writesTerm : MethodName := ⟨RX7, "writesTerm", "(II)V"⟩
def dkwX7_writesTerm_6 : List UInt8 := [16, 49, 21, 10, 96, 182, 1, 83, 132, 10, 1, 167, 255, 228, 177]
abbrev dktX7_writesTerm_6 : List UInt8 := dkwX7_writesTerm_6 ++ []
def dkwX7_writesTerm_5 : List UInt8 := [182, 1, 83, 3, 54, 10, 21, 10, 8, 162, 0, 28, 28, 21, 10, 122, 4, 126, 4, 160, 0, 12, 42]
abbrev dktX7_writesTerm_5 : List UInt8 := dkwX7_writesTerm_5 ++ dktX7_writesTerm_6
def dkwX7_writesTerm_4 : List UInt8 := [22, 7, 182, 1, 86, 28, 158, 0, 9, 42, 16, 42, 182, 1, 83, 28, 158, 0, 43, 42, 16, 101]
abbrev dktX7_writesTerm_4 : List UInt8 := dkwX7_writesTerm_4 ++ dktX7_writesTerm_5
def dkwX7_writesTerm_3 : List UInt8 := [154, 0, 38, 42, 22, 5, 182, 1, 86, 22, 7, 10, 148, 158, 0, 15, 42, 16, 47, 182, 1, 83, 42]
abbrev dktX7_writesTerm_3 : List UInt8 := dkwX7_writesTerm_3 ++ dktX7_writesTerm_4
def dkwX7_writesTerm_2 : List UInt8 := [154, 0, 14, 22, 7, 10, 148, 154, 0, 7, 4, 167, 0, 4, 3, 54, 9, 21, 9, 153, 0, 7, 28]
abbrev dktX7_writesTerm_2 : List UInt8 := dkwX7_writesTerm_2 ++ dktX7_writesTerm_3
def dkwX7_writesTerm_1 : List UInt8 := [22, 5, 117, 167, 0, 5, 22, 5, 55, 5, 42, 27, 182, 0, 114, 33, 109, 55, 7, 22, 5, 10, 148]
abbrev dktX7_writesTerm_1 : List UInt8 := dkwX7_writesTerm_1 ++ dktX7_writesTerm_2
def dkwX7_writesTerm_0 : List UInt8 := [42, 27, 28, 182, 0, 179, 66, 42, 27, 28, 182, 0, 94, 33, 109, 55, 5, 22, 5, 9, 148, 156, 0, 9]
abbrev dktX7_writesTerm_0 : List UInt8 := dkwX7_writesTerm_0 ++ dktX7_writesTerm_1
theorem dksX7_writesTerm_0 : cX7_writesTerm.data.toList.drop 0 = dktX7_writesTerm_0 := by decide +kernel
theorem dksX7_writesTerm_1 : cX7_writesTerm.data.toList.drop 24 = dktX7_writesTerm_1 := dk_seg dksX7_writesTerm_0 24 rfl rfl
theorem dksX7_writesTerm_2 : cX7_writesTerm.data.toList.drop 47 = dktX7_writesTerm_2 := dk_seg dksX7_writesTerm_1 23 rfl rfl
theorem dksX7_writesTerm_3 : cX7_writesTerm.data.toList.drop 70 = dktX7_writesTerm_3 := dk_seg dksX7_writesTerm_2 23 rfl rfl
theorem dksX7_writesTerm_4 : cX7_writesTerm.data.toList.drop 93 = dktX7_writesTerm_4 := dk_seg dksX7_writesTerm_3 23 rfl rfl
theorem dksX7_writesTerm_5 : cX7_writesTerm.data.toList.drop 115 = dktX7_writesTerm_5 := dk_seg dksX7_writesTerm_4 22 rfl rfl
theorem dksX7_writesTerm_6 : cX7_writesTerm.data.toList.drop 138 = dktX7_writesTerm_6 := dk_seg dksX7_writesTerm_5 23 rfl rfl
theorem dX7_writesTerm_0 : decode cX7_writesTerm 0 = .ok (.aload_n 0, 1) := dk_42 (dk_at dksX7_writesTerm_0 0 rfl rfl)
theorem dX7_writesTerm_1 : decode cX7_writesTerm 1 = .ok (.iload_n 1, 1) := dk_27 (dk_at dksX7_writesTerm_0 1 rfl rfl)
theorem dX7_writesTerm_2 : decode cX7_writesTerm 2 = .ok (.iload_n 2, 1) := dk_28 (dk_at dksX7_writesTerm_0 2 rfl rfl)
theorem dX7_writesTerm_3 : decode cX7_writesTerm 3 = .ok (.invokevirtual 179, 3) := dk_182 0 179 (dk_at dksX7_writesTerm_0 3 rfl rfl)
theorem dX7_writesTerm_6 : decode cX7_writesTerm 6 = .ok (.lstore_n 3, 1) := dk_66 (dk_at dksX7_writesTerm_0 6 rfl rfl)
theorem dX7_writesTerm_7 : decode cX7_writesTerm 7 = .ok (.aload_n 0, 1) := dk_42 (dk_at dksX7_writesTerm_0 7 rfl rfl)
theorem dX7_writesTerm_8 : decode cX7_writesTerm 8 = .ok (.iload_n 1, 1) := dk_27 (dk_at dksX7_writesTerm_0 8 rfl rfl)
theorem dX7_writesTerm_9 : decode cX7_writesTerm 9 = .ok (.iload_n 2, 1) := dk_28 (dk_at dksX7_writesTerm_0 9 rfl rfl)
theorem dX7_writesTerm_10 : decode cX7_writesTerm 10 = .ok (.invokevirtual 94, 3) := dk_182 0 94 (dk_at dksX7_writesTerm_0 10 rfl rfl)
theorem dX7_writesTerm_13 : decode cX7_writesTerm 13 = .ok (.lload_n 3, 1) := dk_33 (dk_at dksX7_writesTerm_0 13 rfl rfl)
theorem dX7_writesTerm_14 : decode cX7_writesTerm 14 = .ok (.ldiv, 1) := dk_109 (dk_at dksX7_writesTerm_0 14 rfl rfl)
theorem dX7_writesTerm_15 : decode cX7_writesTerm 15 = .ok (.lstore 5, 2) := dk_55 5 (dk_at dksX7_writesTerm_0 15 rfl rfl)
theorem dX7_writesTerm_17 : decode cX7_writesTerm 17 = .ok (.lload 5, 2) := dk_22 5 (dk_at dksX7_writesTerm_0 17 rfl rfl)
theorem dX7_writesTerm_19 : decode cX7_writesTerm 19 = .ok (.lconst 0, 1) := dk_9 (dk_at dksX7_writesTerm_0 19 rfl rfl)
theorem dX7_writesTerm_20 : decode cX7_writesTerm 20 = .ok (.lcmp, 1) := dk_148 (dk_at dksX7_writesTerm_0 20 rfl rfl)
theorem dX7_writesTerm_21 : decode cX7_writesTerm 21 = .ok (.ifCond .ge 9, 3) := dk_156 0 9 (dk_at dksX7_writesTerm_0 21 rfl rfl)
theorem dX7_writesTerm_24 : decode cX7_writesTerm 24 = .ok (.lload 5, 2) := dk_22 5 (dk_at dksX7_writesTerm_1 0 rfl rfl)
theorem dX7_writesTerm_26 : decode cX7_writesTerm 26 = .ok (.lneg, 1) := dk_117 (dk_at dksX7_writesTerm_1 2 rfl rfl)
theorem dX7_writesTerm_27 : decode cX7_writesTerm 27 = .ok (.goto 5, 3) := dk_167 0 5 (dk_at dksX7_writesTerm_1 3 rfl rfl)
theorem dX7_writesTerm_30 : decode cX7_writesTerm 30 = .ok (.lload 5, 2) := dk_22 5 (dk_at dksX7_writesTerm_1 6 rfl rfl)
theorem dX7_writesTerm_32 : decode cX7_writesTerm 32 = .ok (.lstore 5, 2) := dk_55 5 (dk_at dksX7_writesTerm_1 8 rfl rfl)
theorem dX7_writesTerm_34 : decode cX7_writesTerm 34 = .ok (.aload_n 0, 1) := dk_42 (dk_at dksX7_writesTerm_1 10 rfl rfl)
theorem dX7_writesTerm_35 : decode cX7_writesTerm 35 = .ok (.iload_n 1, 1) := dk_27 (dk_at dksX7_writesTerm_1 11 rfl rfl)
theorem dX7_writesTerm_36 : decode cX7_writesTerm 36 = .ok (.invokevirtual 114, 3) := dk_182 0 114 (dk_at dksX7_writesTerm_1 12 rfl rfl)
theorem dX7_writesTerm_39 : decode cX7_writesTerm 39 = .ok (.lload_n 3, 1) := dk_33 (dk_at dksX7_writesTerm_1 15 rfl rfl)
theorem dX7_writesTerm_40 : decode cX7_writesTerm 40 = .ok (.ldiv, 1) := dk_109 (dk_at dksX7_writesTerm_1 16 rfl rfl)
theorem dX7_writesTerm_41 : decode cX7_writesTerm 41 = .ok (.lstore 7, 2) := dk_55 7 (dk_at dksX7_writesTerm_1 17 rfl rfl)
theorem dX7_writesTerm_43 : decode cX7_writesTerm 43 = .ok (.lload 5, 2) := dk_22 5 (dk_at dksX7_writesTerm_1 19 rfl rfl)
theorem dX7_writesTerm_45 : decode cX7_writesTerm 45 = .ok (.lconst 1, 1) := dk_10 (dk_at dksX7_writesTerm_1 21 rfl rfl)
theorem dX7_writesTerm_46 : decode cX7_writesTerm 46 = .ok (.lcmp, 1) := dk_148 (dk_at dksX7_writesTerm_1 22 rfl rfl)
theorem dX7_writesTerm_47 : decode cX7_writesTerm 47 = .ok (.ifCond .ne 14, 3) := dk_154 0 14 (dk_at dksX7_writesTerm_2 0 rfl rfl)
theorem dX7_writesTerm_50 : decode cX7_writesTerm 50 = .ok (.lload 7, 2) := dk_22 7 (dk_at dksX7_writesTerm_2 3 rfl rfl)
theorem dX7_writesTerm_52 : decode cX7_writesTerm 52 = .ok (.lconst 1, 1) := dk_10 (dk_at dksX7_writesTerm_2 5 rfl rfl)
theorem dX7_writesTerm_53 : decode cX7_writesTerm 53 = .ok (.lcmp, 1) := dk_148 (dk_at dksX7_writesTerm_2 6 rfl rfl)
theorem dX7_writesTerm_54 : decode cX7_writesTerm 54 = .ok (.ifCond .ne 7, 3) := dk_154 0 7 (dk_at dksX7_writesTerm_2 7 rfl rfl)
theorem dX7_writesTerm_57 : decode cX7_writesTerm 57 = .ok (.iconst 1, 1) := dk_4 (dk_at dksX7_writesTerm_2 10 rfl rfl)
theorem dX7_writesTerm_58 : decode cX7_writesTerm 58 = .ok (.goto 4, 3) := dk_167 0 4 (dk_at dksX7_writesTerm_2 11 rfl rfl)
theorem dX7_writesTerm_61 : decode cX7_writesTerm 61 = .ok (.iconst 0, 1) := dk_3 (dk_at dksX7_writesTerm_2 14 rfl rfl)
theorem dX7_writesTerm_62 : decode cX7_writesTerm 62 = .ok (.istore 9, 2) := dk_54 9 (dk_at dksX7_writesTerm_2 15 rfl rfl)
theorem dX7_writesTerm_64 : decode cX7_writesTerm 64 = .ok (.iload 9, 2) := dk_21 9 (dk_at dksX7_writesTerm_2 17 rfl rfl)
theorem dX7_writesTerm_66 : decode cX7_writesTerm 66 = .ok (.ifCond .eq 7, 3) := dk_153 0 7 (dk_at dksX7_writesTerm_2 19 rfl rfl)
theorem dX7_writesTerm_69 : decode cX7_writesTerm 69 = .ok (.iload_n 2, 1) := dk_28 (dk_at dksX7_writesTerm_2 22 rfl rfl)
theorem dX7_writesTerm_70 : decode cX7_writesTerm 70 = .ok (.ifCond .ne 38, 3) := dk_154 0 38 (dk_at dksX7_writesTerm_3 0 rfl rfl)
theorem dX7_writesTerm_73 : decode cX7_writesTerm 73 = .ok (.aload_n 0, 1) := dk_42 (dk_at dksX7_writesTerm_3 3 rfl rfl)
theorem dX7_writesTerm_74 : decode cX7_writesTerm 74 = .ok (.lload 5, 2) := dk_22 5 (dk_at dksX7_writesTerm_3 4 rfl rfl)
theorem dX7_writesTerm_76 : decode cX7_writesTerm 76 = .ok (.invokevirtual 342, 3) := dk_182 1 86 (dk_at dksX7_writesTerm_3 6 rfl rfl)
theorem dX7_writesTerm_79 : decode cX7_writesTerm 79 = .ok (.lload 7, 2) := dk_22 7 (dk_at dksX7_writesTerm_3 9 rfl rfl)
theorem dX7_writesTerm_81 : decode cX7_writesTerm 81 = .ok (.lconst 1, 1) := dk_10 (dk_at dksX7_writesTerm_3 11 rfl rfl)
theorem dX7_writesTerm_82 : decode cX7_writesTerm 82 = .ok (.lcmp, 1) := dk_148 (dk_at dksX7_writesTerm_3 12 rfl rfl)
theorem dX7_writesTerm_83 : decode cX7_writesTerm 83 = .ok (.ifCond .le 15, 3) := dk_158 0 15 (dk_at dksX7_writesTerm_3 13 rfl rfl)
theorem dX7_writesTerm_86 : decode cX7_writesTerm 86 = .ok (.aload_n 0, 1) := dk_42 (dk_at dksX7_writesTerm_3 16 rfl rfl)
theorem dX7_writesTerm_87 : decode cX7_writesTerm 87 = .ok (.bipush 47, 2) := dk_16 47 (dk_at dksX7_writesTerm_3 17 rfl rfl)
theorem dX7_writesTerm_89 : decode cX7_writesTerm 89 = .ok (.invokevirtual 339, 3) := dk_182 1 83 (dk_at dksX7_writesTerm_3 19 rfl rfl)
theorem dX7_writesTerm_92 : decode cX7_writesTerm 92 = .ok (.aload_n 0, 1) := dk_42 (dk_at dksX7_writesTerm_3 22 rfl rfl)
theorem dX7_writesTerm_93 : decode cX7_writesTerm 93 = .ok (.lload 7, 2) := dk_22 7 (dk_at dksX7_writesTerm_4 0 rfl rfl)
theorem dX7_writesTerm_95 : decode cX7_writesTerm 95 = .ok (.invokevirtual 342, 3) := dk_182 1 86 (dk_at dksX7_writesTerm_4 2 rfl rfl)
theorem dX7_writesTerm_98 : decode cX7_writesTerm 98 = .ok (.iload_n 2, 1) := dk_28 (dk_at dksX7_writesTerm_4 5 rfl rfl)
theorem dX7_writesTerm_99 : decode cX7_writesTerm 99 = .ok (.ifCond .le 9, 3) := dk_158 0 9 (dk_at dksX7_writesTerm_4 6 rfl rfl)
theorem dX7_writesTerm_102 : decode cX7_writesTerm 102 = .ok (.aload_n 0, 1) := dk_42 (dk_at dksX7_writesTerm_4 9 rfl rfl)
theorem dX7_writesTerm_103 : decode cX7_writesTerm 103 = .ok (.bipush 42, 2) := dk_16 42 (dk_at dksX7_writesTerm_4 10 rfl rfl)
theorem dX7_writesTerm_105 : decode cX7_writesTerm 105 = .ok (.invokevirtual 339, 3) := dk_182 1 83 (dk_at dksX7_writesTerm_4 12 rfl rfl)
theorem dX7_writesTerm_108 : decode cX7_writesTerm 108 = .ok (.iload_n 2, 1) := dk_28 (dk_at dksX7_writesTerm_4 15 rfl rfl)
theorem dX7_writesTerm_109 : decode cX7_writesTerm 109 = .ok (.ifCond .le 43, 3) := dk_158 0 43 (dk_at dksX7_writesTerm_4 16 rfl rfl)
theorem dX7_writesTerm_112 : decode cX7_writesTerm 112 = .ok (.aload_n 0, 1) := dk_42 (dk_at dksX7_writesTerm_4 19 rfl rfl)
theorem dX7_writesTerm_113 : decode cX7_writesTerm 113 = .ok (.bipush 101, 2) := dk_16 101 (dk_at dksX7_writesTerm_4 20 rfl rfl)
theorem dX7_writesTerm_115 : decode cX7_writesTerm 115 = .ok (.invokevirtual 339, 3) := dk_182 1 83 (dk_at dksX7_writesTerm_5 0 rfl rfl)
theorem dX7_writesTerm_118 : decode cX7_writesTerm 118 = .ok (.iconst 0, 1) := dk_3 (dk_at dksX7_writesTerm_5 3 rfl rfl)
theorem dX7_writesTerm_119 : decode cX7_writesTerm 119 = .ok (.istore 10, 2) := dk_54 10 (dk_at dksX7_writesTerm_5 4 rfl rfl)
theorem dX7_writesTerm_121 : decode cX7_writesTerm 121 = .ok (.iload 10, 2) := dk_21 10 (dk_at dksX7_writesTerm_5 6 rfl rfl)
theorem dX7_writesTerm_123 : decode cX7_writesTerm 123 = .ok (.iconst 5, 1) := dk_8 (dk_at dksX7_writesTerm_5 8 rfl rfl)
theorem dX7_writesTerm_124 : decode cX7_writesTerm 124 = .ok (.if_icmp .ge 28, 3) := dk_162 0 28 (dk_at dksX7_writesTerm_5 9 rfl rfl)
theorem dX7_writesTerm_127 : decode cX7_writesTerm 127 = .ok (.iload_n 2, 1) := dk_28 (dk_at dksX7_writesTerm_5 12 rfl rfl)
theorem dX7_writesTerm_128 : decode cX7_writesTerm 128 = .ok (.iload 10, 2) := dk_21 10 (dk_at dksX7_writesTerm_5 13 rfl rfl)
theorem dX7_writesTerm_130 : decode cX7_writesTerm 130 = .ok (.ishr, 1) := dk_122 (dk_at dksX7_writesTerm_5 15 rfl rfl)
theorem dX7_writesTerm_131 : decode cX7_writesTerm 131 = .ok (.iconst 1, 1) := dk_4 (dk_at dksX7_writesTerm_5 16 rfl rfl)
theorem dX7_writesTerm_132 : decode cX7_writesTerm 132 = .ok (.iand, 1) := dk_126 (dk_at dksX7_writesTerm_5 17 rfl rfl)
theorem dX7_writesTerm_133 : decode cX7_writesTerm 133 = .ok (.iconst 1, 1) := dk_4 (dk_at dksX7_writesTerm_5 18 rfl rfl)
theorem dX7_writesTerm_134 : decode cX7_writesTerm 134 = .ok (.if_icmp .ne 12, 3) := dk_160 0 12 (dk_at dksX7_writesTerm_5 19 rfl rfl)
theorem dX7_writesTerm_137 : decode cX7_writesTerm 137 = .ok (.aload_n 0, 1) := dk_42 (dk_at dksX7_writesTerm_5 22 rfl rfl)
theorem dX7_writesTerm_138 : decode cX7_writesTerm 138 = .ok (.bipush 49, 2) := dk_16 49 (dk_at dksX7_writesTerm_6 0 rfl rfl)
theorem dX7_writesTerm_140 : decode cX7_writesTerm 140 = .ok (.iload 10, 2) := dk_21 10 (dk_at dksX7_writesTerm_6 2 rfl rfl)
theorem dX7_writesTerm_142 : decode cX7_writesTerm 142 = .ok (.iadd, 1) := dk_96 (dk_at dksX7_writesTerm_6 4 rfl rfl)
theorem dX7_writesTerm_143 : decode cX7_writesTerm 143 = .ok (.invokevirtual 339, 3) := dk_182 1 83 (dk_at dksX7_writesTerm_6 5 rfl rfl)
theorem dX7_writesTerm_146 : decode cX7_writesTerm 146 = .ok (.iinc 10 1, 3) := dk_132 10 1 (dk_at dksX7_writesTerm_6 8 rfl rfl)
theorem dX7_writesTerm_149 : decode cX7_writesTerm 149 = .ok (.goto (-28), 3) := dk_167 255 228 (dk_at dksX7_writesTerm_6 11 rfl rfl)
theorem dX7_writesTerm_152 : decode cX7_writesTerm 152 = .ok (.return_, 1) := dk_177 (dk_at dksX7_writesTerm_6 14 rfl rfl)
abbrev cX7_writesNumber : ByteArray := prog_42_method_108_code
def yX7_writesNumber : MethodName := ⟨RX7, "writesNumber", "(J)V"⟩
def dkwX7_writesNumber_2 : List UInt8 := [66, 167, 255, 228, 177]
abbrev dktX7_writesNumber_2 : List UInt8 := dkwX7_writesNumber_2 ++ []
def dkwX7_writesNumber_1 : List UInt8 := [158, 0, 28, 42, 20, 1, 81, 31, 33, 109, 20, 1, 79, 113, 97, 136, 182, 1, 83, 33, 20, 1, 79, 109]
abbrev dktX7_writesNumber_1 : List UInt8 := dkwX7_writesNumber_1 ++ dktX7_writesNumber_2
def dkwX7_writesNumber_0 : List UInt8 := [10, 66, 31, 33, 109, 20, 1, 79, 148, 155, 0, 12, 33, 20, 1, 79, 105, 66, 167, 255, 240, 33, 9, 148]
abbrev dktX7_writesNumber_0 : List UInt8 := dkwX7_writesNumber_0 ++ dktX7_writesNumber_1
theorem dksX7_writesNumber_0 : cX7_writesNumber.data.toList.drop 0 = dktX7_writesNumber_0 := by decide +kernel
theorem dksX7_writesNumber_1 : cX7_writesNumber.data.toList.drop 24 = dktX7_writesNumber_1 := dk_seg dksX7_writesNumber_0 24 rfl rfl
theorem dksX7_writesNumber_2 : cX7_writesNumber.data.toList.drop 48 = dktX7_writesNumber_2 := dk_seg dksX7_writesNumber_1 24 rfl rfl
theorem dX7_writesNumber_0 : decode cX7_writesNumber 0 = .ok (.lconst 1, 1) := dk_10 (dk_at dksX7_writesNumber_0 0 rfl rfl)
theorem dX7_writesNumber_1 : decode cX7_writesNumber 1 = .ok (.lstore_n 3, 1) := dk_66 (dk_at dksX7_writesNumber_0 1 rfl rfl)
theorem dX7_writesNumber_2 : decode cX7_writesNumber 2 = .ok (.lload_n 1, 1) := dk_31 (dk_at dksX7_writesNumber_0 2 rfl rfl)
theorem dX7_writesNumber_3 : decode cX7_writesNumber 3 = .ok (.lload_n 3, 1) := dk_33 (dk_at dksX7_writesNumber_0 3 rfl rfl)
theorem dX7_writesNumber_4 : decode cX7_writesNumber 4 = .ok (.ldiv, 1) := dk_109 (dk_at dksX7_writesNumber_0 4 rfl rfl)
theorem dX7_writesNumber_5 : decode cX7_writesNumber 5 = .ok (.ldc2_w 335, 3) := dk_20 1 79 (dk_at dksX7_writesNumber_0 5 rfl rfl)
theorem dX7_writesNumber_8 : decode cX7_writesNumber 8 = .ok (.lcmp, 1) := dk_148 (dk_at dksX7_writesNumber_0 8 rfl rfl)
theorem dX7_writesNumber_9 : decode cX7_writesNumber 9 = .ok (.ifCond .lt 12, 3) := dk_155 0 12 (dk_at dksX7_writesNumber_0 9 rfl rfl)
theorem dX7_writesNumber_12 : decode cX7_writesNumber 12 = .ok (.lload_n 3, 1) := dk_33 (dk_at dksX7_writesNumber_0 12 rfl rfl)
theorem dX7_writesNumber_13 : decode cX7_writesNumber 13 = .ok (.ldc2_w 335, 3) := dk_20 1 79 (dk_at dksX7_writesNumber_0 13 rfl rfl)
theorem dX7_writesNumber_16 : decode cX7_writesNumber 16 = .ok (.lmul, 1) := dk_105 (dk_at dksX7_writesNumber_0 16 rfl rfl)
theorem dX7_writesNumber_17 : decode cX7_writesNumber 17 = .ok (.lstore_n 3, 1) := dk_66 (dk_at dksX7_writesNumber_0 17 rfl rfl)
theorem dX7_writesNumber_18 : decode cX7_writesNumber 18 = .ok (.goto (-16), 3) := dk_167 255 240 (dk_at dksX7_writesNumber_0 18 rfl rfl)
theorem dX7_writesNumber_21 : decode cX7_writesNumber 21 = .ok (.lload_n 3, 1) := dk_33 (dk_at dksX7_writesNumber_0 21 rfl rfl)
theorem dX7_writesNumber_22 : decode cX7_writesNumber 22 = .ok (.lconst 0, 1) := dk_9 (dk_at dksX7_writesNumber_0 22 rfl rfl)
theorem dX7_writesNumber_23 : decode cX7_writesNumber 23 = .ok (.lcmp, 1) := dk_148 (dk_at dksX7_writesNumber_0 23 rfl rfl)
theorem dX7_writesNumber_24 : decode cX7_writesNumber 24 = .ok (.ifCond .le 28, 3) := dk_158 0 28 (dk_at dksX7_writesNumber_1 0 rfl rfl)
theorem dX7_writesNumber_27 : decode cX7_writesNumber 27 = .ok (.aload_n 0, 1) := dk_42 (dk_at dksX7_writesNumber_1 3 rfl rfl)
theorem dX7_writesNumber_28 : decode cX7_writesNumber 28 = .ok (.ldc2_w 337, 3) := dk_20 1 81 (dk_at dksX7_writesNumber_1 4 rfl rfl)
theorem dX7_writesNumber_31 : decode cX7_writesNumber 31 = .ok (.lload_n 1, 1) := dk_31 (dk_at dksX7_writesNumber_1 7 rfl rfl)
theorem dX7_writesNumber_32 : decode cX7_writesNumber 32 = .ok (.lload_n 3, 1) := dk_33 (dk_at dksX7_writesNumber_1 8 rfl rfl)
theorem dX7_writesNumber_33 : decode cX7_writesNumber 33 = .ok (.ldiv, 1) := dk_109 (dk_at dksX7_writesNumber_1 9 rfl rfl)
theorem dX7_writesNumber_34 : decode cX7_writesNumber 34 = .ok (.ldc2_w 335, 3) := dk_20 1 79 (dk_at dksX7_writesNumber_1 10 rfl rfl)
theorem dX7_writesNumber_37 : decode cX7_writesNumber 37 = .ok (.lrem, 1) := dk_113 (dk_at dksX7_writesNumber_1 13 rfl rfl)
theorem dX7_writesNumber_38 : decode cX7_writesNumber 38 = .ok (.ladd, 1) := dk_97 (dk_at dksX7_writesNumber_1 14 rfl rfl)
theorem dX7_writesNumber_39 : decode cX7_writesNumber 39 = .ok (.l2i, 1) := dk_136 (dk_at dksX7_writesNumber_1 15 rfl rfl)
theorem dX7_writesNumber_40 : decode cX7_writesNumber 40 = .ok (.invokevirtual 339, 3) := dk_182 1 83 (dk_at dksX7_writesNumber_1 16 rfl rfl)
theorem dX7_writesNumber_43 : decode cX7_writesNumber 43 = .ok (.lload_n 3, 1) := dk_33 (dk_at dksX7_writesNumber_1 19 rfl rfl)
theorem dX7_writesNumber_44 : decode cX7_writesNumber 44 = .ok (.ldc2_w 335, 3) := dk_20 1 79 (dk_at dksX7_writesNumber_1 20 rfl rfl)
theorem dX7_writesNumber_47 : decode cX7_writesNumber 47 = .ok (.ldiv, 1) := dk_109 (dk_at dksX7_writesNumber_1 23 rfl rfl)
theorem dX7_writesNumber_48 : decode cX7_writesNumber 48 = .ok (.lstore_n 3, 1) := dk_66 (dk_at dksX7_writesNumber_2 0 rfl rfl)
theorem dX7_writesNumber_49 : decode cX7_writesNumber 49 = .ok (.goto (-28), 3) := dk_167 255 228 (dk_at dksX7_writesNumber_2 1 rfl rfl)
theorem dX7_writesNumber_52 : decode cX7_writesNumber 52 = .ok (.return_, 1) := dk_177 (dk_at dksX7_writesNumber_2 4 rfl rfl)
abbrev cX7_outputByte : ByteArray := prog_42_method_111_code
def yX7_outputByte : MethodName := ⟨RX7, "outputByte", "(I)I"⟩
def dkwX7_outputByte_1 : List UInt8 := [180, 1, 76, 162, 0, 16, 42, 180, 0, 51, 27, 51, 17, 0, 255, 126, 167, 0, 4, 2, 172]
abbrev dktX7_outputByte_1 : List UInt8 := dkwX7_outputByte_1 ++ []
def dkwX7_outputByte_0 : List UInt8 := [42, 27, 155, 0, 7, 3, 167, 0, 4, 4, 181, 0, 54, 42, 180, 0, 54, 158, 0, 5, 3, 172, 27, 42]
abbrev dktX7_outputByte_0 : List UInt8 := dkwX7_outputByte_0 ++ dktX7_outputByte_1
theorem dksX7_outputByte_0 : cX7_outputByte.data.toList.drop 0 = dktX7_outputByte_0 := by decide +kernel
theorem dksX7_outputByte_1 : cX7_outputByte.data.toList.drop 24 = dktX7_outputByte_1 := dk_seg dksX7_outputByte_0 24 rfl rfl
theorem dX7_outputByte_0 : decode cX7_outputByte 0 = .ok (.aload_n 0, 1) := dk_42 (dk_at dksX7_outputByte_0 0 rfl rfl)
theorem dX7_outputByte_1 : decode cX7_outputByte 1 = .ok (.iload_n 1, 1) := dk_27 (dk_at dksX7_outputByte_0 1 rfl rfl)
theorem dX7_outputByte_2 : decode cX7_outputByte 2 = .ok (.ifCond .lt 7, 3) := dk_155 0 7 (dk_at dksX7_outputByte_0 2 rfl rfl)
theorem dX7_outputByte_5 : decode cX7_outputByte 5 = .ok (.iconst 0, 1) := dk_3 (dk_at dksX7_outputByte_0 5 rfl rfl)
theorem dX7_outputByte_6 : decode cX7_outputByte 6 = .ok (.goto 4, 3) := dk_167 0 4 (dk_at dksX7_outputByte_0 6 rfl rfl)
theorem dX7_outputByte_9 : decode cX7_outputByte 9 = .ok (.iconst 1, 1) := dk_4 (dk_at dksX7_outputByte_0 9 rfl rfl)
theorem dX7_outputByte_10 : decode cX7_outputByte 10 = .ok (.putfield 54, 3) := dk_181 0 54 (dk_at dksX7_outputByte_0 10 rfl rfl)
theorem dX7_outputByte_13 : decode cX7_outputByte 13 = .ok (.aload_n 0, 1) := dk_42 (dk_at dksX7_outputByte_0 13 rfl rfl)
theorem dX7_outputByte_14 : decode cX7_outputByte 14 = .ok (.getfield 54, 3) := dk_180 0 54 (dk_at dksX7_outputByte_0 14 rfl rfl)
theorem dX7_outputByte_17 : decode cX7_outputByte 17 = .ok (.ifCond .le 5, 3) := dk_158 0 5 (dk_at dksX7_outputByte_0 17 rfl rfl)
theorem dX7_outputByte_20 : decode cX7_outputByte 20 = .ok (.iconst 0, 1) := dk_3 (dk_at dksX7_outputByte_0 20 rfl rfl)
theorem dX7_outputByte_21 : decode cX7_outputByte 21 = .ok (.ireturn, 1) := dk_172 (dk_at dksX7_outputByte_0 21 rfl rfl)
theorem dX7_outputByte_22 : decode cX7_outputByte 22 = .ok (.iload_n 1, 1) := dk_27 (dk_at dksX7_outputByte_0 22 rfl rfl)
theorem dX7_outputByte_23 : decode cX7_outputByte 23 = .ok (.aload_n 0, 1) := dk_42 (dk_at dksX7_outputByte_0 23 rfl rfl)
theorem dX7_outputByte_24 : decode cX7_outputByte 24 = .ok (.getfield 332, 3) := dk_180 1 76 (dk_at dksX7_outputByte_1 0 rfl rfl)
theorem dX7_outputByte_27 : decode cX7_outputByte 27 = .ok (.if_icmp .ge 16, 3) := dk_162 0 16 (dk_at dksX7_outputByte_1 3 rfl rfl)
theorem dX7_outputByte_30 : decode cX7_outputByte 30 = .ok (.aload_n 0, 1) := dk_42 (dk_at dksX7_outputByte_1 6 rfl rfl)
theorem dX7_outputByte_31 : decode cX7_outputByte 31 = .ok (.getfield 51, 3) := dk_180 0 51 (dk_at dksX7_outputByte_1 7 rfl rfl)
theorem dX7_outputByte_34 : decode cX7_outputByte 34 = .ok (.iload_n 1, 1) := dk_27 (dk_at dksX7_outputByte_1 10 rfl rfl)
theorem dX7_outputByte_35 : decode cX7_outputByte 35 = .ok (.baload, 1) := dk_51 (dk_at dksX7_outputByte_1 11 rfl rfl)
theorem dX7_outputByte_36 : decode cX7_outputByte 36 = .ok (.sipush 255, 3) := dk_17 0 255 (dk_at dksX7_outputByte_1 12 rfl rfl)
theorem dX7_outputByte_39 : decode cX7_outputByte 39 = .ok (.iand, 1) := dk_126 (dk_at dksX7_outputByte_1 15 rfl rfl)
theorem dX7_outputByte_40 : decode cX7_outputByte 40 = .ok (.goto 4, 3) := dk_167 0 4 (dk_at dksX7_outputByte_1 16 rfl rfl)
theorem dX7_outputByte_43 : decode cX7_outputByte 43 = .ok (.iconst (-1), 1) := dk_2 (dk_at dksX7_outputByte_1 19 rfl rfl)
theorem dX7_outputByte_44 : decode cX7_outputByte 44 = .ok (.ireturn, 1) := dk_172 (dk_at dksX7_outputByte_1 20 rfl rfl)
abbrev cX7_save : ByteArray := prog_42_method_112_code
def yX7_save : MethodName := ⟨RX7, "save", "(I)V"⟩
def dkwX7_save_3 : List UInt8 := [42, 180, 0, 57, 79, 42, 180, 0, 20, 27, 42, 180, 0, 60, 79, 42, 180, 0, 23, 27, 4, 84, 177]
abbrev dktX7_save_3 : List UInt8 := dkwX7_save_3 ++ []
def dkwX7_save_2 : List UInt8 := [182, 0, 86, 132, 2, 1, 167, 255, 233, 42, 180, 0, 13, 27, 42, 180, 0, 7, 79, 42, 180, 0, 17, 27]
abbrev dktX7_save_2 : List UInt8 := dkwX7_save_2 ++ dktX7_save_3
def dkwX7_save_1 : List UInt8 := [158, 0, 4, 177, 3, 61, 28, 16, 8, 162, 0, 23, 42, 28, 16, 8, 16, 8, 27, 104, 96, 28, 96]
abbrev dktX7_save_1 : List UInt8 := dkwX7_save_1 ++ dktX7_save_2
def dkwX7_save_0 : List UInt8 := [42, 27, 3, 4, 184, 0, 67, 153, 0, 7, 3, 167, 0, 4, 4, 181, 0, 54, 42, 180, 0, 54]
abbrev dktX7_save_0 : List UInt8 := dkwX7_save_0 ++ dktX7_save_1
theorem dksX7_save_0 : cX7_save.data.toList.drop 0 = dktX7_save_0 := by decide +kernel
theorem dksX7_save_1 : cX7_save.data.toList.drop 22 = dktX7_save_1 := dk_seg dksX7_save_0 22 rfl rfl
theorem dksX7_save_2 : cX7_save.data.toList.drop 45 = dktX7_save_2 := dk_seg dksX7_save_1 23 rfl rfl
theorem dksX7_save_3 : cX7_save.data.toList.drop 69 = dktX7_save_3 := dk_seg dksX7_save_2 24 rfl rfl
theorem dX7_save_0 : decode cX7_save 0 = .ok (.aload_n 0, 1) := dk_42 (dk_at dksX7_save_0 0 rfl rfl)
theorem dX7_save_1 : decode cX7_save 1 = .ok (.iload_n 1, 1) := dk_27 (dk_at dksX7_save_0 1 rfl rfl)
theorem dX7_save_2 : decode cX7_save 2 = .ok (.iconst 0, 1) := dk_3 (dk_at dksX7_save_0 2 rfl rfl)
theorem dX7_save_3 : decode cX7_save 3 = .ok (.iconst 1, 1) := dk_4 (dk_at dksX7_save_0 3 rfl rfl)
theorem dX7_save_4 : decode cX7_save 4 = .ok (.invokestatic 67, 3) := dk_184 0 67 (dk_at dksX7_save_0 4 rfl rfl)
theorem dX7_save_7 : decode cX7_save 7 = .ok (.ifCond .eq 7, 3) := dk_153 0 7 (dk_at dksX7_save_0 7 rfl rfl)
theorem dX7_save_10 : decode cX7_save 10 = .ok (.iconst 0, 1) := dk_3 (dk_at dksX7_save_0 10 rfl rfl)
theorem dX7_save_11 : decode cX7_save 11 = .ok (.goto 4, 3) := dk_167 0 4 (dk_at dksX7_save_0 11 rfl rfl)
theorem dX7_save_14 : decode cX7_save 14 = .ok (.iconst 1, 1) := dk_4 (dk_at dksX7_save_0 14 rfl rfl)
theorem dX7_save_15 : decode cX7_save 15 = .ok (.putfield 54, 3) := dk_181 0 54 (dk_at dksX7_save_0 15 rfl rfl)
theorem dX7_save_18 : decode cX7_save 18 = .ok (.aload_n 0, 1) := dk_42 (dk_at dksX7_save_0 18 rfl rfl)
theorem dX7_save_19 : decode cX7_save 19 = .ok (.getfield 54, 3) := dk_180 0 54 (dk_at dksX7_save_0 19 rfl rfl)
theorem dX7_save_22 : decode cX7_save 22 = .ok (.ifCond .le 4, 3) := dk_158 0 4 (dk_at dksX7_save_1 0 rfl rfl)
theorem dX7_save_25 : decode cX7_save 25 = .ok (.return_, 1) := dk_177 (dk_at dksX7_save_1 3 rfl rfl)
theorem dX7_save_26 : decode cX7_save 26 = .ok (.iconst 0, 1) := dk_3 (dk_at dksX7_save_1 4 rfl rfl)
theorem dX7_save_27 : decode cX7_save 27 = .ok (.istore_n 2, 1) := dk_61 (dk_at dksX7_save_1 5 rfl rfl)
theorem dX7_save_28 : decode cX7_save 28 = .ok (.iload_n 2, 1) := dk_28 (dk_at dksX7_save_1 6 rfl rfl)
theorem dX7_save_29 : decode cX7_save 29 = .ok (.bipush 8, 2) := dk_16 8 (dk_at dksX7_save_1 7 rfl rfl)
theorem dX7_save_31 : decode cX7_save 31 = .ok (.if_icmp .ge 23, 3) := dk_162 0 23 (dk_at dksX7_save_1 9 rfl rfl)
theorem dX7_save_34 : decode cX7_save 34 = .ok (.aload_n 0, 1) := dk_42 (dk_at dksX7_save_1 12 rfl rfl)
theorem dX7_save_35 : decode cX7_save 35 = .ok (.iload_n 2, 1) := dk_28 (dk_at dksX7_save_1 13 rfl rfl)
theorem dX7_save_36 : decode cX7_save 36 = .ok (.bipush 8, 2) := dk_16 8 (dk_at dksX7_save_1 14 rfl rfl)
theorem dX7_save_38 : decode cX7_save 38 = .ok (.bipush 8, 2) := dk_16 8 (dk_at dksX7_save_1 16 rfl rfl)
theorem dX7_save_40 : decode cX7_save 40 = .ok (.iload_n 1, 1) := dk_27 (dk_at dksX7_save_1 18 rfl rfl)
theorem dX7_save_41 : decode cX7_save 41 = .ok (.imul, 1) := dk_104 (dk_at dksX7_save_1 19 rfl rfl)
theorem dX7_save_42 : decode cX7_save 42 = .ok (.iadd, 1) := dk_96 (dk_at dksX7_save_1 20 rfl rfl)
theorem dX7_save_43 : decode cX7_save 43 = .ok (.iload_n 2, 1) := dk_28 (dk_at dksX7_save_1 21 rfl rfl)
theorem dX7_save_44 : decode cX7_save 44 = .ok (.iadd, 1) := dk_96 (dk_at dksX7_save_1 22 rfl rfl)
theorem dX7_save_45 : decode cX7_save 45 = .ok (.invokevirtual 86, 3) := dk_182 0 86 (dk_at dksX7_save_2 0 rfl rfl)
theorem dX7_save_48 : decode cX7_save 48 = .ok (.iinc 2 1, 3) := dk_132 2 1 (dk_at dksX7_save_2 3 rfl rfl)
theorem dX7_save_51 : decode cX7_save 51 = .ok (.goto (-23), 3) := dk_167 255 233 (dk_at dksX7_save_2 6 rfl rfl)
theorem dX7_save_54 : decode cX7_save 54 = .ok (.aload_n 0, 1) := dk_42 (dk_at dksX7_save_2 9 rfl rfl)
theorem dX7_save_55 : decode cX7_save 55 = .ok (.getfield 13, 3) := dk_180 0 13 (dk_at dksX7_save_2 10 rfl rfl)
theorem dX7_save_58 : decode cX7_save 58 = .ok (.iload_n 1, 1) := dk_27 (dk_at dksX7_save_2 13 rfl rfl)
theorem dX7_save_59 : decode cX7_save 59 = .ok (.aload_n 0, 1) := dk_42 (dk_at dksX7_save_2 14 rfl rfl)
theorem dX7_save_60 : decode cX7_save 60 = .ok (.getfield 7, 3) := dk_180 0 7 (dk_at dksX7_save_2 15 rfl rfl)
theorem dX7_save_63 : decode cX7_save 63 = .ok (.iastore, 1) := dk_79 (dk_at dksX7_save_2 18 rfl rfl)
theorem dX7_save_64 : decode cX7_save 64 = .ok (.aload_n 0, 1) := dk_42 (dk_at dksX7_save_2 19 rfl rfl)
theorem dX7_save_65 : decode cX7_save 65 = .ok (.getfield 17, 3) := dk_180 0 17 (dk_at dksX7_save_2 20 rfl rfl)
theorem dX7_save_68 : decode cX7_save 68 = .ok (.iload_n 1, 1) := dk_27 (dk_at dksX7_save_2 23 rfl rfl)
theorem dX7_save_69 : decode cX7_save 69 = .ok (.aload_n 0, 1) := dk_42 (dk_at dksX7_save_3 0 rfl rfl)
theorem dX7_save_70 : decode cX7_save 70 = .ok (.getfield 57, 3) := dk_180 0 57 (dk_at dksX7_save_3 1 rfl rfl)
theorem dX7_save_73 : decode cX7_save 73 = .ok (.iastore, 1) := dk_79 (dk_at dksX7_save_3 4 rfl rfl)
theorem dX7_save_74 : decode cX7_save 74 = .ok (.aload_n 0, 1) := dk_42 (dk_at dksX7_save_3 5 rfl rfl)
theorem dX7_save_75 : decode cX7_save 75 = .ok (.getfield 20, 3) := dk_180 0 20 (dk_at dksX7_save_3 6 rfl rfl)
theorem dX7_save_78 : decode cX7_save 78 = .ok (.iload_n 1, 1) := dk_27 (dk_at dksX7_save_3 9 rfl rfl)
theorem dX7_save_79 : decode cX7_save 79 = .ok (.aload_n 0, 1) := dk_42 (dk_at dksX7_save_3 10 rfl rfl)
theorem dX7_save_80 : decode cX7_save 80 = .ok (.getfield 60, 3) := dk_180 0 60 (dk_at dksX7_save_3 11 rfl rfl)
theorem dX7_save_83 : decode cX7_save 83 = .ok (.iastore, 1) := dk_79 (dk_at dksX7_save_3 14 rfl rfl)
theorem dX7_save_84 : decode cX7_save 84 = .ok (.aload_n 0, 1) := dk_42 (dk_at dksX7_save_3 15 rfl rfl)
theorem dX7_save_85 : decode cX7_save 85 = .ok (.getfield 23, 3) := dk_180 0 23 (dk_at dksX7_save_3 16 rfl rfl)
theorem dX7_save_88 : decode cX7_save 88 = .ok (.iload_n 1, 1) := dk_27 (dk_at dksX7_save_3 19 rfl rfl)
theorem dX7_save_89 : decode cX7_save 89 = .ok (.iconst 1, 1) := dk_4 (dk_at dksX7_save_3 20 rfl rfl)
theorem dX7_save_90 : decode cX7_save 90 = .ok (.bastore, 1) := dk_84 (dk_at dksX7_save_3 21 rfl rfl)
theorem dX7_save_91 : decode cX7_save 91 = .ok (.return_, 1) := dk_177 (dk_at dksX7_save_3 22 rfl rfl)
abbrev cX7_restore : ByteArray := prog_42_method_113_code
def yX7_restore : MethodName := ⟨RX7, "restore", "(I)V"⟩
def dkwX7_restore_4 : List UInt8 := [181, 0, 60, 177]
abbrev dktX7_restore_4 : List UInt8 := dkwX7_restore_4 ++ []
def dkwX7_restore_3 : List UInt8 := [27, 46, 181, 0, 7, 42, 42, 180, 0, 17, 27, 46, 181, 0, 57, 42, 42, 180, 0, 20, 27, 46]
abbrev dktX7_restore_3 : List UInt8 := dkwX7_restore_3 ++ dktX7_restore_4
def dkwX7_restore_2 : List UInt8 := [16, 8, 16, 8, 27, 104, 96, 28, 96, 28, 182, 0, 86, 132, 2, 1, 167, 255, 233, 42, 42, 180, 0, 13]
abbrev dktX7_restore_2 : List UInt8 := dkwX7_restore_2 ++ dktX7_restore_3
def dkwX7_restore_1 : List UInt8 := [167, 0, 4, 5, 181, 0, 54, 42, 180, 0, 54, 158, 0, 4, 177, 3, 61, 28, 16, 8, 162, 0, 23, 42]
abbrev dktX7_restore_1 : List UInt8 := dkwX7_restore_1 ++ dktX7_restore_2
def dkwX7_restore_0 : List UInt8 := [42, 27, 3, 4, 184, 0, 67, 154, 0, 7, 4, 167, 0, 17, 42, 180, 0, 23, 27, 51, 153, 0, 7, 3]
abbrev dktX7_restore_0 : List UInt8 := dkwX7_restore_0 ++ dktX7_restore_1
theorem dksX7_restore_0 : cX7_restore.data.toList.drop 0 = dktX7_restore_0 := by decide +kernel
theorem dksX7_restore_1 : cX7_restore.data.toList.drop 24 = dktX7_restore_1 := dk_seg dksX7_restore_0 24 rfl rfl
theorem dksX7_restore_2 : cX7_restore.data.toList.drop 48 = dktX7_restore_2 := dk_seg dksX7_restore_1 24 rfl rfl
theorem dksX7_restore_3 : cX7_restore.data.toList.drop 72 = dktX7_restore_3 := dk_seg dksX7_restore_2 24 rfl rfl
theorem dksX7_restore_4 : cX7_restore.data.toList.drop 94 = dktX7_restore_4 := dk_seg dksX7_restore_3 22 rfl rfl
theorem dX7_restore_0 : decode cX7_restore 0 = .ok (.aload_n 0, 1) := dk_42 (dk_at dksX7_restore_0 0 rfl rfl)
theorem dX7_restore_1 : decode cX7_restore 1 = .ok (.iload_n 1, 1) := dk_27 (dk_at dksX7_restore_0 1 rfl rfl)
theorem dX7_restore_2 : decode cX7_restore 2 = .ok (.iconst 0, 1) := dk_3 (dk_at dksX7_restore_0 2 rfl rfl)
theorem dX7_restore_3 : decode cX7_restore 3 = .ok (.iconst 1, 1) := dk_4 (dk_at dksX7_restore_0 3 rfl rfl)
theorem dX7_restore_4 : decode cX7_restore 4 = .ok (.invokestatic 67, 3) := dk_184 0 67 (dk_at dksX7_restore_0 4 rfl rfl)
theorem dX7_restore_7 : decode cX7_restore 7 = .ok (.ifCond .ne 7, 3) := dk_154 0 7 (dk_at dksX7_restore_0 7 rfl rfl)
theorem dX7_restore_10 : decode cX7_restore 10 = .ok (.iconst 1, 1) := dk_4 (dk_at dksX7_restore_0 10 rfl rfl)
theorem dX7_restore_11 : decode cX7_restore 11 = .ok (.goto 17, 3) := dk_167 0 17 (dk_at dksX7_restore_0 11 rfl rfl)
theorem dX7_restore_14 : decode cX7_restore 14 = .ok (.aload_n 0, 1) := dk_42 (dk_at dksX7_restore_0 14 rfl rfl)
theorem dX7_restore_15 : decode cX7_restore 15 = .ok (.getfield 23, 3) := dk_180 0 23 (dk_at dksX7_restore_0 15 rfl rfl)
theorem dX7_restore_18 : decode cX7_restore 18 = .ok (.iload_n 1, 1) := dk_27 (dk_at dksX7_restore_0 18 rfl rfl)
theorem dX7_restore_19 : decode cX7_restore 19 = .ok (.baload, 1) := dk_51 (dk_at dksX7_restore_0 19 rfl rfl)
theorem dX7_restore_20 : decode cX7_restore 20 = .ok (.ifCond .eq 7, 3) := dk_153 0 7 (dk_at dksX7_restore_0 20 rfl rfl)
theorem dX7_restore_23 : decode cX7_restore 23 = .ok (.iconst 0, 1) := dk_3 (dk_at dksX7_restore_0 23 rfl rfl)
theorem dX7_restore_24 : decode cX7_restore 24 = .ok (.goto 4, 3) := dk_167 0 4 (dk_at dksX7_restore_1 0 rfl rfl)
theorem dX7_restore_27 : decode cX7_restore 27 = .ok (.iconst 2, 1) := dk_5 (dk_at dksX7_restore_1 3 rfl rfl)
theorem dX7_restore_28 : decode cX7_restore 28 = .ok (.putfield 54, 3) := dk_181 0 54 (dk_at dksX7_restore_1 4 rfl rfl)
theorem dX7_restore_31 : decode cX7_restore 31 = .ok (.aload_n 0, 1) := dk_42 (dk_at dksX7_restore_1 7 rfl rfl)
theorem dX7_restore_32 : decode cX7_restore 32 = .ok (.getfield 54, 3) := dk_180 0 54 (dk_at dksX7_restore_1 8 rfl rfl)
theorem dX7_restore_35 : decode cX7_restore 35 = .ok (.ifCond .le 4, 3) := dk_158 0 4 (dk_at dksX7_restore_1 11 rfl rfl)
theorem dX7_restore_38 : decode cX7_restore 38 = .ok (.return_, 1) := dk_177 (dk_at dksX7_restore_1 14 rfl rfl)
theorem dX7_restore_39 : decode cX7_restore 39 = .ok (.iconst 0, 1) := dk_3 (dk_at dksX7_restore_1 15 rfl rfl)
theorem dX7_restore_40 : decode cX7_restore 40 = .ok (.istore_n 2, 1) := dk_61 (dk_at dksX7_restore_1 16 rfl rfl)
theorem dX7_restore_41 : decode cX7_restore 41 = .ok (.iload_n 2, 1) := dk_28 (dk_at dksX7_restore_1 17 rfl rfl)
theorem dX7_restore_42 : decode cX7_restore 42 = .ok (.bipush 8, 2) := dk_16 8 (dk_at dksX7_restore_1 18 rfl rfl)
theorem dX7_restore_44 : decode cX7_restore 44 = .ok (.if_icmp .ge 23, 3) := dk_162 0 23 (dk_at dksX7_restore_1 20 rfl rfl)
theorem dX7_restore_47 : decode cX7_restore 47 = .ok (.aload_n 0, 1) := dk_42 (dk_at dksX7_restore_1 23 rfl rfl)
theorem dX7_restore_48 : decode cX7_restore 48 = .ok (.bipush 8, 2) := dk_16 8 (dk_at dksX7_restore_2 0 rfl rfl)
theorem dX7_restore_50 : decode cX7_restore 50 = .ok (.bipush 8, 2) := dk_16 8 (dk_at dksX7_restore_2 2 rfl rfl)
theorem dX7_restore_52 : decode cX7_restore 52 = .ok (.iload_n 1, 1) := dk_27 (dk_at dksX7_restore_2 4 rfl rfl)
theorem dX7_restore_53 : decode cX7_restore 53 = .ok (.imul, 1) := dk_104 (dk_at dksX7_restore_2 5 rfl rfl)
theorem dX7_restore_54 : decode cX7_restore 54 = .ok (.iadd, 1) := dk_96 (dk_at dksX7_restore_2 6 rfl rfl)
theorem dX7_restore_55 : decode cX7_restore 55 = .ok (.iload_n 2, 1) := dk_28 (dk_at dksX7_restore_2 7 rfl rfl)
theorem dX7_restore_56 : decode cX7_restore 56 = .ok (.iadd, 1) := dk_96 (dk_at dksX7_restore_2 8 rfl rfl)
theorem dX7_restore_57 : decode cX7_restore 57 = .ok (.iload_n 2, 1) := dk_28 (dk_at dksX7_restore_2 9 rfl rfl)
theorem dX7_restore_58 : decode cX7_restore 58 = .ok (.invokevirtual 86, 3) := dk_182 0 86 (dk_at dksX7_restore_2 10 rfl rfl)
theorem dX7_restore_61 : decode cX7_restore 61 = .ok (.iinc 2 1, 3) := dk_132 2 1 (dk_at dksX7_restore_2 13 rfl rfl)
theorem dX7_restore_64 : decode cX7_restore 64 = .ok (.goto (-23), 3) := dk_167 255 233 (dk_at dksX7_restore_2 16 rfl rfl)
theorem dX7_restore_67 : decode cX7_restore 67 = .ok (.aload_n 0, 1) := dk_42 (dk_at dksX7_restore_2 19 rfl rfl)
theorem dX7_restore_68 : decode cX7_restore 68 = .ok (.aload_n 0, 1) := dk_42 (dk_at dksX7_restore_2 20 rfl rfl)
theorem dX7_restore_69 : decode cX7_restore 69 = .ok (.getfield 13, 3) := dk_180 0 13 (dk_at dksX7_restore_2 21 rfl rfl)
theorem dX7_restore_72 : decode cX7_restore 72 = .ok (.iload_n 1, 1) := dk_27 (dk_at dksX7_restore_3 0 rfl rfl)
theorem dX7_restore_73 : decode cX7_restore 73 = .ok (.iaload, 1) := dk_46 (dk_at dksX7_restore_3 1 rfl rfl)
theorem dX7_restore_74 : decode cX7_restore 74 = .ok (.putfield 7, 3) := dk_181 0 7 (dk_at dksX7_restore_3 2 rfl rfl)
theorem dX7_restore_77 : decode cX7_restore 77 = .ok (.aload_n 0, 1) := dk_42 (dk_at dksX7_restore_3 5 rfl rfl)
theorem dX7_restore_78 : decode cX7_restore 78 = .ok (.aload_n 0, 1) := dk_42 (dk_at dksX7_restore_3 6 rfl rfl)
theorem dX7_restore_79 : decode cX7_restore 79 = .ok (.getfield 17, 3) := dk_180 0 17 (dk_at dksX7_restore_3 7 rfl rfl)
theorem dX7_restore_82 : decode cX7_restore 82 = .ok (.iload_n 1, 1) := dk_27 (dk_at dksX7_restore_3 10 rfl rfl)
theorem dX7_restore_83 : decode cX7_restore 83 = .ok (.iaload, 1) := dk_46 (dk_at dksX7_restore_3 11 rfl rfl)
theorem dX7_restore_84 : decode cX7_restore 84 = .ok (.putfield 57, 3) := dk_181 0 57 (dk_at dksX7_restore_3 12 rfl rfl)
theorem dX7_restore_87 : decode cX7_restore 87 = .ok (.aload_n 0, 1) := dk_42 (dk_at dksX7_restore_3 15 rfl rfl)
theorem dX7_restore_88 : decode cX7_restore 88 = .ok (.aload_n 0, 1) := dk_42 (dk_at dksX7_restore_3 16 rfl rfl)
theorem dX7_restore_89 : decode cX7_restore 89 = .ok (.getfield 20, 3) := dk_180 0 20 (dk_at dksX7_restore_3 17 rfl rfl)
theorem dX7_restore_92 : decode cX7_restore 92 = .ok (.iload_n 1, 1) := dk_27 (dk_at dksX7_restore_3 20 rfl rfl)
theorem dX7_restore_93 : decode cX7_restore 93 = .ok (.iaload, 1) := dk_46 (dk_at dksX7_restore_3 21 rfl rfl)
theorem dX7_restore_94 : decode cX7_restore 94 = .ok (.putfield 60, 3) := dk_181 0 60 (dk_at dksX7_restore_4 0 rfl rfl)
theorem dX7_restore_97 : decode cX7_restore 97 = .ok (.return_, 1) := dk_177 (dk_at dksX7_restore_4 3 rfl rfl)
theorem q107 : (Jvm.Cond.initialized "BladeAlgebraModel") ∈ lw_all := lw_g (lw_at lw_m1 12 rfl) rfl
theorem q1687 : (Jvm.Cond.selects "BladeAlgebraModel" ({ cls := "java/lang/Object", name := "getClass", desc := "()Ljava/lang/Class;" } : Jvm.MethodName) ({ cls := "java/lang/Object", name := "getClass", desc := "()Ljava/lang/Class;" } : Jvm.MethodName)) ∈ lw_all := lw_g (lw_at lw_m7 152 rfl) rfl
theorem q2001 : (Jvm.Cond.instantiable "BladeAlgebraModel" (27 : Nat)) ∈ lw_all := lw_g (lw_at lw_m8 226 rfl) rfl
theorem q2003 : (Jvm.Cond.instanceMethod ({ cls := "BladeAlgebraModel", name := "<init>", desc := "()V" } : Jvm.MethodName)) ∈ lw_all := lw_g (lw_at lw_m8 228 rfl) rfl
theorem q2004 : (Jvm.Cond.code ({ cls := "BladeAlgebraModel", name := "<init>", desc := "()V" } : Jvm.MethodName) prog_42_method_1_code (2 : Nat) (Option.none : Option Jvm.ClassFile.FieldType)) ∈ lw_all := lw_g (lw_at lw_m8 229 rfl) rfl
theorem q2005 : (Jvm.Cond.methodLink "BladeAlgebraModel" (1 : Nat) ({ cls := "java/lang/Object", name := "<init>", desc := "()V" } : Jvm.MethodName)) ∈ lw_all := lw_g (lw_at lw_m8 230 rfl) rfl
theorem q2006 : (Jvm.Cond.fieldLink "BladeAlgebraModel" (54 : Nat) "BladeAlgebraModel" "thrown" "I") ∈ lw_all := lw_g (lw_at lw_m8 231 rfl) rfl
theorem q2007 : (Jvm.Cond.fieldLink "BladeAlgebraModel" (7 : Nat) "BladeAlgebraModel" "p" "I") ∈ lw_all := lw_g (lw_at lw_m8 232 rfl) rfl
theorem q2008 : (Jvm.Cond.fieldLink "BladeAlgebraModel" (57 : Nat) "BladeAlgebraModel" "q" "I") ∈ lw_all := lw_g (lw_at lw_m8 233 rfl) rfl
theorem q2009 : (Jvm.Cond.fieldLink "BladeAlgebraModel" (60 : Nat) "BladeAlgebraModel" "r" "I") ∈ lw_all := lw_g (lw_at lw_m8 234 rfl) rfl
theorem q2010 : (Jvm.Cond.fieldLink "BladeAlgebraModel" (13 : Nat) "BladeAlgebraModel" "savedP" "[I") ∈ lw_all := lw_g (lw_at lw_m8 235 rfl) rfl
theorem q2011 : (Jvm.Cond.fieldLink "BladeAlgebraModel" (17 : Nat) "BladeAlgebraModel" "savedQ" "[I") ∈ lw_all := lw_g (lw_at lw_m8 236 rfl) rfl
theorem q2012 : (Jvm.Cond.fieldLink "BladeAlgebraModel" (20 : Nat) "BladeAlgebraModel" "savedR" "[I") ∈ lw_all := lw_g (lw_at lw_m8 237 rfl) rfl
theorem q2013 : (Jvm.Cond.fieldLink "BladeAlgebraModel" (23 : Nat) "BladeAlgebraModel" "isSaved" "[Z") ∈ lw_all := lw_g (lw_at lw_m8 238 rfl) rfl
theorem q2014 : (Jvm.Cond.fieldLink "BladeAlgebraModel" (27 : Nat) "BladeAlgebraModel" "all" "[J") ∈ lw_all := lw_g (lw_at lw_m8 239 rfl) rfl
theorem q2015 : (Jvm.Cond.fieldLink "BladeAlgebraModel" (31 : Nat) "BladeAlgebraModel" "made" "[J") ∈ lw_all := lw_g (lw_at lw_m9 0 rfl) rfl
theorem q2016 : (Jvm.Cond.fieldLink "BladeAlgebraModel" (34 : Nat) "BladeAlgebraModel" "madeUnder" "J") ∈ lw_all := lw_g (lw_at lw_m9 1 rfl) rfl
theorem q2017 : (Jvm.Cond.fieldLink "BladeAlgebraModel" (38 : Nat) "BladeAlgebraModel" "text" "[B") ∈ lw_all := lw_g (lw_at lw_m9 2 rfl) rfl
theorem q2018 : (Jvm.Cond.fieldLink "BladeAlgebraModel" (250 : Nat) "BladeAlgebraModel" "length" "I") ∈ lw_all := lw_g (lw_at lw_m9 3 rfl) rfl
theorem q2019 : (Jvm.Cond.fieldLink "BladeAlgebraModel" (253 : Nat) "BladeAlgebraModel" "at" "I") ∈ lw_all := lw_g (lw_at lw_m9 4 rfl) rfl
theorem q2020 : (Jvm.Cond.fieldLink "BladeAlgebraModel" (259 : Nat) "BladeAlgebraModel" "error" "I") ∈ lw_all := lw_g (lw_at lw_m9 5 rfl) rfl
theorem q2021 : (Jvm.Cond.fieldLink "BladeAlgebraModel" (42 : Nat) "BladeAlgebraModel" "errorAt" "I") ∈ lw_all := lw_g (lw_at lw_m9 6 rfl) rfl
theorem q2022 : (Jvm.Cond.fieldLink "BladeAlgebraModel" (268 : Nat) "BladeAlgebraModel" "values" "I") ∈ lw_all := lw_g (lw_at lw_m9 7 rfl) rfl
theorem q2023 : (Jvm.Cond.fieldLink "BladeAlgebraModel" (45 : Nat) "BladeAlgebraModel" "waiting" "[I") ∈ lw_all := lw_g (lw_at lw_m9 8 rfl) rfl
theorem q2024 : (Jvm.Cond.fieldLink "BladeAlgebraModel" (48 : Nat) "BladeAlgebraModel" "places" "[I") ∈ lw_all := lw_g (lw_at lw_m9 9 rfl) rfl
theorem q2025 : (Jvm.Cond.fieldLink "BladeAlgebraModel" (284 : Nat) "BladeAlgebraModel" "waits" "I") ∈ lw_all := lw_g (lw_at lw_m9 10 rfl) rfl
theorem q2026 : (Jvm.Cond.fieldLink "BladeAlgebraModel" (296 : Nat) "BladeAlgebraModel" "open" "I") ∈ lw_all := lw_g (lw_at lw_m9 11 rfl) rfl
theorem q2027 : (Jvm.Cond.fieldLink "BladeAlgebraModel" (278 : Nat) "BladeAlgebraModel" "wants" "Z") ∈ lw_all := lw_g (lw_at lw_m9 12 rfl) rfl
theorem q2028 : (Jvm.Cond.fieldLink "BladeAlgebraModel" (302 : Nat) "BladeAlgebraModel" "begins" "Z") ∈ lw_all := lw_g (lw_at lw_m9 13 rfl) rfl
theorem q2029 : (Jvm.Cond.fieldLink "BladeAlgebraModel" (274 : Nat) "BladeAlgebraModel" "isPlain" "Z") ∈ lw_all := lw_g (lw_at lw_m9 14 rfl) rfl
theorem q2030 : (Jvm.Cond.fieldLink "BladeAlgebraModel" (287 : Nat) "BladeAlgebraModel" "unfitAt" "I") ∈ lw_all := lw_g (lw_at lw_m9 15 rfl) rfl
theorem q2031 : (Jvm.Cond.fieldLink "BladeAlgebraModel" (51 : Nat) "BladeAlgebraModel" "output" "[B") ∈ lw_all := lw_g (lw_at lw_m9 16 rfl) rfl
theorem q2032 : (Jvm.Cond.fieldLink "BladeAlgebraModel" (332 : Nat) "BladeAlgebraModel" "written" "I") ∈ lw_all := lw_g (lw_at lw_m9 17 rfl) rfl
theorem q2033 : (Jvm.Cond.lays "BladeAlgebraModel" "BladeAlgebraModel" "thrown" "I") ∈ lw_all := lw_g (lw_at lw_m9 18 rfl) rfl
theorem q2034 : (Jvm.Cond.soleField "BladeAlgebraModel" "thrown") ∈ lw_all := lw_g (lw_at lw_m9 19 rfl) rfl
theorem q2035 : (Jvm.Cond.lays "BladeAlgebraModel" "BladeAlgebraModel" "p" "I") ∈ lw_all := lw_g (lw_at lw_m9 20 rfl) rfl
theorem q2036 : (Jvm.Cond.soleField "BladeAlgebraModel" "p") ∈ lw_all := lw_g (lw_at lw_m9 21 rfl) rfl
theorem q2037 : (Jvm.Cond.lays "BladeAlgebraModel" "BladeAlgebraModel" "q" "I") ∈ lw_all := lw_g (lw_at lw_m9 22 rfl) rfl
theorem q2038 : (Jvm.Cond.soleField "BladeAlgebraModel" "q") ∈ lw_all := lw_g (lw_at lw_m9 23 rfl) rfl
theorem q2039 : (Jvm.Cond.lays "BladeAlgebraModel" "BladeAlgebraModel" "r" "I") ∈ lw_all := lw_g (lw_at lw_m9 24 rfl) rfl
theorem q2040 : (Jvm.Cond.soleField "BladeAlgebraModel" "r") ∈ lw_all := lw_g (lw_at lw_m9 25 rfl) rfl
theorem q2041 : (Jvm.Cond.laysFinal "BladeAlgebraModel" "BladeAlgebraModel" "savedP" "[I") ∈ lw_all := lw_g (lw_at lw_m9 26 rfl) rfl
theorem q2042 : (Jvm.Cond.soleField "BladeAlgebraModel" "savedP") ∈ lw_all := lw_g (lw_at lw_m9 27 rfl) rfl
theorem q2043 : (Jvm.Cond.laysFinal "BladeAlgebraModel" "BladeAlgebraModel" "savedQ" "[I") ∈ lw_all := lw_g (lw_at lw_m9 28 rfl) rfl
theorem q2044 : (Jvm.Cond.soleField "BladeAlgebraModel" "savedQ") ∈ lw_all := lw_g (lw_at lw_m9 29 rfl) rfl
theorem q2045 : (Jvm.Cond.laysFinal "BladeAlgebraModel" "BladeAlgebraModel" "savedR" "[I") ∈ lw_all := lw_g (lw_at lw_m9 30 rfl) rfl
theorem q2046 : (Jvm.Cond.soleField "BladeAlgebraModel" "savedR") ∈ lw_all := lw_g (lw_at lw_m9 31 rfl) rfl
theorem q2047 : (Jvm.Cond.laysFinal "BladeAlgebraModel" "BladeAlgebraModel" "isSaved" "[Z") ∈ lw_all := lw_g (lw_at lw_m9 32 rfl) rfl
theorem q2048 : (Jvm.Cond.soleField "BladeAlgebraModel" "isSaved") ∈ lw_all := lw_g (lw_at lw_m9 33 rfl) rfl
theorem q2049 : (Jvm.Cond.laysFinal "BladeAlgebraModel" "BladeAlgebraModel" "all" "[J") ∈ lw_all := lw_g (lw_at lw_m9 34 rfl) rfl
theorem q2050 : (Jvm.Cond.soleField "BladeAlgebraModel" "all") ∈ lw_all := lw_g (lw_at lw_m9 35 rfl) rfl
theorem q2051 : (Jvm.Cond.laysFinal "BladeAlgebraModel" "BladeAlgebraModel" "made" "[J") ∈ lw_all := lw_g (lw_at lw_m9 36 rfl) rfl
theorem q2052 : (Jvm.Cond.soleField "BladeAlgebraModel" "made") ∈ lw_all := lw_g (lw_at lw_m9 37 rfl) rfl
theorem q2053 : (Jvm.Cond.lays "BladeAlgebraModel" "BladeAlgebraModel" "madeUnder" "J") ∈ lw_all := lw_g (lw_at lw_m9 38 rfl) rfl
theorem q2054 : (Jvm.Cond.soleField "BladeAlgebraModel" "madeUnder") ∈ lw_all := lw_g (lw_at lw_m9 39 rfl) rfl
theorem q2055 : (Jvm.Cond.laysFinal "BladeAlgebraModel" "BladeAlgebraModel" "text" "[B") ∈ lw_all := lw_g (lw_at lw_m9 40 rfl) rfl
theorem q2056 : (Jvm.Cond.soleField "BladeAlgebraModel" "text") ∈ lw_all := lw_g (lw_at lw_m9 41 rfl) rfl
theorem q2057 : (Jvm.Cond.lays "BladeAlgebraModel" "BladeAlgebraModel" "length" "I") ∈ lw_all := lw_g (lw_at lw_m9 42 rfl) rfl
theorem q2058 : (Jvm.Cond.soleField "BladeAlgebraModel" "length") ∈ lw_all := lw_g (lw_at lw_m9 43 rfl) rfl
theorem q2059 : (Jvm.Cond.lays "BladeAlgebraModel" "BladeAlgebraModel" "at" "I") ∈ lw_all := lw_g (lw_at lw_m9 44 rfl) rfl
theorem q2060 : (Jvm.Cond.soleField "BladeAlgebraModel" "at") ∈ lw_all := lw_g (lw_at lw_m9 45 rfl) rfl
theorem q2061 : (Jvm.Cond.lays "BladeAlgebraModel" "BladeAlgebraModel" "error" "I") ∈ lw_all := lw_g (lw_at lw_m9 46 rfl) rfl
theorem q2062 : (Jvm.Cond.soleField "BladeAlgebraModel" "error") ∈ lw_all := lw_g (lw_at lw_m9 47 rfl) rfl
theorem q2063 : (Jvm.Cond.lays "BladeAlgebraModel" "BladeAlgebraModel" "errorAt" "I") ∈ lw_all := lw_g (lw_at lw_m9 48 rfl) rfl
theorem q2064 : (Jvm.Cond.soleField "BladeAlgebraModel" "errorAt") ∈ lw_all := lw_g (lw_at lw_m9 49 rfl) rfl
theorem q2065 : (Jvm.Cond.lays "BladeAlgebraModel" "BladeAlgebraModel" "values" "I") ∈ lw_all := lw_g (lw_at lw_m9 50 rfl) rfl
theorem q2066 : (Jvm.Cond.soleField "BladeAlgebraModel" "values") ∈ lw_all := lw_g (lw_at lw_m9 51 rfl) rfl
theorem q2067 : (Jvm.Cond.laysFinal "BladeAlgebraModel" "BladeAlgebraModel" "waiting" "[I") ∈ lw_all := lw_g (lw_at lw_m9 52 rfl) rfl
theorem q2068 : (Jvm.Cond.soleField "BladeAlgebraModel" "waiting") ∈ lw_all := lw_g (lw_at lw_m9 53 rfl) rfl
theorem q2069 : (Jvm.Cond.laysFinal "BladeAlgebraModel" "BladeAlgebraModel" "places" "[I") ∈ lw_all := lw_g (lw_at lw_m9 54 rfl) rfl
theorem q2070 : (Jvm.Cond.soleField "BladeAlgebraModel" "places") ∈ lw_all := lw_g (lw_at lw_m9 55 rfl) rfl
theorem q2071 : (Jvm.Cond.lays "BladeAlgebraModel" "BladeAlgebraModel" "waits" "I") ∈ lw_all := lw_g (lw_at lw_m9 56 rfl) rfl
theorem q2072 : (Jvm.Cond.soleField "BladeAlgebraModel" "waits") ∈ lw_all := lw_g (lw_at lw_m9 57 rfl) rfl
theorem q2073 : (Jvm.Cond.lays "BladeAlgebraModel" "BladeAlgebraModel" "open" "I") ∈ lw_all := lw_g (lw_at lw_m9 58 rfl) rfl
theorem q2074 : (Jvm.Cond.soleField "BladeAlgebraModel" "open") ∈ lw_all := lw_g (lw_at lw_m9 59 rfl) rfl
theorem q2075 : (Jvm.Cond.lays "BladeAlgebraModel" "BladeAlgebraModel" "wants" "Z") ∈ lw_all := lw_g (lw_at lw_m9 60 rfl) rfl
theorem q2076 : (Jvm.Cond.soleField "BladeAlgebraModel" "wants") ∈ lw_all := lw_g (lw_at lw_m9 61 rfl) rfl
theorem q2077 : (Jvm.Cond.lays "BladeAlgebraModel" "BladeAlgebraModel" "begins" "Z") ∈ lw_all := lw_g (lw_at lw_m9 62 rfl) rfl
theorem q2078 : (Jvm.Cond.soleField "BladeAlgebraModel" "begins") ∈ lw_all := lw_g (lw_at lw_m9 63 rfl) rfl
theorem q2079 : (Jvm.Cond.lays "BladeAlgebraModel" "BladeAlgebraModel" "isPlain" "Z") ∈ lw_all := lw_g (lw_at lw_m9 64 rfl) rfl
theorem q2080 : (Jvm.Cond.soleField "BladeAlgebraModel" "isPlain") ∈ lw_all := lw_g (lw_at lw_m9 65 rfl) rfl
theorem q2081 : (Jvm.Cond.lays "BladeAlgebraModel" "BladeAlgebraModel" "unfitAt" "I") ∈ lw_all := lw_g (lw_at lw_m9 66 rfl) rfl
theorem q2082 : (Jvm.Cond.soleField "BladeAlgebraModel" "unfitAt") ∈ lw_all := lw_g (lw_at lw_m9 67 rfl) rfl
theorem q2083 : (Jvm.Cond.laysFinal "BladeAlgebraModel" "BladeAlgebraModel" "output" "[B") ∈ lw_all := lw_g (lw_at lw_m9 68 rfl) rfl
theorem q2084 : (Jvm.Cond.soleField "BladeAlgebraModel" "output") ∈ lw_all := lw_g (lw_at lw_m9 69 rfl) rfl
theorem q2085 : (Jvm.Cond.lays "BladeAlgebraModel" "BladeAlgebraModel" "written" "I") ∈ lw_all := lw_g (lw_at lw_m9 70 rfl) rfl
theorem q2086 : (Jvm.Cond.soleField "BladeAlgebraModel" "written") ∈ lw_all := lw_g (lw_at lw_m9 71 rfl) rfl
theorem q2087 : (Jvm.Cond.superclass "BladeAlgebraModel" "java/lang/Object") ∈ lw_all := lw_g (lw_at lw_m9 72 rfl) rfl
theorem q2090 : (Jvm.Cond.instanceMethod ({ cls := "BladeAlgebraModel", name := "thrown", desc := "()I" } : Jvm.MethodName)) ∈ lw_all := lw_g (lw_at lw_m9 75 rfl) rfl
theorem q2091 : (Jvm.Cond.selects "BladeAlgebraModel" ({ cls := "BladeAlgebraModel", name := "thrown", desc := "()I" } : Jvm.MethodName) ({ cls := "BladeAlgebraModel", name := "thrown", desc := "()I" } : Jvm.MethodName)) ∈ lw_all := lw_g (lw_at lw_m9 76 rfl) rfl
theorem q2092 : (Jvm.Cond.code ({ cls := "BladeAlgebraModel", name := "thrown", desc := "()I" } : Jvm.MethodName) prog_42_method_2_code (1 : Nat) (Option.some Jvm.ClassFile.FieldType.int)) ∈ lw_all := lw_g (lw_at lw_m9 77 rfl) rfl
theorem q2094 : (Jvm.Cond.instanceMethod ({ cls := "BladeAlgebraModel", name := "combine", desc := "(IIII)I" } : Jvm.MethodName)) ∈ lw_all := lw_g (lw_at lw_m9 79 rfl) rfl
theorem q2095 : (Jvm.Cond.selects "BladeAlgebraModel" ({ cls := "BladeAlgebraModel", name := "combine", desc := "(IIII)I" } : Jvm.MethodName) ({ cls := "BladeAlgebraModel", name := "combine", desc := "(IIII)I" } : Jvm.MethodName)) ∈ lw_all := lw_g (lw_at lw_m9 80 rfl) rfl
theorem q2096 : (Jvm.Cond.code ({ cls := "BladeAlgebraModel", name := "combine", desc := "(IIII)I" } : Jvm.MethodName) prog_42_method_27_code (5 : Nat) (Option.some Jvm.ClassFile.FieldType.int)) ∈ lw_all := lw_g (lw_at lw_m9 81 rfl) rfl
theorem q2097 : (Jvm.Cond.methodLink "BladeAlgebraModel" (67 : Nat) ({ cls := "BladeAlgebraModel", name := "in", desc := "(III)Z" } : Jvm.MethodName)) ∈ lw_all := lw_g (lw_at lw_m9 82 rfl) rfl
theorem q2098 : (Jvm.Cond.static ({ cls := "BladeAlgebraModel", name := "in", desc := "(III)Z" } : Jvm.MethodName)) ∈ lw_all := lw_g (lw_at lw_m9 83 rfl) rfl
theorem q2099 : (Jvm.Cond.code ({ cls := "BladeAlgebraModel", name := "in", desc := "(III)Z" } : Jvm.MethodName) prog_42_method_3_code (3 : Nat) (Option.some Jvm.ClassFile.FieldType.boolean)) ∈ lw_all := lw_g (lw_at lw_m9 84 rfl) rfl
theorem q2100 : (Jvm.Cond.methodLink "BladeAlgebraModel" (144 : Nat) ({ cls := "BladeAlgebraModel", name := "refuses", desc := "(I)I" } : Jvm.MethodName)) ∈ lw_all := lw_g (lw_at lw_m9 85 rfl) rfl
theorem q2101 : (Jvm.Cond.privateMethod ({ cls := "BladeAlgebraModel", name := "refuses", desc := "(I)I" } : Jvm.MethodName)) ∈ lw_tbl := lw_at lw_m9 86 rfl
theorem q2102 : (Jvm.Cond.instanceMethod ({ cls := "BladeAlgebraModel", name := "refuses", desc := "(I)I" } : Jvm.MethodName)) ∈ lw_all := lw_g (lw_at lw_m9 87 rfl) rfl
theorem q2103 : (Jvm.Cond.code ({ cls := "BladeAlgebraModel", name := "refuses", desc := "(I)I" } : Jvm.MethodName) prog_42_method_18_code (2 : Nat) (Option.some Jvm.ClassFile.FieldType.int)) ∈ lw_all := lw_g (lw_at lw_m9 88 rfl) rfl
theorem q2104 : (Jvm.Cond.methodLink "BladeAlgebraModel" (147 : Nat) ({ cls := "BladeAlgebraModel", name := "isRegister", desc := "(I)Z" } : Jvm.MethodName)) ∈ lw_all := lw_g (lw_at lw_m9 89 rfl) rfl
theorem q2105 : (Jvm.Cond.static ({ cls := "BladeAlgebraModel", name := "isRegister", desc := "(I)Z" } : Jvm.MethodName)) ∈ lw_all := lw_g (lw_at lw_m9 90 rfl) rfl
theorem q2106 : (Jvm.Cond.code ({ cls := "BladeAlgebraModel", name := "isRegister", desc := "(I)Z" } : Jvm.MethodName) prog_42_method_7_code (1 : Nat) (Option.some Jvm.ClassFile.FieldType.boolean)) ∈ lw_all := lw_g (lw_at lw_m9 91 rfl) rfl
theorem q2107 : (Jvm.Cond.methodLink "BladeAlgebraModel" (150 : Nat) ({ cls := "BladeAlgebraModel", name := "carriesOut", desc := "(IIII)Z" } : Jvm.MethodName)) ∈ lw_all := lw_g (lw_at lw_m9 92 rfl) rfl
theorem q2108 : (Jvm.Cond.privateMethod ({ cls := "BladeAlgebraModel", name := "carriesOut", desc := "(IIII)Z" } : Jvm.MethodName)) ∈ lw_tbl := lw_at lw_m9 93 rfl
theorem q2109 : (Jvm.Cond.instanceMethod ({ cls := "BladeAlgebraModel", name := "carriesOut", desc := "(IIII)Z" } : Jvm.MethodName)) ∈ lw_all := lw_g (lw_at lw_m9 94 rfl) rfl
theorem q2110 : (Jvm.Cond.code ({ cls := "BladeAlgebraModel", name := "carriesOut", desc := "(IIII)Z" } : Jvm.MethodName) prog_42_method_25_code (5 : Nat) (Option.some Jvm.ClassFile.FieldType.boolean)) ∈ lw_all := lw_g (lw_at lw_m9 95 rfl) rfl
theorem q2111 : (Jvm.Cond.methodLink "BladeAlgebraModel" (124 : Nat) ({ cls := "BladeAlgebraModel", name := "adds", desc := "(IIII)Z" } : Jvm.MethodName)) ∈ lw_all := lw_g (lw_at lw_m9 96 rfl) rfl
theorem q2112 : (Jvm.Cond.privateMethod ({ cls := "BladeAlgebraModel", name := "adds", desc := "(IIII)Z" } : Jvm.MethodName)) ∈ lw_tbl := lw_at lw_m9 97 rfl
theorem q2113 : (Jvm.Cond.instanceMethod ({ cls := "BladeAlgebraModel", name := "adds", desc := "(IIII)Z" } : Jvm.MethodName)) ∈ lw_all := lw_g (lw_at lw_m9 98 rfl) rfl
theorem q2114 : (Jvm.Cond.code ({ cls := "BladeAlgebraModel", name := "adds", desc := "(IIII)Z" } : Jvm.MethodName) prog_42_method_23_code (6 : Nat) (Option.some Jvm.ClassFile.FieldType.boolean)) ∈ lw_all := lw_g (lw_at lw_m9 99 rfl) rfl
theorem q2115 : (Jvm.Cond.methodLink "BladeAlgebraModel" (105 : Nat) ({ cls := "BladeAlgebraModel", name := "clearsMade", desc := "()V" } : Jvm.MethodName)) ∈ lw_all := lw_g (lw_at lw_m9 100 rfl) rfl
theorem q2116 : (Jvm.Cond.privateMethod ({ cls := "BladeAlgebraModel", name := "clearsMade", desc := "()V" } : Jvm.MethodName)) ∈ lw_tbl := lw_at lw_m9 101 rfl
theorem q2117 : (Jvm.Cond.instanceMethod ({ cls := "BladeAlgebraModel", name := "clearsMade", desc := "()V" } : Jvm.MethodName)) ∈ lw_all := lw_g (lw_at lw_m9 102 rfl) rfl
theorem q2118 : (Jvm.Cond.code ({ cls := "BladeAlgebraModel", name := "clearsMade", desc := "()V" } : Jvm.MethodName) prog_42_method_11_code (2 : Nat) (Option.none : Option Jvm.ClassFile.FieldType)) ∈ lw_all := lw_g (lw_at lw_m9 103 rfl) rfl
theorem q2119 : (Jvm.Cond.methodLink "BladeAlgebraModel" (94 : Nat) ({ cls := "BladeAlgebraModel", name := "of", desc := "(II)J" } : Jvm.MethodName)) ∈ lw_all := lw_g (lw_at lw_m9 104 rfl) rfl
theorem q2120 : (Jvm.Cond.privateMethod ({ cls := "BladeAlgebraModel", name := "of", desc := "(II)J" } : Jvm.MethodName)) ∈ lw_tbl := lw_at lw_m9 105 rfl
theorem q2121 : (Jvm.Cond.instanceMethod ({ cls := "BladeAlgebraModel", name := "of", desc := "(II)J" } : Jvm.MethodName)) ∈ lw_all := lw_g (lw_at lw_m9 106 rfl) rfl
theorem q2122 : (Jvm.Cond.code ({ cls := "BladeAlgebraModel", name := "of", desc := "(II)J" } : Jvm.MethodName) prog_42_method_9_code (3 : Nat) (Option.some Jvm.ClassFile.FieldType.long)) ∈ lw_all := lw_g (lw_at lw_m9 107 rfl) rfl
theorem q2123 : (Jvm.Cond.methodLink "BladeAlgebraModel" (114 : Nat) ({ cls := "BladeAlgebraModel", name := "under", desc := "(I)J" } : Jvm.MethodName)) ∈ lw_all := lw_g (lw_at lw_m9 108 rfl) rfl
theorem q2124 : (Jvm.Cond.privateMethod ({ cls := "BladeAlgebraModel", name := "under", desc := "(I)J" } : Jvm.MethodName)) ∈ lw_tbl := lw_at lw_m9 109 rfl
theorem q2125 : (Jvm.Cond.instanceMethod ({ cls := "BladeAlgebraModel", name := "under", desc := "(I)J" } : Jvm.MethodName)) ∈ lw_all := lw_g (lw_at lw_m9 110 rfl) rfl
theorem q2126 : (Jvm.Cond.code ({ cls := "BladeAlgebraModel", name := "under", desc := "(I)J" } : Jvm.MethodName) prog_42_method_10_code (2 : Nat) (Option.some Jvm.ClassFile.FieldType.long)) ∈ lw_all := lw_g (lw_at lw_m9 111 rfl) rfl
theorem q2127 : (Jvm.Cond.methodLink "BladeAlgebraModel" (118 : Nat) ({ cls := "BladeAlgebraModel", name := "puts", desc := "(I)Z" } : Jvm.MethodName)) ∈ lw_all := lw_g (lw_at lw_m9 112 rfl) rfl
theorem q2128 : (Jvm.Cond.privateMethod ({ cls := "BladeAlgebraModel", name := "puts", desc := "(I)Z" } : Jvm.MethodName)) ∈ lw_tbl := lw_at lw_m9 113 rfl
theorem q2129 : (Jvm.Cond.instanceMethod ({ cls := "BladeAlgebraModel", name := "puts", desc := "(I)Z" } : Jvm.MethodName)) ∈ lw_all := lw_g (lw_at lw_m9 114 rfl) rfl
theorem q2130 : (Jvm.Cond.code ({ cls := "BladeAlgebraModel", name := "puts", desc := "(I)Z" } : Jvm.MethodName) prog_42_method_14_code (6 : Nat) (Option.some Jvm.ClassFile.FieldType.boolean)) ∈ lw_all := lw_g (lw_at lw_m9 115 rfl) rfl
theorem q2131 : (Jvm.Cond.methodLink "BladeAlgebraModel" (78 : Nat) ({ cls := "BladeAlgebraModel", name := "common", desc := "(JJ)J" } : Jvm.MethodName)) ∈ lw_all := lw_g (lw_at lw_m9 116 rfl) rfl
theorem q2132 : (Jvm.Cond.static ({ cls := "BladeAlgebraModel", name := "common", desc := "(JJ)J" } : Jvm.MethodName)) ∈ lw_all := lw_g (lw_at lw_m9 117 rfl) rfl
theorem q2133 : (Jvm.Cond.code ({ cls := "BladeAlgebraModel", name := "common", desc := "(JJ)J" } : Jvm.MethodName) prog_42_method_12_code (10 : Nat) (Option.some Jvm.ClassFile.FieldType.long)) ∈ lw_all := lw_g (lw_at lw_m9 118 rfl) rfl
theorem q2134 : (Jvm.Cond.methodLink "BladeAlgebraModel" (82 : Nat) ({ cls := "BladeAlgebraModel", name := "isSmall", desc := "(J)Z" } : Jvm.MethodName)) ∈ lw_all := lw_g (lw_at lw_m9 119 rfl) rfl
theorem q2135 : (Jvm.Cond.static ({ cls := "BladeAlgebraModel", name := "isSmall", desc := "(J)Z" } : Jvm.MethodName)) ∈ lw_all := lw_g (lw_at lw_m9 120 rfl) rfl
theorem q2136 : (Jvm.Cond.code ({ cls := "BladeAlgebraModel", name := "isSmall", desc := "(J)Z" } : Jvm.MethodName) prog_42_method_13_code (2 : Nat) (Option.some Jvm.ClassFile.FieldType.boolean)) ∈ lw_all := lw_g (lw_at lw_m9 121 rfl) rfl
theorem q2137 : (Jvm.Cond.constantLong "BladeAlgebraModel" (74 : Nat) (-100000000 : Int64)) ∈ lw_all := lw_g (lw_at lw_m9 122 rfl) rfl
theorem q2138 : (Jvm.Cond.constantLong "BladeAlgebraModel" (76 : Nat) (100000000 : Int64)) ∈ lw_all := lw_g (lw_at lw_m9 123 rfl) rfl
theorem q2139 : (Jvm.Cond.methodLink "BladeAlgebraModel" (128 : Nat) ({ cls := "BladeAlgebraModel", name := "meets", desc := "(III)Z" } : Jvm.MethodName)) ∈ lw_all := lw_g (lw_at lw_m9 124 rfl) rfl
theorem q2140 : (Jvm.Cond.privateMethod ({ cls := "BladeAlgebraModel", name := "meets", desc := "(III)Z" } : Jvm.MethodName)) ∈ lw_tbl := lw_at lw_m9 125 rfl
theorem q2141 : (Jvm.Cond.instanceMethod ({ cls := "BladeAlgebraModel", name := "meets", desc := "(III)Z" } : Jvm.MethodName)) ∈ lw_all := lw_g (lw_at lw_m9 126 rfl) rfl
theorem q2142 : (Jvm.Cond.code ({ cls := "BladeAlgebraModel", name := "meets", desc := "(III)Z" } : Jvm.MethodName) prog_42_method_26_code (5 : Nat) (Option.some Jvm.ClassFile.FieldType.boolean)) ∈ lw_all := lw_g (lw_at lw_m9 127 rfl) rfl
theorem q2143 : (Jvm.Cond.methodLink "BladeAlgebraModel" (140 : Nat) ({ cls := "BladeAlgebraModel", name := "turns", desc := "(III)V" } : Jvm.MethodName)) ∈ lw_all := lw_g (lw_at lw_m9 128 rfl) rfl
theorem q2144 : (Jvm.Cond.privateMethod ({ cls := "BladeAlgebraModel", name := "turns", desc := "(III)V" } : Jvm.MethodName)) ∈ lw_tbl := lw_at lw_m9 129 rfl
theorem q2145 : (Jvm.Cond.instanceMethod ({ cls := "BladeAlgebraModel", name := "turns", desc := "(III)V" } : Jvm.MethodName)) ∈ lw_all := lw_g (lw_at lw_m9 130 rfl) rfl
theorem q2146 : (Jvm.Cond.code ({ cls := "BladeAlgebraModel", name := "turns", desc := "(III)V" } : Jvm.MethodName) prog_42_method_29_code (6 : Nat) (Option.none : Option Jvm.ClassFile.FieldType)) ∈ lw_all := lw_g (lw_at lw_m9 131 rfl) rfl
theorem q2147 : (Jvm.Cond.methodLink "BladeAlgebraModel" (71 : Nat) ({ cls := "BladeAlgebraModel", name := "full", desc := "()I" } : Jvm.MethodName)) ∈ lw_all := lw_g (lw_at lw_m9 132 rfl) rfl
theorem q2148 : (Jvm.Cond.privateMethod ({ cls := "BladeAlgebraModel", name := "full", desc := "()I" } : Jvm.MethodName)) ∈ lw_tbl := lw_at lw_m9 133 rfl
theorem q2149 : (Jvm.Cond.instanceMethod ({ cls := "BladeAlgebraModel", name := "full", desc := "()I" } : Jvm.MethodName)) ∈ lw_all := lw_g (lw_at lw_m9 134 rfl) rfl
theorem q2150 : (Jvm.Cond.code ({ cls := "BladeAlgebraModel", name := "full", desc := "()I" } : Jvm.MethodName) prog_42_method_6_code (1 : Nat) (Option.some Jvm.ClassFile.FieldType.int)) ∈ lw_all := lw_g (lw_at lw_m9 135 rfl) rfl
theorem q2151 : (Jvm.Cond.methodLink "BladeAlgebraModel" (63 : Nat) ({ cls := "BladeAlgebraModel", name := "n", desc := "()I" } : Jvm.MethodName)) ∈ lw_all := lw_g (lw_at lw_m9 136 rfl) rfl
theorem q2152 : (Jvm.Cond.privateMethod ({ cls := "BladeAlgebraModel", name := "n", desc := "()I" } : Jvm.MethodName)) ∈ lw_tbl := lw_at lw_m9 137 rfl
theorem q2153 : (Jvm.Cond.instanceMethod ({ cls := "BladeAlgebraModel", name := "n", desc := "()I" } : Jvm.MethodName)) ∈ lw_all := lw_g (lw_at lw_m9 138 rfl) rfl
theorem q2154 : (Jvm.Cond.code ({ cls := "BladeAlgebraModel", name := "n", desc := "()I" } : Jvm.MethodName) prog_42_method_5_code (1 : Nat) (Option.some Jvm.ClassFile.FieldType.int)) ∈ lw_all := lw_g (lw_at lw_m9 139 rfl) rfl
theorem q2155 : (Jvm.Cond.methodLink "BladeAlgebraModel" (101 : Nat) ({ cls := "BladeAlgebraModel", name := "order", desc := "(II)I" } : Jvm.MethodName)) ∈ lw_all := lw_g (lw_at lw_m9 140 rfl) rfl
theorem q2156 : (Jvm.Cond.static ({ cls := "BladeAlgebraModel", name := "order", desc := "(II)I" } : Jvm.MethodName)) ∈ lw_all := lw_g (lw_at lw_m9 141 rfl) rfl
theorem q2157 : (Jvm.Cond.code ({ cls := "BladeAlgebraModel", name := "order", desc := "(II)I" } : Jvm.MethodName) prog_42_method_19_code (4 : Nat) (Option.some Jvm.ClassFile.FieldType.int)) ∈ lw_all := lw_g (lw_at lw_m9 142 rfl) rfl
theorem q2158 : (Jvm.Cond.methodLink "BladeAlgebraModel" (98 : Nat) ({ cls := "BladeAlgebraModel", name := "size", desc := "(I)I" } : Jvm.MethodName)) ∈ lw_all := lw_g (lw_at lw_m9 143 rfl) rfl
theorem q2159 : (Jvm.Cond.static ({ cls := "BladeAlgebraModel", name := "size", desc := "(I)I" } : Jvm.MethodName)) ∈ lw_all := lw_g (lw_at lw_m9 144 rfl) rfl
theorem q2160 : (Jvm.Cond.code ({ cls := "BladeAlgebraModel", name := "size", desc := "(I)I" } : Jvm.MethodName) prog_42_method_4_code (3 : Nat) (Option.some Jvm.ClassFile.FieldType.int)) ∈ lw_all := lw_g (lw_at lw_m9 145 rfl) rfl
theorem q2161 : (Jvm.Cond.methodLink "BladeAlgebraModel" (111 : Nat) ({ cls := "BladeAlgebraModel", name := "signOf", desc := "(II)I" } : Jvm.MethodName)) ∈ lw_all := lw_g (lw_at lw_m9 146 rfl) rfl
theorem q2162 : (Jvm.Cond.privateMethod ({ cls := "BladeAlgebraModel", name := "signOf", desc := "(II)I" } : Jvm.MethodName)) ∈ lw_tbl := lw_at lw_m9 147 rfl
theorem q2163 : (Jvm.Cond.instanceMethod ({ cls := "BladeAlgebraModel", name := "signOf", desc := "(II)I" } : Jvm.MethodName)) ∈ lw_all := lw_g (lw_at lw_m9 148 rfl) rfl
theorem q2164 : (Jvm.Cond.code ({ cls := "BladeAlgebraModel", name := "signOf", desc := "(II)I" } : Jvm.MethodName) prog_42_method_20_code (5 : Nat) (Option.some Jvm.ClassFile.FieldType.int)) ∈ lw_all := lw_g (lw_at lw_m9 149 rfl) rfl
theorem q2165 : (Jvm.Cond.methodLink "BladeAlgebraModel" (156 : Nat) ({ cls := "BladeAlgebraModel", name := "turned", desc := "(II)I" } : Jvm.MethodName)) ∈ lw_all := lw_g (lw_at lw_m9 150 rfl) rfl
theorem q2166 : (Jvm.Cond.static ({ cls := "BladeAlgebraModel", name := "turned", desc := "(II)I" } : Jvm.MethodName)) ∈ lw_all := lw_g (lw_at lw_m9 151 rfl) rfl
theorem q2167 : (Jvm.Cond.code ({ cls := "BladeAlgebraModel", name := "turned", desc := "(II)I" } : Jvm.MethodName) prog_42_method_28_code (2 : Nat) (Option.some Jvm.ClassFile.FieldType.int)) ∈ lw_all := lw_g (lw_at lw_m9 152 rfl) rfl
theorem q2168 : (Jvm.Cond.methodLink "BladeAlgebraModel" (131 : Nat) ({ cls := "BladeAlgebraModel", name := "multiplies", desc := "(IIII)Z" } : Jvm.MethodName)) ∈ lw_all := lw_g (lw_at lw_m9 153 rfl) rfl
theorem q2169 : (Jvm.Cond.privateMethod ({ cls := "BladeAlgebraModel", name := "multiplies", desc := "(IIII)Z" } : Jvm.MethodName)) ∈ lw_tbl := lw_at lw_m9 154 rfl
theorem q2170 : (Jvm.Cond.instanceMethod ({ cls := "BladeAlgebraModel", name := "multiplies", desc := "(IIII)Z" } : Jvm.MethodName)) ∈ lw_all := lw_g (lw_at lw_m9 155 rfl) rfl
theorem q2171 : (Jvm.Cond.code ({ cls := "BladeAlgebraModel", name := "multiplies", desc := "(IIII)Z" } : Jvm.MethodName) prog_42_method_22_code (7 : Nat) (Option.some Jvm.ClassFile.FieldType.boolean)) ∈ lw_all := lw_g (lw_at lw_m9 156 rfl) rfl
theorem q2172 : (Jvm.Cond.methodLink "BladeAlgebraModel" (108 : Nat) ({ cls := "BladeAlgebraModel", name := "isTaken", desc := "(III)Z" } : Jvm.MethodName)) ∈ lw_all := lw_g (lw_at lw_m9 157 rfl) rfl
theorem q2173 : (Jvm.Cond.static ({ cls := "BladeAlgebraModel", name := "isTaken", desc := "(III)Z" } : Jvm.MethodName)) ∈ lw_all := lw_g (lw_at lw_m9 158 rfl) rfl
theorem q2174 : (Jvm.Cond.code ({ cls := "BladeAlgebraModel", name := "isTaken", desc := "(III)Z" } : Jvm.MethodName) prog_42_method_21_code (6 : Nat) (Option.some Jvm.ClassFile.FieldType.boolean)) ∈ lw_all := lw_g (lw_at lw_m9 159 rfl) rfl
theorem q2175 : (Jvm.Cond.constantLong "BladeAlgebraModel" (134 : Nat) (2 : Int64)) ∈ lw_all := lw_g (lw_at lw_m9 160 rfl) rfl
theorem q2176 : (Jvm.Cond.methodLink "BladeAlgebraModel" (136 : Nat) ({ cls := "BladeAlgebraModel", name := "scales", desc := "(IJJI)Z" } : Jvm.MethodName)) ∈ lw_all := lw_g (lw_at lw_m9 161 rfl) rfl
theorem q2177 : (Jvm.Cond.privateMethod ({ cls := "BladeAlgebraModel", name := "scales", desc := "(IJJI)Z" } : Jvm.MethodName)) ∈ lw_tbl := lw_at lw_m9 162 rfl
theorem q2178 : (Jvm.Cond.instanceMethod ({ cls := "BladeAlgebraModel", name := "scales", desc := "(IJJI)Z" } : Jvm.MethodName)) ∈ lw_all := lw_g (lw_at lw_m9 163 rfl) rfl
theorem q2179 : (Jvm.Cond.code ({ cls := "BladeAlgebraModel", name := "scales", desc := "(IJJI)Z" } : Jvm.MethodName) prog_42_method_24_code (10 : Nat) (Option.some Jvm.ClassFile.FieldType.boolean)) ∈ lw_all := lw_g (lw_at lw_m9 164 rfl) rfl
theorem q2180 : (Jvm.Cond.constantLong "BladeAlgebraModel" (122 : Nat) (-1 : Int64)) ∈ lw_all := lw_g (lw_at lw_m9 165 rfl) rfl
theorem q2181 : (Jvm.Cond.methodLink "BladeAlgebraModel" (153 : Nat) ({ cls := "BladeAlgebraModel", name := "gives", desc := "(II)I" } : Jvm.MethodName)) ∈ lw_all := lw_g (lw_at lw_m9 166 rfl) rfl
theorem q2182 : (Jvm.Cond.privateMethod ({ cls := "BladeAlgebraModel", name := "gives", desc := "(II)I" } : Jvm.MethodName)) ∈ lw_tbl := lw_at lw_m9 167 rfl
theorem q2183 : (Jvm.Cond.instanceMethod ({ cls := "BladeAlgebraModel", name := "gives", desc := "(II)I" } : Jvm.MethodName)) ∈ lw_all := lw_g (lw_at lw_m9 168 rfl) rfl
theorem q2184 : (Jvm.Cond.code ({ cls := "BladeAlgebraModel", name := "gives", desc := "(II)I" } : Jvm.MethodName) prog_42_method_16_code (3 : Nat) (Option.some Jvm.ClassFile.FieldType.int)) ∈ lw_all := lw_g (lw_at lw_m9 169 rfl) rfl
theorem q2185 : (Jvm.Cond.methodLink "BladeAlgebraModel" (86 : Nat) ({ cls := "BladeAlgebraModel", name := "copies", desc := "(II)V" } : Jvm.MethodName)) ∈ lw_all := lw_g (lw_at lw_m9 170 rfl) rfl
theorem q2186 : (Jvm.Cond.privateMethod ({ cls := "BladeAlgebraModel", name := "copies", desc := "(II)V" } : Jvm.MethodName)) ∈ lw_tbl := lw_at lw_m9 171 rfl
theorem q2187 : (Jvm.Cond.instanceMethod ({ cls := "BladeAlgebraModel", name := "copies", desc := "(II)V" } : Jvm.MethodName)) ∈ lw_all := lw_g (lw_at lw_m9 172 rfl) rfl
theorem q2188 : (Jvm.Cond.code ({ cls := "BladeAlgebraModel", name := "copies", desc := "(II)V" } : Jvm.MethodName) prog_42_method_15_code (4 : Nat) (Option.none : Option Jvm.ClassFile.FieldType)) ∈ lw_all := lw_g (lw_at lw_m9 173 rfl) rfl
theorem q2189 : (Jvm.Cond.methodLink "BladeAlgebraModel" (90 : Nat) ({ cls := "BladeAlgebraModel", name := "terms", desc := "(I)I" } : Jvm.MethodName)) ∈ lw_all := lw_g (lw_at lw_m9 174 rfl) rfl
theorem q2190 : (Jvm.Cond.privateMethod ({ cls := "BladeAlgebraModel", name := "terms", desc := "(I)I" } : Jvm.MethodName)) ∈ lw_tbl := lw_at lw_m9 175 rfl
theorem q2191 : (Jvm.Cond.instanceMethod ({ cls := "BladeAlgebraModel", name := "terms", desc := "(I)I" } : Jvm.MethodName)) ∈ lw_all := lw_g (lw_at lw_m9 176 rfl) rfl
theorem q2192 : (Jvm.Cond.code ({ cls := "BladeAlgebraModel", name := "terms", desc := "(I)I" } : Jvm.MethodName) prog_42_method_17_code (4 : Nat) (Option.some Jvm.ClassFile.FieldType.int)) ∈ lw_all := lw_g (lw_at lw_m9 177 rfl) rfl
theorem q2194 : (Jvm.Cond.instanceMethod ({ cls := "BladeAlgebraModel", name := "change", desc := "(III)I" } : Jvm.MethodName)) ∈ lw_all := lw_g (lw_at lw_m9 179 rfl) rfl
theorem q2195 : (Jvm.Cond.selects "BladeAlgebraModel" ({ cls := "BladeAlgebraModel", name := "change", desc := "(III)I" } : Jvm.MethodName) ({ cls := "BladeAlgebraModel", name := "change", desc := "(III)I" } : Jvm.MethodName)) ∈ lw_all := lw_g (lw_at lw_m9 180 rfl) rfl
theorem q2196 : (Jvm.Cond.code ({ cls := "BladeAlgebraModel", name := "change", desc := "(III)I" } : Jvm.MethodName) prog_42_method_33_code (4 : Nat) (Option.some Jvm.ClassFile.FieldType.int)) ∈ lw_all := lw_g (lw_at lw_m9 181 rfl) rfl
theorem q2197 : (Jvm.Cond.methodLink "BladeAlgebraModel" (166 : Nat) ({ cls := "BladeAlgebraModel", name := "inverts", desc := "(II)I" } : Jvm.MethodName)) ∈ lw_all := lw_g (lw_at lw_m9 182 rfl) rfl
theorem q2198 : (Jvm.Cond.privateMethod ({ cls := "BladeAlgebraModel", name := "inverts", desc := "(II)I" } : Jvm.MethodName)) ∈ lw_tbl := lw_at lw_m9 183 rfl
theorem q2199 : (Jvm.Cond.instanceMethod ({ cls := "BladeAlgebraModel", name := "inverts", desc := "(II)I" } : Jvm.MethodName)) ∈ lw_all := lw_g (lw_at lw_m9 184 rfl) rfl
theorem q2200 : (Jvm.Cond.code ({ cls := "BladeAlgebraModel", name := "inverts", desc := "(II)I" } : Jvm.MethodName) prog_42_method_32_code (3 : Nat) (Option.some Jvm.ClassFile.FieldType.int)) ∈ lw_all := lw_g (lw_at lw_m9 185 rfl) rfl
theorem q2201 : (Jvm.Cond.methodLink "BladeAlgebraModel" (159 : Nat) ({ cls := "BladeAlgebraModel", name := "laysSquare", desc := "(II)Z" } : Jvm.MethodName)) ∈ lw_all := lw_g (lw_at lw_m9 186 rfl) rfl
theorem q2202 : (Jvm.Cond.privateMethod ({ cls := "BladeAlgebraModel", name := "laysSquare", desc := "(II)Z" } : Jvm.MethodName)) ∈ lw_tbl := lw_at lw_m9 187 rfl
theorem q2203 : (Jvm.Cond.instanceMethod ({ cls := "BladeAlgebraModel", name := "laysSquare", desc := "(II)Z" } : Jvm.MethodName)) ∈ lw_all := lw_g (lw_at lw_m9 188 rfl) rfl
theorem q2204 : (Jvm.Cond.code ({ cls := "BladeAlgebraModel", name := "laysSquare", desc := "(II)Z" } : Jvm.MethodName) prog_42_method_31_code (3 : Nat) (Option.some Jvm.ClassFile.FieldType.boolean)) ∈ lw_all := lw_g (lw_at lw_m9 189 rfl) rfl
theorem q2205 : (Jvm.Cond.methodLink "BladeAlgebraModel" (163 : Nat) ({ cls := "BladeAlgebraModel", name := "isNumber", desc := "(I)Z" } : Jvm.MethodName)) ∈ lw_all := lw_g (lw_at lw_m9 190 rfl) rfl
theorem q2206 : (Jvm.Cond.privateMethod ({ cls := "BladeAlgebraModel", name := "isNumber", desc := "(I)Z" } : Jvm.MethodName)) ∈ lw_tbl := lw_at lw_m9 191 rfl
theorem q2207 : (Jvm.Cond.instanceMethod ({ cls := "BladeAlgebraModel", name := "isNumber", desc := "(I)Z" } : Jvm.MethodName)) ∈ lw_all := lw_g (lw_at lw_m9 192 rfl) rfl
theorem q2208 : (Jvm.Cond.code ({ cls := "BladeAlgebraModel", name := "isNumber", desc := "(I)Z" } : Jvm.MethodName) prog_42_method_30_code (4 : Nat) (Option.some Jvm.ClassFile.FieldType.boolean)) ∈ lw_all := lw_g (lw_at lw_m9 193 rfl) rfl
theorem q2210 : (Jvm.Cond.instanceMethod ({ cls := "BladeAlgebraModel", name := "gradePart", desc := "(III)I" } : Jvm.MethodName)) ∈ lw_all := lw_g (lw_at lw_m9 195 rfl) rfl
theorem q2211 : (Jvm.Cond.selects "BladeAlgebraModel" ({ cls := "BladeAlgebraModel", name := "gradePart", desc := "(III)I" } : Jvm.MethodName) ({ cls := "BladeAlgebraModel", name := "gradePart", desc := "(III)I" } : Jvm.MethodName)) ∈ lw_all := lw_g (lw_at lw_m9 196 rfl) rfl
theorem q2212 : (Jvm.Cond.code ({ cls := "BladeAlgebraModel", name := "gradePart", desc := "(III)I" } : Jvm.MethodName) prog_42_method_34_code (5 : Nat) (Option.some Jvm.ClassFile.FieldType.int)) ∈ lw_all := lw_g (lw_at lw_m9 197 rfl) rfl
theorem q2214 : (Jvm.Cond.instanceMethod ({ cls := "BladeAlgebraModel", name := "scale", desc := "(IIII)I" } : Jvm.MethodName)) ∈ lw_all := lw_g (lw_at lw_m9 199 rfl) rfl
theorem q2215 : (Jvm.Cond.selects "BladeAlgebraModel" ({ cls := "BladeAlgebraModel", name := "scale", desc := "(IIII)I" } : Jvm.MethodName) ({ cls := "BladeAlgebraModel", name := "scale", desc := "(IIII)I" } : Jvm.MethodName)) ∈ lw_all := lw_g (lw_at lw_m9 200 rfl) rfl
theorem q2216 : (Jvm.Cond.code ({ cls := "BladeAlgebraModel", name := "scale", desc := "(IIII)I" } : Jvm.MethodName) prog_42_method_35_code (5 : Nat) (Option.some Jvm.ClassFile.FieldType.int)) ∈ lw_all := lw_g (lw_at lw_m9 201 rfl) rfl
theorem q2218 : (Jvm.Cond.instanceMethod ({ cls := "BladeAlgebraModel", name := "setSignature", desc := "(III)I" } : Jvm.MethodName)) ∈ lw_all := lw_g (lw_at lw_m9 203 rfl) rfl
theorem q2219 : (Jvm.Cond.selects "BladeAlgebraModel" ({ cls := "BladeAlgebraModel", name := "setSignature", desc := "(III)I" } : Jvm.MethodName) ({ cls := "BladeAlgebraModel", name := "setSignature", desc := "(III)I" } : Jvm.MethodName)) ∈ lw_all := lw_g (lw_at lw_m9 204 rfl) rfl
theorem q2220 : (Jvm.Cond.code ({ cls := "BladeAlgebraModel", name := "setSignature", desc := "(III)I" } : Jvm.MethodName) prog_42_method_37_code (6 : Nat) (Option.some Jvm.ClassFile.FieldType.int)) ∈ lw_all := lw_g (lw_at lw_m9 205 rfl) rfl
theorem q2221 : (Jvm.Cond.methodLink "BladeAlgebraModel" (169 : Nat) ({ cls := "BladeAlgebraModel", name := "empties", desc := "(I)V" } : Jvm.MethodName)) ∈ lw_all := lw_g (lw_at lw_m9 206 rfl) rfl
theorem q2222 : (Jvm.Cond.privateMethod ({ cls := "BladeAlgebraModel", name := "empties", desc := "(I)V" } : Jvm.MethodName)) ∈ lw_tbl := lw_at lw_m9 207 rfl
theorem q2223 : (Jvm.Cond.instanceMethod ({ cls := "BladeAlgebraModel", name := "empties", desc := "(I)V" } : Jvm.MethodName)) ∈ lw_all := lw_g (lw_at lw_m9 208 rfl) rfl
theorem q2224 : (Jvm.Cond.code ({ cls := "BladeAlgebraModel", name := "empties", desc := "(I)V" } : Jvm.MethodName) prog_42_method_36_code (3 : Nat) (Option.none : Option Jvm.ClassFile.FieldType)) ∈ lw_all := lw_g (lw_at lw_m9 209 rfl) rfl
theorem q2226 : (Jvm.Cond.instanceMethod ({ cls := "BladeAlgebraModel", name := "signature", desc := "(I)I" } : Jvm.MethodName)) ∈ lw_all := lw_g (lw_at lw_m9 211 rfl) rfl
theorem q2227 : (Jvm.Cond.selects "BladeAlgebraModel" ({ cls := "BladeAlgebraModel", name := "signature", desc := "(I)I" } : Jvm.MethodName) ({ cls := "BladeAlgebraModel", name := "signature", desc := "(I)I" } : Jvm.MethodName)) ∈ lw_all := lw_g (lw_at lw_m9 212 rfl) rfl
theorem q2228 : (Jvm.Cond.code ({ cls := "BladeAlgebraModel", name := "signature", desc := "(I)I" } : Jvm.MethodName) prog_42_method_38_code (2 : Nat) (Option.some Jvm.ClassFile.FieldType.int)) ∈ lw_all := lw_g (lw_at lw_m9 213 rfl) rfl
theorem q2230 : (Jvm.Cond.instanceMethod ({ cls := "BladeAlgebraModel", name := "setCoefficient", desc := "(IIII)V" } : Jvm.MethodName)) ∈ lw_all := lw_g (lw_at lw_m9 215 rfl) rfl
theorem q2231 : (Jvm.Cond.selects "BladeAlgebraModel" ({ cls := "BladeAlgebraModel", name := "setCoefficient", desc := "(IIII)V" } : Jvm.MethodName) ({ cls := "BladeAlgebraModel", name := "setCoefficient", desc := "(IIII)V" } : Jvm.MethodName)) ∈ lw_all := lw_g (lw_at lw_m9 216 rfl) rfl
theorem q2232 : (Jvm.Cond.code ({ cls := "BladeAlgebraModel", name := "setCoefficient", desc := "(IIII)V" } : Jvm.MethodName) prog_42_method_39_code (7 : Nat) (Option.none : Option Jvm.ClassFile.FieldType)) ∈ lw_all := lw_g (lw_at lw_m9 217 rfl) rfl
theorem q2233 : (Jvm.Cond.methodLink "BladeAlgebraModel" (173 : Nat) ({ cls := "BladeAlgebraModel", name := "isBlade0", desc := "(I)Z" } : Jvm.MethodName)) ∈ lw_all := lw_g (lw_at lw_m9 218 rfl) rfl
theorem q2234 : (Jvm.Cond.privateMethod ({ cls := "BladeAlgebraModel", name := "isBlade0", desc := "(I)Z" } : Jvm.MethodName)) ∈ lw_tbl := lw_at lw_m9 219 rfl
theorem q2235 : (Jvm.Cond.instanceMethod ({ cls := "BladeAlgebraModel", name := "isBlade0", desc := "(I)Z" } : Jvm.MethodName)) ∈ lw_all := lw_g (lw_at lw_m9 220 rfl) rfl
theorem q2236 : (Jvm.Cond.code ({ cls := "BladeAlgebraModel", name := "isBlade0", desc := "(I)Z" } : Jvm.MethodName) prog_42_method_8_code (2 : Nat) (Option.some Jvm.ClassFile.FieldType.boolean)) ∈ lw_all := lw_g (lw_at lw_m9 221 rfl) rfl
theorem q2238 : (Jvm.Cond.instanceMethod ({ cls := "BladeAlgebraModel", name := "numerator", desc := "(II)I" } : Jvm.MethodName)) ∈ lw_all := lw_g (lw_at lw_m9 223 rfl) rfl
theorem q2239 : (Jvm.Cond.selects "BladeAlgebraModel" ({ cls := "BladeAlgebraModel", name := "numerator", desc := "(II)I" } : Jvm.MethodName) ({ cls := "BladeAlgebraModel", name := "numerator", desc := "(II)I" } : Jvm.MethodName)) ∈ lw_all := lw_g (lw_at lw_m9 224 rfl) rfl
theorem q2240 : (Jvm.Cond.code ({ cls := "BladeAlgebraModel", name := "numerator", desc := "(II)I" } : Jvm.MethodName) prog_42_method_42_code (3 : Nat) (Option.some Jvm.ClassFile.FieldType.int)) ∈ lw_all := lw_g (lw_at lw_m9 225 rfl) rfl
theorem q2241 : (Jvm.Cond.methodLink "BladeAlgebraModel" (176 : Nat) ({ cls := "BladeAlgebraModel", name := "isCoefficient", desc := "(II)Z" } : Jvm.MethodName)) ∈ lw_all := lw_g (lw_at lw_m9 226 rfl) rfl
theorem q2242 : (Jvm.Cond.privateMethod ({ cls := "BladeAlgebraModel", name := "isCoefficient", desc := "(II)Z" } : Jvm.MethodName)) ∈ lw_tbl := lw_at lw_m9 227 rfl
theorem q2243 : (Jvm.Cond.instanceMethod ({ cls := "BladeAlgebraModel", name := "isCoefficient", desc := "(II)Z" } : Jvm.MethodName)) ∈ lw_all := lw_g (lw_at lw_m9 228 rfl) rfl
theorem q2244 : (Jvm.Cond.code ({ cls := "BladeAlgebraModel", name := "isCoefficient", desc := "(II)Z" } : Jvm.MethodName) prog_42_method_40_code (3 : Nat) (Option.some Jvm.ClassFile.FieldType.boolean)) ∈ lw_all := lw_g (lw_at lw_m9 229 rfl) rfl
theorem q2245 : (Jvm.Cond.methodLink "BladeAlgebraModel" (179 : Nat) ({ cls := "BladeAlgebraModel", name := "shared", desc := "(II)J" } : Jvm.MethodName)) ∈ lw_all := lw_g (lw_at lw_m9 230 rfl) rfl
theorem q2246 : (Jvm.Cond.privateMethod ({ cls := "BladeAlgebraModel", name := "shared", desc := "(II)J" } : Jvm.MethodName)) ∈ lw_tbl := lw_at lw_m9 231 rfl
theorem q2247 : (Jvm.Cond.instanceMethod ({ cls := "BladeAlgebraModel", name := "shared", desc := "(II)J" } : Jvm.MethodName)) ∈ lw_all := lw_g (lw_at lw_m9 232 rfl) rfl
theorem q2248 : (Jvm.Cond.code ({ cls := "BladeAlgebraModel", name := "shared", desc := "(II)J" } : Jvm.MethodName) prog_42_method_41_code (3 : Nat) (Option.some Jvm.ClassFile.FieldType.long)) ∈ lw_all := lw_g (lw_at lw_m9 233 rfl) rfl
theorem q2250 : (Jvm.Cond.instanceMethod ({ cls := "BladeAlgebraModel", name := "denominator", desc := "(II)I" } : Jvm.MethodName)) ∈ lw_all := lw_g (lw_at lw_m9 235 rfl) rfl
theorem q2251 : (Jvm.Cond.selects "BladeAlgebraModel" ({ cls := "BladeAlgebraModel", name := "denominator", desc := "(II)I" } : Jvm.MethodName) ({ cls := "BladeAlgebraModel", name := "denominator", desc := "(II)I" } : Jvm.MethodName)) ∈ lw_all := lw_g (lw_at lw_m9 236 rfl) rfl
theorem q2252 : (Jvm.Cond.code ({ cls := "BladeAlgebraModel", name := "denominator", desc := "(II)I" } : Jvm.MethodName) prog_42_method_43_code (3 : Nat) (Option.some Jvm.ClassFile.FieldType.int)) ∈ lw_all := lw_g (lw_at lw_m9 237 rfl) rfl
theorem q2254 : (Jvm.Cond.instanceMethod ({ cls := "BladeAlgebraModel", name := "commonDenominator", desc := "(I)I" } : Jvm.MethodName)) ∈ lw_all := lw_g (lw_at lw_m9 239 rfl) rfl
theorem q2255 : (Jvm.Cond.selects "BladeAlgebraModel" ({ cls := "BladeAlgebraModel", name := "commonDenominator", desc := "(I)I" } : Jvm.MethodName) ({ cls := "BladeAlgebraModel", name := "commonDenominator", desc := "(I)I" } : Jvm.MethodName)) ∈ lw_all := lw_g (lw_at lw_m10 0 rfl) rfl
theorem q2256 : (Jvm.Cond.code ({ cls := "BladeAlgebraModel", name := "commonDenominator", desc := "(I)I" } : Jvm.MethodName) prog_42_method_44_code (2 : Nat) (Option.some Jvm.ClassFile.FieldType.int)) ∈ lw_all := lw_g (lw_at lw_m10 1 rfl) rfl
theorem q2258 : (Jvm.Cond.instanceMethod ({ cls := "BladeAlgebraModel", name := "sign", desc := "(II)I" } : Jvm.MethodName)) ∈ lw_all := lw_g (lw_at lw_m10 3 rfl) rfl
theorem q2259 : (Jvm.Cond.selects "BladeAlgebraModel" ({ cls := "BladeAlgebraModel", name := "sign", desc := "(II)I" } : Jvm.MethodName) ({ cls := "BladeAlgebraModel", name := "sign", desc := "(II)I" } : Jvm.MethodName)) ∈ lw_all := lw_g (lw_at lw_m10 4 rfl) rfl
theorem q2260 : (Jvm.Cond.code ({ cls := "BladeAlgebraModel", name := "sign", desc := "(II)I" } : Jvm.MethodName) prog_42_method_45_code (3 : Nat) (Option.some Jvm.ClassFile.FieldType.int)) ∈ lw_all := lw_g (lw_at lw_m10 5 rfl) rfl
theorem q2262 : (Jvm.Cond.instanceMethod ({ cls := "BladeAlgebraModel", name := "copy", desc := "(II)V" } : Jvm.MethodName)) ∈ lw_all := lw_g (lw_at lw_m10 7 rfl) rfl
theorem q2263 : (Jvm.Cond.selects "BladeAlgebraModel" ({ cls := "BladeAlgebraModel", name := "copy", desc := "(II)V" } : Jvm.MethodName) ({ cls := "BladeAlgebraModel", name := "copy", desc := "(II)V" } : Jvm.MethodName)) ∈ lw_all := lw_g (lw_at lw_m10 8 rfl) rfl
theorem q2264 : (Jvm.Cond.code ({ cls := "BladeAlgebraModel", name := "copy", desc := "(II)V" } : Jvm.MethodName) prog_42_method_46_code (3 : Nat) (Option.none : Option Jvm.ClassFile.FieldType)) ∈ lw_all := lw_g (lw_at lw_m10 9 rfl) rfl
theorem q2266 : (Jvm.Cond.instanceMethod ({ cls := "BladeAlgebraModel", name := "apply", desc := "(III)I" } : Jvm.MethodName)) ∈ lw_all := lw_g (lw_at lw_m10 11 rfl) rfl
theorem q2267 : (Jvm.Cond.selects "BladeAlgebraModel" ({ cls := "BladeAlgebraModel", name := "apply", desc := "(III)I" } : Jvm.MethodName) ({ cls := "BladeAlgebraModel", name := "apply", desc := "(III)I" } : Jvm.MethodName)) ∈ lw_all := lw_g (lw_at lw_m10 12 rfl) rfl
theorem q2268 : (Jvm.Cond.code ({ cls := "BladeAlgebraModel", name := "apply", desc := "(III)I" } : Jvm.MethodName) prog_42_method_50_code (5 : Nat) (Option.some Jvm.ClassFile.FieldType.int)) ∈ lw_all := lw_g (lw_at lw_m10 13 rfl) rfl
theorem q2269 : (Jvm.Cond.methodLink "BladeAlgebraModel" (185 : Nat) ({ cls := "BladeAlgebraModel", name := "isMixed", desc := "(I)Z" } : Jvm.MethodName)) ∈ lw_all := lw_g (lw_at lw_m10 14 rfl) rfl
theorem q2270 : (Jvm.Cond.privateMethod ({ cls := "BladeAlgebraModel", name := "isMixed", desc := "(I)Z" } : Jvm.MethodName)) ∈ lw_tbl := lw_at lw_m10 15 rfl
theorem q2271 : (Jvm.Cond.instanceMethod ({ cls := "BladeAlgebraModel", name := "isMixed", desc := "(I)Z" } : Jvm.MethodName)) ∈ lw_all := lw_g (lw_at lw_m10 16 rfl) rfl
theorem q2272 : (Jvm.Cond.code ({ cls := "BladeAlgebraModel", name := "isMixed", desc := "(I)Z" } : Jvm.MethodName) prog_42_method_48_code (3 : Nat) (Option.some Jvm.ClassFile.FieldType.boolean)) ∈ lw_all := lw_g (lw_at lw_m10 17 rfl) rfl
theorem q2273 : (Jvm.Cond.methodLink "BladeAlgebraModel" (182 : Nat) ({ cls := "BladeAlgebraModel", name := "gradesOf", desc := "(I)I" } : Jvm.MethodName)) ∈ lw_all := lw_g (lw_at lw_m10 18 rfl) rfl
theorem q2274 : (Jvm.Cond.privateMethod ({ cls := "BladeAlgebraModel", name := "gradesOf", desc := "(I)I" } : Jvm.MethodName)) ∈ lw_tbl := lw_at lw_m10 19 rfl
theorem q2275 : (Jvm.Cond.instanceMethod ({ cls := "BladeAlgebraModel", name := "gradesOf", desc := "(I)I" } : Jvm.MethodName)) ∈ lw_all := lw_g (lw_at lw_m10 20 rfl) rfl
theorem q2276 : (Jvm.Cond.code ({ cls := "BladeAlgebraModel", name := "gradesOf", desc := "(I)I" } : Jvm.MethodName) prog_42_method_47_code (4 : Nat) (Option.some Jvm.ClassFile.FieldType.int)) ∈ lw_all := lw_g (lw_at lw_m10 21 rfl) rfl
theorem q2277 : (Jvm.Cond.methodLink "BladeAlgebraModel" (188 : Nat) ({ cls := "BladeAlgebraModel", name := "sandwiches", desc := "(III)Z" } : Jvm.MethodName)) ∈ lw_all := lw_g (lw_at lw_m10 22 rfl) rfl
theorem q2278 : (Jvm.Cond.privateMethod ({ cls := "BladeAlgebraModel", name := "sandwiches", desc := "(III)Z" } : Jvm.MethodName)) ∈ lw_tbl := lw_at lw_m10 23 rfl
theorem q2279 : (Jvm.Cond.instanceMethod ({ cls := "BladeAlgebraModel", name := "sandwiches", desc := "(III)Z" } : Jvm.MethodName)) ∈ lw_all := lw_g (lw_at lw_m10 24 rfl) rfl
theorem q2280 : (Jvm.Cond.code ({ cls := "BladeAlgebraModel", name := "sandwiches", desc := "(III)Z" } : Jvm.MethodName) prog_42_method_49_code (4 : Nat) (Option.some Jvm.ClassFile.FieldType.boolean)) ∈ lw_all := lw_g (lw_at lw_m10 25 rfl) rfl
theorem q2282 : (Jvm.Cond.instanceMethod ({ cls := "BladeAlgebraModel", name := "rotor", desc := "(III)I" } : Jvm.MethodName)) ∈ lw_all := lw_g (lw_at lw_m10 27 rfl) rfl
theorem q2283 : (Jvm.Cond.selects "BladeAlgebraModel" ({ cls := "BladeAlgebraModel", name := "rotor", desc := "(III)I" } : Jvm.MethodName) ({ cls := "BladeAlgebraModel", name := "rotor", desc := "(III)I" } : Jvm.MethodName)) ∈ lw_all := lw_g (lw_at lw_m10 28 rfl) rfl
theorem q2284 : (Jvm.Cond.code ({ cls := "BladeAlgebraModel", name := "rotor", desc := "(III)I" } : Jvm.MethodName) prog_42_method_53_code (4 : Nat) (Option.some Jvm.ClassFile.FieldType.int)) ∈ lw_all := lw_g (lw_at lw_m10 29 rfl) rfl
theorem q2285 : (Jvm.Cond.methodLink "BladeAlgebraModel" (191 : Nat) ({ cls := "BladeAlgebraModel", name := "isVector", desc := "(I)Z" } : Jvm.MethodName)) ∈ lw_all := lw_g (lw_at lw_m10 30 rfl) rfl
theorem q2286 : (Jvm.Cond.privateMethod ({ cls := "BladeAlgebraModel", name := "isVector", desc := "(I)Z" } : Jvm.MethodName)) ∈ lw_tbl := lw_at lw_m10 31 rfl
theorem q2287 : (Jvm.Cond.instanceMethod ({ cls := "BladeAlgebraModel", name := "isVector", desc := "(I)Z" } : Jvm.MethodName)) ∈ lw_all := lw_g (lw_at lw_m10 32 rfl) rfl
theorem q2288 : (Jvm.Cond.code ({ cls := "BladeAlgebraModel", name := "isVector", desc := "(I)Z" } : Jvm.MethodName) prog_42_method_51_code (2 : Nat) (Option.some Jvm.ClassFile.FieldType.boolean)) ∈ lw_all := lw_g (lw_at lw_m10 33 rfl) rfl
theorem q2289 : (Jvm.Cond.methodLink "BladeAlgebraModel" (194 : Nat) ({ cls := "BladeAlgebraModel", name := "areAlike", desc := "(II)Z" } : Jvm.MethodName)) ∈ lw_all := lw_g (lw_at lw_m10 34 rfl) rfl
theorem q2290 : (Jvm.Cond.privateMethod ({ cls := "BladeAlgebraModel", name := "areAlike", desc := "(II)Z" } : Jvm.MethodName)) ∈ lw_tbl := lw_at lw_m10 35 rfl
theorem q2291 : (Jvm.Cond.instanceMethod ({ cls := "BladeAlgebraModel", name := "areAlike", desc := "(II)Z" } : Jvm.MethodName)) ∈ lw_all := lw_g (lw_at lw_m10 36 rfl) rfl
theorem q2292 : (Jvm.Cond.code ({ cls := "BladeAlgebraModel", name := "areAlike", desc := "(II)Z" } : Jvm.MethodName) prog_42_method_52_code (5 : Nat) (Option.some Jvm.ClassFile.FieldType.boolean)) ∈ lw_all := lw_g (lw_at lw_m10 37 rfl) rfl
theorem q2294 : (Jvm.Cond.instanceMethod ({ cls := "BladeAlgebraModel", name := "grades", desc := "(I)I" } : Jvm.MethodName)) ∈ lw_all := lw_g (lw_at lw_m10 39 rfl) rfl
theorem q2295 : (Jvm.Cond.selects "BladeAlgebraModel" ({ cls := "BladeAlgebraModel", name := "grades", desc := "(I)I" } : Jvm.MethodName) ({ cls := "BladeAlgebraModel", name := "grades", desc := "(I)I" } : Jvm.MethodName)) ∈ lw_all := lw_g (lw_at lw_m10 40 rfl) rfl
theorem q2296 : (Jvm.Cond.code ({ cls := "BladeAlgebraModel", name := "grades", desc := "(I)I" } : Jvm.MethodName) prog_42_method_54_code (2 : Nat) (Option.some Jvm.ClassFile.FieldType.int)) ∈ lw_all := lw_g (lw_at lw_m10 41 rfl) rfl
theorem q2298 : (Jvm.Cond.instanceMethod ({ cls := "BladeAlgebraModel", name := "areEqual", desc := "(II)Z" } : Jvm.MethodName)) ∈ lw_all := lw_g (lw_at lw_m10 43 rfl) rfl
theorem q2299 : (Jvm.Cond.selects "BladeAlgebraModel" ({ cls := "BladeAlgebraModel", name := "areEqual", desc := "(II)Z" } : Jvm.MethodName) ({ cls := "BladeAlgebraModel", name := "areEqual", desc := "(II)Z" } : Jvm.MethodName)) ∈ lw_all := lw_g (lw_at lw_m10 44 rfl) rfl
theorem q2300 : (Jvm.Cond.code ({ cls := "BladeAlgebraModel", name := "areEqual", desc := "(II)Z" } : Jvm.MethodName) prog_42_method_55_code (3 : Nat) (Option.some Jvm.ClassFile.FieldType.boolean)) ∈ lw_all := lw_g (lw_at lw_m10 45 rfl) rfl
theorem q2302 : (Jvm.Cond.instanceMethod ({ cls := "BladeAlgebraModel", name := "isBlade", desc := "(I)Z" } : Jvm.MethodName)) ∈ lw_all := lw_g (lw_at lw_m10 47 rfl) rfl
theorem q2303 : (Jvm.Cond.selects "BladeAlgebraModel" ({ cls := "BladeAlgebraModel", name := "isBlade", desc := "(I)Z" } : Jvm.MethodName) ({ cls := "BladeAlgebraModel", name := "isBlade", desc := "(I)Z" } : Jvm.MethodName)) ∈ lw_all := lw_g (lw_at lw_m10 48 rfl) rfl
theorem q2304 : (Jvm.Cond.code ({ cls := "BladeAlgebraModel", name := "isBlade", desc := "(I)Z" } : Jvm.MethodName) prog_42_method_57_code (2 : Nat) (Option.some Jvm.ClassFile.FieldType.boolean)) ∈ lw_all := lw_g (lw_at lw_m10 49 rfl) rfl
theorem q2305 : (Jvm.Cond.methodLink "BladeAlgebraModel" (197 : Nat) ({ cls := "BladeAlgebraModel", name := "isOneBlade", desc := "(I)Z" } : Jvm.MethodName)) ∈ lw_all := lw_g (lw_at lw_m10 50 rfl) rfl
theorem q2306 : (Jvm.Cond.privateMethod ({ cls := "BladeAlgebraModel", name := "isOneBlade", desc := "(I)Z" } : Jvm.MethodName)) ∈ lw_tbl := lw_at lw_m10 51 rfl
theorem q2307 : (Jvm.Cond.instanceMethod ({ cls := "BladeAlgebraModel", name := "isOneBlade", desc := "(I)Z" } : Jvm.MethodName)) ∈ lw_all := lw_g (lw_at lw_m10 52 rfl) rfl
theorem q2308 : (Jvm.Cond.code ({ cls := "BladeAlgebraModel", name := "isOneBlade", desc := "(I)Z" } : Jvm.MethodName) prog_42_method_64_code (6 : Nat) (Option.some Jvm.ClassFile.FieldType.boolean)) ∈ lw_all := lw_g (lw_at lw_m10 53 rfl) rfl
theorem q2309 : (Jvm.Cond.methodLink "BladeAlgebraModel" (204 : Nat) ({ cls := "BladeAlgebraModel", name := "liesIn", desc := "(III)Z" } : Jvm.MethodName)) ∈ lw_all := lw_g (lw_at lw_m10 54 rfl) rfl
theorem q2310 : (Jvm.Cond.privateMethod ({ cls := "BladeAlgebraModel", name := "liesIn", desc := "(III)Z" } : Jvm.MethodName)) ∈ lw_tbl := lw_at lw_m10 55 rfl
theorem q2311 : (Jvm.Cond.instanceMethod ({ cls := "BladeAlgebraModel", name := "liesIn", desc := "(III)Z" } : Jvm.MethodName)) ∈ lw_all := lw_g (lw_at lw_m10 56 rfl) rfl
theorem q2312 : (Jvm.Cond.code ({ cls := "BladeAlgebraModel", name := "liesIn", desc := "(III)Z" } : Jvm.MethodName) prog_42_method_56_code (10 : Nat) (Option.some Jvm.ClassFile.FieldType.boolean)) ∈ lw_all := lw_g (lw_at lw_m10 57 rfl) rfl
theorem q2314 : (Jvm.Cond.instanceMethod ({ cls := "BladeAlgebraModel", name := "isVersor", desc := "(I)Z" } : Jvm.MethodName)) ∈ lw_all := lw_g (lw_at lw_m10 59 rfl) rfl
theorem q2315 : (Jvm.Cond.selects "BladeAlgebraModel" ({ cls := "BladeAlgebraModel", name := "isVersor", desc := "(I)Z" } : Jvm.MethodName) ({ cls := "BladeAlgebraModel", name := "isVersor", desc := "(I)Z" } : Jvm.MethodName)) ∈ lw_all := lw_g (lw_at lw_m10 60 rfl) rfl
theorem q2316 : (Jvm.Cond.code ({ cls := "BladeAlgebraModel", name := "isVersor", desc := "(I)Z" } : Jvm.MethodName) prog_42_method_58_code (4 : Nat) (Option.some Jvm.ClassFile.FieldType.boolean)) ∈ lw_all := lw_g (lw_at lw_m10 61 rfl) rfl
theorem q2318 : (Jvm.Cond.instanceMethod ({ cls := "BladeAlgebraModel", name := "commute", desc := "(II)Z" } : Jvm.MethodName)) ∈ lw_all := lw_g (lw_at lw_m10 63 rfl) rfl
theorem q2319 : (Jvm.Cond.selects "BladeAlgebraModel" ({ cls := "BladeAlgebraModel", name := "commute", desc := "(II)Z" } : Jvm.MethodName) ({ cls := "BladeAlgebraModel", name := "commute", desc := "(II)Z" } : Jvm.MethodName)) ∈ lw_all := lw_g (lw_at lw_m10 64 rfl) rfl
theorem q2320 : (Jvm.Cond.code ({ cls := "BladeAlgebraModel", name := "commute", desc := "(II)Z" } : Jvm.MethodName) prog_42_method_59_code (3 : Nat) (Option.some Jvm.ClassFile.FieldType.boolean)) ∈ lw_all := lw_g (lw_at lw_m10 65 rfl) rfl
theorem q2322 : (Jvm.Cond.instanceMethod ({ cls := "BladeAlgebraModel", name := "vectorsIn", desc := "(I)I" } : Jvm.MethodName)) ∈ lw_all := lw_g (lw_at lw_m10 67 rfl) rfl
theorem q2323 : (Jvm.Cond.selects "BladeAlgebraModel" ({ cls := "BladeAlgebraModel", name := "vectorsIn", desc := "(I)I" } : Jvm.MethodName) ({ cls := "BladeAlgebraModel", name := "vectorsIn", desc := "(I)I" } : Jvm.MethodName)) ∈ lw_all := lw_g (lw_at lw_m10 68 rfl) rfl
theorem q2324 : (Jvm.Cond.code ({ cls := "BladeAlgebraModel", name := "vectorsIn", desc := "(I)I" } : Jvm.MethodName) prog_42_method_60_code (4 : Nat) (Option.some Jvm.ClassFile.FieldType.int)) ∈ lw_all := lw_g (lw_at lw_m10 69 rfl) rfl
theorem q2326 : (Jvm.Cond.instanceMethod ({ cls := "BladeAlgebraModel", name := "power", desc := "(III)I" } : Jvm.MethodName)) ∈ lw_all := lw_g (lw_at lw_m10 71 rfl) rfl
theorem q2327 : (Jvm.Cond.selects "BladeAlgebraModel" ({ cls := "BladeAlgebraModel", name := "power", desc := "(III)I" } : Jvm.MethodName) ({ cls := "BladeAlgebraModel", name := "power", desc := "(III)I" } : Jvm.MethodName)) ∈ lw_all := lw_g (lw_at lw_m10 72 rfl) rfl
theorem q2328 : (Jvm.Cond.code ({ cls := "BladeAlgebraModel", name := "power", desc := "(III)I" } : Jvm.MethodName) prog_42_method_62_code (6 : Nat) (Option.some Jvm.ClassFile.FieldType.int)) ∈ lw_all := lw_g (lw_at lw_m10 73 rfl) rfl
theorem q2329 : (Jvm.Cond.methodLink "BladeAlgebraModel" (200 : Nat) ({ cls := "BladeAlgebraModel", name := "laysNumber", desc := "(IJ)V" } : Jvm.MethodName)) ∈ lw_all := lw_g (lw_at lw_m10 74 rfl) rfl
theorem q2330 : (Jvm.Cond.privateMethod ({ cls := "BladeAlgebraModel", name := "laysNumber", desc := "(IJ)V" } : Jvm.MethodName)) ∈ lw_tbl := lw_at lw_m10 75 rfl
theorem q2331 : (Jvm.Cond.instanceMethod ({ cls := "BladeAlgebraModel", name := "laysNumber", desc := "(IJ)V" } : Jvm.MethodName)) ∈ lw_all := lw_g (lw_at lw_m10 76 rfl) rfl
theorem q2332 : (Jvm.Cond.code ({ cls := "BladeAlgebraModel", name := "laysNumber", desc := "(IJ)V" } : Jvm.MethodName) prog_42_method_61_code (4 : Nat) (Option.none : Option Jvm.ClassFile.FieldType)) ∈ lw_all := lw_g (lw_at lw_m10 77 rfl) rfl
theorem q2334 : (Jvm.Cond.instanceMethod ({ cls := "BladeAlgebraModel", name := "project", desc := "(III)I" } : Jvm.MethodName)) ∈ lw_all := lw_g (lw_at lw_m10 79 rfl) rfl
theorem q2335 : (Jvm.Cond.selects "BladeAlgebraModel" ({ cls := "BladeAlgebraModel", name := "project", desc := "(III)I" } : Jvm.MethodName) ({ cls := "BladeAlgebraModel", name := "project", desc := "(III)I" } : Jvm.MethodName)) ∈ lw_all := lw_g (lw_at lw_m10 80 rfl) rfl
theorem q2336 : (Jvm.Cond.code ({ cls := "BladeAlgebraModel", name := "project", desc := "(III)I" } : Jvm.MethodName) prog_42_method_63_code (5 : Nat) (Option.some Jvm.ClassFile.FieldType.int)) ∈ lw_all := lw_g (lw_at lw_m10 81 rfl) rfl
theorem q2338 : (Jvm.Cond.instanceMethod ({ cls := "BladeAlgebraModel", name := "factor", desc := "(III)I" } : Jvm.MethodName)) ∈ lw_all := lw_g (lw_at lw_m10 83 rfl) rfl
theorem q2339 : (Jvm.Cond.selects "BladeAlgebraModel" ({ cls := "BladeAlgebraModel", name := "factor", desc := "(III)I" } : Jvm.MethodName) ({ cls := "BladeAlgebraModel", name := "factor", desc := "(III)I" } : Jvm.MethodName)) ∈ lw_all := lw_g (lw_at lw_m10 84 rfl) rfl
theorem q2340 : (Jvm.Cond.code ({ cls := "BladeAlgebraModel", name := "factor", desc := "(III)I" } : Jvm.MethodName) prog_42_method_67_code (11 : Nat) (Option.some Jvm.ClassFile.FieldType.int)) ∈ lw_all := lw_g (lw_at lw_m10 85 rfl) rfl
theorem q2341 : (Jvm.Cond.methodLink "BladeAlgebraModel" (211 : Nat) ({ cls := "BladeAlgebraModel", name := "greatest", desc := "(I)I" } : Jvm.MethodName)) ∈ lw_all := lw_g (lw_at lw_m10 86 rfl) rfl
theorem q2342 : (Jvm.Cond.privateMethod ({ cls := "BladeAlgebraModel", name := "greatest", desc := "(I)I" } : Jvm.MethodName)) ∈ lw_tbl := lw_at lw_m10 87 rfl
theorem q2343 : (Jvm.Cond.instanceMethod ({ cls := "BladeAlgebraModel", name := "greatest", desc := "(I)I" } : Jvm.MethodName)) ∈ lw_all := lw_g (lw_at lw_m10 88 rfl) rfl
theorem q2344 : (Jvm.Cond.code ({ cls := "BladeAlgebraModel", name := "greatest", desc := "(I)I" } : Jvm.MethodName) prog_42_method_66_code (4 : Nat) (Option.some Jvm.ClassFile.FieldType.int)) ∈ lw_all := lw_g (lw_at lw_m10 89 rfl) rfl
theorem q2345 : (Jvm.Cond.methodLink "BladeAlgebraModel" (207 : Nat) ({ cls := "BladeAlgebraModel", name := "amount", desc := "(J)J" } : Jvm.MethodName)) ∈ lw_all := lw_g (lw_at lw_m10 90 rfl) rfl
theorem q2346 : (Jvm.Cond.static ({ cls := "BladeAlgebraModel", name := "amount", desc := "(J)J" } : Jvm.MethodName)) ∈ lw_all := lw_g (lw_at lw_m10 91 rfl) rfl
theorem q2347 : (Jvm.Cond.code ({ cls := "BladeAlgebraModel", name := "amount", desc := "(J)J" } : Jvm.MethodName) prog_42_method_65_code (2 : Nat) (Option.some Jvm.ClassFile.FieldType.long)) ∈ lw_all := lw_g (lw_at lw_m10 92 rfl) rfl
theorem q2349 : (Jvm.Cond.instanceMethod ({ cls := "BladeAlgebraModel", name := "map", desc := "(III)I" } : Jvm.MethodName)) ∈ lw_all := lw_g (lw_at lw_m10 94 rfl) rfl
theorem q2350 : (Jvm.Cond.selects "BladeAlgebraModel" ({ cls := "BladeAlgebraModel", name := "map", desc := "(III)I" } : Jvm.MethodName) ({ cls := "BladeAlgebraModel", name := "map", desc := "(III)I" } : Jvm.MethodName)) ∈ lw_all := lw_g (lw_at lw_m10 95 rfl) rfl
theorem q2351 : (Jvm.Cond.code ({ cls := "BladeAlgebraModel", name := "map", desc := "(III)I" } : Jvm.MethodName) prog_42_method_71_code (5 : Nat) (Option.some Jvm.ClassFile.FieldType.int)) ∈ lw_all := lw_g (lw_at lw_m10 96 rfl) rfl
theorem q2352 : (Jvm.Cond.methodLink "BladeAlgebraModel" (217 : Nat) ({ cls := "BladeAlgebraModel", name := "wrongMap", desc := "(ZI)I" } : Jvm.MethodName)) ∈ lw_all := lw_g (lw_at lw_m10 97 rfl) rfl
theorem q2353 : (Jvm.Cond.privateMethod ({ cls := "BladeAlgebraModel", name := "wrongMap", desc := "(ZI)I" } : Jvm.MethodName)) ∈ lw_tbl := lw_at lw_m10 98 rfl
theorem q2354 : (Jvm.Cond.instanceMethod ({ cls := "BladeAlgebraModel", name := "wrongMap", desc := "(ZI)I" } : Jvm.MethodName)) ∈ lw_all := lw_g (lw_at lw_m10 99 rfl) rfl
theorem q2355 : (Jvm.Cond.code ({ cls := "BladeAlgebraModel", name := "wrongMap", desc := "(ZI)I" } : Jvm.MethodName) prog_42_method_68_code (5 : Nat) (Option.some Jvm.ClassFile.FieldType.int)) ∈ lw_all := lw_g (lw_at lw_m10 100 rfl) rfl
theorem q2356 : (Jvm.Cond.methodLink "BladeAlgebraModel" (221 : Nat) ({ cls := "BladeAlgebraModel", name := "maps", desc := "(II)Z" } : Jvm.MethodName)) ∈ lw_all := lw_g (lw_at lw_m10 101 rfl) rfl
theorem q2357 : (Jvm.Cond.privateMethod ({ cls := "BladeAlgebraModel", name := "maps", desc := "(II)Z" } : Jvm.MethodName)) ∈ lw_tbl := lw_at lw_m10 102 rfl
theorem q2358 : (Jvm.Cond.instanceMethod ({ cls := "BladeAlgebraModel", name := "maps", desc := "(II)Z" } : Jvm.MethodName)) ∈ lw_all := lw_g (lw_at lw_m10 103 rfl) rfl
theorem q2359 : (Jvm.Cond.code ({ cls := "BladeAlgebraModel", name := "maps", desc := "(II)Z" } : Jvm.MethodName) prog_42_method_70_code (5 : Nat) (Option.some Jvm.ClassFile.FieldType.boolean)) ∈ lw_all := lw_g (lw_at lw_m10 104 rfl) rfl
theorem q2360 : (Jvm.Cond.methodLink "BladeAlgebraModel" (214 : Nat) ({ cls := "BladeAlgebraModel", name := "mapsTerm", desc := "(III)Z" } : Jvm.MethodName)) ∈ lw_all := lw_g (lw_at lw_m10 105 rfl) rfl
theorem q2361 : (Jvm.Cond.privateMethod ({ cls := "BladeAlgebraModel", name := "mapsTerm", desc := "(III)Z" } : Jvm.MethodName)) ∈ lw_tbl := lw_at lw_m10 106 rfl
theorem q2362 : (Jvm.Cond.instanceMethod ({ cls := "BladeAlgebraModel", name := "mapsTerm", desc := "(III)Z" } : Jvm.MethodName)) ∈ lw_all := lw_g (lw_at lw_m10 107 rfl) rfl
theorem q2363 : (Jvm.Cond.code ({ cls := "BladeAlgebraModel", name := "mapsTerm", desc := "(III)Z" } : Jvm.MethodName) prog_42_method_69_code (6 : Nat) (Option.some Jvm.ClassFile.FieldType.boolean)) ∈ lw_all := lw_g (lw_at lw_m10 108 rfl) rfl
theorem q2365 : (Jvm.Cond.instanceMethod ({ cls := "BladeAlgebraModel", name := "determinant", desc := "(II)I" } : Jvm.MethodName)) ∈ lw_all := lw_g (lw_at lw_m10 110 rfl) rfl
theorem q2366 : (Jvm.Cond.selects "BladeAlgebraModel" ({ cls := "BladeAlgebraModel", name := "determinant", desc := "(II)I" } : Jvm.MethodName) ({ cls := "BladeAlgebraModel", name := "determinant", desc := "(II)I" } : Jvm.MethodName)) ∈ lw_all := lw_g (lw_at lw_m10 111 rfl) rfl
theorem q2367 : (Jvm.Cond.code ({ cls := "BladeAlgebraModel", name := "determinant", desc := "(II)I" } : Jvm.MethodName) prog_42_method_72_code (5 : Nat) (Option.some Jvm.ClassFile.FieldType.int)) ∈ lw_all := lw_g (lw_at lw_m10 112 rfl) rfl
theorem q2369 : (Jvm.Cond.instanceMethod ({ cls := "BladeAlgebraModel", name := "squareKind", desc := "(I)I" } : Jvm.MethodName)) ∈ lw_all := lw_g (lw_at lw_m10 114 rfl) rfl
theorem q2370 : (Jvm.Cond.selects "BladeAlgebraModel" ({ cls := "BladeAlgebraModel", name := "squareKind", desc := "(I)I" } : Jvm.MethodName) ({ cls := "BladeAlgebraModel", name := "squareKind", desc := "(I)I" } : Jvm.MethodName)) ∈ lw_all := lw_g (lw_at lw_m10 115 rfl) rfl
theorem q2371 : (Jvm.Cond.code ({ cls := "BladeAlgebraModel", name := "squareKind", desc := "(I)I" } : Jvm.MethodName) prog_42_method_73_code (4 : Nat) (Option.some Jvm.ClassFile.FieldType.int)) ∈ lw_all := lw_g (lw_at lw_m10 116 rfl) rfl
theorem q2373 : (Jvm.Cond.instanceMethod ({ cls := "BladeAlgebraModel", name := "point", desc := "(IIIII)I" } : Jvm.MethodName)) ∈ lw_all := lw_g (lw_at lw_m10 118 rfl) rfl
theorem q2374 : (Jvm.Cond.selects "BladeAlgebraModel" ({ cls := "BladeAlgebraModel", name := "point", desc := "(IIIII)I" } : Jvm.MethodName) ({ cls := "BladeAlgebraModel", name := "point", desc := "(IIIII)I" } : Jvm.MethodName)) ∈ lw_all := lw_g (lw_at lw_m10 119 rfl) rfl
theorem q2375 : (Jvm.Cond.code ({ cls := "BladeAlgebraModel", name := "point", desc := "(IIIII)I" } : Jvm.MethodName) prog_42_method_80_code (12 : Nat) (Option.some Jvm.ClassFile.FieldType.int)) ∈ lw_all := lw_g (lw_at lw_m10 120 rfl) rfl
theorem q2376 : (Jvm.Cond.methodLink "BladeAlgebraModel" (224 : Nat) ({ cls := "BladeAlgebraModel", name := "isCoordinate", desc := "(I)Z" } : Jvm.MethodName)) ∈ lw_all := lw_g (lw_at lw_m10 121 rfl) rfl
theorem q2377 : (Jvm.Cond.static ({ cls := "BladeAlgebraModel", name := "isCoordinate", desc := "(I)Z" } : Jvm.MethodName)) ∈ lw_all := lw_g (lw_at lw_m10 122 rfl) rfl
theorem q2378 : (Jvm.Cond.code ({ cls := "BladeAlgebraModel", name := "isCoordinate", desc := "(I)Z" } : Jvm.MethodName) prog_42_method_78_code (1 : Nat) (Option.some Jvm.ClassFile.FieldType.boolean)) ∈ lw_all := lw_g (lw_at lw_m10 123 rfl) rfl
theorem q2379 : (Jvm.Cond.methodLink "BladeAlgebraModel" (227 : Nat) ({ cls := "BladeAlgebraModel", name := "isConformal", desc := "()Z" } : Jvm.MethodName)) ∈ lw_all := lw_g (lw_at lw_m10 124 rfl) rfl
theorem q2380 : (Jvm.Cond.privateMethod ({ cls := "BladeAlgebraModel", name := "isConformal", desc := "()Z" } : Jvm.MethodName)) ∈ lw_tbl := lw_at lw_m10 125 rfl
theorem q2381 : (Jvm.Cond.instanceMethod ({ cls := "BladeAlgebraModel", name := "isConformal", desc := "()Z" } : Jvm.MethodName)) ∈ lw_all := lw_g (lw_at lw_m10 126 rfl) rfl
theorem q2382 : (Jvm.Cond.code ({ cls := "BladeAlgebraModel", name := "isConformal", desc := "()Z" } : Jvm.MethodName) prog_42_method_74_code (1 : Nat) (Option.some Jvm.ClassFile.FieldType.boolean)) ∈ lw_all := lw_g (lw_at lw_m10 127 rfl) rfl
theorem q2383 : (Jvm.Cond.methodLink "BladeAlgebraModel" (231 : Nat) ({ cls := "BladeAlgebraModel", name := "dimension", desc := "()I" } : Jvm.MethodName)) ∈ lw_all := lw_g (lw_at lw_m10 128 rfl) rfl
theorem q2384 : (Jvm.Cond.privateMethod ({ cls := "BladeAlgebraModel", name := "dimension", desc := "()I" } : Jvm.MethodName)) ∈ lw_tbl := lw_at lw_m10 129 rfl
theorem q2385 : (Jvm.Cond.instanceMethod ({ cls := "BladeAlgebraModel", name := "dimension", desc := "()I" } : Jvm.MethodName)) ∈ lw_all := lw_g (lw_at lw_m10 130 rfl) rfl
theorem q2386 : (Jvm.Cond.code ({ cls := "BladeAlgebraModel", name := "dimension", desc := "()I" } : Jvm.MethodName) prog_42_method_75_code (1 : Nat) (Option.some Jvm.ClassFile.FieldType.int)) ∈ lw_all := lw_g (lw_at lw_m10 131 rfl) rfl
theorem q2387 : (Jvm.Cond.methodLink "BladeAlgebraModel" (234 : Nat) ({ cls := "BladeAlgebraModel", name := "coordinate", desc := "(IIII)I" } : Jvm.MethodName)) ∈ lw_all := lw_g (lw_at lw_m10 132 rfl) rfl
theorem q2388 : (Jvm.Cond.static ({ cls := "BladeAlgebraModel", name := "coordinate", desc := "(IIII)I" } : Jvm.MethodName)) ∈ lw_all := lw_g (lw_at lw_m10 133 rfl) rfl
theorem q2389 : (Jvm.Cond.code ({ cls := "BladeAlgebraModel", name := "coordinate", desc := "(IIII)I" } : Jvm.MethodName) prog_42_method_79_code (4 : Nat) (Option.some Jvm.ClassFile.FieldType.int)) ∈ lw_all := lw_g (lw_at lw_m10 134 rfl) rfl
theorem q2390 : (Jvm.Cond.methodLink "BladeAlgebraModel" (238 : Nat) ({ cls := "BladeAlgebraModel", name := "first", desc := "()I" } : Jvm.MethodName)) ∈ lw_all := lw_g (lw_at lw_m10 135 rfl) rfl
theorem q2391 : (Jvm.Cond.privateMethod ({ cls := "BladeAlgebraModel", name := "first", desc := "()I" } : Jvm.MethodName)) ∈ lw_tbl := lw_at lw_m10 136 rfl
theorem q2392 : (Jvm.Cond.instanceMethod ({ cls := "BladeAlgebraModel", name := "first", desc := "()I" } : Jvm.MethodName)) ∈ lw_all := lw_g (lw_at lw_m10 137 rfl) rfl
theorem q2393 : (Jvm.Cond.code ({ cls := "BladeAlgebraModel", name := "first", desc := "()I" } : Jvm.MethodName) prog_42_method_76_code (1 : Nat) (Option.some Jvm.ClassFile.FieldType.int)) ∈ lw_all := lw_g (lw_at lw_m10 138 rfl) rfl
theorem q2394 : (Jvm.Cond.methodLink "BladeAlgebraModel" (241 : Nat) ({ cls := "BladeAlgebraModel", name := "second", desc := "()I" } : Jvm.MethodName)) ∈ lw_all := lw_g (lw_at lw_m10 139 rfl) rfl
theorem q2395 : (Jvm.Cond.privateMethod ({ cls := "BladeAlgebraModel", name := "second", desc := "()I" } : Jvm.MethodName)) ∈ lw_tbl := lw_at lw_m10 140 rfl
theorem q2396 : (Jvm.Cond.instanceMethod ({ cls := "BladeAlgebraModel", name := "second", desc := "()I" } : Jvm.MethodName)) ∈ lw_all := lw_g (lw_at lw_m10 141 rfl) rfl
theorem q2397 : (Jvm.Cond.code ({ cls := "BladeAlgebraModel", name := "second", desc := "()I" } : Jvm.MethodName) prog_42_method_77_code (1 : Nat) (Option.some Jvm.ClassFile.FieldType.int)) ∈ lw_all := lw_g (lw_at lw_m10 142 rfl) rfl
theorem q2399 : (Jvm.Cond.instanceMethod ({ cls := "BladeAlgebraModel", name := "center", desc := "(II)I" } : Jvm.MethodName)) ∈ lw_all := lw_g (lw_at lw_m10 144 rfl) rfl
theorem q2400 : (Jvm.Cond.selects "BladeAlgebraModel" ({ cls := "BladeAlgebraModel", name := "center", desc := "(II)I" } : Jvm.MethodName) ({ cls := "BladeAlgebraModel", name := "center", desc := "(II)I" } : Jvm.MethodName)) ∈ lw_all := lw_g (lw_at lw_m10 145 rfl) rfl
theorem q2401 : (Jvm.Cond.code ({ cls := "BladeAlgebraModel", name := "center", desc := "(II)I" } : Jvm.MethodName) prog_42_method_83_code (9 : Nat) (Option.some Jvm.ClassFile.FieldType.int)) ∈ lw_all := lw_g (lw_at lw_m10 146 rfl) rfl
theorem q2402 : (Jvm.Cond.methodLink "BladeAlgebraModel" (247 : Nat) ({ cls := "BladeAlgebraModel", name := "wrongSphere", desc := "(II)I" } : Jvm.MethodName)) ∈ lw_all := lw_g (lw_at lw_m10 147 rfl) rfl
theorem q2403 : (Jvm.Cond.privateMethod ({ cls := "BladeAlgebraModel", name := "wrongSphere", desc := "(II)I" } : Jvm.MethodName)) ∈ lw_tbl := lw_at lw_m10 148 rfl
theorem q2404 : (Jvm.Cond.instanceMethod ({ cls := "BladeAlgebraModel", name := "wrongSphere", desc := "(II)I" } : Jvm.MethodName)) ∈ lw_all := lw_g (lw_at lw_m10 149 rfl) rfl
theorem q2405 : (Jvm.Cond.code ({ cls := "BladeAlgebraModel", name := "wrongSphere", desc := "(II)I" } : Jvm.MethodName) prog_42_method_82_code (3 : Nat) (Option.some Jvm.ClassFile.FieldType.int)) ∈ lw_all := lw_g (lw_at lw_m10 150 rfl) rfl
theorem q2406 : (Jvm.Cond.methodLink "BladeAlgebraModel" (244 : Nat) ({ cls := "BladeAlgebraModel", name := "twiceWeight", desc := "(I)J" } : Jvm.MethodName)) ∈ lw_all := lw_g (lw_at lw_m10 151 rfl) rfl
theorem q2407 : (Jvm.Cond.privateMethod ({ cls := "BladeAlgebraModel", name := "twiceWeight", desc := "(I)J" } : Jvm.MethodName)) ∈ lw_tbl := lw_at lw_m10 152 rfl
theorem q2408 : (Jvm.Cond.instanceMethod ({ cls := "BladeAlgebraModel", name := "twiceWeight", desc := "(I)J" } : Jvm.MethodName)) ∈ lw_all := lw_g (lw_at lw_m10 153 rfl) rfl
theorem q2409 : (Jvm.Cond.code ({ cls := "BladeAlgebraModel", name := "twiceWeight", desc := "(I)J" } : Jvm.MethodName) prog_42_method_81_code (2 : Nat) (Option.some Jvm.ClassFile.FieldType.long)) ∈ lw_all := lw_g (lw_at lw_m10 154 rfl) rfl
theorem q2411 : (Jvm.Cond.instanceMethod ({ cls := "BladeAlgebraModel", name := "radiusSquare", desc := "(II)I" } : Jvm.MethodName)) ∈ lw_all := lw_g (lw_at lw_m10 156 rfl) rfl
theorem q2412 : (Jvm.Cond.selects "BladeAlgebraModel" ({ cls := "BladeAlgebraModel", name := "radiusSquare", desc := "(II)I" } : Jvm.MethodName) ({ cls := "BladeAlgebraModel", name := "radiusSquare", desc := "(II)I" } : Jvm.MethodName)) ∈ lw_all := lw_g (lw_at lw_m10 157 rfl) rfl
theorem q2413 : (Jvm.Cond.code ({ cls := "BladeAlgebraModel", name := "radiusSquare", desc := "(II)I" } : Jvm.MethodName) prog_42_method_84_code (5 : Nat) (Option.some Jvm.ClassFile.FieldType.int)) ∈ lw_all := lw_g (lw_at lw_m10 158 rfl) rfl
theorem q2415 : (Jvm.Cond.instanceMethod ({ cls := "BladeAlgebraModel", name := "appendText", desc := "(I)I" } : Jvm.MethodName)) ∈ lw_all := lw_g (lw_at lw_m10 160 rfl) rfl
theorem q2416 : (Jvm.Cond.selects "BladeAlgebraModel" ({ cls := "BladeAlgebraModel", name := "appendText", desc := "(I)I" } : Jvm.MethodName) ({ cls := "BladeAlgebraModel", name := "appendText", desc := "(I)I" } : Jvm.MethodName)) ∈ lw_all := lw_g (lw_at lw_m10 161 rfl) rfl
theorem q2417 : (Jvm.Cond.code ({ cls := "BladeAlgebraModel", name := "appendText", desc := "(I)I" } : Jvm.MethodName) prog_42_method_85_code (3 : Nat) (Option.some Jvm.ClassFile.FieldType.int)) ∈ lw_all := lw_g (lw_at lw_m10 162 rfl) rfl
theorem q2419 : (Jvm.Cond.instanceMethod ({ cls := "BladeAlgebraModel", name := "truncateText", desc := "(I)I" } : Jvm.MethodName)) ∈ lw_all := lw_g (lw_at lw_m10 164 rfl) rfl
theorem q2420 : (Jvm.Cond.selects "BladeAlgebraModel" ({ cls := "BladeAlgebraModel", name := "truncateText", desc := "(I)I" } : Jvm.MethodName) ({ cls := "BladeAlgebraModel", name := "truncateText", desc := "(I)I" } : Jvm.MethodName)) ∈ lw_all := lw_g (lw_at lw_m10 165 rfl) rfl
theorem q2421 : (Jvm.Cond.code ({ cls := "BladeAlgebraModel", name := "truncateText", desc := "(I)I" } : Jvm.MethodName) prog_42_method_86_code (2 : Nat) (Option.some Jvm.ClassFile.FieldType.int)) ∈ lw_all := lw_g (lw_at lw_m10 166 rfl) rfl
theorem q2423 : (Jvm.Cond.instanceMethod ({ cls := "BladeAlgebraModel", name := "evaluate", desc := "(I)I" } : Jvm.MethodName)) ∈ lw_all := lw_g (lw_at lw_m10 168 rfl) rfl
theorem q2424 : (Jvm.Cond.selects "BladeAlgebraModel" ({ cls := "BladeAlgebraModel", name := "evaluate", desc := "(I)I" } : Jvm.MethodName) ({ cls := "BladeAlgebraModel", name := "evaluate", desc := "(I)I" } : Jvm.MethodName)) ∈ lw_all := lw_g (lw_at lw_m10 169 rfl) rfl
theorem q2425 : (Jvm.Cond.code ({ cls := "BladeAlgebraModel", name := "evaluate", desc := "(I)I" } : Jvm.MethodName) prog_42_method_104_code (2 : Nat) (Option.some Jvm.ClassFile.FieldType.int)) ∈ lw_all := lw_g (lw_at lw_m10 170 rfl) rfl
theorem q2426 : (Jvm.Cond.methodLink "BladeAlgebraModel" (329 : Nat) ({ cls := "BladeAlgebraModel", name := "computes", desc := "()V" } : Jvm.MethodName)) ∈ lw_all := lw_g (lw_at lw_m10 171 rfl) rfl
theorem q2427 : (Jvm.Cond.privateMethod ({ cls := "BladeAlgebraModel", name := "computes", desc := "()V" } : Jvm.MethodName)) ∈ lw_tbl := lw_at lw_m10 172 rfl
theorem q2428 : (Jvm.Cond.instanceMethod ({ cls := "BladeAlgebraModel", name := "computes", desc := "()V" } : Jvm.MethodName)) ∈ lw_all := lw_g (lw_at lw_m10 173 rfl) rfl
theorem q2429 : (Jvm.Cond.code ({ cls := "BladeAlgebraModel", name := "computes", desc := "()V" } : Jvm.MethodName) prog_42_method_103_code (2 : Nat) (Option.none : Option Jvm.ClassFile.FieldType)) ∈ lw_all := lw_g (lw_at lw_m10 174 rfl) rfl
theorem q2430 : (Jvm.Cond.methodLink "BladeAlgebraModel" (323 : Nat) ({ cls := "BladeAlgebraModel", name := "readsOperand", desc := "()V" } : Jvm.MethodName)) ∈ lw_all := lw_g (lw_at lw_m10 175 rfl) rfl
theorem q2431 : (Jvm.Cond.privateMethod ({ cls := "BladeAlgebraModel", name := "readsOperand", desc := "()V" } : Jvm.MethodName)) ∈ lw_tbl := lw_at lw_m10 176 rfl
theorem q2432 : (Jvm.Cond.instanceMethod ({ cls := "BladeAlgebraModel", name := "readsOperand", desc := "()V" } : Jvm.MethodName)) ∈ lw_all := lw_g (lw_at lw_m10 177 rfl) rfl
theorem q2433 : (Jvm.Cond.code ({ cls := "BladeAlgebraModel", name := "readsOperand", desc := "()V" } : Jvm.MethodName) prog_42_method_101_code (3 : Nat) (Option.none : Option Jvm.ClassFile.FieldType)) ∈ lw_all := lw_g (lw_at lw_m10 178 rfl) rfl
theorem q2434 : (Jvm.Cond.methodLink "BladeAlgebraModel" (281 : Nat) ({ cls := "BladeAlgebraModel", name := "next", desc := "()I" } : Jvm.MethodName)) ∈ lw_all := lw_g (lw_at lw_m10 179 rfl) rfl
theorem q2435 : (Jvm.Cond.privateMethod ({ cls := "BladeAlgebraModel", name := "next", desc := "()I" } : Jvm.MethodName)) ∈ lw_tbl := lw_at lw_m10 180 rfl
theorem q2436 : (Jvm.Cond.instanceMethod ({ cls := "BladeAlgebraModel", name := "next", desc := "()I" } : Jvm.MethodName)) ∈ lw_all := lw_g (lw_at lw_m10 181 rfl) rfl
theorem q2437 : (Jvm.Cond.code ({ cls := "BladeAlgebraModel", name := "next", desc := "()I" } : Jvm.MethodName) prog_42_method_88_code (1 : Nat) (Option.some Jvm.ClassFile.FieldType.int)) ∈ lw_all := lw_g (lw_at lw_m10 182 rfl) rfl
theorem q2438 : (Jvm.Cond.methodLink "BladeAlgebraModel" (256 : Nat) ({ cls := "BladeAlgebraModel", name := "see", desc := "()I" } : Jvm.MethodName)) ∈ lw_all := lw_g (lw_at lw_m10 183 rfl) rfl
theorem q2439 : (Jvm.Cond.privateMethod ({ cls := "BladeAlgebraModel", name := "see", desc := "()I" } : Jvm.MethodName)) ∈ lw_tbl := lw_at lw_m10 184 rfl
theorem q2440 : (Jvm.Cond.instanceMethod ({ cls := "BladeAlgebraModel", name := "see", desc := "()I" } : Jvm.MethodName)) ∈ lw_all := lw_g (lw_at lw_m10 185 rfl) rfl
theorem q2441 : (Jvm.Cond.code ({ cls := "BladeAlgebraModel", name := "see", desc := "()I" } : Jvm.MethodName) prog_42_method_87_code (1 : Nat) (Option.some Jvm.ClassFile.FieldType.int)) ∈ lw_all := lw_g (lw_at lw_m10 186 rfl) rfl
theorem q2442 : (Jvm.Cond.methodLink "BladeAlgebraModel" (299 : Nat) ({ cls := "BladeAlgebraModel", name := "waitsFor", desc := "(I)V" } : Jvm.MethodName)) ∈ lw_all := lw_g (lw_at lw_m10 187 rfl) rfl
theorem q2443 : (Jvm.Cond.privateMethod ({ cls := "BladeAlgebraModel", name := "waitsFor", desc := "(I)V" } : Jvm.MethodName)) ∈ lw_tbl := lw_at lw_m10 188 rfl
theorem q2444 : (Jvm.Cond.instanceMethod ({ cls := "BladeAlgebraModel", name := "waitsFor", desc := "(I)V" } : Jvm.MethodName)) ∈ lw_all := lw_g (lw_at lw_m10 189 rfl) rfl
theorem q2445 : (Jvm.Cond.code ({ cls := "BladeAlgebraModel", name := "waitsFor", desc := "(I)V" } : Jvm.MethodName) prog_42_method_95_code (2 : Nat) (Option.none : Option Jvm.ClassFile.FieldType)) ∈ lw_all := lw_g (lw_at lw_m10 190 rfl) rfl
theorem q2446 : (Jvm.Cond.methodLink "BladeAlgebraModel" (262 : Nat) ({ cls := "BladeAlgebraModel", name := "isDigit", desc := "()Z" } : Jvm.MethodName)) ∈ lw_all := lw_g (lw_at lw_m10 191 rfl) rfl
theorem q2447 : (Jvm.Cond.privateMethod ({ cls := "BladeAlgebraModel", name := "isDigit", desc := "()Z" } : Jvm.MethodName)) ∈ lw_tbl := lw_at lw_m10 192 rfl
theorem q2448 : (Jvm.Cond.instanceMethod ({ cls := "BladeAlgebraModel", name := "isDigit", desc := "()Z" } : Jvm.MethodName)) ∈ lw_all := lw_g (lw_at lw_m10 193 rfl) rfl
theorem q2449 : (Jvm.Cond.code ({ cls := "BladeAlgebraModel", name := "isDigit", desc := "()Z" } : Jvm.MethodName) prog_42_method_89_code (1 : Nat) (Option.some Jvm.ClassFile.FieldType.boolean)) ∈ lw_all := lw_g (lw_at lw_m10 194 rfl) rfl
theorem q2450 : (Jvm.Cond.methodLink "BladeAlgebraModel" (308 : Nat) ({ cls := "BladeAlgebraModel", name := "readsNumber", desc := "()V" } : Jvm.MethodName)) ∈ lw_all := lw_g (lw_at lw_m10 195 rfl) rfl
theorem q2451 : (Jvm.Cond.privateMethod ({ cls := "BladeAlgebraModel", name := "readsNumber", desc := "()V" } : Jvm.MethodName)) ∈ lw_tbl := lw_at lw_m10 196 rfl
theorem q2452 : (Jvm.Cond.instanceMethod ({ cls := "BladeAlgebraModel", name := "readsNumber", desc := "()V" } : Jvm.MethodName)) ∈ lw_all := lw_g (lw_at lw_m10 197 rfl) rfl
theorem q2453 : (Jvm.Cond.code ({ cls := "BladeAlgebraModel", name := "readsNumber", desc := "()V" } : Jvm.MethodName) prog_42_method_92_code (1 : Nat) (Option.none : Option Jvm.ClassFile.FieldType)) ∈ lw_all := lw_g (lw_at lw_m10 198 rfl) rfl
theorem q2454 : (Jvm.Cond.methodLink "BladeAlgebraModel" (271 : Nat) ({ cls := "BladeAlgebraModel", name := "number", desc := "(I)I" } : Jvm.MethodName)) ∈ lw_all := lw_g (lw_at lw_m10 199 rfl) rfl
theorem q2455 : (Jvm.Cond.privateMethod ({ cls := "BladeAlgebraModel", name := "number", desc := "(I)I" } : Jvm.MethodName)) ∈ lw_tbl := lw_at lw_m10 200 rfl
theorem q2456 : (Jvm.Cond.instanceMethod ({ cls := "BladeAlgebraModel", name := "number", desc := "(I)I" } : Jvm.MethodName)) ∈ lw_all := lw_g (lw_at lw_m10 201 rfl) rfl
theorem q2457 : (Jvm.Cond.code ({ cls := "BladeAlgebraModel", name := "number", desc := "(I)I" } : Jvm.MethodName) prog_42_method_91_code (4 : Nat) (Option.some Jvm.ClassFile.FieldType.int)) ∈ lw_all := lw_g (lw_at lw_m10 202 rfl) rfl
theorem q2458 : (Jvm.Cond.methodLink "BladeAlgebraModel" (265 : Nat) ({ cls := "BladeAlgebraModel", name := "fails", desc := "(II)V" } : Jvm.MethodName)) ∈ lw_all := lw_g (lw_at lw_m10 203 rfl) rfl
theorem q2459 : (Jvm.Cond.privateMethod ({ cls := "BladeAlgebraModel", name := "fails", desc := "(II)V" } : Jvm.MethodName)) ∈ lw_tbl := lw_at lw_m10 204 rfl
theorem q2460 : (Jvm.Cond.instanceMethod ({ cls := "BladeAlgebraModel", name := "fails", desc := "(II)V" } : Jvm.MethodName)) ∈ lw_all := lw_g (lw_at lw_m10 205 rfl) rfl
theorem q2461 : (Jvm.Cond.code ({ cls := "BladeAlgebraModel", name := "fails", desc := "(II)V" } : Jvm.MethodName) prog_42_method_90_code (3 : Nat) (Option.none : Option Jvm.ClassFile.FieldType)) ∈ lw_all := lw_g (lw_at lw_m10 206 rfl) rfl
theorem q2462 : (Jvm.Cond.methodLink "BladeAlgebraModel" (311 : Nat) ({ cls := "BladeAlgebraModel", name := "readsName", desc := "()V" } : Jvm.MethodName)) ∈ lw_all := lw_g (lw_at lw_m10 207 rfl) rfl
theorem q2463 : (Jvm.Cond.privateMethod ({ cls := "BladeAlgebraModel", name := "readsName", desc := "()V" } : Jvm.MethodName)) ∈ lw_tbl := lw_at lw_m10 208 rfl
theorem q2464 : (Jvm.Cond.instanceMethod ({ cls := "BladeAlgebraModel", name := "readsName", desc := "()V" } : Jvm.MethodName)) ∈ lw_all := lw_g (lw_at lw_m10 209 rfl) rfl
theorem q2465 : (Jvm.Cond.code ({ cls := "BladeAlgebraModel", name := "readsName", desc := "()V" } : Jvm.MethodName) prog_42_method_94_code (10 : Nat) (Option.none : Option Jvm.ClassFile.FieldType)) ∈ lw_all := lw_g (lw_at lw_m10 210 rfl) rfl
theorem q2466 : (Jvm.Cond.methodLink "BladeAlgebraModel" (314 : Nat) ({ cls := "BladeAlgebraModel", name := "opens", desc := "()V" } : Jvm.MethodName)) ∈ lw_all := lw_g (lw_at lw_m10 211 rfl) rfl
theorem q2467 : (Jvm.Cond.privateMethod ({ cls := "BladeAlgebraModel", name := "opens", desc := "()V" } : Jvm.MethodName)) ∈ lw_tbl := lw_at lw_m10 212 rfl
theorem q2468 : (Jvm.Cond.instanceMethod ({ cls := "BladeAlgebraModel", name := "opens", desc := "()V" } : Jvm.MethodName)) ∈ lw_all := lw_g (lw_at lw_m10 213 rfl) rfl
theorem q2469 : (Jvm.Cond.code ({ cls := "BladeAlgebraModel", name := "opens", desc := "()V" } : Jvm.MethodName) prog_42_method_99_code (1 : Nat) (Option.none : Option Jvm.ClassFile.FieldType)) ∈ lw_all := lw_g (lw_at lw_m10 214 rfl) rfl
theorem q2470 : (Jvm.Cond.methodLink "BladeAlgebraModel" (326 : Nat) ({ cls := "BladeAlgebraModel", name := "readsBehind", desc := "()Z" } : Jvm.MethodName)) ∈ lw_all := lw_g (lw_at lw_m10 215 rfl) rfl
theorem q2471 : (Jvm.Cond.privateMethod ({ cls := "BladeAlgebraModel", name := "readsBehind", desc := "()Z" } : Jvm.MethodName)) ∈ lw_tbl := lw_at lw_m10 216 rfl
theorem q2472 : (Jvm.Cond.instanceMethod ({ cls := "BladeAlgebraModel", name := "readsBehind", desc := "()Z" } : Jvm.MethodName)) ∈ lw_all := lw_g (lw_at lw_m10 217 rfl) rfl
theorem q2473 : (Jvm.Cond.code ({ cls := "BladeAlgebraModel", name := "readsBehind", desc := "()Z" } : Jvm.MethodName) prog_42_method_102_code (2 : Nat) (Option.some Jvm.ClassFile.FieldType.boolean)) ∈ lw_all := lw_g (lw_at lw_m10 218 rfl) rfl
theorem q2474 : (Jvm.Cond.methodLink "BladeAlgebraModel" (305 : Nat) ({ cls := "BladeAlgebraModel", name := "settles", desc := "(I)V" } : Jvm.MethodName)) ∈ lw_all := lw_g (lw_at lw_m10 219 rfl) rfl
theorem q2475 : (Jvm.Cond.privateMethod ({ cls := "BladeAlgebraModel", name := "settles", desc := "(I)V" } : Jvm.MethodName)) ∈ lw_tbl := lw_at lw_m10 220 rfl
theorem q2476 : (Jvm.Cond.instanceMethod ({ cls := "BladeAlgebraModel", name := "settles", desc := "(I)V" } : Jvm.MethodName)) ∈ lw_all := lw_g (lw_at lw_m10 221 rfl) rfl
theorem q2477 : (Jvm.Cond.code ({ cls := "BladeAlgebraModel", name := "settles", desc := "(I)V" } : Jvm.MethodName) prog_42_method_98_code (2 : Nat) (Option.none : Option Jvm.ClassFile.FieldType)) ∈ lw_all := lw_g (lw_at lw_m10 222 rfl) rfl
theorem q2478 : (Jvm.Cond.methodLink "BladeAlgebraModel" (290 : Nat) ({ cls := "BladeAlgebraModel", name := "level", desc := "(I)I" } : Jvm.MethodName)) ∈ lw_all := lw_g (lw_at lw_m10 223 rfl) rfl
theorem q2479 : (Jvm.Cond.static ({ cls := "BladeAlgebraModel", name := "level", desc := "(I)I" } : Jvm.MethodName)) ∈ lw_all := lw_g (lw_at lw_m10 224 rfl) rfl
theorem q2480 : (Jvm.Cond.code ({ cls := "BladeAlgebraModel", name := "level", desc := "(I)I" } : Jvm.MethodName) prog_42_method_96_code (1 : Nat) (Option.some Jvm.ClassFile.FieldType.int)) ∈ lw_all := lw_g (lw_at lw_m10 225 rfl) rfl
theorem q2481 : (Jvm.Cond.methodLink "BladeAlgebraModel" (293 : Nat) ({ cls := "BladeAlgebraModel", name := "carriesOutLatest", desc := "()V" } : Jvm.MethodName)) ∈ lw_all := lw_g (lw_at lw_m10 226 rfl) rfl
theorem q2482 : (Jvm.Cond.privateMethod ({ cls := "BladeAlgebraModel", name := "carriesOutLatest", desc := "()V" } : Jvm.MethodName)) ∈ lw_tbl := lw_at lw_m10 227 rfl
theorem q2483 : (Jvm.Cond.instanceMethod ({ cls := "BladeAlgebraModel", name := "carriesOutLatest", desc := "()V" } : Jvm.MethodName)) ∈ lw_all := lw_g (lw_at lw_m10 228 rfl) rfl
theorem q2484 : (Jvm.Cond.code ({ cls := "BladeAlgebraModel", name := "carriesOutLatest", desc := "()V" } : Jvm.MethodName) prog_42_method_97_code (4 : Nat) (Option.none : Option Jvm.ClassFile.FieldType)) ∈ lw_all := lw_g (lw_at lw_m10 229 rfl) rfl
theorem q2485 : (Jvm.Cond.methodLink "BladeAlgebraModel" (317 : Nat) ({ cls := "BladeAlgebraModel", name := "divides", desc := "()V" } : Jvm.MethodName)) ∈ lw_all := lw_g (lw_at lw_m10 230 rfl) rfl
theorem q2486 : (Jvm.Cond.privateMethod ({ cls := "BladeAlgebraModel", name := "divides", desc := "()V" } : Jvm.MethodName)) ∈ lw_tbl := lw_at lw_m10 231 rfl
theorem q2487 : (Jvm.Cond.instanceMethod ({ cls := "BladeAlgebraModel", name := "divides", desc := "()V" } : Jvm.MethodName)) ∈ lw_all := lw_g (lw_at lw_m10 232 rfl) rfl
theorem q2488 : (Jvm.Cond.code ({ cls := "BladeAlgebraModel", name := "divides", desc := "()V" } : Jvm.MethodName) prog_42_method_93_code (4 : Nat) (Option.none : Option Jvm.ClassFile.FieldType)) ∈ lw_all := lw_g (lw_at lw_m10 233 rfl) rfl
theorem q2489 : (Jvm.Cond.methodLink "BladeAlgebraModel" (320 : Nat) ({ cls := "BladeAlgebraModel", name := "closes", desc := "()V" } : Jvm.MethodName)) ∈ lw_all := lw_g (lw_at lw_m10 234 rfl) rfl
theorem q2490 : (Jvm.Cond.privateMethod ({ cls := "BladeAlgebraModel", name := "closes", desc := "()V" } : Jvm.MethodName)) ∈ lw_tbl := lw_at lw_m10 235 rfl
theorem q2491 : (Jvm.Cond.instanceMethod ({ cls := "BladeAlgebraModel", name := "closes", desc := "()V" } : Jvm.MethodName)) ∈ lw_all := lw_g (lw_at lw_m10 236 rfl) rfl
theorem q2492 : (Jvm.Cond.code ({ cls := "BladeAlgebraModel", name := "closes", desc := "()V" } : Jvm.MethodName) prog_42_method_100_code (1 : Nat) (Option.none : Option Jvm.ClassFile.FieldType)) ∈ lw_all := lw_g (lw_at lw_m10 237 rfl) rfl
theorem q2494 : (Jvm.Cond.instanceMethod ({ cls := "BladeAlgebraModel", name := "errorCode", desc := "()I" } : Jvm.MethodName)) ∈ lw_all := lw_g (lw_at lw_m10 239 rfl) rfl
theorem q2495 : (Jvm.Cond.selects "BladeAlgebraModel" ({ cls := "BladeAlgebraModel", name := "errorCode", desc := "()I" } : Jvm.MethodName) ({ cls := "BladeAlgebraModel", name := "errorCode", desc := "()I" } : Jvm.MethodName)) ∈ lw_all := lw_g (lw_at lw_m11 0 rfl) rfl
theorem q2496 : (Jvm.Cond.code ({ cls := "BladeAlgebraModel", name := "errorCode", desc := "()I" } : Jvm.MethodName) prog_42_method_105_code (1 : Nat) (Option.some Jvm.ClassFile.FieldType.int)) ∈ lw_all := lw_g (lw_at lw_m11 1 rfl) rfl
theorem q2498 : (Jvm.Cond.instanceMethod ({ cls := "BladeAlgebraModel", name := "errorPosition", desc := "()I" } : Jvm.MethodName)) ∈ lw_all := lw_g (lw_at lw_m11 3 rfl) rfl
theorem q2499 : (Jvm.Cond.selects "BladeAlgebraModel" ({ cls := "BladeAlgebraModel", name := "errorPosition", desc := "()I" } : Jvm.MethodName) ({ cls := "BladeAlgebraModel", name := "errorPosition", desc := "()I" } : Jvm.MethodName)) ∈ lw_all := lw_g (lw_at lw_m11 4 rfl) rfl
theorem q2500 : (Jvm.Cond.code ({ cls := "BladeAlgebraModel", name := "errorPosition", desc := "()I" } : Jvm.MethodName) prog_42_method_106_code (1 : Nat) (Option.some Jvm.ClassFile.FieldType.int)) ∈ lw_all := lw_g (lw_at lw_m11 5 rfl) rfl
theorem q2502 : (Jvm.Cond.instanceMethod ({ cls := "BladeAlgebraModel", name := "write", desc := "(I)I" } : Jvm.MethodName)) ∈ lw_all := lw_g (lw_at lw_m11 7 rfl) rfl
theorem q2503 : (Jvm.Cond.selects "BladeAlgebraModel" ({ cls := "BladeAlgebraModel", name := "write", desc := "(I)I" } : Jvm.MethodName) ({ cls := "BladeAlgebraModel", name := "write", desc := "(I)I" } : Jvm.MethodName)) ∈ lw_all := lw_g (lw_at lw_m11 8 rfl) rfl
theorem q2504 : (Jvm.Cond.code ({ cls := "BladeAlgebraModel", name := "write", desc := "(I)I" } : Jvm.MethodName) prog_42_method_110_code (4 : Nat) (Option.some Jvm.ClassFile.FieldType.int)) ∈ lw_all := lw_g (lw_at lw_m11 9 rfl) rfl
theorem q2505 : (Jvm.Cond.methodLink "BladeAlgebraModel" (339 : Nat) ({ cls := "BladeAlgebraModel", name := "writes", desc := "(I)V" } : Jvm.MethodName)) ∈ lw_all := lw_g (lw_at lw_m11 10 rfl) rfl
theorem q2506 : (Jvm.Cond.privateMethod ({ cls := "BladeAlgebraModel", name := "writes", desc := "(I)V" } : Jvm.MethodName)) ∈ lw_tbl := lw_at lw_m11 11 rfl
theorem q2507 : (Jvm.Cond.instanceMethod ({ cls := "BladeAlgebraModel", name := "writes", desc := "(I)V" } : Jvm.MethodName)) ∈ lw_all := lw_g (lw_at lw_m11 12 rfl) rfl
theorem q2508 : (Jvm.Cond.code ({ cls := "BladeAlgebraModel", name := "writes", desc := "(I)V" } : Jvm.MethodName) prog_42_method_107_code (2 : Nat) (Option.none : Option Jvm.ClassFile.FieldType)) ∈ lw_all := lw_g (lw_at lw_m11 13 rfl) rfl
theorem q2509 : (Jvm.Cond.methodLink "BladeAlgebraModel" (346 : Nat) ({ cls := "BladeAlgebraModel", name := "writesTerm", desc := "(II)V" } : Jvm.MethodName)) ∈ lw_all := lw_g (lw_at lw_m11 14 rfl) rfl
theorem q2510 : (Jvm.Cond.privateMethod ({ cls := "BladeAlgebraModel", name := "writesTerm", desc := "(II)V" } : Jvm.MethodName)) ∈ lw_tbl := lw_at lw_m11 15 rfl
theorem q2511 : (Jvm.Cond.instanceMethod ({ cls := "BladeAlgebraModel", name := "writesTerm", desc := "(II)V" } : Jvm.MethodName)) ∈ lw_all := lw_g (lw_at lw_m11 16 rfl) rfl
theorem q2512 : (Jvm.Cond.code ({ cls := "BladeAlgebraModel", name := "writesTerm", desc := "(II)V" } : Jvm.MethodName) prog_42_method_109_code (11 : Nat) (Option.none : Option Jvm.ClassFile.FieldType)) ∈ lw_all := lw_g (lw_at lw_m11 17 rfl) rfl
theorem q2513 : (Jvm.Cond.methodLink "BladeAlgebraModel" (342 : Nat) ({ cls := "BladeAlgebraModel", name := "writesNumber", desc := "(J)V" } : Jvm.MethodName)) ∈ lw_all := lw_g (lw_at lw_m11 18 rfl) rfl
theorem q2514 : (Jvm.Cond.privateMethod ({ cls := "BladeAlgebraModel", name := "writesNumber", desc := "(J)V" } : Jvm.MethodName)) ∈ lw_tbl := lw_at lw_m11 19 rfl
theorem q2515 : (Jvm.Cond.instanceMethod ({ cls := "BladeAlgebraModel", name := "writesNumber", desc := "(J)V" } : Jvm.MethodName)) ∈ lw_all := lw_g (lw_at lw_m11 20 rfl) rfl
theorem q2516 : (Jvm.Cond.code ({ cls := "BladeAlgebraModel", name := "writesNumber", desc := "(J)V" } : Jvm.MethodName) prog_42_method_108_code (5 : Nat) (Option.none : Option Jvm.ClassFile.FieldType)) ∈ lw_all := lw_g (lw_at lw_m11 21 rfl) rfl
theorem q2517 : (Jvm.Cond.constantLong "BladeAlgebraModel" (335 : Nat) (10 : Int64)) ∈ lw_all := lw_g (lw_at lw_m11 22 rfl) rfl
theorem q2518 : (Jvm.Cond.constantLong "BladeAlgebraModel" (337 : Nat) (48 : Int64)) ∈ lw_all := lw_g (lw_at lw_m11 23 rfl) rfl
theorem q2520 : (Jvm.Cond.instanceMethod ({ cls := "BladeAlgebraModel", name := "outputByte", desc := "(I)I" } : Jvm.MethodName)) ∈ lw_all := lw_g (lw_at lw_m11 25 rfl) rfl
theorem q2521 : (Jvm.Cond.selects "BladeAlgebraModel" ({ cls := "BladeAlgebraModel", name := "outputByte", desc := "(I)I" } : Jvm.MethodName) ({ cls := "BladeAlgebraModel", name := "outputByte", desc := "(I)I" } : Jvm.MethodName)) ∈ lw_all := lw_g (lw_at lw_m11 26 rfl) rfl
theorem q2522 : (Jvm.Cond.code ({ cls := "BladeAlgebraModel", name := "outputByte", desc := "(I)I" } : Jvm.MethodName) prog_42_method_111_code (2 : Nat) (Option.some Jvm.ClassFile.FieldType.int)) ∈ lw_all := lw_g (lw_at lw_m11 27 rfl) rfl
theorem q2524 : (Jvm.Cond.instanceMethod ({ cls := "BladeAlgebraModel", name := "save", desc := "(I)V" } : Jvm.MethodName)) ∈ lw_all := lw_g (lw_at lw_m11 29 rfl) rfl
theorem q2525 : (Jvm.Cond.selects "BladeAlgebraModel" ({ cls := "BladeAlgebraModel", name := "save", desc := "(I)V" } : Jvm.MethodName) ({ cls := "BladeAlgebraModel", name := "save", desc := "(I)V" } : Jvm.MethodName)) ∈ lw_all := lw_g (lw_at lw_m11 30 rfl) rfl
theorem q2526 : (Jvm.Cond.code ({ cls := "BladeAlgebraModel", name := "save", desc := "(I)V" } : Jvm.MethodName) prog_42_method_112_code (3 : Nat) (Option.none : Option Jvm.ClassFile.FieldType)) ∈ lw_all := lw_g (lw_at lw_m11 31 rfl) rfl
theorem q2528 : (Jvm.Cond.instanceMethod ({ cls := "BladeAlgebraModel", name := "restore", desc := "(I)V" } : Jvm.MethodName)) ∈ lw_all := lw_g (lw_at lw_m11 33 rfl) rfl
theorem q2529 : (Jvm.Cond.selects "BladeAlgebraModel" ({ cls := "BladeAlgebraModel", name := "restore", desc := "(I)V" } : Jvm.MethodName) ({ cls := "BladeAlgebraModel", name := "restore", desc := "(I)V" } : Jvm.MethodName)) ∈ lw_all := lw_g (lw_at lw_m11 34 rfl) rfl
theorem q2530 : (Jvm.Cond.code ({ cls := "BladeAlgebraModel", name := "restore", desc := "(I)V" } : Jvm.MethodName) prog_42_method_113_code (3 : Nat) (Option.none : Option Jvm.ClassFile.FieldType)) ∈ lw_all := lw_g (lw_at lw_m11 35 rfl) rfl
theorem q2597 : (Jvm.Cond.castable "BladeAlgebraModel" "java/lang/Object") ∈ lw_tbl := lw_at lw_m11 102 rfl
theorem in_X7 : ∀ w ∈ wsX70, w ∈ lw_all := lw_in wsX70 [2033, 2035, 2037, 2039, 2041, 2043, 2045, 2047, 2049, 2051, 2053, 2055, 2057, 2059, 2061, 2063, 2065, 2067, 2069, 2071, 2073, 2075, 2077, 2079, 2081, 2083, 2085] (by decide +kernel) (by decide +kernel)
