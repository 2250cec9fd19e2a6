/-! BladeAlgebra$Two -/
set_option maxRecDepth 100000
def RX2 : String := "BladeAlgebra$Two"
abbrev cX2_values : ByteArray := prog_28_method_1_code
def yX2_values : MethodName := ⟨RX2, "values", "()[LBladeAlgebra$Two;"⟩
def dkwX2_values_0 : List UInt8 := [178, 0, 31, 182, 0, 35, 192, 0, 36, 176]
abbrev dktX2_values_0 : List UInt8 := dkwX2_values_0 ++ []
theorem dksX2_values_0 : cX2_values.data.toList.drop 0 = dktX2_values_0 := by decide +kernel
theorem dX2_values_0 : decode cX2_values 0 = .ok (.getstatic 31, 3) := dk_178 0 31 (dk_at dksX2_values_0 0 rfl rfl)
theorem dX2_values_3 : decode cX2_values 3 = .ok (.invokevirtual 35, 3) := dk_182 0 35 (dk_at dksX2_values_0 3 rfl rfl)
theorem dX2_values_6 : decode cX2_values 6 = .ok (.checkcast 36, 3) := dk_192 0 36 (dk_at dksX2_values_0 6 rfl rfl)
theorem dX2_values_9 : decode cX2_values 9 = .ok (.areturn, 1) := dk_176 (dk_at dksX2_values_0 9 rfl rfl)
theorem q98 : (Jvm.Cond.initialized "BladeAlgebra$Two") ∈ lw_all := lw_g (lw_at lw_m1 3 rfl) rfl
theorem q154 : (Jvm.Cond.static ({ cls := "BladeAlgebra$Two", name := "values", desc := "()[LBladeAlgebra$Two;" } : Jvm.MethodName)) ∈ lw_all := lw_g (lw_at lw_m1 59 rfl) rfl
theorem q155 : (Jvm.Cond.code ({ cls := "BladeAlgebra$Two", name := "values", desc := "()[LBladeAlgebra$Two;" } : Jvm.MethodName) prog_28_method_1_code (0 : Nat) (Option.some (Jvm.ClassFile.FieldType.array (Jvm.ClassFile.FieldType.object "BladeAlgebra$Two")))) ∈ lw_all := lw_g (lw_at lw_m1 60 rfl) rfl
theorem q156 : (Jvm.Cond.fieldLink "BladeAlgebra$Two" (31 : Nat) "BladeAlgebra$Two" "$VALUES" "[LBladeAlgebra$Two;") ∈ lw_all := lw_g (lw_at lw_m1 61 rfl) rfl
theorem q157 : (Jvm.Cond.laysStatic "BladeAlgebra$Two" "$VALUES" "[LBladeAlgebra$Two;") ∈ lw_tbl := lw_at lw_m1 62 rfl
theorem q158 : (Jvm.Cond.methodLink "BladeAlgebra$Two" (35 : Nat) ({ cls := "[LBladeAlgebra$Two;", name := "clone", desc := "()Ljava/lang/Object;" } : Jvm.MethodName)) ∈ lw_all := lw_g (lw_at lw_m1 63 rfl) rfl
theorem q165 : (Jvm.Cond.classLink "BladeAlgebra$Two" (36 : Nat) "[LBladeAlgebra$Two;") ∈ lw_all := lw_g (lw_at lw_m1 70 rfl) rfl
theorem q635 : (Jvm.Cond.declares ({ cls := "BladeAlgebra$Two", name := "of", desc := "(LBladeAlgebra$Algebra;LBladeAlgebra$Multi;LBladeAlgebra$Multi;)LBladeAlgebra$Multi;" } : Jvm.MethodName)) ∈ lw_tbl := lw_at lw_m3 60 rfl
theorem q636 : (Jvm.Cond.sameMethod "BladeAlgebra$Two" "BladeAlgebra$Two" "of" "(LBladeAlgebra$Algebra;LBladeAlgebra$Multi;LBladeAlgebra$Multi;)LBladeAlgebra$Multi;") ∈ lw_all := lw_g (lw_at lw_m3 61 rfl) rfl
theorem q1732 : (Jvm.Cond.laysStatic "BladeAlgebra$Two" "OUTER" "LBladeAlgebra$Two;") ∈ lw_tbl := lw_at lw_m7 197 rfl
theorem q1734 : (Jvm.Cond.laysStatic "BladeAlgebra$Two" "LEFT" "LBladeAlgebra$Two;") ∈ lw_tbl := lw_at lw_m7 199 rfl
theorem q1761 : (Jvm.Cond.laysStatic "BladeAlgebra$Two" "PRODUCT" "LBladeAlgebra$Two;") ∈ lw_tbl := lw_at lw_m7 226 rfl
theorem q1765 : (Jvm.Cond.laysStatic "BladeAlgebra$Two" "SUM" "LBladeAlgebra$Two;") ∈ lw_tbl := lw_at lw_m7 230 rfl
theorem q1767 : (Jvm.Cond.laysStatic "BladeAlgebra$Two" "DIFFERENCE" "LBladeAlgebra$Two;") ∈ lw_tbl := lw_at lw_m7 232 rfl
theorem q2571 : (Jvm.Cond.castable "BladeAlgebra$Two" "java/lang/Object") ∈ lw_tbl := lw_at lw_m11 76 rfl
theorem q2638 : (Jvm.Cond.laysStatic "BladeAlgebra$Two" "RIGHT" "LBladeAlgebra$Two;") ∈ lw_tbl := lw_at lw_m11 143 rfl
theorem q2639 : (Jvm.Cond.laysStatic "BladeAlgebra$Two" "SCALAR" "LBladeAlgebra$Two;") ∈ lw_tbl := lw_at lw_m11 144 rfl
theorem q2640 : (Jvm.Cond.laysStatic "BladeAlgebra$Two" "MEET" "LBladeAlgebra$Two;") ∈ lw_tbl := lw_at lw_m11 145 rfl
theorem q2641 : (Jvm.Cond.laysStatic "BladeAlgebra$Two" "COMMUTATOR" "LBladeAlgebra$Two;") ∈ lw_tbl := lw_at lw_m11 146 rfl
/-! BladeAlgebra$One -/
set_option maxRecDepth 100000
def RX3 : String := "BladeAlgebra$One"
abbrev cX3_values : ByteArray := prog_9_method_1_code
def yX3_values : MethodName := ⟨RX3, "values", "()[LBladeAlgebra$One;"⟩
def dkwX3_values_0 : List UInt8 := [178, 0, 34, 182, 0, 38, 192, 0, 39, 176]
abbrev dktX3_values_0 : List UInt8 := dkwX3_values_0 ++ []
theorem dksX3_values_0 : cX3_values.data.toList.drop 0 = dktX3_values_0 := by decide +kernel
theorem dX3_values_0 : decode cX3_values 0 = .ok (.getstatic 34, 3) := dk_178 0 34 (dk_at dksX3_values_0 0 rfl rfl)
theorem dX3_values_3 : decode cX3_values 3 = .ok (.invokevirtual 38, 3) := dk_182 0 38 (dk_at dksX3_values_0 3 rfl rfl)
theorem dX3_values_6 : decode cX3_values 6 = .ok (.checkcast 39, 3) := dk_192 0 39 (dk_at dksX3_values_0 6 rfl rfl)
theorem dX3_values_9 : decode cX3_values 9 = .ok (.areturn, 1) := dk_176 (dk_at dksX3_values_0 9 rfl rfl)
theorem q99 : (Jvm.Cond.initialized "BladeAlgebra$One") ∈ lw_all := lw_g (lw_at lw_m1 4 rfl) rfl
theorem q167 : (Jvm.Cond.static ({ cls := "BladeAlgebra$One", name := "values", desc := "()[LBladeAlgebra$One;" } : Jvm.MethodName)) ∈ lw_all := lw_g (lw_at lw_m1 72 rfl) rfl
theorem q168 : (Jvm.Cond.code ({ cls := "BladeAlgebra$One", name := "values", desc := "()[LBladeAlgebra$One;" } : Jvm.MethodName) prog_9_method_1_code (0 : Nat) (Option.some (Jvm.ClassFile.FieldType.array (Jvm.ClassFile.FieldType.object "BladeAlgebra$One")))) ∈ lw_all := lw_g (lw_at lw_m1 73 rfl) rfl
theorem q169 : (Jvm.Cond.fieldLink "BladeAlgebra$One" (34 : Nat) "BladeAlgebra$One" "$VALUES" "[LBladeAlgebra$One;") ∈ lw_all := lw_g (lw_at lw_m1 74 rfl) rfl
theorem q170 : (Jvm.Cond.laysStatic "BladeAlgebra$One" "$VALUES" "[LBladeAlgebra$One;") ∈ lw_tbl := lw_at lw_m1 75 rfl
theorem q171 : (Jvm.Cond.methodLink "BladeAlgebra$One" (38 : Nat) ({ cls := "[LBladeAlgebra$One;", name := "clone", desc := "()Ljava/lang/Object;" } : Jvm.MethodName)) ∈ lw_all := lw_g (lw_at lw_m1 76 rfl) rfl
theorem q176 : (Jvm.Cond.classLink "BladeAlgebra$One" (39 : Nat) "[LBladeAlgebra$One;") ∈ lw_all := lw_g (lw_at lw_m1 81 rfl) rfl
theorem q748 : (Jvm.Cond.declares ({ cls := "BladeAlgebra$One", name := "of", desc := "(LBladeAlgebra$Algebra;LBladeAlgebra$Multi;)LBladeAlgebra$Multi;" } : Jvm.MethodName)) ∈ lw_tbl := lw_at lw_m3 173 rfl
theorem q749 : (Jvm.Cond.sameMethod "BladeAlgebra$One" "BladeAlgebra$One" "of" "(LBladeAlgebra$Algebra;LBladeAlgebra$Multi;)LBladeAlgebra$Multi;") ∈ lw_all := lw_g (lw_at lw_m3 174 rfl) rfl
theorem q868 : (Jvm.Cond.laysStatic "BladeAlgebra$One" "INVERSE" "LBladeAlgebra$One;") ∈ lw_tbl := lw_at lw_m4 53 rfl
theorem q1619 : (Jvm.Cond.laysStatic "BladeAlgebra$One" "REVERSE" "LBladeAlgebra$One;") ∈ lw_tbl := lw_at lw_m7 84 rfl
theorem q1621 : (Jvm.Cond.laysStatic "BladeAlgebra$One" "COMPLEMENT" "LBladeAlgebra$One;") ∈ lw_tbl := lw_at lw_m7 86 rfl
theorem q1763 : (Jvm.Cond.laysStatic "BladeAlgebra$One" "NEGATIVE" "LBladeAlgebra$One;") ∈ lw_tbl := lw_at lw_m7 228 rfl
theorem q2572 : (Jvm.Cond.castable "BladeAlgebra$One" "java/lang/Object") ∈ lw_tbl := lw_at lw_m11 77 rfl
theorem q2642 : (Jvm.Cond.laysStatic "BladeAlgebra$One" "INVOLUTION" "LBladeAlgebra$One;") ∈ lw_tbl := lw_at lw_m11 147 rfl
theorem q2643 : (Jvm.Cond.laysStatic "BladeAlgebra$One" "CONJUGATE" "LBladeAlgebra$One;") ∈ lw_tbl := lw_at lw_m11 148 rfl
theorem q2644 : (Jvm.Cond.laysStatic "BladeAlgebra$One" "BACK" "LBladeAlgebra$One;") ∈ lw_tbl := lw_at lw_m11 149 rfl
theorem q2645 : (Jvm.Cond.laysStatic "BladeAlgebra$One" "DUAL" "LBladeAlgebra$One;") ∈ lw_tbl := lw_at lw_m11 150 rfl
theorem q2646 : (Jvm.Cond.laysStatic "BladeAlgebra$One" "EVEN" "LBladeAlgebra$One;") ∈ lw_tbl := lw_at lw_m11 151 rfl
theorem q2647 : (Jvm.Cond.laysStatic "BladeAlgebra$One" "ODD" "LBladeAlgebra$One;") ∈ lw_tbl := lw_at lw_m11 152 rfl
/-! BladeAlgebra$World -/
set_option maxRecDepth 100000
def RX4 : String := "BladeAlgebra$World"
def TX4 : u_T := fun k => match k with
  | 0 => ("BladeAlgebra$World", "algebra", "LBladeAlgebra$Algebra;", false)
  | _ => ("BladeAlgebra$World", "register", "[LBladeAlgebra$Multi;", true)
def tyX4 : Nat → FieldType := fun k => match k with
  | 0 => .object "BladeAlgebra$Algebra"
  | _ => .array (.object "BladeAlgebra$Multi")
abbrev wsX40 : List Cond := u_ws RX4 TX4 2
theorem nmX4 : ∀ a, a < 2 → ∀ b, b < 2 → a ≠ b → (TX4 a).2.1 ≠ (TX4 b).2.1 := by decide +kernel
theorem tyX4_ok : ∀ k, k < 2 → parseFieldDescriptor (TX4 k).2.2.1 = some (tyX4 k) := by decide +kernel
abbrev cX4_init : ByteArray := prog_40_method_1_code
def yX4_init : MethodName := ⟨RX4, "<init>", "()V"⟩
def dkwX4_init_1 : List UInt8 := [42, 182, 0, 24, 177]
abbrev dktX4_init_1 : List UInt8 := dkwX4_init_1 ++ []
def dkwX4_init_0 : List UInt8 := [42, 183, 0, 3, 42, 187, 0, 9, 89, 183, 0, 11, 181, 0, 12, 42, 16, 8, 189, 0, 18, 181, 0, 20]
abbrev dktX4_init_0 : List UInt8 := dkwX4_init_0 ++ dktX4_init_1
theorem dksX4_init_0 : cX4_init.data.toList.drop 0 = dktX4_init_0 := by decide +kernel
theorem dksX4_init_1 : cX4_init.data.toList.drop 24 = dktX4_init_1 := dk_seg dksX4_init_0 24 rfl rfl
theorem dX4_init_0 : decode cX4_init 0 = .ok (.aload_n 0, 1) := dk_42 (dk_at dksX4_init_0 0 rfl rfl)
theorem dX4_init_1 : decode cX4_init 1 = .ok (.invokespecial 3, 3) := dk_183 0 3 (dk_at dksX4_init_0 1 rfl rfl)
theorem dX4_init_4 : decode cX4_init 4 = .ok (.aload_n 0, 1) := dk_42 (dk_at dksX4_init_0 4 rfl rfl)
theorem dX4_init_5 : decode cX4_init 5 = .ok (.new 9, 3) := dk_187 0 9 (dk_at dksX4_init_0 5 rfl rfl)
theorem dX4_init_8 : decode cX4_init 8 = .ok (.dup, 1) := dk_89 (dk_at dksX4_init_0 8 rfl rfl)
theorem dX4_init_9 : decode cX4_init 9 = .ok (.invokespecial 11, 3) := dk_183 0 11 (dk_at dksX4_init_0 9 rfl rfl)
theorem dX4_init_12 : decode cX4_init 12 = .ok (.putfield 12, 3) := dk_181 0 12 (dk_at dksX4_init_0 12 rfl rfl)
theorem dX4_init_15 : decode cX4_init 15 = .ok (.aload_n 0, 1) := dk_42 (dk_at dksX4_init_0 15 rfl rfl)
theorem dX4_init_16 : decode cX4_init 16 = .ok (.bipush 8, 2) := dk_16 8 (dk_at dksX4_init_0 16 rfl rfl)
theorem dX4_init_18 : decode cX4_init 18 = .ok (.anewarray 18, 3) := dk_189 0 18 (dk_at dksX4_init_0 18 rfl rfl)
theorem dX4_init_21 : decode cX4_init 21 = .ok (.putfield 20, 3) := dk_181 0 20 (dk_at dksX4_init_0 21 rfl rfl)
theorem dX4_init_24 : decode cX4_init 24 = .ok (.aload_n 0, 1) := dk_42 (dk_at dksX4_init_1 0 rfl rfl)
theorem dX4_init_25 : decode cX4_init 25 = .ok (.invokevirtual 24, 3) := dk_182 0 24 (dk_at dksX4_init_1 1 rfl rfl)
theorem dX4_init_28 : decode cX4_init 28 = .ok (.return_, 1) := dk_177 (dk_at dksX4_init_1 4 rfl rfl)
abbrev cX4_empty : ByteArray := prog_40_method_2_code
def yX4_empty : MethodName := ⟨RX4, "empty", "()V"⟩
def dkwX4_empty_0 : List UInt8 := [3, 60, 27, 16, 8, 162, 0, 18, 42, 180, 0, 20, 27, 178, 0, 27, 83, 132, 1, 1, 167, 255, 238, 177]
abbrev dktX4_empty_0 : List UInt8 := dkwX4_empty_0 ++ []
theorem dksX4_empty_0 : cX4_empty.data.toList.drop 0 = dktX4_empty_0 := by decide +kernel
theorem dX4_empty_0 : decode cX4_empty 0 = .ok (.iconst 0, 1) := dk_3 (dk_at dksX4_empty_0 0 rfl rfl)
theorem dX4_empty_1 : decode cX4_empty 1 = .ok (.istore_n 1, 1) := dk_60 (dk_at dksX4_empty_0 1 rfl rfl)
theorem dX4_empty_2 : decode cX4_empty 2 = .ok (.iload_n 1, 1) := dk_27 (dk_at dksX4_empty_0 2 rfl rfl)
theorem dX4_empty_3 : decode cX4_empty 3 = .ok (.bipush 8, 2) := dk_16 8 (dk_at dksX4_empty_0 3 rfl rfl)
theorem dX4_empty_5 : decode cX4_empty 5 = .ok (.if_icmp .ge 18, 3) := dk_162 0 18 (dk_at dksX4_empty_0 5 rfl rfl)
theorem dX4_empty_8 : decode cX4_empty 8 = .ok (.aload_n 0, 1) := dk_42 (dk_at dksX4_empty_0 8 rfl rfl)
theorem dX4_empty_9 : decode cX4_empty 9 = .ok (.getfield 20, 3) := dk_180 0 20 (dk_at dksX4_empty_0 9 rfl rfl)
theorem dX4_empty_12 : decode cX4_empty 12 = .ok (.iload_n 1, 1) := dk_27 (dk_at dksX4_empty_0 12 rfl rfl)
theorem dX4_empty_13 : decode cX4_empty 13 = .ok (.getstatic 27, 3) := dk_178 0 27 (dk_at dksX4_empty_0 13 rfl rfl)
theorem dX4_empty_16 : decode cX4_empty 16 = .ok (.aastore, 1) := dk_83 (dk_at dksX4_empty_0 16 rfl rfl)
theorem dX4_empty_17 : decode cX4_empty 17 = .ok (.iinc 1 1, 3) := dk_132 1 1 (dk_at dksX4_empty_0 17 rfl rfl)
theorem dX4_empty_20 : decode cX4_empty 20 = .ok (.goto (-18), 3) := dk_167 255 238 (dk_at dksX4_empty_0 20 rfl rfl)
theorem dX4_empty_23 : decode cX4_empty 23 = .ok (.return_, 1) := dk_177 (dk_at dksX4_empty_0 23 rfl rfl)
abbrev cX4_becomes : ByteArray := prog_40_method_3_code
def yX4_becomes : MethodName := ⟨RX4, "becomes", "(LBladeAlgebra$World;)V"⟩
def dkwX4_becomes_0 : List UInt8 := [42, 43, 180, 0, 12, 181, 0, 12, 43, 180, 0, 20, 3, 42, 180, 0, 20, 3, 16, 8, 184, 0, 31, 177]
abbrev dktX4_becomes_0 : List UInt8 := dkwX4_becomes_0 ++ []
theorem dksX4_becomes_0 : cX4_becomes.data.toList.drop 0 = dktX4_becomes_0 := by decide +kernel
theorem dX4_becomes_0 : decode cX4_becomes 0 = .ok (.aload_n 0, 1) := dk_42 (dk_at dksX4_becomes_0 0 rfl rfl)
theorem dX4_becomes_1 : decode cX4_becomes 1 = .ok (.aload_n 1, 1) := dk_43 (dk_at dksX4_becomes_0 1 rfl rfl)
theorem dX4_becomes_2 : decode cX4_becomes 2 = .ok (.getfield 12, 3) := dk_180 0 12 (dk_at dksX4_becomes_0 2 rfl rfl)
theorem dX4_becomes_5 : decode cX4_becomes 5 = .ok (.putfield 12, 3) := dk_181 0 12 (dk_at dksX4_becomes_0 5 rfl rfl)
theorem dX4_becomes_8 : decode cX4_becomes 8 = .ok (.aload_n 1, 1) := dk_43 (dk_at dksX4_becomes_0 8 rfl rfl)
theorem dX4_becomes_9 : decode cX4_becomes 9 = .ok (.getfield 20, 3) := dk_180 0 20 (dk_at dksX4_becomes_0 9 rfl rfl)
theorem dX4_becomes_12 : decode cX4_becomes 12 = .ok (.iconst 0, 1) := dk_3 (dk_at dksX4_becomes_0 12 rfl rfl)
theorem dX4_becomes_13 : decode cX4_becomes 13 = .ok (.aload_n 0, 1) := dk_42 (dk_at dksX4_becomes_0 13 rfl rfl)
theorem dX4_becomes_14 : decode cX4_becomes 14 = .ok (.getfield 20, 3) := dk_180 0 20 (dk_at dksX4_becomes_0 14 rfl rfl)
theorem dX4_becomes_17 : decode cX4_becomes 17 = .ok (.iconst 0, 1) := dk_3 (dk_at dksX4_becomes_0 17 rfl rfl)
theorem dX4_becomes_18 : decode cX4_becomes 18 = .ok (.bipush 8, 2) := dk_16 8 (dk_at dksX4_becomes_0 18 rfl rfl)
theorem dX4_becomes_20 : decode cX4_becomes 20 = .ok (.invokestatic 31, 3) := dk_184 0 31 (dk_at dksX4_becomes_0 20 rfl rfl)
theorem dX4_becomes_23 : decode cX4_becomes 23 = .ok (.return_, 1) := dk_177 (dk_at dksX4_becomes_0 23 rfl rfl)
theorem q100 : (Jvm.Cond.initialized "BladeAlgebra$World") ∈ lw_all := lw_g (lw_at lw_m1 5 rfl) rfl
theorem q178 : (Jvm.Cond.instantiable "BladeAlgebra$World" (2 : Nat)) ∈ lw_all := lw_g (lw_at lw_m1 83 rfl) rfl
theorem q180 : (Jvm.Cond.instanceMethod ({ cls := "BladeAlgebra$World", name := "<init>", desc := "()V" } : Jvm.MethodName)) ∈ lw_all := lw_g (lw_at lw_m1 85 rfl) rfl
theorem q181 : (Jvm.Cond.code ({ cls := "BladeAlgebra$World", name := "<init>", desc := "()V" } : Jvm.MethodName) prog_40_method_1_code (1 : Nat) (Option.none : Option Jvm.ClassFile.FieldType)) ∈ lw_all := lw_g (lw_at lw_m1 86 rfl) rfl
theorem q182 : (Jvm.Cond.methodLink "BladeAlgebra$World" (3 : Nat) ({ cls := "java/lang/Object", name := "<init>", desc := "()V" } : Jvm.MethodName)) ∈ lw_all := lw_g (lw_at lw_m1 87 rfl) rfl
theorem q183 : (Jvm.Cond.classLink "BladeAlgebra$World" (9 : Nat) "BladeAlgebra$Algebra") ∈ lw_all := lw_g (lw_at lw_m1 88 rfl) rfl
theorem q185 : (Jvm.Cond.methodLink "BladeAlgebra$World" (11 : Nat) ({ cls := "BladeAlgebra$Algebra", name := "<init>", desc := "()V" } : Jvm.MethodName)) ∈ lw_all := lw_g (lw_at lw_m1 90 rfl) rfl
theorem q231 : (Jvm.Cond.classLink "BladeAlgebra$World" (18 : Nat) "BladeAlgebra$Multi") ∈ lw_all := lw_g (lw_at lw_m1 136 rfl) rfl
theorem q233 : (Jvm.Cond.methodLink "BladeAlgebra$World" (24 : Nat) ({ cls := "BladeAlgebra$World", name := "empty", desc := "()V" } : Jvm.MethodName)) ∈ lw_all := lw_g (lw_at lw_m1 138 rfl) rfl
theorem q234 : (Jvm.Cond.instanceMethod ({ cls := "BladeAlgebra$World", name := "empty", desc := "()V" } : Jvm.MethodName)) ∈ lw_all := lw_g (lw_at lw_m1 139 rfl) rfl
theorem q235 : (Jvm.Cond.selects "BladeAlgebra$World" ({ cls := "BladeAlgebra$World", name := "empty", desc := "()V" } : Jvm.MethodName) ({ cls := "BladeAlgebra$World", name := "empty", desc := "()V" } : Jvm.MethodName)) ∈ lw_all := lw_g (lw_at lw_m1 140 rfl) rfl
theorem q236 : (Jvm.Cond.code ({ cls := "BladeAlgebra$World", name := "empty", desc := "()V" } : Jvm.MethodName) prog_40_method_2_code (2 : Nat) (Option.none : Option Jvm.ClassFile.FieldType)) ∈ lw_all := lw_g (lw_at lw_m1 141 rfl) rfl
theorem q237 : (Jvm.Cond.fieldLink "BladeAlgebra$World" (27 : Nat) "BladeAlgebra$Multi" "ZERO" "LBladeAlgebra$Multi;") ∈ lw_all := lw_g (lw_at lw_m1 142 rfl) rfl
theorem q239 : (Jvm.Cond.fieldLink "BladeAlgebra$World" (12 : Nat) "BladeAlgebra$World" "algebra" "LBladeAlgebra$Algebra;") ∈ lw_all := lw_g (lw_at lw_m1 144 rfl) rfl
theorem q242 : (Jvm.Cond.fieldLink "BladeAlgebra$World" (20 : Nat) "BladeAlgebra$World" "register" "[LBladeAlgebra$Multi;") ∈ lw_all := lw_g (lw_at lw_m1 147 rfl) rfl
theorem q245 : (Jvm.Cond.lays "BladeAlgebra$World" "BladeAlgebra$World" "algebra" "LBladeAlgebra$Algebra;") ∈ lw_all := lw_g (lw_at lw_m1 150 rfl) rfl
theorem q246 : (Jvm.Cond.soleField "BladeAlgebra$World" "algebra") ∈ lw_all := lw_g (lw_at lw_m1 151 rfl) rfl
theorem q247 : (Jvm.Cond.laysFinal "BladeAlgebra$World" "BladeAlgebra$World" "register" "[LBladeAlgebra$Multi;") ∈ lw_all := lw_g (lw_at lw_m1 152 rfl) rfl
theorem q248 : (Jvm.Cond.soleField "BladeAlgebra$World" "register") ∈ lw_all := lw_g (lw_at lw_m1 153 rfl) rfl
theorem q249 : (Jvm.Cond.superclass "BladeAlgebra$World" "java/lang/Object") ∈ lw_all := lw_g (lw_at lw_m1 154 rfl) rfl
theorem q1686 : (Jvm.Cond.selects "BladeAlgebra$World" ({ cls := "java/lang/Object", name := "getClass", desc := "()Ljava/lang/Class;" } : Jvm.MethodName) ({ cls := "java/lang/Object", name := "getClass", desc := "()Ljava/lang/Class;" } : Jvm.MethodName)) ∈ lw_all := lw_g (lw_at lw_m7 151 rfl) rfl
theorem q1989 : (Jvm.Cond.instanceMethod ({ cls := "BladeAlgebra$World", name := "becomes", desc := "(LBladeAlgebra$World;)V" } : Jvm.MethodName)) ∈ lw_all := lw_g (lw_at lw_m8 214 rfl) rfl
theorem q1990 : (Jvm.Cond.selects "BladeAlgebra$World" ({ cls := "BladeAlgebra$World", name := "becomes", desc := "(LBladeAlgebra$World;)V" } : Jvm.MethodName) ({ cls := "BladeAlgebra$World", name := "becomes", desc := "(LBladeAlgebra$World;)V" } : Jvm.MethodName)) ∈ lw_all := lw_g (lw_at lw_m8 215 rfl) rfl
theorem q1991 : (Jvm.Cond.code ({ cls := "BladeAlgebra$World", name := "becomes", desc := "(LBladeAlgebra$World;)V" } : Jvm.MethodName) prog_40_method_3_code (2 : Nat) (Option.none : Option Jvm.ClassFile.FieldType)) ∈ lw_all := lw_g (lw_at lw_m8 216 rfl) rfl
theorem q1992 : (Jvm.Cond.methodLink "BladeAlgebra$World" (31 : Nat) ({ cls := "java/lang/System", name := "arraycopy", desc := "(Ljava/lang/Object;ILjava/lang/Object;II)V" } : Jvm.MethodName)) ∈ lw_all := lw_g (lw_at lw_m8 217 rfl) rfl
theorem q2574 : (Jvm.Cond.castable "BladeAlgebra$World" "java/lang/Object") ∈ lw_tbl := lw_at lw_m11 79 rfl
theorem in_X4 : ∀ w ∈ wsX40, w ∈ lw_all := lw_in wsX40 [245, 247] (by decide +kernel) (by decide +kernel)
/-! BladeAlgebra$Algebra -/
set_option maxRecDepth 100000
def RX5 : String := "BladeAlgebra$Algebra"
def TX5 : u_T := fun k => match k with
  | 0 => ("BladeAlgebra$Algebra", "p", "I", true)
  | 1 => ("BladeAlgebra$Algebra", "q", "I", true)
  | 2 => ("BladeAlgebra$Algebra", "r", "I", true)
  | 3 => ("BladeAlgebra$Algebra", "n", "I", true)
  | 4 => ("BladeAlgebra$Algebra", "last", "I", true)
  | _ => ("BladeAlgebra$Algebra", "sign", "[[I", true)
def tyX5 : Nat → FieldType := fun k => match k with
  | 0 => .int
  | 1 => .int
  | 2 => .int
  | 3 => .int
  | 4 => .int
  | _ => .array (.array .int)
abbrev wsX50 : List Cond := u_ws RX5 TX5 6
theorem nmX5 : ∀ a, a < 6 → ∀ b, b < 6 → a ≠ b → (TX5 a).2.1 ≠ (TX5 b).2.1 := by decide +kernel
theorem tyX5_ok : ∀ k, k < 6 → parseFieldDescriptor (TX5 k).2.2.1 = some (tyX5 k) := by decide +kernel
abbrev cX5_init : ByteArray := prog_2_method_1_code
def yX5_init : MethodName := ⟨RX5, "<init>", "()V"⟩
def dkwX5_init_0 : List UInt8 := [42, 6, 3, 3, 183, 0, 3, 177]
abbrev dktX5_init_0 : List UInt8 := dkwX5_init_0 ++ []
theorem dksX5_init_0 : cX5_init.data.toList.drop 0 = dktX5_init_0 := by decide +kernel
theorem dX5_init_0 : decode cX5_init 0 = .ok (.aload_n 0, 1) := dk_42 (dk_at dksX5_init_0 0 rfl rfl)
theorem dX5_init_1 : decode cX5_init 1 = .ok (.iconst 3, 1) := dk_6 (dk_at dksX5_init_0 1 rfl rfl)
theorem dX5_init_2 : decode cX5_init 2 = .ok (.iconst 0, 1) := dk_3 (dk_at dksX5_init_0 2 rfl rfl)
theorem dX5_init_3 : decode cX5_init 3 = .ok (.iconst 0, 1) := dk_3 (dk_at dksX5_init_0 3 rfl rfl)
theorem dX5_init_4 : decode cX5_init 4 = .ok (.invokespecial 3, 3) := dk_183 0 3 (dk_at dksX5_init_0 4 rfl rfl)
theorem dX5_init_7 : decode cX5_init 7 = .ok (.return_, 1) := dk_177 (dk_at dksX5_init_0 7 rfl rfl)
abbrev cX5_init_2 : ByteArray := prog_2_method_2_code
def yX5_init_2 : MethodName := ⟨RX5, "<init>", "(III)V"⟩
def dkwX5_init_2_4 : List UInt8 := [132, 5, 1, 167, 255, 226, 132, 4, 1, 167, 255, 208, 177]
abbrev dktX5_init_2_4 : List UInt8 := dkwX5_init_2_4 ++ []
def dkwX5_init_2_3 : List UInt8 := [180, 0, 32, 163, 0, 27, 42, 180, 0, 16, 21, 4, 50, 21, 5, 42, 21, 4, 21, 5, 182, 0, 35, 79]
abbrev dktX5_init_2_3 : List UInt8 := dkwX5_init_2_3 ++ dktX5_init_2_4
def dkwX5_init_2_2 : List UInt8 := [4, 100, 181, 0, 32, 3, 54, 4, 21, 4, 42, 180, 0, 32, 163, 0, 45, 3, 54, 5, 21, 5, 42]
abbrev dktX5_init_2_2 : List UInt8 := dkwX5_init_2_2 ++ dktX5_init_2_3
def dkwX5_init_2_1 : List UInt8 := [181, 0, 23, 42, 29, 181, 0, 26, 42, 27, 28, 96, 29, 96, 181, 0, 29, 42, 4, 42, 180, 0, 29, 120]
abbrev dktX5_init_2_1 : List UInt8 := dkwX5_init_2_1 ++ dktX5_init_2_2
def dkwX5_init_2_0 : List UInt8 := [42, 183, 0, 9, 42, 16, 32, 16, 32, 197, 0, 14, 2, 181, 0, 16, 42, 27, 181, 0, 19, 42, 28]
abbrev dktX5_init_2_0 : List UInt8 := dkwX5_init_2_0 ++ dktX5_init_2_1
theorem dksX5_init_2_0 : cX5_init_2.data.toList.drop 0 = dktX5_init_2_0 := by decide +kernel
theorem dksX5_init_2_1 : cX5_init_2.data.toList.drop 23 = dktX5_init_2_1 := dk_seg dksX5_init_2_0 23 rfl rfl
theorem dksX5_init_2_2 : cX5_init_2.data.toList.drop 47 = dktX5_init_2_2 := dk_seg dksX5_init_2_1 24 rfl rfl
theorem dksX5_init_2_3 : cX5_init_2.data.toList.drop 70 = dktX5_init_2_3 := dk_seg dksX5_init_2_2 23 rfl rfl
theorem dksX5_init_2_4 : cX5_init_2.data.toList.drop 94 = dktX5_init_2_4 := dk_seg dksX5_init_2_3 24 rfl rfl
theorem dX5_init_2_0 : decode cX5_init_2 0 = .ok (.aload_n 0, 1) := dk_42 (dk_at dksX5_init_2_0 0 rfl rfl)
theorem dX5_init_2_1 : decode cX5_init_2 1 = .ok (.invokespecial 9, 3) := dk_183 0 9 (dk_at dksX5_init_2_0 1 rfl rfl)
theorem dX5_init_2_4 : decode cX5_init_2 4 = .ok (.aload_n 0, 1) := dk_42 (dk_at dksX5_init_2_0 4 rfl rfl)
theorem dX5_init_2_5 : decode cX5_init_2 5 = .ok (.bipush 32, 2) := dk_16 32 (dk_at dksX5_init_2_0 5 rfl rfl)
theorem dX5_init_2_7 : decode cX5_init_2 7 = .ok (.bipush 32, 2) := dk_16 32 (dk_at dksX5_init_2_0 7 rfl rfl)
theorem dX5_init_2_9 : decode cX5_init_2 9 = .ok (.multianewarray 14 2, 4) := by decide +kernel
theorem dX5_init_2_13 : decode cX5_init_2 13 = .ok (.putfield 16, 3) := dk_181 0 16 (dk_at dksX5_init_2_0 13 rfl rfl)
theorem dX5_init_2_16 : decode cX5_init_2 16 = .ok (.aload_n 0, 1) := dk_42 (dk_at dksX5_init_2_0 16 rfl rfl)
theorem dX5_init_2_17 : decode cX5_init_2 17 = .ok (.iload_n 1, 1) := dk_27 (dk_at dksX5_init_2_0 17 rfl rfl)
theorem dX5_init_2_18 : decode cX5_init_2 18 = .ok (.putfield 19, 3) := dk_181 0 19 (dk_at dksX5_init_2_0 18 rfl rfl)
theorem dX5_init_2_21 : decode cX5_init_2 21 = .ok (.aload_n 0, 1) := dk_42 (dk_at dksX5_init_2_0 21 rfl rfl)
theorem dX5_init_2_22 : decode cX5_init_2 22 = .ok (.iload_n 2, 1) := dk_28 (dk_at dksX5_init_2_0 22 rfl rfl)
theorem dX5_init_2_23 : decode cX5_init_2 23 = .ok (.putfield 23, 3) := dk_181 0 23 (dk_at dksX5_init_2_1 0 rfl rfl)
theorem dX5_init_2_26 : decode cX5_init_2 26 = .ok (.aload_n 0, 1) := dk_42 (dk_at dksX5_init_2_1 3 rfl rfl)
theorem dX5_init_2_27 : decode cX5_init_2 27 = .ok (.iload_n 3, 1) := dk_29 (dk_at dksX5_init_2_1 4 rfl rfl)
theorem dX5_init_2_28 : decode cX5_init_2 28 = .ok (.putfield 26, 3) := dk_181 0 26 (dk_at dksX5_init_2_1 5 rfl rfl)
theorem dX5_init_2_31 : decode cX5_init_2 31 = .ok (.aload_n 0, 1) := dk_42 (dk_at dksX5_init_2_1 8 rfl rfl)
theorem dX5_init_2_32 : decode cX5_init_2 32 = .ok (.iload_n 1, 1) := dk_27 (dk_at dksX5_init_2_1 9 rfl rfl)
theorem dX5_init_2_33 : decode cX5_init_2 33 = .ok (.iload_n 2, 1) := dk_28 (dk_at dksX5_init_2_1 10 rfl rfl)
theorem dX5_init_2_34 : decode cX5_init_2 34 = .ok (.iadd, 1) := dk_96 (dk_at dksX5_init_2_1 11 rfl rfl)
theorem dX5_init_2_35 : decode cX5_init_2 35 = .ok (.iload_n 3, 1) := dk_29 (dk_at dksX5_init_2_1 12 rfl rfl)
theorem dX5_init_2_36 : decode cX5_init_2 36 = .ok (.iadd, 1) := dk_96 (dk_at dksX5_init_2_1 13 rfl rfl)
theorem dX5_init_2_37 : decode cX5_init_2 37 = .ok (.putfield 29, 3) := dk_181 0 29 (dk_at dksX5_init_2_1 14 rfl rfl)
theorem dX5_init_2_40 : decode cX5_init_2 40 = .ok (.aload_n 0, 1) := dk_42 (dk_at dksX5_init_2_1 17 rfl rfl)
theorem dX5_init_2_41 : decode cX5_init_2 41 = .ok (.iconst 1, 1) := dk_4 (dk_at dksX5_init_2_1 18 rfl rfl)
theorem dX5_init_2_42 : decode cX5_init_2 42 = .ok (.aload_n 0, 1) := dk_42 (dk_at dksX5_init_2_1 19 rfl rfl)
theorem dX5_init_2_43 : decode cX5_init_2 43 = .ok (.getfield 29, 3) := dk_180 0 29 (dk_at dksX5_init_2_1 20 rfl rfl)
theorem dX5_init_2_46 : decode cX5_init_2 46 = .ok (.ishl, 1) := dk_120 (dk_at dksX5_init_2_1 23 rfl rfl)
theorem dX5_init_2_47 : decode cX5_init_2 47 = .ok (.iconst 1, 1) := dk_4 (dk_at dksX5_init_2_2 0 rfl rfl)
theorem dX5_init_2_48 : decode cX5_init_2 48 = .ok (.isub, 1) := dk_100 (dk_at dksX5_init_2_2 1 rfl rfl)
theorem dX5_init_2_49 : decode cX5_init_2 49 = .ok (.putfield 32, 3) := dk_181 0 32 (dk_at dksX5_init_2_2 2 rfl rfl)
theorem dX5_init_2_52 : decode cX5_init_2 52 = .ok (.iconst 0, 1) := dk_3 (dk_at dksX5_init_2_2 5 rfl rfl)
theorem dX5_init_2_53 : decode cX5_init_2 53 = .ok (.istore 4, 2) := dk_54 4 (dk_at dksX5_init_2_2 6 rfl rfl)
theorem dX5_init_2_55 : decode cX5_init_2 55 = .ok (.iload 4, 2) := dk_21 4 (dk_at dksX5_init_2_2 8 rfl rfl)
theorem dX5_init_2_57 : decode cX5_init_2 57 = .ok (.aload_n 0, 1) := dk_42 (dk_at dksX5_init_2_2 10 rfl rfl)
theorem dX5_init_2_58 : decode cX5_init_2 58 = .ok (.getfield 32, 3) := dk_180 0 32 (dk_at dksX5_init_2_2 11 rfl rfl)
theorem dX5_init_2_61 : decode cX5_init_2 61 = .ok (.if_icmp .gt 45, 3) := dk_163 0 45 (dk_at dksX5_init_2_2 14 rfl rfl)
theorem dX5_init_2_64 : decode cX5_init_2 64 = .ok (.iconst 0, 1) := dk_3 (dk_at dksX5_init_2_2 17 rfl rfl)
theorem dX5_init_2_65 : decode cX5_init_2 65 = .ok (.istore 5, 2) := dk_54 5 (dk_at dksX5_init_2_2 18 rfl rfl)
theorem dX5_init_2_67 : decode cX5_init_2 67 = .ok (.iload 5, 2) := dk_21 5 (dk_at dksX5_init_2_2 20 rfl rfl)
theorem dX5_init_2_69 : decode cX5_init_2 69 = .ok (.aload_n 0, 1) := dk_42 (dk_at dksX5_init_2_2 22 rfl rfl)
theorem dX5_init_2_70 : decode cX5_init_2 70 = .ok (.getfield 32, 3) := dk_180 0 32 (dk_at dksX5_init_2_3 0 rfl rfl)
theorem dX5_init_2_73 : decode cX5_init_2 73 = .ok (.if_icmp .gt 27, 3) := dk_163 0 27 (dk_at dksX5_init_2_3 3 rfl rfl)
theorem dX5_init_2_76 : decode cX5_init_2 76 = .ok (.aload_n 0, 1) := dk_42 (dk_at dksX5_init_2_3 6 rfl rfl)
theorem dX5_init_2_77 : decode cX5_init_2 77 = .ok (.getfield 16, 3) := dk_180 0 16 (dk_at dksX5_init_2_3 7 rfl rfl)
theorem dX5_init_2_80 : decode cX5_init_2 80 = .ok (.iload 4, 2) := dk_21 4 (dk_at dksX5_init_2_3 10 rfl rfl)
theorem dX5_init_2_82 : decode cX5_init_2 82 = .ok (.aaload, 1) := dk_50 (dk_at dksX5_init_2_3 12 rfl rfl)
theorem dX5_init_2_83 : decode cX5_init_2 83 = .ok (.iload 5, 2) := dk_21 5 (dk_at dksX5_init_2_3 13 rfl rfl)
theorem dX5_init_2_85 : decode cX5_init_2 85 = .ok (.aload_n 0, 1) := dk_42 (dk_at dksX5_init_2_3 15 rfl rfl)
theorem dX5_init_2_86 : decode cX5_init_2 86 = .ok (.iload 4, 2) := dk_21 4 (dk_at dksX5_init_2_3 16 rfl rfl)
theorem dX5_init_2_88 : decode cX5_init_2 88 = .ok (.iload 5, 2) := dk_21 5 (dk_at dksX5_init_2_3 18 rfl rfl)
theorem dX5_init_2_90 : decode cX5_init_2 90 = .ok (.invokevirtual 35, 3) := dk_182 0 35 (dk_at dksX5_init_2_3 20 rfl rfl)
theorem dX5_init_2_93 : decode cX5_init_2 93 = .ok (.iastore, 1) := dk_79 (dk_at dksX5_init_2_3 23 rfl rfl)
theorem dX5_init_2_94 : decode cX5_init_2 94 = .ok (.iinc 5 1, 3) := dk_132 5 1 (dk_at dksX5_init_2_4 0 rfl rfl)
theorem dX5_init_2_97 : decode cX5_init_2 97 = .ok (.goto (-30), 3) := dk_167 255 226 (dk_at dksX5_init_2_4 3 rfl rfl)
theorem dX5_init_2_100 : decode cX5_init_2 100 = .ok (.iinc 4 1, 3) := dk_132 4 1 (dk_at dksX5_init_2_4 6 rfl rfl)
theorem dX5_init_2_103 : decode cX5_init_2 103 = .ok (.goto (-48), 3) := dk_167 255 208 (dk_at dksX5_init_2_4 9 rfl rfl)
theorem dX5_init_2_106 : decode cX5_init_2 106 = .ok (.return_, 1) := dk_177 (dk_at dksX5_init_2_4 12 rfl rfl)
abbrev cX5_signOf : ByteArray := prog_2_method_3_code
def yX5_signOf : MethodName := ⟨RX5, "signOf", "(II)I"⟩
def dkwX5_signOf_4 : List UInt8 := [167, 255, 172, 29, 5, 112, 154, 0, 8, 21, 4, 167, 0, 6, 21, 4, 116, 172]
abbrev dktX5_signOf_4 : List UInt8 := dkwX5_signOf_4 ++ []
def dkwX5_signOf_3 : List UInt8 := [180, 0, 19, 42, 180, 0, 23, 96, 162, 0, 7, 2, 167, 0, 4, 3, 104, 54, 4, 132, 5, 1]
abbrev dktX5_signOf_3 : List UInt8 := dkwX5_signOf_3 ++ dktX5_signOf_4
def dkwX5_signOf_2 : List UInt8 := [126, 4, 160, 0, 40, 21, 4, 21, 5, 42, 180, 0, 19, 162, 0, 7, 4, 167, 0, 22, 21, 5, 42]
abbrev dktX5_signOf_2 : List UInt8 := dkwX5_signOf_2 ++ dktX5_signOf_3
def dkwX5_signOf_1 : List UInt8 := [154, 0, 6, 167, 0, 63, 29, 178, 0, 39, 27, 21, 5, 4, 96, 122, 46, 96, 62, 27, 21, 5, 122, 4]
abbrev dktX5_signOf_1 : List UInt8 := dkwX5_signOf_1 ++ dktX5_signOf_2
def dkwX5_signOf_0 : List UInt8 := [3, 62, 4, 54, 4, 3, 54, 5, 21, 5, 42, 180, 0, 29, 162, 0, 81, 28, 21, 5, 122, 4, 126]
abbrev dktX5_signOf_0 : List UInt8 := dkwX5_signOf_0 ++ dktX5_signOf_1
theorem dksX5_signOf_0 : cX5_signOf.data.toList.drop 0 = dktX5_signOf_0 := by decide +kernel
theorem dksX5_signOf_1 : cX5_signOf.data.toList.drop 23 = dktX5_signOf_1 := dk_seg dksX5_signOf_0 23 rfl rfl
theorem dksX5_signOf_2 : cX5_signOf.data.toList.drop 47 = dktX5_signOf_2 := dk_seg dksX5_signOf_1 24 rfl rfl
theorem dksX5_signOf_3 : cX5_signOf.data.toList.drop 70 = dktX5_signOf_3 := dk_seg dksX5_signOf_2 23 rfl rfl
theorem dksX5_signOf_4 : cX5_signOf.data.toList.drop 92 = dktX5_signOf_4 := dk_seg dksX5_signOf_3 22 rfl rfl
theorem dX5_signOf_0 : decode cX5_signOf 0 = .ok (.iconst 0, 1) := dk_3 (dk_at dksX5_signOf_0 0 rfl rfl)
theorem dX5_signOf_1 : decode cX5_signOf 1 = .ok (.istore_n 3, 1) := dk_62 (dk_at dksX5_signOf_0 1 rfl rfl)
theorem dX5_signOf_2 : decode cX5_signOf 2 = .ok (.iconst 1, 1) := dk_4 (dk_at dksX5_signOf_0 2 rfl rfl)
theorem dX5_signOf_3 : decode cX5_signOf 3 = .ok (.istore 4, 2) := dk_54 4 (dk_at dksX5_signOf_0 3 rfl rfl)
theorem dX5_signOf_5 : decode cX5_signOf 5 = .ok (.iconst 0, 1) := dk_3 (dk_at dksX5_signOf_0 5 rfl rfl)
theorem dX5_signOf_6 : decode cX5_signOf 6 = .ok (.istore 5, 2) := dk_54 5 (dk_at dksX5_signOf_0 6 rfl rfl)
theorem dX5_signOf_8 : decode cX5_signOf 8 = .ok (.iload 5, 2) := dk_21 5 (dk_at dksX5_signOf_0 8 rfl rfl)
theorem dX5_signOf_10 : decode cX5_signOf 10 = .ok (.aload_n 0, 1) := dk_42 (dk_at dksX5_signOf_0 10 rfl rfl)
theorem dX5_signOf_11 : decode cX5_signOf 11 = .ok (.getfield 29, 3) := dk_180 0 29 (dk_at dksX5_signOf_0 11 rfl rfl)
theorem dX5_signOf_14 : decode cX5_signOf 14 = .ok (.if_icmp .ge 81, 3) := dk_162 0 81 (dk_at dksX5_signOf_0 14 rfl rfl)
theorem dX5_signOf_17 : decode cX5_signOf 17 = .ok (.iload_n 2, 1) := dk_28 (dk_at dksX5_signOf_0 17 rfl rfl)
theorem dX5_signOf_18 : decode cX5_signOf 18 = .ok (.iload 5, 2) := dk_21 5 (dk_at dksX5_signOf_0 18 rfl rfl)
theorem dX5_signOf_20 : decode cX5_signOf 20 = .ok (.ishr, 1) := dk_122 (dk_at dksX5_signOf_0 20 rfl rfl)
theorem dX5_signOf_21 : decode cX5_signOf 21 = .ok (.iconst 1, 1) := dk_4 (dk_at dksX5_signOf_0 21 rfl rfl)
theorem dX5_signOf_22 : decode cX5_signOf 22 = .ok (.iand, 1) := dk_126 (dk_at dksX5_signOf_0 22 rfl rfl)
theorem dX5_signOf_23 : decode cX5_signOf 23 = .ok (.ifCond .ne 6, 3) := dk_154 0 6 (dk_at dksX5_signOf_1 0 rfl rfl)
theorem dX5_signOf_26 : decode cX5_signOf 26 = .ok (.goto 63, 3) := dk_167 0 63 (dk_at dksX5_signOf_1 3 rfl rfl)
theorem dX5_signOf_29 : decode cX5_signOf 29 = .ok (.iload_n 3, 1) := dk_29 (dk_at dksX5_signOf_1 6 rfl rfl)
theorem dX5_signOf_30 : decode cX5_signOf 30 = .ok (.getstatic 39, 3) := dk_178 0 39 (dk_at dksX5_signOf_1 7 rfl rfl)
theorem dX5_signOf_33 : decode cX5_signOf 33 = .ok (.iload_n 1, 1) := dk_27 (dk_at dksX5_signOf_1 10 rfl rfl)
theorem dX5_signOf_34 : decode cX5_signOf 34 = .ok (.iload 5, 2) := dk_21 5 (dk_at dksX5_signOf_1 11 rfl rfl)
theorem dX5_signOf_36 : decode cX5_signOf 36 = .ok (.iconst 1, 1) := dk_4 (dk_at dksX5_signOf_1 13 rfl rfl)
theorem dX5_signOf_37 : decode cX5_signOf 37 = .ok (.iadd, 1) := dk_96 (dk_at dksX5_signOf_1 14 rfl rfl)
theorem dX5_signOf_38 : decode cX5_signOf 38 = .ok (.ishr, 1) := dk_122 (dk_at dksX5_signOf_1 15 rfl rfl)
theorem dX5_signOf_39 : decode cX5_signOf 39 = .ok (.iaload, 1) := dk_46 (dk_at dksX5_signOf_1 16 rfl rfl)
theorem dX5_signOf_40 : decode cX5_signOf 40 = .ok (.iadd, 1) := dk_96 (dk_at dksX5_signOf_1 17 rfl rfl)
theorem dX5_signOf_41 : decode cX5_signOf 41 = .ok (.istore_n 3, 1) := dk_62 (dk_at dksX5_signOf_1 18 rfl rfl)
theorem dX5_signOf_42 : decode cX5_signOf 42 = .ok (.iload_n 1, 1) := dk_27 (dk_at dksX5_signOf_1 19 rfl rfl)
theorem dX5_signOf_43 : decode cX5_signOf 43 = .ok (.iload 5, 2) := dk_21 5 (dk_at dksX5_signOf_1 20 rfl rfl)
theorem dX5_signOf_45 : decode cX5_signOf 45 = .ok (.ishr, 1) := dk_122 (dk_at dksX5_signOf_1 22 rfl rfl)
theorem dX5_signOf_46 : decode cX5_signOf 46 = .ok (.iconst 1, 1) := dk_4 (dk_at dksX5_signOf_1 23 rfl rfl)
theorem dX5_signOf_47 : decode cX5_signOf 47 = .ok (.iand, 1) := dk_126 (dk_at dksX5_signOf_2 0 rfl rfl)
theorem dX5_signOf_48 : decode cX5_signOf 48 = .ok (.iconst 1, 1) := dk_4 (dk_at dksX5_signOf_2 1 rfl rfl)
theorem dX5_signOf_49 : decode cX5_signOf 49 = .ok (.if_icmp .ne 40, 3) := dk_160 0 40 (dk_at dksX5_signOf_2 2 rfl rfl)
theorem dX5_signOf_52 : decode cX5_signOf 52 = .ok (.iload 4, 2) := dk_21 4 (dk_at dksX5_signOf_2 5 rfl rfl)
theorem dX5_signOf_54 : decode cX5_signOf 54 = .ok (.iload 5, 2) := dk_21 5 (dk_at dksX5_signOf_2 7 rfl rfl)
theorem dX5_signOf_56 : decode cX5_signOf 56 = .ok (.aload_n 0, 1) := dk_42 (dk_at dksX5_signOf_2 9 rfl rfl)
theorem dX5_signOf_57 : decode cX5_signOf 57 = .ok (.getfield 19, 3) := dk_180 0 19 (dk_at dksX5_signOf_2 10 rfl rfl)
theorem dX5_signOf_60 : decode cX5_signOf 60 = .ok (.if_icmp .ge 7, 3) := dk_162 0 7 (dk_at dksX5_signOf_2 13 rfl rfl)
theorem dX5_signOf_63 : decode cX5_signOf 63 = .ok (.iconst 1, 1) := dk_4 (dk_at dksX5_signOf_2 16 rfl rfl)
theorem dX5_signOf_64 : decode cX5_signOf 64 = .ok (.goto 22, 3) := dk_167 0 22 (dk_at dksX5_signOf_2 17 rfl rfl)
theorem dX5_signOf_67 : decode cX5_signOf 67 = .ok (.iload 5, 2) := dk_21 5 (dk_at dksX5_signOf_2 20 rfl rfl)
theorem dX5_signOf_69 : decode cX5_signOf 69 = .ok (.aload_n 0, 1) := dk_42 (dk_at dksX5_signOf_2 22 rfl rfl)
theorem dX5_signOf_70 : decode cX5_signOf 70 = .ok (.getfield 19, 3) := dk_180 0 19 (dk_at dksX5_signOf_3 0 rfl rfl)
theorem dX5_signOf_73 : decode cX5_signOf 73 = .ok (.aload_n 0, 1) := dk_42 (dk_at dksX5_signOf_3 3 rfl rfl)
theorem dX5_signOf_74 : decode cX5_signOf 74 = .ok (.getfield 23, 3) := dk_180 0 23 (dk_at dksX5_signOf_3 4 rfl rfl)
theorem dX5_signOf_77 : decode cX5_signOf 77 = .ok (.iadd, 1) := dk_96 (dk_at dksX5_signOf_3 7 rfl rfl)
theorem dX5_signOf_78 : decode cX5_signOf 78 = .ok (.if_icmp .ge 7, 3) := dk_162 0 7 (dk_at dksX5_signOf_3 8 rfl rfl)
theorem dX5_signOf_81 : decode cX5_signOf 81 = .ok (.iconst (-1), 1) := dk_2 (dk_at dksX5_signOf_3 11 rfl rfl)
theorem dX5_signOf_82 : decode cX5_signOf 82 = .ok (.goto 4, 3) := dk_167 0 4 (dk_at dksX5_signOf_3 12 rfl rfl)
theorem dX5_signOf_85 : decode cX5_signOf 85 = .ok (.iconst 0, 1) := dk_3 (dk_at dksX5_signOf_3 15 rfl rfl)
theorem dX5_signOf_86 : decode cX5_signOf 86 = .ok (.imul, 1) := dk_104 (dk_at dksX5_signOf_3 16 rfl rfl)
theorem dX5_signOf_87 : decode cX5_signOf 87 = .ok (.istore 4, 2) := dk_54 4 (dk_at dksX5_signOf_3 17 rfl rfl)
theorem dX5_signOf_89 : decode cX5_signOf 89 = .ok (.iinc 5 1, 3) := dk_132 5 1 (dk_at dksX5_signOf_3 19 rfl rfl)
theorem dX5_signOf_92 : decode cX5_signOf 92 = .ok (.goto (-84), 3) := dk_167 255 172 (dk_at dksX5_signOf_4 0 rfl rfl)
theorem dX5_signOf_95 : decode cX5_signOf 95 = .ok (.iload_n 3, 1) := dk_29 (dk_at dksX5_signOf_4 3 rfl rfl)
theorem dX5_signOf_96 : decode cX5_signOf 96 = .ok (.iconst 2, 1) := dk_5 (dk_at dksX5_signOf_4 4 rfl rfl)
theorem dX5_signOf_97 : decode cX5_signOf 97 = .ok (.irem, 1) := dk_112 (dk_at dksX5_signOf_4 5 rfl rfl)
theorem dX5_signOf_98 : decode cX5_signOf 98 = .ok (.ifCond .ne 8, 3) := dk_154 0 8 (dk_at dksX5_signOf_4 6 rfl rfl)
theorem dX5_signOf_101 : decode cX5_signOf 101 = .ok (.iload 4, 2) := dk_21 4 (dk_at dksX5_signOf_4 9 rfl rfl)
theorem dX5_signOf_103 : decode cX5_signOf 103 = .ok (.goto 6, 3) := dk_167 0 6 (dk_at dksX5_signOf_4 11 rfl rfl)
theorem dX5_signOf_106 : decode cX5_signOf 106 = .ok (.iload 4, 2) := dk_21 4 (dk_at dksX5_signOf_4 14 rfl rfl)
theorem dX5_signOf_108 : decode cX5_signOf 108 = .ok (.ineg, 1) := dk_116 (dk_at dksX5_signOf_4 16 rfl rfl)
theorem dX5_signOf_109 : decode cX5_signOf 109 = .ok (.ireturn, 1) := dk_172 (dk_at dksX5_signOf_4 17 rfl rfl)
abbrev cX5_isBlade : ByteArray := prog_2_method_4_code
def yX5_isBlade : MethodName := ⟨RX5, "isBlade", "(I)Z"⟩
def dkwX5_isBlade_0 : List UInt8 := [27, 133, 9, 42, 180, 0, 32, 133, 184, 0, 43, 172]
abbrev dktX5_isBlade_0 : List UInt8 := dkwX5_isBlade_0 ++ []
theorem dksX5_isBlade_0 : cX5_isBlade.data.toList.drop 0 = dktX5_isBlade_0 := by decide +kernel
theorem dX5_isBlade_0 : decode cX5_isBlade 0 = .ok (.iload_n 1, 1) := dk_27 (dk_at dksX5_isBlade_0 0 rfl rfl)
theorem dX5_isBlade_1 : decode cX5_isBlade 1 = .ok (.i2l, 1) := dk_133 (dk_at dksX5_isBlade_0 1 rfl rfl)
theorem dX5_isBlade_2 : decode cX5_isBlade 2 = .ok (.lconst 0, 1) := dk_9 (dk_at dksX5_isBlade_0 2 rfl rfl)
theorem dX5_isBlade_3 : decode cX5_isBlade 3 = .ok (.aload_n 0, 1) := dk_42 (dk_at dksX5_isBlade_0 3 rfl rfl)
theorem dX5_isBlade_4 : decode cX5_isBlade 4 = .ok (.getfield 32, 3) := dk_180 0 32 (dk_at dksX5_isBlade_0 4 rfl rfl)
theorem dX5_isBlade_7 : decode cX5_isBlade 7 = .ok (.i2l, 1) := dk_133 (dk_at dksX5_isBlade_0 7 rfl rfl)
theorem dX5_isBlade_8 : decode cX5_isBlade 8 = .ok (.invokestatic 43, 3) := dk_184 0 43 (dk_at dksX5_isBlade_0 8 rfl rfl)
theorem dX5_isBlade_11 : decode cX5_isBlade 11 = .ok (.ireturn, 1) := dk_172 (dk_at dksX5_isBlade_0 11 rfl rfl)
abbrev cX5_product : ByteArray := prog_2_method_6_code
def yX5_product : MethodName := ⟨RX5, "product", "(LBladeAlgebra$Multi;LBladeAlgebra$Multi;)LBladeAlgebra$Multi;"⟩
def dkwX5_product_0 : List UInt8 := [42, 43, 44, 178, 0, 67, 182, 0, 71, 176]
abbrev dktX5_product_0 : List UInt8 := dkwX5_product_0 ++ []
theorem dksX5_product_0 : cX5_product.data.toList.drop 0 = dktX5_product_0 := by decide +kernel
theorem dX5_product_0 : decode cX5_product 0 = .ok (.aload_n 0, 1) := dk_42 (dk_at dksX5_product_0 0 rfl rfl)
theorem dX5_product_1 : decode cX5_product 1 = .ok (.aload_n 1, 1) := dk_43 (dk_at dksX5_product_0 1 rfl rfl)
theorem dX5_product_2 : decode cX5_product 2 = .ok (.aload_n 2, 1) := dk_44 (dk_at dksX5_product_0 2 rfl rfl)
theorem dX5_product_3 : decode cX5_product 3 = .ok (.getstatic 67, 3) := dk_178 0 67 (dk_at dksX5_product_0 3 rfl rfl)
theorem dX5_product_6 : decode cX5_product 6 = .ok (.invokevirtual 71, 3) := dk_182 0 71 (dk_at dksX5_product_0 6 rfl rfl)
theorem dX5_product_9 : decode cX5_product 9 = .ok (.areturn, 1) := dk_176 (dk_at dksX5_product_0 9 rfl rfl)
abbrev cX5_product_2 : ByteArray := prog_2_method_5_code
def yX5_product_2 : MethodName := ⟨RX5, "product", "(LBladeAlgebra$Multi;LBladeAlgebra$Multi;LBladeAlgebra$Product;)LBladeAlgebra$Multi;"⟩
def dkwX5_product_2_5 : List UInt8 := [132, 5, 1, 167, 255, 145, 25, 4, 43, 180, 0, 59, 44, 180, 0, 59, 105, 184, 0, 63, 176]
abbrev dktX5_product_2_5 : List UInt8 := dkwX5_product_2_5 ++ []
def dkwX5_product_2_4 : List UInt8 := [180, 0, 47, 21, 5, 47, 105, 44, 180, 0, 47, 21, 6, 47, 105, 97, 80, 132, 6, 1, 167, 255, 178]
abbrev dktX5_product_2_4 : List UInt8 := dkwX5_product_2_4 ++ dktX5_product_2_5
def dkwX5_product_2_3 : List UInt8 := [153, 0, 41, 25, 4, 21, 5, 21, 6, 130, 92, 47, 42, 180, 0, 16, 21, 5, 50, 21, 6, 46, 133, 43]
abbrev dktX5_product_2_3 : List UInt8 := dkwX5_product_2_3 ++ dktX5_product_2_4
def dkwX5_product_2_2 : List UInt8 := [178, 0, 39, 21, 5, 46, 178, 0, 39, 21, 6, 46, 178, 0, 39, 21, 5, 21, 6, 130, 46, 182, 0, 53]
abbrev dktX5_product_2_2 : List UInt8 := dkwX5_product_2_2 ++ dktX5_product_2_3
def dkwX5_product_2_1 : List UInt8 := [47, 9, 148, 154, 0, 6, 167, 0, 87, 3, 54, 6, 21, 6, 42, 180, 0, 32, 163, 0, 75, 45]
abbrev dktX5_product_2_1 : List UInt8 := dkwX5_product_2_1 ++ dktX5_product_2_2
def dkwX5_product_2_0 : List UInt8 := [16, 32, 188, 11, 58, 4, 3, 54, 5, 21, 5, 42, 180, 0, 32, 163, 0, 108, 43, 180, 0, 47, 21, 5]
abbrev dktX5_product_2_0 : List UInt8 := dkwX5_product_2_0 ++ dktX5_product_2_1
theorem dksX5_product_2_0 : cX5_product_2.data.toList.drop 0 = dktX5_product_2_0 := by decide +kernel
theorem dksX5_product_2_1 : cX5_product_2.data.toList.drop 24 = dktX5_product_2_1 := dk_seg dksX5_product_2_0 24 rfl rfl
theorem dksX5_product_2_2 : cX5_product_2.data.toList.drop 46 = dktX5_product_2_2 := dk_seg dksX5_product_2_1 22 rfl rfl
theorem dksX5_product_2_3 : cX5_product_2.data.toList.drop 70 = dktX5_product_2_3 := dk_seg dksX5_product_2_2 24 rfl rfl
theorem dksX5_product_2_4 : cX5_product_2.data.toList.drop 94 = dktX5_product_2_4 := dk_seg dksX5_product_2_3 24 rfl rfl
theorem dksX5_product_2_5 : cX5_product_2.data.toList.drop 117 = dktX5_product_2_5 := dk_seg dksX5_product_2_4 23 rfl rfl
theorem dX5_product_2_0 : decode cX5_product_2 0 = .ok (.bipush 32, 2) := dk_16 32 (dk_at dksX5_product_2_0 0 rfl rfl)
theorem dX5_product_2_2 : decode cX5_product_2 2 = .ok (.newarray .long, 2) := dk_188_11 (dk_at dksX5_product_2_0 2 rfl rfl)
theorem dX5_product_2_4 : decode cX5_product_2 4 = .ok (.astore 4, 2) := dk_58 4 (dk_at dksX5_product_2_0 4 rfl rfl)
theorem dX5_product_2_6 : decode cX5_product_2 6 = .ok (.iconst 0, 1) := dk_3 (dk_at dksX5_product_2_0 6 rfl rfl)
theorem dX5_product_2_7 : decode cX5_product_2 7 = .ok (.istore 5, 2) := dk_54 5 (dk_at dksX5_product_2_0 7 rfl rfl)
theorem dX5_product_2_9 : decode cX5_product_2 9 = .ok (.iload 5, 2) := dk_21 5 (dk_at dksX5_product_2_0 9 rfl rfl)
theorem dX5_product_2_11 : decode cX5_product_2 11 = .ok (.aload_n 0, 1) := dk_42 (dk_at dksX5_product_2_0 11 rfl rfl)
theorem dX5_product_2_12 : decode cX5_product_2 12 = .ok (.getfield 32, 3) := dk_180 0 32 (dk_at dksX5_product_2_0 12 rfl rfl)
theorem dX5_product_2_15 : decode cX5_product_2 15 = .ok (.if_icmp .gt 108, 3) := dk_163 0 108 (dk_at dksX5_product_2_0 15 rfl rfl)
theorem dX5_product_2_18 : decode cX5_product_2 18 = .ok (.aload_n 1, 1) := dk_43 (dk_at dksX5_product_2_0 18 rfl rfl)
theorem dX5_product_2_19 : decode cX5_product_2 19 = .ok (.getfield 47, 3) := dk_180 0 47 (dk_at dksX5_product_2_0 19 rfl rfl)
theorem dX5_product_2_22 : decode cX5_product_2 22 = .ok (.iload 5, 2) := dk_21 5 (dk_at dksX5_product_2_0 22 rfl rfl)
theorem dX5_product_2_24 : decode cX5_product_2 24 = .ok (.laload, 1) := dk_47 (dk_at dksX5_product_2_1 0 rfl rfl)
theorem dX5_product_2_25 : decode cX5_product_2 25 = .ok (.lconst 0, 1) := dk_9 (dk_at dksX5_product_2_1 1 rfl rfl)
theorem dX5_product_2_26 : decode cX5_product_2 26 = .ok (.lcmp, 1) := dk_148 (dk_at dksX5_product_2_1 2 rfl rfl)
theorem dX5_product_2_27 : decode cX5_product_2 27 = .ok (.ifCond .ne 6, 3) := dk_154 0 6 (dk_at dksX5_product_2_1 3 rfl rfl)
theorem dX5_product_2_30 : decode cX5_product_2 30 = .ok (.goto 87, 3) := dk_167 0 87 (dk_at dksX5_product_2_1 6 rfl rfl)
theorem dX5_product_2_33 : decode cX5_product_2 33 = .ok (.iconst 0, 1) := dk_3 (dk_at dksX5_product_2_1 9 rfl rfl)
theorem dX5_product_2_34 : decode cX5_product_2 34 = .ok (.istore 6, 2) := dk_54 6 (dk_at dksX5_product_2_1 10 rfl rfl)
theorem dX5_product_2_36 : decode cX5_product_2 36 = .ok (.iload 6, 2) := dk_21 6 (dk_at dksX5_product_2_1 12 rfl rfl)
theorem dX5_product_2_38 : decode cX5_product_2 38 = .ok (.aload_n 0, 1) := dk_42 (dk_at dksX5_product_2_1 14 rfl rfl)
theorem dX5_product_2_39 : decode cX5_product_2 39 = .ok (.getfield 32, 3) := dk_180 0 32 (dk_at dksX5_product_2_1 15 rfl rfl)
theorem dX5_product_2_42 : decode cX5_product_2 42 = .ok (.if_icmp .gt 75, 3) := dk_163 0 75 (dk_at dksX5_product_2_1 18 rfl rfl)
theorem dX5_product_2_45 : decode cX5_product_2 45 = .ok (.aload_n 3, 1) := dk_45 (dk_at dksX5_product_2_1 21 rfl rfl)
theorem dX5_product_2_46 : decode cX5_product_2 46 = .ok (.getstatic 39, 3) := dk_178 0 39 (dk_at dksX5_product_2_2 0 rfl rfl)
theorem dX5_product_2_49 : decode cX5_product_2 49 = .ok (.iload 5, 2) := dk_21 5 (dk_at dksX5_product_2_2 3 rfl rfl)
theorem dX5_product_2_51 : decode cX5_product_2 51 = .ok (.iaload, 1) := dk_46 (dk_at dksX5_product_2_2 5 rfl rfl)
theorem dX5_product_2_52 : decode cX5_product_2 52 = .ok (.getstatic 39, 3) := dk_178 0 39 (dk_at dksX5_product_2_2 6 rfl rfl)
theorem dX5_product_2_55 : decode cX5_product_2 55 = .ok (.iload 6, 2) := dk_21 6 (dk_at dksX5_product_2_2 9 rfl rfl)
theorem dX5_product_2_57 : decode cX5_product_2 57 = .ok (.iaload, 1) := dk_46 (dk_at dksX5_product_2_2 11 rfl rfl)
theorem dX5_product_2_58 : decode cX5_product_2 58 = .ok (.getstatic 39, 3) := dk_178 0 39 (dk_at dksX5_product_2_2 12 rfl rfl)
theorem dX5_product_2_61 : decode cX5_product_2 61 = .ok (.iload 5, 2) := dk_21 5 (dk_at dksX5_product_2_2 15 rfl rfl)
theorem dX5_product_2_63 : decode cX5_product_2 63 = .ok (.iload 6, 2) := dk_21 6 (dk_at dksX5_product_2_2 17 rfl rfl)
theorem dX5_product_2_65 : decode cX5_product_2 65 = .ok (.ixor, 1) := dk_130 (dk_at dksX5_product_2_2 19 rfl rfl)
theorem dX5_product_2_66 : decode cX5_product_2 66 = .ok (.iaload, 1) := dk_46 (dk_at dksX5_product_2_2 20 rfl rfl)
theorem dX5_product_2_67 : decode cX5_product_2 67 = .ok (.invokevirtual 53, 3) := dk_182 0 53 (dk_at dksX5_product_2_2 21 rfl rfl)
theorem dX5_product_2_70 : decode cX5_product_2 70 = .ok (.ifCond .eq 41, 3) := dk_153 0 41 (dk_at dksX5_product_2_3 0 rfl rfl)
theorem dX5_product_2_73 : decode cX5_product_2 73 = .ok (.aload 4, 2) := dk_25 4 (dk_at dksX5_product_2_3 3 rfl rfl)
theorem dX5_product_2_75 : decode cX5_product_2 75 = .ok (.iload 5, 2) := dk_21 5 (dk_at dksX5_product_2_3 5 rfl rfl)
theorem dX5_product_2_77 : decode cX5_product_2 77 = .ok (.iload 6, 2) := dk_21 6 (dk_at dksX5_product_2_3 7 rfl rfl)
theorem dX5_product_2_79 : decode cX5_product_2 79 = .ok (.ixor, 1) := dk_130 (dk_at dksX5_product_2_3 9 rfl rfl)
theorem dX5_product_2_80 : decode cX5_product_2 80 = .ok (.dup2, 1) := dk_92 (dk_at dksX5_product_2_3 10 rfl rfl)
theorem dX5_product_2_81 : decode cX5_product_2 81 = .ok (.laload, 1) := dk_47 (dk_at dksX5_product_2_3 11 rfl rfl)
theorem dX5_product_2_82 : decode cX5_product_2 82 = .ok (.aload_n 0, 1) := dk_42 (dk_at dksX5_product_2_3 12 rfl rfl)
theorem dX5_product_2_83 : decode cX5_product_2 83 = .ok (.getfield 16, 3) := dk_180 0 16 (dk_at dksX5_product_2_3 13 rfl rfl)
theorem dX5_product_2_86 : decode cX5_product_2 86 = .ok (.iload 5, 2) := dk_21 5 (dk_at dksX5_product_2_3 16 rfl rfl)
theorem dX5_product_2_88 : decode cX5_product_2 88 = .ok (.aaload, 1) := dk_50 (dk_at dksX5_product_2_3 18 rfl rfl)
theorem dX5_product_2_89 : decode cX5_product_2 89 = .ok (.iload 6, 2) := dk_21 6 (dk_at dksX5_product_2_3 19 rfl rfl)
theorem dX5_product_2_91 : decode cX5_product_2 91 = .ok (.iaload, 1) := dk_46 (dk_at dksX5_product_2_3 21 rfl rfl)
theorem dX5_product_2_92 : decode cX5_product_2 92 = .ok (.i2l, 1) := dk_133 (dk_at dksX5_product_2_3 22 rfl rfl)
theorem dX5_product_2_93 : decode cX5_product_2 93 = .ok (.aload_n 1, 1) := dk_43 (dk_at dksX5_product_2_3 23 rfl rfl)
theorem dX5_product_2_94 : decode cX5_product_2 94 = .ok (.getfield 47, 3) := dk_180 0 47 (dk_at dksX5_product_2_4 0 rfl rfl)
theorem dX5_product_2_97 : decode cX5_product_2 97 = .ok (.iload 5, 2) := dk_21 5 (dk_at dksX5_product_2_4 3 rfl rfl)
theorem dX5_product_2_99 : decode cX5_product_2 99 = .ok (.laload, 1) := dk_47 (dk_at dksX5_product_2_4 5 rfl rfl)
theorem dX5_product_2_100 : decode cX5_product_2 100 = .ok (.lmul, 1) := dk_105 (dk_at dksX5_product_2_4 6 rfl rfl)
theorem dX5_product_2_101 : decode cX5_product_2 101 = .ok (.aload_n 2, 1) := dk_44 (dk_at dksX5_product_2_4 7 rfl rfl)
theorem dX5_product_2_102 : decode cX5_product_2 102 = .ok (.getfield 47, 3) := dk_180 0 47 (dk_at dksX5_product_2_4 8 rfl rfl)
theorem dX5_product_2_105 : decode cX5_product_2 105 = .ok (.iload 6, 2) := dk_21 6 (dk_at dksX5_product_2_4 11 rfl rfl)
theorem dX5_product_2_107 : decode cX5_product_2 107 = .ok (.laload, 1) := dk_47 (dk_at dksX5_product_2_4 13 rfl rfl)
theorem dX5_product_2_108 : decode cX5_product_2 108 = .ok (.lmul, 1) := dk_105 (dk_at dksX5_product_2_4 14 rfl rfl)
theorem dX5_product_2_109 : decode cX5_product_2 109 = .ok (.ladd, 1) := dk_97 (dk_at dksX5_product_2_4 15 rfl rfl)
theorem dX5_product_2_110 : decode cX5_product_2 110 = .ok (.lastore, 1) := dk_80 (dk_at dksX5_product_2_4 16 rfl rfl)
theorem dX5_product_2_111 : decode cX5_product_2 111 = .ok (.iinc 6 1, 3) := dk_132 6 1 (dk_at dksX5_product_2_4 17 rfl rfl)
theorem dX5_product_2_114 : decode cX5_product_2 114 = .ok (.goto (-78), 3) := dk_167 255 178 (dk_at dksX5_product_2_4 20 rfl rfl)
theorem dX5_product_2_117 : decode cX5_product_2 117 = .ok (.iinc 5 1, 3) := dk_132 5 1 (dk_at dksX5_product_2_5 0 rfl rfl)
theorem dX5_product_2_120 : decode cX5_product_2 120 = .ok (.goto (-111), 3) := dk_167 255 145 (dk_at dksX5_product_2_5 3 rfl rfl)
theorem dX5_product_2_123 : decode cX5_product_2 123 = .ok (.aload 4, 2) := dk_25 4 (dk_at dksX5_product_2_5 6 rfl rfl)
theorem dX5_product_2_125 : decode cX5_product_2 125 = .ok (.aload_n 1, 1) := dk_43 (dk_at dksX5_product_2_5 8 rfl rfl)
theorem dX5_product_2_126 : decode cX5_product_2 126 = .ok (.getfield 59, 3) := dk_180 0 59 (dk_at dksX5_product_2_5 9 rfl rfl)
theorem dX5_product_2_129 : decode cX5_product_2 129 = .ok (.aload_n 2, 1) := dk_44 (dk_at dksX5_product_2_5 12 rfl rfl)
theorem dX5_product_2_130 : decode cX5_product_2 130 = .ok (.getfield 59, 3) := dk_180 0 59 (dk_at dksX5_product_2_5 13 rfl rfl)
theorem dX5_product_2_133 : decode cX5_product_2 133 = .ok (.lmul, 1) := dk_105 (dk_at dksX5_product_2_5 16 rfl rfl)
theorem dX5_product_2_134 : decode cX5_product_2 134 = .ok (.invokestatic 63, 3) := dk_184 0 63 (dk_at dksX5_product_2_5 17 rfl rfl)
theorem dX5_product_2_137 : decode cX5_product_2 137 = .ok (.areturn, 1) := dk_176 (dk_at dksX5_product_2_5 20 rfl rfl)
abbrev cX5_complement : ByteArray := prog_2_method_7_code
def yX5_complement : MethodName := ⟨RX5, "complement", "(LBladeAlgebra$Multi;Z)LBladeAlgebra$Multi;"⟩
def dkwX5_complement_3 : List UInt8 := [182, 0, 78, 176]
abbrev dktX5_complement_3 : List UInt8 := dkwX5_complement_3 ++ []
def dkwX5_complement_2 : List UInt8 := [21, 5, 182, 0, 75, 133, 43, 180, 0, 47, 21, 4, 47, 105, 80, 132, 4, 1, 167, 255, 199, 43, 45]
abbrev dktX5_complement_2 : List UInt8 := dkwX5_complement_2 ++ dktX5_complement_3
def dkwX5_complement_1 : List UInt8 := [54, 5, 45, 21, 5, 28, 153, 0, 14, 42, 21, 5, 21, 4, 182, 0, 75, 167, 0, 11, 42, 21, 4]
abbrev dktX5_complement_1 : List UInt8 := dkwX5_complement_1 ++ dktX5_complement_2
def dkwX5_complement_0 : List UInt8 := [16, 32, 188, 11, 78, 3, 54, 4, 21, 4, 42, 180, 0, 32, 163, 0, 54, 42, 180, 0, 32, 21, 4, 130]
abbrev dktX5_complement_0 : List UInt8 := dkwX5_complement_0 ++ dktX5_complement_1
theorem dksX5_complement_0 : cX5_complement.data.toList.drop 0 = dktX5_complement_0 := by decide +kernel
theorem dksX5_complement_1 : cX5_complement.data.toList.drop 24 = dktX5_complement_1 := dk_seg dksX5_complement_0 24 rfl rfl
theorem dksX5_complement_2 : cX5_complement.data.toList.drop 47 = dktX5_complement_2 := dk_seg dksX5_complement_1 23 rfl rfl
theorem dksX5_complement_3 : cX5_complement.data.toList.drop 70 = dktX5_complement_3 := dk_seg dksX5_complement_2 23 rfl rfl
theorem dX5_complement_0 : decode cX5_complement 0 = .ok (.bipush 32, 2) := dk_16 32 (dk_at dksX5_complement_0 0 rfl rfl)
theorem dX5_complement_2 : decode cX5_complement 2 = .ok (.newarray .long, 2) := dk_188_11 (dk_at dksX5_complement_0 2 rfl rfl)
theorem dX5_complement_4 : decode cX5_complement 4 = .ok (.astore_n 3, 1) := dk_78 (dk_at dksX5_complement_0 4 rfl rfl)
theorem dX5_complement_5 : decode cX5_complement 5 = .ok (.iconst 0, 1) := dk_3 (dk_at dksX5_complement_0 5 rfl rfl)
theorem dX5_complement_6 : decode cX5_complement 6 = .ok (.istore 4, 2) := dk_54 4 (dk_at dksX5_complement_0 6 rfl rfl)
theorem dX5_complement_8 : decode cX5_complement 8 = .ok (.iload 4, 2) := dk_21 4 (dk_at dksX5_complement_0 8 rfl rfl)
theorem dX5_complement_10 : decode cX5_complement 10 = .ok (.aload_n 0, 1) := dk_42 (dk_at dksX5_complement_0 10 rfl rfl)
theorem dX5_complement_11 : decode cX5_complement 11 = .ok (.getfield 32, 3) := dk_180 0 32 (dk_at dksX5_complement_0 11 rfl rfl)
theorem dX5_complement_14 : decode cX5_complement 14 = .ok (.if_icmp .gt 54, 3) := dk_163 0 54 (dk_at dksX5_complement_0 14 rfl rfl)
theorem dX5_complement_17 : decode cX5_complement 17 = .ok (.aload_n 0, 1) := dk_42 (dk_at dksX5_complement_0 17 rfl rfl)
theorem dX5_complement_18 : decode cX5_complement 18 = .ok (.getfield 32, 3) := dk_180 0 32 (dk_at dksX5_complement_0 18 rfl rfl)
theorem dX5_complement_21 : decode cX5_complement 21 = .ok (.iload 4, 2) := dk_21 4 (dk_at dksX5_complement_0 21 rfl rfl)
theorem dX5_complement_23 : decode cX5_complement 23 = .ok (.ixor, 1) := dk_130 (dk_at dksX5_complement_0 23 rfl rfl)
theorem dX5_complement_24 : decode cX5_complement 24 = .ok (.istore 5, 2) := dk_54 5 (dk_at dksX5_complement_1 0 rfl rfl)
theorem dX5_complement_26 : decode cX5_complement 26 = .ok (.aload_n 3, 1) := dk_45 (dk_at dksX5_complement_1 2 rfl rfl)
theorem dX5_complement_27 : decode cX5_complement 27 = .ok (.iload 5, 2) := dk_21 5 (dk_at dksX5_complement_1 3 rfl rfl)
theorem dX5_complement_29 : decode cX5_complement 29 = .ok (.iload_n 2, 1) := dk_28 (dk_at dksX5_complement_1 5 rfl rfl)
theorem dX5_complement_30 : decode cX5_complement 30 = .ok (.ifCond .eq 14, 3) := dk_153 0 14 (dk_at dksX5_complement_1 6 rfl rfl)
theorem dX5_complement_33 : decode cX5_complement 33 = .ok (.aload_n 0, 1) := dk_42 (dk_at dksX5_complement_1 9 rfl rfl)
theorem dX5_complement_34 : decode cX5_complement 34 = .ok (.iload 5, 2) := dk_21 5 (dk_at dksX5_complement_1 10 rfl rfl)
theorem dX5_complement_36 : decode cX5_complement 36 = .ok (.iload 4, 2) := dk_21 4 (dk_at dksX5_complement_1 12 rfl rfl)
theorem dX5_complement_38 : decode cX5_complement 38 = .ok (.invokevirtual 75, 3) := dk_182 0 75 (dk_at dksX5_complement_1 14 rfl rfl)
theorem dX5_complement_41 : decode cX5_complement 41 = .ok (.goto 11, 3) := dk_167 0 11 (dk_at dksX5_complement_1 17 rfl rfl)
theorem dX5_complement_44 : decode cX5_complement 44 = .ok (.aload_n 0, 1) := dk_42 (dk_at dksX5_complement_1 20 rfl rfl)
theorem dX5_complement_45 : decode cX5_complement 45 = .ok (.iload 4, 2) := dk_21 4 (dk_at dksX5_complement_1 21 rfl rfl)
theorem dX5_complement_47 : decode cX5_complement 47 = .ok (.iload 5, 2) := dk_21 5 (dk_at dksX5_complement_2 0 rfl rfl)
theorem dX5_complement_49 : decode cX5_complement 49 = .ok (.invokevirtual 75, 3) := dk_182 0 75 (dk_at dksX5_complement_2 2 rfl rfl)
theorem dX5_complement_52 : decode cX5_complement 52 = .ok (.i2l, 1) := dk_133 (dk_at dksX5_complement_2 5 rfl rfl)
theorem dX5_complement_53 : decode cX5_complement 53 = .ok (.aload_n 1, 1) := dk_43 (dk_at dksX5_complement_2 6 rfl rfl)
theorem dX5_complement_54 : decode cX5_complement 54 = .ok (.getfield 47, 3) := dk_180 0 47 (dk_at dksX5_complement_2 7 rfl rfl)
theorem dX5_complement_57 : decode cX5_complement 57 = .ok (.iload 4, 2) := dk_21 4 (dk_at dksX5_complement_2 10 rfl rfl)
theorem dX5_complement_59 : decode cX5_complement 59 = .ok (.laload, 1) := dk_47 (dk_at dksX5_complement_2 12 rfl rfl)
theorem dX5_complement_60 : decode cX5_complement 60 = .ok (.lmul, 1) := dk_105 (dk_at dksX5_complement_2 13 rfl rfl)
theorem dX5_complement_61 : decode cX5_complement 61 = .ok (.lastore, 1) := dk_80 (dk_at dksX5_complement_2 14 rfl rfl)
theorem dX5_complement_62 : decode cX5_complement 62 = .ok (.iinc 4 1, 3) := dk_132 4 1 (dk_at dksX5_complement_2 15 rfl rfl)
theorem dX5_complement_65 : decode cX5_complement 65 = .ok (.goto (-57), 3) := dk_167 255 199 (dk_at dksX5_complement_2 18 rfl rfl)
theorem dX5_complement_68 : decode cX5_complement 68 = .ok (.aload_n 1, 1) := dk_43 (dk_at dksX5_complement_2 21 rfl rfl)
theorem dX5_complement_69 : decode cX5_complement 69 = .ok (.aload_n 3, 1) := dk_45 (dk_at dksX5_complement_2 22 rfl rfl)
theorem dX5_complement_70 : decode cX5_complement 70 = .ok (.invokevirtual 78, 3) := dk_182 0 78 (dk_at dksX5_complement_3 0 rfl rfl)
theorem dX5_complement_73 : decode cX5_complement 73 = .ok (.areturn, 1) := dk_176 (dk_at dksX5_complement_3 3 rfl rfl)
abbrev cX5_outerSign : ByteArray := prog_2_method_8_code
def yX5_outerSign : MethodName := ⟨RX5, "outerSign", "(II)I"⟩
def dkwX5_outerSign_2 : List UInt8 := [167, 255, 217, 29, 5, 112, 154, 0, 7, 4, 167, 0, 4, 2, 172]
abbrev dktX5_outerSign_2 : List UInt8 := dkwX5_outerSign_2 ++ []
def dkwX5_outerSign_1 : List UInt8 := [160, 0, 16, 178, 0, 39, 27, 21, 4, 4, 96, 122, 46, 167, 0, 4, 3, 96, 62, 132, 4, 1]
abbrev dktX5_outerSign_1 : List UInt8 := dkwX5_outerSign_1 ++ dktX5_outerSign_2
def dkwX5_outerSign_0 : List UInt8 := [3, 62, 3, 54, 4, 21, 4, 42, 180, 0, 29, 162, 0, 36, 29, 28, 21, 4, 122, 4, 126, 4]
abbrev dktX5_outerSign_0 : List UInt8 := dkwX5_outerSign_0 ++ dktX5_outerSign_1
theorem dksX5_outerSign_0 : cX5_outerSign.data.toList.drop 0 = dktX5_outerSign_0 := by decide +kernel
theorem dksX5_outerSign_1 : cX5_outerSign.data.toList.drop 22 = dktX5_outerSign_1 := dk_seg dksX5_outerSign_0 22 rfl rfl
theorem dksX5_outerSign_2 : cX5_outerSign.data.toList.drop 44 = dktX5_outerSign_2 := dk_seg dksX5_outerSign_1 22 rfl rfl
theorem dX5_outerSign_0 : decode cX5_outerSign 0 = .ok (.iconst 0, 1) := dk_3 (dk_at dksX5_outerSign_0 0 rfl rfl)
theorem dX5_outerSign_1 : decode cX5_outerSign 1 = .ok (.istore_n 3, 1) := dk_62 (dk_at dksX5_outerSign_0 1 rfl rfl)
theorem dX5_outerSign_2 : decode cX5_outerSign 2 = .ok (.iconst 0, 1) := dk_3 (dk_at dksX5_outerSign_0 2 rfl rfl)
theorem dX5_outerSign_3 : decode cX5_outerSign 3 = .ok (.istore 4, 2) := dk_54 4 (dk_at dksX5_outerSign_0 3 rfl rfl)
theorem dX5_outerSign_5 : decode cX5_outerSign 5 = .ok (.iload 4, 2) := dk_21 4 (dk_at dksX5_outerSign_0 5 rfl rfl)
theorem dX5_outerSign_7 : decode cX5_outerSign 7 = .ok (.aload_n 0, 1) := dk_42 (dk_at dksX5_outerSign_0 7 rfl rfl)
theorem dX5_outerSign_8 : decode cX5_outerSign 8 = .ok (.getfield 29, 3) := dk_180 0 29 (dk_at dksX5_outerSign_0 8 rfl rfl)
theorem dX5_outerSign_11 : decode cX5_outerSign 11 = .ok (.if_icmp .ge 36, 3) := dk_162 0 36 (dk_at dksX5_outerSign_0 11 rfl rfl)
theorem dX5_outerSign_14 : decode cX5_outerSign 14 = .ok (.iload_n 3, 1) := dk_29 (dk_at dksX5_outerSign_0 14 rfl rfl)
theorem dX5_outerSign_15 : decode cX5_outerSign 15 = .ok (.iload_n 2, 1) := dk_28 (dk_at dksX5_outerSign_0 15 rfl rfl)
theorem dX5_outerSign_16 : decode cX5_outerSign 16 = .ok (.iload 4, 2) := dk_21 4 (dk_at dksX5_outerSign_0 16 rfl rfl)
theorem dX5_outerSign_18 : decode cX5_outerSign 18 = .ok (.ishr, 1) := dk_122 (dk_at dksX5_outerSign_0 18 rfl rfl)
theorem dX5_outerSign_19 : decode cX5_outerSign 19 = .ok (.iconst 1, 1) := dk_4 (dk_at dksX5_outerSign_0 19 rfl rfl)
theorem dX5_outerSign_20 : decode cX5_outerSign 20 = .ok (.iand, 1) := dk_126 (dk_at dksX5_outerSign_0 20 rfl rfl)
theorem dX5_outerSign_21 : decode cX5_outerSign 21 = .ok (.iconst 1, 1) := dk_4 (dk_at dksX5_outerSign_0 21 rfl rfl)
theorem dX5_outerSign_22 : decode cX5_outerSign 22 = .ok (.if_icmp .ne 16, 3) := dk_160 0 16 (dk_at dksX5_outerSign_1 0 rfl rfl)
theorem dX5_outerSign_25 : decode cX5_outerSign 25 = .ok (.getstatic 39, 3) := dk_178 0 39 (dk_at dksX5_outerSign_1 3 rfl rfl)
theorem dX5_outerSign_28 : decode cX5_outerSign 28 = .ok (.iload_n 1, 1) := dk_27 (dk_at dksX5_outerSign_1 6 rfl rfl)
theorem dX5_outerSign_29 : decode cX5_outerSign 29 = .ok (.iload 4, 2) := dk_21 4 (dk_at dksX5_outerSign_1 7 rfl rfl)
theorem dX5_outerSign_31 : decode cX5_outerSign 31 = .ok (.iconst 1, 1) := dk_4 (dk_at dksX5_outerSign_1 9 rfl rfl)
theorem dX5_outerSign_32 : decode cX5_outerSign 32 = .ok (.iadd, 1) := dk_96 (dk_at dksX5_outerSign_1 10 rfl rfl)
theorem dX5_outerSign_33 : decode cX5_outerSign 33 = .ok (.ishr, 1) := dk_122 (dk_at dksX5_outerSign_1 11 rfl rfl)
theorem dX5_outerSign_34 : decode cX5_outerSign 34 = .ok (.iaload, 1) := dk_46 (dk_at dksX5_outerSign_1 12 rfl rfl)
theorem dX5_outerSign_35 : decode cX5_outerSign 35 = .ok (.goto 4, 3) := dk_167 0 4 (dk_at dksX5_outerSign_1 13 rfl rfl)
theorem dX5_outerSign_38 : decode cX5_outerSign 38 = .ok (.iconst 0, 1) := dk_3 (dk_at dksX5_outerSign_1 16 rfl rfl)
theorem dX5_outerSign_39 : decode cX5_outerSign 39 = .ok (.iadd, 1) := dk_96 (dk_at dksX5_outerSign_1 17 rfl rfl)
theorem dX5_outerSign_40 : decode cX5_outerSign 40 = .ok (.istore_n 3, 1) := dk_62 (dk_at dksX5_outerSign_1 18 rfl rfl)
theorem dX5_outerSign_41 : decode cX5_outerSign 41 = .ok (.iinc 4 1, 3) := dk_132 4 1 (dk_at dksX5_outerSign_1 19 rfl rfl)
theorem dX5_outerSign_44 : decode cX5_outerSign 44 = .ok (.goto (-39), 3) := dk_167 255 217 (dk_at dksX5_outerSign_2 0 rfl rfl)
theorem dX5_outerSign_47 : decode cX5_outerSign 47 = .ok (.iload_n 3, 1) := dk_29 (dk_at dksX5_outerSign_2 3 rfl rfl)
theorem dX5_outerSign_48 : decode cX5_outerSign 48 = .ok (.iconst 2, 1) := dk_5 (dk_at dksX5_outerSign_2 4 rfl rfl)
theorem dX5_outerSign_49 : decode cX5_outerSign 49 = .ok (.irem, 1) := dk_112 (dk_at dksX5_outerSign_2 5 rfl rfl)
theorem dX5_outerSign_50 : decode cX5_outerSign 50 = .ok (.ifCond .ne 7, 3) := dk_154 0 7 (dk_at dksX5_outerSign_2 6 rfl rfl)
theorem dX5_outerSign_53 : decode cX5_outerSign 53 = .ok (.iconst 1, 1) := dk_4 (dk_at dksX5_outerSign_2 9 rfl rfl)
theorem dX5_outerSign_54 : decode cX5_outerSign 54 = .ok (.goto 4, 3) := dk_167 0 4 (dk_at dksX5_outerSign_2 10 rfl rfl)
theorem dX5_outerSign_57 : decode cX5_outerSign 57 = .ok (.iconst (-1), 1) := dk_2 (dk_at dksX5_outerSign_2 13 rfl rfl)
theorem dX5_outerSign_58 : decode cX5_outerSign 58 = .ok (.ireturn, 1) := dk_172 (dk_at dksX5_outerSign_2 14 rfl rfl)
abbrev cX5_isBlade_2 : ByteArray := prog_2_method_11_code
def yX5_isBlade_2 : MethodName := ⟨RX5, "isBlade", "(LBladeAlgebra$Multi;)Z"⟩
def dkwX5_isBlade_2_3 : List UInt8 := [132, 4, 1, 167, 255, 215, 4, 172]
abbrev dktX5_isBlade_2_3 : List UInt8 := dkwX5_isBlade_2_3 ++ []
def dkwX5_isBlade_2_2 : List UInt8 := [4, 100, 160, 0, 20, 42, 42, 43, 21, 4, 182, 0, 86, 43, 182, 0, 90, 154, 0, 5, 3, 172]
abbrev dktX5_isBlade_2_2 : List UInt8 := dkwX5_isBlade_2_2 ++ dktX5_isBlade_2_3
def dkwX5_isBlade_2_1 : List UInt8 := [159, 0, 5, 3, 172, 3, 54, 4, 21, 4, 42, 180, 0, 32, 163, 0, 38, 178, 0, 39, 21, 4, 46, 29]
abbrev dktX5_isBlade_2_1 : List UInt8 := dkwX5_isBlade_2_1 ++ dktX5_isBlade_2_2
def dkwX5_isBlade_2_0 : List UInt8 := [43, 182, 0, 82, 61, 3, 62, 28, 29, 122, 4, 164, 0, 9, 132, 3, 1, 167, 255, 246, 28, 4, 29, 120]
abbrev dktX5_isBlade_2_0 : List UInt8 := dkwX5_isBlade_2_0 ++ dktX5_isBlade_2_1
theorem dksX5_isBlade_2_0 : cX5_isBlade_2.data.toList.drop 0 = dktX5_isBlade_2_0 := by decide +kernel
theorem dksX5_isBlade_2_1 : cX5_isBlade_2.data.toList.drop 24 = dktX5_isBlade_2_1 := dk_seg dksX5_isBlade_2_0 24 rfl rfl
theorem dksX5_isBlade_2_2 : cX5_isBlade_2.data.toList.drop 48 = dktX5_isBlade_2_2 := dk_seg dksX5_isBlade_2_1 24 rfl rfl
theorem dksX5_isBlade_2_3 : cX5_isBlade_2.data.toList.drop 70 = dktX5_isBlade_2_3 := dk_seg dksX5_isBlade_2_2 22 rfl rfl
theorem dX5_isBlade_2_0 : decode cX5_isBlade_2 0 = .ok (.aload_n 1, 1) := dk_43 (dk_at dksX5_isBlade_2_0 0 rfl rfl)
theorem dX5_isBlade_2_1 : decode cX5_isBlade_2 1 = .ok (.invokevirtual 82, 3) := dk_182 0 82 (dk_at dksX5_isBlade_2_0 1 rfl rfl)
theorem dX5_isBlade_2_4 : decode cX5_isBlade_2 4 = .ok (.istore_n 2, 1) := dk_61 (dk_at dksX5_isBlade_2_0 4 rfl rfl)
theorem dX5_isBlade_2_5 : decode cX5_isBlade_2 5 = .ok (.iconst 0, 1) := dk_3 (dk_at dksX5_isBlade_2_0 5 rfl rfl)
theorem dX5_isBlade_2_6 : decode cX5_isBlade_2 6 = .ok (.istore_n 3, 1) := dk_62 (dk_at dksX5_isBlade_2_0 6 rfl rfl)
theorem dX5_isBlade_2_7 : decode cX5_isBlade_2 7 = .ok (.iload_n 2, 1) := dk_28 (dk_at dksX5_isBlade_2_0 7 rfl rfl)
theorem dX5_isBlade_2_8 : decode cX5_isBlade_2 8 = .ok (.iload_n 3, 1) := dk_29 (dk_at dksX5_isBlade_2_0 8 rfl rfl)
theorem dX5_isBlade_2_9 : decode cX5_isBlade_2 9 = .ok (.ishr, 1) := dk_122 (dk_at dksX5_isBlade_2_0 9 rfl rfl)
theorem dX5_isBlade_2_10 : decode cX5_isBlade_2 10 = .ok (.iconst 1, 1) := dk_4 (dk_at dksX5_isBlade_2_0 10 rfl rfl)
theorem dX5_isBlade_2_11 : decode cX5_isBlade_2 11 = .ok (.if_icmp .le 9, 3) := dk_164 0 9 (dk_at dksX5_isBlade_2_0 11 rfl rfl)
theorem dX5_isBlade_2_14 : decode cX5_isBlade_2 14 = .ok (.iinc 3 1, 3) := dk_132 3 1 (dk_at dksX5_isBlade_2_0 14 rfl rfl)
theorem dX5_isBlade_2_17 : decode cX5_isBlade_2 17 = .ok (.goto (-10), 3) := dk_167 255 246 (dk_at dksX5_isBlade_2_0 17 rfl rfl)
theorem dX5_isBlade_2_20 : decode cX5_isBlade_2 20 = .ok (.iload_n 2, 1) := dk_28 (dk_at dksX5_isBlade_2_0 20 rfl rfl)
theorem dX5_isBlade_2_21 : decode cX5_isBlade_2 21 = .ok (.iconst 1, 1) := dk_4 (dk_at dksX5_isBlade_2_0 21 rfl rfl)
theorem dX5_isBlade_2_22 : decode cX5_isBlade_2 22 = .ok (.iload_n 3, 1) := dk_29 (dk_at dksX5_isBlade_2_0 22 rfl rfl)
theorem dX5_isBlade_2_23 : decode cX5_isBlade_2 23 = .ok (.ishl, 1) := dk_120 (dk_at dksX5_isBlade_2_0 23 rfl rfl)
theorem dX5_isBlade_2_24 : decode cX5_isBlade_2 24 = .ok (.if_icmp .eq 5, 3) := dk_159 0 5 (dk_at dksX5_isBlade_2_1 0 rfl rfl)
theorem dX5_isBlade_2_27 : decode cX5_isBlade_2 27 = .ok (.iconst 0, 1) := dk_3 (dk_at dksX5_isBlade_2_1 3 rfl rfl)
theorem dX5_isBlade_2_28 : decode cX5_isBlade_2 28 = .ok (.ireturn, 1) := dk_172 (dk_at dksX5_isBlade_2_1 4 rfl rfl)
theorem dX5_isBlade_2_29 : decode cX5_isBlade_2 29 = .ok (.iconst 0, 1) := dk_3 (dk_at dksX5_isBlade_2_1 5 rfl rfl)
theorem dX5_isBlade_2_30 : decode cX5_isBlade_2 30 = .ok (.istore 4, 2) := dk_54 4 (dk_at dksX5_isBlade_2_1 6 rfl rfl)
theorem dX5_isBlade_2_32 : decode cX5_isBlade_2 32 = .ok (.iload 4, 2) := dk_21 4 (dk_at dksX5_isBlade_2_1 8 rfl rfl)
theorem dX5_isBlade_2_34 : decode cX5_isBlade_2 34 = .ok (.aload_n 0, 1) := dk_42 (dk_at dksX5_isBlade_2_1 10 rfl rfl)
theorem dX5_isBlade_2_35 : decode cX5_isBlade_2 35 = .ok (.getfield 32, 3) := dk_180 0 32 (dk_at dksX5_isBlade_2_1 11 rfl rfl)
theorem dX5_isBlade_2_38 : decode cX5_isBlade_2 38 = .ok (.if_icmp .gt 38, 3) := dk_163 0 38 (dk_at dksX5_isBlade_2_1 14 rfl rfl)
theorem dX5_isBlade_2_41 : decode cX5_isBlade_2 41 = .ok (.getstatic 39, 3) := dk_178 0 39 (dk_at dksX5_isBlade_2_1 17 rfl rfl)
theorem dX5_isBlade_2_44 : decode cX5_isBlade_2 44 = .ok (.iload 4, 2) := dk_21 4 (dk_at dksX5_isBlade_2_1 20 rfl rfl)
theorem dX5_isBlade_2_46 : decode cX5_isBlade_2 46 = .ok (.iaload, 1) := dk_46 (dk_at dksX5_isBlade_2_1 22 rfl rfl)
theorem dX5_isBlade_2_47 : decode cX5_isBlade_2 47 = .ok (.iload_n 3, 1) := dk_29 (dk_at dksX5_isBlade_2_1 23 rfl rfl)
theorem dX5_isBlade_2_48 : decode cX5_isBlade_2 48 = .ok (.iconst 1, 1) := dk_4 (dk_at dksX5_isBlade_2_2 0 rfl rfl)
theorem dX5_isBlade_2_49 : decode cX5_isBlade_2 49 = .ok (.isub, 1) := dk_100 (dk_at dksX5_isBlade_2_2 1 rfl rfl)
theorem dX5_isBlade_2_50 : decode cX5_isBlade_2 50 = .ok (.if_icmp .ne 20, 3) := dk_160 0 20 (dk_at dksX5_isBlade_2_2 2 rfl rfl)
theorem dX5_isBlade_2_53 : decode cX5_isBlade_2 53 = .ok (.aload_n 0, 1) := dk_42 (dk_at dksX5_isBlade_2_2 5 rfl rfl)
theorem dX5_isBlade_2_54 : decode cX5_isBlade_2 54 = .ok (.aload_n 0, 1) := dk_42 (dk_at dksX5_isBlade_2_2 6 rfl rfl)
theorem dX5_isBlade_2_55 : decode cX5_isBlade_2 55 = .ok (.aload_n 1, 1) := dk_43 (dk_at dksX5_isBlade_2_2 7 rfl rfl)
theorem dX5_isBlade_2_56 : decode cX5_isBlade_2 56 = .ok (.iload 4, 2) := dk_21 4 (dk_at dksX5_isBlade_2_2 8 rfl rfl)
theorem dX5_isBlade_2_58 : decode cX5_isBlade_2 58 = .ok (.invokevirtual 86, 3) := dk_182 0 86 (dk_at dksX5_isBlade_2_2 10 rfl rfl)
theorem dX5_isBlade_2_61 : decode cX5_isBlade_2 61 = .ok (.aload_n 1, 1) := dk_43 (dk_at dksX5_isBlade_2_2 13 rfl rfl)
theorem dX5_isBlade_2_62 : decode cX5_isBlade_2 62 = .ok (.invokevirtual 90, 3) := dk_182 0 90 (dk_at dksX5_isBlade_2_2 14 rfl rfl)
theorem dX5_isBlade_2_65 : decode cX5_isBlade_2 65 = .ok (.ifCond .ne 5, 3) := dk_154 0 5 (dk_at dksX5_isBlade_2_2 17 rfl rfl)
theorem dX5_isBlade_2_68 : decode cX5_isBlade_2 68 = .ok (.iconst 0, 1) := dk_3 (dk_at dksX5_isBlade_2_2 20 rfl rfl)
theorem dX5_isBlade_2_69 : decode cX5_isBlade_2 69 = .ok (.ireturn, 1) := dk_172 (dk_at dksX5_isBlade_2_2 21 rfl rfl)
theorem dX5_isBlade_2_70 : decode cX5_isBlade_2 70 = .ok (.iinc 4 1, 3) := dk_132 4 1 (dk_at dksX5_isBlade_2_3 0 rfl rfl)
theorem dX5_isBlade_2_73 : decode cX5_isBlade_2 73 = .ok (.goto (-41), 3) := dk_167 255 215 (dk_at dksX5_isBlade_2_3 3 rfl rfl)
theorem dX5_isBlade_2_76 : decode cX5_isBlade_2 76 = .ok (.iconst 1, 1) := dk_4 (dk_at dksX5_isBlade_2_3 6 rfl rfl)
theorem dX5_isBlade_2_77 : decode cX5_isBlade_2 77 = .ok (.ireturn, 1) := dk_172 (dk_at dksX5_isBlade_2_3 7 rfl rfl)
abbrev cX5_left : ByteArray := prog_2_method_9_code
def yX5_left : MethodName := ⟨RX5, "left", "(LBladeAlgebra$Multi;I)[J"⟩
def dkwX5_left_2 : List UInt8 := [4, 21, 4, 120, 128, 47, 105, 80, 132, 4, 1, 167, 255, 204, 45, 176]
abbrev dktX5_left_2 : List UInt8 := dkwX5_left_2 ++ []
def dkwX5_left_1 : List UInt8 := [126, 4, 160, 0, 7, 9, 167, 0, 25, 42, 28, 4, 21, 4, 120, 182, 0, 75, 133, 43, 180, 0, 47, 28]
abbrev dktX5_left_1 : List UInt8 := dkwX5_left_1 ++ dktX5_left_2
def dkwX5_left_0 : List UInt8 := [8, 188, 11, 78, 3, 54, 4, 21, 4, 42, 180, 0, 29, 162, 0, 49, 45, 21, 4, 28, 21, 4, 122, 4]
abbrev dktX5_left_0 : List UInt8 := dkwX5_left_0 ++ dktX5_left_1
theorem dksX5_left_0 : cX5_left.data.toList.drop 0 = dktX5_left_0 := by decide +kernel
theorem dksX5_left_1 : cX5_left.data.toList.drop 24 = dktX5_left_1 := dk_seg dksX5_left_0 24 rfl rfl
theorem dksX5_left_2 : cX5_left.data.toList.drop 48 = dktX5_left_2 := dk_seg dksX5_left_1 24 rfl rfl
theorem dX5_left_0 : decode cX5_left 0 = .ok (.iconst 5, 1) := dk_8 (dk_at dksX5_left_0 0 rfl rfl)
theorem dX5_left_1 : decode cX5_left 1 = .ok (.newarray .long, 2) := dk_188_11 (dk_at dksX5_left_0 1 rfl rfl)
theorem dX5_left_3 : decode cX5_left 3 = .ok (.astore_n 3, 1) := dk_78 (dk_at dksX5_left_0 3 rfl rfl)
theorem dX5_left_4 : decode cX5_left 4 = .ok (.iconst 0, 1) := dk_3 (dk_at dksX5_left_0 4 rfl rfl)
theorem dX5_left_5 : decode cX5_left 5 = .ok (.istore 4, 2) := dk_54 4 (dk_at dksX5_left_0 5 rfl rfl)
theorem dX5_left_7 : decode cX5_left 7 = .ok (.iload 4, 2) := dk_21 4 (dk_at dksX5_left_0 7 rfl rfl)
theorem dX5_left_9 : decode cX5_left 9 = .ok (.aload_n 0, 1) := dk_42 (dk_at dksX5_left_0 9 rfl rfl)
theorem dX5_left_10 : decode cX5_left 10 = .ok (.getfield 29, 3) := dk_180 0 29 (dk_at dksX5_left_0 10 rfl rfl)
theorem dX5_left_13 : decode cX5_left 13 = .ok (.if_icmp .ge 49, 3) := dk_162 0 49 (dk_at dksX5_left_0 13 rfl rfl)
theorem dX5_left_16 : decode cX5_left 16 = .ok (.aload_n 3, 1) := dk_45 (dk_at dksX5_left_0 16 rfl rfl)
theorem dX5_left_17 : decode cX5_left 17 = .ok (.iload 4, 2) := dk_21 4 (dk_at dksX5_left_0 17 rfl rfl)
theorem dX5_left_19 : decode cX5_left 19 = .ok (.iload_n 2, 1) := dk_28 (dk_at dksX5_left_0 19 rfl rfl)
theorem dX5_left_20 : decode cX5_left 20 = .ok (.iload 4, 2) := dk_21 4 (dk_at dksX5_left_0 20 rfl rfl)
theorem dX5_left_22 : decode cX5_left 22 = .ok (.ishr, 1) := dk_122 (dk_at dksX5_left_0 22 rfl rfl)
theorem dX5_left_23 : decode cX5_left 23 = .ok (.iconst 1, 1) := dk_4 (dk_at dksX5_left_0 23 rfl rfl)
theorem dX5_left_24 : decode cX5_left 24 = .ok (.iand, 1) := dk_126 (dk_at dksX5_left_1 0 rfl rfl)
theorem dX5_left_25 : decode cX5_left 25 = .ok (.iconst 1, 1) := dk_4 (dk_at dksX5_left_1 1 rfl rfl)
theorem dX5_left_26 : decode cX5_left 26 = .ok (.if_icmp .ne 7, 3) := dk_160 0 7 (dk_at dksX5_left_1 2 rfl rfl)
theorem dX5_left_29 : decode cX5_left 29 = .ok (.lconst 0, 1) := dk_9 (dk_at dksX5_left_1 5 rfl rfl)
theorem dX5_left_30 : decode cX5_left 30 = .ok (.goto 25, 3) := dk_167 0 25 (dk_at dksX5_left_1 6 rfl rfl)
theorem dX5_left_33 : decode cX5_left 33 = .ok (.aload_n 0, 1) := dk_42 (dk_at dksX5_left_1 9 rfl rfl)
theorem dX5_left_34 : decode cX5_left 34 = .ok (.iload_n 2, 1) := dk_28 (dk_at dksX5_left_1 10 rfl rfl)
theorem dX5_left_35 : decode cX5_left 35 = .ok (.iconst 1, 1) := dk_4 (dk_at dksX5_left_1 11 rfl rfl)
theorem dX5_left_36 : decode cX5_left 36 = .ok (.iload 4, 2) := dk_21 4 (dk_at dksX5_left_1 12 rfl rfl)
theorem dX5_left_38 : decode cX5_left 38 = .ok (.ishl, 1) := dk_120 (dk_at dksX5_left_1 14 rfl rfl)
theorem dX5_left_39 : decode cX5_left 39 = .ok (.invokevirtual 75, 3) := dk_182 0 75 (dk_at dksX5_left_1 15 rfl rfl)
theorem dX5_left_42 : decode cX5_left 42 = .ok (.i2l, 1) := dk_133 (dk_at dksX5_left_1 18 rfl rfl)
theorem dX5_left_43 : decode cX5_left 43 = .ok (.aload_n 1, 1) := dk_43 (dk_at dksX5_left_1 19 rfl rfl)
theorem dX5_left_44 : decode cX5_left 44 = .ok (.getfield 47, 3) := dk_180 0 47 (dk_at dksX5_left_1 20 rfl rfl)
theorem dX5_left_47 : decode cX5_left 47 = .ok (.iload_n 2, 1) := dk_28 (dk_at dksX5_left_1 23 rfl rfl)
theorem dX5_left_48 : decode cX5_left 48 = .ok (.iconst 1, 1) := dk_4 (dk_at dksX5_left_2 0 rfl rfl)
theorem dX5_left_49 : decode cX5_left 49 = .ok (.iload 4, 2) := dk_21 4 (dk_at dksX5_left_2 1 rfl rfl)
theorem dX5_left_51 : decode cX5_left 51 = .ok (.ishl, 1) := dk_120 (dk_at dksX5_left_2 3 rfl rfl)
theorem dX5_left_52 : decode cX5_left 52 = .ok (.ior, 1) := dk_128 (dk_at dksX5_left_2 4 rfl rfl)
theorem dX5_left_53 : decode cX5_left 53 = .ok (.laload, 1) := dk_47 (dk_at dksX5_left_2 5 rfl rfl)
theorem dX5_left_54 : decode cX5_left 54 = .ok (.lmul, 1) := dk_105 (dk_at dksX5_left_2 6 rfl rfl)
theorem dX5_left_55 : decode cX5_left 55 = .ok (.lastore, 1) := dk_80 (dk_at dksX5_left_2 7 rfl rfl)
theorem dX5_left_56 : decode cX5_left 56 = .ok (.iinc 4 1, 3) := dk_132 4 1 (dk_at dksX5_left_2 8 rfl rfl)
theorem dX5_left_59 : decode cX5_left 59 = .ok (.goto (-52), 3) := dk_167 255 204 (dk_at dksX5_left_2 11 rfl rfl)
theorem dX5_left_62 : decode cX5_left 62 = .ok (.aload_n 3, 1) := dk_45 (dk_at dksX5_left_2 14 rfl rfl)
theorem dX5_left_63 : decode cX5_left 63 = .ok (.areturn, 1) := dk_176 (dk_at dksX5_left_2 15 rfl rfl)
abbrev cX5_isOuterZero : ByteArray := prog_2_method_10_code
def yX5_isOuterZero : MethodName := ⟨RX5, "isOuterZero", "([JLBladeAlgebra$Multi;)Z"⟩
def dkwX5_isOuterZero_4 : List UInt8 := [172]
abbrev dktX5_isOuterZero_4 : List UInt8 := dkwX5_isOuterZero_4 ++ []
def dkwX5_isOuterZero_3 : List UInt8 := [55, 4, 132, 6, 1, 167, 255, 197, 22, 4, 9, 148, 153, 0, 5, 3, 172, 132, 3, 1, 167, 255, 168, 4]
abbrev dktX5_isOuterZero_3 : List UInt8 := dkwX5_isOuterZero_3 ++ dktX5_isOuterZero_4
def dkwX5_isOuterZero_2 : List UInt8 := [120, 130, 182, 0, 75, 133, 43, 21, 6, 47, 105, 44, 180, 0, 47, 29, 4, 21, 6, 120, 130, 47, 105, 97]
abbrev dktX5_isOuterZero_2 : List UInt8 := dkwX5_isOuterZero_2 ++ dktX5_isOuterZero_3
def dkwX5_isOuterZero_1 : List UInt8 := [162, 0, 56, 29, 21, 6, 122, 4, 126, 4, 160, 0, 40, 22, 4, 42, 4, 21, 6, 120, 29, 4, 21, 6]
abbrev dktX5_isOuterZero_1 : List UInt8 := dkwX5_isOuterZero_1 ++ dktX5_isOuterZero_2
def dkwX5_isOuterZero_0 : List UInt8 := [3, 62, 29, 42, 180, 0, 32, 163, 0, 86, 9, 55, 4, 3, 54, 6, 21, 6, 42, 180, 0, 29]
abbrev dktX5_isOuterZero_0 : List UInt8 := dkwX5_isOuterZero_0 ++ dktX5_isOuterZero_1
theorem dksX5_isOuterZero_0 : cX5_isOuterZero.data.toList.drop 0 = dktX5_isOuterZero_0 := by decide +kernel
theorem dksX5_isOuterZero_1 : cX5_isOuterZero.data.toList.drop 22 = dktX5_isOuterZero_1 := dk_seg dksX5_isOuterZero_0 22 rfl rfl
theorem dksX5_isOuterZero_2 : cX5_isOuterZero.data.toList.drop 46 = dktX5_isOuterZero_2 := dk_seg dksX5_isOuterZero_1 24 rfl rfl
theorem dksX5_isOuterZero_3 : cX5_isOuterZero.data.toList.drop 70 = dktX5_isOuterZero_3 := dk_seg dksX5_isOuterZero_2 24 rfl rfl
theorem dksX5_isOuterZero_4 : cX5_isOuterZero.data.toList.drop 94 = dktX5_isOuterZero_4 := dk_seg dksX5_isOuterZero_3 24 rfl rfl
theorem dX5_isOuterZero_0 : decode cX5_isOuterZero 0 = .ok (.iconst 0, 1) := dk_3 (dk_at dksX5_isOuterZero_0 0 rfl rfl)
theorem dX5_isOuterZero_1 : decode cX5_isOuterZero 1 = .ok (.istore_n 3, 1) := dk_62 (dk_at dksX5_isOuterZero_0 1 rfl rfl)
theorem dX5_isOuterZero_2 : decode cX5_isOuterZero 2 = .ok (.iload_n 3, 1) := dk_29 (dk_at dksX5_isOuterZero_0 2 rfl rfl)
theorem dX5_isOuterZero_3 : decode cX5_isOuterZero 3 = .ok (.aload_n 0, 1) := dk_42 (dk_at dksX5_isOuterZero_0 3 rfl rfl)
theorem dX5_isOuterZero_4 : decode cX5_isOuterZero 4 = .ok (.getfield 32, 3) := dk_180 0 32 (dk_at dksX5_isOuterZero_0 4 rfl rfl)
theorem dX5_isOuterZero_7 : decode cX5_isOuterZero 7 = .ok (.if_icmp .gt 86, 3) := dk_163 0 86 (dk_at dksX5_isOuterZero_0 7 rfl rfl)
theorem dX5_isOuterZero_10 : decode cX5_isOuterZero 10 = .ok (.lconst 0, 1) := dk_9 (dk_at dksX5_isOuterZero_0 10 rfl rfl)
theorem dX5_isOuterZero_11 : decode cX5_isOuterZero 11 = .ok (.lstore 4, 2) := dk_55 4 (dk_at dksX5_isOuterZero_0 11 rfl rfl)
theorem dX5_isOuterZero_13 : decode cX5_isOuterZero 13 = .ok (.iconst 0, 1) := dk_3 (dk_at dksX5_isOuterZero_0 13 rfl rfl)
theorem dX5_isOuterZero_14 : decode cX5_isOuterZero 14 = .ok (.istore 6, 2) := dk_54 6 (dk_at dksX5_isOuterZero_0 14 rfl rfl)
theorem dX5_isOuterZero_16 : decode cX5_isOuterZero 16 = .ok (.iload 6, 2) := dk_21 6 (dk_at dksX5_isOuterZero_0 16 rfl rfl)
theorem dX5_isOuterZero_18 : decode cX5_isOuterZero 18 = .ok (.aload_n 0, 1) := dk_42 (dk_at dksX5_isOuterZero_0 18 rfl rfl)
theorem dX5_isOuterZero_19 : decode cX5_isOuterZero 19 = .ok (.getfield 29, 3) := dk_180 0 29 (dk_at dksX5_isOuterZero_0 19 rfl rfl)
theorem dX5_isOuterZero_22 : decode cX5_isOuterZero 22 = .ok (.if_icmp .ge 56, 3) := dk_162 0 56 (dk_at dksX5_isOuterZero_1 0 rfl rfl)
theorem dX5_isOuterZero_25 : decode cX5_isOuterZero 25 = .ok (.iload_n 3, 1) := dk_29 (dk_at dksX5_isOuterZero_1 3 rfl rfl)
theorem dX5_isOuterZero_26 : decode cX5_isOuterZero 26 = .ok (.iload 6, 2) := dk_21 6 (dk_at dksX5_isOuterZero_1 4 rfl rfl)
theorem dX5_isOuterZero_28 : decode cX5_isOuterZero 28 = .ok (.ishr, 1) := dk_122 (dk_at dksX5_isOuterZero_1 6 rfl rfl)
theorem dX5_isOuterZero_29 : decode cX5_isOuterZero 29 = .ok (.iconst 1, 1) := dk_4 (dk_at dksX5_isOuterZero_1 7 rfl rfl)
theorem dX5_isOuterZero_30 : decode cX5_isOuterZero 30 = .ok (.iand, 1) := dk_126 (dk_at dksX5_isOuterZero_1 8 rfl rfl)
theorem dX5_isOuterZero_31 : decode cX5_isOuterZero 31 = .ok (.iconst 1, 1) := dk_4 (dk_at dksX5_isOuterZero_1 9 rfl rfl)
theorem dX5_isOuterZero_32 : decode cX5_isOuterZero 32 = .ok (.if_icmp .ne 40, 3) := dk_160 0 40 (dk_at dksX5_isOuterZero_1 10 rfl rfl)
theorem dX5_isOuterZero_35 : decode cX5_isOuterZero 35 = .ok (.lload 4, 2) := dk_22 4 (dk_at dksX5_isOuterZero_1 13 rfl rfl)
theorem dX5_isOuterZero_37 : decode cX5_isOuterZero 37 = .ok (.aload_n 0, 1) := dk_42 (dk_at dksX5_isOuterZero_1 15 rfl rfl)
theorem dX5_isOuterZero_38 : decode cX5_isOuterZero 38 = .ok (.iconst 1, 1) := dk_4 (dk_at dksX5_isOuterZero_1 16 rfl rfl)
theorem dX5_isOuterZero_39 : decode cX5_isOuterZero 39 = .ok (.iload 6, 2) := dk_21 6 (dk_at dksX5_isOuterZero_1 17 rfl rfl)
theorem dX5_isOuterZero_41 : decode cX5_isOuterZero 41 = .ok (.ishl, 1) := dk_120 (dk_at dksX5_isOuterZero_1 19 rfl rfl)
theorem dX5_isOuterZero_42 : decode cX5_isOuterZero 42 = .ok (.iload_n 3, 1) := dk_29 (dk_at dksX5_isOuterZero_1 20 rfl rfl)
theorem dX5_isOuterZero_43 : decode cX5_isOuterZero 43 = .ok (.iconst 1, 1) := dk_4 (dk_at dksX5_isOuterZero_1 21 rfl rfl)
theorem dX5_isOuterZero_44 : decode cX5_isOuterZero 44 = .ok (.iload 6, 2) := dk_21 6 (dk_at dksX5_isOuterZero_1 22 rfl rfl)
theorem dX5_isOuterZero_46 : decode cX5_isOuterZero 46 = .ok (.ishl, 1) := dk_120 (dk_at dksX5_isOuterZero_2 0 rfl rfl)
theorem dX5_isOuterZero_47 : decode cX5_isOuterZero 47 = .ok (.ixor, 1) := dk_130 (dk_at dksX5_isOuterZero_2 1 rfl rfl)
theorem dX5_isOuterZero_48 : decode cX5_isOuterZero 48 = .ok (.invokevirtual 75, 3) := dk_182 0 75 (dk_at dksX5_isOuterZero_2 2 rfl rfl)
theorem dX5_isOuterZero_51 : decode cX5_isOuterZero 51 = .ok (.i2l, 1) := dk_133 (dk_at dksX5_isOuterZero_2 5 rfl rfl)
theorem dX5_isOuterZero_52 : decode cX5_isOuterZero 52 = .ok (.aload_n 1, 1) := dk_43 (dk_at dksX5_isOuterZero_2 6 rfl rfl)
theorem dX5_isOuterZero_53 : decode cX5_isOuterZero 53 = .ok (.iload 6, 2) := dk_21 6 (dk_at dksX5_isOuterZero_2 7 rfl rfl)
theorem dX5_isOuterZero_55 : decode cX5_isOuterZero 55 = .ok (.laload, 1) := dk_47 (dk_at dksX5_isOuterZero_2 9 rfl rfl)
theorem dX5_isOuterZero_56 : decode cX5_isOuterZero 56 = .ok (.lmul, 1) := dk_105 (dk_at dksX5_isOuterZero_2 10 rfl rfl)
theorem dX5_isOuterZero_57 : decode cX5_isOuterZero 57 = .ok (.aload_n 2, 1) := dk_44 (dk_at dksX5_isOuterZero_2 11 rfl rfl)
theorem dX5_isOuterZero_58 : decode cX5_isOuterZero 58 = .ok (.getfield 47, 3) := dk_180 0 47 (dk_at dksX5_isOuterZero_2 12 rfl rfl)
theorem dX5_isOuterZero_61 : decode cX5_isOuterZero 61 = .ok (.iload_n 3, 1) := dk_29 (dk_at dksX5_isOuterZero_2 15 rfl rfl)
theorem dX5_isOuterZero_62 : decode cX5_isOuterZero 62 = .ok (.iconst 1, 1) := dk_4 (dk_at dksX5_isOuterZero_2 16 rfl rfl)
theorem dX5_isOuterZero_63 : decode cX5_isOuterZero 63 = .ok (.iload 6, 2) := dk_21 6 (dk_at dksX5_isOuterZero_2 17 rfl rfl)
theorem dX5_isOuterZero_65 : decode cX5_isOuterZero 65 = .ok (.ishl, 1) := dk_120 (dk_at dksX5_isOuterZero_2 19 rfl rfl)
theorem dX5_isOuterZero_66 : decode cX5_isOuterZero 66 = .ok (.ixor, 1) := dk_130 (dk_at dksX5_isOuterZero_2 20 rfl rfl)
theorem dX5_isOuterZero_67 : decode cX5_isOuterZero 67 = .ok (.laload, 1) := dk_47 (dk_at dksX5_isOuterZero_2 21 rfl rfl)
theorem dX5_isOuterZero_68 : decode cX5_isOuterZero 68 = .ok (.lmul, 1) := dk_105 (dk_at dksX5_isOuterZero_2 22 rfl rfl)
theorem dX5_isOuterZero_69 : decode cX5_isOuterZero 69 = .ok (.ladd, 1) := dk_97 (dk_at dksX5_isOuterZero_2 23 rfl rfl)
theorem dX5_isOuterZero_70 : decode cX5_isOuterZero 70 = .ok (.lstore 4, 2) := dk_55 4 (dk_at dksX5_isOuterZero_3 0 rfl rfl)
theorem dX5_isOuterZero_72 : decode cX5_isOuterZero 72 = .ok (.iinc 6 1, 3) := dk_132 6 1 (dk_at dksX5_isOuterZero_3 2 rfl rfl)
theorem dX5_isOuterZero_75 : decode cX5_isOuterZero 75 = .ok (.goto (-59), 3) := dk_167 255 197 (dk_at dksX5_isOuterZero_3 5 rfl rfl)
theorem dX5_isOuterZero_78 : decode cX5_isOuterZero 78 = .ok (.lload 4, 2) := dk_22 4 (dk_at dksX5_isOuterZero_3 8 rfl rfl)
theorem dX5_isOuterZero_80 : decode cX5_isOuterZero 80 = .ok (.lconst 0, 1) := dk_9 (dk_at dksX5_isOuterZero_3 10 rfl rfl)
theorem dX5_isOuterZero_81 : decode cX5_isOuterZero 81 = .ok (.lcmp, 1) := dk_148 (dk_at dksX5_isOuterZero_3 11 rfl rfl)
theorem dX5_isOuterZero_82 : decode cX5_isOuterZero 82 = .ok (.ifCond .eq 5, 3) := dk_153 0 5 (dk_at dksX5_isOuterZero_3 12 rfl rfl)
theorem dX5_isOuterZero_85 : decode cX5_isOuterZero 85 = .ok (.iconst 0, 1) := dk_3 (dk_at dksX5_isOuterZero_3 15 rfl rfl)
theorem dX5_isOuterZero_86 : decode cX5_isOuterZero 86 = .ok (.ireturn, 1) := dk_172 (dk_at dksX5_isOuterZero_3 16 rfl rfl)
theorem dX5_isOuterZero_87 : decode cX5_isOuterZero 87 = .ok (.iinc 3 1, 3) := dk_132 3 1 (dk_at dksX5_isOuterZero_3 17 rfl rfl)
theorem dX5_isOuterZero_90 : decode cX5_isOuterZero 90 = .ok (.goto (-88), 3) := dk_167 255 168 (dk_at dksX5_isOuterZero_3 20 rfl rfl)
theorem dX5_isOuterZero_93 : decode cX5_isOuterZero 93 = .ok (.iconst 1, 1) := dk_4 (dk_at dksX5_isOuterZero_3 23 rfl rfl)
theorem dX5_isOuterZero_94 : decode cX5_isOuterZero 94 = .ok (.ireturn, 1) := dk_172 (dk_at dksX5_isOuterZero_4 0 rfl rfl)
abbrev cX5_vectorsIn : ByteArray := prog_2_method_12_code
def yX5_vectorsIn : MethodName := ⟨RX5, "vectorsIn", "(LBladeAlgebra$Multi;)I"⟩
def dkwX5_vectorsIn_3 : List UInt8 := [29, 120, 167, 0, 4, 3, 128, 61, 132, 3, 1, 167, 255, 177, 28, 172]
abbrev dktX5_vectorsIn_3 : List UInt8 := dkwX5_vectorsIn_3 ++ []
def dkwX5_vectorsIn_2 : List UInt8 := [154, 0, 7, 4, 167, 0, 4, 3, 126, 54, 4, 132, 5, 1, 167, 255, 212, 28, 21, 4, 153, 0, 9, 4]
abbrev dktX5_vectorsIn_2 : List UInt8 := dkwX5_vectorsIn_2 ++ dktX5_vectorsIn_3
def dkwX5_vectorsIn_1 : List UInt8 := [163, 0, 41, 21, 4, 21, 5, 29, 122, 4, 126, 4, 159, 0, 15, 43, 180, 0, 47, 21, 5, 47, 9, 148]
abbrev dktX5_vectorsIn_1 : List UInt8 := dkwX5_vectorsIn_1 ++ dktX5_vectorsIn_2
def dkwX5_vectorsIn_0 : List UInt8 := [3, 61, 3, 62, 29, 42, 180, 0, 29, 162, 0, 77, 4, 54, 4, 3, 54, 5, 21, 5, 42, 180, 0, 32]
abbrev dktX5_vectorsIn_0 : List UInt8 := dkwX5_vectorsIn_0 ++ dktX5_vectorsIn_1
theorem dksX5_vectorsIn_0 : cX5_vectorsIn.data.toList.drop 0 = dktX5_vectorsIn_0 := by decide +kernel
theorem dksX5_vectorsIn_1 : cX5_vectorsIn.data.toList.drop 24 = dktX5_vectorsIn_1 := dk_seg dksX5_vectorsIn_0 24 rfl rfl
theorem dksX5_vectorsIn_2 : cX5_vectorsIn.data.toList.drop 48 = dktX5_vectorsIn_2 := dk_seg dksX5_vectorsIn_1 24 rfl rfl
theorem dksX5_vectorsIn_3 : cX5_vectorsIn.data.toList.drop 72 = dktX5_vectorsIn_3 := dk_seg dksX5_vectorsIn_2 24 rfl rfl
theorem dX5_vectorsIn_0 : decode cX5_vectorsIn 0 = .ok (.iconst 0, 1) := dk_3 (dk_at dksX5_vectorsIn_0 0 rfl rfl)
theorem dX5_vectorsIn_1 : decode cX5_vectorsIn 1 = .ok (.istore_n 2, 1) := dk_61 (dk_at dksX5_vectorsIn_0 1 rfl rfl)
theorem dX5_vectorsIn_2 : decode cX5_vectorsIn 2 = .ok (.iconst 0, 1) := dk_3 (dk_at dksX5_vectorsIn_0 2 rfl rfl)
theorem dX5_vectorsIn_3 : decode cX5_vectorsIn 3 = .ok (.istore_n 3, 1) := dk_62 (dk_at dksX5_vectorsIn_0 3 rfl rfl)
theorem dX5_vectorsIn_4 : decode cX5_vectorsIn 4 = .ok (.iload_n 3, 1) := dk_29 (dk_at dksX5_vectorsIn_0 4 rfl rfl)
theorem dX5_vectorsIn_5 : decode cX5_vectorsIn 5 = .ok (.aload_n 0, 1) := dk_42 (dk_at dksX5_vectorsIn_0 5 rfl rfl)
theorem dX5_vectorsIn_6 : decode cX5_vectorsIn 6 = .ok (.getfield 29, 3) := dk_180 0 29 (dk_at dksX5_vectorsIn_0 6 rfl rfl)
theorem dX5_vectorsIn_9 : decode cX5_vectorsIn 9 = .ok (.if_icmp .ge 77, 3) := dk_162 0 77 (dk_at dksX5_vectorsIn_0 9 rfl rfl)
theorem dX5_vectorsIn_12 : decode cX5_vectorsIn 12 = .ok (.iconst 1, 1) := dk_4 (dk_at dksX5_vectorsIn_0 12 rfl rfl)
theorem dX5_vectorsIn_13 : decode cX5_vectorsIn 13 = .ok (.istore 4, 2) := dk_54 4 (dk_at dksX5_vectorsIn_0 13 rfl rfl)
theorem dX5_vectorsIn_15 : decode cX5_vectorsIn 15 = .ok (.iconst 0, 1) := dk_3 (dk_at dksX5_vectorsIn_0 15 rfl rfl)
theorem dX5_vectorsIn_16 : decode cX5_vectorsIn 16 = .ok (.istore 5, 2) := dk_54 5 (dk_at dksX5_vectorsIn_0 16 rfl rfl)
theorem dX5_vectorsIn_18 : decode cX5_vectorsIn 18 = .ok (.iload 5, 2) := dk_21 5 (dk_at dksX5_vectorsIn_0 18 rfl rfl)
theorem dX5_vectorsIn_20 : decode cX5_vectorsIn 20 = .ok (.aload_n 0, 1) := dk_42 (dk_at dksX5_vectorsIn_0 20 rfl rfl)
theorem dX5_vectorsIn_21 : decode cX5_vectorsIn 21 = .ok (.getfield 32, 3) := dk_180 0 32 (dk_at dksX5_vectorsIn_0 21 rfl rfl)
theorem dX5_vectorsIn_24 : decode cX5_vectorsIn 24 = .ok (.if_icmp .gt 41, 3) := dk_163 0 41 (dk_at dksX5_vectorsIn_1 0 rfl rfl)
theorem dX5_vectorsIn_27 : decode cX5_vectorsIn 27 = .ok (.iload 4, 2) := dk_21 4 (dk_at dksX5_vectorsIn_1 3 rfl rfl)
theorem dX5_vectorsIn_29 : decode cX5_vectorsIn 29 = .ok (.iload 5, 2) := dk_21 5 (dk_at dksX5_vectorsIn_1 5 rfl rfl)
theorem dX5_vectorsIn_31 : decode cX5_vectorsIn 31 = .ok (.iload_n 3, 1) := dk_29 (dk_at dksX5_vectorsIn_1 7 rfl rfl)
theorem dX5_vectorsIn_32 : decode cX5_vectorsIn 32 = .ok (.ishr, 1) := dk_122 (dk_at dksX5_vectorsIn_1 8 rfl rfl)
theorem dX5_vectorsIn_33 : decode cX5_vectorsIn 33 = .ok (.iconst 1, 1) := dk_4 (dk_at dksX5_vectorsIn_1 9 rfl rfl)
theorem dX5_vectorsIn_34 : decode cX5_vectorsIn 34 = .ok (.iand, 1) := dk_126 (dk_at dksX5_vectorsIn_1 10 rfl rfl)
theorem dX5_vectorsIn_35 : decode cX5_vectorsIn 35 = .ok (.iconst 1, 1) := dk_4 (dk_at dksX5_vectorsIn_1 11 rfl rfl)
theorem dX5_vectorsIn_36 : decode cX5_vectorsIn 36 = .ok (.if_icmp .eq 15, 3) := dk_159 0 15 (dk_at dksX5_vectorsIn_1 12 rfl rfl)
theorem dX5_vectorsIn_39 : decode cX5_vectorsIn 39 = .ok (.aload_n 1, 1) := dk_43 (dk_at dksX5_vectorsIn_1 15 rfl rfl)
theorem dX5_vectorsIn_40 : decode cX5_vectorsIn 40 = .ok (.getfield 47, 3) := dk_180 0 47 (dk_at dksX5_vectorsIn_1 16 rfl rfl)
theorem dX5_vectorsIn_43 : decode cX5_vectorsIn 43 = .ok (.iload 5, 2) := dk_21 5 (dk_at dksX5_vectorsIn_1 19 rfl rfl)
theorem dX5_vectorsIn_45 : decode cX5_vectorsIn 45 = .ok (.laload, 1) := dk_47 (dk_at dksX5_vectorsIn_1 21 rfl rfl)
theorem dX5_vectorsIn_46 : decode cX5_vectorsIn 46 = .ok (.lconst 0, 1) := dk_9 (dk_at dksX5_vectorsIn_1 22 rfl rfl)
theorem dX5_vectorsIn_47 : decode cX5_vectorsIn 47 = .ok (.lcmp, 1) := dk_148 (dk_at dksX5_vectorsIn_1 23 rfl rfl)
theorem dX5_vectorsIn_48 : decode cX5_vectorsIn 48 = .ok (.ifCond .ne 7, 3) := dk_154 0 7 (dk_at dksX5_vectorsIn_2 0 rfl rfl)
theorem dX5_vectorsIn_51 : decode cX5_vectorsIn 51 = .ok (.iconst 1, 1) := dk_4 (dk_at dksX5_vectorsIn_2 3 rfl rfl)
theorem dX5_vectorsIn_52 : decode cX5_vectorsIn 52 = .ok (.goto 4, 3) := dk_167 0 4 (dk_at dksX5_vectorsIn_2 4 rfl rfl)
theorem dX5_vectorsIn_55 : decode cX5_vectorsIn 55 = .ok (.iconst 0, 1) := dk_3 (dk_at dksX5_vectorsIn_2 7 rfl rfl)
theorem dX5_vectorsIn_56 : decode cX5_vectorsIn 56 = .ok (.iand, 1) := dk_126 (dk_at dksX5_vectorsIn_2 8 rfl rfl)
theorem dX5_vectorsIn_57 : decode cX5_vectorsIn 57 = .ok (.istore 4, 2) := dk_54 4 (dk_at dksX5_vectorsIn_2 9 rfl rfl)
theorem dX5_vectorsIn_59 : decode cX5_vectorsIn 59 = .ok (.iinc 5 1, 3) := dk_132 5 1 (dk_at dksX5_vectorsIn_2 11 rfl rfl)
theorem dX5_vectorsIn_62 : decode cX5_vectorsIn 62 = .ok (.goto (-44), 3) := dk_167 255 212 (dk_at dksX5_vectorsIn_2 14 rfl rfl)
theorem dX5_vectorsIn_65 : decode cX5_vectorsIn 65 = .ok (.iload_n 2, 1) := dk_28 (dk_at dksX5_vectorsIn_2 17 rfl rfl)
theorem dX5_vectorsIn_66 : decode cX5_vectorsIn 66 = .ok (.iload 4, 2) := dk_21 4 (dk_at dksX5_vectorsIn_2 18 rfl rfl)
theorem dX5_vectorsIn_68 : decode cX5_vectorsIn 68 = .ok (.ifCond .eq 9, 3) := dk_153 0 9 (dk_at dksX5_vectorsIn_2 20 rfl rfl)
theorem dX5_vectorsIn_71 : decode cX5_vectorsIn 71 = .ok (.iconst 1, 1) := dk_4 (dk_at dksX5_vectorsIn_2 23 rfl rfl)
theorem dX5_vectorsIn_72 : decode cX5_vectorsIn 72 = .ok (.iload_n 3, 1) := dk_29 (dk_at dksX5_vectorsIn_3 0 rfl rfl)
theorem dX5_vectorsIn_73 : decode cX5_vectorsIn 73 = .ok (.ishl, 1) := dk_120 (dk_at dksX5_vectorsIn_3 1 rfl rfl)
theorem dX5_vectorsIn_74 : decode cX5_vectorsIn 74 = .ok (.goto 4, 3) := dk_167 0 4 (dk_at dksX5_vectorsIn_3 2 rfl rfl)
theorem dX5_vectorsIn_77 : decode cX5_vectorsIn 77 = .ok (.iconst 0, 1) := dk_3 (dk_at dksX5_vectorsIn_3 5 rfl rfl)
theorem dX5_vectorsIn_78 : decode cX5_vectorsIn 78 = .ok (.ior, 1) := dk_128 (dk_at dksX5_vectorsIn_3 6 rfl rfl)
theorem dX5_vectorsIn_79 : decode cX5_vectorsIn 79 = .ok (.istore_n 2, 1) := dk_61 (dk_at dksX5_vectorsIn_3 7 rfl rfl)
theorem dX5_vectorsIn_80 : decode cX5_vectorsIn 80 = .ok (.iinc 3 1, 3) := dk_132 3 1 (dk_at dksX5_vectorsIn_3 8 rfl rfl)
theorem dX5_vectorsIn_83 : decode cX5_vectorsIn 83 = .ok (.goto (-79), 3) := dk_167 255 177 (dk_at dksX5_vectorsIn_3 11 rfl rfl)
theorem dX5_vectorsIn_86 : decode cX5_vectorsIn 86 = .ok (.iload_n 2, 1) := dk_28 (dk_at dksX5_vectorsIn_3 14 rfl rfl)
theorem dX5_vectorsIn_87 : decode cX5_vectorsIn 87 = .ok (.ireturn, 1) := dk_172 (dk_at dksX5_vectorsIn_3 15 rfl rfl)
theorem q101 : (Jvm.Cond.initialized "BladeAlgebra$Algebra") ∈ lw_all := lw_g (lw_at lw_m1 6 rfl) rfl
theorem q184 : (Jvm.Cond.instantiable "BladeAlgebra$Algebra" (6 : Nat)) ∈ lw_all := lw_g (lw_at lw_m1 89 rfl) rfl
theorem q186 : (Jvm.Cond.instanceMethod ({ cls := "BladeAlgebra$Algebra", name := "<init>", desc := "()V" } : Jvm.MethodName)) ∈ lw_all := lw_g (lw_at lw_m1 91 rfl) rfl
theorem q187 : (Jvm.Cond.code ({ cls := "BladeAlgebra$Algebra", name := "<init>", desc := "()V" } : Jvm.MethodName) prog_2_method_1_code (1 : Nat) (Option.none : Option Jvm.ClassFile.FieldType)) ∈ lw_all := lw_g (lw_at lw_m1 92 rfl) rfl
theorem q188 : (Jvm.Cond.methodLink "BladeAlgebra$Algebra" (3 : Nat) ({ cls := "BladeAlgebra$Algebra", name := "<init>", desc := "(III)V" } : Jvm.MethodName)) ∈ lw_all := lw_g (lw_at lw_m1 93 rfl) rfl
theorem q189 : (Jvm.Cond.instanceMethod ({ cls := "BladeAlgebra$Algebra", name := "<init>", desc := "(III)V" } : Jvm.MethodName)) ∈ lw_all := lw_g (lw_at lw_m1 94 rfl) rfl
theorem q190 : (Jvm.Cond.code ({ cls := "BladeAlgebra$Algebra", name := "<init>", desc := "(III)V" } : Jvm.MethodName) prog_2_method_2_code (6 : Nat) (Option.none : Option Jvm.ClassFile.FieldType)) ∈ lw_all := lw_g (lw_at lw_m1 95 rfl) rfl
theorem q191 : (Jvm.Cond.methodLink "BladeAlgebra$Algebra" (9 : Nat) ({ cls := "java/lang/Object", name := "<init>", desc := "()V" } : Jvm.MethodName)) ∈ lw_all := lw_g (lw_at lw_m1 96 rfl) rfl
theorem q192 : (Jvm.Cond.classLink "BladeAlgebra$Algebra" (14 : Nat) "[[I") ∈ lw_all := lw_g (lw_at lw_m1 97 rfl) rfl
theorem q194 : (Jvm.Cond.methodLink "BladeAlgebra$Algebra" (35 : Nat) ({ cls := "BladeAlgebra$Algebra", name := "signOf", desc := "(II)I" } : Jvm.MethodName)) ∈ lw_all := lw_g (lw_at lw_m1 99 rfl) rfl
theorem q195 : (Jvm.Cond.privateMethod ({ cls := "BladeAlgebra$Algebra", name := "signOf", desc := "(II)I" } : Jvm.MethodName)) ∈ lw_tbl := lw_at lw_m1 100 rfl
theorem q196 : (Jvm.Cond.instanceMethod ({ cls := "BladeAlgebra$Algebra", name := "signOf", desc := "(II)I" } : Jvm.MethodName)) ∈ lw_all := lw_g (lw_at lw_m1 101 rfl) rfl
theorem q197 : (Jvm.Cond.code ({ cls := "BladeAlgebra$Algebra", name := "signOf", desc := "(II)I" } : Jvm.MethodName) prog_2_method_3_code (6 : Nat) (Option.some Jvm.ClassFile.FieldType.int)) ∈ lw_all := lw_g (lw_at lw_m1 102 rfl) rfl
theorem q198 : (Jvm.Cond.fieldLinkNest "BladeAlgebra$Algebra" (39 : Nat) "BladeAlgebra" "GRADE" "[I" "BladeAlgebra") ∈ lw_tbl := lw_at lw_m1 103 rfl
theorem q200 : (Jvm.Cond.fieldLink "BladeAlgebra$Algebra" (19 : Nat) "BladeAlgebra$Algebra" "p" "I") ∈ lw_all := lw_g (lw_at lw_m1 105 rfl) rfl
theorem q202 : (Jvm.Cond.fieldLink "BladeAlgebra$Algebra" (23 : Nat) "BladeAlgebra$Algebra" "q" "I") ∈ lw_all := lw_g (lw_at lw_m1 107 rfl) rfl
theorem q205 : (Jvm.Cond.fieldLink "BladeAlgebra$Algebra" (26 : Nat) "BladeAlgebra$Algebra" "r" "I") ∈ lw_all := lw_g (lw_at lw_m1 110 rfl) rfl
theorem q207 : (Jvm.Cond.fieldLink "BladeAlgebra$Algebra" (29 : Nat) "BladeAlgebra$Algebra" "n" "I") ∈ lw_all := lw_g (lw_at lw_m1 112 rfl) rfl
theorem q211 : (Jvm.Cond.fieldLink "BladeAlgebra$Algebra" (32 : Nat) "BladeAlgebra$Algebra" "last" "I") ∈ lw_all := lw_g (lw_at lw_m1 116 rfl) rfl
theorem q213 : (Jvm.Cond.fieldLink "BladeAlgebra$Algebra" (16 : Nat) "BladeAlgebra$Algebra" "sign" "[[I") ∈ lw_all := lw_g (lw_at lw_m1 118 rfl) rfl
theorem q217 : (Jvm.Cond.laysFinal "BladeAlgebra$Algebra" "BladeAlgebra$Algebra" "p" "I") ∈ lw_all := lw_g (lw_at lw_m1 122 rfl) rfl
theorem q218 : (Jvm.Cond.soleField "BladeAlgebra$Algebra" "p") ∈ lw_all := lw_g (lw_at lw_m1 123 rfl) rfl
theorem q219 : (Jvm.Cond.laysFinal "BladeAlgebra$Algebra" "BladeAlgebra$Algebra" "q" "I") ∈ lw_all := lw_g (lw_at lw_m1 124 rfl) rfl
theorem q220 : (Jvm.Cond.soleField "BladeAlgebra$Algebra" "q") ∈ lw_all := lw_g (lw_at lw_m1 125 rfl) rfl
theorem q221 : (Jvm.Cond.laysFinal "BladeAlgebra$Algebra" "BladeAlgebra$Algebra" "r" "I") ∈ lw_all := lw_g (lw_at lw_m1 126 rfl) rfl
theorem q222 : (Jvm.Cond.soleField "BladeAlgebra$Algebra" "r") ∈ lw_all := lw_g (lw_at lw_m1 127 rfl) rfl
theorem q223 : (Jvm.Cond.laysFinal "BladeAlgebra$Algebra" "BladeAlgebra$Algebra" "n" "I") ∈ lw_all := lw_g (lw_at lw_m1 128 rfl) rfl
theorem q224 : (Jvm.Cond.soleField "BladeAlgebra$Algebra" "n") ∈ lw_all := lw_g (lw_at lw_m1 129 rfl) rfl
theorem q225 : (Jvm.Cond.laysFinal "BladeAlgebra$Algebra" "BladeAlgebra$Algebra" "last" "I") ∈ lw_all := lw_g (lw_at lw_m1 130 rfl) rfl
theorem q226 : (Jvm.Cond.soleField "BladeAlgebra$Algebra" "last") ∈ lw_all := lw_g (lw_at lw_m1 131 rfl) rfl
theorem q227 : (Jvm.Cond.laysFinal "BladeAlgebra$Algebra" "BladeAlgebra$Algebra" "sign" "[[I") ∈ lw_all := lw_g (lw_at lw_m1 132 rfl) rfl
theorem q228 : (Jvm.Cond.soleField "BladeAlgebra$Algebra" "sign") ∈ lw_all := lw_g (lw_at lw_m1 133 rfl) rfl
theorem q229 : (Jvm.Cond.superclass "BladeAlgebra$Algebra" "java/lang/Object") ∈ lw_all := lw_g (lw_at lw_m1 134 rfl) rfl
theorem q494 : (Jvm.Cond.instanceMethod ({ cls := "BladeAlgebra$Algebra", name := "isBlade", desc := "(I)Z" } : Jvm.MethodName)) ∈ lw_all := lw_g (lw_at lw_m2 159 rfl) rfl
theorem q495 : (Jvm.Cond.selects "BladeAlgebra$Algebra" ({ cls := "BladeAlgebra$Algebra", name := "isBlade", desc := "(I)Z" } : Jvm.MethodName) ({ cls := "BladeAlgebra$Algebra", name := "isBlade", desc := "(I)Z" } : Jvm.MethodName)) ∈ lw_all := lw_g (lw_at lw_m2 160 rfl) rfl
theorem q496 : (Jvm.Cond.code ({ cls := "BladeAlgebra$Algebra", name := "isBlade", desc := "(I)Z" } : Jvm.MethodName) prog_2_method_4_code (2 : Nat) (Option.some Jvm.ClassFile.FieldType.boolean)) ∈ lw_all := lw_g (lw_at lw_m2 161 rfl) rfl
theorem q497 : (Jvm.Cond.methodLinkNest "BladeAlgebra$Algebra" (43 : Nat) ({ cls := "BladeAlgebra", name := "isIn", desc := "(JJJ)Z" } : Jvm.MethodName) "BladeAlgebra") ∈ lw_tbl := lw_at lw_m2 162 rfl
theorem q551 : (Jvm.Cond.fieldLinkNest "BladeAlgebra$Algebra" (47 : Nat) "BladeAlgebra$Multi" "row" "[J" "BladeAlgebra") ∈ lw_tbl := lw_at lw_m2 216 rfl
theorem q555 : (Jvm.Cond.fieldLinkNest "BladeAlgebra$Algebra" (59 : Nat) "BladeAlgebra$Multi" "under" "J" "BladeAlgebra") ∈ lw_tbl := lw_at lw_m2 220 rfl
theorem q652 : (Jvm.Cond.instanceMethod ({ cls := "BladeAlgebra$Algebra", name := "product", desc := "(LBladeAlgebra$Multi;LBladeAlgebra$Multi;)LBladeAlgebra$Multi;" } : Jvm.MethodName)) ∈ lw_all := lw_g (lw_at lw_m3 77 rfl) rfl
theorem q653 : (Jvm.Cond.selects "BladeAlgebra$Algebra" ({ cls := "BladeAlgebra$Algebra", name := "product", desc := "(LBladeAlgebra$Multi;LBladeAlgebra$Multi;)LBladeAlgebra$Multi;" } : Jvm.MethodName) ({ cls := "BladeAlgebra$Algebra", name := "product", desc := "(LBladeAlgebra$Multi;LBladeAlgebra$Multi;)LBladeAlgebra$Multi;" } : Jvm.MethodName)) ∈ lw_all := lw_g (lw_at lw_m3 78 rfl) rfl
theorem q654 : (Jvm.Cond.code ({ cls := "BladeAlgebra$Algebra", name := "product", desc := "(LBladeAlgebra$Multi;LBladeAlgebra$Multi;)LBladeAlgebra$Multi;" } : Jvm.MethodName) prog_2_method_6_code (3 : Nat) (Option.some (Jvm.ClassFile.FieldType.object "BladeAlgebra$Multi"))) ∈ lw_all := lw_g (lw_at lw_m3 79 rfl) rfl
theorem q655 : (Jvm.Cond.fieldLink "BladeAlgebra$Algebra" (67 : Nat) "BladeAlgebra$Product" "ALL" "LBladeAlgebra$Product;") ∈ lw_all := lw_g (lw_at lw_m3 80 rfl) rfl
theorem q657 : (Jvm.Cond.methodLink "BladeAlgebra$Algebra" (71 : Nat) ({ cls := "BladeAlgebra$Algebra", name := "product", desc := "(LBladeAlgebra$Multi;LBladeAlgebra$Multi;LBladeAlgebra$Product;)LBladeAlgebra$Multi;" } : Jvm.MethodName)) ∈ lw_all := lw_g (lw_at lw_m3 82 rfl) rfl
theorem q658 : (Jvm.Cond.instanceMethod ({ cls := "BladeAlgebra$Algebra", name := "product", desc := "(LBladeAlgebra$Multi;LBladeAlgebra$Multi;LBladeAlgebra$Product;)LBladeAlgebra$Multi;" } : Jvm.MethodName)) ∈ lw_all := lw_g (lw_at lw_m3 83 rfl) rfl
theorem q659 : (Jvm.Cond.selects "BladeAlgebra$Algebra" ({ cls := "BladeAlgebra$Algebra", name := "product", desc := "(LBladeAlgebra$Multi;LBladeAlgebra$Multi;LBladeAlgebra$Product;)LBladeAlgebra$Multi;" } : Jvm.MethodName) ({ cls := "BladeAlgebra$Algebra", name := "product", desc := "(LBladeAlgebra$Multi;LBladeAlgebra$Multi;LBladeAlgebra$Product;)LBladeAlgebra$Multi;" } : Jvm.MethodName)) ∈ lw_all := lw_g (lw_at lw_m3 84 rfl) rfl
theorem q660 : (Jvm.Cond.code ({ cls := "BladeAlgebra$Algebra", name := "product", desc := "(LBladeAlgebra$Multi;LBladeAlgebra$Multi;LBladeAlgebra$Product;)LBladeAlgebra$Multi;" } : Jvm.MethodName) prog_2_method_5_code (7 : Nat) (Option.some (Jvm.ClassFile.FieldType.object "BladeAlgebra$Multi"))) ∈ lw_all := lw_g (lw_at lw_m3 85 rfl) rfl
theorem q661 : (Jvm.Cond.methodLink "BladeAlgebra$Algebra" (53 : Nat) ({ cls := "BladeAlgebra$Product", name := "takes", desc := "(III)Z" } : Jvm.MethodName)) ∈ lw_all := lw_g (lw_at lw_m3 86 rfl) rfl
theorem q679 : (Jvm.Cond.methodLink "BladeAlgebra$Algebra" (63 : Nat) ({ cls := "BladeAlgebra$Multi", name := "fit", desc := "([JJ)LBladeAlgebra$Multi;" } : Jvm.MethodName)) ∈ lw_all := lw_g (lw_at lw_m3 104 rfl) rfl
theorem q708 : (Jvm.Cond.instanceMethod ({ cls := "BladeAlgebra$Algebra", name := "complement", desc := "(LBladeAlgebra$Multi;Z)LBladeAlgebra$Multi;" } : Jvm.MethodName)) ∈ lw_all := lw_g (lw_at lw_m3 133 rfl) rfl
theorem q709 : (Jvm.Cond.selects "BladeAlgebra$Algebra" ({ cls := "BladeAlgebra$Algebra", name := "complement", desc := "(LBladeAlgebra$Multi;Z)LBladeAlgebra$Multi;" } : Jvm.MethodName) ({ cls := "BladeAlgebra$Algebra", name := "complement", desc := "(LBladeAlgebra$Multi;Z)LBladeAlgebra$Multi;" } : Jvm.MethodName)) ∈ lw_all := lw_g (lw_at lw_m3 134 rfl) rfl
theorem q710 : (Jvm.Cond.code ({ cls := "BladeAlgebra$Algebra", name := "complement", desc := "(LBladeAlgebra$Multi;Z)LBladeAlgebra$Multi;" } : Jvm.MethodName) prog_2_method_7_code (6 : Nat) (Option.some (Jvm.ClassFile.FieldType.object "BladeAlgebra$Multi"))) ∈ lw_all := lw_g (lw_at lw_m3 135 rfl) rfl
theorem q711 : (Jvm.Cond.methodLink "BladeAlgebra$Algebra" (75 : Nat) ({ cls := "BladeAlgebra$Algebra", name := "outerSign", desc := "(II)I" } : Jvm.MethodName)) ∈ lw_all := lw_g (lw_at lw_m3 136 rfl) rfl
theorem q712 : (Jvm.Cond.privateMethod ({ cls := "BladeAlgebra$Algebra", name := "outerSign", desc := "(II)I" } : Jvm.MethodName)) ∈ lw_tbl := lw_at lw_m3 137 rfl
theorem q713 : (Jvm.Cond.instanceMethod ({ cls := "BladeAlgebra$Algebra", name := "outerSign", desc := "(II)I" } : Jvm.MethodName)) ∈ lw_all := lw_g (lw_at lw_m3 138 rfl) rfl
theorem q714 : (Jvm.Cond.code ({ cls := "BladeAlgebra$Algebra", name := "outerSign", desc := "(II)I" } : Jvm.MethodName) prog_2_method_8_code (5 : Nat) (Option.some Jvm.ClassFile.FieldType.int)) ∈ lw_all := lw_g (lw_at lw_m3 139 rfl) rfl
theorem q715 : (Jvm.Cond.methodLinkNest "BladeAlgebra$Algebra" (78 : Nat) ({ cls := "BladeAlgebra$Multi", name := "reduced", desc := "([J)LBladeAlgebra$Multi;" } : Jvm.MethodName) "BladeAlgebra") ∈ lw_tbl := lw_at lw_m3 140 rfl
theorem q879 : (Jvm.Cond.instanceMethod ({ cls := "BladeAlgebra$Algebra", name := "isBlade", desc := "(LBladeAlgebra$Multi;)Z" } : Jvm.MethodName)) ∈ lw_all := lw_g (lw_at lw_m4 64 rfl) rfl
theorem q880 : (Jvm.Cond.selects "BladeAlgebra$Algebra" ({ cls := "BladeAlgebra$Algebra", name := "isBlade", desc := "(LBladeAlgebra$Multi;)Z" } : Jvm.MethodName) ({ cls := "BladeAlgebra$Algebra", name := "isBlade", desc := "(LBladeAlgebra$Multi;)Z" } : Jvm.MethodName)) ∈ lw_all := lw_g (lw_at lw_m4 65 rfl) rfl
theorem q881 : (Jvm.Cond.code ({ cls := "BladeAlgebra$Algebra", name := "isBlade", desc := "(LBladeAlgebra$Multi;)Z" } : Jvm.MethodName) prog_2_method_11_code (5 : Nat) (Option.some Jvm.ClassFile.FieldType.boolean)) ∈ lw_all := lw_g (lw_at lw_m4 66 rfl) rfl
theorem q882 : (Jvm.Cond.methodLink "BladeAlgebra$Algebra" (82 : Nat) ({ cls := "BladeAlgebra$Multi", name := "grades", desc := "()I" } : Jvm.MethodName)) ∈ lw_all := lw_g (lw_at lw_m4 67 rfl) rfl
theorem q883 : (Jvm.Cond.methodLink "BladeAlgebra$Algebra" (86 : Nat) ({ cls := "BladeAlgebra$Algebra", name := "left", desc := "(LBladeAlgebra$Multi;I)[J" } : Jvm.MethodName)) ∈ lw_all := lw_g (lw_at lw_m4 68 rfl) rfl
theorem q884 : (Jvm.Cond.instanceMethod ({ cls := "BladeAlgebra$Algebra", name := "left", desc := "(LBladeAlgebra$Multi;I)[J" } : Jvm.MethodName)) ∈ lw_all := lw_g (lw_at lw_m4 69 rfl) rfl
theorem q885 : (Jvm.Cond.selects "BladeAlgebra$Algebra" ({ cls := "BladeAlgebra$Algebra", name := "left", desc := "(LBladeAlgebra$Multi;I)[J" } : Jvm.MethodName) ({ cls := "BladeAlgebra$Algebra", name := "left", desc := "(LBladeAlgebra$Multi;I)[J" } : Jvm.MethodName)) ∈ lw_all := lw_g (lw_at lw_m4 70 rfl) rfl
theorem q886 : (Jvm.Cond.code ({ cls := "BladeAlgebra$Algebra", name := "left", desc := "(LBladeAlgebra$Multi;I)[J" } : Jvm.MethodName) prog_2_method_9_code (5 : Nat) (Option.some (Jvm.ClassFile.FieldType.array Jvm.ClassFile.FieldType.long))) ∈ lw_all := lw_g (lw_at lw_m4 71 rfl) rfl
theorem q887 : (Jvm.Cond.methodLink "BladeAlgebra$Algebra" (90 : Nat) ({ cls := "BladeAlgebra$Algebra", name := "isOuterZero", desc := "([JLBladeAlgebra$Multi;)Z" } : Jvm.MethodName)) ∈ lw_all := lw_g (lw_at lw_m4 72 rfl) rfl
theorem q888 : (Jvm.Cond.privateMethod ({ cls := "BladeAlgebra$Algebra", name := "isOuterZero", desc := "([JLBladeAlgebra$Multi;)Z" } : Jvm.MethodName)) ∈ lw_tbl := lw_at lw_m4 73 rfl
theorem q889 : (Jvm.Cond.instanceMethod ({ cls := "BladeAlgebra$Algebra", name := "isOuterZero", desc := "([JLBladeAlgebra$Multi;)Z" } : Jvm.MethodName)) ∈ lw_all := lw_g (lw_at lw_m4 74 rfl) rfl
theorem q890 : (Jvm.Cond.code ({ cls := "BladeAlgebra$Algebra", name := "isOuterZero", desc := "([JLBladeAlgebra$Multi;)Z" } : Jvm.MethodName) prog_2_method_10_code (7 : Nat) (Option.some Jvm.ClassFile.FieldType.boolean)) ∈ lw_all := lw_g (lw_at lw_m4 75 rfl) rfl
theorem q1119 : (Jvm.Cond.instanceMethod ({ cls := "BladeAlgebra$Algebra", name := "vectorsIn", desc := "(LBladeAlgebra$Multi;)I" } : Jvm.MethodName)) ∈ lw_all := lw_g (lw_at lw_m5 64 rfl) rfl
theorem q1120 : (Jvm.Cond.selects "BladeAlgebra$Algebra" ({ cls := "BladeAlgebra$Algebra", name := "vectorsIn", desc := "(LBladeAlgebra$Multi;)I" } : Jvm.MethodName) ({ cls := "BladeAlgebra$Algebra", name := "vectorsIn", desc := "(LBladeAlgebra$Multi;)I" } : Jvm.MethodName)) ∈ lw_all := lw_g (lw_at lw_m5 65 rfl) rfl
theorem q1121 : (Jvm.Cond.code ({ cls := "BladeAlgebra$Algebra", name := "vectorsIn", desc := "(LBladeAlgebra$Multi;)I" } : Jvm.MethodName) prog_2_method_12_code (6 : Nat) (Option.some Jvm.ClassFile.FieldType.int)) ∈ lw_all := lw_g (lw_at lw_m5 66 rfl) rfl
theorem q1652 : (Jvm.Cond.selects "BladeAlgebra$Algebra" ({ cls := "java/lang/Object", name := "getClass", desc := "()Ljava/lang/Class;" } : Jvm.MethodName) ({ cls := "java/lang/Object", name := "getClass", desc := "()Ljava/lang/Class;" } : Jvm.MethodName)) ∈ lw_all := lw_g (lw_at lw_m7 117 rfl) rfl
theorem q2595 : (Jvm.Cond.castable "BladeAlgebra$Algebra" "java/lang/Object") ∈ lw_tbl := lw_at lw_m11 100 rfl
theorem in_X5 : ∀ w ∈ wsX50, w ∈ lw_all := lw_in wsX50 [217, 219, 221, 223, 225, 227] (by decide +kernel) (by decide +kernel)
/-! BladeAlgebra$Multi -/
set_option maxRecDepth 100000
def RX6 : String := "BladeAlgebra$Multi"
def TX6 : u_T := fun k => match k with
  | 0 => ("BladeAlgebra$Multi", "row", "[J", true)
  | _ => ("BladeAlgebra$Multi", "under", "J", true)
def tyX6 : Nat → FieldType := fun k => match k with
  | 0 => .array .long
  | _ => .long
abbrev wsX60 : List Cond := u_ws RX6 TX6 2
theorem nmX6 : ∀ a, a < 2 → ∀ b, b < 2 → a ≠ b → (TX6 a).2.1 ≠ (TX6 b).2.1 := by decide +kernel
theorem tyX6_ok : ∀ k, k < 2 → parseFieldDescriptor (TX6 k).2.2.1 = some (tyX6 k) := by decide +kernel
abbrev cX6_with : ByteArray := prog_6_method_5_code
def yX6_with : MethodName := ⟨RX6, "with", "(IJJ)LBladeAlgebra$Multi;"⟩
def dkwX6_with_2 : List UInt8 := [25, 6, 42, 180, 0, 18, 22, 4, 105, 184, 0, 37, 176]
abbrev dktX6_with_2 : List UInt8 := dkwX6_with_2 ++ []
def dkwX6_with_1 : List UInt8 := [21, 7, 92, 47, 22, 4, 105, 80, 132, 7, 1, 167, 255, 236, 25, 6, 27, 32, 42, 180, 0, 18, 105, 80]
abbrev dktX6_with_1 : List UInt8 := dkwX6_with_1 ++ dktX6_with_2
def dkwX6_with_0 : List UInt8 := [42, 180, 0, 14, 182, 0, 41, 192, 0, 42, 58, 6, 3, 54, 7, 21, 7, 16, 32, 162, 0, 19, 25, 6]
abbrev dktX6_with_0 : List UInt8 := dkwX6_with_0 ++ dktX6_with_1
theorem dksX6_with_0 : cX6_with.data.toList.drop 0 = dktX6_with_0 := by decide +kernel
theorem dksX6_with_1 : cX6_with.data.toList.drop 24 = dktX6_with_1 := dk_seg dksX6_with_0 24 rfl rfl
theorem dksX6_with_2 : cX6_with.data.toList.drop 48 = dktX6_with_2 := dk_seg dksX6_with_1 24 rfl rfl
theorem dX6_with_0 : decode cX6_with 0 = .ok (.aload_n 0, 1) := dk_42 (dk_at dksX6_with_0 0 rfl rfl)
theorem dX6_with_1 : decode cX6_with 1 = .ok (.getfield 14, 3) := dk_180 0 14 (dk_at dksX6_with_0 1 rfl rfl)
theorem dX6_with_4 : decode cX6_with 4 = .ok (.invokevirtual 41, 3) := dk_182 0 41 (dk_at dksX6_with_0 4 rfl rfl)
theorem dX6_with_7 : decode cX6_with 7 = .ok (.checkcast 42, 3) := dk_192 0 42 (dk_at dksX6_with_0 7 rfl rfl)
theorem dX6_with_10 : decode cX6_with 10 = .ok (.astore 6, 2) := dk_58 6 (dk_at dksX6_with_0 10 rfl rfl)
theorem dX6_with_12 : decode cX6_with 12 = .ok (.iconst 0, 1) := dk_3 (dk_at dksX6_with_0 12 rfl rfl)
theorem dX6_with_13 : decode cX6_with 13 = .ok (.istore 7, 2) := dk_54 7 (dk_at dksX6_with_0 13 rfl rfl)
theorem dX6_with_15 : decode cX6_with 15 = .ok (.iload 7, 2) := dk_21 7 (dk_at dksX6_with_0 15 rfl rfl)
theorem dX6_with_17 : decode cX6_with 17 = .ok (.bipush 32, 2) := dk_16 32 (dk_at dksX6_with_0 17 rfl rfl)
theorem dX6_with_19 : decode cX6_with 19 = .ok (.if_icmp .ge 19, 3) := dk_162 0 19 (dk_at dksX6_with_0 19 rfl rfl)
theorem dX6_with_22 : decode cX6_with 22 = .ok (.aload 6, 2) := dk_25 6 (dk_at dksX6_with_0 22 rfl rfl)
theorem dX6_with_24 : decode cX6_with 24 = .ok (.iload 7, 2) := dk_21 7 (dk_at dksX6_with_1 0 rfl rfl)
theorem dX6_with_26 : decode cX6_with 26 = .ok (.dup2, 1) := dk_92 (dk_at dksX6_with_1 2 rfl rfl)
theorem dX6_with_27 : decode cX6_with 27 = .ok (.laload, 1) := dk_47 (dk_at dksX6_with_1 3 rfl rfl)
theorem dX6_with_28 : decode cX6_with 28 = .ok (.lload 4, 2) := dk_22 4 (dk_at dksX6_with_1 4 rfl rfl)
theorem dX6_with_30 : decode cX6_with 30 = .ok (.lmul, 1) := dk_105 (dk_at dksX6_with_1 6 rfl rfl)
theorem dX6_with_31 : decode cX6_with 31 = .ok (.lastore, 1) := dk_80 (dk_at dksX6_with_1 7 rfl rfl)
theorem dX6_with_32 : decode cX6_with 32 = .ok (.iinc 7 1, 3) := dk_132 7 1 (dk_at dksX6_with_1 8 rfl rfl)
theorem dX6_with_35 : decode cX6_with 35 = .ok (.goto (-20), 3) := dk_167 255 236 (dk_at dksX6_with_1 11 rfl rfl)
theorem dX6_with_38 : decode cX6_with 38 = .ok (.aload 6, 2) := dk_25 6 (dk_at dksX6_with_1 14 rfl rfl)
theorem dX6_with_40 : decode cX6_with 40 = .ok (.iload_n 1, 1) := dk_27 (dk_at dksX6_with_1 16 rfl rfl)
theorem dX6_with_41 : decode cX6_with 41 = .ok (.lload_n 2, 1) := dk_32 (dk_at dksX6_with_1 17 rfl rfl)
theorem dX6_with_42 : decode cX6_with 42 = .ok (.aload_n 0, 1) := dk_42 (dk_at dksX6_with_1 18 rfl rfl)
theorem dX6_with_43 : decode cX6_with 43 = .ok (.getfield 18, 3) := dk_180 0 18 (dk_at dksX6_with_1 19 rfl rfl)
theorem dX6_with_46 : decode cX6_with 46 = .ok (.lmul, 1) := dk_105 (dk_at dksX6_with_1 22 rfl rfl)
theorem dX6_with_47 : decode cX6_with 47 = .ok (.lastore, 1) := dk_80 (dk_at dksX6_with_1 23 rfl rfl)
theorem dX6_with_48 : decode cX6_with 48 = .ok (.aload 6, 2) := dk_25 6 (dk_at dksX6_with_2 0 rfl rfl)
theorem dX6_with_50 : decode cX6_with 50 = .ok (.aload_n 0, 1) := dk_42 (dk_at dksX6_with_2 2 rfl rfl)
theorem dX6_with_51 : decode cX6_with 51 = .ok (.getfield 18, 3) := dk_180 0 18 (dk_at dksX6_with_2 3 rfl rfl)
theorem dX6_with_54 : decode cX6_with 54 = .ok (.lload 4, 2) := dk_22 4 (dk_at dksX6_with_2 6 rfl rfl)
theorem dX6_with_56 : decode cX6_with 56 = .ok (.lmul, 1) := dk_105 (dk_at dksX6_with_2 8 rfl rfl)
theorem dX6_with_57 : decode cX6_with 57 = .ok (.invokestatic 37, 3) := dk_184 0 37 (dk_at dksX6_with_2 9 rfl rfl)
theorem dX6_with_60 : decode cX6_with 60 = .ok (.areturn, 1) := dk_176 (dk_at dksX6_with_2 12 rfl rfl)
abbrev cX6_fit : ByteArray := prog_6_method_3_code
def yX6_fit : MethodName := ⟨RX6, "fit", "([JJ)LBladeAlgebra$Multi;"⟩
def dkwX6_fit_4 : List UInt8 := [158, 0, 11, 187, 0, 34, 89, 183, 0, 36, 191, 187, 0, 4, 89, 42, 31, 33, 109, 183, 0, 3, 176]
abbrev dktX6_fit_4 : List UInt8 := dkwX6_fit_4 ++ []
def dkwX6_fit_3 : List UInt8 := [158, 0, 11, 187, 0, 34, 89, 183, 0, 36, 191, 132, 5, 1, 167, 255, 216, 31, 33, 109, 20, 0, 32, 148]
abbrev dktX6_fit_3 : List UInt8 := dkwX6_fit_3 ++ dktX6_fit_4
def dkwX6_fit_2 : List UInt8 := [162, 0, 39, 42, 21, 5, 92, 47, 33, 109, 80, 42, 21, 5, 47, 184, 0, 26, 20, 0, 32, 148]
abbrev dktX6_fit_2 : List UInt8 := dkwX6_fit_2 ++ dktX6_fit_3
def dkwX6_fit_1 : List UInt8 := [167, 255, 237, 31, 9, 148, 156, 0, 8, 33, 117, 167, 0, 4, 33, 66, 3, 54, 5, 21, 5, 16, 32]
abbrev dktX6_fit_1 : List UInt8 := dkwX6_fit_1 ++ dktX6_fit_2
def dkwX6_fit_0 : List UInt8 := [31, 66, 3, 54, 5, 21, 5, 16, 32, 162, 0, 18, 33, 42, 21, 5, 47, 184, 0, 22, 66, 132, 5, 1]
abbrev dktX6_fit_0 : List UInt8 := dkwX6_fit_0 ++ dktX6_fit_1
theorem dksX6_fit_0 : cX6_fit.data.toList.drop 0 = dktX6_fit_0 := by decide +kernel
theorem dksX6_fit_1 : cX6_fit.data.toList.drop 24 = dktX6_fit_1 := dk_seg dksX6_fit_0 24 rfl rfl
theorem dksX6_fit_2 : cX6_fit.data.toList.drop 47 = dktX6_fit_2 := dk_seg dksX6_fit_1 23 rfl rfl
theorem dksX6_fit_3 : cX6_fit.data.toList.drop 69 = dktX6_fit_3 := dk_seg dksX6_fit_2 22 rfl rfl
theorem dksX6_fit_4 : cX6_fit.data.toList.drop 93 = dktX6_fit_4 := dk_seg dksX6_fit_3 24 rfl rfl
theorem dX6_fit_0 : decode cX6_fit 0 = .ok (.lload_n 1, 1) := dk_31 (dk_at dksX6_fit_0 0 rfl rfl)
theorem dX6_fit_1 : decode cX6_fit 1 = .ok (.lstore_n 3, 1) := dk_66 (dk_at dksX6_fit_0 1 rfl rfl)
theorem dX6_fit_2 : decode cX6_fit 2 = .ok (.iconst 0, 1) := dk_3 (dk_at dksX6_fit_0 2 rfl rfl)
theorem dX6_fit_3 : decode cX6_fit 3 = .ok (.istore 5, 2) := dk_54 5 (dk_at dksX6_fit_0 3 rfl rfl)
theorem dX6_fit_5 : decode cX6_fit 5 = .ok (.iload 5, 2) := dk_21 5 (dk_at dksX6_fit_0 5 rfl rfl)
theorem dX6_fit_7 : decode cX6_fit 7 = .ok (.bipush 32, 2) := dk_16 32 (dk_at dksX6_fit_0 7 rfl rfl)
theorem dX6_fit_9 : decode cX6_fit 9 = .ok (.if_icmp .ge 18, 3) := dk_162 0 18 (dk_at dksX6_fit_0 9 rfl rfl)
theorem dX6_fit_12 : decode cX6_fit 12 = .ok (.lload_n 3, 1) := dk_33 (dk_at dksX6_fit_0 12 rfl rfl)
theorem dX6_fit_13 : decode cX6_fit 13 = .ok (.aload_n 0, 1) := dk_42 (dk_at dksX6_fit_0 13 rfl rfl)
theorem dX6_fit_14 : decode cX6_fit 14 = .ok (.iload 5, 2) := dk_21 5 (dk_at dksX6_fit_0 14 rfl rfl)
theorem dX6_fit_16 : decode cX6_fit 16 = .ok (.laload, 1) := dk_47 (dk_at dksX6_fit_0 16 rfl rfl)
theorem dX6_fit_17 : decode cX6_fit 17 = .ok (.invokestatic 22, 3) := dk_184 0 22 (dk_at dksX6_fit_0 17 rfl rfl)
theorem dX6_fit_20 : decode cX6_fit 20 = .ok (.lstore_n 3, 1) := dk_66 (dk_at dksX6_fit_0 20 rfl rfl)
theorem dX6_fit_21 : decode cX6_fit 21 = .ok (.iinc 5 1, 3) := dk_132 5 1 (dk_at dksX6_fit_0 21 rfl rfl)
theorem dX6_fit_24 : decode cX6_fit 24 = .ok (.goto (-19), 3) := dk_167 255 237 (dk_at dksX6_fit_1 0 rfl rfl)
theorem dX6_fit_27 : decode cX6_fit 27 = .ok (.lload_n 1, 1) := dk_31 (dk_at dksX6_fit_1 3 rfl rfl)
theorem dX6_fit_28 : decode cX6_fit 28 = .ok (.lconst 0, 1) := dk_9 (dk_at dksX6_fit_1 4 rfl rfl)
theorem dX6_fit_29 : decode cX6_fit 29 = .ok (.lcmp, 1) := dk_148 (dk_at dksX6_fit_1 5 rfl rfl)
theorem dX6_fit_30 : decode cX6_fit 30 = .ok (.ifCond .ge 8, 3) := dk_156 0 8 (dk_at dksX6_fit_1 6 rfl rfl)
theorem dX6_fit_33 : decode cX6_fit 33 = .ok (.lload_n 3, 1) := dk_33 (dk_at dksX6_fit_1 9 rfl rfl)
theorem dX6_fit_34 : decode cX6_fit 34 = .ok (.lneg, 1) := dk_117 (dk_at dksX6_fit_1 10 rfl rfl)
theorem dX6_fit_35 : decode cX6_fit 35 = .ok (.goto 4, 3) := dk_167 0 4 (dk_at dksX6_fit_1 11 rfl rfl)
theorem dX6_fit_38 : decode cX6_fit 38 = .ok (.lload_n 3, 1) := dk_33 (dk_at dksX6_fit_1 14 rfl rfl)
theorem dX6_fit_39 : decode cX6_fit 39 = .ok (.lstore_n 3, 1) := dk_66 (dk_at dksX6_fit_1 15 rfl rfl)
theorem dX6_fit_40 : decode cX6_fit 40 = .ok (.iconst 0, 1) := dk_3 (dk_at dksX6_fit_1 16 rfl rfl)
theorem dX6_fit_41 : decode cX6_fit 41 = .ok (.istore 5, 2) := dk_54 5 (dk_at dksX6_fit_1 17 rfl rfl)
theorem dX6_fit_43 : decode cX6_fit 43 = .ok (.iload 5, 2) := dk_21 5 (dk_at dksX6_fit_1 19 rfl rfl)
theorem dX6_fit_45 : decode cX6_fit 45 = .ok (.bipush 32, 2) := dk_16 32 (dk_at dksX6_fit_1 21 rfl rfl)
theorem dX6_fit_47 : decode cX6_fit 47 = .ok (.if_icmp .ge 39, 3) := dk_162 0 39 (dk_at dksX6_fit_2 0 rfl rfl)
theorem dX6_fit_50 : decode cX6_fit 50 = .ok (.aload_n 0, 1) := dk_42 (dk_at dksX6_fit_2 3 rfl rfl)
theorem dX6_fit_51 : decode cX6_fit 51 = .ok (.iload 5, 2) := dk_21 5 (dk_at dksX6_fit_2 4 rfl rfl)
theorem dX6_fit_53 : decode cX6_fit 53 = .ok (.dup2, 1) := dk_92 (dk_at dksX6_fit_2 6 rfl rfl)
theorem dX6_fit_54 : decode cX6_fit 54 = .ok (.laload, 1) := dk_47 (dk_at dksX6_fit_2 7 rfl rfl)
theorem dX6_fit_55 : decode cX6_fit 55 = .ok (.lload_n 3, 1) := dk_33 (dk_at dksX6_fit_2 8 rfl rfl)
theorem dX6_fit_56 : decode cX6_fit 56 = .ok (.ldiv, 1) := dk_109 (dk_at dksX6_fit_2 9 rfl rfl)
theorem dX6_fit_57 : decode cX6_fit 57 = .ok (.lastore, 1) := dk_80 (dk_at dksX6_fit_2 10 rfl rfl)
theorem dX6_fit_58 : decode cX6_fit 58 = .ok (.aload_n 0, 1) := dk_42 (dk_at dksX6_fit_2 11 rfl rfl)
theorem dX6_fit_59 : decode cX6_fit 59 = .ok (.iload 5, 2) := dk_21 5 (dk_at dksX6_fit_2 12 rfl rfl)
theorem dX6_fit_61 : decode cX6_fit 61 = .ok (.laload, 1) := dk_47 (dk_at dksX6_fit_2 14 rfl rfl)
theorem dX6_fit_62 : decode cX6_fit 62 = .ok (.invokestatic 26, 3) := dk_184 0 26 (dk_at dksX6_fit_2 15 rfl rfl)
theorem dX6_fit_65 : decode cX6_fit 65 = .ok (.ldc2_w 32, 3) := dk_20 0 32 (dk_at dksX6_fit_2 18 rfl rfl)
theorem dX6_fit_68 : decode cX6_fit 68 = .ok (.lcmp, 1) := dk_148 (dk_at dksX6_fit_2 21 rfl rfl)
theorem dX6_fit_69 : decode cX6_fit 69 = .ok (.ifCond .le 11, 3) := dk_158 0 11 (dk_at dksX6_fit_3 0 rfl rfl)
theorem dX6_fit_72 : decode cX6_fit 72 = .ok (.new 34, 3) := dk_187 0 34 (dk_at dksX6_fit_3 3 rfl rfl)
theorem dX6_fit_75 : decode cX6_fit 75 = .ok (.dup, 1) := dk_89 (dk_at dksX6_fit_3 6 rfl rfl)
theorem dX6_fit_76 : decode cX6_fit 76 = .ok (.invokespecial 36, 3) := dk_183 0 36 (dk_at dksX6_fit_3 7 rfl rfl)
theorem dX6_fit_79 : decode cX6_fit 79 = .ok (.athrow, 1) := dk_191 (dk_at dksX6_fit_3 10 rfl rfl)
theorem dX6_fit_80 : decode cX6_fit 80 = .ok (.iinc 5 1, 3) := dk_132 5 1 (dk_at dksX6_fit_3 11 rfl rfl)
theorem dX6_fit_83 : decode cX6_fit 83 = .ok (.goto (-40), 3) := dk_167 255 216 (dk_at dksX6_fit_3 14 rfl rfl)
theorem dX6_fit_86 : decode cX6_fit 86 = .ok (.lload_n 1, 1) := dk_31 (dk_at dksX6_fit_3 17 rfl rfl)
theorem dX6_fit_87 : decode cX6_fit 87 = .ok (.lload_n 3, 1) := dk_33 (dk_at dksX6_fit_3 18 rfl rfl)
theorem dX6_fit_88 : decode cX6_fit 88 = .ok (.ldiv, 1) := dk_109 (dk_at dksX6_fit_3 19 rfl rfl)
theorem dX6_fit_89 : decode cX6_fit 89 = .ok (.ldc2_w 32, 3) := dk_20 0 32 (dk_at dksX6_fit_3 20 rfl rfl)
theorem dX6_fit_92 : decode cX6_fit 92 = .ok (.lcmp, 1) := dk_148 (dk_at dksX6_fit_3 23 rfl rfl)
theorem dX6_fit_93 : decode cX6_fit 93 = .ok (.ifCond .le 11, 3) := dk_158 0 11 (dk_at dksX6_fit_4 0 rfl rfl)
theorem dX6_fit_96 : decode cX6_fit 96 = .ok (.new 34, 3) := dk_187 0 34 (dk_at dksX6_fit_4 3 rfl rfl)
theorem dX6_fit_99 : decode cX6_fit 99 = .ok (.dup, 1) := dk_89 (dk_at dksX6_fit_4 6 rfl rfl)
theorem dX6_fit_100 : decode cX6_fit 100 = .ok (.invokespecial 36, 3) := dk_183 0 36 (dk_at dksX6_fit_4 7 rfl rfl)
theorem dX6_fit_103 : decode cX6_fit 103 = .ok (.athrow, 1) := dk_191 (dk_at dksX6_fit_4 10 rfl rfl)
theorem dX6_fit_104 : decode cX6_fit 104 = .ok (.new 4, 3) := dk_187 0 4 (dk_at dksX6_fit_4 11 rfl rfl)
theorem dX6_fit_107 : decode cX6_fit 107 = .ok (.dup, 1) := dk_89 (dk_at dksX6_fit_4 14 rfl rfl)
theorem dX6_fit_108 : decode cX6_fit 108 = .ok (.aload_n 0, 1) := dk_42 (dk_at dksX6_fit_4 15 rfl rfl)
theorem dX6_fit_109 : decode cX6_fit 109 = .ok (.lload_n 1, 1) := dk_31 (dk_at dksX6_fit_4 16 rfl rfl)
theorem dX6_fit_110 : decode cX6_fit 110 = .ok (.lload_n 3, 1) := dk_33 (dk_at dksX6_fit_4 17 rfl rfl)
theorem dX6_fit_111 : decode cX6_fit 111 = .ok (.ldiv, 1) := dk_109 (dk_at dksX6_fit_4 18 rfl rfl)
theorem dX6_fit_112 : decode cX6_fit 112 = .ok (.invokespecial 3, 3) := dk_183 0 3 (dk_at dksX6_fit_4 19 rfl rfl)
theorem dX6_fit_115 : decode cX6_fit 115 = .ok (.areturn, 1) := dk_176 (dk_at dksX6_fit_4 22 rfl rfl)
abbrev cX6_init : ByteArray := prog_6_method_2_code
def yX6_init : MethodName := ⟨RX6, "<init>", "([JJ)V"⟩
def dkwX6_init_0 : List UInt8 := [42, 183, 0, 9, 42, 43, 181, 0, 14, 42, 32, 181, 0, 18, 177]
abbrev dktX6_init_0 : List UInt8 := dkwX6_init_0 ++ []
theorem dksX6_init_0 : cX6_init.data.toList.drop 0 = dktX6_init_0 := by decide +kernel
theorem dX6_init_0 : decode cX6_init 0 = .ok (.aload_n 0, 1) := dk_42 (dk_at dksX6_init_0 0 rfl rfl)
theorem dX6_init_1 : decode cX6_init 1 = .ok (.invokespecial 9, 3) := dk_183 0 9 (dk_at dksX6_init_0 1 rfl rfl)
theorem dX6_init_4 : decode cX6_init 4 = .ok (.aload_n 0, 1) := dk_42 (dk_at dksX6_init_0 4 rfl rfl)
theorem dX6_init_5 : decode cX6_init 5 = .ok (.aload_n 1, 1) := dk_43 (dk_at dksX6_init_0 5 rfl rfl)
theorem dX6_init_6 : decode cX6_init 6 = .ok (.putfield 14, 3) := dk_181 0 14 (dk_at dksX6_init_0 6 rfl rfl)
theorem dX6_init_9 : decode cX6_init 9 = .ok (.aload_n 0, 1) := dk_42 (dk_at dksX6_init_0 9 rfl rfl)
theorem dX6_init_10 : decode cX6_init 10 = .ok (.lload_n 2, 1) := dk_32 (dk_at dksX6_init_0 10 rfl rfl)
theorem dX6_init_11 : decode cX6_init 11 = .ok (.putfield 18, 3) := dk_181 0 18 (dk_at dksX6_init_0 11 rfl rfl)
theorem dX6_init_14 : decode cX6_init 14 = .ok (.return_, 1) := dk_177 (dk_at dksX6_init_0 14 rfl rfl)
abbrev cX6_plus : ByteArray := prog_6_method_6_code
def yX6_plus : MethodName := ⟨RX6, "plus", "(LBladeAlgebra$Multi;I)LBladeAlgebra$Multi;"⟩
def dkwX6_plus_2 : List UInt8 := [132, 4, 1, 167, 255, 214, 45, 42, 180, 0, 18, 43, 180, 0, 18, 105, 184, 0, 37, 176]
abbrev dktX6_plus_2 : List UInt8 := dkwX6_plus_2 ++ []
def dkwX6_plus_1 : List UInt8 := [47, 43, 180, 0, 18, 105, 28, 133, 43, 180, 0, 14, 21, 4, 47, 105, 42, 180, 0, 18, 105, 97, 80]
abbrev dktX6_plus_1 : List UInt8 := dkwX6_plus_1 ++ dktX6_plus_2
def dkwX6_plus_0 : List UInt8 := [16, 32, 188, 11, 78, 3, 54, 4, 21, 4, 16, 32, 162, 0, 41, 45, 21, 4, 42, 180, 0, 14, 21, 4]
abbrev dktX6_plus_0 : List UInt8 := dkwX6_plus_0 ++ dktX6_plus_1
theorem dksX6_plus_0 : cX6_plus.data.toList.drop 0 = dktX6_plus_0 := by decide +kernel
theorem dksX6_plus_1 : cX6_plus.data.toList.drop 24 = dktX6_plus_1 := dk_seg dksX6_plus_0 24 rfl rfl
theorem dksX6_plus_2 : cX6_plus.data.toList.drop 47 = dktX6_plus_2 := dk_seg dksX6_plus_1 23 rfl rfl
theorem dX6_plus_0 : decode cX6_plus 0 = .ok (.bipush 32, 2) := dk_16 32 (dk_at dksX6_plus_0 0 rfl rfl)
theorem dX6_plus_2 : decode cX6_plus 2 = .ok (.newarray .long, 2) := dk_188_11 (dk_at dksX6_plus_0 2 rfl rfl)
theorem dX6_plus_4 : decode cX6_plus 4 = .ok (.astore_n 3, 1) := dk_78 (dk_at dksX6_plus_0 4 rfl rfl)
theorem dX6_plus_5 : decode cX6_plus 5 = .ok (.iconst 0, 1) := dk_3 (dk_at dksX6_plus_0 5 rfl rfl)
theorem dX6_plus_6 : decode cX6_plus 6 = .ok (.istore 4, 2) := dk_54 4 (dk_at dksX6_plus_0 6 rfl rfl)
theorem dX6_plus_8 : decode cX6_plus 8 = .ok (.iload 4, 2) := dk_21 4 (dk_at dksX6_plus_0 8 rfl rfl)
theorem dX6_plus_10 : decode cX6_plus 10 = .ok (.bipush 32, 2) := dk_16 32 (dk_at dksX6_plus_0 10 rfl rfl)
theorem dX6_plus_12 : decode cX6_plus 12 = .ok (.if_icmp .ge 41, 3) := dk_162 0 41 (dk_at dksX6_plus_0 12 rfl rfl)
theorem dX6_plus_15 : decode cX6_plus 15 = .ok (.aload_n 3, 1) := dk_45 (dk_at dksX6_plus_0 15 rfl rfl)
theorem dX6_plus_16 : decode cX6_plus 16 = .ok (.iload 4, 2) := dk_21 4 (dk_at dksX6_plus_0 16 rfl rfl)
theorem dX6_plus_18 : decode cX6_plus 18 = .ok (.aload_n 0, 1) := dk_42 (dk_at dksX6_plus_0 18 rfl rfl)
theorem dX6_plus_19 : decode cX6_plus 19 = .ok (.getfield 14, 3) := dk_180 0 14 (dk_at dksX6_plus_0 19 rfl rfl)
theorem dX6_plus_22 : decode cX6_plus 22 = .ok (.iload 4, 2) := dk_21 4 (dk_at dksX6_plus_0 22 rfl rfl)
theorem dX6_plus_24 : decode cX6_plus 24 = .ok (.laload, 1) := dk_47 (dk_at dksX6_plus_1 0 rfl rfl)
theorem dX6_plus_25 : decode cX6_plus 25 = .ok (.aload_n 1, 1) := dk_43 (dk_at dksX6_plus_1 1 rfl rfl)
theorem dX6_plus_26 : decode cX6_plus 26 = .ok (.getfield 18, 3) := dk_180 0 18 (dk_at dksX6_plus_1 2 rfl rfl)
theorem dX6_plus_29 : decode cX6_plus 29 = .ok (.lmul, 1) := dk_105 (dk_at dksX6_plus_1 5 rfl rfl)
theorem dX6_plus_30 : decode cX6_plus 30 = .ok (.iload_n 2, 1) := dk_28 (dk_at dksX6_plus_1 6 rfl rfl)
theorem dX6_plus_31 : decode cX6_plus 31 = .ok (.i2l, 1) := dk_133 (dk_at dksX6_plus_1 7 rfl rfl)
theorem dX6_plus_32 : decode cX6_plus 32 = .ok (.aload_n 1, 1) := dk_43 (dk_at dksX6_plus_1 8 rfl rfl)
theorem dX6_plus_33 : decode cX6_plus 33 = .ok (.getfield 14, 3) := dk_180 0 14 (dk_at dksX6_plus_1 9 rfl rfl)
theorem dX6_plus_36 : decode cX6_plus 36 = .ok (.iload 4, 2) := dk_21 4 (dk_at dksX6_plus_1 12 rfl rfl)
theorem dX6_plus_38 : decode cX6_plus 38 = .ok (.laload, 1) := dk_47 (dk_at dksX6_plus_1 14 rfl rfl)
theorem dX6_plus_39 : decode cX6_plus 39 = .ok (.lmul, 1) := dk_105 (dk_at dksX6_plus_1 15 rfl rfl)
theorem dX6_plus_40 : decode cX6_plus 40 = .ok (.aload_n 0, 1) := dk_42 (dk_at dksX6_plus_1 16 rfl rfl)
theorem dX6_plus_41 : decode cX6_plus 41 = .ok (.getfield 18, 3) := dk_180 0 18 (dk_at dksX6_plus_1 17 rfl rfl)
theorem dX6_plus_44 : decode cX6_plus 44 = .ok (.lmul, 1) := dk_105 (dk_at dksX6_plus_1 20 rfl rfl)
theorem dX6_plus_45 : decode cX6_plus 45 = .ok (.ladd, 1) := dk_97 (dk_at dksX6_plus_1 21 rfl rfl)
theorem dX6_plus_46 : decode cX6_plus 46 = .ok (.lastore, 1) := dk_80 (dk_at dksX6_plus_1 22 rfl rfl)
theorem dX6_plus_47 : decode cX6_plus 47 = .ok (.iinc 4 1, 3) := dk_132 4 1 (dk_at dksX6_plus_2 0 rfl rfl)
theorem dX6_plus_50 : decode cX6_plus 50 = .ok (.goto (-42), 3) := dk_167 255 214 (dk_at dksX6_plus_2 3 rfl rfl)
theorem dX6_plus_53 : decode cX6_plus 53 = .ok (.aload_n 3, 1) := dk_45 (dk_at dksX6_plus_2 6 rfl rfl)
theorem dX6_plus_54 : decode cX6_plus 54 = .ok (.aload_n 0, 1) := dk_42 (dk_at dksX6_plus_2 7 rfl rfl)
theorem dX6_plus_55 : decode cX6_plus 55 = .ok (.getfield 18, 3) := dk_180 0 18 (dk_at dksX6_plus_2 8 rfl rfl)
theorem dX6_plus_58 : decode cX6_plus 58 = .ok (.aload_n 1, 1) := dk_43 (dk_at dksX6_plus_2 11 rfl rfl)
theorem dX6_plus_59 : decode cX6_plus 59 = .ok (.getfield 18, 3) := dk_180 0 18 (dk_at dksX6_plus_2 12 rfl rfl)
theorem dX6_plus_62 : decode cX6_plus 62 = .ok (.lmul, 1) := dk_105 (dk_at dksX6_plus_2 15 rfl rfl)
theorem dX6_plus_63 : decode cX6_plus 63 = .ok (.invokestatic 37, 3) := dk_184 0 37 (dk_at dksX6_plus_2 16 rfl rfl)
theorem dX6_plus_66 : decode cX6_plus 66 = .ok (.areturn, 1) := dk_176 (dk_at dksX6_plus_2 19 rfl rfl)
abbrev cX6_reduced : ByteArray := prog_6_method_16_code
def yX6_reduced : MethodName := ⟨RX6, "reduced", "([J)LBladeAlgebra$Multi;"⟩
def dkwX6_reduced_2 : List UInt8 := [132, 4, 1, 167, 255, 238, 187, 0, 4, 89, 43, 42, 180, 0, 18, 32, 109, 183, 0, 3, 176]
abbrev dktX6_reduced_2 : List UInt8 := dkwX6_reduced_2 ++ []
def dkwX6_reduced_1 : List UInt8 := [132, 4, 1, 167, 255, 237, 3, 54, 4, 21, 4, 16, 32, 162, 0, 17, 43, 21, 4, 92, 47, 32, 109, 80]
abbrev dktX6_reduced_1 : List UInt8 := dkwX6_reduced_1 ++ dktX6_reduced_2
def dkwX6_reduced_0 : List UInt8 := [42, 180, 0, 18, 65, 3, 54, 4, 21, 4, 16, 32, 162, 0, 18, 32, 43, 21, 4, 47, 184, 0, 22, 65]
abbrev dktX6_reduced_0 : List UInt8 := dkwX6_reduced_0 ++ dktX6_reduced_1
theorem dksX6_reduced_0 : cX6_reduced.data.toList.drop 0 = dktX6_reduced_0 := by decide +kernel
theorem dksX6_reduced_1 : cX6_reduced.data.toList.drop 24 = dktX6_reduced_1 := dk_seg dksX6_reduced_0 24 rfl rfl
theorem dksX6_reduced_2 : cX6_reduced.data.toList.drop 48 = dktX6_reduced_2 := dk_seg dksX6_reduced_1 24 rfl rfl
theorem dX6_reduced_0 : decode cX6_reduced 0 = .ok (.aload_n 0, 1) := dk_42 (dk_at dksX6_reduced_0 0 rfl rfl)
theorem dX6_reduced_1 : decode cX6_reduced 1 = .ok (.getfield 18, 3) := dk_180 0 18 (dk_at dksX6_reduced_0 1 rfl rfl)
theorem dX6_reduced_4 : decode cX6_reduced 4 = .ok (.lstore_n 2, 1) := dk_65 (dk_at dksX6_reduced_0 4 rfl rfl)
theorem dX6_reduced_5 : decode cX6_reduced 5 = .ok (.iconst 0, 1) := dk_3 (dk_at dksX6_reduced_0 5 rfl rfl)
theorem dX6_reduced_6 : decode cX6_reduced 6 = .ok (.istore 4, 2) := dk_54 4 (dk_at dksX6_reduced_0 6 rfl rfl)
theorem dX6_reduced_8 : decode cX6_reduced 8 = .ok (.iload 4, 2) := dk_21 4 (dk_at dksX6_reduced_0 8 rfl rfl)
theorem dX6_reduced_10 : decode cX6_reduced 10 = .ok (.bipush 32, 2) := dk_16 32 (dk_at dksX6_reduced_0 10 rfl rfl)
theorem dX6_reduced_12 : decode cX6_reduced 12 = .ok (.if_icmp .ge 18, 3) := dk_162 0 18 (dk_at dksX6_reduced_0 12 rfl rfl)
theorem dX6_reduced_15 : decode cX6_reduced 15 = .ok (.lload_n 2, 1) := dk_32 (dk_at dksX6_reduced_0 15 rfl rfl)
theorem dX6_reduced_16 : decode cX6_reduced 16 = .ok (.aload_n 1, 1) := dk_43 (dk_at dksX6_reduced_0 16 rfl rfl)
theorem dX6_reduced_17 : decode cX6_reduced 17 = .ok (.iload 4, 2) := dk_21 4 (dk_at dksX6_reduced_0 17 rfl rfl)
theorem dX6_reduced_19 : decode cX6_reduced 19 = .ok (.laload, 1) := dk_47 (dk_at dksX6_reduced_0 19 rfl rfl)
theorem dX6_reduced_20 : decode cX6_reduced 20 = .ok (.invokestatic 22, 3) := dk_184 0 22 (dk_at dksX6_reduced_0 20 rfl rfl)
theorem dX6_reduced_23 : decode cX6_reduced 23 = .ok (.lstore_n 2, 1) := dk_65 (dk_at dksX6_reduced_0 23 rfl rfl)
theorem dX6_reduced_24 : decode cX6_reduced 24 = .ok (.iinc 4 1, 3) := dk_132 4 1 (dk_at dksX6_reduced_1 0 rfl rfl)
theorem dX6_reduced_27 : decode cX6_reduced 27 = .ok (.goto (-19), 3) := dk_167 255 237 (dk_at dksX6_reduced_1 3 rfl rfl)
theorem dX6_reduced_30 : decode cX6_reduced 30 = .ok (.iconst 0, 1) := dk_3 (dk_at dksX6_reduced_1 6 rfl rfl)
theorem dX6_reduced_31 : decode cX6_reduced 31 = .ok (.istore 4, 2) := dk_54 4 (dk_at dksX6_reduced_1 7 rfl rfl)
theorem dX6_reduced_33 : decode cX6_reduced 33 = .ok (.iload 4, 2) := dk_21 4 (dk_at dksX6_reduced_1 9 rfl rfl)
theorem dX6_reduced_35 : decode cX6_reduced 35 = .ok (.bipush 32, 2) := dk_16 32 (dk_at dksX6_reduced_1 11 rfl rfl)
theorem dX6_reduced_37 : decode cX6_reduced 37 = .ok (.if_icmp .ge 17, 3) := dk_162 0 17 (dk_at dksX6_reduced_1 13 rfl rfl)
theorem dX6_reduced_40 : decode cX6_reduced 40 = .ok (.aload_n 1, 1) := dk_43 (dk_at dksX6_reduced_1 16 rfl rfl)
theorem dX6_reduced_41 : decode cX6_reduced 41 = .ok (.iload 4, 2) := dk_21 4 (dk_at dksX6_reduced_1 17 rfl rfl)
theorem dX6_reduced_43 : decode cX6_reduced 43 = .ok (.dup2, 1) := dk_92 (dk_at dksX6_reduced_1 19 rfl rfl)
theorem dX6_reduced_44 : decode cX6_reduced 44 = .ok (.laload, 1) := dk_47 (dk_at dksX6_reduced_1 20 rfl rfl)
theorem dX6_reduced_45 : decode cX6_reduced 45 = .ok (.lload_n 2, 1) := dk_32 (dk_at dksX6_reduced_1 21 rfl rfl)
theorem dX6_reduced_46 : decode cX6_reduced 46 = .ok (.ldiv, 1) := dk_109 (dk_at dksX6_reduced_1 22 rfl rfl)
theorem dX6_reduced_47 : decode cX6_reduced 47 = .ok (.lastore, 1) := dk_80 (dk_at dksX6_reduced_1 23 rfl rfl)
theorem dX6_reduced_48 : decode cX6_reduced 48 = .ok (.iinc 4 1, 3) := dk_132 4 1 (dk_at dksX6_reduced_2 0 rfl rfl)
theorem dX6_reduced_51 : decode cX6_reduced 51 = .ok (.goto (-18), 3) := dk_167 255 238 (dk_at dksX6_reduced_2 3 rfl rfl)
theorem dX6_reduced_54 : decode cX6_reduced 54 = .ok (.new 4, 3) := dk_187 0 4 (dk_at dksX6_reduced_2 6 rfl rfl)
theorem dX6_reduced_57 : decode cX6_reduced 57 = .ok (.dup, 1) := dk_89 (dk_at dksX6_reduced_2 9 rfl rfl)
theorem dX6_reduced_58 : decode cX6_reduced 58 = .ok (.aload_n 1, 1) := dk_43 (dk_at dksX6_reduced_2 10 rfl rfl)
theorem dX6_reduced_59 : decode cX6_reduced 59 = .ok (.aload_n 0, 1) := dk_42 (dk_at dksX6_reduced_2 11 rfl rfl)
theorem dX6_reduced_60 : decode cX6_reduced 60 = .ok (.getfield 18, 3) := dk_180 0 18 (dk_at dksX6_reduced_2 12 rfl rfl)
theorem dX6_reduced_63 : decode cX6_reduced 63 = .ok (.lload_n 2, 1) := dk_32 (dk_at dksX6_reduced_2 15 rfl rfl)
theorem dX6_reduced_64 : decode cX6_reduced 64 = .ok (.ldiv, 1) := dk_109 (dk_at dksX6_reduced_2 16 rfl rfl)
theorem dX6_reduced_65 : decode cX6_reduced 65 = .ok (.invokespecial 3, 3) := dk_183 0 3 (dk_at dksX6_reduced_2 17 rfl rfl)
theorem dX6_reduced_68 : decode cX6_reduced 68 = .ok (.areturn, 1) := dk_176 (dk_at dksX6_reduced_2 20 rfl rfl)
abbrev cX6_times : ByteArray := prog_6_method_7_code
def yX6_times : MethodName := ⟨RX6, "times", "(JJ)LBladeAlgebra$Multi;"⟩
def dkwX6_times_1 : List UInt8 := [21, 6, 47, 31, 105, 80, 132, 6, 1, 167, 255, 232, 25, 5, 42, 180, 0, 18, 33, 105, 184, 0, 37, 176]
abbrev dktX6_times_1 : List UInt8 := dkwX6_times_1 ++ []
def dkwX6_times_0 : List UInt8 := [16, 32, 188, 11, 58, 5, 3, 54, 6, 21, 6, 16, 32, 162, 0, 23, 25, 5, 21, 6, 42, 180, 0, 14]
abbrev dktX6_times_0 : List UInt8 := dkwX6_times_0 ++ dktX6_times_1
theorem dksX6_times_0 : cX6_times.data.toList.drop 0 = dktX6_times_0 := by decide +kernel
theorem dksX6_times_1 : cX6_times.data.toList.drop 24 = dktX6_times_1 := dk_seg dksX6_times_0 24 rfl rfl
theorem dX6_times_0 : decode cX6_times 0 = .ok (.bipush 32, 2) := dk_16 32 (dk_at dksX6_times_0 0 rfl rfl)
theorem dX6_times_2 : decode cX6_times 2 = .ok (.newarray .long, 2) := dk_188_11 (dk_at dksX6_times_0 2 rfl rfl)
theorem dX6_times_4 : decode cX6_times 4 = .ok (.astore 5, 2) := dk_58 5 (dk_at dksX6_times_0 4 rfl rfl)
theorem dX6_times_6 : decode cX6_times 6 = .ok (.iconst 0, 1) := dk_3 (dk_at dksX6_times_0 6 rfl rfl)
theorem dX6_times_7 : decode cX6_times 7 = .ok (.istore 6, 2) := dk_54 6 (dk_at dksX6_times_0 7 rfl rfl)
theorem dX6_times_9 : decode cX6_times 9 = .ok (.iload 6, 2) := dk_21 6 (dk_at dksX6_times_0 9 rfl rfl)
theorem dX6_times_11 : decode cX6_times 11 = .ok (.bipush 32, 2) := dk_16 32 (dk_at dksX6_times_0 11 rfl rfl)
theorem dX6_times_13 : decode cX6_times 13 = .ok (.if_icmp .ge 23, 3) := dk_162 0 23 (dk_at dksX6_times_0 13 rfl rfl)
theorem dX6_times_16 : decode cX6_times 16 = .ok (.aload 5, 2) := dk_25 5 (dk_at dksX6_times_0 16 rfl rfl)
theorem dX6_times_18 : decode cX6_times 18 = .ok (.iload 6, 2) := dk_21 6 (dk_at dksX6_times_0 18 rfl rfl)
theorem dX6_times_20 : decode cX6_times 20 = .ok (.aload_n 0, 1) := dk_42 (dk_at dksX6_times_0 20 rfl rfl)
theorem dX6_times_21 : decode cX6_times 21 = .ok (.getfield 14, 3) := dk_180 0 14 (dk_at dksX6_times_0 21 rfl rfl)
theorem dX6_times_24 : decode cX6_times 24 = .ok (.iload 6, 2) := dk_21 6 (dk_at dksX6_times_1 0 rfl rfl)
theorem dX6_times_26 : decode cX6_times 26 = .ok (.laload, 1) := dk_47 (dk_at dksX6_times_1 2 rfl rfl)
theorem dX6_times_27 : decode cX6_times 27 = .ok (.lload_n 1, 1) := dk_31 (dk_at dksX6_times_1 3 rfl rfl)
theorem dX6_times_28 : decode cX6_times 28 = .ok (.lmul, 1) := dk_105 (dk_at dksX6_times_1 4 rfl rfl)
theorem dX6_times_29 : decode cX6_times 29 = .ok (.lastore, 1) := dk_80 (dk_at dksX6_times_1 5 rfl rfl)
theorem dX6_times_30 : decode cX6_times 30 = .ok (.iinc 6 1, 3) := dk_132 6 1 (dk_at dksX6_times_1 6 rfl rfl)
theorem dX6_times_33 : decode cX6_times 33 = .ok (.goto (-24), 3) := dk_167 255 232 (dk_at dksX6_times_1 9 rfl rfl)
theorem dX6_times_36 : decode cX6_times 36 = .ok (.aload 5, 2) := dk_25 5 (dk_at dksX6_times_1 12 rfl rfl)
theorem dX6_times_38 : decode cX6_times 38 = .ok (.aload_n 0, 1) := dk_42 (dk_at dksX6_times_1 14 rfl rfl)
theorem dX6_times_39 : decode cX6_times 39 = .ok (.getfield 18, 3) := dk_180 0 18 (dk_at dksX6_times_1 15 rfl rfl)
theorem dX6_times_42 : decode cX6_times 42 = .ok (.lload_n 3, 1) := dk_33 (dk_at dksX6_times_1 18 rfl rfl)
theorem dX6_times_43 : decode cX6_times 43 = .ok (.lmul, 1) := dk_105 (dk_at dksX6_times_1 19 rfl rfl)
theorem dX6_times_44 : decode cX6_times 44 = .ok (.invokestatic 37, 3) := dk_184 0 37 (dk_at dksX6_times_1 20 rfl rfl)
theorem dX6_times_47 : decode cX6_times 47 = .ok (.areturn, 1) := dk_176 (dk_at dksX6_times_1 23 rfl rfl)
abbrev cX6_terms : ByteArray := prog_6_method_12_code
def yX6_terms : MethodName := ⟨RX6, "terms", "()I"⟩
def dkwX6_terms_1 : List UInt8 := [167, 0, 4, 3, 96, 60, 132, 2, 1, 167, 255, 228, 27, 172]
abbrev dktX6_terms_1 : List UInt8 := dkwX6_terms_1 ++ []
def dkwX6_terms_0 : List UInt8 := [3, 60, 3, 61, 28, 16, 32, 162, 0, 28, 27, 42, 180, 0, 14, 28, 47, 9, 148, 153, 0, 7, 4]
abbrev dktX6_terms_0 : List UInt8 := dkwX6_terms_0 ++ dktX6_terms_1
theorem dksX6_terms_0 : cX6_terms.data.toList.drop 0 = dktX6_terms_0 := by decide +kernel
theorem dksX6_terms_1 : cX6_terms.data.toList.drop 23 = dktX6_terms_1 := dk_seg dksX6_terms_0 23 rfl rfl
theorem dX6_terms_0 : decode cX6_terms 0 = .ok (.iconst 0, 1) := dk_3 (dk_at dksX6_terms_0 0 rfl rfl)
theorem dX6_terms_1 : decode cX6_terms 1 = .ok (.istore_n 1, 1) := dk_60 (dk_at dksX6_terms_0 1 rfl rfl)
theorem dX6_terms_2 : decode cX6_terms 2 = .ok (.iconst 0, 1) := dk_3 (dk_at dksX6_terms_0 2 rfl rfl)
theorem dX6_terms_3 : decode cX6_terms 3 = .ok (.istore_n 2, 1) := dk_61 (dk_at dksX6_terms_0 3 rfl rfl)
theorem dX6_terms_4 : decode cX6_terms 4 = .ok (.iload_n 2, 1) := dk_28 (dk_at dksX6_terms_0 4 rfl rfl)
theorem dX6_terms_5 : decode cX6_terms 5 = .ok (.bipush 32, 2) := dk_16 32 (dk_at dksX6_terms_0 5 rfl rfl)
theorem dX6_terms_7 : decode cX6_terms 7 = .ok (.if_icmp .ge 28, 3) := dk_162 0 28 (dk_at dksX6_terms_0 7 rfl rfl)
theorem dX6_terms_10 : decode cX6_terms 10 = .ok (.iload_n 1, 1) := dk_27 (dk_at dksX6_terms_0 10 rfl rfl)
theorem dX6_terms_11 : decode cX6_terms 11 = .ok (.aload_n 0, 1) := dk_42 (dk_at dksX6_terms_0 11 rfl rfl)
theorem dX6_terms_12 : decode cX6_terms 12 = .ok (.getfield 14, 3) := dk_180 0 14 (dk_at dksX6_terms_0 12 rfl rfl)
theorem dX6_terms_15 : decode cX6_terms 15 = .ok (.iload_n 2, 1) := dk_28 (dk_at dksX6_terms_0 15 rfl rfl)
theorem dX6_terms_16 : decode cX6_terms 16 = .ok (.laload, 1) := dk_47 (dk_at dksX6_terms_0 16 rfl rfl)
theorem dX6_terms_17 : decode cX6_terms 17 = .ok (.lconst 0, 1) := dk_9 (dk_at dksX6_terms_0 17 rfl rfl)
theorem dX6_terms_18 : decode cX6_terms 18 = .ok (.lcmp, 1) := dk_148 (dk_at dksX6_terms_0 18 rfl rfl)
theorem dX6_terms_19 : decode cX6_terms 19 = .ok (.ifCond .eq 7, 3) := dk_153 0 7 (dk_at dksX6_terms_0 19 rfl rfl)
theorem dX6_terms_22 : decode cX6_terms 22 = .ok (.iconst 1, 1) := dk_4 (dk_at dksX6_terms_0 22 rfl rfl)
theorem dX6_terms_23 : decode cX6_terms 23 = .ok (.goto 4, 3) := dk_167 0 4 (dk_at dksX6_terms_1 0 rfl rfl)
theorem dX6_terms_26 : decode cX6_terms 26 = .ok (.iconst 0, 1) := dk_3 (dk_at dksX6_terms_1 3 rfl rfl)
theorem dX6_terms_27 : decode cX6_terms 27 = .ok (.iadd, 1) := dk_96 (dk_at dksX6_terms_1 4 rfl rfl)
theorem dX6_terms_28 : decode cX6_terms 28 = .ok (.istore_n 1, 1) := dk_60 (dk_at dksX6_terms_1 5 rfl rfl)
theorem dX6_terms_29 : decode cX6_terms 29 = .ok (.iinc 2 1, 3) := dk_132 2 1 (dk_at dksX6_terms_1 6 rfl rfl)
theorem dX6_terms_32 : decode cX6_terms 32 = .ok (.goto (-28), 3) := dk_167 255 228 (dk_at dksX6_terms_1 9 rfl rfl)
theorem dX6_terms_35 : decode cX6_terms 35 = .ok (.iload_n 1, 1) := dk_27 (dk_at dksX6_terms_1 12 rfl rfl)
theorem dX6_terms_36 : decode cX6_terms 36 = .ok (.ireturn, 1) := dk_172 (dk_at dksX6_terms_1 13 rfl rfl)
abbrev cX6_signed : ByteArray := prog_6_method_15_code
def yX6_signed : MethodName := ⟨RX6, "signed", "(II)LBladeAlgebra$Multi;"⟩
def dkwX6_signed_3 : List UInt8 := [132, 4, 1, 167, 255, 193, 42, 45, 182, 0, 59, 176]
abbrev dktX6_signed_3 : List UInt8 := dkwX6_signed_3 ++ []
def dkwX6_signed_2 : List UInt8 := [160, 0, 14, 42, 180, 0, 14, 21, 4, 47, 117, 167, 0, 10, 42, 180, 0, 14, 21, 4, 47, 80]
abbrev dktX6_signed_2 : List UInt8 := dkwX6_signed_2 ++ dktX6_signed_3
def dkwX6_signed_1 : List UInt8 := [46, 122, 4, 126, 154, 0, 7, 9, 167, 0, 35, 27, 178, 0, 46, 21, 4, 46, 122, 4, 126, 4]
abbrev dktX6_signed_1 : List UInt8 := dkwX6_signed_1 ++ dktX6_signed_2
def dkwX6_signed_0 : List UInt8 := [16, 32, 188, 11, 78, 3, 54, 4, 21, 4, 16, 32, 162, 0, 62, 45, 21, 4, 28, 178, 0, 46, 21, 4]
abbrev dktX6_signed_0 : List UInt8 := dkwX6_signed_0 ++ dktX6_signed_1
theorem dksX6_signed_0 : cX6_signed.data.toList.drop 0 = dktX6_signed_0 := by decide +kernel
theorem dksX6_signed_1 : cX6_signed.data.toList.drop 24 = dktX6_signed_1 := dk_seg dksX6_signed_0 24 rfl rfl
theorem dksX6_signed_2 : cX6_signed.data.toList.drop 46 = dktX6_signed_2 := dk_seg dksX6_signed_1 22 rfl rfl
theorem dksX6_signed_3 : cX6_signed.data.toList.drop 68 = dktX6_signed_3 := dk_seg dksX6_signed_2 22 rfl rfl
theorem dX6_signed_0 : decode cX6_signed 0 = .ok (.bipush 32, 2) := dk_16 32 (dk_at dksX6_signed_0 0 rfl rfl)
theorem dX6_signed_2 : decode cX6_signed 2 = .ok (.newarray .long, 2) := dk_188_11 (dk_at dksX6_signed_0 2 rfl rfl)
theorem dX6_signed_4 : decode cX6_signed 4 = .ok (.astore_n 3, 1) := dk_78 (dk_at dksX6_signed_0 4 rfl rfl)
theorem dX6_signed_5 : decode cX6_signed 5 = .ok (.iconst 0, 1) := dk_3 (dk_at dksX6_signed_0 5 rfl rfl)
theorem dX6_signed_6 : decode cX6_signed 6 = .ok (.istore 4, 2) := dk_54 4 (dk_at dksX6_signed_0 6 rfl rfl)
theorem dX6_signed_8 : decode cX6_signed 8 = .ok (.iload 4, 2) := dk_21 4 (dk_at dksX6_signed_0 8 rfl rfl)
theorem dX6_signed_10 : decode cX6_signed 10 = .ok (.bipush 32, 2) := dk_16 32 (dk_at dksX6_signed_0 10 rfl rfl)
theorem dX6_signed_12 : decode cX6_signed 12 = .ok (.if_icmp .ge 62, 3) := dk_162 0 62 (dk_at dksX6_signed_0 12 rfl rfl)
theorem dX6_signed_15 : decode cX6_signed 15 = .ok (.aload_n 3, 1) := dk_45 (dk_at dksX6_signed_0 15 rfl rfl)
theorem dX6_signed_16 : decode cX6_signed 16 = .ok (.iload 4, 2) := dk_21 4 (dk_at dksX6_signed_0 16 rfl rfl)
theorem dX6_signed_18 : decode cX6_signed 18 = .ok (.iload_n 2, 1) := dk_28 (dk_at dksX6_signed_0 18 rfl rfl)
theorem dX6_signed_19 : decode cX6_signed 19 = .ok (.getstatic 46, 3) := dk_178 0 46 (dk_at dksX6_signed_0 19 rfl rfl)
theorem dX6_signed_22 : decode cX6_signed 22 = .ok (.iload 4, 2) := dk_21 4 (dk_at dksX6_signed_0 22 rfl rfl)
theorem dX6_signed_24 : decode cX6_signed 24 = .ok (.iaload, 1) := dk_46 (dk_at dksX6_signed_1 0 rfl rfl)
theorem dX6_signed_25 : decode cX6_signed 25 = .ok (.ishr, 1) := dk_122 (dk_at dksX6_signed_1 1 rfl rfl)
theorem dX6_signed_26 : decode cX6_signed 26 = .ok (.iconst 1, 1) := dk_4 (dk_at dksX6_signed_1 2 rfl rfl)
theorem dX6_signed_27 : decode cX6_signed 27 = .ok (.iand, 1) := dk_126 (dk_at dksX6_signed_1 3 rfl rfl)
theorem dX6_signed_28 : decode cX6_signed 28 = .ok (.ifCond .ne 7, 3) := dk_154 0 7 (dk_at dksX6_signed_1 4 rfl rfl)
theorem dX6_signed_31 : decode cX6_signed 31 = .ok (.lconst 0, 1) := dk_9 (dk_at dksX6_signed_1 7 rfl rfl)
theorem dX6_signed_32 : decode cX6_signed 32 = .ok (.goto 35, 3) := dk_167 0 35 (dk_at dksX6_signed_1 8 rfl rfl)
theorem dX6_signed_35 : decode cX6_signed 35 = .ok (.iload_n 1, 1) := dk_27 (dk_at dksX6_signed_1 11 rfl rfl)
theorem dX6_signed_36 : decode cX6_signed 36 = .ok (.getstatic 46, 3) := dk_178 0 46 (dk_at dksX6_signed_1 12 rfl rfl)
theorem dX6_signed_39 : decode cX6_signed 39 = .ok (.iload 4, 2) := dk_21 4 (dk_at dksX6_signed_1 15 rfl rfl)
theorem dX6_signed_41 : decode cX6_signed 41 = .ok (.iaload, 1) := dk_46 (dk_at dksX6_signed_1 17 rfl rfl)
theorem dX6_signed_42 : decode cX6_signed 42 = .ok (.ishr, 1) := dk_122 (dk_at dksX6_signed_1 18 rfl rfl)
theorem dX6_signed_43 : decode cX6_signed 43 = .ok (.iconst 1, 1) := dk_4 (dk_at dksX6_signed_1 19 rfl rfl)
theorem dX6_signed_44 : decode cX6_signed 44 = .ok (.iand, 1) := dk_126 (dk_at dksX6_signed_1 20 rfl rfl)
theorem dX6_signed_45 : decode cX6_signed 45 = .ok (.iconst 1, 1) := dk_4 (dk_at dksX6_signed_1 21 rfl rfl)
theorem dX6_signed_46 : decode cX6_signed 46 = .ok (.if_icmp .ne 14, 3) := dk_160 0 14 (dk_at dksX6_signed_2 0 rfl rfl)
theorem dX6_signed_49 : decode cX6_signed 49 = .ok (.aload_n 0, 1) := dk_42 (dk_at dksX6_signed_2 3 rfl rfl)
theorem dX6_signed_50 : decode cX6_signed 50 = .ok (.getfield 14, 3) := dk_180 0 14 (dk_at dksX6_signed_2 4 rfl rfl)
theorem dX6_signed_53 : decode cX6_signed 53 = .ok (.iload 4, 2) := dk_21 4 (dk_at dksX6_signed_2 7 rfl rfl)
theorem dX6_signed_55 : decode cX6_signed 55 = .ok (.laload, 1) := dk_47 (dk_at dksX6_signed_2 9 rfl rfl)
theorem dX6_signed_56 : decode cX6_signed 56 = .ok (.lneg, 1) := dk_117 (dk_at dksX6_signed_2 10 rfl rfl)
theorem dX6_signed_57 : decode cX6_signed 57 = .ok (.goto 10, 3) := dk_167 0 10 (dk_at dksX6_signed_2 11 rfl rfl)
theorem dX6_signed_60 : decode cX6_signed 60 = .ok (.aload_n 0, 1) := dk_42 (dk_at dksX6_signed_2 14 rfl rfl)
theorem dX6_signed_61 : decode cX6_signed 61 = .ok (.getfield 14, 3) := dk_180 0 14 (dk_at dksX6_signed_2 15 rfl rfl)
theorem dX6_signed_64 : decode cX6_signed 64 = .ok (.iload 4, 2) := dk_21 4 (dk_at dksX6_signed_2 18 rfl rfl)
theorem dX6_signed_66 : decode cX6_signed 66 = .ok (.laload, 1) := dk_47 (dk_at dksX6_signed_2 20 rfl rfl)
theorem dX6_signed_67 : decode cX6_signed 67 = .ok (.lastore, 1) := dk_80 (dk_at dksX6_signed_2 21 rfl rfl)
theorem dX6_signed_68 : decode cX6_signed 68 = .ok (.iinc 4 1, 3) := dk_132 4 1 (dk_at dksX6_signed_3 0 rfl rfl)
theorem dX6_signed_71 : decode cX6_signed 71 = .ok (.goto (-63), 3) := dk_167 255 193 (dk_at dksX6_signed_3 3 rfl rfl)
theorem dX6_signed_74 : decode cX6_signed 74 = .ok (.aload_n 0, 1) := dk_42 (dk_at dksX6_signed_3 6 rfl rfl)
theorem dX6_signed_75 : decode cX6_signed 75 = .ok (.aload_n 3, 1) := dk_45 (dk_at dksX6_signed_3 7 rfl rfl)
theorem dX6_signed_76 : decode cX6_signed 76 = .ok (.invokevirtual 59, 3) := dk_182 0 59 (dk_at dksX6_signed_3 8 rfl rfl)
theorem dX6_signed_79 : decode cX6_signed 79 = .ok (.areturn, 1) := dk_176 (dk_at dksX6_signed_3 11 rfl rfl)
abbrev cX6_isOtherScalar : ByteArray := prog_6_method_11_code
def yX6_isOtherScalar : MethodName := ⟨RX6, "isOtherScalar", "()Z"⟩
def dkwX6_isOtherScalar_0 : List UInt8 := [42, 182, 0, 50, 4, 160, 0, 7, 4, 167, 0, 4, 3, 172]
abbrev dktX6_isOtherScalar_0 : List UInt8 := dkwX6_isOtherScalar_0 ++ []
theorem dksX6_isOtherScalar_0 : cX6_isOtherScalar.data.toList.drop 0 = dktX6_isOtherScalar_0 := by decide +kernel
theorem dX6_isOtherScalar_0 : decode cX6_isOtherScalar 0 = .ok (.aload_n 0, 1) := dk_42 (dk_at dksX6_isOtherScalar_0 0 rfl rfl)
theorem dX6_isOtherScalar_1 : decode cX6_isOtherScalar 1 = .ok (.invokevirtual 50, 3) := dk_182 0 50 (dk_at dksX6_isOtherScalar_0 1 rfl rfl)
theorem dX6_isOtherScalar_4 : decode cX6_isOtherScalar 4 = .ok (.iconst 1, 1) := dk_4 (dk_at dksX6_isOtherScalar_0 4 rfl rfl)
theorem dX6_isOtherScalar_5 : decode cX6_isOtherScalar 5 = .ok (.if_icmp .ne 7, 3) := dk_160 0 7 (dk_at dksX6_isOtherScalar_0 5 rfl rfl)
theorem dX6_isOtherScalar_8 : decode cX6_isOtherScalar 8 = .ok (.iconst 1, 1) := dk_4 (dk_at dksX6_isOtherScalar_0 8 rfl rfl)
theorem dX6_isOtherScalar_9 : decode cX6_isOtherScalar 9 = .ok (.goto 4, 3) := dk_167 0 4 (dk_at dksX6_isOtherScalar_0 9 rfl rfl)
theorem dX6_isOtherScalar_12 : decode cX6_isOtherScalar 12 = .ok (.iconst 0, 1) := dk_3 (dk_at dksX6_isOtherScalar_0 12 rfl rfl)
theorem dX6_isOtherScalar_13 : decode cX6_isOtherScalar 13 = .ok (.ireturn, 1) := dk_172 (dk_at dksX6_isOtherScalar_0 13 rfl rfl)
abbrev cX6_grades : ByteArray := prog_6_method_8_code
def yX6_grades : MethodName := ⟨RX6, "grades", "()I"⟩
def dkwX6_grades_1 : List UInt8 := [178, 0, 46, 28, 46, 120, 167, 0, 4, 3, 128, 60, 132, 2, 1, 167, 255, 222, 27, 172]
abbrev dktX6_grades_1 : List UInt8 := dkwX6_grades_1 ++ []
def dkwX6_grades_0 : List UInt8 := [3, 60, 3, 61, 28, 16, 32, 162, 0, 34, 27, 42, 180, 0, 14, 28, 47, 9, 148, 153, 0, 13, 4]
abbrev dktX6_grades_0 : List UInt8 := dkwX6_grades_0 ++ dktX6_grades_1
theorem dksX6_grades_0 : cX6_grades.data.toList.drop 0 = dktX6_grades_0 := by decide +kernel
theorem dksX6_grades_1 : cX6_grades.data.toList.drop 23 = dktX6_grades_1 := dk_seg dksX6_grades_0 23 rfl rfl
theorem dX6_grades_0 : decode cX6_grades 0 = .ok (.iconst 0, 1) := dk_3 (dk_at dksX6_grades_0 0 rfl rfl)
theorem dX6_grades_1 : decode cX6_grades 1 = .ok (.istore_n 1, 1) := dk_60 (dk_at dksX6_grades_0 1 rfl rfl)
theorem dX6_grades_2 : decode cX6_grades 2 = .ok (.iconst 0, 1) := dk_3 (dk_at dksX6_grades_0 2 rfl rfl)
theorem dX6_grades_3 : decode cX6_grades 3 = .ok (.istore_n 2, 1) := dk_61 (dk_at dksX6_grades_0 3 rfl rfl)
theorem dX6_grades_4 : decode cX6_grades 4 = .ok (.iload_n 2, 1) := dk_28 (dk_at dksX6_grades_0 4 rfl rfl)
theorem dX6_grades_5 : decode cX6_grades 5 = .ok (.bipush 32, 2) := dk_16 32 (dk_at dksX6_grades_0 5 rfl rfl)
theorem dX6_grades_7 : decode cX6_grades 7 = .ok (.if_icmp .ge 34, 3) := dk_162 0 34 (dk_at dksX6_grades_0 7 rfl rfl)
theorem dX6_grades_10 : decode cX6_grades 10 = .ok (.iload_n 1, 1) := dk_27 (dk_at dksX6_grades_0 10 rfl rfl)
theorem dX6_grades_11 : decode cX6_grades 11 = .ok (.aload_n 0, 1) := dk_42 (dk_at dksX6_grades_0 11 rfl rfl)
theorem dX6_grades_12 : decode cX6_grades 12 = .ok (.getfield 14, 3) := dk_180 0 14 (dk_at dksX6_grades_0 12 rfl rfl)
theorem dX6_grades_15 : decode cX6_grades 15 = .ok (.iload_n 2, 1) := dk_28 (dk_at dksX6_grades_0 15 rfl rfl)
theorem dX6_grades_16 : decode cX6_grades 16 = .ok (.laload, 1) := dk_47 (dk_at dksX6_grades_0 16 rfl rfl)
theorem dX6_grades_17 : decode cX6_grades 17 = .ok (.lconst 0, 1) := dk_9 (dk_at dksX6_grades_0 17 rfl rfl)
theorem dX6_grades_18 : decode cX6_grades 18 = .ok (.lcmp, 1) := dk_148 (dk_at dksX6_grades_0 18 rfl rfl)
theorem dX6_grades_19 : decode cX6_grades 19 = .ok (.ifCond .eq 13, 3) := dk_153 0 13 (dk_at dksX6_grades_0 19 rfl rfl)
theorem dX6_grades_22 : decode cX6_grades 22 = .ok (.iconst 1, 1) := dk_4 (dk_at dksX6_grades_0 22 rfl rfl)
theorem dX6_grades_23 : decode cX6_grades 23 = .ok (.getstatic 46, 3) := dk_178 0 46 (dk_at dksX6_grades_1 0 rfl rfl)
theorem dX6_grades_26 : decode cX6_grades 26 = .ok (.iload_n 2, 1) := dk_28 (dk_at dksX6_grades_1 3 rfl rfl)
theorem dX6_grades_27 : decode cX6_grades 27 = .ok (.iaload, 1) := dk_46 (dk_at dksX6_grades_1 4 rfl rfl)
theorem dX6_grades_28 : decode cX6_grades 28 = .ok (.ishl, 1) := dk_120 (dk_at dksX6_grades_1 5 rfl rfl)
theorem dX6_grades_29 : decode cX6_grades 29 = .ok (.goto 4, 3) := dk_167 0 4 (dk_at dksX6_grades_1 6 rfl rfl)
theorem dX6_grades_32 : decode cX6_grades 32 = .ok (.iconst 0, 1) := dk_3 (dk_at dksX6_grades_1 9 rfl rfl)
theorem dX6_grades_33 : decode cX6_grades 33 = .ok (.ior, 1) := dk_128 (dk_at dksX6_grades_1 10 rfl rfl)
theorem dX6_grades_34 : decode cX6_grades 34 = .ok (.istore_n 1, 1) := dk_60 (dk_at dksX6_grades_1 11 rfl rfl)
theorem dX6_grades_35 : decode cX6_grades 35 = .ok (.iinc 2 1, 3) := dk_132 2 1 (dk_at dksX6_grades_1 12 rfl rfl)
theorem dX6_grades_38 : decode cX6_grades 38 = .ok (.goto (-34), 3) := dk_167 255 222 (dk_at dksX6_grades_1 15 rfl rfl)
theorem dX6_grades_41 : decode cX6_grades 41 = .ok (.iload_n 1, 1) := dk_27 (dk_at dksX6_grades_1 18 rfl rfl)
theorem dX6_grades_42 : decode cX6_grades 42 = .ok (.ireturn, 1) := dk_172 (dk_at dksX6_grades_1 19 rfl rfl)
abbrev cX6_of : ByteArray := prog_6_method_4_code
def yX6_of : MethodName := ⟨RX6, "of", "(IJJ)LBladeAlgebra$Multi;"⟩
def dkwX6_of_0 : List UInt8 := [16, 32, 188, 11, 58, 5, 25, 5, 26, 31, 80, 25, 5, 33, 184, 0, 37, 176]
abbrev dktX6_of_0 : List UInt8 := dkwX6_of_0 ++ []
theorem dksX6_of_0 : cX6_of.data.toList.drop 0 = dktX6_of_0 := by decide +kernel
theorem dX6_of_0 : decode cX6_of 0 = .ok (.bipush 32, 2) := dk_16 32 (dk_at dksX6_of_0 0 rfl rfl)
theorem dX6_of_2 : decode cX6_of 2 = .ok (.newarray .long, 2) := dk_188_11 (dk_at dksX6_of_0 2 rfl rfl)
theorem dX6_of_4 : decode cX6_of 4 = .ok (.astore 5, 2) := dk_58 5 (dk_at dksX6_of_0 4 rfl rfl)
theorem dX6_of_6 : decode cX6_of 6 = .ok (.aload 5, 2) := dk_25 5 (dk_at dksX6_of_0 6 rfl rfl)
theorem dX6_of_8 : decode cX6_of 8 = .ok (.iload_n 0, 1) := dk_26 (dk_at dksX6_of_0 8 rfl rfl)
theorem dX6_of_9 : decode cX6_of 9 = .ok (.lload_n 1, 1) := dk_31 (dk_at dksX6_of_0 9 rfl rfl)
theorem dX6_of_10 : decode cX6_of 10 = .ok (.lastore, 1) := dk_80 (dk_at dksX6_of_0 10 rfl rfl)
theorem dX6_of_11 : decode cX6_of 11 = .ok (.aload 5, 2) := dk_25 5 (dk_at dksX6_of_0 11 rfl rfl)
theorem dX6_of_13 : decode cX6_of 13 = .ok (.lload_n 3, 1) := dk_33 (dk_at dksX6_of_0 13 rfl rfl)
theorem dX6_of_14 : decode cX6_of 14 = .ok (.invokestatic 37, 3) := dk_184 0 37 (dk_at dksX6_of_0 14 rfl rfl)
theorem dX6_of_17 : decode cX6_of 17 = .ok (.areturn, 1) := dk_176 (dk_at dksX6_of_0 17 rfl rfl)
abbrev cX6_isVector : ByteArray := prog_6_method_10_code
def yX6_isVector : MethodName := ⟨RX6, "isVector", "()Z"⟩
def dkwX6_isVector_0 : List UInt8 := [42, 182, 0, 50, 16, 253, 126, 154, 0, 7, 4, 167, 0, 4, 3, 172]
abbrev dktX6_isVector_0 : List UInt8 := dkwX6_isVector_0 ++ []
theorem dksX6_isVector_0 : cX6_isVector.data.toList.drop 0 = dktX6_isVector_0 := by decide +kernel
theorem dX6_isVector_0 : decode cX6_isVector 0 = .ok (.aload_n 0, 1) := dk_42 (dk_at dksX6_isVector_0 0 rfl rfl)
theorem dX6_isVector_1 : decode cX6_isVector 1 = .ok (.invokevirtual 50, 3) := dk_182 0 50 (dk_at dksX6_isVector_0 1 rfl rfl)
theorem dX6_isVector_4 : decode cX6_isVector 4 = .ok (.bipush (-3), 2) := dk_16 253 (dk_at dksX6_isVector_0 4 rfl rfl)
theorem dX6_isVector_6 : decode cX6_isVector 6 = .ok (.iand, 1) := dk_126 (dk_at dksX6_isVector_0 6 rfl rfl)
theorem dX6_isVector_7 : decode cX6_isVector 7 = .ok (.ifCond .ne 7, 3) := dk_154 0 7 (dk_at dksX6_isVector_0 7 rfl rfl)
theorem dX6_isVector_10 : decode cX6_isVector 10 = .ok (.iconst 1, 1) := dk_4 (dk_at dksX6_isVector_0 10 rfl rfl)
theorem dX6_isVector_11 : decode cX6_isVector 11 = .ok (.goto 4, 3) := dk_167 0 4 (dk_at dksX6_isVector_0 11 rfl rfl)
theorem dX6_isVector_14 : decode cX6_isVector 14 = .ok (.iconst 0, 1) := dk_3 (dk_at dksX6_isVector_0 14 rfl rfl)
theorem dX6_isVector_15 : decode cX6_isVector 15 = .ok (.ireturn, 1) := dk_172 (dk_at dksX6_isVector_0 15 rfl rfl)
abbrev cX6_iterator : ByteArray := prog_6_method_14_code
def yX6_iterator : MethodName := ⟨RX6, "iterator", "()Ljava/util/Iterator;"⟩
def dkwX6_iterator_0 : List UInt8 := [187, 0, 54, 89, 42, 183, 0, 56, 176]
abbrev dktX6_iterator_0 : List UInt8 := dkwX6_iterator_0 ++ []
theorem dksX6_iterator_0 : cX6_iterator.data.toList.drop 0 = dktX6_iterator_0 := by decide +kernel
theorem dX6_iterator_0 : decode cX6_iterator 0 = .ok (.new 54, 3) := dk_187 0 54 (dk_at dksX6_iterator_0 0 rfl rfl)
theorem dX6_iterator_3 : decode cX6_iterator 3 = .ok (.dup, 1) := dk_89 (dk_at dksX6_iterator_0 3 rfl rfl)
theorem dX6_iterator_4 : decode cX6_iterator 4 = .ok (.aload_n 0, 1) := dk_42 (dk_at dksX6_iterator_0 4 rfl rfl)
theorem dX6_iterator_5 : decode cX6_iterator 5 = .ok (.invokespecial 56, 3) := dk_183 0 56 (dk_at dksX6_iterator_0 5 rfl rfl)
theorem dX6_iterator_8 : decode cX6_iterator 8 = .ok (.areturn, 1) := dk_176 (dk_at dksX6_iterator_0 8 rfl rfl)
abbrev cX6_isLike : ByteArray := prog_6_method_13_code
def yX6_isLike : MethodName := ⟨RX6, "isLike", "(LBladeAlgebra$Multi;)Z"⟩
def dkwX6_isLike_2 : List UInt8 := [167, 0, 4, 3, 61, 132, 3, 1, 167, 255, 221, 28, 172]
abbrev dktX6_isLike_2 : List UInt8 := dkwX6_isLike_2 ++ []
def dkwX6_isLike_1 : List UInt8 := [162, 0, 35, 28, 153, 0, 31, 42, 180, 0, 14, 29, 47, 43, 180, 0, 14, 29, 47, 148, 154, 0, 7, 4]
abbrev dktX6_isLike_1 : List UInt8 := dkwX6_isLike_1 ++ dktX6_isLike_2
def dkwX6_isLike_0 : List UInt8 := [42, 180, 0, 18, 43, 180, 0, 18, 148, 154, 0, 7, 4, 167, 0, 4, 3, 61, 3, 62, 29, 16, 32]
abbrev dktX6_isLike_0 : List UInt8 := dkwX6_isLike_0 ++ dktX6_isLike_1
theorem dksX6_isLike_0 : cX6_isLike.data.toList.drop 0 = dktX6_isLike_0 := by decide +kernel
theorem dksX6_isLike_1 : cX6_isLike.data.toList.drop 23 = dktX6_isLike_1 := dk_seg dksX6_isLike_0 23 rfl rfl
theorem dksX6_isLike_2 : cX6_isLike.data.toList.drop 47 = dktX6_isLike_2 := dk_seg dksX6_isLike_1 24 rfl rfl
theorem dX6_isLike_0 : decode cX6_isLike 0 = .ok (.aload_n 0, 1) := dk_42 (dk_at dksX6_isLike_0 0 rfl rfl)
theorem dX6_isLike_1 : decode cX6_isLike 1 = .ok (.getfield 18, 3) := dk_180 0 18 (dk_at dksX6_isLike_0 1 rfl rfl)
theorem dX6_isLike_4 : decode cX6_isLike 4 = .ok (.aload_n 1, 1) := dk_43 (dk_at dksX6_isLike_0 4 rfl rfl)
theorem dX6_isLike_5 : decode cX6_isLike 5 = .ok (.getfield 18, 3) := dk_180 0 18 (dk_at dksX6_isLike_0 5 rfl rfl)
theorem dX6_isLike_8 : decode cX6_isLike 8 = .ok (.lcmp, 1) := dk_148 (dk_at dksX6_isLike_0 8 rfl rfl)
theorem dX6_isLike_9 : decode cX6_isLike 9 = .ok (.ifCond .ne 7, 3) := dk_154 0 7 (dk_at dksX6_isLike_0 9 rfl rfl)
theorem dX6_isLike_12 : decode cX6_isLike 12 = .ok (.iconst 1, 1) := dk_4 (dk_at dksX6_isLike_0 12 rfl rfl)
theorem dX6_isLike_13 : decode cX6_isLike 13 = .ok (.goto 4, 3) := dk_167 0 4 (dk_at dksX6_isLike_0 13 rfl rfl)
theorem dX6_isLike_16 : decode cX6_isLike 16 = .ok (.iconst 0, 1) := dk_3 (dk_at dksX6_isLike_0 16 rfl rfl)
theorem dX6_isLike_17 : decode cX6_isLike 17 = .ok (.istore_n 2, 1) := dk_61 (dk_at dksX6_isLike_0 17 rfl rfl)
theorem dX6_isLike_18 : decode cX6_isLike 18 = .ok (.iconst 0, 1) := dk_3 (dk_at dksX6_isLike_0 18 rfl rfl)
theorem dX6_isLike_19 : decode cX6_isLike 19 = .ok (.istore_n 3, 1) := dk_62 (dk_at dksX6_isLike_0 19 rfl rfl)
theorem dX6_isLike_20 : decode cX6_isLike 20 = .ok (.iload_n 3, 1) := dk_29 (dk_at dksX6_isLike_0 20 rfl rfl)
theorem dX6_isLike_21 : decode cX6_isLike 21 = .ok (.bipush 32, 2) := dk_16 32 (dk_at dksX6_isLike_0 21 rfl rfl)
theorem dX6_isLike_23 : decode cX6_isLike 23 = .ok (.if_icmp .ge 35, 3) := dk_162 0 35 (dk_at dksX6_isLike_1 0 rfl rfl)
theorem dX6_isLike_26 : decode cX6_isLike 26 = .ok (.iload_n 2, 1) := dk_28 (dk_at dksX6_isLike_1 3 rfl rfl)
theorem dX6_isLike_27 : decode cX6_isLike 27 = .ok (.ifCond .eq 31, 3) := dk_153 0 31 (dk_at dksX6_isLike_1 4 rfl rfl)
theorem dX6_isLike_30 : decode cX6_isLike 30 = .ok (.aload_n 0, 1) := dk_42 (dk_at dksX6_isLike_1 7 rfl rfl)
theorem dX6_isLike_31 : decode cX6_isLike 31 = .ok (.getfield 14, 3) := dk_180 0 14 (dk_at dksX6_isLike_1 8 rfl rfl)
theorem dX6_isLike_34 : decode cX6_isLike 34 = .ok (.iload_n 3, 1) := dk_29 (dk_at dksX6_isLike_1 11 rfl rfl)
theorem dX6_isLike_35 : decode cX6_isLike 35 = .ok (.laload, 1) := dk_47 (dk_at dksX6_isLike_1 12 rfl rfl)
theorem dX6_isLike_36 : decode cX6_isLike 36 = .ok (.aload_n 1, 1) := dk_43 (dk_at dksX6_isLike_1 13 rfl rfl)
theorem dX6_isLike_37 : decode cX6_isLike 37 = .ok (.getfield 14, 3) := dk_180 0 14 (dk_at dksX6_isLike_1 14 rfl rfl)
theorem dX6_isLike_40 : decode cX6_isLike 40 = .ok (.iload_n 3, 1) := dk_29 (dk_at dksX6_isLike_1 17 rfl rfl)
theorem dX6_isLike_41 : decode cX6_isLike 41 = .ok (.laload, 1) := dk_47 (dk_at dksX6_isLike_1 18 rfl rfl)
theorem dX6_isLike_42 : decode cX6_isLike 42 = .ok (.lcmp, 1) := dk_148 (dk_at dksX6_isLike_1 19 rfl rfl)
theorem dX6_isLike_43 : decode cX6_isLike 43 = .ok (.ifCond .ne 7, 3) := dk_154 0 7 (dk_at dksX6_isLike_1 20 rfl rfl)
theorem dX6_isLike_46 : decode cX6_isLike 46 = .ok (.iconst 1, 1) := dk_4 (dk_at dksX6_isLike_1 23 rfl rfl)
theorem dX6_isLike_47 : decode cX6_isLike 47 = .ok (.goto 4, 3) := dk_167 0 4 (dk_at dksX6_isLike_2 0 rfl rfl)
theorem dX6_isLike_50 : decode cX6_isLike 50 = .ok (.iconst 0, 1) := dk_3 (dk_at dksX6_isLike_2 3 rfl rfl)
theorem dX6_isLike_51 : decode cX6_isLike 51 = .ok (.istore_n 2, 1) := dk_61 (dk_at dksX6_isLike_2 4 rfl rfl)
theorem dX6_isLike_52 : decode cX6_isLike 52 = .ok (.iinc 3 1, 3) := dk_132 3 1 (dk_at dksX6_isLike_2 5 rfl rfl)
theorem dX6_isLike_55 : decode cX6_isLike 55 = .ok (.goto (-35), 3) := dk_167 255 221 (dk_at dksX6_isLike_2 8 rfl rfl)
theorem dX6_isLike_58 : decode cX6_isLike 58 = .ok (.iload_n 2, 1) := dk_28 (dk_at dksX6_isLike_2 11 rfl rfl)
theorem dX6_isLike_59 : decode cX6_isLike 59 = .ok (.ireturn, 1) := dk_172 (dk_at dksX6_isLike_2 12 rfl rfl)
abbrev cX6_isScalar : ByteArray := prog_6_method_9_code
def yX6_isScalar : MethodName := ⟨RX6, "isScalar", "()Z"⟩
def dkwX6_isScalar_0 : List UInt8 := [42, 182, 0, 50, 16, 254, 126, 154, 0, 7, 4, 167, 0, 4, 3, 172]
abbrev dktX6_isScalar_0 : List UInt8 := dkwX6_isScalar_0 ++ []
theorem dksX6_isScalar_0 : cX6_isScalar.data.toList.drop 0 = dktX6_isScalar_0 := by decide +kernel
theorem dX6_isScalar_0 : decode cX6_isScalar 0 = .ok (.aload_n 0, 1) := dk_42 (dk_at dksX6_isScalar_0 0 rfl rfl)
theorem dX6_isScalar_1 : decode cX6_isScalar 1 = .ok (.invokevirtual 50, 3) := dk_182 0 50 (dk_at dksX6_isScalar_0 1 rfl rfl)
theorem dX6_isScalar_4 : decode cX6_isScalar 4 = .ok (.bipush (-2), 2) := dk_16 254 (dk_at dksX6_isScalar_0 4 rfl rfl)
theorem dX6_isScalar_6 : decode cX6_isScalar 6 = .ok (.iand, 1) := dk_126 (dk_at dksX6_isScalar_0 6 rfl rfl)
theorem dX6_isScalar_7 : decode cX6_isScalar 7 = .ok (.ifCond .ne 7, 3) := dk_154 0 7 (dk_at dksX6_isScalar_0 7 rfl rfl)
theorem dX6_isScalar_10 : decode cX6_isScalar 10 = .ok (.iconst 1, 1) := dk_4 (dk_at dksX6_isScalar_0 10 rfl rfl)
theorem dX6_isScalar_11 : decode cX6_isScalar 11 = .ok (.goto 4, 3) := dk_167 0 4 (dk_at dksX6_isScalar_0 11 rfl rfl)
theorem dX6_isScalar_14 : decode cX6_isScalar 14 = .ok (.iconst 0, 1) := dk_3 (dk_at dksX6_isScalar_0 14 rfl rfl)
theorem dX6_isScalar_15 : decode cX6_isScalar 15 = .ok (.ireturn, 1) := dk_172 (dk_at dksX6_isScalar_0 15 rfl rfl)
theorem q102 : (Jvm.Cond.initialized "BladeAlgebra$Multi") ∈ lw_all := lw_g (lw_at lw_m1 7 rfl) rfl
theorem q238 : (Jvm.Cond.laysStatic "BladeAlgebra$Multi" "ZERO" "LBladeAlgebra$Multi;") ∈ lw_tbl := lw_at lw_m1 143 rfl
theorem q502 : (Jvm.Cond.instanceMethod ({ cls := "BladeAlgebra$Multi", name := "with", desc := "(IJJ)LBladeAlgebra$Multi;" } : Jvm.MethodName)) ∈ lw_all := lw_g (lw_at lw_m2 167 rfl) rfl
theorem q503 : (Jvm.Cond.selects "BladeAlgebra$Multi" ({ cls := "BladeAlgebra$Multi", name := "with", desc := "(IJJ)LBladeAlgebra$Multi;" } : Jvm.MethodName) ({ cls := "BladeAlgebra$Multi", name := "with", desc := "(IJJ)LBladeAlgebra$Multi;" } : Jvm.MethodName)) ∈ lw_all := lw_g (lw_at lw_m2 168 rfl) rfl
theorem q504 : (Jvm.Cond.code ({ cls := "BladeAlgebra$Multi", name := "with", desc := "(IJJ)LBladeAlgebra$Multi;" } : Jvm.MethodName) prog_6_method_5_code (8 : Nat) (Option.some (Jvm.ClassFile.FieldType.object "BladeAlgebra$Multi"))) ∈ lw_all := lw_g (lw_at lw_m2 169 rfl) rfl
theorem q505 : (Jvm.Cond.methodLink "BladeAlgebra$Multi" (41 : Nat) ({ cls := "[J", name := "clone", desc := "()Ljava/lang/Object;" } : Jvm.MethodName)) ∈ lw_all := lw_g (lw_at lw_m2 170 rfl) rfl
theorem q509 : (Jvm.Cond.classLink "BladeAlgebra$Multi" (42 : Nat) "[J") ∈ lw_all := lw_g (lw_at lw_m2 174 rfl) rfl
theorem q510 : (Jvm.Cond.methodLink "BladeAlgebra$Multi" (37 : Nat) ({ cls := "BladeAlgebra$Multi", name := "fit", desc := "([JJ)LBladeAlgebra$Multi;" } : Jvm.MethodName)) ∈ lw_all := lw_g (lw_at lw_m2 175 rfl) rfl
theorem q511 : (Jvm.Cond.static ({ cls := "BladeAlgebra$Multi", name := "fit", desc := "([JJ)LBladeAlgebra$Multi;" } : Jvm.MethodName)) ∈ lw_all := lw_g (lw_at lw_m2 176 rfl) rfl
theorem q512 : (Jvm.Cond.code ({ cls := "BladeAlgebra$Multi", name := "fit", desc := "([JJ)LBladeAlgebra$Multi;" } : Jvm.MethodName) prog_6_method_3_code (6 : Nat) (Option.some (Jvm.ClassFile.FieldType.object "BladeAlgebra$Multi"))) ∈ lw_all := lw_g (lw_at lw_m2 177 rfl) rfl
theorem q513 : (Jvm.Cond.methodLinkNest "BladeAlgebra$Multi" (22 : Nat) ({ cls := "BladeAlgebra", name := "common", desc := "(JJ)J" } : Jvm.MethodName) "BladeAlgebra") ∈ lw_tbl := lw_at lw_m2 178 rfl
theorem q519 : (Jvm.Cond.methodLink "BladeAlgebra$Multi" (26 : Nat) ({ cls := "java/lang/Math", name := "abs", desc := "(J)J" } : Jvm.MethodName)) ∈ lw_all := lw_g (lw_at lw_m2 184 rfl) rfl
theorem q520 : (Jvm.Cond.constantLong "BladeAlgebra$Multi" (32 : Nat) (100000000 : Int64)) ∈ lw_all := lw_g (lw_at lw_m2 185 rfl) rfl
theorem q521 : (Jvm.Cond.classLink "BladeAlgebra$Multi" (34 : Nat) "BladeAlgebra$Unfit") ∈ lw_all := lw_g (lw_at lw_m2 186 rfl) rfl
theorem q530 : (Jvm.Cond.methodLink "BladeAlgebra$Multi" (36 : Nat) ({ cls := "BladeAlgebra$Unfit", name := "<init>", desc := "()V" } : Jvm.MethodName)) ∈ lw_all := lw_g (lw_at lw_m2 195 rfl) rfl
theorem q543 : (Jvm.Cond.classLink "BladeAlgebra$Multi" (4 : Nat) "BladeAlgebra$Multi") ∈ lw_all := lw_g (lw_at lw_m2 208 rfl) rfl
theorem q544 : (Jvm.Cond.instantiable "BladeAlgebra$Multi" (2 : Nat)) ∈ lw_all := lw_g (lw_at lw_m2 209 rfl) rfl
theorem q545 : (Jvm.Cond.methodLink "BladeAlgebra$Multi" (3 : Nat) ({ cls := "BladeAlgebra$Multi", name := "<init>", desc := "([JJ)V" } : Jvm.MethodName)) ∈ lw_all := lw_g (lw_at lw_m2 210 rfl) rfl
theorem q546 : (Jvm.Cond.instanceMethod ({ cls := "BladeAlgebra$Multi", name := "<init>", desc := "([JJ)V" } : Jvm.MethodName)) ∈ lw_all := lw_g (lw_at lw_m2 211 rfl) rfl
theorem q547 : (Jvm.Cond.code ({ cls := "BladeAlgebra$Multi", name := "<init>", desc := "([JJ)V" } : Jvm.MethodName) prog_6_method_2_code (4 : Nat) (Option.none : Option Jvm.ClassFile.FieldType)) ∈ lw_all := lw_g (lw_at lw_m2 212 rfl) rfl
theorem q548 : (Jvm.Cond.methodLink "BladeAlgebra$Multi" (9 : Nat) ({ cls := "java/lang/Object", name := "<init>", desc := "()V" } : Jvm.MethodName)) ∈ lw_all := lw_g (lw_at lw_m2 213 rfl) rfl
theorem q549 : (Jvm.Cond.fieldLink "BladeAlgebra$Multi" (14 : Nat) "BladeAlgebra$Multi" "row" "[J") ∈ lw_all := lw_g (lw_at lw_m2 214 rfl) rfl
theorem q553 : (Jvm.Cond.fieldLink "BladeAlgebra$Multi" (18 : Nat) "BladeAlgebra$Multi" "under" "J") ∈ lw_all := lw_g (lw_at lw_m2 218 rfl) rfl
theorem q557 : (Jvm.Cond.laysFinal "BladeAlgebra$Multi" "BladeAlgebra$Multi" "row" "[J") ∈ lw_all := lw_g (lw_at lw_m2 222 rfl) rfl
theorem q558 : (Jvm.Cond.soleField "BladeAlgebra$Multi" "row") ∈ lw_all := lw_g (lw_at lw_m2 223 rfl) rfl
theorem q559 : (Jvm.Cond.laysFinal "BladeAlgebra$Multi" "BladeAlgebra$Multi" "under" "J") ∈ lw_all := lw_g (lw_at lw_m2 224 rfl) rfl
theorem q560 : (Jvm.Cond.soleField "BladeAlgebra$Multi" "under") ∈ lw_all := lw_g (lw_at lw_m2 225 rfl) rfl
theorem q561 : (Jvm.Cond.superclass "BladeAlgebra$Multi" "java/lang/Object") ∈ lw_all := lw_g (lw_at lw_m2 226 rfl) rfl
theorem q641 : (Jvm.Cond.instanceMethod ({ cls := "BladeAlgebra$Multi", name := "plus", desc := "(LBladeAlgebra$Multi;I)LBladeAlgebra$Multi;" } : Jvm.MethodName)) ∈ lw_all := lw_g (lw_at lw_m3 66 rfl) rfl
theorem q642 : (Jvm.Cond.selects "BladeAlgebra$Multi" ({ cls := "BladeAlgebra$Multi", name := "plus", desc := "(LBladeAlgebra$Multi;I)LBladeAlgebra$Multi;" } : Jvm.MethodName) ({ cls := "BladeAlgebra$Multi", name := "plus", desc := "(LBladeAlgebra$Multi;I)LBladeAlgebra$Multi;" } : Jvm.MethodName)) ∈ lw_all := lw_g (lw_at lw_m3 67 rfl) rfl
theorem q643 : (Jvm.Cond.code ({ cls := "BladeAlgebra$Multi", name := "plus", desc := "(LBladeAlgebra$Multi;I)LBladeAlgebra$Multi;" } : Jvm.MethodName) prog_6_method_6_code (5 : Nat) (Option.some (Jvm.ClassFile.FieldType.object "BladeAlgebra$Multi"))) ∈ lw_all := lw_g (lw_at lw_m3 68 rfl) rfl
theorem q716 : (Jvm.Cond.privateMethod ({ cls := "BladeAlgebra$Multi", name := "reduced", desc := "([J)LBladeAlgebra$Multi;" } : Jvm.MethodName)) ∈ lw_tbl := lw_at lw_m3 141 rfl
theorem q717 : (Jvm.Cond.instanceMethod ({ cls := "BladeAlgebra$Multi", name := "reduced", desc := "([J)LBladeAlgebra$Multi;" } : Jvm.MethodName)) ∈ lw_all := lw_g (lw_at lw_m3 142 rfl) rfl
theorem q718 : (Jvm.Cond.code ({ cls := "BladeAlgebra$Multi", name := "reduced", desc := "([J)LBladeAlgebra$Multi;" } : Jvm.MethodName) prog_6_method_16_code (5 : Nat) (Option.some (Jvm.ClassFile.FieldType.object "BladeAlgebra$Multi"))) ∈ lw_all := lw_g (lw_at lw_m3 143 rfl) rfl
theorem q728 : (Jvm.Cond.instanceMethod ({ cls := "BladeAlgebra$Multi", name := "times", desc := "(JJ)LBladeAlgebra$Multi;" } : Jvm.MethodName)) ∈ lw_all := lw_g (lw_at lw_m3 153 rfl) rfl
theorem q729 : (Jvm.Cond.selects "BladeAlgebra$Multi" ({ cls := "BladeAlgebra$Multi", name := "times", desc := "(JJ)LBladeAlgebra$Multi;" } : Jvm.MethodName) ({ cls := "BladeAlgebra$Multi", name := "times", desc := "(JJ)LBladeAlgebra$Multi;" } : Jvm.MethodName)) ∈ lw_all := lw_g (lw_at lw_m3 154 rfl) rfl
theorem q730 : (Jvm.Cond.code ({ cls := "BladeAlgebra$Multi", name := "times", desc := "(JJ)LBladeAlgebra$Multi;" } : Jvm.MethodName) prog_6_method_7_code (7 : Nat) (Option.some (Jvm.ClassFile.FieldType.object "BladeAlgebra$Multi"))) ∈ lw_all := lw_g (lw_at lw_m3 155 rfl) rfl
theorem q736 : (Jvm.Cond.instanceMethod ({ cls := "BladeAlgebra$Multi", name := "terms", desc := "()I" } : Jvm.MethodName)) ∈ lw_all := lw_g (lw_at lw_m3 161 rfl) rfl
theorem q737 : (Jvm.Cond.selects "BladeAlgebra$Multi" ({ cls := "BladeAlgebra$Multi", name := "terms", desc := "()I" } : Jvm.MethodName) ({ cls := "BladeAlgebra$Multi", name := "terms", desc := "()I" } : Jvm.MethodName)) ∈ lw_all := lw_g (lw_at lw_m3 162 rfl) rfl
theorem q738 : (Jvm.Cond.code ({ cls := "BladeAlgebra$Multi", name := "terms", desc := "()I" } : Jvm.MethodName) prog_6_method_12_code (3 : Nat) (Option.some Jvm.ClassFile.FieldType.int)) ∈ lw_all := lw_g (lw_at lw_m3 163 rfl) rfl
theorem q757 : (Jvm.Cond.instanceMethod ({ cls := "BladeAlgebra$Multi", name := "signed", desc := "(II)LBladeAlgebra$Multi;" } : Jvm.MethodName)) ∈ lw_all := lw_g (lw_at lw_m3 182 rfl) rfl
theorem q758 : (Jvm.Cond.selects "BladeAlgebra$Multi" ({ cls := "BladeAlgebra$Multi", name := "signed", desc := "(II)LBladeAlgebra$Multi;" } : Jvm.MethodName) ({ cls := "BladeAlgebra$Multi", name := "signed", desc := "(II)LBladeAlgebra$Multi;" } : Jvm.MethodName)) ∈ lw_all := lw_g (lw_at lw_m3 183 rfl) rfl
theorem q759 : (Jvm.Cond.code ({ cls := "BladeAlgebra$Multi", name := "signed", desc := "(II)LBladeAlgebra$Multi;" } : Jvm.MethodName) prog_6_method_15_code (5 : Nat) (Option.some (Jvm.ClassFile.FieldType.object "BladeAlgebra$Multi"))) ∈ lw_all := lw_g (lw_at lw_m3 184 rfl) rfl
theorem q760 : (Jvm.Cond.fieldLinkNest "BladeAlgebra$Multi" (46 : Nat) "BladeAlgebra" "GRADE" "[I" "BladeAlgebra") ∈ lw_tbl := lw_at lw_m3 185 rfl
theorem q761 : (Jvm.Cond.methodLink "BladeAlgebra$Multi" (59 : Nat) ({ cls := "BladeAlgebra$Multi", name := "reduced", desc := "([J)LBladeAlgebra$Multi;" } : Jvm.MethodName)) ∈ lw_all := lw_g (lw_at lw_m3 186 rfl) rfl
theorem q768 : (Jvm.Cond.instanceMethod ({ cls := "BladeAlgebra$Multi", name := "isOtherScalar", desc := "()Z" } : Jvm.MethodName)) ∈ lw_all := lw_g (lw_at lw_m3 193 rfl) rfl
theorem q769 : (Jvm.Cond.selects "BladeAlgebra$Multi" ({ cls := "BladeAlgebra$Multi", name := "isOtherScalar", desc := "()Z" } : Jvm.MethodName) ({ cls := "BladeAlgebra$Multi", name := "isOtherScalar", desc := "()Z" } : Jvm.MethodName)) ∈ lw_all := lw_g (lw_at lw_m3 194 rfl) rfl
theorem q770 : (Jvm.Cond.code ({ cls := "BladeAlgebra$Multi", name := "isOtherScalar", desc := "()Z" } : Jvm.MethodName) prog_6_method_11_code (1 : Nat) (Option.some Jvm.ClassFile.FieldType.boolean)) ∈ lw_all := lw_g (lw_at lw_m3 195 rfl) rfl
theorem q771 : (Jvm.Cond.methodLink "BladeAlgebra$Multi" (50 : Nat) ({ cls := "BladeAlgebra$Multi", name := "grades", desc := "()I" } : Jvm.MethodName)) ∈ lw_all := lw_g (lw_at lw_m3 196 rfl) rfl
theorem q772 : (Jvm.Cond.instanceMethod ({ cls := "BladeAlgebra$Multi", name := "grades", desc := "()I" } : Jvm.MethodName)) ∈ lw_all := lw_g (lw_at lw_m3 197 rfl) rfl
theorem q773 : (Jvm.Cond.selects "BladeAlgebra$Multi" ({ cls := "BladeAlgebra$Multi", name := "grades", desc := "()I" } : Jvm.MethodName) ({ cls := "BladeAlgebra$Multi", name := "grades", desc := "()I" } : Jvm.MethodName)) ∈ lw_all := lw_g (lw_at lw_m3 198 rfl) rfl
theorem q774 : (Jvm.Cond.code ({ cls := "BladeAlgebra$Multi", name := "grades", desc := "()I" } : Jvm.MethodName) prog_6_method_8_code (3 : Nat) (Option.some Jvm.ClassFile.FieldType.int)) ∈ lw_all := lw_g (lw_at lw_m3 199 rfl) rfl
theorem q819 : (Jvm.Cond.static ({ cls := "BladeAlgebra$Multi", name := "of", desc := "(IJJ)LBladeAlgebra$Multi;" } : Jvm.MethodName)) ∈ lw_all := lw_g (lw_at lw_m4 4 rfl) rfl
theorem q820 : (Jvm.Cond.code ({ cls := "BladeAlgebra$Multi", name := "of", desc := "(IJJ)LBladeAlgebra$Multi;" } : Jvm.MethodName) prog_6_method_4_code (6 : Nat) (Option.some (Jvm.ClassFile.FieldType.object "BladeAlgebra$Multi"))) ∈ lw_all := lw_g (lw_at lw_m4 5 rfl) rfl
theorem q916 : (Jvm.Cond.instanceMethod ({ cls := "BladeAlgebra$Multi", name := "isVector", desc := "()Z" } : Jvm.MethodName)) ∈ lw_all := lw_g (lw_at lw_m4 101 rfl) rfl
theorem q917 : (Jvm.Cond.selects "BladeAlgebra$Multi" ({ cls := "BladeAlgebra$Multi", name := "isVector", desc := "()Z" } : Jvm.MethodName) ({ cls := "BladeAlgebra$Multi", name := "isVector", desc := "()Z" } : Jvm.MethodName)) ∈ lw_all := lw_g (lw_at lw_m4 102 rfl) rfl
theorem q918 : (Jvm.Cond.code ({ cls := "BladeAlgebra$Multi", name := "isVector", desc := "()Z" } : Jvm.MethodName) prog_6_method_10_code (1 : Nat) (Option.some Jvm.ClassFile.FieldType.boolean)) ∈ lw_all := lw_g (lw_at lw_m4 103 rfl) rfl
theorem q925 : (Jvm.Cond.instanceMethod ({ cls := "BladeAlgebra$Multi", name := "iterator", desc := "()Ljava/util/Iterator;" } : Jvm.MethodName)) ∈ lw_all := lw_g (lw_at lw_m4 110 rfl) rfl
theorem q926 : (Jvm.Cond.selects "BladeAlgebra$Multi" ({ cls := "BladeAlgebra$Multi", name := "iterator", desc := "()Ljava/util/Iterator;" } : Jvm.MethodName) ({ cls := "BladeAlgebra$Multi", name := "iterator", desc := "()Ljava/util/Iterator;" } : Jvm.MethodName)) ∈ lw_all := lw_g (lw_at lw_m4 111 rfl) rfl
theorem q927 : (Jvm.Cond.code ({ cls := "BladeAlgebra$Multi", name := "iterator", desc := "()Ljava/util/Iterator;" } : Jvm.MethodName) prog_6_method_14_code (1 : Nat) (Option.some (Jvm.ClassFile.FieldType.object "java/util/Iterator"))) ∈ lw_all := lw_g (lw_at lw_m4 112 rfl) rfl
theorem q928 : (Jvm.Cond.classLink "BladeAlgebra$Multi" (54 : Nat) "BladeAlgebra$Multi$1") ∈ lw_all := lw_g (lw_at lw_m4 113 rfl) rfl
theorem q930 : (Jvm.Cond.methodLink "BladeAlgebra$Multi" (56 : Nat) ({ cls := "BladeAlgebra$Multi$1", name := "<init>", desc := "(LBladeAlgebra$Multi;)V" } : Jvm.MethodName)) ∈ lw_all := lw_g (lw_at lw_m4 115 rfl) rfl
theorem q1062 : (Jvm.Cond.instanceMethod ({ cls := "BladeAlgebra$Multi", name := "isLike", desc := "(LBladeAlgebra$Multi;)Z" } : Jvm.MethodName)) ∈ lw_all := lw_g (lw_at lw_m5 7 rfl) rfl
theorem q1063 : (Jvm.Cond.selects "BladeAlgebra$Multi" ({ cls := "BladeAlgebra$Multi", name := "isLike", desc := "(LBladeAlgebra$Multi;)Z" } : Jvm.MethodName) ({ cls := "BladeAlgebra$Multi", name := "isLike", desc := "(LBladeAlgebra$Multi;)Z" } : Jvm.MethodName)) ∈ lw_all := lw_g (lw_at lw_m5 8 rfl) rfl
theorem q1064 : (Jvm.Cond.code ({ cls := "BladeAlgebra$Multi", name := "isLike", desc := "(LBladeAlgebra$Multi;)Z" } : Jvm.MethodName) prog_6_method_13_code (4 : Nat) (Option.some Jvm.ClassFile.FieldType.boolean)) ∈ lw_all := lw_g (lw_at lw_m5 9 rfl) rfl
theorem q1108 : (Jvm.Cond.instanceMethod ({ cls := "BladeAlgebra$Multi", name := "isScalar", desc := "()Z" } : Jvm.MethodName)) ∈ lw_all := lw_g (lw_at lw_m5 53 rfl) rfl
theorem q1109 : (Jvm.Cond.selects "BladeAlgebra$Multi" ({ cls := "BladeAlgebra$Multi", name := "isScalar", desc := "()Z" } : Jvm.MethodName) ({ cls := "BladeAlgebra$Multi", name := "isScalar", desc := "()Z" } : Jvm.MethodName)) ∈ lw_all := lw_g (lw_at lw_m5 54 rfl) rfl
theorem q1110 : (Jvm.Cond.code ({ cls := "BladeAlgebra$Multi", name := "isScalar", desc := "()Z" } : Jvm.MethodName) prog_6_method_9_code (1 : Nat) (Option.some Jvm.ClassFile.FieldType.boolean)) ∈ lw_all := lw_g (lw_at lw_m5 55 rfl) rfl
theorem q1656 : (Jvm.Cond.selects "BladeAlgebra$Multi" ({ cls := "java/lang/Object", name := "getClass", desc := "()Ljava/lang/Class;" } : Jvm.MethodName) ({ cls := "java/lang/Object", name := "getClass", desc := "()Ljava/lang/Class;" } : Jvm.MethodName)) ∈ lw_all := lw_g (lw_at lw_m7 121 rfl) rfl
theorem q2573 : (Jvm.Cond.castable "BladeAlgebra$Multi" "java/lang/Object") ∈ lw_tbl := lw_at lw_m11 78 rfl
theorem in_X6 : ∀ w ∈ wsX60, w ∈ lw_all := lw_in wsX60 [557, 559] (by decide +kernel) (by decide +kernel)
/-! BladeAlgebra$Unfit -/
set_option maxRecDepth 100000
def RX8 : String := "BladeAlgebra$Unfit"
def TX8 : u_T := fun k => match k with
  | 0 => ("java/lang/Throwable", "cause", "Ljava/lang/Throwable;", false)
  | 1 => ("java/lang/Throwable", "stackTrace", "[Ljava/lang/StackTraceElement;", false)
  | 2 => ("java/lang/Throwable", "suppressedExceptions", "Ljava/util/List;", false)
  | 3 => ("java/lang/Throwable", "detailMessage", "Ljava/lang/String;", false)
  | 4 => ("java/lang/Throwable", "backtrace", "Ljava/lang/Object;", false)
  | _ => ("java/lang/Throwable", "depth", "I", false)
def tyX8 : Nat → FieldType := fun k => match k with
  | 0 => .object "java/lang/Throwable"
  | 1 => .array (.object "java/lang/StackTraceElement")
  | 2 => .object "java/util/List"
  | 3 => .object "java/lang/String"
  | 4 => .object "java/lang/Object"
  | _ => .int
abbrev wsX80 : List Cond := u_ws RX8 TX8 6
theorem nmX8 : ∀ a, a < 6 → ∀ b, b < 6 → a ≠ b → (TX8 a).2.1 ≠ (TX8 b).2.1 := by decide +kernel
theorem tyX8_ok : ∀ k, k < 6 → parseFieldDescriptor (TX8 k).2.2.1 = some (tyX8 k) := by decide +kernel
abbrev cX8_init : ByteArray := prog_38_method_1_code
def yX8_init : MethodName := ⟨RX8, "<init>", "()V"⟩
def dkwX8_init_0 : List UInt8 := [42, 18, 1, 1, 3, 3, 183, 0, 3, 177]
abbrev dktX8_init_0 : List UInt8 := dkwX8_init_0 ++ []
theorem dksX8_init_0 : cX8_init.data.toList.drop 0 = dktX8_init_0 := by decide +kernel
theorem dX8_init_0 : decode cX8_init 0 = .ok (.aload_n 0, 1) := dk_42 (dk_at dksX8_init_0 0 rfl rfl)
theorem dX8_init_1 : decode cX8_init 1 = .ok (.ldc 1, 2) := dk_18 1 (dk_at dksX8_init_0 1 rfl rfl)
theorem dX8_init_3 : decode cX8_init 3 = .ok (.aconst_null, 1) := dk_1 (dk_at dksX8_init_0 3 rfl rfl)
theorem dX8_init_4 : decode cX8_init 4 = .ok (.iconst 0, 1) := dk_3 (dk_at dksX8_init_0 4 rfl rfl)
theorem dX8_init_5 : decode cX8_init 5 = .ok (.iconst 0, 1) := dk_3 (dk_at dksX8_init_0 5 rfl rfl)
theorem dX8_init_6 : decode cX8_init 6 = .ok (.invokespecial 3, 3) := dk_183 0 3 (dk_at dksX8_init_0 6 rfl rfl)
theorem dX8_init_9 : decode cX8_init 9 = .ok (.return_, 1) := dk_177 (dk_at dksX8_init_0 9 rfl rfl)
theorem q116 : (Jvm.Cond.initialized "BladeAlgebra$Unfit") ∈ lw_all := lw_g (lw_at lw_m1 21 rfl) rfl
theorem q372 : (Jvm.Cond.selects "BladeAlgebra$Unfit" ({ cls := "java/lang/Throwable", name := "fillInStackTrace", desc := "()Ljava/lang/Throwable;" } : Jvm.MethodName) ({ cls := "java/lang/Throwable", name := "fillInStackTrace", desc := "()Ljava/lang/Throwable;" } : Jvm.MethodName)) ∈ lw_all := lw_g (lw_at lw_m2 37 rfl) rfl
theorem q522 : (Jvm.Cond.instantiable "BladeAlgebra$Unfit" (6 : Nat)) ∈ lw_all := lw_g (lw_at lw_m2 187 rfl) rfl
theorem q523 : (Jvm.Cond.castable "BladeAlgebra$Unfit" "BladeAlgebra$Unfit") ∈ lw_tbl := lw_at lw_m2 188 rfl
theorem q524 : (Jvm.Cond.selects "BladeAlgebra$Unfit" ({ cls := "java/lang/Throwable", name := "fillInStackTrace", desc := "(I)Ljava/lang/Throwable;" } : Jvm.MethodName) ({ cls := "java/lang/Throwable", name := "fillInStackTrace", desc := "(I)Ljava/lang/Throwable;" } : Jvm.MethodName)) ∈ lw_all := lw_g (lw_at lw_m2 189 rfl) rfl
theorem q525 : (Jvm.Cond.lays "BladeAlgebra$Unfit" "java/lang/Throwable" "cause" "Ljava/lang/Throwable;") ∈ lw_all := lw_g (lw_at lw_m2 190 rfl) rfl
theorem q526 : (Jvm.Cond.lays "BladeAlgebra$Unfit" "java/lang/Throwable" "stackTrace" "[Ljava/lang/StackTraceElement;") ∈ lw_all := lw_g (lw_at lw_m2 191 rfl) rfl
theorem q527 : (Jvm.Cond.lays "BladeAlgebra$Unfit" "java/lang/Throwable" "suppressedExceptions" "Ljava/util/List;") ∈ lw_all := lw_g (lw_at lw_m2 192 rfl) rfl
theorem q528 : (Jvm.Cond.lays "BladeAlgebra$Unfit" "java/lang/Throwable" "detailMessage" "Ljava/lang/String;") ∈ lw_all := lw_g (lw_at lw_m2 193 rfl) rfl
theorem q529 : (Jvm.Cond.lays "BladeAlgebra$Unfit" "java/lang/Throwable" "backtrace" "Ljava/lang/Object;") ∈ lw_all := lw_g (lw_at lw_m2 194 rfl) rfl
theorem q531 : (Jvm.Cond.instanceMethod ({ cls := "BladeAlgebra$Unfit", name := "<init>", desc := "()V" } : Jvm.MethodName)) ∈ lw_all := lw_g (lw_at lw_m2 196 rfl) rfl
theorem q532 : (Jvm.Cond.code ({ cls := "BladeAlgebra$Unfit", name := "<init>", desc := "()V" } : Jvm.MethodName) prog_38_method_1_code (1 : Nat) (Option.none : Option Jvm.ClassFile.FieldType)) ∈ lw_all := lw_g (lw_at lw_m2 197 rfl) rfl
theorem q533 : (Jvm.Cond.stringRef "BladeAlgebra$Unfit" (1 : Nat) "does not fit") ∈ lw_tbl := lw_at lw_m2 198 rfl
theorem q534 : (Jvm.Cond.methodLink "BladeAlgebra$Unfit" (3 : Nat) ({ cls := "java/lang/Exception", name := "<init>", desc := "(Ljava/lang/String;Ljava/lang/Throwable;ZZ)V" } : Jvm.MethodName)) ∈ lw_all := lw_g (lw_at lw_m2 199 rfl) rfl
theorem q540 : (Jvm.Cond.lays "BladeAlgebra$Unfit" "java/lang/Throwable" "depth" "I") ∈ lw_all := lw_g (lw_at lw_m2 205 rfl) rfl
theorem q541 : (Jvm.Cond.superclass "BladeAlgebra$Unfit" "java/lang/Exception") ∈ lw_all := lw_g (lw_at lw_m2 206 rfl) rfl
theorem q1684 : (Jvm.Cond.selects "BladeAlgebra$Unfit" ({ cls := "java/lang/Object", name := "getClass", desc := "()Ljava/lang/Class;" } : Jvm.MethodName) ({ cls := "java/lang/Object", name := "getClass", desc := "()Ljava/lang/Class;" } : Jvm.MethodName)) ∈ lw_all := lw_g (lw_at lw_m7 149 rfl) rfl
theorem q2602 : (Jvm.Cond.castable "BladeAlgebra$Unfit" "java/lang/Object") ∈ lw_tbl := lw_at lw_m11 107 rfl
theorem in_X8 : ∀ w ∈ wsX80, w ∈ lw_all := lw_in wsX80 [525, 526, 527, 528, 529, 540] (by decide +kernel) (by decide +kernel)
/-! BladeAlgebra$Term -/
set_option maxRecDepth 100000
def RX9 : String := "BladeAlgebra$Term"
def TX9 : u_T := fun k => match k with
  | 0 => ("BladeAlgebra$Term", "blade", "I", true)
  | 1 => ("BladeAlgebra$Term", "numerator", "J", true)
  | _ => ("BladeAlgebra$Term", "denominator", "J", true)
def tyX9 : Nat → FieldType := fun k => match k with
  | 0 => .int
  | 1 => .long
  | _ => .long
abbrev wsX90 : List Cond := u_ws RX9 TX9 3
theorem nmX9 : ∀ a, a < 3 → ∀ b, b < 3 → a ≠ b → (TX9 a).2.1 ≠ (TX9 b).2.1 := by decide +kernel
theorem tyX9_ok : ∀ k, k < 3 → parseFieldDescriptor (TX9 k).2.2.1 = some (tyX9 k) := by decide +kernel
abbrev cX9_init : ByteArray := prog_27_method_1_code
def yX9_init : MethodName := ⟨RX9, "<init>", "(IJJ)V"⟩
def dkwX9_init_1 : List UInt8 := [181, 0, 19, 42, 22, 4, 22, 6, 109, 181, 0, 23, 177]
abbrev dktX9_init_1 : List UInt8 := dkwX9_init_1 ++ []
def dkwX9_init_0 : List UInt8 := [42, 183, 0, 1, 32, 22, 4, 184, 0, 7, 55, 6, 42, 27, 181, 0, 13, 42, 32, 22, 6, 109]
abbrev dktX9_init_0 : List UInt8 := dkwX9_init_0 ++ dktX9_init_1
theorem dksX9_init_0 : cX9_init.data.toList.drop 0 = dktX9_init_0 := by decide +kernel
theorem dksX9_init_1 : cX9_init.data.toList.drop 22 = dktX9_init_1 := dk_seg dksX9_init_0 22 rfl rfl
theorem dX9_init_0 : decode cX9_init 0 = .ok (.aload_n 0, 1) := dk_42 (dk_at dksX9_init_0 0 rfl rfl)
theorem dX9_init_1 : decode cX9_init 1 = .ok (.invokespecial 1, 3) := dk_183 0 1 (dk_at dksX9_init_0 1 rfl rfl)
theorem dX9_init_4 : decode cX9_init 4 = .ok (.lload_n 2, 1) := dk_32 (dk_at dksX9_init_0 4 rfl rfl)
theorem dX9_init_5 : decode cX9_init 5 = .ok (.lload 4, 2) := dk_22 4 (dk_at dksX9_init_0 5 rfl rfl)
theorem dX9_init_7 : decode cX9_init 7 = .ok (.invokestatic 7, 3) := dk_184 0 7 (dk_at dksX9_init_0 7 rfl rfl)
theorem dX9_init_10 : decode cX9_init 10 = .ok (.lstore 6, 2) := dk_55 6 (dk_at dksX9_init_0 10 rfl rfl)
theorem dX9_init_12 : decode cX9_init 12 = .ok (.aload_n 0, 1) := dk_42 (dk_at dksX9_init_0 12 rfl rfl)
theorem dX9_init_13 : decode cX9_init 13 = .ok (.iload_n 1, 1) := dk_27 (dk_at dksX9_init_0 13 rfl rfl)
theorem dX9_init_14 : decode cX9_init 14 = .ok (.putfield 13, 3) := dk_181 0 13 (dk_at dksX9_init_0 14 rfl rfl)
theorem dX9_init_17 : decode cX9_init 17 = .ok (.aload_n 0, 1) := dk_42 (dk_at dksX9_init_0 17 rfl rfl)
theorem dX9_init_18 : decode cX9_init 18 = .ok (.lload_n 2, 1) := dk_32 (dk_at dksX9_init_0 18 rfl rfl)
theorem dX9_init_19 : decode cX9_init 19 = .ok (.lload 6, 2) := dk_22 6 (dk_at dksX9_init_0 19 rfl rfl)
theorem dX9_init_21 : decode cX9_init 21 = .ok (.ldiv, 1) := dk_109 (dk_at dksX9_init_0 21 rfl rfl)
theorem dX9_init_22 : decode cX9_init 22 = .ok (.putfield 19, 3) := dk_181 0 19 (dk_at dksX9_init_1 0 rfl rfl)
theorem dX9_init_25 : decode cX9_init 25 = .ok (.aload_n 0, 1) := dk_42 (dk_at dksX9_init_1 3 rfl rfl)
theorem dX9_init_26 : decode cX9_init 26 = .ok (.lload 4, 2) := dk_22 4 (dk_at dksX9_init_1 4 rfl rfl)
theorem dX9_init_28 : decode cX9_init 28 = .ok (.lload 6, 2) := dk_22 6 (dk_at dksX9_init_1 6 rfl rfl)
theorem dX9_init_30 : decode cX9_init 30 = .ok (.ldiv, 1) := dk_109 (dk_at dksX9_init_1 8 rfl rfl)
theorem dX9_init_31 : decode cX9_init 31 = .ok (.putfield 23, 3) := dk_181 0 23 (dk_at dksX9_init_1 9 rfl rfl)
theorem dX9_init_34 : decode cX9_init 34 = .ok (.return_, 1) := dk_177 (dk_at dksX9_init_1 12 rfl rfl)
abbrev cX9_isNegative : ByteArray := prog_27_method_2_code
def yX9_isNegative : MethodName := ⟨RX9, "isNegative", "()Z"⟩
def dkwX9_isNegative_0 : List UInt8 := [42, 180, 0, 19, 9, 148, 156, 0, 7, 4, 167, 0, 4, 3, 172]
abbrev dktX9_isNegative_0 : List UInt8 := dkwX9_isNegative_0 ++ []
theorem dksX9_isNegative_0 : cX9_isNegative.data.toList.drop 0 = dktX9_isNegative_0 := by decide +kernel
theorem dX9_isNegative_0 : decode cX9_isNegative 0 = .ok (.aload_n 0, 1) := dk_42 (dk_at dksX9_isNegative_0 0 rfl rfl)
theorem dX9_isNegative_1 : decode cX9_isNegative 1 = .ok (.getfield 19, 3) := dk_180 0 19 (dk_at dksX9_isNegative_0 1 rfl rfl)
theorem dX9_isNegative_4 : decode cX9_isNegative 4 = .ok (.lconst 0, 1) := dk_9 (dk_at dksX9_isNegative_0 4 rfl rfl)
theorem dX9_isNegative_5 : decode cX9_isNegative 5 = .ok (.lcmp, 1) := dk_148 (dk_at dksX9_isNegative_0 5 rfl rfl)
theorem dX9_isNegative_6 : decode cX9_isNegative 6 = .ok (.ifCond .ge 7, 3) := dk_156 0 7 (dk_at dksX9_isNegative_0 6 rfl rfl)
theorem dX9_isNegative_9 : decode cX9_isNegative 9 = .ok (.iconst 1, 1) := dk_4 (dk_at dksX9_isNegative_0 9 rfl rfl)
theorem dX9_isNegative_10 : decode cX9_isNegative 10 = .ok (.goto 4, 3) := dk_167 0 4 (dk_at dksX9_isNegative_0 10 rfl rfl)
theorem dX9_isNegative_13 : decode cX9_isNegative 13 = .ok (.iconst 0, 1) := dk_3 (dk_at dksX9_isNegative_0 13 rfl rfl)
theorem dX9_isNegative_14 : decode cX9_isNegative 14 = .ok (.ireturn, 1) := dk_172 (dk_at dksX9_isNegative_0 14 rfl rfl)
abbrev cX9_isOne : ByteArray := prog_27_method_3_code
def yX9_isOne : MethodName := ⟨RX9, "isOne", "()Z"⟩
def dkwX9_isOne_1 : List UInt8 := [167, 0, 4, 3, 172]
abbrev dktX9_isOne_1 : List UInt8 := dkwX9_isOne_1 ++ []
def dkwX9_isOne_0 : List UInt8 := [42, 180, 0, 19, 184, 0, 26, 10, 148, 154, 0, 16, 42, 180, 0, 23, 10, 148, 154, 0, 7, 4]
abbrev dktX9_isOne_0 : List UInt8 := dkwX9_isOne_0 ++ dktX9_isOne_1
theorem dksX9_isOne_0 : cX9_isOne.data.toList.drop 0 = dktX9_isOne_0 := by decide +kernel
theorem dksX9_isOne_1 : cX9_isOne.data.toList.drop 22 = dktX9_isOne_1 := dk_seg dksX9_isOne_0 22 rfl rfl
theorem dX9_isOne_0 : decode cX9_isOne 0 = .ok (.aload_n 0, 1) := dk_42 (dk_at dksX9_isOne_0 0 rfl rfl)
theorem dX9_isOne_1 : decode cX9_isOne 1 = .ok (.getfield 19, 3) := dk_180 0 19 (dk_at dksX9_isOne_0 1 rfl rfl)
theorem dX9_isOne_4 : decode cX9_isOne 4 = .ok (.invokestatic 26, 3) := dk_184 0 26 (dk_at dksX9_isOne_0 4 rfl rfl)
theorem dX9_isOne_7 : decode cX9_isOne 7 = .ok (.lconst 1, 1) := dk_10 (dk_at dksX9_isOne_0 7 rfl rfl)
theorem dX9_isOne_8 : decode cX9_isOne 8 = .ok (.lcmp, 1) := dk_148 (dk_at dksX9_isOne_0 8 rfl rfl)
theorem dX9_isOne_9 : decode cX9_isOne 9 = .ok (.ifCond .ne 16, 3) := dk_154 0 16 (dk_at dksX9_isOne_0 9 rfl rfl)
theorem dX9_isOne_12 : decode cX9_isOne 12 = .ok (.aload_n 0, 1) := dk_42 (dk_at dksX9_isOne_0 12 rfl rfl)
theorem dX9_isOne_13 : decode cX9_isOne 13 = .ok (.getfield 23, 3) := dk_180 0 23 (dk_at dksX9_isOne_0 13 rfl rfl)
theorem dX9_isOne_16 : decode cX9_isOne 16 = .ok (.lconst 1, 1) := dk_10 (dk_at dksX9_isOne_0 16 rfl rfl)
theorem dX9_isOne_17 : decode cX9_isOne 17 = .ok (.lcmp, 1) := dk_148 (dk_at dksX9_isOne_0 17 rfl rfl)
theorem dX9_isOne_18 : decode cX9_isOne 18 = .ok (.ifCond .ne 7, 3) := dk_154 0 7 (dk_at dksX9_isOne_0 18 rfl rfl)
theorem dX9_isOne_21 : decode cX9_isOne 21 = .ok (.iconst 1, 1) := dk_4 (dk_at dksX9_isOne_0 21 rfl rfl)
theorem dX9_isOne_22 : decode cX9_isOne 22 = .ok (.goto 4, 3) := dk_167 0 4 (dk_at dksX9_isOne_1 0 rfl rfl)
theorem dX9_isOne_25 : decode cX9_isOne 25 = .ok (.iconst 0, 1) := dk_3 (dk_at dksX9_isOne_1 3 rfl rfl)
theorem dX9_isOne_26 : decode cX9_isOne 26 = .ok (.ireturn, 1) := dk_172 (dk_at dksX9_isOne_1 4 rfl rfl)
theorem q117 : (Jvm.Cond.initialized "BladeAlgebra$Term") ∈ lw_all := lw_g (lw_at lw_m1 22 rfl) rfl
theorem q580 : (Jvm.Cond.instantiable "BladeAlgebra$Term" (3 : Nat)) ∈ lw_all := lw_g (lw_at lw_m3 5 rfl) rfl
theorem q582 : (Jvm.Cond.instanceMethod ({ cls := "BladeAlgebra$Term", name := "<init>", desc := "(IJJ)V" } : Jvm.MethodName)) ∈ lw_all := lw_g (lw_at lw_m3 7 rfl) rfl
theorem q583 : (Jvm.Cond.code ({ cls := "BladeAlgebra$Term", name := "<init>", desc := "(IJJ)V" } : Jvm.MethodName) prog_27_method_1_code (8 : Nat) (Option.none : Option Jvm.ClassFile.FieldType)) ∈ lw_all := lw_g (lw_at lw_m3 8 rfl) rfl
theorem q584 : (Jvm.Cond.methodLink "BladeAlgebra$Term" (1 : Nat) ({ cls := "java/lang/Object", name := "<init>", desc := "()V" } : Jvm.MethodName)) ∈ lw_all := lw_g (lw_at lw_m3 9 rfl) rfl
theorem q585 : (Jvm.Cond.methodLinkNest "BladeAlgebra$Term" (7 : Nat) ({ cls := "BladeAlgebra", name := "common", desc := "(JJ)J" } : Jvm.MethodName) "BladeAlgebra") ∈ lw_tbl := lw_at lw_m3 10 rfl
theorem q586 : (Jvm.Cond.fieldLink "BladeAlgebra$Term" (13 : Nat) "BladeAlgebra$Term" "blade" "I") ∈ lw_all := lw_g (lw_at lw_m3 11 rfl) rfl
theorem q588 : (Jvm.Cond.fieldLink "BladeAlgebra$Term" (19 : Nat) "BladeAlgebra$Term" "numerator" "J") ∈ lw_all := lw_g (lw_at lw_m3 13 rfl) rfl
theorem q590 : (Jvm.Cond.fieldLink "BladeAlgebra$Term" (23 : Nat) "BladeAlgebra$Term" "denominator" "J") ∈ lw_all := lw_g (lw_at lw_m3 15 rfl) rfl
theorem q592 : (Jvm.Cond.laysFinal "BladeAlgebra$Term" "BladeAlgebra$Term" "blade" "I") ∈ lw_all := lw_g (lw_at lw_m3 17 rfl) rfl
theorem q593 : (Jvm.Cond.soleField "BladeAlgebra$Term" "blade") ∈ lw_all := lw_g (lw_at lw_m3 18 rfl) rfl
theorem q594 : (Jvm.Cond.laysFinal "BladeAlgebra$Term" "BladeAlgebra$Term" "numerator" "J") ∈ lw_all := lw_g (lw_at lw_m3 19 rfl) rfl
theorem q595 : (Jvm.Cond.soleField "BladeAlgebra$Term" "numerator") ∈ lw_all := lw_g (lw_at lw_m3 20 rfl) rfl
theorem q596 : (Jvm.Cond.laysFinal "BladeAlgebra$Term" "BladeAlgebra$Term" "denominator" "J") ∈ lw_all := lw_g (lw_at lw_m3 21 rfl) rfl
theorem q597 : (Jvm.Cond.soleField "BladeAlgebra$Term" "denominator") ∈ lw_all := lw_g (lw_at lw_m3 22 rfl) rfl
theorem q598 : (Jvm.Cond.superclass "BladeAlgebra$Term" "java/lang/Object") ∈ lw_all := lw_g (lw_at lw_m3 23 rfl) rfl
theorem q1674 : (Jvm.Cond.selects "BladeAlgebra$Term" ({ cls := "java/lang/Object", name := "getClass", desc := "()Ljava/lang/Class;" } : Jvm.MethodName) ({ cls := "java/lang/Object", name := "getClass", desc := "()Ljava/lang/Class;" } : Jvm.MethodName)) ∈ lw_all := lw_g (lw_at lw_m7 139 rfl) rfl
theorem q1901 : (Jvm.Cond.instanceMethod ({ cls := "BladeAlgebra$Term", name := "isNegative", desc := "()Z" } : Jvm.MethodName)) ∈ lw_all := lw_g (lw_at lw_m8 126 rfl) rfl
theorem q1902 : (Jvm.Cond.selects "BladeAlgebra$Term" ({ cls := "BladeAlgebra$Term", name := "isNegative", desc := "()Z" } : Jvm.MethodName) ({ cls := "BladeAlgebra$Term", name := "isNegative", desc := "()Z" } : Jvm.MethodName)) ∈ lw_all := lw_g (lw_at lw_m8 127 rfl) rfl
theorem q1903 : (Jvm.Cond.code ({ cls := "BladeAlgebra$Term", name := "isNegative", desc := "()Z" } : Jvm.MethodName) prog_27_method_2_code (1 : Nat) (Option.some Jvm.ClassFile.FieldType.boolean)) ∈ lw_all := lw_g (lw_at lw_m8 128 rfl) rfl
theorem q1932 : (Jvm.Cond.instanceMethod ({ cls := "BladeAlgebra$Term", name := "isOne", desc := "()Z" } : Jvm.MethodName)) ∈ lw_all := lw_g (lw_at lw_m8 157 rfl) rfl
theorem q1933 : (Jvm.Cond.selects "BladeAlgebra$Term" ({ cls := "BladeAlgebra$Term", name := "isOne", desc := "()Z" } : Jvm.MethodName) ({ cls := "BladeAlgebra$Term", name := "isOne", desc := "()Z" } : Jvm.MethodName)) ∈ lw_all := lw_g (lw_at lw_m8 158 rfl) rfl
theorem q1934 : (Jvm.Cond.code ({ cls := "BladeAlgebra$Term", name := "isOne", desc := "()Z" } : Jvm.MethodName) prog_27_method_3_code (1 : Nat) (Option.some Jvm.ClassFile.FieldType.boolean)) ∈ lw_all := lw_g (lw_at lw_m8 159 rfl) rfl
theorem q1935 : (Jvm.Cond.methodLink "BladeAlgebra$Term" (26 : Nat) ({ cls := "java/lang/Math", name := "abs", desc := "(J)J" } : Jvm.MethodName)) ∈ lw_all := lw_g (lw_at lw_m8 160 rfl) rfl
theorem q2603 : (Jvm.Cond.castable "BladeAlgebra$Term" "java/lang/Object") ∈ lw_tbl := lw_at lw_m11 108 rfl
theorem in_X9 : ∀ w ∈ wsX90, w ∈ lw_all := lw_in wsX90 [592, 594, 596] (by decide +kernel) (by decide +kernel)
/-! BladeAlgebra$Multi$1 -/
set_option maxRecDepth 100000
def RX10 : String := "BladeAlgebra$Multi$1"
def TX10 : u_T := fun k => match k with
  | 0 => ("BladeAlgebra$Multi$1", "at", "I", false)
  | _ => ("BladeAlgebra$Multi$1", "this$0", "LBladeAlgebra$Multi;", true)
def tyX10 : Nat → FieldType := fun k => match k with
  | 0 => .int
  | _ => .object "BladeAlgebra$Multi"
abbrev wsX100 : List Cond := u_ws RX10 TX10 2
theorem nmX10 : ∀ a, a < 2 → ∀ b, b < 2 → a ≠ b → (TX10 a).2.1 ≠ (TX10 b).2.1 := by decide +kernel
theorem tyX10_ok : ∀ k, k < 2 → parseFieldDescriptor (TX10 k).2.2.1 = some (tyX10 k) := by decide +kernel
abbrev cX10_init : ByteArray := prog_7_method_1_code
def yX10_init : MethodName := ⟨RX10, "<init>", "(LBladeAlgebra$Multi;)V"⟩
def dkwX10_init_0 : List UInt8 := [42, 43, 181, 0, 3, 42, 183, 0, 9, 42, 42, 3, 182, 0, 15, 181, 0, 19, 177]
abbrev dktX10_init_0 : List UInt8 := dkwX10_init_0 ++ []
theorem dksX10_init_0 : cX10_init.data.toList.drop 0 = dktX10_init_0 := by decide +kernel
theorem dX10_init_0 : decode cX10_init 0 = .ok (.aload_n 0, 1) := dk_42 (dk_at dksX10_init_0 0 rfl rfl)
theorem dX10_init_1 : decode cX10_init 1 = .ok (.aload_n 1, 1) := dk_43 (dk_at dksX10_init_0 1 rfl rfl)
theorem dX10_init_2 : decode cX10_init 2 = .ok (.putfield 3, 3) := dk_181 0 3 (dk_at dksX10_init_0 2 rfl rfl)
theorem dX10_init_5 : decode cX10_init 5 = .ok (.aload_n 0, 1) := dk_42 (dk_at dksX10_init_0 5 rfl rfl)
theorem dX10_init_6 : decode cX10_init 6 = .ok (.invokespecial 9, 3) := dk_183 0 9 (dk_at dksX10_init_0 6 rfl rfl)
theorem dX10_init_9 : decode cX10_init 9 = .ok (.aload_n 0, 1) := dk_42 (dk_at dksX10_init_0 9 rfl rfl)
theorem dX10_init_10 : decode cX10_init 10 = .ok (.aload_n 0, 1) := dk_42 (dk_at dksX10_init_0 10 rfl rfl)
theorem dX10_init_11 : decode cX10_init 11 = .ok (.iconst 0, 1) := dk_3 (dk_at dksX10_init_0 11 rfl rfl)
theorem dX10_init_12 : decode cX10_init 12 = .ok (.invokevirtual 15, 3) := dk_182 0 15 (dk_at dksX10_init_0 12 rfl rfl)
theorem dX10_init_15 : decode cX10_init 15 = .ok (.putfield 19, 3) := dk_181 0 19 (dk_at dksX10_init_0 15 rfl rfl)
theorem dX10_init_18 : decode cX10_init 18 = .ok (.return_, 1) := dk_177 (dk_at dksX10_init_0 18 rfl rfl)
abbrev cX10_next : ByteArray := prog_7_method_2_code
def yX10_next : MethodName := ⟨RX10, "next", "(I)I"⟩
def dkwX10_next_1 : List UInt8 := [132, 2, 1, 167, 255, 233, 28, 172]
abbrev dktX10_next_1 : List UInt8 := dkwX10_next_1 ++ []
def dkwX10_next_0 : List UInt8 := [27, 61, 28, 16, 32, 162, 0, 23, 42, 180, 0, 3, 180, 0, 23, 28, 47, 9, 148, 154, 0, 9]
abbrev dktX10_next_0 : List UInt8 := dkwX10_next_0 ++ dktX10_next_1
theorem dksX10_next_0 : cX10_next.data.toList.drop 0 = dktX10_next_0 := by decide +kernel
theorem dksX10_next_1 : cX10_next.data.toList.drop 22 = dktX10_next_1 := dk_seg dksX10_next_0 22 rfl rfl
theorem dX10_next_0 : decode cX10_next 0 = .ok (.iload_n 1, 1) := dk_27 (dk_at dksX10_next_0 0 rfl rfl)
theorem dX10_next_1 : decode cX10_next 1 = .ok (.istore_n 2, 1) := dk_61 (dk_at dksX10_next_0 1 rfl rfl)
theorem dX10_next_2 : decode cX10_next 2 = .ok (.iload_n 2, 1) := dk_28 (dk_at dksX10_next_0 2 rfl rfl)
theorem dX10_next_3 : decode cX10_next 3 = .ok (.bipush 32, 2) := dk_16 32 (dk_at dksX10_next_0 3 rfl rfl)
theorem dX10_next_5 : decode cX10_next 5 = .ok (.if_icmp .ge 23, 3) := dk_162 0 23 (dk_at dksX10_next_0 5 rfl rfl)
theorem dX10_next_8 : decode cX10_next 8 = .ok (.aload_n 0, 1) := dk_42 (dk_at dksX10_next_0 8 rfl rfl)
theorem dX10_next_9 : decode cX10_next 9 = .ok (.getfield 3, 3) := dk_180 0 3 (dk_at dksX10_next_0 9 rfl rfl)
theorem dX10_next_12 : decode cX10_next 12 = .ok (.getfield 23, 3) := dk_180 0 23 (dk_at dksX10_next_0 12 rfl rfl)
theorem dX10_next_15 : decode cX10_next 15 = .ok (.iload_n 2, 1) := dk_28 (dk_at dksX10_next_0 15 rfl rfl)
theorem dX10_next_16 : decode cX10_next 16 = .ok (.laload, 1) := dk_47 (dk_at dksX10_next_0 16 rfl rfl)
theorem dX10_next_17 : decode cX10_next 17 = .ok (.lconst 0, 1) := dk_9 (dk_at dksX10_next_0 17 rfl rfl)
theorem dX10_next_18 : decode cX10_next 18 = .ok (.lcmp, 1) := dk_148 (dk_at dksX10_next_0 18 rfl rfl)
theorem dX10_next_19 : decode cX10_next 19 = .ok (.ifCond .ne 9, 3) := dk_154 0 9 (dk_at dksX10_next_0 19 rfl rfl)
theorem dX10_next_22 : decode cX10_next 22 = .ok (.iinc 2 1, 3) := dk_132 2 1 (dk_at dksX10_next_1 0 rfl rfl)
theorem dX10_next_25 : decode cX10_next 25 = .ok (.goto (-23), 3) := dk_167 255 233 (dk_at dksX10_next_1 3 rfl rfl)
theorem dX10_next_28 : decode cX10_next 28 = .ok (.iload_n 2, 1) := dk_28 (dk_at dksX10_next_1 6 rfl rfl)
theorem dX10_next_29 : decode cX10_next 29 = .ok (.ireturn, 1) := dk_172 (dk_at dksX10_next_1 7 rfl rfl)
abbrev cX10_hasNext : ByteArray := prog_7_method_3_code
def yX10_hasNext : MethodName := ⟨RX10, "hasNext", "()Z"⟩
def dkwX10_hasNext_0 : List UInt8 := [42, 180, 0, 19, 16, 32, 162, 0, 7, 4, 167, 0, 4, 3, 172]
abbrev dktX10_hasNext_0 : List UInt8 := dkwX10_hasNext_0 ++ []
theorem dksX10_hasNext_0 : cX10_hasNext.data.toList.drop 0 = dktX10_hasNext_0 := by decide +kernel
theorem dX10_hasNext_0 : decode cX10_hasNext 0 = .ok (.aload_n 0, 1) := dk_42 (dk_at dksX10_hasNext_0 0 rfl rfl)
theorem dX10_hasNext_1 : decode cX10_hasNext 1 = .ok (.getfield 19, 3) := dk_180 0 19 (dk_at dksX10_hasNext_0 1 rfl rfl)
theorem dX10_hasNext_4 : decode cX10_hasNext 4 = .ok (.bipush 32, 2) := dk_16 32 (dk_at dksX10_hasNext_0 4 rfl rfl)
theorem dX10_hasNext_6 : decode cX10_hasNext 6 = .ok (.if_icmp .ge 7, 3) := dk_162 0 7 (dk_at dksX10_hasNext_0 6 rfl rfl)
theorem dX10_hasNext_9 : decode cX10_hasNext 9 = .ok (.iconst 1, 1) := dk_4 (dk_at dksX10_hasNext_0 9 rfl rfl)
theorem dX10_hasNext_10 : decode cX10_hasNext 10 = .ok (.goto 4, 3) := dk_167 0 4 (dk_at dksX10_hasNext_0 10 rfl rfl)
theorem dX10_hasNext_13 : decode cX10_hasNext 13 = .ok (.iconst 0, 1) := dk_3 (dk_at dksX10_hasNext_0 13 rfl rfl)
theorem dX10_hasNext_14 : decode cX10_hasNext 14 = .ok (.ireturn, 1) := dk_172 (dk_at dksX10_hasNext_0 14 rfl rfl)
abbrev cX10_next_2 : ByteArray := prog_7_method_5_code
def yX10_next_2 : MethodName := ⟨RX10, "next", "()Ljava/lang/Object;"⟩
theorem dX10_next_2_0 : decode cX10_next_2 0 = .ok (.aload_n 0, 1) := by decide +kernel
theorem dX10_next_2_1 : decode cX10_next_2 1 = .ok (.invokevirtual 45, 3) := by decide +kernel
theorem dX10_next_2_4 : decode cX10_next_2 4 = .ok (.areturn, 1) := by decide +kernel
abbrev cX10_next_3 : ByteArray := prog_7_method_4_code
def yX10_next_3 : MethodName := ⟨RX10, "next", "()LBladeAlgebra$Term;"⟩
def dkwX10_next_3_2 : List UInt8 := [42, 180, 0, 19, 4, 96, 182, 0, 15, 181, 0, 19, 43, 176]
abbrev dktX10_next_3_2 : List UInt8 := dkwX10_next_3_2 ++ []
def dkwX10_next_3_1 : List UInt8 := [180, 0, 3, 180, 0, 23, 42, 180, 0, 19, 47, 42, 180, 0, 3, 180, 0, 38, 183, 0, 42, 76, 42, 42]
abbrev dktX10_next_3_1 : List UInt8 := dkwX10_next_3_1 ++ dktX10_next_3_2
def dkwX10_next_3_0 : List UInt8 := [42, 182, 0, 29, 154, 0, 11, 187, 0, 33, 89, 183, 0, 35, 191, 187, 0, 36, 89, 42, 180, 0, 19, 42]
abbrev dktX10_next_3_0 : List UInt8 := dkwX10_next_3_0 ++ dktX10_next_3_1
theorem dksX10_next_3_0 : cX10_next_3.data.toList.drop 0 = dktX10_next_3_0 := by decide +kernel
theorem dksX10_next_3_1 : cX10_next_3.data.toList.drop 24 = dktX10_next_3_1 := dk_seg dksX10_next_3_0 24 rfl rfl
theorem dksX10_next_3_2 : cX10_next_3.data.toList.drop 48 = dktX10_next_3_2 := dk_seg dksX10_next_3_1 24 rfl rfl
theorem dX10_next_3_0 : decode cX10_next_3 0 = .ok (.aload_n 0, 1) := dk_42 (dk_at dksX10_next_3_0 0 rfl rfl)
theorem dX10_next_3_1 : decode cX10_next_3 1 = .ok (.invokevirtual 29, 3) := dk_182 0 29 (dk_at dksX10_next_3_0 1 rfl rfl)
theorem dX10_next_3_4 : decode cX10_next_3 4 = .ok (.ifCond .ne 11, 3) := dk_154 0 11 (dk_at dksX10_next_3_0 4 rfl rfl)
theorem dX10_next_3_7 : decode cX10_next_3 7 = .ok (.new 33, 3) := dk_187 0 33 (dk_at dksX10_next_3_0 7 rfl rfl)
theorem dX10_next_3_10 : decode cX10_next_3 10 = .ok (.dup, 1) := dk_89 (dk_at dksX10_next_3_0 10 rfl rfl)
theorem dX10_next_3_11 : decode cX10_next_3 11 = .ok (.invokespecial 35, 3) := dk_183 0 35 (dk_at dksX10_next_3_0 11 rfl rfl)
theorem dX10_next_3_14 : decode cX10_next_3 14 = .ok (.athrow, 1) := dk_191 (dk_at dksX10_next_3_0 14 rfl rfl)
theorem dX10_next_3_15 : decode cX10_next_3 15 = .ok (.new 36, 3) := dk_187 0 36 (dk_at dksX10_next_3_0 15 rfl rfl)
theorem dX10_next_3_18 : decode cX10_next_3 18 = .ok (.dup, 1) := dk_89 (dk_at dksX10_next_3_0 18 rfl rfl)
theorem dX10_next_3_19 : decode cX10_next_3 19 = .ok (.aload_n 0, 1) := dk_42 (dk_at dksX10_next_3_0 19 rfl rfl)
theorem dX10_next_3_20 : decode cX10_next_3 20 = .ok (.getfield 19, 3) := dk_180 0 19 (dk_at dksX10_next_3_0 20 rfl rfl)
theorem dX10_next_3_23 : decode cX10_next_3 23 = .ok (.aload_n 0, 1) := dk_42 (dk_at dksX10_next_3_0 23 rfl rfl)
theorem dX10_next_3_24 : decode cX10_next_3 24 = .ok (.getfield 3, 3) := dk_180 0 3 (dk_at dksX10_next_3_1 0 rfl rfl)
theorem dX10_next_3_27 : decode cX10_next_3 27 = .ok (.getfield 23, 3) := dk_180 0 23 (dk_at dksX10_next_3_1 3 rfl rfl)
theorem dX10_next_3_30 : decode cX10_next_3 30 = .ok (.aload_n 0, 1) := dk_42 (dk_at dksX10_next_3_1 6 rfl rfl)
theorem dX10_next_3_31 : decode cX10_next_3 31 = .ok (.getfield 19, 3) := dk_180 0 19 (dk_at dksX10_next_3_1 7 rfl rfl)
theorem dX10_next_3_34 : decode cX10_next_3 34 = .ok (.laload, 1) := dk_47 (dk_at dksX10_next_3_1 10 rfl rfl)
theorem dX10_next_3_35 : decode cX10_next_3 35 = .ok (.aload_n 0, 1) := dk_42 (dk_at dksX10_next_3_1 11 rfl rfl)
theorem dX10_next_3_36 : decode cX10_next_3 36 = .ok (.getfield 3, 3) := dk_180 0 3 (dk_at dksX10_next_3_1 12 rfl rfl)
theorem dX10_next_3_39 : decode cX10_next_3 39 = .ok (.getfield 38, 3) := dk_180 0 38 (dk_at dksX10_next_3_1 15 rfl rfl)
theorem dX10_next_3_42 : decode cX10_next_3 42 = .ok (.invokespecial 42, 3) := dk_183 0 42 (dk_at dksX10_next_3_1 18 rfl rfl)
theorem dX10_next_3_45 : decode cX10_next_3 45 = .ok (.astore_n 1, 1) := dk_76 (dk_at dksX10_next_3_1 21 rfl rfl)
theorem dX10_next_3_46 : decode cX10_next_3 46 = .ok (.aload_n 0, 1) := dk_42 (dk_at dksX10_next_3_1 22 rfl rfl)
theorem dX10_next_3_47 : decode cX10_next_3 47 = .ok (.aload_n 0, 1) := dk_42 (dk_at dksX10_next_3_1 23 rfl rfl)
theorem dX10_next_3_48 : decode cX10_next_3 48 = .ok (.aload_n 0, 1) := dk_42 (dk_at dksX10_next_3_2 0 rfl rfl)
theorem dX10_next_3_49 : decode cX10_next_3 49 = .ok (.getfield 19, 3) := dk_180 0 19 (dk_at dksX10_next_3_2 1 rfl rfl)
theorem dX10_next_3_52 : decode cX10_next_3 52 = .ok (.iconst 1, 1) := dk_4 (dk_at dksX10_next_3_2 4 rfl rfl)
theorem dX10_next_3_53 : decode cX10_next_3 53 = .ok (.iadd, 1) := dk_96 (dk_at dksX10_next_3_2 5 rfl rfl)
theorem dX10_next_3_54 : decode cX10_next_3 54 = .ok (.invokevirtual 15, 3) := dk_182 0 15 (dk_at dksX10_next_3_2 6 rfl rfl)
theorem dX10_next_3_57 : decode cX10_next_3 57 = .ok (.putfield 19, 3) := dk_181 0 19 (dk_at dksX10_next_3_2 9 rfl rfl)
theorem dX10_next_3_60 : decode cX10_next_3 60 = .ok (.aload_n 1, 1) := dk_43 (dk_at dksX10_next_3_2 12 rfl rfl)
theorem dX10_next_3_61 : decode cX10_next_3 61 = .ok (.areturn, 1) := dk_176 (dk_at dksX10_next_3_2 13 rfl rfl)
theorem q120 : (Jvm.Cond.initialized "BladeAlgebra$Multi$1") ∈ lw_all := lw_g (lw_at lw_m1 25 rfl) rfl
theorem q550 : (Jvm.Cond.fieldLinkNest "BladeAlgebra$Multi$1" (23 : Nat) "BladeAlgebra$Multi" "row" "[J" "BladeAlgebra") ∈ lw_tbl := lw_at lw_m2 215 rfl
theorem q554 : (Jvm.Cond.fieldLinkNest "BladeAlgebra$Multi$1" (38 : Nat) "BladeAlgebra$Multi" "under" "J" "BladeAlgebra") ∈ lw_tbl := lw_at lw_m2 219 rfl
theorem q929 : (Jvm.Cond.instantiable "BladeAlgebra$Multi$1" (2 : Nat)) ∈ lw_all := lw_g (lw_at lw_m4 114 rfl) rfl
theorem q931 : (Jvm.Cond.instanceMethod ({ cls := "BladeAlgebra$Multi$1", name := "<init>", desc := "(LBladeAlgebra$Multi;)V" } : Jvm.MethodName)) ∈ lw_all := lw_g (lw_at lw_m4 116 rfl) rfl
theorem q932 : (Jvm.Cond.code ({ cls := "BladeAlgebra$Multi$1", name := "<init>", desc := "(LBladeAlgebra$Multi;)V" } : Jvm.MethodName) prog_7_method_1_code (2 : Nat) (Option.none : Option Jvm.ClassFile.FieldType)) ∈ lw_all := lw_g (lw_at lw_m4 117 rfl) rfl
theorem q933 : (Jvm.Cond.methodLink "BladeAlgebra$Multi$1" (9 : Nat) ({ cls := "java/lang/Object", name := "<init>", desc := "()V" } : Jvm.MethodName)) ∈ lw_all := lw_g (lw_at lw_m4 118 rfl) rfl
theorem q934 : (Jvm.Cond.methodLink "BladeAlgebra$Multi$1" (15 : Nat) ({ cls := "BladeAlgebra$Multi$1", name := "next", desc := "(I)I" } : Jvm.MethodName)) ∈ lw_all := lw_g (lw_at lw_m4 119 rfl) rfl
theorem q935 : (Jvm.Cond.privateMethod ({ cls := "BladeAlgebra$Multi$1", name := "next", desc := "(I)I" } : Jvm.MethodName)) ∈ lw_tbl := lw_at lw_m4 120 rfl
theorem q936 : (Jvm.Cond.instanceMethod ({ cls := "BladeAlgebra$Multi$1", name := "next", desc := "(I)I" } : Jvm.MethodName)) ∈ lw_all := lw_g (lw_at lw_m4 121 rfl) rfl
theorem q937 : (Jvm.Cond.code ({ cls := "BladeAlgebra$Multi$1", name := "next", desc := "(I)I" } : Jvm.MethodName) prog_7_method_2_code (3 : Nat) (Option.some Jvm.ClassFile.FieldType.int)) ∈ lw_all := lw_g (lw_at lw_m4 122 rfl) rfl
theorem q938 : (Jvm.Cond.fieldLink "BladeAlgebra$Multi$1" (19 : Nat) "BladeAlgebra$Multi$1" "at" "I") ∈ lw_all := lw_g (lw_at lw_m4 123 rfl) rfl
theorem q939 : (Jvm.Cond.fieldLink "BladeAlgebra$Multi$1" (3 : Nat) "BladeAlgebra$Multi$1" "this$0" "LBladeAlgebra$Multi;") ∈ lw_all := lw_g (lw_at lw_m4 124 rfl) rfl
theorem q940 : (Jvm.Cond.lays "BladeAlgebra$Multi$1" "BladeAlgebra$Multi$1" "at" "I") ∈ lw_all := lw_g (lw_at lw_m4 125 rfl) rfl
theorem q941 : (Jvm.Cond.soleField "BladeAlgebra$Multi$1" "at") ∈ lw_all := lw_g (lw_at lw_m4 126 rfl) rfl
theorem q942 : (Jvm.Cond.laysFinal "BladeAlgebra$Multi$1" "BladeAlgebra$Multi$1" "this$0" "LBladeAlgebra$Multi;") ∈ lw_all := lw_g (lw_at lw_m4 127 rfl) rfl
theorem q943 : (Jvm.Cond.soleField "BladeAlgebra$Multi$1" "this$0") ∈ lw_all := lw_g (lw_at lw_m4 128 rfl) rfl
theorem q944 : (Jvm.Cond.superclass "BladeAlgebra$Multi$1" "java/lang/Object") ∈ lw_all := lw_g (lw_at lw_m4 129 rfl) rfl
theorem q949 : (Jvm.Cond.castable "BladeAlgebra$Multi$1" "java/util/Iterator") ∈ lw_tbl := lw_at lw_m4 134 rfl
theorem q950 : (Jvm.Cond.selects "BladeAlgebra$Multi$1" ({ cls := "java/util/Iterator", name := "hasNext", desc := "()Z" } : Jvm.MethodName) ({ cls := "BladeAlgebra$Multi$1", name := "hasNext", desc := "()Z" } : Jvm.MethodName)) ∈ lw_all := lw_g (lw_at lw_m4 135 rfl) rfl
theorem q951 : (Jvm.Cond.unhidden "BladeAlgebra$Multi$1" "hasNext" "()Z") ∈ lw_tbl := lw_at lw_m4 136 rfl
theorem q952 : (Jvm.Cond.instanceMethod ({ cls := "BladeAlgebra$Multi$1", name := "hasNext", desc := "()Z" } : Jvm.MethodName)) ∈ lw_all := lw_g (lw_at lw_m4 137 rfl) rfl
theorem q953 : (Jvm.Cond.publicMethod ({ cls := "BladeAlgebra$Multi$1", name := "hasNext", desc := "()Z" } : Jvm.MethodName)) ∈ lw_tbl := lw_at lw_m4 138 rfl
theorem q954 : (Jvm.Cond.code ({ cls := "BladeAlgebra$Multi$1", name := "hasNext", desc := "()Z" } : Jvm.MethodName) prog_7_method_3_code (1 : Nat) (Option.some Jvm.ClassFile.FieldType.boolean)) ∈ lw_all := lw_g (lw_at lw_m4 139 rfl) rfl
theorem q965 : (Jvm.Cond.selects "BladeAlgebra$Multi$1" ({ cls := "java/util/Iterator", name := "next", desc := "()Ljava/lang/Object;" } : Jvm.MethodName) ({ cls := "BladeAlgebra$Multi$1", name := "next", desc := "()Ljava/lang/Object;" } : Jvm.MethodName)) ∈ lw_all := lw_g (lw_at lw_m4 150 rfl) rfl
theorem q966 : (Jvm.Cond.unhidden "BladeAlgebra$Multi$1" "next" "()Ljava/lang/Object;") ∈ lw_tbl := lw_at lw_m4 151 rfl
theorem q967 : (Jvm.Cond.instanceMethod ({ cls := "BladeAlgebra$Multi$1", name := "next", desc := "()Ljava/lang/Object;" } : Jvm.MethodName)) ∈ lw_all := lw_g (lw_at lw_m4 152 rfl) rfl
theorem q968 : (Jvm.Cond.publicMethod ({ cls := "BladeAlgebra$Multi$1", name := "next", desc := "()Ljava/lang/Object;" } : Jvm.MethodName)) ∈ lw_tbl := lw_at lw_m4 153 rfl
theorem q969 : (Jvm.Cond.code ({ cls := "BladeAlgebra$Multi$1", name := "next", desc := "()Ljava/lang/Object;" } : Jvm.MethodName) prog_7_method_5_code (1 : Nat) (Option.some (Jvm.ClassFile.FieldType.object "java/lang/Object"))) ∈ lw_all := lw_g (lw_at lw_m4 154 rfl) rfl
theorem q970 : (Jvm.Cond.methodLink "BladeAlgebra$Multi$1" (45 : Nat) ({ cls := "BladeAlgebra$Multi$1", name := "next", desc := "()LBladeAlgebra$Term;" } : Jvm.MethodName)) ∈ lw_all := lw_g (lw_at lw_m4 155 rfl) rfl
theorem q971 : (Jvm.Cond.instanceMethod ({ cls := "BladeAlgebra$Multi$1", name := "next", desc := "()LBladeAlgebra$Term;" } : Jvm.MethodName)) ∈ lw_all := lw_g (lw_at lw_m4 156 rfl) rfl
theorem q972 : (Jvm.Cond.selects "BladeAlgebra$Multi$1" ({ cls := "BladeAlgebra$Multi$1", name := "next", desc := "()LBladeAlgebra$Term;" } : Jvm.MethodName) ({ cls := "BladeAlgebra$Multi$1", name := "next", desc := "()LBladeAlgebra$Term;" } : Jvm.MethodName)) ∈ lw_all := lw_g (lw_at lw_m4 157 rfl) rfl
theorem q973 : (Jvm.Cond.code ({ cls := "BladeAlgebra$Multi$1", name := "next", desc := "()LBladeAlgebra$Term;" } : Jvm.MethodName) prog_7_method_4_code (2 : Nat) (Option.some (Jvm.ClassFile.FieldType.object "BladeAlgebra$Term"))) ∈ lw_all := lw_g (lw_at lw_m4 158 rfl) rfl
theorem q974 : (Jvm.Cond.methodLink "BladeAlgebra$Multi$1" (29 : Nat) ({ cls := "BladeAlgebra$Multi$1", name := "hasNext", desc := "()Z" } : Jvm.MethodName)) ∈ lw_all := lw_g (lw_at lw_m4 159 rfl) rfl
theorem q975 : (Jvm.Cond.classLink "BladeAlgebra$Multi$1" (33 : Nat) "java/util/NoSuchElementException") ∈ lw_all := lw_g (lw_at lw_m4 160 rfl) rfl
theorem q984 : (Jvm.Cond.methodLink "BladeAlgebra$Multi$1" (35 : Nat) ({ cls := "java/util/NoSuchElementException", name := "<init>", desc := "()V" } : Jvm.MethodName)) ∈ lw_all := lw_g (lw_at lw_m4 169 rfl) rfl
theorem q996 : (Jvm.Cond.classLink "BladeAlgebra$Multi$1" (36 : Nat) "BladeAlgebra$Term") ∈ lw_all := lw_g (lw_at lw_m4 181 rfl) rfl
theorem q997 : (Jvm.Cond.methodLink "BladeAlgebra$Multi$1" (42 : Nat) ({ cls := "BladeAlgebra$Term", name := "<init>", desc := "(IJJ)V" } : Jvm.MethodName)) ∈ lw_all := lw_g (lw_at lw_m4 182 rfl) rfl
theorem q1657 : (Jvm.Cond.selects "BladeAlgebra$Multi$1" ({ cls := "java/lang/Object", name := "getClass", desc := "()Ljava/lang/Class;" } : Jvm.MethodName) ({ cls := "java/lang/Object", name := "getClass", desc := "()Ljava/lang/Class;" } : Jvm.MethodName)) ∈ lw_all := lw_g (lw_at lw_m7 122 rfl) rfl
theorem q2532 : (Jvm.Cond.selects "BladeAlgebra$Multi$1" ({ cls := "BladeAlgebra$Multi$1", name := "hasNext", desc := "()Z" } : Jvm.MethodName) ({ cls := "BladeAlgebra$Multi$1", name := "hasNext", desc := "()Z" } : Jvm.MethodName)) ∈ lw_all := lw_g (lw_at lw_m11 37 rfl) rfl
theorem q2610 : (Jvm.Cond.castable "BladeAlgebra$Multi$1" "java/lang/Object") ∈ lw_tbl := lw_at lw_m11 115 rfl
theorem in_X10 : ∀ w ∈ wsX100, w ∈ lw_all := lw_in wsX100 [940, 942] (by decide +kernel) (by decide +kernel)
/-! BladeAlgebra$Reader -/
set_option maxRecDepth 100000
def RX11 : String := "BladeAlgebra$Reader"
def TX11 : u_T := fun k => match k with
  | 0 => ("BladeAlgebra$Reader", "at", "I", false)
  | 1 => ("BladeAlgebra$Reader", "begin", "I", false)
  | 2 => ("BladeAlgebra$Reader", "open", "I", false)
  | 3 => ("BladeAlgebra$Reader", "token", "C", false)
  | _ => ("BladeAlgebra$Reader", "this$0", "LBladeAlgebra;", true)
def tyX11 : Nat → FieldType := fun k => match k with
  | 0 => .int
  | 1 => .int
  | 2 => .int
  | 3 => .char
  | _ => .object "BladeAlgebra"
abbrev wsX110 : List Cond := u_ws RX11 TX11 5
theorem nmX11 : ∀ a, a < 5 → ∀ b, b < 5 → a ≠ b → (TX11 a).2.1 ≠ (TX11 b).2.1 := by decide +kernel
theorem tyX11_ok : ∀ k, k < 5 → parseFieldDescriptor (TX11 k).2.2.1 = some (tyX11 k) := by decide +kernel
abbrev cX11_init : ByteArray := prog_26_method_1_code
def yX11_init : MethodName := ⟨RX11, "<init>", "(LBladeAlgebra;)V"⟩
def dkwX11_init_0 : List UInt8 := [42, 43, 181, 0, 3, 42, 183, 0, 9, 42, 182, 0, 15, 177]
abbrev dktX11_init_0 : List UInt8 := dkwX11_init_0 ++ []
theorem dksX11_init_0 : cX11_init.data.toList.drop 0 = dktX11_init_0 := by decide +kernel
theorem dX11_init_0 : decode cX11_init 0 = .ok (.aload_n 0, 1) := dk_42 (dk_at dksX11_init_0 0 rfl rfl)
theorem dX11_init_1 : decode cX11_init 1 = .ok (.aload_n 1, 1) := dk_43 (dk_at dksX11_init_0 1 rfl rfl)
theorem dX11_init_2 : decode cX11_init 2 = .ok (.putfield 3, 3) := dk_181 0 3 (dk_at dksX11_init_0 2 rfl rfl)
theorem dX11_init_5 : decode cX11_init 5 = .ok (.aload_n 0, 1) := dk_42 (dk_at dksX11_init_0 5 rfl rfl)
theorem dX11_init_6 : decode cX11_init 6 = .ok (.invokespecial 9, 3) := dk_183 0 9 (dk_at dksX11_init_0 6 rfl rfl)
theorem dX11_init_9 : decode cX11_init 9 = .ok (.aload_n 0, 1) := dk_42 (dk_at dksX11_init_0 9 rfl rfl)
theorem dX11_init_10 : decode cX11_init 10 = .ok (.invokevirtual 15, 3) := dk_182 0 15 (dk_at dksX11_init_0 10 rfl rfl)
theorem dX11_init_13 : decode cX11_init 13 = .ok (.return_, 1) := dk_177 (dk_at dksX11_init_0 13 rfl rfl)
abbrev cX11_next : ByteArray := prog_26_method_3_code
def yX11_next : MethodName := ⟨RX11, "next", "()V"⟩
def dkwX11_next_9 : List UInt8 := [153, 0, 12, 18, 48, 27, 182, 0, 50, 156, 0, 8, 16, 63, 167, 0, 4, 27, 181, 0, 40, 177]
abbrev dktX11_next_9 : List UInt8 := dkwX11_next_9 ++ []
def dkwX11_next_8 : List UInt8 := [20, 0, 26, 20, 0, 28, 184, 0, 30, 153, 0, 8, 16, 48, 167, 0, 26, 28, 153, 0, 7, 29]
abbrev dktX11_next_8 : List UInt8 := dkwX11_next_8 ++ dktX11_next_9
def dkwX11_next_7 : List UInt8 := [182, 0, 44, 153, 0, 16, 42, 89, 180, 0, 34, 4, 96, 181, 0, 34, 167, 255, 231, 42, 27, 133]
abbrev dktX11_next_7 : List UInt8 := dkwX11_next_7 ++ dktX11_next_8
def dkwX11_next_6 : List UInt8 := [180, 0, 34, 182, 0, 44, 153, 0, 7, 4, 167, 0, 4, 3, 62, 29, 153, 0, 27, 42, 42, 180, 0, 34]
abbrev dktX11_next_6 : List UInt8 := dkwX11_next_6 ++ dktX11_next_7
def dkwX11_next_5 : List UInt8 := [3, 61, 27, 133, 20, 0, 26, 20, 0, 28, 184, 0, 30, 154, 0, 18, 28, 153, 0, 18, 42, 42]
abbrev dktX11_next_5 : List UInt8 := dkwX11_next_5 ++ dktX11_next_6
def dkwX11_next_4 : List UInt8 := [180, 0, 34, 4, 96, 181, 0, 34, 27, 16, 101, 159, 0, 9, 27, 16, 114, 160, 0, 7, 4, 167, 0, 4]
abbrev dktX11_next_4 : List UInt8 := dkwX11_next_4 ++ dktX11_next_5
def dkwX11_next_3 : List UInt8 := [160, 0, 4, 177, 42, 180, 0, 3, 180, 0, 22, 42, 180, 0, 34, 51, 17, 0, 255, 126, 146, 60, 42, 89]
abbrev dktX11_next_3 : List UInt8 := dkwX11_next_3 ++ dktX11_next_4
def dkwX11_next_2 : List UInt8 := [180, 0, 34, 181, 0, 37, 42, 3, 181, 0, 40, 42, 180, 0, 34, 42, 180, 0, 3, 180, 0, 18]
abbrev dktX11_next_2 : List UInt8 := dkwX11_next_2 ++ dktX11_next_3
def dkwX11_next_1 : List UInt8 := [180, 0, 34, 51, 16, 32, 160, 0, 16, 42, 89, 180, 0, 34, 4, 96, 181, 0, 34, 167, 255, 215, 42, 42]
abbrev dktX11_next_1 : List UInt8 := dkwX11_next_1 ++ dktX11_next_2
def dkwX11_next_0 : List UInt8 := [42, 180, 0, 34, 42, 180, 0, 3, 180, 0, 18, 162, 0, 33, 42, 180, 0, 3, 180, 0, 22, 42]
abbrev dktX11_next_0 : List UInt8 := dkwX11_next_0 ++ dktX11_next_1
theorem dksX11_next_0 : cX11_next.data.toList.drop 0 = dktX11_next_0 := by decide +kernel
theorem dksX11_next_1 : cX11_next.data.toList.drop 22 = dktX11_next_1 := dk_seg dksX11_next_0 22 rfl rfl
theorem dksX11_next_2 : cX11_next.data.toList.drop 46 = dktX11_next_2 := dk_seg dksX11_next_1 24 rfl rfl
theorem dksX11_next_3 : cX11_next.data.toList.drop 68 = dktX11_next_3 := dk_seg dksX11_next_2 22 rfl rfl
theorem dksX11_next_4 : cX11_next.data.toList.drop 92 = dktX11_next_4 := dk_seg dksX11_next_3 24 rfl rfl
theorem dksX11_next_5 : cX11_next.data.toList.drop 116 = dktX11_next_5 := dk_seg dksX11_next_4 24 rfl rfl
theorem dksX11_next_6 : cX11_next.data.toList.drop 138 = dktX11_next_6 := dk_seg dksX11_next_5 22 rfl rfl
theorem dksX11_next_7 : cX11_next.data.toList.drop 162 = dktX11_next_7 := dk_seg dksX11_next_6 24 rfl rfl
theorem dksX11_next_8 : cX11_next.data.toList.drop 184 = dktX11_next_8 := dk_seg dksX11_next_7 22 rfl rfl
theorem dksX11_next_9 : cX11_next.data.toList.drop 206 = dktX11_next_9 := dk_seg dksX11_next_8 22 rfl rfl
theorem dX11_next_0 : decode cX11_next 0 = .ok (.aload_n 0, 1) := dk_42 (dk_at dksX11_next_0 0 rfl rfl)
theorem dX11_next_1 : decode cX11_next 1 = .ok (.getfield 34, 3) := dk_180 0 34 (dk_at dksX11_next_0 1 rfl rfl)
theorem dX11_next_4 : decode cX11_next 4 = .ok (.aload_n 0, 1) := dk_42 (dk_at dksX11_next_0 4 rfl rfl)
theorem dX11_next_5 : decode cX11_next 5 = .ok (.getfield 3, 3) := dk_180 0 3 (dk_at dksX11_next_0 5 rfl rfl)
theorem dX11_next_8 : decode cX11_next 8 = .ok (.getfield 18, 3) := dk_180 0 18 (dk_at dksX11_next_0 8 rfl rfl)
theorem dX11_next_11 : decode cX11_next 11 = .ok (.if_icmp .ge 33, 3) := dk_162 0 33 (dk_at dksX11_next_0 11 rfl rfl)
theorem dX11_next_14 : decode cX11_next 14 = .ok (.aload_n 0, 1) := dk_42 (dk_at dksX11_next_0 14 rfl rfl)
theorem dX11_next_15 : decode cX11_next 15 = .ok (.getfield 3, 3) := dk_180 0 3 (dk_at dksX11_next_0 15 rfl rfl)
theorem dX11_next_18 : decode cX11_next 18 = .ok (.getfield 22, 3) := dk_180 0 22 (dk_at dksX11_next_0 18 rfl rfl)
theorem dX11_next_21 : decode cX11_next 21 = .ok (.aload_n 0, 1) := dk_42 (dk_at dksX11_next_0 21 rfl rfl)
theorem dX11_next_22 : decode cX11_next 22 = .ok (.getfield 34, 3) := dk_180 0 34 (dk_at dksX11_next_1 0 rfl rfl)
theorem dX11_next_25 : decode cX11_next 25 = .ok (.baload, 1) := dk_51 (dk_at dksX11_next_1 3 rfl rfl)
theorem dX11_next_26 : decode cX11_next 26 = .ok (.bipush 32, 2) := dk_16 32 (dk_at dksX11_next_1 4 rfl rfl)
theorem dX11_next_28 : decode cX11_next 28 = .ok (.if_icmp .ne 16, 3) := dk_160 0 16 (dk_at dksX11_next_1 6 rfl rfl)
theorem dX11_next_31 : decode cX11_next 31 = .ok (.aload_n 0, 1) := dk_42 (dk_at dksX11_next_1 9 rfl rfl)
theorem dX11_next_32 : decode cX11_next 32 = .ok (.dup, 1) := dk_89 (dk_at dksX11_next_1 10 rfl rfl)
theorem dX11_next_33 : decode cX11_next 33 = .ok (.getfield 34, 3) := dk_180 0 34 (dk_at dksX11_next_1 11 rfl rfl)
theorem dX11_next_36 : decode cX11_next 36 = .ok (.iconst 1, 1) := dk_4 (dk_at dksX11_next_1 14 rfl rfl)
theorem dX11_next_37 : decode cX11_next 37 = .ok (.iadd, 1) := dk_96 (dk_at dksX11_next_1 15 rfl rfl)
theorem dX11_next_38 : decode cX11_next 38 = .ok (.putfield 34, 3) := dk_181 0 34 (dk_at dksX11_next_1 16 rfl rfl)
theorem dX11_next_41 : decode cX11_next 41 = .ok (.goto (-41), 3) := dk_167 255 215 (dk_at dksX11_next_1 19 rfl rfl)
theorem dX11_next_44 : decode cX11_next 44 = .ok (.aload_n 0, 1) := dk_42 (dk_at dksX11_next_1 22 rfl rfl)
theorem dX11_next_45 : decode cX11_next 45 = .ok (.aload_n 0, 1) := dk_42 (dk_at dksX11_next_1 23 rfl rfl)
theorem dX11_next_46 : decode cX11_next 46 = .ok (.getfield 34, 3) := dk_180 0 34 (dk_at dksX11_next_2 0 rfl rfl)
theorem dX11_next_49 : decode cX11_next 49 = .ok (.putfield 37, 3) := dk_181 0 37 (dk_at dksX11_next_2 3 rfl rfl)
theorem dX11_next_52 : decode cX11_next 52 = .ok (.aload_n 0, 1) := dk_42 (dk_at dksX11_next_2 6 rfl rfl)
theorem dX11_next_53 : decode cX11_next 53 = .ok (.iconst 0, 1) := dk_3 (dk_at dksX11_next_2 7 rfl rfl)
theorem dX11_next_54 : decode cX11_next 54 = .ok (.putfield 40, 3) := dk_181 0 40 (dk_at dksX11_next_2 8 rfl rfl)
theorem dX11_next_57 : decode cX11_next 57 = .ok (.aload_n 0, 1) := dk_42 (dk_at dksX11_next_2 11 rfl rfl)
theorem dX11_next_58 : decode cX11_next 58 = .ok (.getfield 34, 3) := dk_180 0 34 (dk_at dksX11_next_2 12 rfl rfl)
theorem dX11_next_61 : decode cX11_next 61 = .ok (.aload_n 0, 1) := dk_42 (dk_at dksX11_next_2 15 rfl rfl)
theorem dX11_next_62 : decode cX11_next 62 = .ok (.getfield 3, 3) := dk_180 0 3 (dk_at dksX11_next_2 16 rfl rfl)
theorem dX11_next_65 : decode cX11_next 65 = .ok (.getfield 18, 3) := dk_180 0 18 (dk_at dksX11_next_2 19 rfl rfl)
theorem dX11_next_68 : decode cX11_next 68 = .ok (.if_icmp .ne 4, 3) := dk_160 0 4 (dk_at dksX11_next_3 0 rfl rfl)
theorem dX11_next_71 : decode cX11_next 71 = .ok (.return_, 1) := dk_177 (dk_at dksX11_next_3 3 rfl rfl)
theorem dX11_next_72 : decode cX11_next 72 = .ok (.aload_n 0, 1) := dk_42 (dk_at dksX11_next_3 4 rfl rfl)
theorem dX11_next_73 : decode cX11_next 73 = .ok (.getfield 3, 3) := dk_180 0 3 (dk_at dksX11_next_3 5 rfl rfl)
theorem dX11_next_76 : decode cX11_next 76 = .ok (.getfield 22, 3) := dk_180 0 22 (dk_at dksX11_next_3 8 rfl rfl)
theorem dX11_next_79 : decode cX11_next 79 = .ok (.aload_n 0, 1) := dk_42 (dk_at dksX11_next_3 11 rfl rfl)
theorem dX11_next_80 : decode cX11_next 80 = .ok (.getfield 34, 3) := dk_180 0 34 (dk_at dksX11_next_3 12 rfl rfl)
theorem dX11_next_83 : decode cX11_next 83 = .ok (.baload, 1) := dk_51 (dk_at dksX11_next_3 15 rfl rfl)
theorem dX11_next_84 : decode cX11_next 84 = .ok (.sipush 255, 3) := dk_17 0 255 (dk_at dksX11_next_3 16 rfl rfl)
theorem dX11_next_87 : decode cX11_next 87 = .ok (.iand, 1) := dk_126 (dk_at dksX11_next_3 19 rfl rfl)
theorem dX11_next_88 : decode cX11_next 88 = .ok (.i2c, 1) := dk_146 (dk_at dksX11_next_3 20 rfl rfl)
theorem dX11_next_89 : decode cX11_next 89 = .ok (.istore_n 1, 1) := dk_60 (dk_at dksX11_next_3 21 rfl rfl)
theorem dX11_next_90 : decode cX11_next 90 = .ok (.aload_n 0, 1) := dk_42 (dk_at dksX11_next_3 22 rfl rfl)
theorem dX11_next_91 : decode cX11_next 91 = .ok (.dup, 1) := dk_89 (dk_at dksX11_next_3 23 rfl rfl)
theorem dX11_next_92 : decode cX11_next 92 = .ok (.getfield 34, 3) := dk_180 0 34 (dk_at dksX11_next_4 0 rfl rfl)
theorem dX11_next_95 : decode cX11_next 95 = .ok (.iconst 1, 1) := dk_4 (dk_at dksX11_next_4 3 rfl rfl)
theorem dX11_next_96 : decode cX11_next 96 = .ok (.iadd, 1) := dk_96 (dk_at dksX11_next_4 4 rfl rfl)
theorem dX11_next_97 : decode cX11_next 97 = .ok (.putfield 34, 3) := dk_181 0 34 (dk_at dksX11_next_4 5 rfl rfl)
theorem dX11_next_100 : decode cX11_next 100 = .ok (.iload_n 1, 1) := dk_27 (dk_at dksX11_next_4 8 rfl rfl)
theorem dX11_next_101 : decode cX11_next 101 = .ok (.bipush 101, 2) := dk_16 101 (dk_at dksX11_next_4 9 rfl rfl)
theorem dX11_next_103 : decode cX11_next 103 = .ok (.if_icmp .eq 9, 3) := dk_159 0 9 (dk_at dksX11_next_4 11 rfl rfl)
theorem dX11_next_106 : decode cX11_next 106 = .ok (.iload_n 1, 1) := dk_27 (dk_at dksX11_next_4 14 rfl rfl)
theorem dX11_next_107 : decode cX11_next 107 = .ok (.bipush 114, 2) := dk_16 114 (dk_at dksX11_next_4 15 rfl rfl)
theorem dX11_next_109 : decode cX11_next 109 = .ok (.if_icmp .ne 7, 3) := dk_160 0 7 (dk_at dksX11_next_4 17 rfl rfl)
theorem dX11_next_112 : decode cX11_next 112 = .ok (.iconst 1, 1) := dk_4 (dk_at dksX11_next_4 20 rfl rfl)
theorem dX11_next_113 : decode cX11_next 113 = .ok (.goto 4, 3) := dk_167 0 4 (dk_at dksX11_next_4 21 rfl rfl)
theorem dX11_next_116 : decode cX11_next 116 = .ok (.iconst 0, 1) := dk_3 (dk_at dksX11_next_5 0 rfl rfl)
theorem dX11_next_117 : decode cX11_next 117 = .ok (.istore_n 2, 1) := dk_61 (dk_at dksX11_next_5 1 rfl rfl)
theorem dX11_next_118 : decode cX11_next 118 = .ok (.iload_n 1, 1) := dk_27 (dk_at dksX11_next_5 2 rfl rfl)
theorem dX11_next_119 : decode cX11_next 119 = .ok (.i2l, 1) := dk_133 (dk_at dksX11_next_5 3 rfl rfl)
theorem dX11_next_120 : decode cX11_next 120 = .ok (.ldc2_w 26, 3) := dk_20 0 26 (dk_at dksX11_next_5 4 rfl rfl)
theorem dX11_next_123 : decode cX11_next 123 = .ok (.ldc2_w 28, 3) := dk_20 0 28 (dk_at dksX11_next_5 7 rfl rfl)
theorem dX11_next_126 : decode cX11_next 126 = .ok (.invokestatic 30, 3) := dk_184 0 30 (dk_at dksX11_next_5 10 rfl rfl)
theorem dX11_next_129 : decode cX11_next 129 = .ok (.ifCond .ne 18, 3) := dk_154 0 18 (dk_at dksX11_next_5 13 rfl rfl)
theorem dX11_next_132 : decode cX11_next 132 = .ok (.iload_n 2, 1) := dk_28 (dk_at dksX11_next_5 16 rfl rfl)
theorem dX11_next_133 : decode cX11_next 133 = .ok (.ifCond .eq 18, 3) := dk_153 0 18 (dk_at dksX11_next_5 17 rfl rfl)
theorem dX11_next_136 : decode cX11_next 136 = .ok (.aload_n 0, 1) := dk_42 (dk_at dksX11_next_5 20 rfl rfl)
theorem dX11_next_137 : decode cX11_next 137 = .ok (.aload_n 0, 1) := dk_42 (dk_at dksX11_next_5 21 rfl rfl)
theorem dX11_next_138 : decode cX11_next 138 = .ok (.getfield 34, 3) := dk_180 0 34 (dk_at dksX11_next_6 0 rfl rfl)
theorem dX11_next_141 : decode cX11_next 141 = .ok (.invokevirtual 44, 3) := dk_182 0 44 (dk_at dksX11_next_6 3 rfl rfl)
theorem dX11_next_144 : decode cX11_next 144 = .ok (.ifCond .eq 7, 3) := dk_153 0 7 (dk_at dksX11_next_6 6 rfl rfl)
theorem dX11_next_147 : decode cX11_next 147 = .ok (.iconst 1, 1) := dk_4 (dk_at dksX11_next_6 9 rfl rfl)
theorem dX11_next_148 : decode cX11_next 148 = .ok (.goto 4, 3) := dk_167 0 4 (dk_at dksX11_next_6 10 rfl rfl)
theorem dX11_next_151 : decode cX11_next 151 = .ok (.iconst 0, 1) := dk_3 (dk_at dksX11_next_6 13 rfl rfl)
theorem dX11_next_152 : decode cX11_next 152 = .ok (.istore_n 3, 1) := dk_62 (dk_at dksX11_next_6 14 rfl rfl)
theorem dX11_next_153 : decode cX11_next 153 = .ok (.iload_n 3, 1) := dk_29 (dk_at dksX11_next_6 15 rfl rfl)
theorem dX11_next_154 : decode cX11_next 154 = .ok (.ifCond .eq 27, 3) := dk_153 0 27 (dk_at dksX11_next_6 16 rfl rfl)
theorem dX11_next_157 : decode cX11_next 157 = .ok (.aload_n 0, 1) := dk_42 (dk_at dksX11_next_6 19 rfl rfl)
theorem dX11_next_158 : decode cX11_next 158 = .ok (.aload_n 0, 1) := dk_42 (dk_at dksX11_next_6 20 rfl rfl)
theorem dX11_next_159 : decode cX11_next 159 = .ok (.getfield 34, 3) := dk_180 0 34 (dk_at dksX11_next_6 21 rfl rfl)
theorem dX11_next_162 : decode cX11_next 162 = .ok (.invokevirtual 44, 3) := dk_182 0 44 (dk_at dksX11_next_7 0 rfl rfl)
theorem dX11_next_165 : decode cX11_next 165 = .ok (.ifCond .eq 16, 3) := dk_153 0 16 (dk_at dksX11_next_7 3 rfl rfl)
theorem dX11_next_168 : decode cX11_next 168 = .ok (.aload_n 0, 1) := dk_42 (dk_at dksX11_next_7 6 rfl rfl)
theorem dX11_next_169 : decode cX11_next 169 = .ok (.dup, 1) := dk_89 (dk_at dksX11_next_7 7 rfl rfl)
theorem dX11_next_170 : decode cX11_next 170 = .ok (.getfield 34, 3) := dk_180 0 34 (dk_at dksX11_next_7 8 rfl rfl)
theorem dX11_next_173 : decode cX11_next 173 = .ok (.iconst 1, 1) := dk_4 (dk_at dksX11_next_7 11 rfl rfl)
theorem dX11_next_174 : decode cX11_next 174 = .ok (.iadd, 1) := dk_96 (dk_at dksX11_next_7 12 rfl rfl)
theorem dX11_next_175 : decode cX11_next 175 = .ok (.putfield 34, 3) := dk_181 0 34 (dk_at dksX11_next_7 13 rfl rfl)
theorem dX11_next_178 : decode cX11_next 178 = .ok (.goto (-25), 3) := dk_167 255 231 (dk_at dksX11_next_7 16 rfl rfl)
theorem dX11_next_181 : decode cX11_next 181 = .ok (.aload_n 0, 1) := dk_42 (dk_at dksX11_next_7 19 rfl rfl)
theorem dX11_next_182 : decode cX11_next 182 = .ok (.iload_n 1, 1) := dk_27 (dk_at dksX11_next_7 20 rfl rfl)
theorem dX11_next_183 : decode cX11_next 183 = .ok (.i2l, 1) := dk_133 (dk_at dksX11_next_7 21 rfl rfl)
theorem dX11_next_184 : decode cX11_next 184 = .ok (.ldc2_w 26, 3) := dk_20 0 26 (dk_at dksX11_next_8 0 rfl rfl)
theorem dX11_next_187 : decode cX11_next 187 = .ok (.ldc2_w 28, 3) := dk_20 0 28 (dk_at dksX11_next_8 3 rfl rfl)
theorem dX11_next_190 : decode cX11_next 190 = .ok (.invokestatic 30, 3) := dk_184 0 30 (dk_at dksX11_next_8 6 rfl rfl)
theorem dX11_next_193 : decode cX11_next 193 = .ok (.ifCond .eq 8, 3) := dk_153 0 8 (dk_at dksX11_next_8 9 rfl rfl)
theorem dX11_next_196 : decode cX11_next 196 = .ok (.bipush 48, 2) := dk_16 48 (dk_at dksX11_next_8 12 rfl rfl)
theorem dX11_next_198 : decode cX11_next 198 = .ok (.goto 26, 3) := dk_167 0 26 (dk_at dksX11_next_8 14 rfl rfl)
theorem dX11_next_201 : decode cX11_next 201 = .ok (.iload_n 2, 1) := dk_28 (dk_at dksX11_next_8 17 rfl rfl)
theorem dX11_next_202 : decode cX11_next 202 = .ok (.ifCond .eq 7, 3) := dk_153 0 7 (dk_at dksX11_next_8 18 rfl rfl)
theorem dX11_next_205 : decode cX11_next 205 = .ok (.iload_n 3, 1) := dk_29 (dk_at dksX11_next_8 21 rfl rfl)
theorem dX11_next_206 : decode cX11_next 206 = .ok (.ifCond .eq 12, 3) := dk_153 0 12 (dk_at dksX11_next_9 0 rfl rfl)
theorem dX11_next_209 : decode cX11_next 209 = .ok (.ldc 48, 2) := dk_18 48 (dk_at dksX11_next_9 3 rfl rfl)
theorem dX11_next_211 : decode cX11_next 211 = .ok (.iload_n 1, 1) := dk_27 (dk_at dksX11_next_9 5 rfl rfl)
theorem dX11_next_212 : decode cX11_next 212 = .ok (.invokevirtual 50, 3) := dk_182 0 50 (dk_at dksX11_next_9 6 rfl rfl)
theorem dX11_next_215 : decode cX11_next 215 = .ok (.ifCond .ge 8, 3) := dk_156 0 8 (dk_at dksX11_next_9 9 rfl rfl)
theorem dX11_next_218 : decode cX11_next 218 = .ok (.bipush 63, 2) := dk_16 63 (dk_at dksX11_next_9 12 rfl rfl)
theorem dX11_next_220 : decode cX11_next 220 = .ok (.goto 4, 3) := dk_167 0 4 (dk_at dksX11_next_9 14 rfl rfl)
theorem dX11_next_223 : decode cX11_next 223 = .ok (.iload_n 1, 1) := dk_27 (dk_at dksX11_next_9 17 rfl rfl)
theorem dX11_next_224 : decode cX11_next 224 = .ok (.putfield 40, 3) := dk_181 0 40 (dk_at dksX11_next_9 18 rfl rfl)
theorem dX11_next_227 : decode cX11_next 227 = .ok (.return_, 1) := dk_177 (dk_at dksX11_next_9 21 rfl rfl)
abbrev cX11_isDigit : ByteArray := prog_26_method_2_code
def yX11_isDigit : MethodName := ⟨RX11, "isDigit", "(I)Z"⟩
def dkwX11_isDigit_1 : List UInt8 := [20, 0, 28, 184, 0, 30, 153, 0, 7, 4, 167, 0, 4, 3, 172]
abbrev dktX11_isDigit_1 : List UInt8 := dkwX11_isDigit_1 ++ []
def dkwX11_isDigit_0 : List UInt8 := [27, 42, 180, 0, 3, 180, 0, 18, 162, 0, 29, 42, 180, 0, 3, 180, 0, 22, 27, 51, 133, 20, 0, 26]
abbrev dktX11_isDigit_0 : List UInt8 := dkwX11_isDigit_0 ++ dktX11_isDigit_1
theorem dksX11_isDigit_0 : cX11_isDigit.data.toList.drop 0 = dktX11_isDigit_0 := by decide +kernel
theorem dksX11_isDigit_1 : cX11_isDigit.data.toList.drop 24 = dktX11_isDigit_1 := dk_seg dksX11_isDigit_0 24 rfl rfl
theorem dX11_isDigit_0 : decode cX11_isDigit 0 = .ok (.iload_n 1, 1) := dk_27 (dk_at dksX11_isDigit_0 0 rfl rfl)
theorem dX11_isDigit_1 : decode cX11_isDigit 1 = .ok (.aload_n 0, 1) := dk_42 (dk_at dksX11_isDigit_0 1 rfl rfl)
theorem dX11_isDigit_2 : decode cX11_isDigit 2 = .ok (.getfield 3, 3) := dk_180 0 3 (dk_at dksX11_isDigit_0 2 rfl rfl)
theorem dX11_isDigit_5 : decode cX11_isDigit 5 = .ok (.getfield 18, 3) := dk_180 0 18 (dk_at dksX11_isDigit_0 5 rfl rfl)
theorem dX11_isDigit_8 : decode cX11_isDigit 8 = .ok (.if_icmp .ge 29, 3) := dk_162 0 29 (dk_at dksX11_isDigit_0 8 rfl rfl)
theorem dX11_isDigit_11 : decode cX11_isDigit 11 = .ok (.aload_n 0, 1) := dk_42 (dk_at dksX11_isDigit_0 11 rfl rfl)
theorem dX11_isDigit_12 : decode cX11_isDigit 12 = .ok (.getfield 3, 3) := dk_180 0 3 (dk_at dksX11_isDigit_0 12 rfl rfl)
theorem dX11_isDigit_15 : decode cX11_isDigit 15 = .ok (.getfield 22, 3) := dk_180 0 22 (dk_at dksX11_isDigit_0 15 rfl rfl)
theorem dX11_isDigit_18 : decode cX11_isDigit 18 = .ok (.iload_n 1, 1) := dk_27 (dk_at dksX11_isDigit_0 18 rfl rfl)
theorem dX11_isDigit_19 : decode cX11_isDigit 19 = .ok (.baload, 1) := dk_51 (dk_at dksX11_isDigit_0 19 rfl rfl)
theorem dX11_isDigit_20 : decode cX11_isDigit 20 = .ok (.i2l, 1) := dk_133 (dk_at dksX11_isDigit_0 20 rfl rfl)
theorem dX11_isDigit_21 : decode cX11_isDigit 21 = .ok (.ldc2_w 26, 3) := dk_20 0 26 (dk_at dksX11_isDigit_0 21 rfl rfl)
theorem dX11_isDigit_24 : decode cX11_isDigit 24 = .ok (.ldc2_w 28, 3) := dk_20 0 28 (dk_at dksX11_isDigit_1 0 rfl rfl)
theorem dX11_isDigit_27 : decode cX11_isDigit 27 = .ok (.invokestatic 30, 3) := dk_184 0 30 (dk_at dksX11_isDigit_1 3 rfl rfl)
theorem dX11_isDigit_30 : decode cX11_isDigit 30 = .ok (.ifCond .eq 7, 3) := dk_153 0 7 (dk_at dksX11_isDigit_1 6 rfl rfl)
theorem dX11_isDigit_33 : decode cX11_isDigit 33 = .ok (.iconst 1, 1) := dk_4 (dk_at dksX11_isDigit_1 9 rfl rfl)
theorem dX11_isDigit_34 : decode cX11_isDigit 34 = .ok (.goto 4, 3) := dk_167 0 4 (dk_at dksX11_isDigit_1 10 rfl rfl)
theorem dX11_isDigit_37 : decode cX11_isDigit 37 = .ok (.iconst 0, 1) := dk_3 (dk_at dksX11_isDigit_1 13 rfl rfl)
theorem dX11_isDigit_38 : decode cX11_isDigit 38 = .ok (.ireturn, 1) := dk_172 (dk_at dksX11_isDigit_1 14 rfl rfl)
abbrev cX11_all : ByteArray := prog_26_method_6_code
def yX11_all : MethodName := ⟨RX11, "all", "()LBladeAlgebra$Node;"⟩
def dkwX11_all_0 : List UInt8 := [42, 182, 0, 61, 76, 42, 42, 180, 0, 40, 154, 0, 7, 4, 167, 0, 4, 3, 4, 182, 0, 65, 43, 176]
abbrev dktX11_all_0 : List UInt8 := dkwX11_all_0 ++ []
theorem dksX11_all_0 : cX11_all.data.toList.drop 0 = dktX11_all_0 := by decide +kernel
theorem dX11_all_0 : decode cX11_all 0 = .ok (.aload_n 0, 1) := dk_42 (dk_at dksX11_all_0 0 rfl rfl)
theorem dX11_all_1 : decode cX11_all 1 = .ok (.invokevirtual 61, 3) := dk_182 0 61 (dk_at dksX11_all_0 1 rfl rfl)
theorem dX11_all_4 : decode cX11_all 4 = .ok (.astore_n 1, 1) := dk_76 (dk_at dksX11_all_0 4 rfl rfl)
theorem dX11_all_5 : decode cX11_all 5 = .ok (.aload_n 0, 1) := dk_42 (dk_at dksX11_all_0 5 rfl rfl)
theorem dX11_all_6 : decode cX11_all 6 = .ok (.aload_n 0, 1) := dk_42 (dk_at dksX11_all_0 6 rfl rfl)
theorem dX11_all_7 : decode cX11_all 7 = .ok (.getfield 40, 3) := dk_180 0 40 (dk_at dksX11_all_0 7 rfl rfl)
theorem dX11_all_10 : decode cX11_all 10 = .ok (.ifCond .ne 7, 3) := dk_154 0 7 (dk_at dksX11_all_0 10 rfl rfl)
theorem dX11_all_13 : decode cX11_all 13 = .ok (.iconst 1, 1) := dk_4 (dk_at dksX11_all_0 13 rfl rfl)
theorem dX11_all_14 : decode cX11_all 14 = .ok (.goto 4, 3) := dk_167 0 4 (dk_at dksX11_all_0 14 rfl rfl)
theorem dX11_all_17 : decode cX11_all 17 = .ok (.iconst 0, 1) := dk_3 (dk_at dksX11_all_0 17 rfl rfl)
theorem dX11_all_18 : decode cX11_all 18 = .ok (.iconst 1, 1) := dk_4 (dk_at dksX11_all_0 18 rfl rfl)
theorem dX11_all_19 : decode cX11_all 19 = .ok (.invokevirtual 65, 3) := dk_182 0 65 (dk_at dksX11_all_0 19 rfl rfl)
theorem dX11_all_22 : decode cX11_all 22 = .ok (.aload_n 1, 1) := dk_43 (dk_at dksX11_all_0 22 rfl rfl)
theorem dX11_all_23 : decode cX11_all 23 = .ok (.areturn, 1) := dk_176 (dk_at dksX11_all_0 23 rfl rfl)
abbrev cX11_expression : ByteArray := prog_26_method_7_code
def yX11_expression : MethodName := ⟨RX11, "expression", "()LBladeAlgebra$Node;"⟩
def dkwX11_expression_4 : List UInt8 := [182, 0, 73, 21, 5, 182, 0, 103, 167, 255, 196, 45, 176]
abbrev dktX11_expression_4 : List UInt8 := dkwX11_expression_4 ++ []
def dkwX11_expression_3 : List UInt8 := [167, 0, 6, 178, 0, 100, 58, 4, 42, 180, 0, 37, 54, 5, 42, 182, 0, 15, 45, 25, 4, 42]
abbrev dktX11_expression_3 : List UInt8 := dkwX11_expression_3 ++ dktX11_expression_4
def dkwX11_expression_2 : List UInt8 := [159, 0, 12, 42, 180, 0, 40, 16, 45, 160, 0, 48, 42, 180, 0, 40, 16, 43, 160, 0, 9, 178, 0, 94]
abbrev dktX11_expression_2 : List UInt8 := dkwX11_expression_2 ++ dktX11_expression_3
def dkwX11_expression_1 : List UInt8 := [44, 183, 0, 80, 178, 0, 83, 182, 0, 89, 167, 0, 4, 44, 183, 0, 93, 78, 42, 180, 0, 40, 16, 43]
abbrev dktX11_expression_1 : List UInt8 := dkwX11_expression_1 ++ dktX11_expression_2
def dkwX11_expression_0 : List UInt8 := [42, 16, 45, 182, 0, 69, 60, 42, 182, 0, 73, 77, 187, 0, 76, 89, 27, 153, 0, 20, 187, 0, 78, 89]
abbrev dktX11_expression_0 : List UInt8 := dkwX11_expression_0 ++ dktX11_expression_1
theorem dksX11_expression_0 : cX11_expression.data.toList.drop 0 = dktX11_expression_0 := by decide +kernel
theorem dksX11_expression_1 : cX11_expression.data.toList.drop 24 = dktX11_expression_1 := dk_seg dksX11_expression_0 24 rfl rfl
theorem dksX11_expression_2 : cX11_expression.data.toList.drop 48 = dktX11_expression_2 := dk_seg dksX11_expression_1 24 rfl rfl
theorem dksX11_expression_3 : cX11_expression.data.toList.drop 72 = dktX11_expression_3 := dk_seg dksX11_expression_2 24 rfl rfl
theorem dksX11_expression_4 : cX11_expression.data.toList.drop 94 = dktX11_expression_4 := dk_seg dksX11_expression_3 22 rfl rfl
theorem dX11_expression_0 : decode cX11_expression 0 = .ok (.aload_n 0, 1) := dk_42 (dk_at dksX11_expression_0 0 rfl rfl)
theorem dX11_expression_1 : decode cX11_expression 1 = .ok (.bipush 45, 2) := dk_16 45 (dk_at dksX11_expression_0 1 rfl rfl)
theorem dX11_expression_3 : decode cX11_expression 3 = .ok (.invokevirtual 69, 3) := dk_182 0 69 (dk_at dksX11_expression_0 3 rfl rfl)
theorem dX11_expression_6 : decode cX11_expression 6 = .ok (.istore_n 1, 1) := dk_60 (dk_at dksX11_expression_0 6 rfl rfl)
theorem dX11_expression_7 : decode cX11_expression 7 = .ok (.aload_n 0, 1) := dk_42 (dk_at dksX11_expression_0 7 rfl rfl)
theorem dX11_expression_8 : decode cX11_expression 8 = .ok (.invokevirtual 73, 3) := dk_182 0 73 (dk_at dksX11_expression_0 8 rfl rfl)
theorem dX11_expression_11 : decode cX11_expression 11 = .ok (.astore_n 2, 1) := dk_77 (dk_at dksX11_expression_0 11 rfl rfl)
theorem dX11_expression_12 : decode cX11_expression 12 = .ok (.new 76, 3) := dk_187 0 76 (dk_at dksX11_expression_0 12 rfl rfl)
theorem dX11_expression_15 : decode cX11_expression 15 = .ok (.dup, 1) := dk_89 (dk_at dksX11_expression_0 15 rfl rfl)
theorem dX11_expression_16 : decode cX11_expression 16 = .ok (.iload_n 1, 1) := dk_27 (dk_at dksX11_expression_0 16 rfl rfl)
theorem dX11_expression_17 : decode cX11_expression 17 = .ok (.ifCond .eq 20, 3) := dk_153 0 20 (dk_at dksX11_expression_0 17 rfl rfl)
theorem dX11_expression_20 : decode cX11_expression 20 = .ok (.new 78, 3) := dk_187 0 78 (dk_at dksX11_expression_0 20 rfl rfl)
theorem dX11_expression_23 : decode cX11_expression 23 = .ok (.dup, 1) := dk_89 (dk_at dksX11_expression_0 23 rfl rfl)
theorem dX11_expression_24 : decode cX11_expression 24 = .ok (.aload_n 2, 1) := dk_44 (dk_at dksX11_expression_1 0 rfl rfl)
theorem dX11_expression_25 : decode cX11_expression 25 = .ok (.invokespecial 80, 3) := dk_183 0 80 (dk_at dksX11_expression_1 1 rfl rfl)
theorem dX11_expression_28 : decode cX11_expression 28 = .ok (.getstatic 83, 3) := dk_178 0 83 (dk_at dksX11_expression_1 4 rfl rfl)
theorem dX11_expression_31 : decode cX11_expression 31 = .ok (.invokevirtual 89, 3) := dk_182 0 89 (dk_at dksX11_expression_1 7 rfl rfl)
theorem dX11_expression_34 : decode cX11_expression 34 = .ok (.goto 4, 3) := dk_167 0 4 (dk_at dksX11_expression_1 10 rfl rfl)
theorem dX11_expression_37 : decode cX11_expression 37 = .ok (.aload_n 2, 1) := dk_44 (dk_at dksX11_expression_1 13 rfl rfl)
theorem dX11_expression_38 : decode cX11_expression 38 = .ok (.invokespecial 93, 3) := dk_183 0 93 (dk_at dksX11_expression_1 14 rfl rfl)
theorem dX11_expression_41 : decode cX11_expression 41 = .ok (.astore_n 3, 1) := dk_78 (dk_at dksX11_expression_1 17 rfl rfl)
theorem dX11_expression_42 : decode cX11_expression 42 = .ok (.aload_n 0, 1) := dk_42 (dk_at dksX11_expression_1 18 rfl rfl)
theorem dX11_expression_43 : decode cX11_expression 43 = .ok (.getfield 40, 3) := dk_180 0 40 (dk_at dksX11_expression_1 19 rfl rfl)
theorem dX11_expression_46 : decode cX11_expression 46 = .ok (.bipush 43, 2) := dk_16 43 (dk_at dksX11_expression_1 22 rfl rfl)
theorem dX11_expression_48 : decode cX11_expression 48 = .ok (.if_icmp .eq 12, 3) := dk_159 0 12 (dk_at dksX11_expression_2 0 rfl rfl)
theorem dX11_expression_51 : decode cX11_expression 51 = .ok (.aload_n 0, 1) := dk_42 (dk_at dksX11_expression_2 3 rfl rfl)
theorem dX11_expression_52 : decode cX11_expression 52 = .ok (.getfield 40, 3) := dk_180 0 40 (dk_at dksX11_expression_2 4 rfl rfl)
theorem dX11_expression_55 : decode cX11_expression 55 = .ok (.bipush 45, 2) := dk_16 45 (dk_at dksX11_expression_2 7 rfl rfl)
theorem dX11_expression_57 : decode cX11_expression 57 = .ok (.if_icmp .ne 48, 3) := dk_160 0 48 (dk_at dksX11_expression_2 9 rfl rfl)
theorem dX11_expression_60 : decode cX11_expression 60 = .ok (.aload_n 0, 1) := dk_42 (dk_at dksX11_expression_2 12 rfl rfl)
theorem dX11_expression_61 : decode cX11_expression 61 = .ok (.getfield 40, 3) := dk_180 0 40 (dk_at dksX11_expression_2 13 rfl rfl)
theorem dX11_expression_64 : decode cX11_expression 64 = .ok (.bipush 43, 2) := dk_16 43 (dk_at dksX11_expression_2 16 rfl rfl)
theorem dX11_expression_66 : decode cX11_expression 66 = .ok (.if_icmp .ne 9, 3) := dk_160 0 9 (dk_at dksX11_expression_2 18 rfl rfl)
theorem dX11_expression_69 : decode cX11_expression 69 = .ok (.getstatic 94, 3) := dk_178 0 94 (dk_at dksX11_expression_2 21 rfl rfl)
theorem dX11_expression_72 : decode cX11_expression 72 = .ok (.goto 6, 3) := dk_167 0 6 (dk_at dksX11_expression_3 0 rfl rfl)
theorem dX11_expression_75 : decode cX11_expression 75 = .ok (.getstatic 100, 3) := dk_178 0 100 (dk_at dksX11_expression_3 3 rfl rfl)
theorem dX11_expression_78 : decode cX11_expression 78 = .ok (.astore 4, 2) := dk_58 4 (dk_at dksX11_expression_3 6 rfl rfl)
theorem dX11_expression_80 : decode cX11_expression 80 = .ok (.aload_n 0, 1) := dk_42 (dk_at dksX11_expression_3 8 rfl rfl)
theorem dX11_expression_81 : decode cX11_expression 81 = .ok (.getfield 37, 3) := dk_180 0 37 (dk_at dksX11_expression_3 9 rfl rfl)
theorem dX11_expression_84 : decode cX11_expression 84 = .ok (.istore 5, 2) := dk_54 5 (dk_at dksX11_expression_3 12 rfl rfl)
theorem dX11_expression_86 : decode cX11_expression 86 = .ok (.aload_n 0, 1) := dk_42 (dk_at dksX11_expression_3 14 rfl rfl)
theorem dX11_expression_87 : decode cX11_expression 87 = .ok (.invokevirtual 15, 3) := dk_182 0 15 (dk_at dksX11_expression_3 15 rfl rfl)
theorem dX11_expression_90 : decode cX11_expression 90 = .ok (.aload_n 3, 1) := dk_45 (dk_at dksX11_expression_3 18 rfl rfl)
theorem dX11_expression_91 : decode cX11_expression 91 = .ok (.aload 4, 2) := dk_25 4 (dk_at dksX11_expression_3 19 rfl rfl)
theorem dX11_expression_93 : decode cX11_expression 93 = .ok (.aload_n 0, 1) := dk_42 (dk_at dksX11_expression_3 21 rfl rfl)
theorem dX11_expression_94 : decode cX11_expression 94 = .ok (.invokevirtual 73, 3) := dk_182 0 73 (dk_at dksX11_expression_4 0 rfl rfl)
theorem dX11_expression_97 : decode cX11_expression 97 = .ok (.iload 5, 2) := dk_21 5 (dk_at dksX11_expression_4 3 rfl rfl)
theorem dX11_expression_99 : decode cX11_expression 99 = .ok (.invokevirtual 103, 3) := dk_182 0 103 (dk_at dksX11_expression_4 5 rfl rfl)
theorem dX11_expression_102 : decode cX11_expression 102 = .ok (.goto (-60), 3) := dk_167 255 196 (dk_at dksX11_expression_4 8 rfl rfl)
theorem dX11_expression_105 : decode cX11_expression 105 = .ok (.aload_n 3, 1) := dk_45 (dk_at dksX11_expression_4 11 rfl rfl)
theorem dX11_expression_106 : decode cX11_expression 106 = .ok (.areturn, 1) := dk_176 (dk_at dksX11_expression_4 12 rfl rfl)
abbrev cX11_takes : ByteArray := prog_26_method_4_code
def yX11_takes : MethodName := ⟨RX11, "takes", "(C)Z"⟩
def dkwX11_takes_0 : List UInt8 := [42, 180, 0, 40, 27, 159, 0, 5, 3, 172, 42, 182, 0, 15, 4, 172]
abbrev dktX11_takes_0 : List UInt8 := dkwX11_takes_0 ++ []
theorem dksX11_takes_0 : cX11_takes.data.toList.drop 0 = dktX11_takes_0 := by decide +kernel
theorem dX11_takes_0 : decode cX11_takes 0 = .ok (.aload_n 0, 1) := dk_42 (dk_at dksX11_takes_0 0 rfl rfl)
theorem dX11_takes_1 : decode cX11_takes 1 = .ok (.getfield 40, 3) := dk_180 0 40 (dk_at dksX11_takes_0 1 rfl rfl)
theorem dX11_takes_4 : decode cX11_takes 4 = .ok (.iload_n 1, 1) := dk_27 (dk_at dksX11_takes_0 4 rfl rfl)
theorem dX11_takes_5 : decode cX11_takes 5 = .ok (.if_icmp .eq 5, 3) := dk_159 0 5 (dk_at dksX11_takes_0 5 rfl rfl)
theorem dX11_takes_8 : decode cX11_takes 8 = .ok (.iconst 0, 1) := dk_3 (dk_at dksX11_takes_0 8 rfl rfl)
theorem dX11_takes_9 : decode cX11_takes 9 = .ok (.ireturn, 1) := dk_172 (dk_at dksX11_takes_0 9 rfl rfl)
theorem dX11_takes_10 : decode cX11_takes 10 = .ok (.aload_n 0, 1) := dk_42 (dk_at dksX11_takes_0 10 rfl rfl)
theorem dX11_takes_11 : decode cX11_takes 11 = .ok (.invokevirtual 15, 3) := dk_182 0 15 (dk_at dksX11_takes_0 11 rfl rfl)
theorem dX11_takes_14 : decode cX11_takes 14 = .ok (.iconst 1, 1) := dk_4 (dk_at dksX11_takes_0 14 rfl rfl)
theorem dX11_takes_15 : decode cX11_takes 15 = .ok (.ireturn, 1) := dk_172 (dk_at dksX11_takes_0 15 rfl rfl)
abbrev cX11_term : ByteArray := prog_26_method_8_code
def yX11_term : MethodName := ⟨RX11, "term", "()LBladeAlgebra$Node;"⟩
def dkwX11_term_2 : List UInt8 := [176]
abbrev dktX11_term_2 : List UInt8 := dkwX11_term_2 ++ []
def dkwX11_term_1 : List UInt8 := [180, 0, 37, 61, 42, 182, 0, 15, 43, 178, 0, 110, 42, 182, 0, 107, 28, 182, 0, 103, 167, 255, 226, 43]
abbrev dktX11_term_1 : List UInt8 := dkwX11_term_1 ++ dktX11_term_2
def dkwX11_term_0 : List UInt8 := [187, 0, 76, 89, 42, 182, 0, 107, 183, 0, 93, 76, 42, 180, 0, 40, 16, 42, 160, 0, 27, 42]
abbrev dktX11_term_0 : List UInt8 := dkwX11_term_0 ++ dktX11_term_1
theorem dksX11_term_0 : cX11_term.data.toList.drop 0 = dktX11_term_0 := by decide +kernel
theorem dksX11_term_1 : cX11_term.data.toList.drop 22 = dktX11_term_1 := dk_seg dksX11_term_0 22 rfl rfl
theorem dksX11_term_2 : cX11_term.data.toList.drop 46 = dktX11_term_2 := dk_seg dksX11_term_1 24 rfl rfl
theorem dX11_term_0 : decode cX11_term 0 = .ok (.new 76, 3) := dk_187 0 76 (dk_at dksX11_term_0 0 rfl rfl)
theorem dX11_term_3 : decode cX11_term 3 = .ok (.dup, 1) := dk_89 (dk_at dksX11_term_0 3 rfl rfl)
theorem dX11_term_4 : decode cX11_term 4 = .ok (.aload_n 0, 1) := dk_42 (dk_at dksX11_term_0 4 rfl rfl)
theorem dX11_term_5 : decode cX11_term 5 = .ok (.invokevirtual 107, 3) := dk_182 0 107 (dk_at dksX11_term_0 5 rfl rfl)
theorem dX11_term_8 : decode cX11_term 8 = .ok (.invokespecial 93, 3) := dk_183 0 93 (dk_at dksX11_term_0 8 rfl rfl)
theorem dX11_term_11 : decode cX11_term 11 = .ok (.astore_n 1, 1) := dk_76 (dk_at dksX11_term_0 11 rfl rfl)
theorem dX11_term_12 : decode cX11_term 12 = .ok (.aload_n 0, 1) := dk_42 (dk_at dksX11_term_0 12 rfl rfl)
theorem dX11_term_13 : decode cX11_term 13 = .ok (.getfield 40, 3) := dk_180 0 40 (dk_at dksX11_term_0 13 rfl rfl)
theorem dX11_term_16 : decode cX11_term 16 = .ok (.bipush 42, 2) := dk_16 42 (dk_at dksX11_term_0 16 rfl rfl)
theorem dX11_term_18 : decode cX11_term 18 = .ok (.if_icmp .ne 27, 3) := dk_160 0 27 (dk_at dksX11_term_0 18 rfl rfl)
theorem dX11_term_21 : decode cX11_term 21 = .ok (.aload_n 0, 1) := dk_42 (dk_at dksX11_term_0 21 rfl rfl)
theorem dX11_term_22 : decode cX11_term 22 = .ok (.getfield 37, 3) := dk_180 0 37 (dk_at dksX11_term_1 0 rfl rfl)
theorem dX11_term_25 : decode cX11_term 25 = .ok (.istore_n 2, 1) := dk_61 (dk_at dksX11_term_1 3 rfl rfl)
theorem dX11_term_26 : decode cX11_term 26 = .ok (.aload_n 0, 1) := dk_42 (dk_at dksX11_term_1 4 rfl rfl)
theorem dX11_term_27 : decode cX11_term 27 = .ok (.invokevirtual 15, 3) := dk_182 0 15 (dk_at dksX11_term_1 5 rfl rfl)
theorem dX11_term_30 : decode cX11_term 30 = .ok (.aload_n 1, 1) := dk_43 (dk_at dksX11_term_1 8 rfl rfl)
theorem dX11_term_31 : decode cX11_term 31 = .ok (.getstatic 110, 3) := dk_178 0 110 (dk_at dksX11_term_1 9 rfl rfl)
theorem dX11_term_34 : decode cX11_term 34 = .ok (.aload_n 0, 1) := dk_42 (dk_at dksX11_term_1 12 rfl rfl)
theorem dX11_term_35 : decode cX11_term 35 = .ok (.invokevirtual 107, 3) := dk_182 0 107 (dk_at dksX11_term_1 13 rfl rfl)
theorem dX11_term_38 : decode cX11_term 38 = .ok (.iload_n 2, 1) := dk_28 (dk_at dksX11_term_1 16 rfl rfl)
theorem dX11_term_39 : decode cX11_term 39 = .ok (.invokevirtual 103, 3) := dk_182 0 103 (dk_at dksX11_term_1 17 rfl rfl)
theorem dX11_term_42 : decode cX11_term 42 = .ok (.goto (-30), 3) := dk_167 255 226 (dk_at dksX11_term_1 20 rfl rfl)
theorem dX11_term_45 : decode cX11_term 45 = .ok (.aload_n 1, 1) := dk_43 (dk_at dksX11_term_1 23 rfl rfl)
theorem dX11_term_46 : decode cX11_term 46 = .ok (.areturn, 1) := dk_176 (dk_at dksX11_term_2 0 rfl rfl)
abbrev cX11_factor : ByteArray := prog_26_method_9_code
def yX11_factor : MethodName := ⟨RX11, "factor", "()LBladeAlgebra$Node;"⟩
def dkwX11_factor_3 : List UInt8 := [167, 255, 200, 43, 176]
abbrev dktX11_factor_3 : List UInt8 := dkwX11_factor_3 ++ []
def dkwX11_factor_2 : List UInt8 := [178, 0, 119, 77, 42, 180, 0, 37, 62, 42, 182, 0, 15, 43, 44, 42, 182, 0, 113, 29, 182, 0, 103]
abbrev dktX11_factor_2 : List UInt8 := dkwX11_factor_2 ++ dktX11_factor_3
def dkwX11_factor_1 : List UInt8 := [180, 0, 40, 16, 46, 160, 0, 44, 42, 180, 0, 40, 16, 94, 160, 0, 9, 178, 0, 116, 167, 0, 6]
abbrev dktX11_factor_1 : List UInt8 := dkwX11_factor_1 ++ dktX11_factor_2
def dkwX11_factor_0 : List UInt8 := [187, 0, 76, 89, 42, 182, 0, 113, 183, 0, 93, 76, 42, 180, 0, 40, 16, 94, 159, 0, 12, 42]
abbrev dktX11_factor_0 : List UInt8 := dkwX11_factor_0 ++ dktX11_factor_1
theorem dksX11_factor_0 : cX11_factor.data.toList.drop 0 = dktX11_factor_0 := by decide +kernel
theorem dksX11_factor_1 : cX11_factor.data.toList.drop 22 = dktX11_factor_1 := dk_seg dksX11_factor_0 22 rfl rfl
theorem dksX11_factor_2 : cX11_factor.data.toList.drop 45 = dktX11_factor_2 := dk_seg dksX11_factor_1 23 rfl rfl
theorem dksX11_factor_3 : cX11_factor.data.toList.drop 68 = dktX11_factor_3 := dk_seg dksX11_factor_2 23 rfl rfl
theorem dX11_factor_0 : decode cX11_factor 0 = .ok (.new 76, 3) := dk_187 0 76 (dk_at dksX11_factor_0 0 rfl rfl)
theorem dX11_factor_3 : decode cX11_factor 3 = .ok (.dup, 1) := dk_89 (dk_at dksX11_factor_0 3 rfl rfl)
theorem dX11_factor_4 : decode cX11_factor 4 = .ok (.aload_n 0, 1) := dk_42 (dk_at dksX11_factor_0 4 rfl rfl)
theorem dX11_factor_5 : decode cX11_factor 5 = .ok (.invokevirtual 113, 3) := dk_182 0 113 (dk_at dksX11_factor_0 5 rfl rfl)
theorem dX11_factor_8 : decode cX11_factor 8 = .ok (.invokespecial 93, 3) := dk_183 0 93 (dk_at dksX11_factor_0 8 rfl rfl)
theorem dX11_factor_11 : decode cX11_factor 11 = .ok (.astore_n 1, 1) := dk_76 (dk_at dksX11_factor_0 11 rfl rfl)
theorem dX11_factor_12 : decode cX11_factor 12 = .ok (.aload_n 0, 1) := dk_42 (dk_at dksX11_factor_0 12 rfl rfl)
theorem dX11_factor_13 : decode cX11_factor 13 = .ok (.getfield 40, 3) := dk_180 0 40 (dk_at dksX11_factor_0 13 rfl rfl)
theorem dX11_factor_16 : decode cX11_factor 16 = .ok (.bipush 94, 2) := dk_16 94 (dk_at dksX11_factor_0 16 rfl rfl)
theorem dX11_factor_18 : decode cX11_factor 18 = .ok (.if_icmp .eq 12, 3) := dk_159 0 12 (dk_at dksX11_factor_0 18 rfl rfl)
theorem dX11_factor_21 : decode cX11_factor 21 = .ok (.aload_n 0, 1) := dk_42 (dk_at dksX11_factor_0 21 rfl rfl)
theorem dX11_factor_22 : decode cX11_factor 22 = .ok (.getfield 40, 3) := dk_180 0 40 (dk_at dksX11_factor_1 0 rfl rfl)
theorem dX11_factor_25 : decode cX11_factor 25 = .ok (.bipush 46, 2) := dk_16 46 (dk_at dksX11_factor_1 3 rfl rfl)
theorem dX11_factor_27 : decode cX11_factor 27 = .ok (.if_icmp .ne 44, 3) := dk_160 0 44 (dk_at dksX11_factor_1 5 rfl rfl)
theorem dX11_factor_30 : decode cX11_factor 30 = .ok (.aload_n 0, 1) := dk_42 (dk_at dksX11_factor_1 8 rfl rfl)
theorem dX11_factor_31 : decode cX11_factor 31 = .ok (.getfield 40, 3) := dk_180 0 40 (dk_at dksX11_factor_1 9 rfl rfl)
theorem dX11_factor_34 : decode cX11_factor 34 = .ok (.bipush 94, 2) := dk_16 94 (dk_at dksX11_factor_1 12 rfl rfl)
theorem dX11_factor_36 : decode cX11_factor 36 = .ok (.if_icmp .ne 9, 3) := dk_160 0 9 (dk_at dksX11_factor_1 14 rfl rfl)
theorem dX11_factor_39 : decode cX11_factor 39 = .ok (.getstatic 116, 3) := dk_178 0 116 (dk_at dksX11_factor_1 17 rfl rfl)
theorem dX11_factor_42 : decode cX11_factor 42 = .ok (.goto 6, 3) := dk_167 0 6 (dk_at dksX11_factor_1 20 rfl rfl)
theorem dX11_factor_45 : decode cX11_factor 45 = .ok (.getstatic 119, 3) := dk_178 0 119 (dk_at dksX11_factor_2 0 rfl rfl)
theorem dX11_factor_48 : decode cX11_factor 48 = .ok (.astore_n 2, 1) := dk_77 (dk_at dksX11_factor_2 3 rfl rfl)
theorem dX11_factor_49 : decode cX11_factor 49 = .ok (.aload_n 0, 1) := dk_42 (dk_at dksX11_factor_2 4 rfl rfl)
theorem dX11_factor_50 : decode cX11_factor 50 = .ok (.getfield 37, 3) := dk_180 0 37 (dk_at dksX11_factor_2 5 rfl rfl)
theorem dX11_factor_53 : decode cX11_factor 53 = .ok (.istore_n 3, 1) := dk_62 (dk_at dksX11_factor_2 8 rfl rfl)
theorem dX11_factor_54 : decode cX11_factor 54 = .ok (.aload_n 0, 1) := dk_42 (dk_at dksX11_factor_2 9 rfl rfl)
theorem dX11_factor_55 : decode cX11_factor 55 = .ok (.invokevirtual 15, 3) := dk_182 0 15 (dk_at dksX11_factor_2 10 rfl rfl)
theorem dX11_factor_58 : decode cX11_factor 58 = .ok (.aload_n 1, 1) := dk_43 (dk_at dksX11_factor_2 13 rfl rfl)
theorem dX11_factor_59 : decode cX11_factor 59 = .ok (.aload_n 2, 1) := dk_44 (dk_at dksX11_factor_2 14 rfl rfl)
theorem dX11_factor_60 : decode cX11_factor 60 = .ok (.aload_n 0, 1) := dk_42 (dk_at dksX11_factor_2 15 rfl rfl)
theorem dX11_factor_61 : decode cX11_factor 61 = .ok (.invokevirtual 113, 3) := dk_182 0 113 (dk_at dksX11_factor_2 16 rfl rfl)
theorem dX11_factor_64 : decode cX11_factor 64 = .ok (.iload_n 3, 1) := dk_29 (dk_at dksX11_factor_2 19 rfl rfl)
theorem dX11_factor_65 : decode cX11_factor 65 = .ok (.invokevirtual 103, 3) := dk_182 0 103 (dk_at dksX11_factor_2 20 rfl rfl)
theorem dX11_factor_68 : decode cX11_factor 68 = .ok (.goto (-56), 3) := dk_167 255 200 (dk_at dksX11_factor_3 0 rfl rfl)
theorem dX11_factor_71 : decode cX11_factor 71 = .ok (.aload_n 1, 1) := dk_43 (dk_at dksX11_factor_3 3 rfl rfl)
theorem dX11_factor_72 : decode cX11_factor 72 = .ok (.areturn, 1) := dk_176 (dk_at dksX11_factor_3 4 rfl rfl)
abbrev cX11_item : ByteArray := prog_26_method_10_code
def yX11_item : MethodName := ⟨RX11, "item", "()LBladeAlgebra$Node;"⟩
def dkwX11_item_3 : List UInt8 := [182, 0, 89, 77, 42, 182, 0, 15, 167, 255, 211, 44, 176]
abbrev dktX11_item_3 : List UInt8 := dkwX11_item_3 ++ []
def dkwX11_item_2 : List UInt8 := [16, 33, 160, 0, 33, 44, 42, 180, 0, 40, 16, 126, 160, 0, 9, 178, 0, 125, 167, 0, 6, 178, 0, 128]
abbrev dktX11_item_2 : List UInt8 := dkwX11_item_2 ++ dktX11_item_3
def dkwX11_item_1 : List UInt8 := [176, 187, 0, 78, 89, 43, 183, 0, 80, 77, 42, 180, 0, 40, 16, 126, 159, 0, 12, 42, 180, 0, 40]
abbrev dktX11_item_1 : List UInt8 := dkwX11_item_1 ++ dktX11_item_2
def dkwX11_item_0 : List UInt8 := [42, 182, 0, 122, 76, 42, 180, 0, 40, 16, 126, 159, 0, 14, 42, 180, 0, 40, 16, 33, 159, 0, 5, 43]
abbrev dktX11_item_0 : List UInt8 := dkwX11_item_0 ++ dktX11_item_1
theorem dksX11_item_0 : cX11_item.data.toList.drop 0 = dktX11_item_0 := by decide +kernel
theorem dksX11_item_1 : cX11_item.data.toList.drop 24 = dktX11_item_1 := dk_seg dksX11_item_0 24 rfl rfl
theorem dksX11_item_2 : cX11_item.data.toList.drop 47 = dktX11_item_2 := dk_seg dksX11_item_1 23 rfl rfl
theorem dksX11_item_3 : cX11_item.data.toList.drop 71 = dktX11_item_3 := dk_seg dksX11_item_2 24 rfl rfl
theorem dX11_item_0 : decode cX11_item 0 = .ok (.aload_n 0, 1) := dk_42 (dk_at dksX11_item_0 0 rfl rfl)
theorem dX11_item_1 : decode cX11_item 1 = .ok (.invokevirtual 122, 3) := dk_182 0 122 (dk_at dksX11_item_0 1 rfl rfl)
theorem dX11_item_4 : decode cX11_item 4 = .ok (.astore_n 1, 1) := dk_76 (dk_at dksX11_item_0 4 rfl rfl)
theorem dX11_item_5 : decode cX11_item 5 = .ok (.aload_n 0, 1) := dk_42 (dk_at dksX11_item_0 5 rfl rfl)
theorem dX11_item_6 : decode cX11_item 6 = .ok (.getfield 40, 3) := dk_180 0 40 (dk_at dksX11_item_0 6 rfl rfl)
theorem dX11_item_9 : decode cX11_item 9 = .ok (.bipush 126, 2) := dk_16 126 (dk_at dksX11_item_0 9 rfl rfl)
theorem dX11_item_11 : decode cX11_item 11 = .ok (.if_icmp .eq 14, 3) := dk_159 0 14 (dk_at dksX11_item_0 11 rfl rfl)
theorem dX11_item_14 : decode cX11_item 14 = .ok (.aload_n 0, 1) := dk_42 (dk_at dksX11_item_0 14 rfl rfl)
theorem dX11_item_15 : decode cX11_item 15 = .ok (.getfield 40, 3) := dk_180 0 40 (dk_at dksX11_item_0 15 rfl rfl)
theorem dX11_item_18 : decode cX11_item 18 = .ok (.bipush 33, 2) := dk_16 33 (dk_at dksX11_item_0 18 rfl rfl)
theorem dX11_item_20 : decode cX11_item 20 = .ok (.if_icmp .eq 5, 3) := dk_159 0 5 (dk_at dksX11_item_0 20 rfl rfl)
theorem dX11_item_23 : decode cX11_item 23 = .ok (.aload_n 1, 1) := dk_43 (dk_at dksX11_item_0 23 rfl rfl)
theorem dX11_item_24 : decode cX11_item 24 = .ok (.areturn, 1) := dk_176 (dk_at dksX11_item_1 0 rfl rfl)
theorem dX11_item_25 : decode cX11_item 25 = .ok (.new 78, 3) := dk_187 0 78 (dk_at dksX11_item_1 1 rfl rfl)
theorem dX11_item_28 : decode cX11_item 28 = .ok (.dup, 1) := dk_89 (dk_at dksX11_item_1 4 rfl rfl)
theorem dX11_item_29 : decode cX11_item 29 = .ok (.aload_n 1, 1) := dk_43 (dk_at dksX11_item_1 5 rfl rfl)
theorem dX11_item_30 : decode cX11_item 30 = .ok (.invokespecial 80, 3) := dk_183 0 80 (dk_at dksX11_item_1 6 rfl rfl)
theorem dX11_item_33 : decode cX11_item 33 = .ok (.astore_n 2, 1) := dk_77 (dk_at dksX11_item_1 9 rfl rfl)
theorem dX11_item_34 : decode cX11_item 34 = .ok (.aload_n 0, 1) := dk_42 (dk_at dksX11_item_1 10 rfl rfl)
theorem dX11_item_35 : decode cX11_item 35 = .ok (.getfield 40, 3) := dk_180 0 40 (dk_at dksX11_item_1 11 rfl rfl)
theorem dX11_item_38 : decode cX11_item 38 = .ok (.bipush 126, 2) := dk_16 126 (dk_at dksX11_item_1 14 rfl rfl)
theorem dX11_item_40 : decode cX11_item 40 = .ok (.if_icmp .eq 12, 3) := dk_159 0 12 (dk_at dksX11_item_1 16 rfl rfl)
theorem dX11_item_43 : decode cX11_item 43 = .ok (.aload_n 0, 1) := dk_42 (dk_at dksX11_item_1 19 rfl rfl)
theorem dX11_item_44 : decode cX11_item 44 = .ok (.getfield 40, 3) := dk_180 0 40 (dk_at dksX11_item_1 20 rfl rfl)
theorem dX11_item_47 : decode cX11_item 47 = .ok (.bipush 33, 2) := dk_16 33 (dk_at dksX11_item_2 0 rfl rfl)
theorem dX11_item_49 : decode cX11_item 49 = .ok (.if_icmp .ne 33, 3) := dk_160 0 33 (dk_at dksX11_item_2 2 rfl rfl)
theorem dX11_item_52 : decode cX11_item 52 = .ok (.aload_n 2, 1) := dk_44 (dk_at dksX11_item_2 5 rfl rfl)
theorem dX11_item_53 : decode cX11_item 53 = .ok (.aload_n 0, 1) := dk_42 (dk_at dksX11_item_2 6 rfl rfl)
theorem dX11_item_54 : decode cX11_item 54 = .ok (.getfield 40, 3) := dk_180 0 40 (dk_at dksX11_item_2 7 rfl rfl)
theorem dX11_item_57 : decode cX11_item 57 = .ok (.bipush 126, 2) := dk_16 126 (dk_at dksX11_item_2 10 rfl rfl)
theorem dX11_item_59 : decode cX11_item 59 = .ok (.if_icmp .ne 9, 3) := dk_160 0 9 (dk_at dksX11_item_2 12 rfl rfl)
theorem dX11_item_62 : decode cX11_item 62 = .ok (.getstatic 125, 3) := dk_178 0 125 (dk_at dksX11_item_2 15 rfl rfl)
theorem dX11_item_65 : decode cX11_item 65 = .ok (.goto 6, 3) := dk_167 0 6 (dk_at dksX11_item_2 18 rfl rfl)
theorem dX11_item_68 : decode cX11_item 68 = .ok (.getstatic 128, 3) := dk_178 0 128 (dk_at dksX11_item_2 21 rfl rfl)
theorem dX11_item_71 : decode cX11_item 71 = .ok (.invokevirtual 89, 3) := dk_182 0 89 (dk_at dksX11_item_3 0 rfl rfl)
theorem dX11_item_74 : decode cX11_item 74 = .ok (.astore_n 2, 1) := dk_77 (dk_at dksX11_item_3 3 rfl rfl)
theorem dX11_item_75 : decode cX11_item 75 = .ok (.aload_n 0, 1) := dk_42 (dk_at dksX11_item_3 4 rfl rfl)
theorem dX11_item_76 : decode cX11_item 76 = .ok (.invokevirtual 15, 3) := dk_182 0 15 (dk_at dksX11_item_3 5 rfl rfl)
theorem dX11_item_79 : decode cX11_item 79 = .ok (.goto (-45), 3) := dk_167 255 211 (dk_at dksX11_item_3 8 rfl rfl)
theorem dX11_item_82 : decode cX11_item 82 = .ok (.aload_n 2, 1) := dk_44 (dk_at dksX11_item_3 11 rfl rfl)
theorem dX11_item_83 : decode cX11_item 83 = .ok (.areturn, 1) := dk_176 (dk_at dksX11_item_3 12 rfl rfl)
abbrev cX11_primary : ByteArray := prog_26_method_11_code
def yX11_primary : MethodName := ⟨RX11, "primary", "()LBladeAlgebra$Node;"⟩
def dkwX11_primary_7 : List UInt8 := [89, 5, 42, 180, 0, 37, 43, 183, 0, 151, 191]
abbrev dktX11_primary_7 : List UInt8 := dkwX11_primary_7 ++ []
def dkwX11_primary_6 : List UInt8 := [16, 101, 160, 0, 10, 42, 182, 0, 140, 167, 0, 7, 42, 182, 0, 143, 183, 0, 146, 176, 76, 187, 0, 56]
abbrev dktX11_primary_6 : List UInt8 := dkwX11_primary_6 ++ dktX11_primary_7
def dkwX11_primary_5 : List UInt8 := [187, 0, 134, 89, 42, 180, 0, 40, 16, 48, 160, 0, 10, 42, 182, 0, 136, 167, 0, 23, 42, 180, 0, 40]
abbrev dktX11_primary_5 : List UInt8 := dkwX11_primary_5 ++ dktX11_primary_6
def dkwX11_primary_4 : List UInt8 := [16, 101, 159, 0, 12, 42, 180, 0, 40, 16, 114, 160, 0, 7, 4, 167, 0, 4, 3, 4, 182, 0, 65]
abbrev dktX11_primary_4 : List UInt8 := dkwX11_primary_4 ++ dktX11_primary_5
def dkwX11_primary_3 : List UInt8 := [100, 181, 0, 131, 42, 182, 0, 15, 43, 176, 42, 42, 180, 0, 40, 16, 48, 159, 0, 21, 42, 180, 0, 40]
abbrev dktX11_primary_3 : List UInt8 := dkwX11_primary_3 ++ dktX11_primary_4
def dkwX11_primary_2 : List UInt8 := [42, 180, 0, 40, 16, 41, 160, 0, 7, 4, 167, 0, 4, 3, 4, 182, 0, 65, 42, 89, 180, 0, 131, 4]
abbrev dktX11_primary_2 : List UInt8 := dkwX11_primary_2 ++ dktX11_primary_3
def dkwX11_primary_1 : List UInt8 := [7, 182, 0, 65, 42, 89, 180, 0, 131, 4, 96, 181, 0, 131, 42, 182, 0, 15, 42, 182, 0, 61, 76, 42]
abbrev dktX11_primary_1 : List UInt8 := dkwX11_primary_1 ++ dktX11_primary_2
def dkwX11_primary_0 : List UInt8 := [42, 180, 0, 40, 16, 40, 160, 0, 76, 42, 42, 180, 0, 131, 16, 12, 162, 0, 7, 4, 167, 0, 4, 3]
abbrev dktX11_primary_0 : List UInt8 := dkwX11_primary_0 ++ dktX11_primary_1
theorem dksX11_primary_0 : cX11_primary.data.toList.drop 0 = dktX11_primary_0 := by decide +kernel
theorem dksX11_primary_1 : cX11_primary.data.toList.drop 24 = dktX11_primary_1 := dk_seg dksX11_primary_0 24 rfl rfl
theorem dksX11_primary_2 : cX11_primary.data.toList.drop 48 = dktX11_primary_2 := dk_seg dksX11_primary_1 24 rfl rfl
theorem dksX11_primary_3 : cX11_primary.data.toList.drop 72 = dktX11_primary_3 := dk_seg dksX11_primary_2 24 rfl rfl
theorem dksX11_primary_4 : cX11_primary.data.toList.drop 96 = dktX11_primary_4 := dk_seg dksX11_primary_3 24 rfl rfl
theorem dksX11_primary_5 : cX11_primary.data.toList.drop 119 = dktX11_primary_5 := dk_seg dksX11_primary_4 23 rfl rfl
theorem dksX11_primary_6 : cX11_primary.data.toList.drop 143 = dktX11_primary_6 := dk_seg dksX11_primary_5 24 rfl rfl
theorem dksX11_primary_7 : cX11_primary.data.toList.drop 167 = dktX11_primary_7 := dk_seg dksX11_primary_6 24 rfl rfl
theorem dX11_primary_0 : decode cX11_primary 0 = .ok (.aload_n 0, 1) := dk_42 (dk_at dksX11_primary_0 0 rfl rfl)
theorem dX11_primary_1 : decode cX11_primary 1 = .ok (.getfield 40, 3) := dk_180 0 40 (dk_at dksX11_primary_0 1 rfl rfl)
theorem dX11_primary_4 : decode cX11_primary 4 = .ok (.bipush 40, 2) := dk_16 40 (dk_at dksX11_primary_0 4 rfl rfl)
theorem dX11_primary_6 : decode cX11_primary 6 = .ok (.if_icmp .ne 76, 3) := dk_160 0 76 (dk_at dksX11_primary_0 6 rfl rfl)
theorem dX11_primary_9 : decode cX11_primary 9 = .ok (.aload_n 0, 1) := dk_42 (dk_at dksX11_primary_0 9 rfl rfl)
theorem dX11_primary_10 : decode cX11_primary 10 = .ok (.aload_n 0, 1) := dk_42 (dk_at dksX11_primary_0 10 rfl rfl)
theorem dX11_primary_11 : decode cX11_primary 11 = .ok (.getfield 131, 3) := dk_180 0 131 (dk_at dksX11_primary_0 11 rfl rfl)
theorem dX11_primary_14 : decode cX11_primary 14 = .ok (.bipush 12, 2) := dk_16 12 (dk_at dksX11_primary_0 14 rfl rfl)
theorem dX11_primary_16 : decode cX11_primary 16 = .ok (.if_icmp .ge 7, 3) := dk_162 0 7 (dk_at dksX11_primary_0 16 rfl rfl)
theorem dX11_primary_19 : decode cX11_primary 19 = .ok (.iconst 1, 1) := dk_4 (dk_at dksX11_primary_0 19 rfl rfl)
theorem dX11_primary_20 : decode cX11_primary 20 = .ok (.goto 4, 3) := dk_167 0 4 (dk_at dksX11_primary_0 20 rfl rfl)
theorem dX11_primary_23 : decode cX11_primary 23 = .ok (.iconst 0, 1) := dk_3 (dk_at dksX11_primary_0 23 rfl rfl)
theorem dX11_primary_24 : decode cX11_primary 24 = .ok (.iconst 4, 1) := dk_7 (dk_at dksX11_primary_1 0 rfl rfl)
theorem dX11_primary_25 : decode cX11_primary 25 = .ok (.invokevirtual 65, 3) := dk_182 0 65 (dk_at dksX11_primary_1 1 rfl rfl)
theorem dX11_primary_28 : decode cX11_primary 28 = .ok (.aload_n 0, 1) := dk_42 (dk_at dksX11_primary_1 4 rfl rfl)
theorem dX11_primary_29 : decode cX11_primary 29 = .ok (.dup, 1) := dk_89 (dk_at dksX11_primary_1 5 rfl rfl)
theorem dX11_primary_30 : decode cX11_primary 30 = .ok (.getfield 131, 3) := dk_180 0 131 (dk_at dksX11_primary_1 6 rfl rfl)
theorem dX11_primary_33 : decode cX11_primary 33 = .ok (.iconst 1, 1) := dk_4 (dk_at dksX11_primary_1 9 rfl rfl)
theorem dX11_primary_34 : decode cX11_primary 34 = .ok (.iadd, 1) := dk_96 (dk_at dksX11_primary_1 10 rfl rfl)
theorem dX11_primary_35 : decode cX11_primary 35 = .ok (.putfield 131, 3) := dk_181 0 131 (dk_at dksX11_primary_1 11 rfl rfl)
theorem dX11_primary_38 : decode cX11_primary 38 = .ok (.aload_n 0, 1) := dk_42 (dk_at dksX11_primary_1 14 rfl rfl)
theorem dX11_primary_39 : decode cX11_primary 39 = .ok (.invokevirtual 15, 3) := dk_182 0 15 (dk_at dksX11_primary_1 15 rfl rfl)
theorem dX11_primary_42 : decode cX11_primary 42 = .ok (.aload_n 0, 1) := dk_42 (dk_at dksX11_primary_1 18 rfl rfl)
theorem dX11_primary_43 : decode cX11_primary 43 = .ok (.invokevirtual 61, 3) := dk_182 0 61 (dk_at dksX11_primary_1 19 rfl rfl)
theorem dX11_primary_46 : decode cX11_primary 46 = .ok (.astore_n 1, 1) := dk_76 (dk_at dksX11_primary_1 22 rfl rfl)
theorem dX11_primary_47 : decode cX11_primary 47 = .ok (.aload_n 0, 1) := dk_42 (dk_at dksX11_primary_1 23 rfl rfl)
theorem dX11_primary_48 : decode cX11_primary 48 = .ok (.aload_n 0, 1) := dk_42 (dk_at dksX11_primary_2 0 rfl rfl)
theorem dX11_primary_49 : decode cX11_primary 49 = .ok (.getfield 40, 3) := dk_180 0 40 (dk_at dksX11_primary_2 1 rfl rfl)
theorem dX11_primary_52 : decode cX11_primary 52 = .ok (.bipush 41, 2) := dk_16 41 (dk_at dksX11_primary_2 4 rfl rfl)
theorem dX11_primary_54 : decode cX11_primary 54 = .ok (.if_icmp .ne 7, 3) := dk_160 0 7 (dk_at dksX11_primary_2 6 rfl rfl)
theorem dX11_primary_57 : decode cX11_primary 57 = .ok (.iconst 1, 1) := dk_4 (dk_at dksX11_primary_2 9 rfl rfl)
theorem dX11_primary_58 : decode cX11_primary 58 = .ok (.goto 4, 3) := dk_167 0 4 (dk_at dksX11_primary_2 10 rfl rfl)
theorem dX11_primary_61 : decode cX11_primary 61 = .ok (.iconst 0, 1) := dk_3 (dk_at dksX11_primary_2 13 rfl rfl)
theorem dX11_primary_62 : decode cX11_primary 62 = .ok (.iconst 1, 1) := dk_4 (dk_at dksX11_primary_2 14 rfl rfl)
theorem dX11_primary_63 : decode cX11_primary 63 = .ok (.invokevirtual 65, 3) := dk_182 0 65 (dk_at dksX11_primary_2 15 rfl rfl)
theorem dX11_primary_66 : decode cX11_primary 66 = .ok (.aload_n 0, 1) := dk_42 (dk_at dksX11_primary_2 18 rfl rfl)
theorem dX11_primary_67 : decode cX11_primary 67 = .ok (.dup, 1) := dk_89 (dk_at dksX11_primary_2 19 rfl rfl)
theorem dX11_primary_68 : decode cX11_primary 68 = .ok (.getfield 131, 3) := dk_180 0 131 (dk_at dksX11_primary_2 20 rfl rfl)
theorem dX11_primary_71 : decode cX11_primary 71 = .ok (.iconst 1, 1) := dk_4 (dk_at dksX11_primary_2 23 rfl rfl)
theorem dX11_primary_72 : decode cX11_primary 72 = .ok (.isub, 1) := dk_100 (dk_at dksX11_primary_3 0 rfl rfl)
theorem dX11_primary_73 : decode cX11_primary 73 = .ok (.putfield 131, 3) := dk_181 0 131 (dk_at dksX11_primary_3 1 rfl rfl)
theorem dX11_primary_76 : decode cX11_primary 76 = .ok (.aload_n 0, 1) := dk_42 (dk_at dksX11_primary_3 4 rfl rfl)
theorem dX11_primary_77 : decode cX11_primary 77 = .ok (.invokevirtual 15, 3) := dk_182 0 15 (dk_at dksX11_primary_3 5 rfl rfl)
theorem dX11_primary_80 : decode cX11_primary 80 = .ok (.aload_n 1, 1) := dk_43 (dk_at dksX11_primary_3 8 rfl rfl)
theorem dX11_primary_81 : decode cX11_primary 81 = .ok (.areturn, 1) := dk_176 (dk_at dksX11_primary_3 9 rfl rfl)
theorem dX11_primary_82 : decode cX11_primary 82 = .ok (.aload_n 0, 1) := dk_42 (dk_at dksX11_primary_3 10 rfl rfl)
theorem dX11_primary_83 : decode cX11_primary 83 = .ok (.aload_n 0, 1) := dk_42 (dk_at dksX11_primary_3 11 rfl rfl)
theorem dX11_primary_84 : decode cX11_primary 84 = .ok (.getfield 40, 3) := dk_180 0 40 (dk_at dksX11_primary_3 12 rfl rfl)
theorem dX11_primary_87 : decode cX11_primary 87 = .ok (.bipush 48, 2) := dk_16 48 (dk_at dksX11_primary_3 15 rfl rfl)
theorem dX11_primary_89 : decode cX11_primary 89 = .ok (.if_icmp .eq 21, 3) := dk_159 0 21 (dk_at dksX11_primary_3 17 rfl rfl)
theorem dX11_primary_92 : decode cX11_primary 92 = .ok (.aload_n 0, 1) := dk_42 (dk_at dksX11_primary_3 20 rfl rfl)
theorem dX11_primary_93 : decode cX11_primary 93 = .ok (.getfield 40, 3) := dk_180 0 40 (dk_at dksX11_primary_3 21 rfl rfl)
theorem dX11_primary_96 : decode cX11_primary 96 = .ok (.bipush 101, 2) := dk_16 101 (dk_at dksX11_primary_4 0 rfl rfl)
theorem dX11_primary_98 : decode cX11_primary 98 = .ok (.if_icmp .eq 12, 3) := dk_159 0 12 (dk_at dksX11_primary_4 2 rfl rfl)
theorem dX11_primary_101 : decode cX11_primary 101 = .ok (.aload_n 0, 1) := dk_42 (dk_at dksX11_primary_4 5 rfl rfl)
theorem dX11_primary_102 : decode cX11_primary 102 = .ok (.getfield 40, 3) := dk_180 0 40 (dk_at dksX11_primary_4 6 rfl rfl)
theorem dX11_primary_105 : decode cX11_primary 105 = .ok (.bipush 114, 2) := dk_16 114 (dk_at dksX11_primary_4 9 rfl rfl)
theorem dX11_primary_107 : decode cX11_primary 107 = .ok (.if_icmp .ne 7, 3) := dk_160 0 7 (dk_at dksX11_primary_4 11 rfl rfl)
theorem dX11_primary_110 : decode cX11_primary 110 = .ok (.iconst 1, 1) := dk_4 (dk_at dksX11_primary_4 14 rfl rfl)
theorem dX11_primary_111 : decode cX11_primary 111 = .ok (.goto 4, 3) := dk_167 0 4 (dk_at dksX11_primary_4 15 rfl rfl)
theorem dX11_primary_114 : decode cX11_primary 114 = .ok (.iconst 0, 1) := dk_3 (dk_at dksX11_primary_4 18 rfl rfl)
theorem dX11_primary_115 : decode cX11_primary 115 = .ok (.iconst 1, 1) := dk_4 (dk_at dksX11_primary_4 19 rfl rfl)
theorem dX11_primary_116 : decode cX11_primary 116 = .ok (.invokevirtual 65, 3) := dk_182 0 65 (dk_at dksX11_primary_4 20 rfl rfl)
theorem dX11_primary_119 : decode cX11_primary 119 = .ok (.new 134, 3) := dk_187 0 134 (dk_at dksX11_primary_5 0 rfl rfl)
theorem dX11_primary_122 : decode cX11_primary 122 = .ok (.dup, 1) := dk_89 (dk_at dksX11_primary_5 3 rfl rfl)
theorem dX11_primary_123 : decode cX11_primary 123 = .ok (.aload_n 0, 1) := dk_42 (dk_at dksX11_primary_5 4 rfl rfl)
theorem dX11_primary_124 : decode cX11_primary 124 = .ok (.getfield 40, 3) := dk_180 0 40 (dk_at dksX11_primary_5 5 rfl rfl)
theorem dX11_primary_127 : decode cX11_primary 127 = .ok (.bipush 48, 2) := dk_16 48 (dk_at dksX11_primary_5 8 rfl rfl)
theorem dX11_primary_129 : decode cX11_primary 129 = .ok (.if_icmp .ne 10, 3) := dk_160 0 10 (dk_at dksX11_primary_5 10 rfl rfl)
theorem dX11_primary_132 : decode cX11_primary 132 = .ok (.aload_n 0, 1) := dk_42 (dk_at dksX11_primary_5 13 rfl rfl)
theorem dX11_primary_133 : decode cX11_primary 133 = .ok (.invokevirtual 136, 3) := dk_182 0 136 (dk_at dksX11_primary_5 14 rfl rfl)
theorem dX11_primary_136 : decode cX11_primary 136 = .ok (.goto 23, 3) := dk_167 0 23 (dk_at dksX11_primary_5 17 rfl rfl)
theorem dX11_primary_139 : decode cX11_primary 139 = .ok (.aload_n 0, 1) := dk_42 (dk_at dksX11_primary_5 20 rfl rfl)
theorem dX11_primary_140 : decode cX11_primary 140 = .ok (.getfield 40, 3) := dk_180 0 40 (dk_at dksX11_primary_5 21 rfl rfl)
theorem dX11_primary_143 : decode cX11_primary 143 = .ok (.bipush 101, 2) := dk_16 101 (dk_at dksX11_primary_6 0 rfl rfl)
theorem dX11_primary_145 : decode cX11_primary 145 = .ok (.if_icmp .ne 10, 3) := dk_160 0 10 (dk_at dksX11_primary_6 2 rfl rfl)
theorem dX11_primary_148 : decode cX11_primary 148 = .ok (.aload_n 0, 1) := dk_42 (dk_at dksX11_primary_6 5 rfl rfl)
theorem dX11_primary_149 : decode cX11_primary 149 = .ok (.invokevirtual 140, 3) := dk_182 0 140 (dk_at dksX11_primary_6 6 rfl rfl)
theorem dX11_primary_152 : decode cX11_primary 152 = .ok (.goto 7, 3) := dk_167 0 7 (dk_at dksX11_primary_6 9 rfl rfl)
theorem dX11_primary_155 : decode cX11_primary 155 = .ok (.aload_n 0, 1) := dk_42 (dk_at dksX11_primary_6 12 rfl rfl)
theorem dX11_primary_156 : decode cX11_primary 156 = .ok (.invokevirtual 143, 3) := dk_182 0 143 (dk_at dksX11_primary_6 13 rfl rfl)
theorem dX11_primary_159 : decode cX11_primary 159 = .ok (.invokespecial 146, 3) := dk_183 0 146 (dk_at dksX11_primary_6 16 rfl rfl)
theorem dX11_primary_162 : decode cX11_primary 162 = .ok (.areturn, 1) := dk_176 (dk_at dksX11_primary_6 19 rfl rfl)
theorem dX11_primary_163 : decode cX11_primary 163 = .ok (.astore_n 1, 1) := dk_76 (dk_at dksX11_primary_6 20 rfl rfl)
theorem dX11_primary_164 : decode cX11_primary 164 = .ok (.new 56, 3) := dk_187 0 56 (dk_at dksX11_primary_6 21 rfl rfl)
theorem dX11_primary_167 : decode cX11_primary 167 = .ok (.dup, 1) := dk_89 (dk_at dksX11_primary_7 0 rfl rfl)
theorem dX11_primary_168 : decode cX11_primary 168 = .ok (.iconst 2, 1) := dk_5 (dk_at dksX11_primary_7 1 rfl rfl)
theorem dX11_primary_169 : decode cX11_primary 169 = .ok (.aload_n 0, 1) := dk_42 (dk_at dksX11_primary_7 2 rfl rfl)
theorem dX11_primary_170 : decode cX11_primary 170 = .ok (.getfield 37, 3) := dk_180 0 37 (dk_at dksX11_primary_7 3 rfl rfl)
theorem dX11_primary_173 : decode cX11_primary 173 = .ok (.aload_n 1, 1) := dk_43 (dk_at dksX11_primary_7 6 rfl rfl)
theorem dX11_primary_174 : decode cX11_primary 174 = .ok (.invokespecial 151, 3) := dk_183 0 151 (dk_at dksX11_primary_7 7 rfl rfl)
theorem dX11_primary_177 : decode cX11_primary 177 = .ok (.athrow, 1) := dk_191 (dk_at dksX11_primary_7 10 rfl rfl)
abbrev cX11_must : ByteArray := prog_26_method_5_code
def yX11_must : MethodName := ⟨RX11, "must", "(ZI)V"⟩
def dkwX11_must_0 : List UInt8 := [27, 154, 0, 16, 187, 0, 56, 89, 28, 42, 180, 0, 37, 183, 0, 58, 191, 177]
abbrev dktX11_must_0 : List UInt8 := dkwX11_must_0 ++ []
theorem dksX11_must_0 : cX11_must.data.toList.drop 0 = dktX11_must_0 := by decide +kernel
theorem dX11_must_0 : decode cX11_must 0 = .ok (.iload_n 1, 1) := dk_27 (dk_at dksX11_must_0 0 rfl rfl)
theorem dX11_must_1 : decode cX11_must 1 = .ok (.ifCond .ne 16, 3) := dk_154 0 16 (dk_at dksX11_must_0 1 rfl rfl)
theorem dX11_must_4 : decode cX11_must 4 = .ok (.new 56, 3) := dk_187 0 56 (dk_at dksX11_must_0 4 rfl rfl)
theorem dX11_must_7 : decode cX11_must 7 = .ok (.dup, 1) := dk_89 (dk_at dksX11_must_0 7 rfl rfl)
theorem dX11_must_8 : decode cX11_must 8 = .ok (.iload_n 2, 1) := dk_28 (dk_at dksX11_must_0 8 rfl rfl)
theorem dX11_must_9 : decode cX11_must 9 = .ok (.aload_n 0, 1) := dk_42 (dk_at dksX11_must_0 9 rfl rfl)
theorem dX11_must_10 : decode cX11_must 10 = .ok (.getfield 37, 3) := dk_180 0 37 (dk_at dksX11_must_0 10 rfl rfl)
theorem dX11_must_13 : decode cX11_must 13 = .ok (.invokespecial 58, 3) := dk_183 0 58 (dk_at dksX11_must_0 13 rfl rfl)
theorem dX11_must_16 : decode cX11_must 16 = .ok (.athrow, 1) := dk_191 (dk_at dksX11_must_0 16 rfl rfl)
theorem dX11_must_17 : decode cX11_must 17 = .ok (.return_, 1) := dk_177 (dk_at dksX11_must_0 17 rfl rfl)
abbrev cX11_fraction : ByteArray := prog_26_method_13_code
def yX11_fraction : MethodName := ⟨RX11, "fraction", "()LBladeAlgebra$Multi;"⟩
def dkwX11_fraction_2 : List UInt8 := [184, 0, 160, 176]
abbrev dktX11_fraction_2 : List UInt8 := dkwX11_fraction_2 ++ []
def dkwX11_fraction_1 : List UInt8 := [66, 42, 33, 9, 148, 153, 0, 7, 4, 167, 0, 4, 3, 5, 182, 0, 65, 42, 182, 0, 15, 3, 31, 33]
abbrev dktX11_fraction_1 : List UInt8 := dkwX11_fraction_1 ++ dktX11_fraction_2
def dkwX11_fraction_0 : List UInt8 := [42, 182, 0, 156, 64, 10, 66, 42, 182, 0, 15, 42, 16, 47, 182, 0, 69, 153, 0, 28, 42, 182, 0, 156]
abbrev dktX11_fraction_0 : List UInt8 := dkwX11_fraction_0 ++ dktX11_fraction_1
theorem dksX11_fraction_0 : cX11_fraction.data.toList.drop 0 = dktX11_fraction_0 := by decide +kernel
theorem dksX11_fraction_1 : cX11_fraction.data.toList.drop 24 = dktX11_fraction_1 := dk_seg dksX11_fraction_0 24 rfl rfl
theorem dksX11_fraction_2 : cX11_fraction.data.toList.drop 48 = dktX11_fraction_2 := dk_seg dksX11_fraction_1 24 rfl rfl
theorem dX11_fraction_0 : decode cX11_fraction 0 = .ok (.aload_n 0, 1) := dk_42 (dk_at dksX11_fraction_0 0 rfl rfl)
theorem dX11_fraction_1 : decode cX11_fraction 1 = .ok (.invokevirtual 156, 3) := dk_182 0 156 (dk_at dksX11_fraction_0 1 rfl rfl)
theorem dX11_fraction_4 : decode cX11_fraction 4 = .ok (.lstore_n 1, 1) := dk_64 (dk_at dksX11_fraction_0 4 rfl rfl)
theorem dX11_fraction_5 : decode cX11_fraction 5 = .ok (.lconst 1, 1) := dk_10 (dk_at dksX11_fraction_0 5 rfl rfl)
theorem dX11_fraction_6 : decode cX11_fraction 6 = .ok (.lstore_n 3, 1) := dk_66 (dk_at dksX11_fraction_0 6 rfl rfl)
theorem dX11_fraction_7 : decode cX11_fraction 7 = .ok (.aload_n 0, 1) := dk_42 (dk_at dksX11_fraction_0 7 rfl rfl)
theorem dX11_fraction_8 : decode cX11_fraction 8 = .ok (.invokevirtual 15, 3) := dk_182 0 15 (dk_at dksX11_fraction_0 8 rfl rfl)
theorem dX11_fraction_11 : decode cX11_fraction 11 = .ok (.aload_n 0, 1) := dk_42 (dk_at dksX11_fraction_0 11 rfl rfl)
theorem dX11_fraction_12 : decode cX11_fraction 12 = .ok (.bipush 47, 2) := dk_16 47 (dk_at dksX11_fraction_0 12 rfl rfl)
theorem dX11_fraction_14 : decode cX11_fraction 14 = .ok (.invokevirtual 69, 3) := dk_182 0 69 (dk_at dksX11_fraction_0 14 rfl rfl)
theorem dX11_fraction_17 : decode cX11_fraction 17 = .ok (.ifCond .eq 28, 3) := dk_153 0 28 (dk_at dksX11_fraction_0 17 rfl rfl)
theorem dX11_fraction_20 : decode cX11_fraction 20 = .ok (.aload_n 0, 1) := dk_42 (dk_at dksX11_fraction_0 20 rfl rfl)
theorem dX11_fraction_21 : decode cX11_fraction 21 = .ok (.invokevirtual 156, 3) := dk_182 0 156 (dk_at dksX11_fraction_0 21 rfl rfl)
theorem dX11_fraction_24 : decode cX11_fraction 24 = .ok (.lstore_n 3, 1) := dk_66 (dk_at dksX11_fraction_1 0 rfl rfl)
theorem dX11_fraction_25 : decode cX11_fraction 25 = .ok (.aload_n 0, 1) := dk_42 (dk_at dksX11_fraction_1 1 rfl rfl)
theorem dX11_fraction_26 : decode cX11_fraction 26 = .ok (.lload_n 3, 1) := dk_33 (dk_at dksX11_fraction_1 2 rfl rfl)
theorem dX11_fraction_27 : decode cX11_fraction 27 = .ok (.lconst 0, 1) := dk_9 (dk_at dksX11_fraction_1 3 rfl rfl)
theorem dX11_fraction_28 : decode cX11_fraction 28 = .ok (.lcmp, 1) := dk_148 (dk_at dksX11_fraction_1 4 rfl rfl)
theorem dX11_fraction_29 : decode cX11_fraction 29 = .ok (.ifCond .eq 7, 3) := dk_153 0 7 (dk_at dksX11_fraction_1 5 rfl rfl)
theorem dX11_fraction_32 : decode cX11_fraction 32 = .ok (.iconst 1, 1) := dk_4 (dk_at dksX11_fraction_1 8 rfl rfl)
theorem dX11_fraction_33 : decode cX11_fraction 33 = .ok (.goto 4, 3) := dk_167 0 4 (dk_at dksX11_fraction_1 9 rfl rfl)
theorem dX11_fraction_36 : decode cX11_fraction 36 = .ok (.iconst 0, 1) := dk_3 (dk_at dksX11_fraction_1 12 rfl rfl)
theorem dX11_fraction_37 : decode cX11_fraction 37 = .ok (.iconst 2, 1) := dk_5 (dk_at dksX11_fraction_1 13 rfl rfl)
theorem dX11_fraction_38 : decode cX11_fraction 38 = .ok (.invokevirtual 65, 3) := dk_182 0 65 (dk_at dksX11_fraction_1 14 rfl rfl)
theorem dX11_fraction_41 : decode cX11_fraction 41 = .ok (.aload_n 0, 1) := dk_42 (dk_at dksX11_fraction_1 17 rfl rfl)
theorem dX11_fraction_42 : decode cX11_fraction 42 = .ok (.invokevirtual 15, 3) := dk_182 0 15 (dk_at dksX11_fraction_1 18 rfl rfl)
theorem dX11_fraction_45 : decode cX11_fraction 45 = .ok (.iconst 0, 1) := dk_3 (dk_at dksX11_fraction_1 21 rfl rfl)
theorem dX11_fraction_46 : decode cX11_fraction 46 = .ok (.lload_n 1, 1) := dk_31 (dk_at dksX11_fraction_1 22 rfl rfl)
theorem dX11_fraction_47 : decode cX11_fraction 47 = .ok (.lload_n 3, 1) := dk_33 (dk_at dksX11_fraction_1 23 rfl rfl)
theorem dX11_fraction_48 : decode cX11_fraction 48 = .ok (.invokestatic 160, 3) := dk_184 0 160 (dk_at dksX11_fraction_2 0 rfl rfl)
theorem dX11_fraction_51 : decode cX11_fraction 51 = .ok (.areturn, 1) := dk_176 (dk_at dksX11_fraction_2 3 rfl rfl)
abbrev cX11_number : ByteArray := prog_26_method_12_code
def yX11_number : MethodName := ⟨RX11, "number", "()J"⟩
def dkwX11_number_3 : List UInt8 := [29, 51, 133, 97, 20, 0, 26, 101, 64, 132, 3, 1, 167, 255, 224, 31, 173]
abbrev dktX11_number_3 : List UInt8 := dkwX11_number_3 ++ []
def dkwX11_number_2 : List UInt8 := [180, 0, 37, 62, 29, 42, 180, 0, 34, 162, 0, 30, 20, 0, 154, 31, 105, 42, 180, 0, 3, 180, 0, 22]
abbrev dktX11_number_2 : List UInt8 := dkwX11_number_2 ++ dktX11_number_3
def dkwX11_number_1 : List UInt8 := [42, 180, 0, 37, 100, 16, 8, 163, 0, 7, 4, 167, 0, 4, 3, 5, 182, 0, 65, 9, 64, 42]
abbrev dktX11_number_1 : List UInt8 := dkwX11_number_1 ++ dktX11_number_2
def dkwX11_number_0 : List UInt8 := [42, 42, 180, 0, 40, 16, 48, 160, 0, 7, 4, 167, 0, 4, 3, 4, 182, 0, 65, 42, 42, 180, 0, 34]
abbrev dktX11_number_0 : List UInt8 := dkwX11_number_0 ++ dktX11_number_1
theorem dksX11_number_0 : cX11_number.data.toList.drop 0 = dktX11_number_0 := by decide +kernel
theorem dksX11_number_1 : cX11_number.data.toList.drop 24 = dktX11_number_1 := dk_seg dksX11_number_0 24 rfl rfl
theorem dksX11_number_2 : cX11_number.data.toList.drop 46 = dktX11_number_2 := dk_seg dksX11_number_1 22 rfl rfl
theorem dksX11_number_3 : cX11_number.data.toList.drop 70 = dktX11_number_3 := dk_seg dksX11_number_2 24 rfl rfl
theorem dX11_number_0 : decode cX11_number 0 = .ok (.aload_n 0, 1) := dk_42 (dk_at dksX11_number_0 0 rfl rfl)
theorem dX11_number_1 : decode cX11_number 1 = .ok (.aload_n 0, 1) := dk_42 (dk_at dksX11_number_0 1 rfl rfl)
theorem dX11_number_2 : decode cX11_number 2 = .ok (.getfield 40, 3) := dk_180 0 40 (dk_at dksX11_number_0 2 rfl rfl)
theorem dX11_number_5 : decode cX11_number 5 = .ok (.bipush 48, 2) := dk_16 48 (dk_at dksX11_number_0 5 rfl rfl)
theorem dX11_number_7 : decode cX11_number 7 = .ok (.if_icmp .ne 7, 3) := dk_160 0 7 (dk_at dksX11_number_0 7 rfl rfl)
theorem dX11_number_10 : decode cX11_number 10 = .ok (.iconst 1, 1) := dk_4 (dk_at dksX11_number_0 10 rfl rfl)
theorem dX11_number_11 : decode cX11_number 11 = .ok (.goto 4, 3) := dk_167 0 4 (dk_at dksX11_number_0 11 rfl rfl)
theorem dX11_number_14 : decode cX11_number 14 = .ok (.iconst 0, 1) := dk_3 (dk_at dksX11_number_0 14 rfl rfl)
theorem dX11_number_15 : decode cX11_number 15 = .ok (.iconst 1, 1) := dk_4 (dk_at dksX11_number_0 15 rfl rfl)
theorem dX11_number_16 : decode cX11_number 16 = .ok (.invokevirtual 65, 3) := dk_182 0 65 (dk_at dksX11_number_0 16 rfl rfl)
theorem dX11_number_19 : decode cX11_number 19 = .ok (.aload_n 0, 1) := dk_42 (dk_at dksX11_number_0 19 rfl rfl)
theorem dX11_number_20 : decode cX11_number 20 = .ok (.aload_n 0, 1) := dk_42 (dk_at dksX11_number_0 20 rfl rfl)
theorem dX11_number_21 : decode cX11_number 21 = .ok (.getfield 34, 3) := dk_180 0 34 (dk_at dksX11_number_0 21 rfl rfl)
theorem dX11_number_24 : decode cX11_number 24 = .ok (.aload_n 0, 1) := dk_42 (dk_at dksX11_number_1 0 rfl rfl)
theorem dX11_number_25 : decode cX11_number 25 = .ok (.getfield 37, 3) := dk_180 0 37 (dk_at dksX11_number_1 1 rfl rfl)
theorem dX11_number_28 : decode cX11_number 28 = .ok (.isub, 1) := dk_100 (dk_at dksX11_number_1 4 rfl rfl)
theorem dX11_number_29 : decode cX11_number 29 = .ok (.bipush 8, 2) := dk_16 8 (dk_at dksX11_number_1 5 rfl rfl)
theorem dX11_number_31 : decode cX11_number 31 = .ok (.if_icmp .gt 7, 3) := dk_163 0 7 (dk_at dksX11_number_1 7 rfl rfl)
theorem dX11_number_34 : decode cX11_number 34 = .ok (.iconst 1, 1) := dk_4 (dk_at dksX11_number_1 10 rfl rfl)
theorem dX11_number_35 : decode cX11_number 35 = .ok (.goto 4, 3) := dk_167 0 4 (dk_at dksX11_number_1 11 rfl rfl)
theorem dX11_number_38 : decode cX11_number 38 = .ok (.iconst 0, 1) := dk_3 (dk_at dksX11_number_1 14 rfl rfl)
theorem dX11_number_39 : decode cX11_number 39 = .ok (.iconst 2, 1) := dk_5 (dk_at dksX11_number_1 15 rfl rfl)
theorem dX11_number_40 : decode cX11_number 40 = .ok (.invokevirtual 65, 3) := dk_182 0 65 (dk_at dksX11_number_1 16 rfl rfl)
theorem dX11_number_43 : decode cX11_number 43 = .ok (.lconst 0, 1) := dk_9 (dk_at dksX11_number_1 19 rfl rfl)
theorem dX11_number_44 : decode cX11_number 44 = .ok (.lstore_n 1, 1) := dk_64 (dk_at dksX11_number_1 20 rfl rfl)
theorem dX11_number_45 : decode cX11_number 45 = .ok (.aload_n 0, 1) := dk_42 (dk_at dksX11_number_1 21 rfl rfl)
theorem dX11_number_46 : decode cX11_number 46 = .ok (.getfield 37, 3) := dk_180 0 37 (dk_at dksX11_number_2 0 rfl rfl)
theorem dX11_number_49 : decode cX11_number 49 = .ok (.istore_n 3, 1) := dk_62 (dk_at dksX11_number_2 3 rfl rfl)
theorem dX11_number_50 : decode cX11_number 50 = .ok (.iload_n 3, 1) := dk_29 (dk_at dksX11_number_2 4 rfl rfl)
theorem dX11_number_51 : decode cX11_number 51 = .ok (.aload_n 0, 1) := dk_42 (dk_at dksX11_number_2 5 rfl rfl)
theorem dX11_number_52 : decode cX11_number 52 = .ok (.getfield 34, 3) := dk_180 0 34 (dk_at dksX11_number_2 6 rfl rfl)
theorem dX11_number_55 : decode cX11_number 55 = .ok (.if_icmp .ge 30, 3) := dk_162 0 30 (dk_at dksX11_number_2 9 rfl rfl)
theorem dX11_number_58 : decode cX11_number 58 = .ok (.ldc2_w 154, 3) := dk_20 0 154 (dk_at dksX11_number_2 12 rfl rfl)
theorem dX11_number_61 : decode cX11_number 61 = .ok (.lload_n 1, 1) := dk_31 (dk_at dksX11_number_2 15 rfl rfl)
theorem dX11_number_62 : decode cX11_number 62 = .ok (.lmul, 1) := dk_105 (dk_at dksX11_number_2 16 rfl rfl)
theorem dX11_number_63 : decode cX11_number 63 = .ok (.aload_n 0, 1) := dk_42 (dk_at dksX11_number_2 17 rfl rfl)
theorem dX11_number_64 : decode cX11_number 64 = .ok (.getfield 3, 3) := dk_180 0 3 (dk_at dksX11_number_2 18 rfl rfl)
theorem dX11_number_67 : decode cX11_number 67 = .ok (.getfield 22, 3) := dk_180 0 22 (dk_at dksX11_number_2 21 rfl rfl)
theorem dX11_number_70 : decode cX11_number 70 = .ok (.iload_n 3, 1) := dk_29 (dk_at dksX11_number_3 0 rfl rfl)
theorem dX11_number_71 : decode cX11_number 71 = .ok (.baload, 1) := dk_51 (dk_at dksX11_number_3 1 rfl rfl)
theorem dX11_number_72 : decode cX11_number 72 = .ok (.i2l, 1) := dk_133 (dk_at dksX11_number_3 2 rfl rfl)
theorem dX11_number_73 : decode cX11_number 73 = .ok (.ladd, 1) := dk_97 (dk_at dksX11_number_3 3 rfl rfl)
theorem dX11_number_74 : decode cX11_number 74 = .ok (.ldc2_w 26, 3) := dk_20 0 26 (dk_at dksX11_number_3 4 rfl rfl)
theorem dX11_number_77 : decode cX11_number 77 = .ok (.lsub, 1) := dk_101 (dk_at dksX11_number_3 7 rfl rfl)
theorem dX11_number_78 : decode cX11_number 78 = .ok (.lstore_n 1, 1) := dk_64 (dk_at dksX11_number_3 8 rfl rfl)
theorem dX11_number_79 : decode cX11_number 79 = .ok (.iinc 3 1, 3) := dk_132 3 1 (dk_at dksX11_number_3 9 rfl rfl)
theorem dX11_number_82 : decode cX11_number 82 = .ok (.goto (-32), 3) := dk_167 255 224 (dk_at dksX11_number_3 12 rfl rfl)
theorem dX11_number_85 : decode cX11_number 85 = .ok (.lload_n 1, 1) := dk_31 (dk_at dksX11_number_3 15 rfl rfl)
theorem dX11_number_86 : decode cX11_number 86 = .ok (.lreturn, 1) := dk_173 (dk_at dksX11_number_3 16 rfl rfl)
abbrev cX11_vectors : ByteArray := prog_26_method_14_code
def yX11_vectors : MethodName := ⟨RX11, "vectors", "()LBladeAlgebra$Multi;"⟩
def dkwX11_vectors_5 : List UInt8 := [27, 21, 4, 130, 60, 132, 3, 1, 167, 255, 167, 42, 182, 0, 15, 27, 28, 133, 10, 184, 0, 160, 176]
abbrev dktX11_vectors_5 : List UInt8 := dkwX11_vectors_5 ++ []
def dkwX11_vectors_4 : List UInt8 := [120, 54, 4, 28, 42, 180, 0, 3, 180, 0, 166, 180, 0, 170, 180, 0, 181, 27, 50, 21, 4, 46, 104, 61]
abbrev dktX11_vectors_4 : List UInt8 := dkwX11_vectors_4 ++ dktX11_vectors_5
def dkwX11_vectors_3 : List UInt8 := [180, 0, 176, 133, 184, 0, 30, 5, 182, 0, 65, 4, 42, 180, 0, 3, 180, 0, 22, 29, 51, 16, 49, 100]
abbrev dktX11_vectors_3 : List UInt8 := dkwX11_vectors_3 ++ dktX11_vectors_4
def dkwX11_vectors_2 : List UInt8 := [180, 0, 3, 180, 0, 22, 29, 51, 16, 48, 100, 133, 10, 42, 180, 0, 3, 180, 0, 166, 180, 0, 170]
abbrev dktX11_vectors_2 : List UInt8 := dkwX11_vectors_2 ++ dktX11_vectors_3
def dkwX11_vectors_1 : List UInt8 := [182, 0, 65, 3, 60, 4, 61, 42, 180, 0, 37, 4, 96, 62, 29, 42, 180, 0, 34, 162, 0, 87, 42, 42]
abbrev dktX11_vectors_1 : List UInt8 := dkwX11_vectors_1 ++ dktX11_vectors_2
def dkwX11_vectors_0 : List UInt8 := [42, 42, 180, 0, 34, 42, 180, 0, 37, 100, 4, 100, 16, 10, 163, 0, 7, 4, 167, 0, 4, 3, 5]
abbrev dktX11_vectors_0 : List UInt8 := dkwX11_vectors_0 ++ dktX11_vectors_1
theorem dksX11_vectors_0 : cX11_vectors.data.toList.drop 0 = dktX11_vectors_0 := by decide +kernel
theorem dksX11_vectors_1 : cX11_vectors.data.toList.drop 23 = dktX11_vectors_1 := dk_seg dksX11_vectors_0 23 rfl rfl
theorem dksX11_vectors_2 : cX11_vectors.data.toList.drop 47 = dktX11_vectors_2 := dk_seg dksX11_vectors_1 24 rfl rfl
theorem dksX11_vectors_3 : cX11_vectors.data.toList.drop 70 = dktX11_vectors_3 := dk_seg dksX11_vectors_2 23 rfl rfl
theorem dksX11_vectors_4 : cX11_vectors.data.toList.drop 94 = dktX11_vectors_4 := dk_seg dksX11_vectors_3 24 rfl rfl
theorem dksX11_vectors_5 : cX11_vectors.data.toList.drop 118 = dktX11_vectors_5 := dk_seg dksX11_vectors_4 24 rfl rfl
theorem dX11_vectors_0 : decode cX11_vectors 0 = .ok (.aload_n 0, 1) := dk_42 (dk_at dksX11_vectors_0 0 rfl rfl)
theorem dX11_vectors_1 : decode cX11_vectors 1 = .ok (.aload_n 0, 1) := dk_42 (dk_at dksX11_vectors_0 1 rfl rfl)
theorem dX11_vectors_2 : decode cX11_vectors 2 = .ok (.getfield 34, 3) := dk_180 0 34 (dk_at dksX11_vectors_0 2 rfl rfl)
theorem dX11_vectors_5 : decode cX11_vectors 5 = .ok (.aload_n 0, 1) := dk_42 (dk_at dksX11_vectors_0 5 rfl rfl)
theorem dX11_vectors_6 : decode cX11_vectors 6 = .ok (.getfield 37, 3) := dk_180 0 37 (dk_at dksX11_vectors_0 6 rfl rfl)
theorem dX11_vectors_9 : decode cX11_vectors 9 = .ok (.isub, 1) := dk_100 (dk_at dksX11_vectors_0 9 rfl rfl)
theorem dX11_vectors_10 : decode cX11_vectors 10 = .ok (.iconst 1, 1) := dk_4 (dk_at dksX11_vectors_0 10 rfl rfl)
theorem dX11_vectors_11 : decode cX11_vectors 11 = .ok (.isub, 1) := dk_100 (dk_at dksX11_vectors_0 11 rfl rfl)
theorem dX11_vectors_12 : decode cX11_vectors 12 = .ok (.bipush 10, 2) := dk_16 10 (dk_at dksX11_vectors_0 12 rfl rfl)
theorem dX11_vectors_14 : decode cX11_vectors 14 = .ok (.if_icmp .gt 7, 3) := dk_163 0 7 (dk_at dksX11_vectors_0 14 rfl rfl)
theorem dX11_vectors_17 : decode cX11_vectors 17 = .ok (.iconst 1, 1) := dk_4 (dk_at dksX11_vectors_0 17 rfl rfl)
theorem dX11_vectors_18 : decode cX11_vectors 18 = .ok (.goto 4, 3) := dk_167 0 4 (dk_at dksX11_vectors_0 18 rfl rfl)
theorem dX11_vectors_21 : decode cX11_vectors 21 = .ok (.iconst 0, 1) := dk_3 (dk_at dksX11_vectors_0 21 rfl rfl)
theorem dX11_vectors_22 : decode cX11_vectors 22 = .ok (.iconst 2, 1) := dk_5 (dk_at dksX11_vectors_0 22 rfl rfl)
theorem dX11_vectors_23 : decode cX11_vectors 23 = .ok (.invokevirtual 65, 3) := dk_182 0 65 (dk_at dksX11_vectors_1 0 rfl rfl)
theorem dX11_vectors_26 : decode cX11_vectors 26 = .ok (.iconst 0, 1) := dk_3 (dk_at dksX11_vectors_1 3 rfl rfl)
theorem dX11_vectors_27 : decode cX11_vectors 27 = .ok (.istore_n 1, 1) := dk_60 (dk_at dksX11_vectors_1 4 rfl rfl)
theorem dX11_vectors_28 : decode cX11_vectors 28 = .ok (.iconst 1, 1) := dk_4 (dk_at dksX11_vectors_1 5 rfl rfl)
theorem dX11_vectors_29 : decode cX11_vectors 29 = .ok (.istore_n 2, 1) := dk_61 (dk_at dksX11_vectors_1 6 rfl rfl)
theorem dX11_vectors_30 : decode cX11_vectors 30 = .ok (.aload_n 0, 1) := dk_42 (dk_at dksX11_vectors_1 7 rfl rfl)
theorem dX11_vectors_31 : decode cX11_vectors 31 = .ok (.getfield 37, 3) := dk_180 0 37 (dk_at dksX11_vectors_1 8 rfl rfl)
theorem dX11_vectors_34 : decode cX11_vectors 34 = .ok (.iconst 1, 1) := dk_4 (dk_at dksX11_vectors_1 11 rfl rfl)
theorem dX11_vectors_35 : decode cX11_vectors 35 = .ok (.iadd, 1) := dk_96 (dk_at dksX11_vectors_1 12 rfl rfl)
theorem dX11_vectors_36 : decode cX11_vectors 36 = .ok (.istore_n 3, 1) := dk_62 (dk_at dksX11_vectors_1 13 rfl rfl)
theorem dX11_vectors_37 : decode cX11_vectors 37 = .ok (.iload_n 3, 1) := dk_29 (dk_at dksX11_vectors_1 14 rfl rfl)
theorem dX11_vectors_38 : decode cX11_vectors 38 = .ok (.aload_n 0, 1) := dk_42 (dk_at dksX11_vectors_1 15 rfl rfl)
theorem dX11_vectors_39 : decode cX11_vectors 39 = .ok (.getfield 34, 3) := dk_180 0 34 (dk_at dksX11_vectors_1 16 rfl rfl)
theorem dX11_vectors_42 : decode cX11_vectors 42 = .ok (.if_icmp .ge 87, 3) := dk_162 0 87 (dk_at dksX11_vectors_1 19 rfl rfl)
theorem dX11_vectors_45 : decode cX11_vectors 45 = .ok (.aload_n 0, 1) := dk_42 (dk_at dksX11_vectors_1 22 rfl rfl)
theorem dX11_vectors_46 : decode cX11_vectors 46 = .ok (.aload_n 0, 1) := dk_42 (dk_at dksX11_vectors_1 23 rfl rfl)
theorem dX11_vectors_47 : decode cX11_vectors 47 = .ok (.getfield 3, 3) := dk_180 0 3 (dk_at dksX11_vectors_2 0 rfl rfl)
theorem dX11_vectors_50 : decode cX11_vectors 50 = .ok (.getfield 22, 3) := dk_180 0 22 (dk_at dksX11_vectors_2 3 rfl rfl)
theorem dX11_vectors_53 : decode cX11_vectors 53 = .ok (.iload_n 3, 1) := dk_29 (dk_at dksX11_vectors_2 6 rfl rfl)
theorem dX11_vectors_54 : decode cX11_vectors 54 = .ok (.baload, 1) := dk_51 (dk_at dksX11_vectors_2 7 rfl rfl)
theorem dX11_vectors_55 : decode cX11_vectors 55 = .ok (.bipush 48, 2) := dk_16 48 (dk_at dksX11_vectors_2 8 rfl rfl)
theorem dX11_vectors_57 : decode cX11_vectors 57 = .ok (.isub, 1) := dk_100 (dk_at dksX11_vectors_2 10 rfl rfl)
theorem dX11_vectors_58 : decode cX11_vectors 58 = .ok (.i2l, 1) := dk_133 (dk_at dksX11_vectors_2 11 rfl rfl)
theorem dX11_vectors_59 : decode cX11_vectors 59 = .ok (.lconst 1, 1) := dk_10 (dk_at dksX11_vectors_2 12 rfl rfl)
theorem dX11_vectors_60 : decode cX11_vectors 60 = .ok (.aload_n 0, 1) := dk_42 (dk_at dksX11_vectors_2 13 rfl rfl)
theorem dX11_vectors_61 : decode cX11_vectors 61 = .ok (.getfield 3, 3) := dk_180 0 3 (dk_at dksX11_vectors_2 14 rfl rfl)
theorem dX11_vectors_64 : decode cX11_vectors 64 = .ok (.getfield 166, 3) := dk_180 0 166 (dk_at dksX11_vectors_2 17 rfl rfl)
theorem dX11_vectors_67 : decode cX11_vectors 67 = .ok (.getfield 170, 3) := dk_180 0 170 (dk_at dksX11_vectors_2 20 rfl rfl)
theorem dX11_vectors_70 : decode cX11_vectors 70 = .ok (.getfield 176, 3) := dk_180 0 176 (dk_at dksX11_vectors_3 0 rfl rfl)
theorem dX11_vectors_73 : decode cX11_vectors 73 = .ok (.i2l, 1) := dk_133 (dk_at dksX11_vectors_3 3 rfl rfl)
theorem dX11_vectors_74 : decode cX11_vectors 74 = .ok (.invokestatic 30, 3) := dk_184 0 30 (dk_at dksX11_vectors_3 4 rfl rfl)
theorem dX11_vectors_77 : decode cX11_vectors 77 = .ok (.iconst 2, 1) := dk_5 (dk_at dksX11_vectors_3 7 rfl rfl)
theorem dX11_vectors_78 : decode cX11_vectors 78 = .ok (.invokevirtual 65, 3) := dk_182 0 65 (dk_at dksX11_vectors_3 8 rfl rfl)
theorem dX11_vectors_81 : decode cX11_vectors 81 = .ok (.iconst 1, 1) := dk_4 (dk_at dksX11_vectors_3 11 rfl rfl)
theorem dX11_vectors_82 : decode cX11_vectors 82 = .ok (.aload_n 0, 1) := dk_42 (dk_at dksX11_vectors_3 12 rfl rfl)
theorem dX11_vectors_83 : decode cX11_vectors 83 = .ok (.getfield 3, 3) := dk_180 0 3 (dk_at dksX11_vectors_3 13 rfl rfl)
theorem dX11_vectors_86 : decode cX11_vectors 86 = .ok (.getfield 22, 3) := dk_180 0 22 (dk_at dksX11_vectors_3 16 rfl rfl)
theorem dX11_vectors_89 : decode cX11_vectors 89 = .ok (.iload_n 3, 1) := dk_29 (dk_at dksX11_vectors_3 19 rfl rfl)
theorem dX11_vectors_90 : decode cX11_vectors 90 = .ok (.baload, 1) := dk_51 (dk_at dksX11_vectors_3 20 rfl rfl)
theorem dX11_vectors_91 : decode cX11_vectors 91 = .ok (.bipush 49, 2) := dk_16 49 (dk_at dksX11_vectors_3 21 rfl rfl)
theorem dX11_vectors_93 : decode cX11_vectors 93 = .ok (.isub, 1) := dk_100 (dk_at dksX11_vectors_3 23 rfl rfl)
theorem dX11_vectors_94 : decode cX11_vectors 94 = .ok (.ishl, 1) := dk_120 (dk_at dksX11_vectors_4 0 rfl rfl)
theorem dX11_vectors_95 : decode cX11_vectors 95 = .ok (.istore 4, 2) := dk_54 4 (dk_at dksX11_vectors_4 1 rfl rfl)
theorem dX11_vectors_97 : decode cX11_vectors 97 = .ok (.iload_n 2, 1) := dk_28 (dk_at dksX11_vectors_4 3 rfl rfl)
theorem dX11_vectors_98 : decode cX11_vectors 98 = .ok (.aload_n 0, 1) := dk_42 (dk_at dksX11_vectors_4 4 rfl rfl)
theorem dX11_vectors_99 : decode cX11_vectors 99 = .ok (.getfield 3, 3) := dk_180 0 3 (dk_at dksX11_vectors_4 5 rfl rfl)
theorem dX11_vectors_102 : decode cX11_vectors 102 = .ok (.getfield 166, 3) := dk_180 0 166 (dk_at dksX11_vectors_4 8 rfl rfl)
theorem dX11_vectors_105 : decode cX11_vectors 105 = .ok (.getfield 170, 3) := dk_180 0 170 (dk_at dksX11_vectors_4 11 rfl rfl)
theorem dX11_vectors_108 : decode cX11_vectors 108 = .ok (.getfield 181, 3) := dk_180 0 181 (dk_at dksX11_vectors_4 14 rfl rfl)
theorem dX11_vectors_111 : decode cX11_vectors 111 = .ok (.iload_n 1, 1) := dk_27 (dk_at dksX11_vectors_4 17 rfl rfl)
theorem dX11_vectors_112 : decode cX11_vectors 112 = .ok (.aaload, 1) := dk_50 (dk_at dksX11_vectors_4 18 rfl rfl)
theorem dX11_vectors_113 : decode cX11_vectors 113 = .ok (.iload 4, 2) := dk_21 4 (dk_at dksX11_vectors_4 19 rfl rfl)
theorem dX11_vectors_115 : decode cX11_vectors 115 = .ok (.iaload, 1) := dk_46 (dk_at dksX11_vectors_4 21 rfl rfl)
theorem dX11_vectors_116 : decode cX11_vectors 116 = .ok (.imul, 1) := dk_104 (dk_at dksX11_vectors_4 22 rfl rfl)
theorem dX11_vectors_117 : decode cX11_vectors 117 = .ok (.istore_n 2, 1) := dk_61 (dk_at dksX11_vectors_4 23 rfl rfl)
theorem dX11_vectors_118 : decode cX11_vectors 118 = .ok (.iload_n 1, 1) := dk_27 (dk_at dksX11_vectors_5 0 rfl rfl)
theorem dX11_vectors_119 : decode cX11_vectors 119 = .ok (.iload 4, 2) := dk_21 4 (dk_at dksX11_vectors_5 1 rfl rfl)
theorem dX11_vectors_121 : decode cX11_vectors 121 = .ok (.ixor, 1) := dk_130 (dk_at dksX11_vectors_5 3 rfl rfl)
theorem dX11_vectors_122 : decode cX11_vectors 122 = .ok (.istore_n 1, 1) := dk_60 (dk_at dksX11_vectors_5 4 rfl rfl)
theorem dX11_vectors_123 : decode cX11_vectors 123 = .ok (.iinc 3 1, 3) := dk_132 3 1 (dk_at dksX11_vectors_5 5 rfl rfl)
theorem dX11_vectors_126 : decode cX11_vectors 126 = .ok (.goto (-89), 3) := dk_167 255 167 (dk_at dksX11_vectors_5 8 rfl rfl)
theorem dX11_vectors_129 : decode cX11_vectors 129 = .ok (.aload_n 0, 1) := dk_42 (dk_at dksX11_vectors_5 11 rfl rfl)
theorem dX11_vectors_130 : decode cX11_vectors 130 = .ok (.invokevirtual 15, 3) := dk_182 0 15 (dk_at dksX11_vectors_5 12 rfl rfl)
theorem dX11_vectors_133 : decode cX11_vectors 133 = .ok (.iload_n 1, 1) := dk_27 (dk_at dksX11_vectors_5 15 rfl rfl)
theorem dX11_vectors_134 : decode cX11_vectors 134 = .ok (.iload_n 2, 1) := dk_28 (dk_at dksX11_vectors_5 16 rfl rfl)
theorem dX11_vectors_135 : decode cX11_vectors 135 = .ok (.i2l, 1) := dk_133 (dk_at dksX11_vectors_5 17 rfl rfl)
theorem dX11_vectors_136 : decode cX11_vectors 136 = .ok (.lconst 1, 1) := dk_10 (dk_at dksX11_vectors_5 18 rfl rfl)
theorem dX11_vectors_137 : decode cX11_vectors 137 = .ok (.invokestatic 160, 3) := dk_184 0 160 (dk_at dksX11_vectors_5 19 rfl rfl)
theorem dX11_vectors_140 : decode cX11_vectors 140 = .ok (.areturn, 1) := dk_176 (dk_at dksX11_vectors_5 22 rfl rfl)
abbrev cX11_register : ByteArray := prog_26_method_15_code
def yX11_register : MethodName := ⟨RX11, "register", "()LBladeAlgebra$Multi;"⟩
def dkwX11_register_3 : List UInt8 := [16, 48, 100, 50, 76, 42, 182, 0, 15, 43, 176]
abbrev dktX11_register_3 : List UInt8 := dkwX11_register_3 ++ []
def dkwX11_register_2 : List UInt8 := [180, 0, 3, 180, 0, 166, 180, 0, 185, 42, 180, 0, 3, 180, 0, 22, 42, 180, 0, 37, 4, 96, 51]
abbrev dktX11_register_2 : List UInt8 := dkwX11_register_2 ++ dktX11_register_3
def dkwX11_register_1 : List UInt8 := [180, 0, 37, 4, 96, 51, 16, 48, 100, 16, 8, 162, 0, 7, 4, 167, 0, 4, 3, 5, 182, 0, 65, 42]
abbrev dktX11_register_1 : List UInt8 := dkwX11_register_1 ++ dktX11_register_2
def dkwX11_register_0 : List UInt8 := [42, 42, 180, 0, 34, 42, 180, 0, 37, 100, 5, 160, 0, 29, 42, 180, 0, 3, 180, 0, 22, 42]
abbrev dktX11_register_0 : List UInt8 := dkwX11_register_0 ++ dktX11_register_1
theorem dksX11_register_0 : cX11_register.data.toList.drop 0 = dktX11_register_0 := by decide +kernel
theorem dksX11_register_1 : cX11_register.data.toList.drop 22 = dktX11_register_1 := dk_seg dksX11_register_0 22 rfl rfl
theorem dksX11_register_2 : cX11_register.data.toList.drop 46 = dktX11_register_2 := dk_seg dksX11_register_1 24 rfl rfl
theorem dksX11_register_3 : cX11_register.data.toList.drop 69 = dktX11_register_3 := dk_seg dksX11_register_2 23 rfl rfl
theorem dX11_register_0 : decode cX11_register 0 = .ok (.aload_n 0, 1) := dk_42 (dk_at dksX11_register_0 0 rfl rfl)
theorem dX11_register_1 : decode cX11_register 1 = .ok (.aload_n 0, 1) := dk_42 (dk_at dksX11_register_0 1 rfl rfl)
theorem dX11_register_2 : decode cX11_register 2 = .ok (.getfield 34, 3) := dk_180 0 34 (dk_at dksX11_register_0 2 rfl rfl)
theorem dX11_register_5 : decode cX11_register 5 = .ok (.aload_n 0, 1) := dk_42 (dk_at dksX11_register_0 5 rfl rfl)
theorem dX11_register_6 : decode cX11_register 6 = .ok (.getfield 37, 3) := dk_180 0 37 (dk_at dksX11_register_0 6 rfl rfl)
theorem dX11_register_9 : decode cX11_register 9 = .ok (.isub, 1) := dk_100 (dk_at dksX11_register_0 9 rfl rfl)
theorem dX11_register_10 : decode cX11_register 10 = .ok (.iconst 2, 1) := dk_5 (dk_at dksX11_register_0 10 rfl rfl)
theorem dX11_register_11 : decode cX11_register 11 = .ok (.if_icmp .ne 29, 3) := dk_160 0 29 (dk_at dksX11_register_0 11 rfl rfl)
theorem dX11_register_14 : decode cX11_register 14 = .ok (.aload_n 0, 1) := dk_42 (dk_at dksX11_register_0 14 rfl rfl)
theorem dX11_register_15 : decode cX11_register 15 = .ok (.getfield 3, 3) := dk_180 0 3 (dk_at dksX11_register_0 15 rfl rfl)
theorem dX11_register_18 : decode cX11_register 18 = .ok (.getfield 22, 3) := dk_180 0 22 (dk_at dksX11_register_0 18 rfl rfl)
theorem dX11_register_21 : decode cX11_register 21 = .ok (.aload_n 0, 1) := dk_42 (dk_at dksX11_register_0 21 rfl rfl)
theorem dX11_register_22 : decode cX11_register 22 = .ok (.getfield 37, 3) := dk_180 0 37 (dk_at dksX11_register_1 0 rfl rfl)
theorem dX11_register_25 : decode cX11_register 25 = .ok (.iconst 1, 1) := dk_4 (dk_at dksX11_register_1 3 rfl rfl)
theorem dX11_register_26 : decode cX11_register 26 = .ok (.iadd, 1) := dk_96 (dk_at dksX11_register_1 4 rfl rfl)
theorem dX11_register_27 : decode cX11_register 27 = .ok (.baload, 1) := dk_51 (dk_at dksX11_register_1 5 rfl rfl)
theorem dX11_register_28 : decode cX11_register 28 = .ok (.bipush 48, 2) := dk_16 48 (dk_at dksX11_register_1 6 rfl rfl)
theorem dX11_register_30 : decode cX11_register 30 = .ok (.isub, 1) := dk_100 (dk_at dksX11_register_1 8 rfl rfl)
theorem dX11_register_31 : decode cX11_register 31 = .ok (.bipush 8, 2) := dk_16 8 (dk_at dksX11_register_1 9 rfl rfl)
theorem dX11_register_33 : decode cX11_register 33 = .ok (.if_icmp .ge 7, 3) := dk_162 0 7 (dk_at dksX11_register_1 11 rfl rfl)
theorem dX11_register_36 : decode cX11_register 36 = .ok (.iconst 1, 1) := dk_4 (dk_at dksX11_register_1 14 rfl rfl)
theorem dX11_register_37 : decode cX11_register 37 = .ok (.goto 4, 3) := dk_167 0 4 (dk_at dksX11_register_1 15 rfl rfl)
theorem dX11_register_40 : decode cX11_register 40 = .ok (.iconst 0, 1) := dk_3 (dk_at dksX11_register_1 18 rfl rfl)
theorem dX11_register_41 : decode cX11_register 41 = .ok (.iconst 2, 1) := dk_5 (dk_at dksX11_register_1 19 rfl rfl)
theorem dX11_register_42 : decode cX11_register 42 = .ok (.invokevirtual 65, 3) := dk_182 0 65 (dk_at dksX11_register_1 20 rfl rfl)
theorem dX11_register_45 : decode cX11_register 45 = .ok (.aload_n 0, 1) := dk_42 (dk_at dksX11_register_1 23 rfl rfl)
theorem dX11_register_46 : decode cX11_register 46 = .ok (.getfield 3, 3) := dk_180 0 3 (dk_at dksX11_register_2 0 rfl rfl)
theorem dX11_register_49 : decode cX11_register 49 = .ok (.getfield 166, 3) := dk_180 0 166 (dk_at dksX11_register_2 3 rfl rfl)
theorem dX11_register_52 : decode cX11_register 52 = .ok (.getfield 185, 3) := dk_180 0 185 (dk_at dksX11_register_2 6 rfl rfl)
theorem dX11_register_55 : decode cX11_register 55 = .ok (.aload_n 0, 1) := dk_42 (dk_at dksX11_register_2 9 rfl rfl)
theorem dX11_register_56 : decode cX11_register 56 = .ok (.getfield 3, 3) := dk_180 0 3 (dk_at dksX11_register_2 10 rfl rfl)
theorem dX11_register_59 : decode cX11_register 59 = .ok (.getfield 22, 3) := dk_180 0 22 (dk_at dksX11_register_2 13 rfl rfl)
theorem dX11_register_62 : decode cX11_register 62 = .ok (.aload_n 0, 1) := dk_42 (dk_at dksX11_register_2 16 rfl rfl)
theorem dX11_register_63 : decode cX11_register 63 = .ok (.getfield 37, 3) := dk_180 0 37 (dk_at dksX11_register_2 17 rfl rfl)
theorem dX11_register_66 : decode cX11_register 66 = .ok (.iconst 1, 1) := dk_4 (dk_at dksX11_register_2 20 rfl rfl)
theorem dX11_register_67 : decode cX11_register 67 = .ok (.iadd, 1) := dk_96 (dk_at dksX11_register_2 21 rfl rfl)
theorem dX11_register_68 : decode cX11_register 68 = .ok (.baload, 1) := dk_51 (dk_at dksX11_register_2 22 rfl rfl)
theorem dX11_register_69 : decode cX11_register 69 = .ok (.bipush 48, 2) := dk_16 48 (dk_at dksX11_register_3 0 rfl rfl)
theorem dX11_register_71 : decode cX11_register 71 = .ok (.isub, 1) := dk_100 (dk_at dksX11_register_3 2 rfl rfl)
theorem dX11_register_72 : decode cX11_register 72 = .ok (.aaload, 1) := dk_50 (dk_at dksX11_register_3 3 rfl rfl)
theorem dX11_register_73 : decode cX11_register 73 = .ok (.astore_n 1, 1) := dk_76 (dk_at dksX11_register_3 4 rfl rfl)
theorem dX11_register_74 : decode cX11_register 74 = .ok (.aload_n 0, 1) := dk_42 (dk_at dksX11_register_3 5 rfl rfl)
theorem dX11_register_75 : decode cX11_register 75 = .ok (.invokevirtual 15, 3) := dk_182 0 15 (dk_at dksX11_register_3 6 rfl rfl)
theorem dX11_register_78 : decode cX11_register 78 = .ok (.aload_n 1, 1) := dk_43 (dk_at dksX11_register_3 9 rfl rfl)
theorem dX11_register_79 : decode cX11_register 79 = .ok (.areturn, 1) := dk_176 (dk_at dksX11_register_3 10 rfl rfl)
theorem q123 : (Jvm.Cond.initialized "BladeAlgebra$Reader") ∈ lw_all := lw_g (lw_at lw_m1 28 rfl) rfl
theorem q208 : (Jvm.Cond.fieldLinkNest "BladeAlgebra$Reader" (176 : Nat) "BladeAlgebra$Algebra" "n" "I" "BladeAlgebra") ∈ lw_tbl := lw_at lw_m1 113 rfl
theorem q215 : (Jvm.Cond.fieldLinkNest "BladeAlgebra$Reader" (181 : Nat) "BladeAlgebra$Algebra" "sign" "[[I" "BladeAlgebra") ∈ lw_tbl := lw_at lw_m1 120 rfl
theorem q241 : (Jvm.Cond.fieldLinkNest "BladeAlgebra$Reader" (170 : Nat) "BladeAlgebra$World" "algebra" "LBladeAlgebra$Algebra;" "BladeAlgebra") ∈ lw_tbl := lw_at lw_m1 146 rfl
theorem q244 : (Jvm.Cond.fieldLinkNest "BladeAlgebra$Reader" (185 : Nat) "BladeAlgebra$World" "register" "[LBladeAlgebra$Multi;" "BladeAlgebra") ∈ lw_tbl := lw_at lw_m1 149 rfl
theorem q287 : (Jvm.Cond.fieldLinkNest "BladeAlgebra$Reader" (166 : Nat) "BladeAlgebra" "now" "LBladeAlgebra$World;" "BladeAlgebra") ∈ lw_tbl := lw_at lw_m1 192 rfl
theorem q289 : (Jvm.Cond.fieldLinkNest "BladeAlgebra$Reader" (22 : Nat) "BladeAlgebra" "text" "[B" "BladeAlgebra") ∈ lw_tbl := lw_at lw_m1 194 rfl
theorem q291 : (Jvm.Cond.fieldLinkNest "BladeAlgebra$Reader" (18 : Nat) "BladeAlgebra" "textLength" "I" "BladeAlgebra") ∈ lw_tbl := lw_at lw_m1 196 rfl
theorem q1184 : (Jvm.Cond.instantiable "BladeAlgebra$Reader" (5 : Nat)) ∈ lw_all := lw_g (lw_at lw_m5 129 rfl) rfl
theorem q1186 : (Jvm.Cond.instanceMethod ({ cls := "BladeAlgebra$Reader", name := "<init>", desc := "(LBladeAlgebra;)V" } : Jvm.MethodName)) ∈ lw_all := lw_g (lw_at lw_m5 131 rfl) rfl
theorem q1187 : (Jvm.Cond.code ({ cls := "BladeAlgebra$Reader", name := "<init>", desc := "(LBladeAlgebra;)V" } : Jvm.MethodName) prog_26_method_1_code (2 : Nat) (Option.none : Option Jvm.ClassFile.FieldType)) ∈ lw_all := lw_g (lw_at lw_m5 132 rfl) rfl
theorem q1188 : (Jvm.Cond.methodLink "BladeAlgebra$Reader" (9 : Nat) ({ cls := "java/lang/Object", name := "<init>", desc := "()V" } : Jvm.MethodName)) ∈ lw_all := lw_g (lw_at lw_m5 133 rfl) rfl
theorem q1189 : (Jvm.Cond.methodLink "BladeAlgebra$Reader" (15 : Nat) ({ cls := "BladeAlgebra$Reader", name := "next", desc := "()V" } : Jvm.MethodName)) ∈ lw_all := lw_g (lw_at lw_m5 134 rfl) rfl
theorem q1190 : (Jvm.Cond.privateMethod ({ cls := "BladeAlgebra$Reader", name := "next", desc := "()V" } : Jvm.MethodName)) ∈ lw_tbl := lw_at lw_m5 135 rfl
theorem q1191 : (Jvm.Cond.instanceMethod ({ cls := "BladeAlgebra$Reader", name := "next", desc := "()V" } : Jvm.MethodName)) ∈ lw_all := lw_g (lw_at lw_m5 136 rfl) rfl
theorem q1192 : (Jvm.Cond.code ({ cls := "BladeAlgebra$Reader", name := "next", desc := "()V" } : Jvm.MethodName) prog_26_method_3_code (4 : Nat) (Option.none : Option Jvm.ClassFile.FieldType)) ∈ lw_all := lw_g (lw_at lw_m5 137 rfl) rfl
theorem q1193 : (Jvm.Cond.constantLong "BladeAlgebra$Reader" (26 : Nat) (48 : Int64)) ∈ lw_all := lw_g (lw_at lw_m5 138 rfl) rfl
theorem q1194 : (Jvm.Cond.constantLong "BladeAlgebra$Reader" (28 : Nat) (57 : Int64)) ∈ lw_all := lw_g (lw_at lw_m5 139 rfl) rfl
theorem q1195 : (Jvm.Cond.methodLinkNest "BladeAlgebra$Reader" (30 : Nat) ({ cls := "BladeAlgebra", name := "isIn", desc := "(JJJ)Z" } : Jvm.MethodName) "BladeAlgebra") ∈ lw_tbl := lw_at lw_m5 140 rfl
theorem q1196 : (Jvm.Cond.methodLink "BladeAlgebra$Reader" (44 : Nat) ({ cls := "BladeAlgebra$Reader", name := "isDigit", desc := "(I)Z" } : Jvm.MethodName)) ∈ lw_all := lw_g (lw_at lw_m5 141 rfl) rfl
theorem q1197 : (Jvm.Cond.privateMethod ({ cls := "BladeAlgebra$Reader", name := "isDigit", desc := "(I)Z" } : Jvm.MethodName)) ∈ lw_tbl := lw_at lw_m5 142 rfl
theorem q1198 : (Jvm.Cond.instanceMethod ({ cls := "BladeAlgebra$Reader", name := "isDigit", desc := "(I)Z" } : Jvm.MethodName)) ∈ lw_all := lw_g (lw_at lw_m5 143 rfl) rfl
theorem q1199 : (Jvm.Cond.code ({ cls := "BladeAlgebra$Reader", name := "isDigit", desc := "(I)Z" } : Jvm.MethodName) prog_26_method_2_code (2 : Nat) (Option.some Jvm.ClassFile.FieldType.boolean)) ∈ lw_all := lw_g (lw_at lw_m5 144 rfl) rfl
theorem q1200 : (Jvm.Cond.stringRef "BladeAlgebra$Reader" (48 : Nat) "er+-*/^.~!()") ∈ lw_tbl := lw_at lw_m5 145 rfl
theorem q1201 : (Jvm.Cond.methodLink "BladeAlgebra$Reader" (50 : Nat) ({ cls := "java/lang/String", name := "indexOf", desc := "(I)I" } : Jvm.MethodName)) ∈ lw_all := lw_g (lw_at lw_m5 146 rfl) rfl
theorem q1286 : (Jvm.Cond.fieldLink "BladeAlgebra$Reader" (34 : Nat) "BladeAlgebra$Reader" "at" "I") ∈ lw_all := lw_g (lw_at lw_m5 231 rfl) rfl
theorem q1287 : (Jvm.Cond.fieldLink "BladeAlgebra$Reader" (37 : Nat) "BladeAlgebra$Reader" "begin" "I") ∈ lw_all := lw_g (lw_at lw_m5 232 rfl) rfl
theorem q1288 : (Jvm.Cond.fieldLink "BladeAlgebra$Reader" (131 : Nat) "BladeAlgebra$Reader" "open" "I") ∈ lw_all := lw_g (lw_at lw_m5 233 rfl) rfl
theorem q1289 : (Jvm.Cond.fieldLink "BladeAlgebra$Reader" (40 : Nat) "BladeAlgebra$Reader" "token" "C") ∈ lw_all := lw_g (lw_at lw_m5 234 rfl) rfl
theorem q1290 : (Jvm.Cond.fieldLink "BladeAlgebra$Reader" (3 : Nat) "BladeAlgebra$Reader" "this$0" "LBladeAlgebra;") ∈ lw_all := lw_g (lw_at lw_m5 235 rfl) rfl
theorem q1291 : (Jvm.Cond.lays "BladeAlgebra$Reader" "BladeAlgebra$Reader" "at" "I") ∈ lw_all := lw_g (lw_at lw_m5 236 rfl) rfl
theorem q1292 : (Jvm.Cond.soleField "BladeAlgebra$Reader" "at") ∈ lw_all := lw_g (lw_at lw_m5 237 rfl) rfl
theorem q1293 : (Jvm.Cond.lays "BladeAlgebra$Reader" "BladeAlgebra$Reader" "begin" "I") ∈ lw_all := lw_g (lw_at lw_m5 238 rfl) rfl
theorem q1294 : (Jvm.Cond.soleField "BladeAlgebra$Reader" "begin") ∈ lw_all := lw_g (lw_at lw_m5 239 rfl) rfl
theorem q1295 : (Jvm.Cond.lays "BladeAlgebra$Reader" "BladeAlgebra$Reader" "open" "I") ∈ lw_all := lw_g (lw_at lw_m6 0 rfl) rfl
theorem q1296 : (Jvm.Cond.soleField "BladeAlgebra$Reader" "open") ∈ lw_all := lw_g (lw_at lw_m6 1 rfl) rfl
theorem q1297 : (Jvm.Cond.lays "BladeAlgebra$Reader" "BladeAlgebra$Reader" "token" "C") ∈ lw_all := lw_g (lw_at lw_m6 2 rfl) rfl
theorem q1298 : (Jvm.Cond.soleField "BladeAlgebra$Reader" "token") ∈ lw_all := lw_g (lw_at lw_m6 3 rfl) rfl
theorem q1299 : (Jvm.Cond.laysFinal "BladeAlgebra$Reader" "BladeAlgebra$Reader" "this$0" "LBladeAlgebra;") ∈ lw_all := lw_g (lw_at lw_m6 4 rfl) rfl
theorem q1300 : (Jvm.Cond.soleField "BladeAlgebra$Reader" "this$0") ∈ lw_all := lw_g (lw_at lw_m6 5 rfl) rfl
theorem q1301 : (Jvm.Cond.superclass "BladeAlgebra$Reader" "java/lang/Object") ∈ lw_all := lw_g (lw_at lw_m6 6 rfl) rfl
theorem q1303 : (Jvm.Cond.instanceMethod ({ cls := "BladeAlgebra$Reader", name := "all", desc := "()LBladeAlgebra$Node;" } : Jvm.MethodName)) ∈ lw_all := lw_g (lw_at lw_m6 8 rfl) rfl
theorem q1304 : (Jvm.Cond.selects "BladeAlgebra$Reader" ({ cls := "BladeAlgebra$Reader", name := "all", desc := "()LBladeAlgebra$Node;" } : Jvm.MethodName) ({ cls := "BladeAlgebra$Reader", name := "all", desc := "()LBladeAlgebra$Node;" } : Jvm.MethodName)) ∈ lw_all := lw_g (lw_at lw_m6 9 rfl) rfl
theorem q1305 : (Jvm.Cond.code ({ cls := "BladeAlgebra$Reader", name := "all", desc := "()LBladeAlgebra$Node;" } : Jvm.MethodName) prog_26_method_6_code (2 : Nat) (Option.some (Jvm.ClassFile.FieldType.object "BladeAlgebra$Node"))) ∈ lw_all := lw_g (lw_at lw_m6 10 rfl) rfl
theorem q1306 : (Jvm.Cond.methodLink "BladeAlgebra$Reader" (61 : Nat) ({ cls := "BladeAlgebra$Reader", name := "expression", desc := "()LBladeAlgebra$Node;" } : Jvm.MethodName)) ∈ lw_all := lw_g (lw_at lw_m6 11 rfl) rfl
theorem q1307 : (Jvm.Cond.privateMethod ({ cls := "BladeAlgebra$Reader", name := "expression", desc := "()LBladeAlgebra$Node;" } : Jvm.MethodName)) ∈ lw_tbl := lw_at lw_m6 12 rfl
theorem q1308 : (Jvm.Cond.instanceMethod ({ cls := "BladeAlgebra$Reader", name := "expression", desc := "()LBladeAlgebra$Node;" } : Jvm.MethodName)) ∈ lw_all := lw_g (lw_at lw_m6 13 rfl) rfl
theorem q1309 : (Jvm.Cond.code ({ cls := "BladeAlgebra$Reader", name := "expression", desc := "()LBladeAlgebra$Node;" } : Jvm.MethodName) prog_26_method_7_code (6 : Nat) (Option.some (Jvm.ClassFile.FieldType.object "BladeAlgebra$Node"))) ∈ lw_all := lw_g (lw_at lw_m6 14 rfl) rfl
theorem q1310 : (Jvm.Cond.methodLink "BladeAlgebra$Reader" (69 : Nat) ({ cls := "BladeAlgebra$Reader", name := "takes", desc := "(C)Z" } : Jvm.MethodName)) ∈ lw_all := lw_g (lw_at lw_m6 15 rfl) rfl
theorem q1311 : (Jvm.Cond.privateMethod ({ cls := "BladeAlgebra$Reader", name := "takes", desc := "(C)Z" } : Jvm.MethodName)) ∈ lw_tbl := lw_at lw_m6 16 rfl
theorem q1312 : (Jvm.Cond.instanceMethod ({ cls := "BladeAlgebra$Reader", name := "takes", desc := "(C)Z" } : Jvm.MethodName)) ∈ lw_all := lw_g (lw_at lw_m6 17 rfl) rfl
theorem q1313 : (Jvm.Cond.code ({ cls := "BladeAlgebra$Reader", name := "takes", desc := "(C)Z" } : Jvm.MethodName) prog_26_method_4_code (2 : Nat) (Option.some Jvm.ClassFile.FieldType.boolean)) ∈ lw_all := lw_g (lw_at lw_m6 18 rfl) rfl
theorem q1314 : (Jvm.Cond.methodLink "BladeAlgebra$Reader" (73 : Nat) ({ cls := "BladeAlgebra$Reader", name := "term", desc := "()LBladeAlgebra$Node;" } : Jvm.MethodName)) ∈ lw_all := lw_g (lw_at lw_m6 19 rfl) rfl
theorem q1315 : (Jvm.Cond.privateMethod ({ cls := "BladeAlgebra$Reader", name := "term", desc := "()LBladeAlgebra$Node;" } : Jvm.MethodName)) ∈ lw_tbl := lw_at lw_m6 20 rfl
theorem q1316 : (Jvm.Cond.instanceMethod ({ cls := "BladeAlgebra$Reader", name := "term", desc := "()LBladeAlgebra$Node;" } : Jvm.MethodName)) ∈ lw_all := lw_g (lw_at lw_m6 21 rfl) rfl
theorem q1317 : (Jvm.Cond.code ({ cls := "BladeAlgebra$Reader", name := "term", desc := "()LBladeAlgebra$Node;" } : Jvm.MethodName) prog_26_method_8_code (3 : Nat) (Option.some (Jvm.ClassFile.FieldType.object "BladeAlgebra$Node"))) ∈ lw_all := lw_g (lw_at lw_m6 22 rfl) rfl
theorem q1318 : (Jvm.Cond.classLink "BladeAlgebra$Reader" (76 : Nat) "BladeAlgebra$Chain") ∈ lw_all := lw_g (lw_at lw_m6 23 rfl) rfl
theorem q1320 : (Jvm.Cond.methodLink "BladeAlgebra$Reader" (107 : Nat) ({ cls := "BladeAlgebra$Reader", name := "factor", desc := "()LBladeAlgebra$Node;" } : Jvm.MethodName)) ∈ lw_all := lw_g (lw_at lw_m6 25 rfl) rfl
theorem q1321 : (Jvm.Cond.privateMethod ({ cls := "BladeAlgebra$Reader", name := "factor", desc := "()LBladeAlgebra$Node;" } : Jvm.MethodName)) ∈ lw_tbl := lw_at lw_m6 26 rfl
theorem q1322 : (Jvm.Cond.instanceMethod ({ cls := "BladeAlgebra$Reader", name := "factor", desc := "()LBladeAlgebra$Node;" } : Jvm.MethodName)) ∈ lw_all := lw_g (lw_at lw_m6 27 rfl) rfl
theorem q1323 : (Jvm.Cond.code ({ cls := "BladeAlgebra$Reader", name := "factor", desc := "()LBladeAlgebra$Node;" } : Jvm.MethodName) prog_26_method_9_code (4 : Nat) (Option.some (Jvm.ClassFile.FieldType.object "BladeAlgebra$Node"))) ∈ lw_all := lw_g (lw_at lw_m6 28 rfl) rfl
theorem q1324 : (Jvm.Cond.methodLink "BladeAlgebra$Reader" (113 : Nat) ({ cls := "BladeAlgebra$Reader", name := "item", desc := "()LBladeAlgebra$Node;" } : Jvm.MethodName)) ∈ lw_all := lw_g (lw_at lw_m6 29 rfl) rfl
theorem q1325 : (Jvm.Cond.privateMethod ({ cls := "BladeAlgebra$Reader", name := "item", desc := "()LBladeAlgebra$Node;" } : Jvm.MethodName)) ∈ lw_tbl := lw_at lw_m6 30 rfl
theorem q1326 : (Jvm.Cond.instanceMethod ({ cls := "BladeAlgebra$Reader", name := "item", desc := "()LBladeAlgebra$Node;" } : Jvm.MethodName)) ∈ lw_all := lw_g (lw_at lw_m6 31 rfl) rfl
theorem q1327 : (Jvm.Cond.code ({ cls := "BladeAlgebra$Reader", name := "item", desc := "()LBladeAlgebra$Node;" } : Jvm.MethodName) prog_26_method_10_code (3 : Nat) (Option.some (Jvm.ClassFile.FieldType.object "BladeAlgebra$Node"))) ∈ lw_all := lw_g (lw_at lw_m6 32 rfl) rfl
theorem q1328 : (Jvm.Cond.methodLink "BladeAlgebra$Reader" (122 : Nat) ({ cls := "BladeAlgebra$Reader", name := "primary", desc := "()LBladeAlgebra$Node;" } : Jvm.MethodName)) ∈ lw_all := lw_g (lw_at lw_m6 33 rfl) rfl
theorem q1329 : (Jvm.Cond.privateMethod ({ cls := "BladeAlgebra$Reader", name := "primary", desc := "()LBladeAlgebra$Node;" } : Jvm.MethodName)) ∈ lw_tbl := lw_at lw_m6 34 rfl
theorem q1330 : (Jvm.Cond.instanceMethod ({ cls := "BladeAlgebra$Reader", name := "primary", desc := "()LBladeAlgebra$Node;" } : Jvm.MethodName)) ∈ lw_all := lw_g (lw_at lw_m6 35 rfl) rfl
theorem q1331 : (Jvm.Cond.codeWith ({ cls := "BladeAlgebra$Reader", name := "primary", desc := "()LBladeAlgebra$Node;" } : Jvm.MethodName) prog_26_method_11_code (2 : Nat) (Option.some (Jvm.ClassFile.FieldType.object "BladeAlgebra$Node")) [((119 : Nat), (162 : Nat), (163 : Nat), (149 : Nat))]) ∈ lw_all := lw_g (lw_at lw_m6 36 rfl) rfl
theorem q1332 : (Jvm.Cond.classLink "BladeAlgebra$Reader" (149 : Nat) "BladeAlgebra$Unfit") ∈ lw_all := lw_g (lw_at lw_m6 37 rfl) rfl
theorem q1333 : (Jvm.Cond.methodLink "BladeAlgebra$Reader" (65 : Nat) ({ cls := "BladeAlgebra$Reader", name := "must", desc := "(ZI)V" } : Jvm.MethodName)) ∈ lw_all := lw_g (lw_at lw_m6 38 rfl) rfl
theorem q1334 : (Jvm.Cond.privateMethod ({ cls := "BladeAlgebra$Reader", name := "must", desc := "(ZI)V" } : Jvm.MethodName)) ∈ lw_tbl := lw_at lw_m6 39 rfl
theorem q1335 : (Jvm.Cond.instanceMethod ({ cls := "BladeAlgebra$Reader", name := "must", desc := "(ZI)V" } : Jvm.MethodName)) ∈ lw_all := lw_g (lw_at lw_m6 40 rfl) rfl
theorem q1336 : (Jvm.Cond.code ({ cls := "BladeAlgebra$Reader", name := "must", desc := "(ZI)V" } : Jvm.MethodName) prog_26_method_5_code (3 : Nat) (Option.none : Option Jvm.ClassFile.FieldType)) ∈ lw_all := lw_g (lw_at lw_m6 41 rfl) rfl
theorem q1337 : (Jvm.Cond.classLink "BladeAlgebra$Reader" (56 : Nat) "BladeAlgebra$Flaw") ∈ lw_all := lw_g (lw_at lw_m6 42 rfl) rfl
theorem q1346 : (Jvm.Cond.methodLink "BladeAlgebra$Reader" (58 : Nat) ({ cls := "BladeAlgebra$Flaw", name := "<init>", desc := "(II)V" } : Jvm.MethodName)) ∈ lw_all := lw_g (lw_at lw_m6 51 rfl) rfl
theorem q1363 : (Jvm.Cond.classLink "BladeAlgebra$Reader" (134 : Nat) "BladeAlgebra$Value") ∈ lw_all := lw_g (lw_at lw_m6 68 rfl) rfl
theorem q1365 : (Jvm.Cond.methodLink "BladeAlgebra$Reader" (136 : Nat) ({ cls := "BladeAlgebra$Reader", name := "fraction", desc := "()LBladeAlgebra$Multi;" } : Jvm.MethodName)) ∈ lw_all := lw_g (lw_at lw_m6 70 rfl) rfl
theorem q1366 : (Jvm.Cond.privateMethod ({ cls := "BladeAlgebra$Reader", name := "fraction", desc := "()LBladeAlgebra$Multi;" } : Jvm.MethodName)) ∈ lw_tbl := lw_at lw_m6 71 rfl
theorem q1367 : (Jvm.Cond.instanceMethod ({ cls := "BladeAlgebra$Reader", name := "fraction", desc := "()LBladeAlgebra$Multi;" } : Jvm.MethodName)) ∈ lw_all := lw_g (lw_at lw_m6 72 rfl) rfl
theorem q1368 : (Jvm.Cond.code ({ cls := "BladeAlgebra$Reader", name := "fraction", desc := "()LBladeAlgebra$Multi;" } : Jvm.MethodName) prog_26_method_13_code (5 : Nat) (Option.some (Jvm.ClassFile.FieldType.object "BladeAlgebra$Multi"))) ∈ lw_all := lw_g (lw_at lw_m6 73 rfl) rfl
theorem q1369 : (Jvm.Cond.methodLink "BladeAlgebra$Reader" (156 : Nat) ({ cls := "BladeAlgebra$Reader", name := "number", desc := "()J" } : Jvm.MethodName)) ∈ lw_all := lw_g (lw_at lw_m6 74 rfl) rfl
theorem q1370 : (Jvm.Cond.privateMethod ({ cls := "BladeAlgebra$Reader", name := "number", desc := "()J" } : Jvm.MethodName)) ∈ lw_tbl := lw_at lw_m6 75 rfl
theorem q1371 : (Jvm.Cond.instanceMethod ({ cls := "BladeAlgebra$Reader", name := "number", desc := "()J" } : Jvm.MethodName)) ∈ lw_all := lw_g (lw_at lw_m6 76 rfl) rfl
theorem q1372 : (Jvm.Cond.code ({ cls := "BladeAlgebra$Reader", name := "number", desc := "()J" } : Jvm.MethodName) prog_26_method_12_code (4 : Nat) (Option.some Jvm.ClassFile.FieldType.long)) ∈ lw_all := lw_g (lw_at lw_m6 77 rfl) rfl
theorem q1373 : (Jvm.Cond.constantLong "BladeAlgebra$Reader" (154 : Nat) (10 : Int64)) ∈ lw_all := lw_g (lw_at lw_m6 78 rfl) rfl
theorem q1374 : (Jvm.Cond.methodLink "BladeAlgebra$Reader" (160 : Nat) ({ cls := "BladeAlgebra$Multi", name := "of", desc := "(IJJ)LBladeAlgebra$Multi;" } : Jvm.MethodName)) ∈ lw_all := lw_g (lw_at lw_m6 79 rfl) rfl
theorem q1375 : (Jvm.Cond.methodLink "BladeAlgebra$Reader" (140 : Nat) ({ cls := "BladeAlgebra$Reader", name := "vectors", desc := "()LBladeAlgebra$Multi;" } : Jvm.MethodName)) ∈ lw_all := lw_g (lw_at lw_m6 80 rfl) rfl
theorem q1376 : (Jvm.Cond.privateMethod ({ cls := "BladeAlgebra$Reader", name := "vectors", desc := "()LBladeAlgebra$Multi;" } : Jvm.MethodName)) ∈ lw_tbl := lw_at lw_m6 81 rfl
theorem q1377 : (Jvm.Cond.instanceMethod ({ cls := "BladeAlgebra$Reader", name := "vectors", desc := "()LBladeAlgebra$Multi;" } : Jvm.MethodName)) ∈ lw_all := lw_g (lw_at lw_m6 82 rfl) rfl
theorem q1378 : (Jvm.Cond.code ({ cls := "BladeAlgebra$Reader", name := "vectors", desc := "()LBladeAlgebra$Multi;" } : Jvm.MethodName) prog_26_method_14_code (5 : Nat) (Option.some (Jvm.ClassFile.FieldType.object "BladeAlgebra$Multi"))) ∈ lw_all := lw_g (lw_at lw_m6 83 rfl) rfl
theorem q1379 : (Jvm.Cond.methodLink "BladeAlgebra$Reader" (143 : Nat) ({ cls := "BladeAlgebra$Reader", name := "register", desc := "()LBladeAlgebra$Multi;" } : Jvm.MethodName)) ∈ lw_all := lw_g (lw_at lw_m6 84 rfl) rfl
theorem q1380 : (Jvm.Cond.privateMethod ({ cls := "BladeAlgebra$Reader", name := "register", desc := "()LBladeAlgebra$Multi;" } : Jvm.MethodName)) ∈ lw_tbl := lw_at lw_m6 85 rfl
theorem q1381 : (Jvm.Cond.instanceMethod ({ cls := "BladeAlgebra$Reader", name := "register", desc := "()LBladeAlgebra$Multi;" } : Jvm.MethodName)) ∈ lw_all := lw_g (lw_at lw_m6 86 rfl) rfl
theorem q1382 : (Jvm.Cond.code ({ cls := "BladeAlgebra$Reader", name := "register", desc := "()LBladeAlgebra$Multi;" } : Jvm.MethodName) prog_26_method_15_code (2 : Nat) (Option.some (Jvm.ClassFile.FieldType.object "BladeAlgebra$Multi"))) ∈ lw_all := lw_g (lw_at lw_m6 87 rfl) rfl
theorem q1383 : (Jvm.Cond.methodLink "BladeAlgebra$Reader" (146 : Nat) ({ cls := "BladeAlgebra$Value", name := "<init>", desc := "(LBladeAlgebra$Multi;)V" } : Jvm.MethodName)) ∈ lw_all := lw_g (lw_at lw_m6 88 rfl) rfl
theorem q1395 : (Jvm.Cond.methodLink "BladeAlgebra$Reader" (151 : Nat) ({ cls := "BladeAlgebra$Flaw", name := "<init>", desc := "(IILjava/lang/Throwable;)V" } : Jvm.MethodName)) ∈ lw_all := lw_g (lw_at lw_m6 100 rfl) rfl
theorem q1396 : (Jvm.Cond.classLink "BladeAlgebra$Reader" (78 : Nat) "BladeAlgebra$Changed") ∈ lw_all := lw_g (lw_at lw_m6 101 rfl) rfl
theorem q1398 : (Jvm.Cond.methodLink "BladeAlgebra$Reader" (80 : Nat) ({ cls := "BladeAlgebra$Changed", name := "<init>", desc := "(LBladeAlgebra$Node;)V" } : Jvm.MethodName)) ∈ lw_all := lw_g (lw_at lw_m6 103 rfl) rfl
theorem q1618 : (Jvm.Cond.fieldLink "BladeAlgebra$Reader" (125 : Nat) "BladeAlgebra$One" "REVERSE" "LBladeAlgebra$One;") ∈ lw_all := lw_g (lw_at lw_m7 83 rfl) rfl
theorem q1620 : (Jvm.Cond.fieldLink "BladeAlgebra$Reader" (128 : Nat) "BladeAlgebra$One" "COMPLEMENT" "LBladeAlgebra$One;") ∈ lw_all := lw_g (lw_at lw_m7 85 rfl) rfl
theorem q1622 : (Jvm.Cond.methodLink "BladeAlgebra$Reader" (89 : Nat) ({ cls := "BladeAlgebra$Changed", name := "by", desc := "(LBladeAlgebra$One;)LBladeAlgebra$Changed;" } : Jvm.MethodName)) ∈ lw_all := lw_g (lw_at lw_m7 87 rfl) rfl
theorem q1673 : (Jvm.Cond.selects "BladeAlgebra$Reader" ({ cls := "java/lang/Object", name := "getClass", desc := "()Ljava/lang/Class;" } : Jvm.MethodName) ({ cls := "java/lang/Object", name := "getClass", desc := "()Ljava/lang/Class;" } : Jvm.MethodName)) ∈ lw_all := lw_g (lw_at lw_m7 138 rfl) rfl
theorem q1708 : (Jvm.Cond.methodLink "BladeAlgebra$Reader" (93 : Nat) ({ cls := "BladeAlgebra$Chain", name := "<init>", desc := "(LBladeAlgebra$Node;)V" } : Jvm.MethodName)) ∈ lw_all := lw_g (lw_at lw_m7 173 rfl) rfl
theorem q1731 : (Jvm.Cond.fieldLink "BladeAlgebra$Reader" (116 : Nat) "BladeAlgebra$Two" "OUTER" "LBladeAlgebra$Two;") ∈ lw_all := lw_g (lw_at lw_m7 196 rfl) rfl
theorem q1733 : (Jvm.Cond.fieldLink "BladeAlgebra$Reader" (119 : Nat) "BladeAlgebra$Two" "LEFT" "LBladeAlgebra$Two;") ∈ lw_all := lw_g (lw_at lw_m7 198 rfl) rfl
theorem q1735 : (Jvm.Cond.methodLink "BladeAlgebra$Reader" (103 : Nat) ({ cls := "BladeAlgebra$Chain", name := "goOn", desc := "(LBladeAlgebra$Two;LBladeAlgebra$Node;I)V" } : Jvm.MethodName)) ∈ lw_all := lw_g (lw_at lw_m7 200 rfl) rfl
theorem q1760 : (Jvm.Cond.fieldLink "BladeAlgebra$Reader" (110 : Nat) "BladeAlgebra$Two" "PRODUCT" "LBladeAlgebra$Two;") ∈ lw_all := lw_g (lw_at lw_m7 225 rfl) rfl
theorem q1762 : (Jvm.Cond.fieldLink "BladeAlgebra$Reader" (83 : Nat) "BladeAlgebra$One" "NEGATIVE" "LBladeAlgebra$One;") ∈ lw_all := lw_g (lw_at lw_m7 227 rfl) rfl
theorem q1764 : (Jvm.Cond.fieldLink "BladeAlgebra$Reader" (94 : Nat) "BladeAlgebra$Two" "SUM" "LBladeAlgebra$Two;") ∈ lw_all := lw_g (lw_at lw_m7 229 rfl) rfl
theorem q1766 : (Jvm.Cond.fieldLink "BladeAlgebra$Reader" (100 : Nat) "BladeAlgebra$Two" "DIFFERENCE" "LBladeAlgebra$Two;") ∈ lw_all := lw_g (lw_at lw_m7 231 rfl) rfl
theorem q2613 : (Jvm.Cond.castable "BladeAlgebra$Reader" "java/lang/Object") ∈ lw_tbl := lw_at lw_m11 118 rfl
theorem in_X11 : ∀ w ∈ wsX110, w ∈ lw_all := lw_in wsX110 [1291, 1293, 1295, 1297, 1299] (by decide +kernel) (by decide +kernel)
/-! BladeAlgebra$Node -/
set_option maxRecDepth 100000
def RX12 : String := "BladeAlgebra$Node"
abbrev cX12_init : ByteArray := prog_8_method_1_code
def yX12_init : MethodName := ⟨RX12, "<init>", "()V"⟩
theorem dX12_init_0 : decode cX12_init 0 = .ok (.aload_n 0, 1) := by decide +kernel
theorem dX12_init_1 : decode cX12_init 1 = .ok (.invokespecial 1, 3) := by decide +kernel
theorem dX12_init_4 : decode cX12_init 4 = .ok (.return_, 1) := by decide +kernel
theorem q127 : (Jvm.Cond.initialized "BladeAlgebra$Node") ∈ lw_all := lw_g (lw_at lw_m1 32 rfl) rfl
theorem q1387 : (Jvm.Cond.instanceMethod ({ cls := "BladeAlgebra$Node", name := "<init>", desc := "()V" } : Jvm.MethodName)) ∈ lw_all := lw_g (lw_at lw_m6 92 rfl) rfl
theorem q1388 : (Jvm.Cond.code ({ cls := "BladeAlgebra$Node", name := "<init>", desc := "()V" } : Jvm.MethodName) prog_8_method_1_code (1 : Nat) (Option.none : Option Jvm.ClassFile.FieldType)) ∈ lw_all := lw_g (lw_at lw_m6 93 rfl) rfl
theorem q1389 : (Jvm.Cond.methodLink "BladeAlgebra$Node" (1 : Nat) ({ cls := "java/lang/Object", name := "<init>", desc := "()V" } : Jvm.MethodName)) ∈ lw_all := lw_g (lw_at lw_m6 94 rfl) rfl
/-! BladeAlgebra$Chain -/
set_option maxRecDepth 100000
def RX13 : String := "BladeAlgebra$Chain"
def TX13 : u_T := fun k => match k with
  | 0 => ("BladeAlgebra$Chain", "first", "LBladeAlgebra$Node;", true)
  | 1 => ("BladeAlgebra$Chain", "operators", "Ljava/util/ArrayList;", true)
  | 2 => ("BladeAlgebra$Chain", "others", "Ljava/util/ArrayList;", true)
  | _ => ("BladeAlgebra$Chain", "places", "Ljava/util/ArrayList;", true)
def tyX13 : Nat → FieldType := fun k => match k with
  | 0 => .object "BladeAlgebra$Node"
  | 1 => .object "java/util/ArrayList"
  | 2 => .object "java/util/ArrayList"
  | _ => .object "java/util/ArrayList"
abbrev wsX130 : List Cond := u_ws RX13 TX13 4
theorem nmX13 : ∀ a, a < 4 → ∀ b, b < 4 → a ≠ b → (TX13 a).2.1 ≠ (TX13 b).2.1 := by decide +kernel
theorem tyX13_ok : ∀ k, k < 4 → parseFieldDescriptor (TX13 k).2.2.1 = some (tyX13 k) := by decide +kernel
abbrev cX13_init : ByteArray := prog_3_method_1_code
def yX13_init : MethodName := ⟨RX13, "<init>", "(LBladeAlgebra$Node;)V"⟩
def dkwX13_init_1 : List UInt8 := [183, 0, 9, 181, 0, 18, 42, 187, 0, 7, 89, 5, 183, 0, 9, 181, 0, 21, 42, 43, 181, 0, 24, 177]
abbrev dktX13_init_1 : List UInt8 := dkwX13_init_1 ++ []
def dkwX13_init_0 : List UInt8 := [42, 183, 0, 1, 42, 187, 0, 7, 89, 5, 183, 0, 9, 181, 0, 12, 42, 187, 0, 7, 89, 5]
abbrev dktX13_init_0 : List UInt8 := dkwX13_init_0 ++ dktX13_init_1
theorem dksX13_init_0 : cX13_init.data.toList.drop 0 = dktX13_init_0 := by decide +kernel
theorem dksX13_init_1 : cX13_init.data.toList.drop 22 = dktX13_init_1 := dk_seg dksX13_init_0 22 rfl rfl
theorem dX13_init_0 : decode cX13_init 0 = .ok (.aload_n 0, 1) := dk_42 (dk_at dksX13_init_0 0 rfl rfl)
theorem dX13_init_1 : decode cX13_init 1 = .ok (.invokespecial 1, 3) := dk_183 0 1 (dk_at dksX13_init_0 1 rfl rfl)
theorem dX13_init_4 : decode cX13_init 4 = .ok (.aload_n 0, 1) := dk_42 (dk_at dksX13_init_0 4 rfl rfl)
theorem dX13_init_5 : decode cX13_init 5 = .ok (.new 7, 3) := dk_187 0 7 (dk_at dksX13_init_0 5 rfl rfl)
theorem dX13_init_8 : decode cX13_init 8 = .ok (.dup, 1) := dk_89 (dk_at dksX13_init_0 8 rfl rfl)
theorem dX13_init_9 : decode cX13_init 9 = .ok (.iconst 2, 1) := dk_5 (dk_at dksX13_init_0 9 rfl rfl)
theorem dX13_init_10 : decode cX13_init 10 = .ok (.invokespecial 9, 3) := dk_183 0 9 (dk_at dksX13_init_0 10 rfl rfl)
theorem dX13_init_13 : decode cX13_init 13 = .ok (.putfield 12, 3) := dk_181 0 12 (dk_at dksX13_init_0 13 rfl rfl)
theorem dX13_init_16 : decode cX13_init 16 = .ok (.aload_n 0, 1) := dk_42 (dk_at dksX13_init_0 16 rfl rfl)
theorem dX13_init_17 : decode cX13_init 17 = .ok (.new 7, 3) := dk_187 0 7 (dk_at dksX13_init_0 17 rfl rfl)
theorem dX13_init_20 : decode cX13_init 20 = .ok (.dup, 1) := dk_89 (dk_at dksX13_init_0 20 rfl rfl)
theorem dX13_init_21 : decode cX13_init 21 = .ok (.iconst 2, 1) := dk_5 (dk_at dksX13_init_0 21 rfl rfl)
theorem dX13_init_22 : decode cX13_init 22 = .ok (.invokespecial 9, 3) := dk_183 0 9 (dk_at dksX13_init_1 0 rfl rfl)
theorem dX13_init_25 : decode cX13_init 25 = .ok (.putfield 18, 3) := dk_181 0 18 (dk_at dksX13_init_1 3 rfl rfl)
theorem dX13_init_28 : decode cX13_init 28 = .ok (.aload_n 0, 1) := dk_42 (dk_at dksX13_init_1 6 rfl rfl)
theorem dX13_init_29 : decode cX13_init 29 = .ok (.new 7, 3) := dk_187 0 7 (dk_at dksX13_init_1 7 rfl rfl)
theorem dX13_init_32 : decode cX13_init 32 = .ok (.dup, 1) := dk_89 (dk_at dksX13_init_1 10 rfl rfl)
theorem dX13_init_33 : decode cX13_init 33 = .ok (.iconst 2, 1) := dk_5 (dk_at dksX13_init_1 11 rfl rfl)
theorem dX13_init_34 : decode cX13_init 34 = .ok (.invokespecial 9, 3) := dk_183 0 9 (dk_at dksX13_init_1 12 rfl rfl)
theorem dX13_init_37 : decode cX13_init 37 = .ok (.putfield 21, 3) := dk_181 0 21 (dk_at dksX13_init_1 15 rfl rfl)
theorem dX13_init_40 : decode cX13_init 40 = .ok (.aload_n 0, 1) := dk_42 (dk_at dksX13_init_1 18 rfl rfl)
theorem dX13_init_41 : decode cX13_init 41 = .ok (.aload_n 1, 1) := dk_43 (dk_at dksX13_init_1 19 rfl rfl)
theorem dX13_init_42 : decode cX13_init 42 = .ok (.putfield 24, 3) := dk_181 0 24 (dk_at dksX13_init_1 20 rfl rfl)
theorem dX13_init_45 : decode cX13_init 45 = .ok (.return_, 1) := dk_177 (dk_at dksX13_init_1 23 rfl rfl)
abbrev cX13_goOn : ByteArray := prog_3_method_2_code
def yX13_goOn : MethodName := ⟨RX13, "goOn", "(LBladeAlgebra$Two;LBladeAlgebra$Node;I)V"⟩
def dkwX13_goOn_1 : List UInt8 := [184, 0, 32, 182, 0, 28, 87, 177]
abbrev dktX13_goOn_1 : List UInt8 := dkwX13_goOn_1 ++ []
def dkwX13_goOn_0 : List UInt8 := [42, 180, 0, 12, 43, 182, 0, 28, 87, 42, 180, 0, 18, 44, 182, 0, 28, 87, 42, 180, 0, 21, 29]
abbrev dktX13_goOn_0 : List UInt8 := dkwX13_goOn_0 ++ dktX13_goOn_1
theorem dksX13_goOn_0 : cX13_goOn.data.toList.drop 0 = dktX13_goOn_0 := by decide +kernel
theorem dksX13_goOn_1 : cX13_goOn.data.toList.drop 23 = dktX13_goOn_1 := dk_seg dksX13_goOn_0 23 rfl rfl
theorem dX13_goOn_0 : decode cX13_goOn 0 = .ok (.aload_n 0, 1) := dk_42 (dk_at dksX13_goOn_0 0 rfl rfl)
theorem dX13_goOn_1 : decode cX13_goOn 1 = .ok (.getfield 12, 3) := dk_180 0 12 (dk_at dksX13_goOn_0 1 rfl rfl)
theorem dX13_goOn_4 : decode cX13_goOn 4 = .ok (.aload_n 1, 1) := dk_43 (dk_at dksX13_goOn_0 4 rfl rfl)
theorem dX13_goOn_5 : decode cX13_goOn 5 = .ok (.invokevirtual 28, 3) := dk_182 0 28 (dk_at dksX13_goOn_0 5 rfl rfl)
theorem dX13_goOn_8 : decode cX13_goOn 8 = .ok (.pop, 1) := dk_87 (dk_at dksX13_goOn_0 8 rfl rfl)
theorem dX13_goOn_9 : decode cX13_goOn 9 = .ok (.aload_n 0, 1) := dk_42 (dk_at dksX13_goOn_0 9 rfl rfl)
theorem dX13_goOn_10 : decode cX13_goOn 10 = .ok (.getfield 18, 3) := dk_180 0 18 (dk_at dksX13_goOn_0 10 rfl rfl)
theorem dX13_goOn_13 : decode cX13_goOn 13 = .ok (.aload_n 2, 1) := dk_44 (dk_at dksX13_goOn_0 13 rfl rfl)
theorem dX13_goOn_14 : decode cX13_goOn 14 = .ok (.invokevirtual 28, 3) := dk_182 0 28 (dk_at dksX13_goOn_0 14 rfl rfl)
theorem dX13_goOn_17 : decode cX13_goOn 17 = .ok (.pop, 1) := dk_87 (dk_at dksX13_goOn_0 17 rfl rfl)
theorem dX13_goOn_18 : decode cX13_goOn 18 = .ok (.aload_n 0, 1) := dk_42 (dk_at dksX13_goOn_0 18 rfl rfl)
theorem dX13_goOn_19 : decode cX13_goOn 19 = .ok (.getfield 21, 3) := dk_180 0 21 (dk_at dksX13_goOn_0 19 rfl rfl)
theorem dX13_goOn_22 : decode cX13_goOn 22 = .ok (.iload_n 3, 1) := dk_29 (dk_at dksX13_goOn_0 22 rfl rfl)
theorem dX13_goOn_23 : decode cX13_goOn 23 = .ok (.invokestatic 32, 3) := dk_184 0 32 (dk_at dksX13_goOn_1 0 rfl rfl)
theorem dX13_goOn_26 : decode cX13_goOn 26 = .ok (.invokevirtual 28, 3) := dk_182 0 28 (dk_at dksX13_goOn_1 3 rfl rfl)
theorem dX13_goOn_29 : decode cX13_goOn 29 = .ok (.pop, 1) := dk_87 (dk_at dksX13_goOn_1 6 rfl rfl)
theorem dX13_goOn_30 : decode cX13_goOn 30 = .ok (.return_, 1) := dk_177 (dk_at dksX13_goOn_1 7 rfl rfl)
theorem q128 : (Jvm.Cond.initialized "BladeAlgebra$Chain") ∈ lw_all := lw_g (lw_at lw_m1 33 rfl) rfl
theorem q1319 : (Jvm.Cond.instantiable "BladeAlgebra$Chain" (4 : Nat)) ∈ lw_all := lw_g (lw_at lw_m6 24 rfl) rfl
theorem q1653 : (Jvm.Cond.selects "BladeAlgebra$Chain" ({ cls := "java/lang/Object", name := "getClass", desc := "()Ljava/lang/Class;" } : Jvm.MethodName) ({ cls := "java/lang/Object", name := "getClass", desc := "()Ljava/lang/Class;" } : Jvm.MethodName)) ∈ lw_all := lw_g (lw_at lw_m7 118 rfl) rfl
theorem q1709 : (Jvm.Cond.instanceMethod ({ cls := "BladeAlgebra$Chain", name := "<init>", desc := "(LBladeAlgebra$Node;)V" } : Jvm.MethodName)) ∈ lw_all := lw_g (lw_at lw_m7 174 rfl) rfl
theorem q1710 : (Jvm.Cond.code ({ cls := "BladeAlgebra$Chain", name := "<init>", desc := "(LBladeAlgebra$Node;)V" } : Jvm.MethodName) prog_3_method_1_code (2 : Nat) (Option.none : Option Jvm.ClassFile.FieldType)) ∈ lw_all := lw_g (lw_at lw_m7 175 rfl) rfl
theorem q1711 : (Jvm.Cond.methodLinkNest "BladeAlgebra$Chain" (1 : Nat) ({ cls := "BladeAlgebra$Node", name := "<init>", desc := "()V" } : Jvm.MethodName) "BladeAlgebra") ∈ lw_tbl := lw_at lw_m7 176 rfl
theorem q1712 : (Jvm.Cond.classLink "BladeAlgebra$Chain" (7 : Nat) "java/util/ArrayList") ∈ lw_all := lw_g (lw_at lw_m7 177 rfl) rfl
theorem q1713 : (Jvm.Cond.methodLink "BladeAlgebra$Chain" (9 : Nat) ({ cls := "java/util/ArrayList", name := "<init>", desc := "(I)V" } : Jvm.MethodName)) ∈ lw_all := lw_g (lw_at lw_m7 178 rfl) rfl
theorem q1714 : (Jvm.Cond.fieldLink "BladeAlgebra$Chain" (24 : Nat) "BladeAlgebra$Chain" "first" "LBladeAlgebra$Node;") ∈ lw_all := lw_g (lw_at lw_m7 179 rfl) rfl
theorem q1716 : (Jvm.Cond.fieldLink "BladeAlgebra$Chain" (12 : Nat) "BladeAlgebra$Chain" "operators" "Ljava/util/ArrayList;") ∈ lw_all := lw_g (lw_at lw_m7 181 rfl) rfl
theorem q1718 : (Jvm.Cond.fieldLink "BladeAlgebra$Chain" (18 : Nat) "BladeAlgebra$Chain" "others" "Ljava/util/ArrayList;") ∈ lw_all := lw_g (lw_at lw_m7 183 rfl) rfl
theorem q1720 : (Jvm.Cond.fieldLink "BladeAlgebra$Chain" (21 : Nat) "BladeAlgebra$Chain" "places" "Ljava/util/ArrayList;") ∈ lw_all := lw_g (lw_at lw_m7 185 rfl) rfl
theorem q1722 : (Jvm.Cond.laysFinal "BladeAlgebra$Chain" "BladeAlgebra$Chain" "first" "LBladeAlgebra$Node;") ∈ lw_all := lw_g (lw_at lw_m7 187 rfl) rfl
theorem q1723 : (Jvm.Cond.soleField "BladeAlgebra$Chain" "first") ∈ lw_all := lw_g (lw_at lw_m7 188 rfl) rfl
theorem q1724 : (Jvm.Cond.laysFinal "BladeAlgebra$Chain" "BladeAlgebra$Chain" "operators" "Ljava/util/ArrayList;") ∈ lw_all := lw_g (lw_at lw_m7 189 rfl) rfl
theorem q1725 : (Jvm.Cond.soleField "BladeAlgebra$Chain" "operators") ∈ lw_all := lw_g (lw_at lw_m7 190 rfl) rfl
theorem q1726 : (Jvm.Cond.laysFinal "BladeAlgebra$Chain" "BladeAlgebra$Chain" "others" "Ljava/util/ArrayList;") ∈ lw_all := lw_g (lw_at lw_m7 191 rfl) rfl
theorem q1727 : (Jvm.Cond.soleField "BladeAlgebra$Chain" "others") ∈ lw_all := lw_g (lw_at lw_m7 192 rfl) rfl
theorem q1728 : (Jvm.Cond.laysFinal "BladeAlgebra$Chain" "BladeAlgebra$Chain" "places" "Ljava/util/ArrayList;") ∈ lw_all := lw_g (lw_at lw_m7 193 rfl) rfl
theorem q1729 : (Jvm.Cond.soleField "BladeAlgebra$Chain" "places") ∈ lw_all := lw_g (lw_at lw_m7 194 rfl) rfl
theorem q1730 : (Jvm.Cond.superclass "BladeAlgebra$Chain" "BladeAlgebra$Node") ∈ lw_all := lw_g (lw_at lw_m7 195 rfl) rfl
theorem q1736 : (Jvm.Cond.instanceMethod ({ cls := "BladeAlgebra$Chain", name := "goOn", desc := "(LBladeAlgebra$Two;LBladeAlgebra$Node;I)V" } : Jvm.MethodName)) ∈ lw_all := lw_g (lw_at lw_m7 201 rfl) rfl
theorem q1737 : (Jvm.Cond.selects "BladeAlgebra$Chain" ({ cls := "BladeAlgebra$Chain", name := "goOn", desc := "(LBladeAlgebra$Two;LBladeAlgebra$Node;I)V" } : Jvm.MethodName) ({ cls := "BladeAlgebra$Chain", name := "goOn", desc := "(LBladeAlgebra$Two;LBladeAlgebra$Node;I)V" } : Jvm.MethodName)) ∈ lw_all := lw_g (lw_at lw_m7 202 rfl) rfl
theorem q1738 : (Jvm.Cond.code ({ cls := "BladeAlgebra$Chain", name := "goOn", desc := "(LBladeAlgebra$Two;LBladeAlgebra$Node;I)V" } : Jvm.MethodName) prog_3_method_2_code (4 : Nat) (Option.none : Option Jvm.ClassFile.FieldType)) ∈ lw_all := lw_g (lw_at lw_m7 203 rfl) rfl
theorem q1739 : (Jvm.Cond.methodLink "BladeAlgebra$Chain" (28 : Nat) ({ cls := "java/util/ArrayList", name := "add", desc := "(Ljava/lang/Object;)Z" } : Jvm.MethodName)) ∈ lw_all := lw_g (lw_at lw_m7 204 rfl) rfl
theorem q1740 : (Jvm.Cond.methodLink "BladeAlgebra$Chain" (32 : Nat) ({ cls := "java/lang/Integer", name := "valueOf", desc := "(I)Ljava/lang/Integer;" } : Jvm.MethodName)) ∈ lw_all := lw_g (lw_at lw_m7 205 rfl) rfl
theorem q2559 : (Jvm.Cond.castable "BladeAlgebra$Chain" "BladeAlgebra$Node") ∈ lw_tbl := lw_at lw_m11 64 rfl
theorem q2614 : (Jvm.Cond.castable "BladeAlgebra$Chain" "java/lang/Object") ∈ lw_tbl := lw_at lw_m11 119 rfl
theorem in_X13 : ∀ w ∈ wsX130, w ∈ lw_all := lw_in wsX130 [1722, 1724, 1726, 1728] (by decide +kernel) (by decide +kernel)
/-! BladeAlgebra$Flaw -/
set_option maxRecDepth 100000
def RX14 : String := "BladeAlgebra$Flaw"
def TX14 : u_T := fun k => match k with
  | 0 => ("java/lang/Throwable", "cause", "Ljava/lang/Throwable;", false)
  | 1 => ("java/lang/Throwable", "stackTrace", "[Ljava/lang/StackTraceElement;", false)
  | 2 => ("java/lang/Throwable", "suppressedExceptions", "Ljava/util/List;", false)
  | 3 => ("java/lang/Throwable", "detailMessage", "Ljava/lang/String;", false)
  | 4 => ("java/lang/Throwable", "backtrace", "Ljava/lang/Object;", false)
  | 5 => ("java/lang/Throwable", "depth", "I", false)
  | 6 => ("BladeAlgebra$Flaw", "code", "I", true)
  | _ => ("BladeAlgebra$Flaw", "place", "I", true)
def tyX14 : Nat → FieldType := fun k => match k with
  | 0 => .object "java/lang/Throwable"
  | 1 => .array (.object "java/lang/StackTraceElement")
  | 2 => .object "java/util/List"
  | 3 => .object "java/lang/String"
  | 4 => .object "java/lang/Object"
  | 5 => .int
  | 6 => .int
  | _ => .int
abbrev wsX140 : List Cond := u_ws RX14 TX14 8
theorem nmX14 : ∀ a, a < 8 → ∀ b, b < 8 → a ≠ b → (TX14 a).2.1 ≠ (TX14 b).2.1 := by decide +kernel
theorem tyX14_ok : ∀ k, k < 8 → parseFieldDescriptor (TX14 k).2.2.1 = some (tyX14 k) := by decide +kernel
abbrev cX14_init : ByteArray := prog_5_method_1_code
def yX14_init : MethodName := ⟨RX14, "<init>", "(II)V"⟩
def dkwX14_init_0 : List UInt8 := [42, 27, 28, 1, 183, 0, 1, 177]
abbrev dktX14_init_0 : List UInt8 := dkwX14_init_0 ++ []
theorem dksX14_init_0 : cX14_init.data.toList.drop 0 = dktX14_init_0 := by decide +kernel
theorem dX14_init_0 : decode cX14_init 0 = .ok (.aload_n 0, 1) := dk_42 (dk_at dksX14_init_0 0 rfl rfl)
theorem dX14_init_1 : decode cX14_init 1 = .ok (.iload_n 1, 1) := dk_27 (dk_at dksX14_init_0 1 rfl rfl)
theorem dX14_init_2 : decode cX14_init 2 = .ok (.iload_n 2, 1) := dk_28 (dk_at dksX14_init_0 2 rfl rfl)
theorem dX14_init_3 : decode cX14_init 3 = .ok (.aconst_null, 1) := dk_1 (dk_at dksX14_init_0 3 rfl rfl)
theorem dX14_init_4 : decode cX14_init 4 = .ok (.invokespecial 1, 3) := dk_183 0 1 (dk_at dksX14_init_0 4 rfl rfl)
theorem dX14_init_7 : decode cX14_init 7 = .ok (.return_, 1) := dk_177 (dk_at dksX14_init_0 7 rfl rfl)
abbrev cX14_init_2 : ByteArray := prog_5_method_2_code
def yX14_init_2 : MethodName := ⟨RX14, "<init>", "(IILjava/lang/Throwable;)V"⟩
def dkwX14_init_2_0 : List UInt8 := [42, 18, 7, 45, 3, 3, 183, 0, 9, 42, 27, 181, 0, 14, 42, 28, 181, 0, 18, 177]
abbrev dktX14_init_2_0 : List UInt8 := dkwX14_init_2_0 ++ []
theorem dksX14_init_2_0 : cX14_init_2.data.toList.drop 0 = dktX14_init_2_0 := by decide +kernel
theorem dX14_init_2_0 : decode cX14_init_2 0 = .ok (.aload_n 0, 1) := dk_42 (dk_at dksX14_init_2_0 0 rfl rfl)
theorem dX14_init_2_1 : decode cX14_init_2 1 = .ok (.ldc 7, 2) := dk_18 7 (dk_at dksX14_init_2_0 1 rfl rfl)
theorem dX14_init_2_3 : decode cX14_init_2 3 = .ok (.aload_n 3, 1) := dk_45 (dk_at dksX14_init_2_0 3 rfl rfl)
theorem dX14_init_2_4 : decode cX14_init_2 4 = .ok (.iconst 0, 1) := dk_3 (dk_at dksX14_init_2_0 4 rfl rfl)
theorem dX14_init_2_5 : decode cX14_init_2 5 = .ok (.iconst 0, 1) := dk_3 (dk_at dksX14_init_2_0 5 rfl rfl)
theorem dX14_init_2_6 : decode cX14_init_2 6 = .ok (.invokespecial 9, 3) := dk_183 0 9 (dk_at dksX14_init_2_0 6 rfl rfl)
theorem dX14_init_2_9 : decode cX14_init_2 9 = .ok (.aload_n 0, 1) := dk_42 (dk_at dksX14_init_2_0 9 rfl rfl)
theorem dX14_init_2_10 : decode cX14_init_2 10 = .ok (.iload_n 1, 1) := dk_27 (dk_at dksX14_init_2_0 10 rfl rfl)
theorem dX14_init_2_11 : decode cX14_init_2 11 = .ok (.putfield 14, 3) := dk_181 0 14 (dk_at dksX14_init_2_0 11 rfl rfl)
theorem dX14_init_2_14 : decode cX14_init_2 14 = .ok (.aload_n 0, 1) := dk_42 (dk_at dksX14_init_2_0 14 rfl rfl)
theorem dX14_init_2_15 : decode cX14_init_2 15 = .ok (.iload_n 2, 1) := dk_28 (dk_at dksX14_init_2_0 15 rfl rfl)
theorem dX14_init_2_16 : decode cX14_init_2 16 = .ok (.putfield 18, 3) := dk_181 0 18 (dk_at dksX14_init_2_0 16 rfl rfl)
theorem dX14_init_2_19 : decode cX14_init_2 19 = .ok (.return_, 1) := dk_177 (dk_at dksX14_init_2_0 19 rfl rfl)
abbrev cX14_told : ByteArray := prog_5_method_3_code
def yX14_told : MethodName := ⟨RX14, "told", "()I"⟩
def dkwX14_told_0 : List UInt8 := [42, 182, 0, 21, 193, 0, 25, 153, 0, 7, 6, 167, 0, 7, 42, 180, 0, 14, 172]
abbrev dktX14_told_0 : List UInt8 := dkwX14_told_0 ++ []
theorem dksX14_told_0 : cX14_told.data.toList.drop 0 = dktX14_told_0 := by decide +kernel
theorem dX14_told_0 : decode cX14_told 0 = .ok (.aload_n 0, 1) := dk_42 (dk_at dksX14_told_0 0 rfl rfl)
theorem dX14_told_1 : decode cX14_told 1 = .ok (.invokevirtual 21, 3) := dk_182 0 21 (dk_at dksX14_told_0 1 rfl rfl)
theorem dX14_told_4 : decode cX14_told 4 = .ok (.instanceof 25, 3) := dk_193 0 25 (dk_at dksX14_told_0 4 rfl rfl)
theorem dX14_told_7 : decode cX14_told 7 = .ok (.ifCond .eq 7, 3) := dk_153 0 7 (dk_at dksX14_told_0 7 rfl rfl)
theorem dX14_told_10 : decode cX14_told 10 = .ok (.iconst 3, 1) := dk_6 (dk_at dksX14_told_0 10 rfl rfl)
theorem dX14_told_11 : decode cX14_told 11 = .ok (.goto 7, 3) := dk_167 0 7 (dk_at dksX14_told_0 11 rfl rfl)
theorem dX14_told_14 : decode cX14_told 14 = .ok (.aload_n 0, 1) := dk_42 (dk_at dksX14_told_0 14 rfl rfl)
theorem dX14_told_15 : decode cX14_told 15 = .ok (.getfield 14, 3) := dk_180 0 14 (dk_at dksX14_told_0 15 rfl rfl)
theorem dX14_told_18 : decode cX14_told 18 = .ok (.ireturn, 1) := dk_172 (dk_at dksX14_told_0 18 rfl rfl)
theorem q129 : (Jvm.Cond.initialized "BladeAlgebra$Flaw") ∈ lw_all := lw_g (lw_at lw_m1 34 rfl) rfl
theorem q371 : (Jvm.Cond.selects "BladeAlgebra$Flaw" ({ cls := "java/lang/Throwable", name := "fillInStackTrace", desc := "()Ljava/lang/Throwable;" } : Jvm.MethodName) ({ cls := "java/lang/Throwable", name := "fillInStackTrace", desc := "()Ljava/lang/Throwable;" } : Jvm.MethodName)) ∈ lw_all := lw_g (lw_at lw_m2 36 rfl) rfl
theorem q1338 : (Jvm.Cond.instantiable "BladeAlgebra$Flaw" (8 : Nat)) ∈ lw_all := lw_g (lw_at lw_m6 43 rfl) rfl
theorem q1339 : (Jvm.Cond.castable "BladeAlgebra$Flaw" "BladeAlgebra$Flaw") ∈ lw_tbl := lw_at lw_m6 44 rfl
theorem q1340 : (Jvm.Cond.selects "BladeAlgebra$Flaw" ({ cls := "java/lang/Throwable", name := "fillInStackTrace", desc := "(I)Ljava/lang/Throwable;" } : Jvm.MethodName) ({ cls := "java/lang/Throwable", name := "fillInStackTrace", desc := "(I)Ljava/lang/Throwable;" } : Jvm.MethodName)) ∈ lw_all := lw_g (lw_at lw_m6 45 rfl) rfl
theorem q1341 : (Jvm.Cond.lays "BladeAlgebra$Flaw" "java/lang/Throwable" "cause" "Ljava/lang/Throwable;") ∈ lw_all := lw_g (lw_at lw_m6 46 rfl) rfl
theorem q1342 : (Jvm.Cond.lays "BladeAlgebra$Flaw" "java/lang/Throwable" "stackTrace" "[Ljava/lang/StackTraceElement;") ∈ lw_all := lw_g (lw_at lw_m6 47 rfl) rfl
theorem q1343 : (Jvm.Cond.lays "BladeAlgebra$Flaw" "java/lang/Throwable" "suppressedExceptions" "Ljava/util/List;") ∈ lw_all := lw_g (lw_at lw_m6 48 rfl) rfl
theorem q1344 : (Jvm.Cond.lays "BladeAlgebra$Flaw" "java/lang/Throwable" "detailMessage" "Ljava/lang/String;") ∈ lw_all := lw_g (lw_at lw_m6 49 rfl) rfl
theorem q1345 : (Jvm.Cond.lays "BladeAlgebra$Flaw" "java/lang/Throwable" "backtrace" "Ljava/lang/Object;") ∈ lw_all := lw_g (lw_at lw_m6 50 rfl) rfl
theorem q1347 : (Jvm.Cond.instanceMethod ({ cls := "BladeAlgebra$Flaw", name := "<init>", desc := "(II)V" } : Jvm.MethodName)) ∈ lw_all := lw_g (lw_at lw_m6 52 rfl) rfl
theorem q1348 : (Jvm.Cond.code ({ cls := "BladeAlgebra$Flaw", name := "<init>", desc := "(II)V" } : Jvm.MethodName) prog_5_method_1_code (3 : Nat) (Option.none : Option Jvm.ClassFile.FieldType)) ∈ lw_all := lw_g (lw_at lw_m6 53 rfl) rfl
theorem q1349 : (Jvm.Cond.methodLink "BladeAlgebra$Flaw" (1 : Nat) ({ cls := "BladeAlgebra$Flaw", name := "<init>", desc := "(IILjava/lang/Throwable;)V" } : Jvm.MethodName)) ∈ lw_all := lw_g (lw_at lw_m6 54 rfl) rfl
theorem q1350 : (Jvm.Cond.instanceMethod ({ cls := "BladeAlgebra$Flaw", name := "<init>", desc := "(IILjava/lang/Throwable;)V" } : Jvm.MethodName)) ∈ lw_all := lw_g (lw_at lw_m6 55 rfl) rfl
theorem q1351 : (Jvm.Cond.code ({ cls := "BladeAlgebra$Flaw", name := "<init>", desc := "(IILjava/lang/Throwable;)V" } : Jvm.MethodName) prog_5_method_2_code (4 : Nat) (Option.none : Option Jvm.ClassFile.FieldType)) ∈ lw_all := lw_g (lw_at lw_m6 56 rfl) rfl
theorem q1352 : (Jvm.Cond.stringRef "BladeAlgebra$Flaw" (7 : Nat) "flaw") ∈ lw_tbl := lw_at lw_m6 57 rfl
theorem q1353 : (Jvm.Cond.methodLink "BladeAlgebra$Flaw" (9 : Nat) ({ cls := "java/lang/Exception", name := "<init>", desc := "(Ljava/lang/String;Ljava/lang/Throwable;ZZ)V" } : Jvm.MethodName)) ∈ lw_all := lw_g (lw_at lw_m6 58 rfl) rfl
theorem q1354 : (Jvm.Cond.fieldLink "BladeAlgebra$Flaw" (14 : Nat) "BladeAlgebra$Flaw" "code" "I") ∈ lw_all := lw_g (lw_at lw_m6 59 rfl) rfl
theorem q1355 : (Jvm.Cond.fieldLink "BladeAlgebra$Flaw" (18 : Nat) "BladeAlgebra$Flaw" "place" "I") ∈ lw_all := lw_g (lw_at lw_m6 60 rfl) rfl
theorem q1357 : (Jvm.Cond.laysFinal "BladeAlgebra$Flaw" "BladeAlgebra$Flaw" "code" "I") ∈ lw_all := lw_g (lw_at lw_m6 62 rfl) rfl
theorem q1358 : (Jvm.Cond.soleField "BladeAlgebra$Flaw" "code") ∈ lw_all := lw_g (lw_at lw_m6 63 rfl) rfl
theorem q1359 : (Jvm.Cond.laysFinal "BladeAlgebra$Flaw" "BladeAlgebra$Flaw" "place" "I") ∈ lw_all := lw_g (lw_at lw_m6 64 rfl) rfl
theorem q1360 : (Jvm.Cond.soleField "BladeAlgebra$Flaw" "place") ∈ lw_all := lw_g (lw_at lw_m6 65 rfl) rfl
theorem q1361 : (Jvm.Cond.lays "BladeAlgebra$Flaw" "java/lang/Throwable" "depth" "I") ∈ lw_all := lw_g (lw_at lw_m6 66 rfl) rfl
theorem q1362 : (Jvm.Cond.superclass "BladeAlgebra$Flaw" "java/lang/Exception") ∈ lw_all := lw_g (lw_at lw_m6 67 rfl) rfl
theorem q1655 : (Jvm.Cond.selects "BladeAlgebra$Flaw" ({ cls := "java/lang/Object", name := "getClass", desc := "()Ljava/lang/Class;" } : Jvm.MethodName) ({ cls := "java/lang/Object", name := "getClass", desc := "()Ljava/lang/Class;" } : Jvm.MethodName)) ∈ lw_all := lw_g (lw_at lw_m7 120 rfl) rfl
theorem q1830 : (Jvm.Cond.instanceMethod ({ cls := "BladeAlgebra$Flaw", name := "told", desc := "()I" } : Jvm.MethodName)) ∈ lw_all := lw_g (lw_at lw_m8 55 rfl) rfl
theorem q1831 : (Jvm.Cond.selects "BladeAlgebra$Flaw" ({ cls := "BladeAlgebra$Flaw", name := "told", desc := "()I" } : Jvm.MethodName) ({ cls := "BladeAlgebra$Flaw", name := "told", desc := "()I" } : Jvm.MethodName)) ∈ lw_all := lw_g (lw_at lw_m8 56 rfl) rfl
theorem q1832 : (Jvm.Cond.code ({ cls := "BladeAlgebra$Flaw", name := "told", desc := "()I" } : Jvm.MethodName) prog_5_method_3_code (1 : Nat) (Option.some Jvm.ClassFile.FieldType.int)) ∈ lw_all := lw_g (lw_at lw_m8 57 rfl) rfl
theorem q1833 : (Jvm.Cond.methodLink "BladeAlgebra$Flaw" (21 : Nat) ({ cls := "BladeAlgebra$Flaw", name := "getCause", desc := "()Ljava/lang/Throwable;" } : Jvm.MethodName)) ∈ lw_all := lw_g (lw_at lw_m8 58 rfl) rfl
theorem q1834 : (Jvm.Cond.sameMethod "BladeAlgebra$Flaw" "java/lang/Throwable" "getCause" "()Ljava/lang/Throwable;") ∈ lw_all := lw_g (lw_at lw_m8 59 rfl) rfl
theorem q1836 : (Jvm.Cond.selects "BladeAlgebra$Flaw" ({ cls := "BladeAlgebra$Flaw", name := "getCause", desc := "()Ljava/lang/Throwable;" } : Jvm.MethodName) ({ cls := "java/lang/Throwable", name := "getCause", desc := "()Ljava/lang/Throwable;" } : Jvm.MethodName)) ∈ lw_all := lw_g (lw_at lw_m8 61 rfl) rfl
theorem q1839 : (Jvm.Cond.classLink "BladeAlgebra$Flaw" (25 : Nat) "BladeAlgebra$Unfit") ∈ lw_all := lw_g (lw_at lw_m8 64 rfl) rfl
theorem q2615 : (Jvm.Cond.castable "BladeAlgebra$Flaw" "java/lang/Object") ∈ lw_tbl := lw_at lw_m11 120 rfl
theorem in_X14 : ∀ w ∈ wsX140, w ∈ lw_all := lw_in wsX140 [1341, 1342, 1343, 1344, 1345, 1361, 1357, 1359] (by decide +kernel) (by decide +kernel)
/-! BladeAlgebra$Value -/
set_option maxRecDepth 100000
def RX15 : String := "BladeAlgebra$Value"
def TX15 : u_T := fun k => match k with
  | _ => ("BladeAlgebra$Value", "its", "LBladeAlgebra$Multi;", true)
def tyX15 : Nat → FieldType := fun k => match k with
  | _ => .object "BladeAlgebra$Multi"
abbrev wsX150 : List Cond := u_ws RX15 TX15 1
theorem nmX15 : ∀ a, a < 1 → ∀ b, b < 1 → a ≠ b → (TX15 a).2.1 ≠ (TX15 b).2.1 := by decide +kernel
theorem tyX15_ok : ∀ k, k < 1 → parseFieldDescriptor (TX15 k).2.2.1 = some (tyX15 k) := by decide +kernel
abbrev cX15_init : ByteArray := prog_39_method_1_code
def yX15_init : MethodName := ⟨RX15, "<init>", "(LBladeAlgebra$Multi;)V"⟩
def dkwX15_init_0 : List UInt8 := [42, 183, 0, 1, 42, 43, 181, 0, 7, 177]
abbrev dktX15_init_0 : List UInt8 := dkwX15_init_0 ++ []
theorem dksX15_init_0 : cX15_init.data.toList.drop 0 = dktX15_init_0 := by decide +kernel
theorem dX15_init_0 : decode cX15_init 0 = .ok (.aload_n 0, 1) := dk_42 (dk_at dksX15_init_0 0 rfl rfl)
theorem dX15_init_1 : decode cX15_init 1 = .ok (.invokespecial 1, 3) := dk_183 0 1 (dk_at dksX15_init_0 1 rfl rfl)
theorem dX15_init_4 : decode cX15_init 4 = .ok (.aload_n 0, 1) := dk_42 (dk_at dksX15_init_0 4 rfl rfl)
theorem dX15_init_5 : decode cX15_init 5 = .ok (.aload_n 1, 1) := dk_43 (dk_at dksX15_init_0 5 rfl rfl)
theorem dX15_init_6 : decode cX15_init 6 = .ok (.putfield 7, 3) := dk_181 0 7 (dk_at dksX15_init_0 6 rfl rfl)
theorem dX15_init_9 : decode cX15_init 9 = .ok (.return_, 1) := dk_177 (dk_at dksX15_init_0 9 rfl rfl)
theorem q130 : (Jvm.Cond.initialized "BladeAlgebra$Value") ∈ lw_all := lw_g (lw_at lw_m1 35 rfl) rfl
theorem q1364 : (Jvm.Cond.instantiable "BladeAlgebra$Value" (1 : Nat)) ∈ lw_all := lw_g (lw_at lw_m6 69 rfl) rfl
theorem q1384 : (Jvm.Cond.instanceMethod ({ cls := "BladeAlgebra$Value", name := "<init>", desc := "(LBladeAlgebra$Multi;)V" } : Jvm.MethodName)) ∈ lw_all := lw_g (lw_at lw_m6 89 rfl) rfl
theorem q1385 : (Jvm.Cond.code ({ cls := "BladeAlgebra$Value", name := "<init>", desc := "(LBladeAlgebra$Multi;)V" } : Jvm.MethodName) prog_39_method_1_code (2 : Nat) (Option.none : Option Jvm.ClassFile.FieldType)) ∈ lw_all := lw_g (lw_at lw_m6 90 rfl) rfl
theorem q1386 : (Jvm.Cond.methodLinkNest "BladeAlgebra$Value" (1 : Nat) ({ cls := "BladeAlgebra$Node", name := "<init>", desc := "()V" } : Jvm.MethodName) "BladeAlgebra") ∈ lw_tbl := lw_at lw_m6 91 rfl
theorem q1390 : (Jvm.Cond.fieldLink "BladeAlgebra$Value" (7 : Nat) "BladeAlgebra$Value" "its" "LBladeAlgebra$Multi;") ∈ lw_all := lw_g (lw_at lw_m6 95 rfl) rfl
theorem q1392 : (Jvm.Cond.laysFinal "BladeAlgebra$Value" "BladeAlgebra$Value" "its" "LBladeAlgebra$Multi;") ∈ lw_all := lw_g (lw_at lw_m6 97 rfl) rfl
theorem q1393 : (Jvm.Cond.soleField "BladeAlgebra$Value" "its") ∈ lw_all := lw_g (lw_at lw_m6 98 rfl) rfl
theorem q1394 : (Jvm.Cond.superclass "BladeAlgebra$Value" "BladeAlgebra$Node") ∈ lw_all := lw_g (lw_at lw_m6 99 rfl) rfl
theorem q1685 : (Jvm.Cond.selects "BladeAlgebra$Value" ({ cls := "java/lang/Object", name := "getClass", desc := "()Ljava/lang/Class;" } : Jvm.MethodName) ({ cls := "java/lang/Object", name := "getClass", desc := "()Ljava/lang/Class;" } : Jvm.MethodName)) ∈ lw_all := lw_g (lw_at lw_m7 150 rfl) rfl
theorem q2561 : (Jvm.Cond.castable "BladeAlgebra$Value" "BladeAlgebra$Node") ∈ lw_tbl := lw_at lw_m11 66 rfl
theorem q2616 : (Jvm.Cond.castable "BladeAlgebra$Value" "java/lang/Object") ∈ lw_tbl := lw_at lw_m11 121 rfl
theorem in_X15 : ∀ w ∈ wsX150, w ∈ lw_all := lw_in wsX150 [1392] (by decide +kernel) (by decide +kernel)
/-! BladeAlgebra$Changed -/
set_option maxRecDepth 100000
def RX16 : String := "BladeAlgebra$Changed"
def TX16 : u_T := fun k => match k with
  | 0 => ("BladeAlgebra$Changed", "of", "LBladeAlgebra$Node;", true)
  | _ => ("BladeAlgebra$Changed", "operators", "Ljava/util/ArrayList;", true)
def tyX16 : Nat → FieldType := fun k => match k with
  | 0 => .object "BladeAlgebra$Node"
  | _ => .object "java/util/ArrayList"
abbrev wsX160 : List Cond := u_ws RX16 TX16 2
theorem nmX16 : ∀ a, a < 2 → ∀ b, b < 2 → a ≠ b → (TX16 a).2.1 ≠ (TX16 b).2.1 := by decide +kernel
theorem tyX16_ok : ∀ k, k < 2 → parseFieldDescriptor (TX16 k).2.2.1 = some (tyX16 k) := by decide +kernel
abbrev cX16_init : ByteArray := prog_4_method_1_code
def yX16_init : MethodName := ⟨RX16, "<init>", "(LBladeAlgebra$Node;)V"⟩
def dkwX16_init_0 : List UInt8 := [42, 183, 0, 1, 42, 187, 0, 7, 89, 5, 183, 0, 9, 181, 0, 12, 42, 43, 181, 0, 18, 177]
abbrev dktX16_init_0 : List UInt8 := dkwX16_init_0 ++ []
theorem dksX16_init_0 : cX16_init.data.toList.drop 0 = dktX16_init_0 := by decide +kernel
theorem dX16_init_0 : decode cX16_init 0 = .ok (.aload_n 0, 1) := dk_42 (dk_at dksX16_init_0 0 rfl rfl)
theorem dX16_init_1 : decode cX16_init 1 = .ok (.invokespecial 1, 3) := dk_183 0 1 (dk_at dksX16_init_0 1 rfl rfl)
theorem dX16_init_4 : decode cX16_init 4 = .ok (.aload_n 0, 1) := dk_42 (dk_at dksX16_init_0 4 rfl rfl)
theorem dX16_init_5 : decode cX16_init 5 = .ok (.new 7, 3) := dk_187 0 7 (dk_at dksX16_init_0 5 rfl rfl)
theorem dX16_init_8 : decode cX16_init 8 = .ok (.dup, 1) := dk_89 (dk_at dksX16_init_0 8 rfl rfl)
theorem dX16_init_9 : decode cX16_init 9 = .ok (.iconst 2, 1) := dk_5 (dk_at dksX16_init_0 9 rfl rfl)
theorem dX16_init_10 : decode cX16_init 10 = .ok (.invokespecial 9, 3) := dk_183 0 9 (dk_at dksX16_init_0 10 rfl rfl)
theorem dX16_init_13 : decode cX16_init 13 = .ok (.putfield 12, 3) := dk_181 0 12 (dk_at dksX16_init_0 13 rfl rfl)
theorem dX16_init_16 : decode cX16_init 16 = .ok (.aload_n 0, 1) := dk_42 (dk_at dksX16_init_0 16 rfl rfl)
theorem dX16_init_17 : decode cX16_init 17 = .ok (.aload_n 1, 1) := dk_43 (dk_at dksX16_init_0 17 rfl rfl)
theorem dX16_init_18 : decode cX16_init 18 = .ok (.putfield 18, 3) := dk_181 0 18 (dk_at dksX16_init_0 18 rfl rfl)
theorem dX16_init_21 : decode cX16_init 21 = .ok (.return_, 1) := dk_177 (dk_at dksX16_init_0 21 rfl rfl)
abbrev cX16_by : ByteArray := prog_4_method_2_code
def yX16_by : MethodName := ⟨RX16, "by", "(LBladeAlgebra$One;)LBladeAlgebra$Changed;"⟩
def dkwX16_by_0 : List UInt8 := [42, 180, 0, 12, 43, 182, 0, 22, 87, 42, 176]
abbrev dktX16_by_0 : List UInt8 := dkwX16_by_0 ++ []
theorem dksX16_by_0 : cX16_by.data.toList.drop 0 = dktX16_by_0 := by decide +kernel
theorem dX16_by_0 : decode cX16_by 0 = .ok (.aload_n 0, 1) := dk_42 (dk_at dksX16_by_0 0 rfl rfl)
theorem dX16_by_1 : decode cX16_by 1 = .ok (.getfield 12, 3) := dk_180 0 12 (dk_at dksX16_by_0 1 rfl rfl)
theorem dX16_by_4 : decode cX16_by 4 = .ok (.aload_n 1, 1) := dk_43 (dk_at dksX16_by_0 4 rfl rfl)
theorem dX16_by_5 : decode cX16_by 5 = .ok (.invokevirtual 22, 3) := dk_182 0 22 (dk_at dksX16_by_0 5 rfl rfl)
theorem dX16_by_8 : decode cX16_by 8 = .ok (.pop, 1) := dk_87 (dk_at dksX16_by_0 8 rfl rfl)
theorem dX16_by_9 : decode cX16_by 9 = .ok (.aload_n 0, 1) := dk_42 (dk_at dksX16_by_0 9 rfl rfl)
theorem dX16_by_10 : decode cX16_by 10 = .ok (.areturn, 1) := dk_176 (dk_at dksX16_by_0 10 rfl rfl)
theorem q131 : (Jvm.Cond.initialized "BladeAlgebra$Changed") ∈ lw_all := lw_g (lw_at lw_m1 36 rfl) rfl
theorem q1397 : (Jvm.Cond.instantiable "BladeAlgebra$Changed" (2 : Nat)) ∈ lw_all := lw_g (lw_at lw_m6 102 rfl) rfl
theorem q1399 : (Jvm.Cond.instanceMethod ({ cls := "BladeAlgebra$Changed", name := "<init>", desc := "(LBladeAlgebra$Node;)V" } : Jvm.MethodName)) ∈ lw_all := lw_g (lw_at lw_m6 104 rfl) rfl
theorem q1400 : (Jvm.Cond.code ({ cls := "BladeAlgebra$Changed", name := "<init>", desc := "(LBladeAlgebra$Node;)V" } : Jvm.MethodName) prog_4_method_1_code (2 : Nat) (Option.none : Option Jvm.ClassFile.FieldType)) ∈ lw_all := lw_g (lw_at lw_m6 105 rfl) rfl
theorem q1401 : (Jvm.Cond.methodLinkNest "BladeAlgebra$Changed" (1 : Nat) ({ cls := "BladeAlgebra$Node", name := "<init>", desc := "()V" } : Jvm.MethodName) "BladeAlgebra") ∈ lw_tbl := lw_at lw_m6 106 rfl
theorem q1402 : (Jvm.Cond.classLink "BladeAlgebra$Changed" (7 : Nat) "java/util/ArrayList") ∈ lw_all := lw_g (lw_at lw_m6 107 rfl) rfl
theorem q1404 : (Jvm.Cond.methodLink "BladeAlgebra$Changed" (9 : Nat) ({ cls := "java/util/ArrayList", name := "<init>", desc := "(I)V" } : Jvm.MethodName)) ∈ lw_all := lw_g (lw_at lw_m6 109 rfl) rfl
theorem q1609 : (Jvm.Cond.fieldLink "BladeAlgebra$Changed" (18 : Nat) "BladeAlgebra$Changed" "of" "LBladeAlgebra$Node;") ∈ lw_all := lw_g (lw_at lw_m7 74 rfl) rfl
theorem q1611 : (Jvm.Cond.fieldLink "BladeAlgebra$Changed" (12 : Nat) "BladeAlgebra$Changed" "operators" "Ljava/util/ArrayList;") ∈ lw_all := lw_g (lw_at lw_m7 76 rfl) rfl
theorem q1613 : (Jvm.Cond.laysFinal "BladeAlgebra$Changed" "BladeAlgebra$Changed" "of" "LBladeAlgebra$Node;") ∈ lw_all := lw_g (lw_at lw_m7 78 rfl) rfl
theorem q1614 : (Jvm.Cond.soleField "BladeAlgebra$Changed" "of") ∈ lw_all := lw_g (lw_at lw_m7 79 rfl) rfl
theorem q1615 : (Jvm.Cond.laysFinal "BladeAlgebra$Changed" "BladeAlgebra$Changed" "operators" "Ljava/util/ArrayList;") ∈ lw_all := lw_g (lw_at lw_m7 80 rfl) rfl
theorem q1616 : (Jvm.Cond.soleField "BladeAlgebra$Changed" "operators") ∈ lw_all := lw_g (lw_at lw_m7 81 rfl) rfl
theorem q1617 : (Jvm.Cond.superclass "BladeAlgebra$Changed" "BladeAlgebra$Node") ∈ lw_all := lw_g (lw_at lw_m7 82 rfl) rfl
theorem q1623 : (Jvm.Cond.instanceMethod ({ cls := "BladeAlgebra$Changed", name := "by", desc := "(LBladeAlgebra$One;)LBladeAlgebra$Changed;" } : Jvm.MethodName)) ∈ lw_all := lw_g (lw_at lw_m7 88 rfl) rfl
theorem q1624 : (Jvm.Cond.selects "BladeAlgebra$Changed" ({ cls := "BladeAlgebra$Changed", name := "by", desc := "(LBladeAlgebra$One;)LBladeAlgebra$Changed;" } : Jvm.MethodName) ({ cls := "BladeAlgebra$Changed", name := "by", desc := "(LBladeAlgebra$One;)LBladeAlgebra$Changed;" } : Jvm.MethodName)) ∈ lw_all := lw_g (lw_at lw_m7 89 rfl) rfl
theorem q1625 : (Jvm.Cond.code ({ cls := "BladeAlgebra$Changed", name := "by", desc := "(LBladeAlgebra$One;)LBladeAlgebra$Changed;" } : Jvm.MethodName) prog_4_method_2_code (2 : Nat) (Option.some (Jvm.ClassFile.FieldType.object "BladeAlgebra$Changed"))) ∈ lw_all := lw_g (lw_at lw_m7 90 rfl) rfl
theorem q1626 : (Jvm.Cond.methodLink "BladeAlgebra$Changed" (22 : Nat) ({ cls := "java/util/ArrayList", name := "add", desc := "(Ljava/lang/Object;)Z" } : Jvm.MethodName)) ∈ lw_all := lw_g (lw_at lw_m7 91 rfl) rfl
theorem q1654 : (Jvm.Cond.selects "BladeAlgebra$Changed" ({ cls := "java/lang/Object", name := "getClass", desc := "()Ljava/lang/Class;" } : Jvm.MethodName) ({ cls := "java/lang/Object", name := "getClass", desc := "()Ljava/lang/Class;" } : Jvm.MethodName)) ∈ lw_all := lw_g (lw_at lw_m7 119 rfl) rfl
theorem q2560 : (Jvm.Cond.castable "BladeAlgebra$Changed" "BladeAlgebra$Node") ∈ lw_tbl := lw_at lw_m11 65 rfl
theorem q2617 : (Jvm.Cond.castable "BladeAlgebra$Changed" "java/lang/Object") ∈ lw_tbl := lw_at lw_m11 122 rfl
theorem in_X16 : ∀ w ∈ wsX160, w ∈ lw_all := lw_in wsX160 [1613, 1615] (by decide +kernel) (by decide +kernel)
/-! BladeAlgebra$One$6 -/
set_option maxRecDepth 100000
def RX17 : String := "BladeAlgebra$One$6"
abbrev cX17_of : ByteArray := prog_16_method_2_code
def yX17_of : MethodName := ⟨RX17, "of", "(LBladeAlgebra$Algebra;LBladeAlgebra$Multi;)LBladeAlgebra$Multi;"⟩
def dkwX17_of_2 : List UInt8 := [182, 0, 36, 176]
abbrev dktX17_of_2 : List UInt8 := dkwX17_of_2 ++ []
def dkwX17_of_1 : List UInt8 := [78, 43, 44, 45, 43, 180, 0, 28, 43, 180, 0, 19, 50, 43, 180, 0, 19, 46, 133, 10, 182, 0, 32]
abbrev dktX17_of_1 : List UInt8 := dkwX17_of_1 ++ dktX17_of_2
def dkwX17_of_0 : List UInt8 := [43, 180, 0, 7, 154, 0, 7, 4, 167, 0, 4, 3, 184, 0, 13, 43, 180, 0, 19, 10, 10, 184, 0, 22]
abbrev dktX17_of_0 : List UInt8 := dkwX17_of_0 ++ dktX17_of_1
theorem dksX17_of_0 : cX17_of.data.toList.drop 0 = dktX17_of_0 := by decide +kernel
theorem dksX17_of_1 : cX17_of.data.toList.drop 24 = dktX17_of_1 := dk_seg dksX17_of_0 24 rfl rfl
theorem dksX17_of_2 : cX17_of.data.toList.drop 47 = dktX17_of_2 := dk_seg dksX17_of_1 23 rfl rfl
theorem dX17_of_0 : decode cX17_of 0 = .ok (.aload_n 1, 1) := dk_43 (dk_at dksX17_of_0 0 rfl rfl)
theorem dX17_of_1 : decode cX17_of 1 = .ok (.getfield 7, 3) := dk_180 0 7 (dk_at dksX17_of_0 1 rfl rfl)
theorem dX17_of_4 : decode cX17_of 4 = .ok (.ifCond .ne 7, 3) := dk_154 0 7 (dk_at dksX17_of_0 4 rfl rfl)
theorem dX17_of_7 : decode cX17_of 7 = .ok (.iconst 1, 1) := dk_4 (dk_at dksX17_of_0 7 rfl rfl)
theorem dX17_of_8 : decode cX17_of 8 = .ok (.goto 4, 3) := dk_167 0 4 (dk_at dksX17_of_0 8 rfl rfl)
theorem dX17_of_11 : decode cX17_of 11 = .ok (.iconst 0, 1) := dk_3 (dk_at dksX17_of_0 11 rfl rfl)
theorem dX17_of_12 : decode cX17_of 12 = .ok (.invokestatic 13, 3) := dk_184 0 13 (dk_at dksX17_of_0 12 rfl rfl)
theorem dX17_of_15 : decode cX17_of 15 = .ok (.aload_n 1, 1) := dk_43 (dk_at dksX17_of_0 15 rfl rfl)
theorem dX17_of_16 : decode cX17_of 16 = .ok (.getfield 19, 3) := dk_180 0 19 (dk_at dksX17_of_0 16 rfl rfl)
theorem dX17_of_19 : decode cX17_of 19 = .ok (.lconst 1, 1) := dk_10 (dk_at dksX17_of_0 19 rfl rfl)
theorem dX17_of_20 : decode cX17_of 20 = .ok (.lconst 1, 1) := dk_10 (dk_at dksX17_of_0 20 rfl rfl)
theorem dX17_of_21 : decode cX17_of 21 = .ok (.invokestatic 22, 3) := dk_184 0 22 (dk_at dksX17_of_0 21 rfl rfl)
theorem dX17_of_24 : decode cX17_of 24 = .ok (.astore_n 3, 1) := dk_78 (dk_at dksX17_of_1 0 rfl rfl)
theorem dX17_of_25 : decode cX17_of 25 = .ok (.aload_n 1, 1) := dk_43 (dk_at dksX17_of_1 1 rfl rfl)
theorem dX17_of_26 : decode cX17_of 26 = .ok (.aload_n 2, 1) := dk_44 (dk_at dksX17_of_1 2 rfl rfl)
theorem dX17_of_27 : decode cX17_of 27 = .ok (.aload_n 3, 1) := dk_45 (dk_at dksX17_of_1 3 rfl rfl)
theorem dX17_of_28 : decode cX17_of 28 = .ok (.aload_n 1, 1) := dk_43 (dk_at dksX17_of_1 4 rfl rfl)
theorem dX17_of_29 : decode cX17_of 29 = .ok (.getfield 28, 3) := dk_180 0 28 (dk_at dksX17_of_1 5 rfl rfl)
theorem dX17_of_32 : decode cX17_of 32 = .ok (.aload_n 1, 1) := dk_43 (dk_at dksX17_of_1 8 rfl rfl)
theorem dX17_of_33 : decode cX17_of 33 = .ok (.getfield 19, 3) := dk_180 0 19 (dk_at dksX17_of_1 9 rfl rfl)
theorem dX17_of_36 : decode cX17_of 36 = .ok (.aaload, 1) := dk_50 (dk_at dksX17_of_1 12 rfl rfl)
theorem dX17_of_37 : decode cX17_of 37 = .ok (.aload_n 1, 1) := dk_43 (dk_at dksX17_of_1 13 rfl rfl)
theorem dX17_of_38 : decode cX17_of 38 = .ok (.getfield 19, 3) := dk_180 0 19 (dk_at dksX17_of_1 14 rfl rfl)
theorem dX17_of_41 : decode cX17_of 41 = .ok (.iaload, 1) := dk_46 (dk_at dksX17_of_1 17 rfl rfl)
theorem dX17_of_42 : decode cX17_of 42 = .ok (.i2l, 1) := dk_133 (dk_at dksX17_of_1 18 rfl rfl)
theorem dX17_of_43 : decode cX17_of 43 = .ok (.lconst 1, 1) := dk_10 (dk_at dksX17_of_1 19 rfl rfl)
theorem dX17_of_44 : decode cX17_of 44 = .ok (.invokevirtual 32, 3) := dk_182 0 32 (dk_at dksX17_of_1 20 rfl rfl)
theorem dX17_of_47 : decode cX17_of 47 = .ok (.invokevirtual 36, 3) := dk_182 0 36 (dk_at dksX17_of_2 0 rfl rfl)
theorem dX17_of_50 : decode cX17_of 50 = .ok (.areturn, 1) := dk_176 (dk_at dksX17_of_2 3 rfl rfl)
theorem q204 : (Jvm.Cond.fieldLinkNest "BladeAlgebra$One$6" (7 : Nat) "BladeAlgebra$Algebra" "r" "I" "BladeAlgebra") ∈ lw_tbl := lw_at lw_m1 109 rfl
theorem q210 : (Jvm.Cond.fieldLinkNest "BladeAlgebra$One$6" (19 : Nat) "BladeAlgebra$Algebra" "last" "I" "BladeAlgebra") ∈ lw_tbl := lw_at lw_m1 115 rfl
theorem q214 : (Jvm.Cond.fieldLinkNest "BladeAlgebra$One$6" (28 : Nat) "BladeAlgebra$Algebra" "sign" "[[I" "BladeAlgebra") ∈ lw_tbl := lw_at lw_m1 119 rfl
theorem q814 : (Jvm.Cond.selects "BladeAlgebra$One$6" ({ cls := "BladeAlgebra$One", name := "of", desc := "(LBladeAlgebra$Algebra;LBladeAlgebra$Multi;)LBladeAlgebra$Multi;" } : Jvm.MethodName) ({ cls := "BladeAlgebra$One$6", name := "of", desc := "(LBladeAlgebra$Algebra;LBladeAlgebra$Multi;)LBladeAlgebra$Multi;" } : Jvm.MethodName)) ∈ lw_all := lw_g (lw_at lw_m3 239 rfl) rfl
theorem q815 : (Jvm.Cond.instanceMethod ({ cls := "BladeAlgebra$One$6", name := "of", desc := "(LBladeAlgebra$Algebra;LBladeAlgebra$Multi;)LBladeAlgebra$Multi;" } : Jvm.MethodName)) ∈ lw_all := lw_g (lw_at lw_m4 0 rfl) rfl
theorem q816 : (Jvm.Cond.code ({ cls := "BladeAlgebra$One$6", name := "of", desc := "(LBladeAlgebra$Algebra;LBladeAlgebra$Multi;)LBladeAlgebra$Multi;" } : Jvm.MethodName) prog_16_method_2_code (4 : Nat) (Option.some (Jvm.ClassFile.FieldType.object "BladeAlgebra$Multi"))) ∈ lw_all := lw_g (lw_at lw_m4 1 rfl) rfl
theorem q817 : (Jvm.Cond.methodLinkNest "BladeAlgebra$One$6" (13 : Nat) ({ cls := "BladeAlgebra", name := "possible", desc := "(Z)V" } : Jvm.MethodName) "BladeAlgebra") ∈ lw_tbl := lw_at lw_m4 2 rfl
theorem q818 : (Jvm.Cond.methodLink "BladeAlgebra$One$6" (22 : Nat) ({ cls := "BladeAlgebra$Multi", name := "of", desc := "(IJJ)LBladeAlgebra$Multi;" } : Jvm.MethodName)) ∈ lw_all := lw_g (lw_at lw_m4 3 rfl) rfl
theorem q821 : (Jvm.Cond.methodLink "BladeAlgebra$One$6" (32 : Nat) ({ cls := "BladeAlgebra$Multi", name := "times", desc := "(JJ)LBladeAlgebra$Multi;" } : Jvm.MethodName)) ∈ lw_all := lw_g (lw_at lw_m4 6 rfl) rfl
theorem q822 : (Jvm.Cond.methodLink "BladeAlgebra$One$6" (36 : Nat) ({ cls := "BladeAlgebra$Algebra", name := "product", desc := "(LBladeAlgebra$Multi;LBladeAlgebra$Multi;)LBladeAlgebra$Multi;" } : Jvm.MethodName)) ∈ lw_all := lw_g (lw_at lw_m4 7 rfl) rfl
theorem q1664 : (Jvm.Cond.selects "BladeAlgebra$One$6" ({ cls := "java/lang/Object", name := "getClass", desc := "()Ljava/lang/Class;" } : Jvm.MethodName) ({ cls := "java/lang/Object", name := "getClass", desc := "()Ljava/lang/Class;" } : Jvm.MethodName)) ∈ lw_all := lw_g (lw_at lw_m7 129 rfl) rfl
theorem q2555 : (Jvm.Cond.castable "BladeAlgebra$One$6" "BladeAlgebra$One") ∈ lw_tbl := lw_at lw_m11 60 rfl
theorem q2590 : (Jvm.Cond.castable "BladeAlgebra$One$6" "java/lang/Object") ∈ lw_tbl := lw_at lw_m11 95 rfl
/-! BladeAlgebra$Two$1 -/
set_option maxRecDepth 100000
def RX18 : String := "BladeAlgebra$Two$1"
abbrev cX18_of : ByteArray := prog_29_method_2_code
def yX18_of : MethodName := ⟨RX18, "of", "(LBladeAlgebra$Algebra;LBladeAlgebra$Multi;LBladeAlgebra$Multi;)LBladeAlgebra$Multi;"⟩
def dkwX18_of_0 : List UInt8 := [44, 45, 4, 182, 0, 7, 176]
abbrev dktX18_of_0 : List UInt8 := dkwX18_of_0 ++ []
theorem dksX18_of_0 : cX18_of.data.toList.drop 0 = dktX18_of_0 := by decide +kernel
theorem dX18_of_0 : decode cX18_of 0 = .ok (.aload_n 2, 1) := dk_44 (dk_at dksX18_of_0 0 rfl rfl)
theorem dX18_of_1 : decode cX18_of 1 = .ok (.aload_n 3, 1) := dk_45 (dk_at dksX18_of_0 1 rfl rfl)
theorem dX18_of_2 : decode cX18_of 2 = .ok (.iconst 1, 1) := dk_4 (dk_at dksX18_of_0 2 rfl rfl)
theorem dX18_of_3 : decode cX18_of 3 = .ok (.invokevirtual 7, 3) := dk_182 0 7 (dk_at dksX18_of_0 3 rfl rfl)
theorem dX18_of_6 : decode cX18_of 6 = .ok (.areturn, 1) := dk_176 (dk_at dksX18_of_0 6 rfl rfl)
theorem q637 : (Jvm.Cond.selects "BladeAlgebra$Two$1" ({ cls := "BladeAlgebra$Two", name := "of", desc := "(LBladeAlgebra$Algebra;LBladeAlgebra$Multi;LBladeAlgebra$Multi;)LBladeAlgebra$Multi;" } : Jvm.MethodName) ({ cls := "BladeAlgebra$Two$1", name := "of", desc := "(LBladeAlgebra$Algebra;LBladeAlgebra$Multi;LBladeAlgebra$Multi;)LBladeAlgebra$Multi;" } : Jvm.MethodName)) ∈ lw_all := lw_g (lw_at lw_m3 62 rfl) rfl
theorem q638 : (Jvm.Cond.instanceMethod ({ cls := "BladeAlgebra$Two$1", name := "of", desc := "(LBladeAlgebra$Algebra;LBladeAlgebra$Multi;LBladeAlgebra$Multi;)LBladeAlgebra$Multi;" } : Jvm.MethodName)) ∈ lw_all := lw_g (lw_at lw_m3 63 rfl) rfl
theorem q639 : (Jvm.Cond.code ({ cls := "BladeAlgebra$Two$1", name := "of", desc := "(LBladeAlgebra$Algebra;LBladeAlgebra$Multi;LBladeAlgebra$Multi;)LBladeAlgebra$Multi;" } : Jvm.MethodName) prog_29_method_2_code (4 : Nat) (Option.some (Jvm.ClassFile.FieldType.object "BladeAlgebra$Multi"))) ∈ lw_all := lw_g (lw_at lw_m3 64 rfl) rfl
theorem q640 : (Jvm.Cond.methodLink "BladeAlgebra$Two$1" (7 : Nat) ({ cls := "BladeAlgebra$Multi", name := "plus", desc := "(LBladeAlgebra$Multi;I)LBladeAlgebra$Multi;" } : Jvm.MethodName)) ∈ lw_all := lw_g (lw_at lw_m3 65 rfl) rfl
theorem q1675 : (Jvm.Cond.selects "BladeAlgebra$Two$1" ({ cls := "java/lang/Object", name := "getClass", desc := "()Ljava/lang/Class;" } : Jvm.MethodName) ({ cls := "java/lang/Object", name := "getClass", desc := "()Ljava/lang/Class;" } : Jvm.MethodName)) ∈ lw_all := lw_g (lw_at lw_m7 140 rfl) rfl
theorem q2562 : (Jvm.Cond.castable "BladeAlgebra$Two$1" "BladeAlgebra$Two") ∈ lw_tbl := lw_at lw_m11 67 rfl
theorem q2576 : (Jvm.Cond.castable "BladeAlgebra$Two$1" "java/lang/Object") ∈ lw_tbl := lw_at lw_m11 81 rfl
/-! BladeAlgebra$Two$2 -/
set_option maxRecDepth 100000
def RX19 : String := "BladeAlgebra$Two$2"
abbrev cX19_of : ByteArray := prog_30_method_2_code
def yX19_of : MethodName := ⟨RX19, "of", "(LBladeAlgebra$Algebra;LBladeAlgebra$Multi;LBladeAlgebra$Multi;)LBladeAlgebra$Multi;"⟩
def dkwX19_of_0 : List UInt8 := [44, 45, 2, 182, 0, 7, 176]
abbrev dktX19_of_0 : List UInt8 := dkwX19_of_0 ++ []
theorem dksX19_of_0 : cX19_of.data.toList.drop 0 = dktX19_of_0 := by decide +kernel
theorem dX19_of_0 : decode cX19_of 0 = .ok (.aload_n 2, 1) := dk_44 (dk_at dksX19_of_0 0 rfl rfl)
theorem dX19_of_1 : decode cX19_of 1 = .ok (.aload_n 3, 1) := dk_45 (dk_at dksX19_of_0 1 rfl rfl)
theorem dX19_of_2 : decode cX19_of 2 = .ok (.iconst (-1), 1) := dk_2 (dk_at dksX19_of_0 2 rfl rfl)
theorem dX19_of_3 : decode cX19_of 3 = .ok (.invokevirtual 7, 3) := dk_182 0 7 (dk_at dksX19_of_0 3 rfl rfl)
theorem dX19_of_6 : decode cX19_of 6 = .ok (.areturn, 1) := dk_176 (dk_at dksX19_of_0 6 rfl rfl)
theorem q644 : (Jvm.Cond.selects "BladeAlgebra$Two$2" ({ cls := "BladeAlgebra$Two", name := "of", desc := "(LBladeAlgebra$Algebra;LBladeAlgebra$Multi;LBladeAlgebra$Multi;)LBladeAlgebra$Multi;" } : Jvm.MethodName) ({ cls := "BladeAlgebra$Two$2", name := "of", desc := "(LBladeAlgebra$Algebra;LBladeAlgebra$Multi;LBladeAlgebra$Multi;)LBladeAlgebra$Multi;" } : Jvm.MethodName)) ∈ lw_all := lw_g (lw_at lw_m3 69 rfl) rfl
theorem q645 : (Jvm.Cond.instanceMethod ({ cls := "BladeAlgebra$Two$2", name := "of", desc := "(LBladeAlgebra$Algebra;LBladeAlgebra$Multi;LBladeAlgebra$Multi;)LBladeAlgebra$Multi;" } : Jvm.MethodName)) ∈ lw_all := lw_g (lw_at lw_m3 70 rfl) rfl
theorem q646 : (Jvm.Cond.code ({ cls := "BladeAlgebra$Two$2", name := "of", desc := "(LBladeAlgebra$Algebra;LBladeAlgebra$Multi;LBladeAlgebra$Multi;)LBladeAlgebra$Multi;" } : Jvm.MethodName) prog_30_method_2_code (4 : Nat) (Option.some (Jvm.ClassFile.FieldType.object "BladeAlgebra$Multi"))) ∈ lw_all := lw_g (lw_at lw_m3 71 rfl) rfl
theorem q647 : (Jvm.Cond.methodLink "BladeAlgebra$Two$2" (7 : Nat) ({ cls := "BladeAlgebra$Multi", name := "plus", desc := "(LBladeAlgebra$Multi;I)LBladeAlgebra$Multi;" } : Jvm.MethodName)) ∈ lw_all := lw_g (lw_at lw_m3 72 rfl) rfl
theorem q1676 : (Jvm.Cond.selects "BladeAlgebra$Two$2" ({ cls := "java/lang/Object", name := "getClass", desc := "()Ljava/lang/Class;" } : Jvm.MethodName) ({ cls := "java/lang/Object", name := "getClass", desc := "()Ljava/lang/Class;" } : Jvm.MethodName)) ∈ lw_all := lw_g (lw_at lw_m7 141 rfl) rfl
theorem q2563 : (Jvm.Cond.castable "BladeAlgebra$Two$2" "BladeAlgebra$Two") ∈ lw_tbl := lw_at lw_m11 68 rfl
theorem q2577 : (Jvm.Cond.castable "BladeAlgebra$Two$2" "java/lang/Object") ∈ lw_tbl := lw_at lw_m11 82 rfl
/-! BladeAlgebra$Two$3 -/
set_option maxRecDepth 100000
def RX20 : String := "BladeAlgebra$Two$3"
abbrev cX20_of : ByteArray := prog_31_method_2_code
def yX20_of : MethodName := ⟨RX20, "of", "(LBladeAlgebra$Algebra;LBladeAlgebra$Multi;LBladeAlgebra$Multi;)LBladeAlgebra$Multi;"⟩
def dkwX20_of_0 : List UInt8 := [43, 44, 45, 182, 0, 7, 176]
abbrev dktX20_of_0 : List UInt8 := dkwX20_of_0 ++ []
theorem dksX20_of_0 : cX20_of.data.toList.drop 0 = dktX20_of_0 := by decide +kernel
theorem dX20_of_0 : decode cX20_of 0 = .ok (.aload_n 1, 1) := dk_43 (dk_at dksX20_of_0 0 rfl rfl)
theorem dX20_of_1 : decode cX20_of 1 = .ok (.aload_n 2, 1) := dk_44 (dk_at dksX20_of_0 1 rfl rfl)
theorem dX20_of_2 : decode cX20_of 2 = .ok (.aload_n 3, 1) := dk_45 (dk_at dksX20_of_0 2 rfl rfl)
theorem dX20_of_3 : decode cX20_of 3 = .ok (.invokevirtual 7, 3) := dk_182 0 7 (dk_at dksX20_of_0 3 rfl rfl)
theorem dX20_of_6 : decode cX20_of 6 = .ok (.areturn, 1) := dk_176 (dk_at dksX20_of_0 6 rfl rfl)
theorem q648 : (Jvm.Cond.selects "BladeAlgebra$Two$3" ({ cls := "BladeAlgebra$Two", name := "of", desc := "(LBladeAlgebra$Algebra;LBladeAlgebra$Multi;LBladeAlgebra$Multi;)LBladeAlgebra$Multi;" } : Jvm.MethodName) ({ cls := "BladeAlgebra$Two$3", name := "of", desc := "(LBladeAlgebra$Algebra;LBladeAlgebra$Multi;LBladeAlgebra$Multi;)LBladeAlgebra$Multi;" } : Jvm.MethodName)) ∈ lw_all := lw_g (lw_at lw_m3 73 rfl) rfl
theorem q649 : (Jvm.Cond.instanceMethod ({ cls := "BladeAlgebra$Two$3", name := "of", desc := "(LBladeAlgebra$Algebra;LBladeAlgebra$Multi;LBladeAlgebra$Multi;)LBladeAlgebra$Multi;" } : Jvm.MethodName)) ∈ lw_all := lw_g (lw_at lw_m3 74 rfl) rfl
theorem q650 : (Jvm.Cond.code ({ cls := "BladeAlgebra$Two$3", name := "of", desc := "(LBladeAlgebra$Algebra;LBladeAlgebra$Multi;LBladeAlgebra$Multi;)LBladeAlgebra$Multi;" } : Jvm.MethodName) prog_31_method_2_code (4 : Nat) (Option.some (Jvm.ClassFile.FieldType.object "BladeAlgebra$Multi"))) ∈ lw_all := lw_g (lw_at lw_m3 75 rfl) rfl
theorem q651 : (Jvm.Cond.methodLink "BladeAlgebra$Two$3" (7 : Nat) ({ cls := "BladeAlgebra$Algebra", name := "product", desc := "(LBladeAlgebra$Multi;LBladeAlgebra$Multi;)LBladeAlgebra$Multi;" } : Jvm.MethodName)) ∈ lw_all := lw_g (lw_at lw_m3 76 rfl) rfl
theorem q1677 : (Jvm.Cond.selects "BladeAlgebra$Two$3" ({ cls := "java/lang/Object", name := "getClass", desc := "()Ljava/lang/Class;" } : Jvm.MethodName) ({ cls := "java/lang/Object", name := "getClass", desc := "()Ljava/lang/Class;" } : Jvm.MethodName)) ∈ lw_all := lw_g (lw_at lw_m7 142 rfl) rfl
theorem q2564 : (Jvm.Cond.castable "BladeAlgebra$Two$3" "BladeAlgebra$Two") ∈ lw_tbl := lw_at lw_m11 69 rfl
theorem q2578 : (Jvm.Cond.castable "BladeAlgebra$Two$3" "java/lang/Object") ∈ lw_tbl := lw_at lw_m11 83 rfl
/-! BladeAlgebra$Product$1 -/
set_option maxRecDepth 100000
def RX21 : String := "BladeAlgebra$Product$1"
abbrev cX21_takes : ByteArray := prog_21_method_2_code
def yX21_takes : MethodName := ⟨RX21, "takes", "(III)Z"⟩
theorem dX21_takes_0 : decode cX21_takes 0 = .ok (.iconst 1, 1) := by decide +kernel
theorem dX21_takes_1 : decode cX21_takes 1 = .ok (.ireturn, 1) := by decide +kernel
theorem q664 : (Jvm.Cond.selects "BladeAlgebra$Product$1" ({ cls := "BladeAlgebra$Product", name := "takes", desc := "(III)Z" } : Jvm.MethodName) ({ cls := "BladeAlgebra$Product$1", name := "takes", desc := "(III)Z" } : Jvm.MethodName)) ∈ lw_all := lw_g (lw_at lw_m3 89 rfl) rfl
theorem q665 : (Jvm.Cond.instanceMethod ({ cls := "BladeAlgebra$Product$1", name := "takes", desc := "(III)Z" } : Jvm.MethodName)) ∈ lw_all := lw_g (lw_at lw_m3 90 rfl) rfl
theorem q666 : (Jvm.Cond.code ({ cls := "BladeAlgebra$Product$1", name := "takes", desc := "(III)Z" } : Jvm.MethodName) prog_21_method_2_code (4 : Nat) (Option.some Jvm.ClassFile.FieldType.boolean)) ∈ lw_all := lw_g (lw_at lw_m3 91 rfl) rfl
theorem q1668 : (Jvm.Cond.selects "BladeAlgebra$Product$1" ({ cls := "java/lang/Object", name := "getClass", desc := "()Ljava/lang/Class;" } : Jvm.MethodName) ({ cls := "java/lang/Object", name := "getClass", desc := "()Ljava/lang/Class;" } : Jvm.MethodName)) ∈ lw_all := lw_g (lw_at lw_m7 133 rfl) rfl
theorem q2604 : (Jvm.Cond.castable "BladeAlgebra$Product$1" "java/lang/Object") ∈ lw_tbl := lw_at lw_m11 109 rfl
/-! BladeAlgebra$Product$2 -/
set_option maxRecDepth 100000
def RX22 : String := "BladeAlgebra$Product$2"
abbrev cX22_takes : ByteArray := prog_22_method_2_code
def yX22_takes : MethodName := ⟨RX22, "takes", "(III)Z"⟩
def dkwX22_takes_0 : List UInt8 := [29, 27, 28, 96, 160, 0, 7, 4, 167, 0, 4, 3, 172]
abbrev dktX22_takes_0 : List UInt8 := dkwX22_takes_0 ++ []
theorem dksX22_takes_0 : cX22_takes.data.toList.drop 0 = dktX22_takes_0 := by decide +kernel
theorem dX22_takes_0 : decode cX22_takes 0 = .ok (.iload_n 3, 1) := dk_29 (dk_at dksX22_takes_0 0 rfl rfl)
theorem dX22_takes_1 : decode cX22_takes 1 = .ok (.iload_n 1, 1) := dk_27 (dk_at dksX22_takes_0 1 rfl rfl)
theorem dX22_takes_2 : decode cX22_takes 2 = .ok (.iload_n 2, 1) := dk_28 (dk_at dksX22_takes_0 2 rfl rfl)
theorem dX22_takes_3 : decode cX22_takes 3 = .ok (.iadd, 1) := dk_96 (dk_at dksX22_takes_0 3 rfl rfl)
theorem dX22_takes_4 : decode cX22_takes 4 = .ok (.if_icmp .ne 7, 3) := dk_160 0 7 (dk_at dksX22_takes_0 4 rfl rfl)
theorem dX22_takes_7 : decode cX22_takes 7 = .ok (.iconst 1, 1) := dk_4 (dk_at dksX22_takes_0 7 rfl rfl)
theorem dX22_takes_8 : decode cX22_takes 8 = .ok (.goto 4, 3) := dk_167 0 4 (dk_at dksX22_takes_0 8 rfl rfl)
theorem dX22_takes_11 : decode cX22_takes 11 = .ok (.iconst 0, 1) := dk_3 (dk_at dksX22_takes_0 11 rfl rfl)
theorem dX22_takes_12 : decode cX22_takes 12 = .ok (.ireturn, 1) := dk_172 (dk_at dksX22_takes_0 12 rfl rfl)
theorem q667 : (Jvm.Cond.selects "BladeAlgebra$Product$2" ({ cls := "BladeAlgebra$Product", name := "takes", desc := "(III)Z" } : Jvm.MethodName) ({ cls := "BladeAlgebra$Product$2", name := "takes", desc := "(III)Z" } : Jvm.MethodName)) ∈ lw_all := lw_g (lw_at lw_m3 92 rfl) rfl
theorem q668 : (Jvm.Cond.instanceMethod ({ cls := "BladeAlgebra$Product$2", name := "takes", desc := "(III)Z" } : Jvm.MethodName)) ∈ lw_all := lw_g (lw_at lw_m3 93 rfl) rfl
theorem q669 : (Jvm.Cond.code ({ cls := "BladeAlgebra$Product$2", name := "takes", desc := "(III)Z" } : Jvm.MethodName) prog_22_method_2_code (4 : Nat) (Option.some Jvm.ClassFile.FieldType.boolean)) ∈ lw_all := lw_g (lw_at lw_m3 94 rfl) rfl
theorem q1669 : (Jvm.Cond.selects "BladeAlgebra$Product$2" ({ cls := "java/lang/Object", name := "getClass", desc := "()Ljava/lang/Class;" } : Jvm.MethodName) ({ cls := "java/lang/Object", name := "getClass", desc := "()Ljava/lang/Class;" } : Jvm.MethodName)) ∈ lw_all := lw_g (lw_at lw_m7 134 rfl) rfl
theorem q2605 : (Jvm.Cond.castable "BladeAlgebra$Product$2" "java/lang/Object") ∈ lw_tbl := lw_at lw_m11 110 rfl
/-! BladeAlgebra$Product$3 -/
set_option maxRecDepth 100000
def RX23 : String := "BladeAlgebra$Product$3"
abbrev cX23_takes : ByteArray := prog_23_method_2_code
def yX23_takes : MethodName := ⟨RX23, "takes", "(III)Z"⟩
def dkwX23_takes_0 : List UInt8 := [29, 28, 27, 100, 160, 0, 7, 4, 167, 0, 4, 3, 172]
abbrev dktX23_takes_0 : List UInt8 := dkwX23_takes_0 ++ []
theorem dksX23_takes_0 : cX23_takes.data.toList.drop 0 = dktX23_takes_0 := by decide +kernel
theorem dX23_takes_0 : decode cX23_takes 0 = .ok (.iload_n 3, 1) := dk_29 (dk_at dksX23_takes_0 0 rfl rfl)
theorem dX23_takes_1 : decode cX23_takes 1 = .ok (.iload_n 2, 1) := dk_28 (dk_at dksX23_takes_0 1 rfl rfl)
theorem dX23_takes_2 : decode cX23_takes 2 = .ok (.iload_n 1, 1) := dk_27 (dk_at dksX23_takes_0 2 rfl rfl)
theorem dX23_takes_3 : decode cX23_takes 3 = .ok (.isub, 1) := dk_100 (dk_at dksX23_takes_0 3 rfl rfl)
theorem dX23_takes_4 : decode cX23_takes 4 = .ok (.if_icmp .ne 7, 3) := dk_160 0 7 (dk_at dksX23_takes_0 4 rfl rfl)
theorem dX23_takes_7 : decode cX23_takes 7 = .ok (.iconst 1, 1) := dk_4 (dk_at dksX23_takes_0 7 rfl rfl)
theorem dX23_takes_8 : decode cX23_takes 8 = .ok (.goto 4, 3) := dk_167 0 4 (dk_at dksX23_takes_0 8 rfl rfl)
theorem dX23_takes_11 : decode cX23_takes 11 = .ok (.iconst 0, 1) := dk_3 (dk_at dksX23_takes_0 11 rfl rfl)
theorem dX23_takes_12 : decode cX23_takes 12 = .ok (.ireturn, 1) := dk_172 (dk_at dksX23_takes_0 12 rfl rfl)
theorem q670 : (Jvm.Cond.selects "BladeAlgebra$Product$3" ({ cls := "BladeAlgebra$Product", name := "takes", desc := "(III)Z" } : Jvm.MethodName) ({ cls := "BladeAlgebra$Product$3", name := "takes", desc := "(III)Z" } : Jvm.MethodName)) ∈ lw_all := lw_g (lw_at lw_m3 95 rfl) rfl
theorem q671 : (Jvm.Cond.instanceMethod ({ cls := "BladeAlgebra$Product$3", name := "takes", desc := "(III)Z" } : Jvm.MethodName)) ∈ lw_all := lw_g (lw_at lw_m3 96 rfl) rfl
theorem q672 : (Jvm.Cond.code ({ cls := "BladeAlgebra$Product$3", name := "takes", desc := "(III)Z" } : Jvm.MethodName) prog_23_method_2_code (4 : Nat) (Option.some Jvm.ClassFile.FieldType.boolean)) ∈ lw_all := lw_g (lw_at lw_m3 97 rfl) rfl
theorem q1670 : (Jvm.Cond.selects "BladeAlgebra$Product$3" ({ cls := "java/lang/Object", name := "getClass", desc := "()Ljava/lang/Class;" } : Jvm.MethodName) ({ cls := "java/lang/Object", name := "getClass", desc := "()Ljava/lang/Class;" } : Jvm.MethodName)) ∈ lw_all := lw_g (lw_at lw_m7 135 rfl) rfl
theorem q2606 : (Jvm.Cond.castable "BladeAlgebra$Product$3" "java/lang/Object") ∈ lw_tbl := lw_at lw_m11 111 rfl
/-! BladeAlgebra$Product$4 -/
set_option maxRecDepth 100000
def RX24 : String := "BladeAlgebra$Product$4"
abbrev cX24_takes : ByteArray := prog_24_method_2_code
def yX24_takes : MethodName := ⟨RX24, "takes", "(III)Z"⟩
def dkwX24_takes_0 : List UInt8 := [29, 27, 28, 100, 160, 0, 7, 4, 167, 0, 4, 3, 172]
abbrev dktX24_takes_0 : List UInt8 := dkwX24_takes_0 ++ []
theorem dksX24_takes_0 : cX24_takes.data.toList.drop 0 = dktX24_takes_0 := by decide +kernel
theorem dX24_takes_0 : decode cX24_takes 0 = .ok (.iload_n 3, 1) := dk_29 (dk_at dksX24_takes_0 0 rfl rfl)
theorem dX24_takes_1 : decode cX24_takes 1 = .ok (.iload_n 1, 1) := dk_27 (dk_at dksX24_takes_0 1 rfl rfl)
theorem dX24_takes_2 : decode cX24_takes 2 = .ok (.iload_n 2, 1) := dk_28 (dk_at dksX24_takes_0 2 rfl rfl)
theorem dX24_takes_3 : decode cX24_takes 3 = .ok (.isub, 1) := dk_100 (dk_at dksX24_takes_0 3 rfl rfl)
theorem dX24_takes_4 : decode cX24_takes 4 = .ok (.if_icmp .ne 7, 3) := dk_160 0 7 (dk_at dksX24_takes_0 4 rfl rfl)
theorem dX24_takes_7 : decode cX24_takes 7 = .ok (.iconst 1, 1) := dk_4 (dk_at dksX24_takes_0 7 rfl rfl)
theorem dX24_takes_8 : decode cX24_takes 8 = .ok (.goto 4, 3) := dk_167 0 4 (dk_at dksX24_takes_0 8 rfl rfl)
theorem dX24_takes_11 : decode cX24_takes 11 = .ok (.iconst 0, 1) := dk_3 (dk_at dksX24_takes_0 11 rfl rfl)
theorem dX24_takes_12 : decode cX24_takes 12 = .ok (.ireturn, 1) := dk_172 (dk_at dksX24_takes_0 12 rfl rfl)
theorem q673 : (Jvm.Cond.selects "BladeAlgebra$Product$4" ({ cls := "BladeAlgebra$Product", name := "takes", desc := "(III)Z" } : Jvm.MethodName) ({ cls := "BladeAlgebra$Product$4", name := "takes", desc := "(III)Z" } : Jvm.MethodName)) ∈ lw_all := lw_g (lw_at lw_m3 98 rfl) rfl
theorem q674 : (Jvm.Cond.instanceMethod ({ cls := "BladeAlgebra$Product$4", name := "takes", desc := "(III)Z" } : Jvm.MethodName)) ∈ lw_all := lw_g (lw_at lw_m3 99 rfl) rfl
theorem q675 : (Jvm.Cond.code ({ cls := "BladeAlgebra$Product$4", name := "takes", desc := "(III)Z" } : Jvm.MethodName) prog_24_method_2_code (4 : Nat) (Option.some Jvm.ClassFile.FieldType.boolean)) ∈ lw_all := lw_g (lw_at lw_m3 100 rfl) rfl
theorem q1671 : (Jvm.Cond.selects "BladeAlgebra$Product$4" ({ cls := "java/lang/Object", name := "getClass", desc := "()Ljava/lang/Class;" } : Jvm.MethodName) ({ cls := "java/lang/Object", name := "getClass", desc := "()Ljava/lang/Class;" } : Jvm.MethodName)) ∈ lw_all := lw_g (lw_at lw_m7 136 rfl) rfl
theorem q2607 : (Jvm.Cond.castable "BladeAlgebra$Product$4" "java/lang/Object") ∈ lw_tbl := lw_at lw_m11 112 rfl
/-! BladeAlgebra$Product$5 -/
set_option maxRecDepth 100000
def RX25 : String := "BladeAlgebra$Product$5"
abbrev cX25_takes : ByteArray := prog_25_method_2_code
def yX25_takes : MethodName := ⟨RX25, "takes", "(III)Z"⟩
def dkwX25_takes_0 : List UInt8 := [29, 154, 0, 7, 4, 167, 0, 4, 3, 172]
abbrev dktX25_takes_0 : List UInt8 := dkwX25_takes_0 ++ []
theorem dksX25_takes_0 : cX25_takes.data.toList.drop 0 = dktX25_takes_0 := by decide +kernel
theorem dX25_takes_0 : decode cX25_takes 0 = .ok (.iload_n 3, 1) := dk_29 (dk_at dksX25_takes_0 0 rfl rfl)
theorem dX25_takes_1 : decode cX25_takes 1 = .ok (.ifCond .ne 7, 3) := dk_154 0 7 (dk_at dksX25_takes_0 1 rfl rfl)
theorem dX25_takes_4 : decode cX25_takes 4 = .ok (.iconst 1, 1) := dk_4 (dk_at dksX25_takes_0 4 rfl rfl)
theorem dX25_takes_5 : decode cX25_takes 5 = .ok (.goto 4, 3) := dk_167 0 4 (dk_at dksX25_takes_0 5 rfl rfl)
theorem dX25_takes_8 : decode cX25_takes 8 = .ok (.iconst 0, 1) := dk_3 (dk_at dksX25_takes_0 8 rfl rfl)
theorem dX25_takes_9 : decode cX25_takes 9 = .ok (.ireturn, 1) := dk_172 (dk_at dksX25_takes_0 9 rfl rfl)
theorem q676 : (Jvm.Cond.selects "BladeAlgebra$Product$5" ({ cls := "BladeAlgebra$Product", name := "takes", desc := "(III)Z" } : Jvm.MethodName) ({ cls := "BladeAlgebra$Product$5", name := "takes", desc := "(III)Z" } : Jvm.MethodName)) ∈ lw_all := lw_g (lw_at lw_m3 101 rfl) rfl
theorem q677 : (Jvm.Cond.instanceMethod ({ cls := "BladeAlgebra$Product$5", name := "takes", desc := "(III)Z" } : Jvm.MethodName)) ∈ lw_all := lw_g (lw_at lw_m3 102 rfl) rfl
theorem q678 : (Jvm.Cond.code ({ cls := "BladeAlgebra$Product$5", name := "takes", desc := "(III)Z" } : Jvm.MethodName) prog_25_method_2_code (4 : Nat) (Option.some Jvm.ClassFile.FieldType.boolean)) ∈ lw_all := lw_g (lw_at lw_m3 103 rfl) rfl
theorem q1672 : (Jvm.Cond.selects "BladeAlgebra$Product$5" ({ cls := "java/lang/Object", name := "getClass", desc := "()Ljava/lang/Class;" } : Jvm.MethodName) ({ cls := "java/lang/Object", name := "getClass", desc := "()Ljava/lang/Class;" } : Jvm.MethodName)) ∈ lw_all := lw_g (lw_at lw_m7 137 rfl) rfl
theorem q2608 : (Jvm.Cond.castable "BladeAlgebra$Product$5" "java/lang/Object") ∈ lw_tbl := lw_at lw_m11 113 rfl
/-! BladeAlgebra$Two$4 -/
set_option maxRecDepth 100000
def RX26 : String := "BladeAlgebra$Two$4"
abbrev cX26_of : ByteArray := prog_32_method_2_code
def yX26_of : MethodName := ⟨RX26, "of", "(LBladeAlgebra$Algebra;LBladeAlgebra$Multi;LBladeAlgebra$Multi;)LBladeAlgebra$Multi;"⟩
def dkwX26_of_0 : List UInt8 := [43, 44, 45, 178, 0, 7, 182, 0, 13, 176]
abbrev dktX26_of_0 : List UInt8 := dkwX26_of_0 ++ []
theorem dksX26_of_0 : cX26_of.data.toList.drop 0 = dktX26_of_0 := by decide +kernel
theorem dX26_of_0 : decode cX26_of 0 = .ok (.aload_n 1, 1) := dk_43 (dk_at dksX26_of_0 0 rfl rfl)
theorem dX26_of_1 : decode cX26_of 1 = .ok (.aload_n 2, 1) := dk_44 (dk_at dksX26_of_0 1 rfl rfl)
theorem dX26_of_2 : decode cX26_of 2 = .ok (.aload_n 3, 1) := dk_45 (dk_at dksX26_of_0 2 rfl rfl)
theorem dX26_of_3 : decode cX26_of 3 = .ok (.getstatic 7, 3) := dk_178 0 7 (dk_at dksX26_of_0 3 rfl rfl)
theorem dX26_of_6 : decode cX26_of 6 = .ok (.invokevirtual 13, 3) := dk_182 0 13 (dk_at dksX26_of_0 6 rfl rfl)
theorem dX26_of_9 : decode cX26_of 9 = .ok (.areturn, 1) := dk_176 (dk_at dksX26_of_0 9 rfl rfl)
theorem q680 : (Jvm.Cond.selects "BladeAlgebra$Two$4" ({ cls := "BladeAlgebra$Two", name := "of", desc := "(LBladeAlgebra$Algebra;LBladeAlgebra$Multi;LBladeAlgebra$Multi;)LBladeAlgebra$Multi;" } : Jvm.MethodName) ({ cls := "BladeAlgebra$Two$4", name := "of", desc := "(LBladeAlgebra$Algebra;LBladeAlgebra$Multi;LBladeAlgebra$Multi;)LBladeAlgebra$Multi;" } : Jvm.MethodName)) ∈ lw_all := lw_g (lw_at lw_m3 105 rfl) rfl
theorem q681 : (Jvm.Cond.instanceMethod ({ cls := "BladeAlgebra$Two$4", name := "of", desc := "(LBladeAlgebra$Algebra;LBladeAlgebra$Multi;LBladeAlgebra$Multi;)LBladeAlgebra$Multi;" } : Jvm.MethodName)) ∈ lw_all := lw_g (lw_at lw_m3 106 rfl) rfl
theorem q682 : (Jvm.Cond.code ({ cls := "BladeAlgebra$Two$4", name := "of", desc := "(LBladeAlgebra$Algebra;LBladeAlgebra$Multi;LBladeAlgebra$Multi;)LBladeAlgebra$Multi;" } : Jvm.MethodName) prog_32_method_2_code (4 : Nat) (Option.some (Jvm.ClassFile.FieldType.object "BladeAlgebra$Multi"))) ∈ lw_all := lw_g (lw_at lw_m3 107 rfl) rfl
theorem q683 : (Jvm.Cond.fieldLink "BladeAlgebra$Two$4" (7 : Nat) "BladeAlgebra$Product" "OUTER" "LBladeAlgebra$Product;") ∈ lw_all := lw_g (lw_at lw_m3 108 rfl) rfl
theorem q685 : (Jvm.Cond.methodLink "BladeAlgebra$Two$4" (13 : Nat) ({ cls := "BladeAlgebra$Algebra", name := "product", desc := "(LBladeAlgebra$Multi;LBladeAlgebra$Multi;LBladeAlgebra$Product;)LBladeAlgebra$Multi;" } : Jvm.MethodName)) ∈ lw_all := lw_g (lw_at lw_m3 110 rfl) rfl
theorem q1678 : (Jvm.Cond.selects "BladeAlgebra$Two$4" ({ cls := "java/lang/Object", name := "getClass", desc := "()Ljava/lang/Class;" } : Jvm.MethodName) ({ cls := "java/lang/Object", name := "getClass", desc := "()Ljava/lang/Class;" } : Jvm.MethodName)) ∈ lw_all := lw_g (lw_at lw_m7 143 rfl) rfl
theorem q2565 : (Jvm.Cond.castable "BladeAlgebra$Two$4" "BladeAlgebra$Two") ∈ lw_tbl := lw_at lw_m11 70 rfl
theorem q2579 : (Jvm.Cond.castable "BladeAlgebra$Two$4" "java/lang/Object") ∈ lw_tbl := lw_at lw_m11 84 rfl
/-! BladeAlgebra$Two$5 -/
set_option maxRecDepth 100000
def RX27 : String := "BladeAlgebra$Two$5"
abbrev cX27_of : ByteArray := prog_33_method_2_code
def yX27_of : MethodName := ⟨RX27, "of", "(LBladeAlgebra$Algebra;LBladeAlgebra$Multi;LBladeAlgebra$Multi;)LBladeAlgebra$Multi;"⟩
def dkwX27_of_0 : List UInt8 := [43, 44, 45, 178, 0, 7, 182, 0, 13, 176]
abbrev dktX27_of_0 : List UInt8 := dkwX27_of_0 ++ []
theorem dksX27_of_0 : cX27_of.data.toList.drop 0 = dktX27_of_0 := by decide +kernel
theorem dX27_of_0 : decode cX27_of 0 = .ok (.aload_n 1, 1) := dk_43 (dk_at dksX27_of_0 0 rfl rfl)
theorem dX27_of_1 : decode cX27_of 1 = .ok (.aload_n 2, 1) := dk_44 (dk_at dksX27_of_0 1 rfl rfl)
theorem dX27_of_2 : decode cX27_of 2 = .ok (.aload_n 3, 1) := dk_45 (dk_at dksX27_of_0 2 rfl rfl)
theorem dX27_of_3 : decode cX27_of 3 = .ok (.getstatic 7, 3) := dk_178 0 7 (dk_at dksX27_of_0 3 rfl rfl)
theorem dX27_of_6 : decode cX27_of 6 = .ok (.invokevirtual 13, 3) := dk_182 0 13 (dk_at dksX27_of_0 6 rfl rfl)
theorem dX27_of_9 : decode cX27_of 9 = .ok (.areturn, 1) := dk_176 (dk_at dksX27_of_0 9 rfl rfl)
theorem q686 : (Jvm.Cond.selects "BladeAlgebra$Two$5" ({ cls := "BladeAlgebra$Two", name := "of", desc := "(LBladeAlgebra$Algebra;LBladeAlgebra$Multi;LBladeAlgebra$Multi;)LBladeAlgebra$Multi;" } : Jvm.MethodName) ({ cls := "BladeAlgebra$Two$5", name := "of", desc := "(LBladeAlgebra$Algebra;LBladeAlgebra$Multi;LBladeAlgebra$Multi;)LBladeAlgebra$Multi;" } : Jvm.MethodName)) ∈ lw_all := lw_g (lw_at lw_m3 111 rfl) rfl
theorem q687 : (Jvm.Cond.instanceMethod ({ cls := "BladeAlgebra$Two$5", name := "of", desc := "(LBladeAlgebra$Algebra;LBladeAlgebra$Multi;LBladeAlgebra$Multi;)LBladeAlgebra$Multi;" } : Jvm.MethodName)) ∈ lw_all := lw_g (lw_at lw_m3 112 rfl) rfl
theorem q688 : (Jvm.Cond.code ({ cls := "BladeAlgebra$Two$5", name := "of", desc := "(LBladeAlgebra$Algebra;LBladeAlgebra$Multi;LBladeAlgebra$Multi;)LBladeAlgebra$Multi;" } : Jvm.MethodName) prog_33_method_2_code (4 : Nat) (Option.some (Jvm.ClassFile.FieldType.object "BladeAlgebra$Multi"))) ∈ lw_all := lw_g (lw_at lw_m3 113 rfl) rfl
theorem q689 : (Jvm.Cond.fieldLink "BladeAlgebra$Two$5" (7 : Nat) "BladeAlgebra$Product" "LEFT" "LBladeAlgebra$Product;") ∈ lw_all := lw_g (lw_at lw_m3 114 rfl) rfl
theorem q691 : (Jvm.Cond.methodLink "BladeAlgebra$Two$5" (13 : Nat) ({ cls := "BladeAlgebra$Algebra", name := "product", desc := "(LBladeAlgebra$Multi;LBladeAlgebra$Multi;LBladeAlgebra$Product;)LBladeAlgebra$Multi;" } : Jvm.MethodName)) ∈ lw_all := lw_g (lw_at lw_m3 116 rfl) rfl
theorem q1679 : (Jvm.Cond.selects "BladeAlgebra$Two$5" ({ cls := "java/lang/Object", name := "getClass", desc := "()Ljava/lang/Class;" } : Jvm.MethodName) ({ cls := "java/lang/Object", name := "getClass", desc := "()Ljava/lang/Class;" } : Jvm.MethodName)) ∈ lw_all := lw_g (lw_at lw_m7 144 rfl) rfl
theorem q2566 : (Jvm.Cond.castable "BladeAlgebra$Two$5" "BladeAlgebra$Two") ∈ lw_tbl := lw_at lw_m11 71 rfl
theorem q2580 : (Jvm.Cond.castable "BladeAlgebra$Two$5" "java/lang/Object") ∈ lw_tbl := lw_at lw_m11 85 rfl
/-! BladeAlgebra$Two$6 -/
set_option maxRecDepth 100000
def RX28 : String := "BladeAlgebra$Two$6"
abbrev cX28_of : ByteArray := prog_34_method_2_code
def yX28_of : MethodName := ⟨RX28, "of", "(LBladeAlgebra$Algebra;LBladeAlgebra$Multi;LBladeAlgebra$Multi;)LBladeAlgebra$Multi;"⟩
def dkwX28_of_0 : List UInt8 := [43, 44, 45, 178, 0, 7, 182, 0, 13, 176]
abbrev dktX28_of_0 : List UInt8 := dkwX28_of_0 ++ []
theorem dksX28_of_0 : cX28_of.data.toList.drop 0 = dktX28_of_0 := by decide +kernel
theorem dX28_of_0 : decode cX28_of 0 = .ok (.aload_n 1, 1) := dk_43 (dk_at dksX28_of_0 0 rfl rfl)
theorem dX28_of_1 : decode cX28_of 1 = .ok (.aload_n 2, 1) := dk_44 (dk_at dksX28_of_0 1 rfl rfl)
theorem dX28_of_2 : decode cX28_of 2 = .ok (.aload_n 3, 1) := dk_45 (dk_at dksX28_of_0 2 rfl rfl)
theorem dX28_of_3 : decode cX28_of 3 = .ok (.getstatic 7, 3) := dk_178 0 7 (dk_at dksX28_of_0 3 rfl rfl)
theorem dX28_of_6 : decode cX28_of 6 = .ok (.invokevirtual 13, 3) := dk_182 0 13 (dk_at dksX28_of_0 6 rfl rfl)
theorem dX28_of_9 : decode cX28_of 9 = .ok (.areturn, 1) := dk_176 (dk_at dksX28_of_0 9 rfl rfl)
theorem q692 : (Jvm.Cond.selects "BladeAlgebra$Two$6" ({ cls := "BladeAlgebra$Two", name := "of", desc := "(LBladeAlgebra$Algebra;LBladeAlgebra$Multi;LBladeAlgebra$Multi;)LBladeAlgebra$Multi;" } : Jvm.MethodName) ({ cls := "BladeAlgebra$Two$6", name := "of", desc := "(LBladeAlgebra$Algebra;LBladeAlgebra$Multi;LBladeAlgebra$Multi;)LBladeAlgebra$Multi;" } : Jvm.MethodName)) ∈ lw_all := lw_g (lw_at lw_m3 117 rfl) rfl
theorem q693 : (Jvm.Cond.instanceMethod ({ cls := "BladeAlgebra$Two$6", name := "of", desc := "(LBladeAlgebra$Algebra;LBladeAlgebra$Multi;LBladeAlgebra$Multi;)LBladeAlgebra$Multi;" } : Jvm.MethodName)) ∈ lw_all := lw_g (lw_at lw_m3 118 rfl) rfl
theorem q694 : (Jvm.Cond.code ({ cls := "BladeAlgebra$Two$6", name := "of", desc := "(LBladeAlgebra$Algebra;LBladeAlgebra$Multi;LBladeAlgebra$Multi;)LBladeAlgebra$Multi;" } : Jvm.MethodName) prog_34_method_2_code (4 : Nat) (Option.some (Jvm.ClassFile.FieldType.object "BladeAlgebra$Multi"))) ∈ lw_all := lw_g (lw_at lw_m3 119 rfl) rfl
theorem q695 : (Jvm.Cond.fieldLink "BladeAlgebra$Two$6" (7 : Nat) "BladeAlgebra$Product" "RIGHT" "LBladeAlgebra$Product;") ∈ lw_all := lw_g (lw_at lw_m3 120 rfl) rfl
theorem q697 : (Jvm.Cond.methodLink "BladeAlgebra$Two$6" (13 : Nat) ({ cls := "BladeAlgebra$Algebra", name := "product", desc := "(LBladeAlgebra$Multi;LBladeAlgebra$Multi;LBladeAlgebra$Product;)LBladeAlgebra$Multi;" } : Jvm.MethodName)) ∈ lw_all := lw_g (lw_at lw_m3 122 rfl) rfl
theorem q1680 : (Jvm.Cond.selects "BladeAlgebra$Two$6" ({ cls := "java/lang/Object", name := "getClass", desc := "()Ljava/lang/Class;" } : Jvm.MethodName) ({ cls := "java/lang/Object", name := "getClass", desc := "()Ljava/lang/Class;" } : Jvm.MethodName)) ∈ lw_all := lw_g (lw_at lw_m7 145 rfl) rfl
theorem q2567 : (Jvm.Cond.castable "BladeAlgebra$Two$6" "BladeAlgebra$Two") ∈ lw_tbl := lw_at lw_m11 72 rfl
theorem q2581 : (Jvm.Cond.castable "BladeAlgebra$Two$6" "java/lang/Object") ∈ lw_tbl := lw_at lw_m11 86 rfl
/-! BladeAlgebra$Two$7 -/
set_option maxRecDepth 100000
def RX29 : String := "BladeAlgebra$Two$7"
abbrev cX29_of : ByteArray := prog_35_method_2_code
def yX29_of : MethodName := ⟨RX29, "of", "(LBladeAlgebra$Algebra;LBladeAlgebra$Multi;LBladeAlgebra$Multi;)LBladeAlgebra$Multi;"⟩
def dkwX29_of_0 : List UInt8 := [43, 44, 45, 178, 0, 7, 182, 0, 13, 176]
abbrev dktX29_of_0 : List UInt8 := dkwX29_of_0 ++ []
theorem dksX29_of_0 : cX29_of.data.toList.drop 0 = dktX29_of_0 := by decide +kernel
theorem dX29_of_0 : decode cX29_of 0 = .ok (.aload_n 1, 1) := dk_43 (dk_at dksX29_of_0 0 rfl rfl)
theorem dX29_of_1 : decode cX29_of 1 = .ok (.aload_n 2, 1) := dk_44 (dk_at dksX29_of_0 1 rfl rfl)
theorem dX29_of_2 : decode cX29_of 2 = .ok (.aload_n 3, 1) := dk_45 (dk_at dksX29_of_0 2 rfl rfl)
theorem dX29_of_3 : decode cX29_of 3 = .ok (.getstatic 7, 3) := dk_178 0 7 (dk_at dksX29_of_0 3 rfl rfl)
theorem dX29_of_6 : decode cX29_of 6 = .ok (.invokevirtual 13, 3) := dk_182 0 13 (dk_at dksX29_of_0 6 rfl rfl)
theorem dX29_of_9 : decode cX29_of 9 = .ok (.areturn, 1) := dk_176 (dk_at dksX29_of_0 9 rfl rfl)
theorem q698 : (Jvm.Cond.selects "BladeAlgebra$Two$7" ({ cls := "BladeAlgebra$Two", name := "of", desc := "(LBladeAlgebra$Algebra;LBladeAlgebra$Multi;LBladeAlgebra$Multi;)LBladeAlgebra$Multi;" } : Jvm.MethodName) ({ cls := "BladeAlgebra$Two$7", name := "of", desc := "(LBladeAlgebra$Algebra;LBladeAlgebra$Multi;LBladeAlgebra$Multi;)LBladeAlgebra$Multi;" } : Jvm.MethodName)) ∈ lw_all := lw_g (lw_at lw_m3 123 rfl) rfl
theorem q699 : (Jvm.Cond.instanceMethod ({ cls := "BladeAlgebra$Two$7", name := "of", desc := "(LBladeAlgebra$Algebra;LBladeAlgebra$Multi;LBladeAlgebra$Multi;)LBladeAlgebra$Multi;" } : Jvm.MethodName)) ∈ lw_all := lw_g (lw_at lw_m3 124 rfl) rfl
theorem q700 : (Jvm.Cond.code ({ cls := "BladeAlgebra$Two$7", name := "of", desc := "(LBladeAlgebra$Algebra;LBladeAlgebra$Multi;LBladeAlgebra$Multi;)LBladeAlgebra$Multi;" } : Jvm.MethodName) prog_35_method_2_code (4 : Nat) (Option.some (Jvm.ClassFile.FieldType.object "BladeAlgebra$Multi"))) ∈ lw_all := lw_g (lw_at lw_m3 125 rfl) rfl
theorem q701 : (Jvm.Cond.fieldLink "BladeAlgebra$Two$7" (7 : Nat) "BladeAlgebra$Product" "SCALAR" "LBladeAlgebra$Product;") ∈ lw_all := lw_g (lw_at lw_m3 126 rfl) rfl
theorem q703 : (Jvm.Cond.methodLink "BladeAlgebra$Two$7" (13 : Nat) ({ cls := "BladeAlgebra$Algebra", name := "product", desc := "(LBladeAlgebra$Multi;LBladeAlgebra$Multi;LBladeAlgebra$Product;)LBladeAlgebra$Multi;" } : Jvm.MethodName)) ∈ lw_all := lw_g (lw_at lw_m3 128 rfl) rfl
theorem q1681 : (Jvm.Cond.selects "BladeAlgebra$Two$7" ({ cls := "java/lang/Object", name := "getClass", desc := "()Ljava/lang/Class;" } : Jvm.MethodName) ({ cls := "java/lang/Object", name := "getClass", desc := "()Ljava/lang/Class;" } : Jvm.MethodName)) ∈ lw_all := lw_g (lw_at lw_m7 146 rfl) rfl
theorem q2568 : (Jvm.Cond.castable "BladeAlgebra$Two$7" "BladeAlgebra$Two") ∈ lw_tbl := lw_at lw_m11 73 rfl
theorem q2582 : (Jvm.Cond.castable "BladeAlgebra$Two$7" "java/lang/Object") ∈ lw_tbl := lw_at lw_m11 87 rfl
/-! BladeAlgebra$Two$8 -/
set_option maxRecDepth 100000
def RX30 : String := "BladeAlgebra$Two$8"
abbrev cX30_of : ByteArray := prog_36_method_2_code
def yX30_of : MethodName := ⟨RX30, "of", "(LBladeAlgebra$Algebra;LBladeAlgebra$Multi;LBladeAlgebra$Multi;)LBladeAlgebra$Multi;"⟩
def dkwX30_of_1 : List UInt8 := [176]
abbrev dktX30_of_1 : List UInt8 := dkwX30_of_1 ++ []
def dkwX30_of_0 : List UInt8 := [43, 43, 43, 44, 3, 182, 0, 7, 43, 45, 3, 182, 0, 7, 178, 0, 13, 182, 0, 19, 4, 182, 0, 7]
abbrev dktX30_of_0 : List UInt8 := dkwX30_of_0 ++ dktX30_of_1
theorem dksX30_of_0 : cX30_of.data.toList.drop 0 = dktX30_of_0 := by decide +kernel
theorem dksX30_of_1 : cX30_of.data.toList.drop 24 = dktX30_of_1 := dk_seg dksX30_of_0 24 rfl rfl
theorem dX30_of_0 : decode cX30_of 0 = .ok (.aload_n 1, 1) := dk_43 (dk_at dksX30_of_0 0 rfl rfl)
theorem dX30_of_1 : decode cX30_of 1 = .ok (.aload_n 1, 1) := dk_43 (dk_at dksX30_of_0 1 rfl rfl)
theorem dX30_of_2 : decode cX30_of 2 = .ok (.aload_n 1, 1) := dk_43 (dk_at dksX30_of_0 2 rfl rfl)
theorem dX30_of_3 : decode cX30_of 3 = .ok (.aload_n 2, 1) := dk_44 (dk_at dksX30_of_0 3 rfl rfl)
theorem dX30_of_4 : decode cX30_of 4 = .ok (.iconst 0, 1) := dk_3 (dk_at dksX30_of_0 4 rfl rfl)
theorem dX30_of_5 : decode cX30_of 5 = .ok (.invokevirtual 7, 3) := dk_182 0 7 (dk_at dksX30_of_0 5 rfl rfl)
theorem dX30_of_8 : decode cX30_of 8 = .ok (.aload_n 1, 1) := dk_43 (dk_at dksX30_of_0 8 rfl rfl)
theorem dX30_of_9 : decode cX30_of 9 = .ok (.aload_n 3, 1) := dk_45 (dk_at dksX30_of_0 9 rfl rfl)
theorem dX30_of_10 : decode cX30_of 10 = .ok (.iconst 0, 1) := dk_3 (dk_at dksX30_of_0 10 rfl rfl)
theorem dX30_of_11 : decode cX30_of 11 = .ok (.invokevirtual 7, 3) := dk_182 0 7 (dk_at dksX30_of_0 11 rfl rfl)
theorem dX30_of_14 : decode cX30_of 14 = .ok (.getstatic 13, 3) := dk_178 0 13 (dk_at dksX30_of_0 14 rfl rfl)
theorem dX30_of_17 : decode cX30_of 17 = .ok (.invokevirtual 19, 3) := dk_182 0 19 (dk_at dksX30_of_0 17 rfl rfl)
theorem dX30_of_20 : decode cX30_of 20 = .ok (.iconst 1, 1) := dk_4 (dk_at dksX30_of_0 20 rfl rfl)
theorem dX30_of_21 : decode cX30_of 21 = .ok (.invokevirtual 7, 3) := dk_182 0 7 (dk_at dksX30_of_0 21 rfl rfl)
theorem dX30_of_24 : decode cX30_of 24 = .ok (.areturn, 1) := dk_176 (dk_at dksX30_of_1 0 rfl rfl)
theorem q704 : (Jvm.Cond.selects "BladeAlgebra$Two$8" ({ cls := "BladeAlgebra$Two", name := "of", desc := "(LBladeAlgebra$Algebra;LBladeAlgebra$Multi;LBladeAlgebra$Multi;)LBladeAlgebra$Multi;" } : Jvm.MethodName) ({ cls := "BladeAlgebra$Two$8", name := "of", desc := "(LBladeAlgebra$Algebra;LBladeAlgebra$Multi;LBladeAlgebra$Multi;)LBladeAlgebra$Multi;" } : Jvm.MethodName)) ∈ lw_all := lw_g (lw_at lw_m3 129 rfl) rfl
theorem q705 : (Jvm.Cond.instanceMethod ({ cls := "BladeAlgebra$Two$8", name := "of", desc := "(LBladeAlgebra$Algebra;LBladeAlgebra$Multi;LBladeAlgebra$Multi;)LBladeAlgebra$Multi;" } : Jvm.MethodName)) ∈ lw_all := lw_g (lw_at lw_m3 130 rfl) rfl
theorem q706 : (Jvm.Cond.code ({ cls := "BladeAlgebra$Two$8", name := "of", desc := "(LBladeAlgebra$Algebra;LBladeAlgebra$Multi;LBladeAlgebra$Multi;)LBladeAlgebra$Multi;" } : Jvm.MethodName) prog_36_method_2_code (4 : Nat) (Option.some (Jvm.ClassFile.FieldType.object "BladeAlgebra$Multi"))) ∈ lw_all := lw_g (lw_at lw_m3 131 rfl) rfl
theorem q707 : (Jvm.Cond.methodLink "BladeAlgebra$Two$8" (7 : Nat) ({ cls := "BladeAlgebra$Algebra", name := "complement", desc := "(LBladeAlgebra$Multi;Z)LBladeAlgebra$Multi;" } : Jvm.MethodName)) ∈ lw_all := lw_g (lw_at lw_m3 132 rfl) rfl
theorem q719 : (Jvm.Cond.fieldLink "BladeAlgebra$Two$8" (13 : Nat) "BladeAlgebra$Product" "OUTER" "LBladeAlgebra$Product;") ∈ lw_all := lw_g (lw_at lw_m3 144 rfl) rfl
theorem q720 : (Jvm.Cond.methodLink "BladeAlgebra$Two$8" (19 : Nat) ({ cls := "BladeAlgebra$Algebra", name := "product", desc := "(LBladeAlgebra$Multi;LBladeAlgebra$Multi;LBladeAlgebra$Product;)LBladeAlgebra$Multi;" } : Jvm.MethodName)) ∈ lw_all := lw_g (lw_at lw_m3 145 rfl) rfl
theorem q1682 : (Jvm.Cond.selects "BladeAlgebra$Two$8" ({ cls := "java/lang/Object", name := "getClass", desc := "()Ljava/lang/Class;" } : Jvm.MethodName) ({ cls := "java/lang/Object", name := "getClass", desc := "()Ljava/lang/Class;" } : Jvm.MethodName)) ∈ lw_all := lw_g (lw_at lw_m7 147 rfl) rfl
theorem q2569 : (Jvm.Cond.castable "BladeAlgebra$Two$8" "BladeAlgebra$Two") ∈ lw_tbl := lw_at lw_m11 74 rfl
theorem q2583 : (Jvm.Cond.castable "BladeAlgebra$Two$8" "java/lang/Object") ∈ lw_tbl := lw_at lw_m11 88 rfl
/-! BladeAlgebra$Two$9 -/
set_option maxRecDepth 100000
def RX31 : String := "BladeAlgebra$Two$9"
abbrev cX31_of : ByteArray := prog_37_method_2_code
def yX31_of : MethodName := ⟨RX31, "of", "(LBladeAlgebra$Algebra;LBladeAlgebra$Multi;LBladeAlgebra$Multi;)LBladeAlgebra$Multi;"⟩
def dkwX31_of_0 : List UInt8 := [43, 44, 45, 182, 0, 7, 43, 45, 44, 182, 0, 7, 2, 182, 0, 13, 10, 20, 0, 19, 182, 0, 21, 176]
abbrev dktX31_of_0 : List UInt8 := dkwX31_of_0 ++ []
theorem dksX31_of_0 : cX31_of.data.toList.drop 0 = dktX31_of_0 := by decide +kernel
theorem dX31_of_0 : decode cX31_of 0 = .ok (.aload_n 1, 1) := dk_43 (dk_at dksX31_of_0 0 rfl rfl)
theorem dX31_of_1 : decode cX31_of 1 = .ok (.aload_n 2, 1) := dk_44 (dk_at dksX31_of_0 1 rfl rfl)
theorem dX31_of_2 : decode cX31_of 2 = .ok (.aload_n 3, 1) := dk_45 (dk_at dksX31_of_0 2 rfl rfl)
theorem dX31_of_3 : decode cX31_of 3 = .ok (.invokevirtual 7, 3) := dk_182 0 7 (dk_at dksX31_of_0 3 rfl rfl)
theorem dX31_of_6 : decode cX31_of 6 = .ok (.aload_n 1, 1) := dk_43 (dk_at dksX31_of_0 6 rfl rfl)
theorem dX31_of_7 : decode cX31_of 7 = .ok (.aload_n 3, 1) := dk_45 (dk_at dksX31_of_0 7 rfl rfl)
theorem dX31_of_8 : decode cX31_of 8 = .ok (.aload_n 2, 1) := dk_44 (dk_at dksX31_of_0 8 rfl rfl)
theorem dX31_of_9 : decode cX31_of 9 = .ok (.invokevirtual 7, 3) := dk_182 0 7 (dk_at dksX31_of_0 9 rfl rfl)
theorem dX31_of_12 : decode cX31_of 12 = .ok (.iconst (-1), 1) := dk_2 (dk_at dksX31_of_0 12 rfl rfl)
theorem dX31_of_13 : decode cX31_of 13 = .ok (.invokevirtual 13, 3) := dk_182 0 13 (dk_at dksX31_of_0 13 rfl rfl)
theorem dX31_of_16 : decode cX31_of 16 = .ok (.lconst 1, 1) := dk_10 (dk_at dksX31_of_0 16 rfl rfl)
theorem dX31_of_17 : decode cX31_of 17 = .ok (.ldc2_w 19, 3) := dk_20 0 19 (dk_at dksX31_of_0 17 rfl rfl)
theorem dX31_of_20 : decode cX31_of 20 = .ok (.invokevirtual 21, 3) := dk_182 0 21 (dk_at dksX31_of_0 20 rfl rfl)
theorem dX31_of_23 : decode cX31_of 23 = .ok (.areturn, 1) := dk_176 (dk_at dksX31_of_0 23 rfl rfl)
theorem q721 : (Jvm.Cond.selects "BladeAlgebra$Two$9" ({ cls := "BladeAlgebra$Two", name := "of", desc := "(LBladeAlgebra$Algebra;LBladeAlgebra$Multi;LBladeAlgebra$Multi;)LBladeAlgebra$Multi;" } : Jvm.MethodName) ({ cls := "BladeAlgebra$Two$9", name := "of", desc := "(LBladeAlgebra$Algebra;LBladeAlgebra$Multi;LBladeAlgebra$Multi;)LBladeAlgebra$Multi;" } : Jvm.MethodName)) ∈ lw_all := lw_g (lw_at lw_m3 146 rfl) rfl
theorem q722 : (Jvm.Cond.instanceMethod ({ cls := "BladeAlgebra$Two$9", name := "of", desc := "(LBladeAlgebra$Algebra;LBladeAlgebra$Multi;LBladeAlgebra$Multi;)LBladeAlgebra$Multi;" } : Jvm.MethodName)) ∈ lw_all := lw_g (lw_at lw_m3 147 rfl) rfl
theorem q723 : (Jvm.Cond.code ({ cls := "BladeAlgebra$Two$9", name := "of", desc := "(LBladeAlgebra$Algebra;LBladeAlgebra$Multi;LBladeAlgebra$Multi;)LBladeAlgebra$Multi;" } : Jvm.MethodName) prog_37_method_2_code (4 : Nat) (Option.some (Jvm.ClassFile.FieldType.object "BladeAlgebra$Multi"))) ∈ lw_all := lw_g (lw_at lw_m3 148 rfl) rfl
theorem q724 : (Jvm.Cond.methodLink "BladeAlgebra$Two$9" (7 : Nat) ({ cls := "BladeAlgebra$Algebra", name := "product", desc := "(LBladeAlgebra$Multi;LBladeAlgebra$Multi;)LBladeAlgebra$Multi;" } : Jvm.MethodName)) ∈ lw_all := lw_g (lw_at lw_m3 149 rfl) rfl
theorem q725 : (Jvm.Cond.methodLink "BladeAlgebra$Two$9" (13 : Nat) ({ cls := "BladeAlgebra$Multi", name := "plus", desc := "(LBladeAlgebra$Multi;I)LBladeAlgebra$Multi;" } : Jvm.MethodName)) ∈ lw_all := lw_g (lw_at lw_m3 150 rfl) rfl
theorem q726 : (Jvm.Cond.constantLong "BladeAlgebra$Two$9" (19 : Nat) (2 : Int64)) ∈ lw_all := lw_g (lw_at lw_m3 151 rfl) rfl
theorem q727 : (Jvm.Cond.methodLink "BladeAlgebra$Two$9" (21 : Nat) ({ cls := "BladeAlgebra$Multi", name := "times", desc := "(JJ)LBladeAlgebra$Multi;" } : Jvm.MethodName)) ∈ lw_all := lw_g (lw_at lw_m3 152 rfl) rfl
theorem q1683 : (Jvm.Cond.selects "BladeAlgebra$Two$9" ({ cls := "java/lang/Object", name := "getClass", desc := "()Ljava/lang/Class;" } : Jvm.MethodName) ({ cls := "java/lang/Object", name := "getClass", desc := "()Ljava/lang/Class;" } : Jvm.MethodName)) ∈ lw_all := lw_g (lw_at lw_m7 148 rfl) rfl
theorem q2570 : (Jvm.Cond.castable "BladeAlgebra$Two$9" "BladeAlgebra$Two") ∈ lw_tbl := lw_at lw_m11 75 rfl
theorem q2584 : (Jvm.Cond.castable "BladeAlgebra$Two$9" "java/lang/Object") ∈ lw_tbl := lw_at lw_m11 89 rfl
/-! BladeAlgebra$One$1 -/
set_option maxRecDepth 100000
def RX32 : String := "BladeAlgebra$One$1"
abbrev cX32_of : ByteArray := prog_10_method_2_code
def yX32_of : MethodName := ⟨RX32, "of", "(LBladeAlgebra$Algebra;LBladeAlgebra$Multi;)LBladeAlgebra$Multi;"⟩
theorem dX32_of_0 : decode cX32_of 0 = .ok (.aload_n 2, 1) := by decide +kernel
theorem dX32_of_1 : decode cX32_of 1 = .ok (.invokestatic 7, 3) := by decide +kernel
theorem dX32_of_4 : decode cX32_of 4 = .ok (.areturn, 1) := by decide +kernel
theorem q750 : (Jvm.Cond.selects "BladeAlgebra$One$1" ({ cls := "BladeAlgebra$One", name := "of", desc := "(LBladeAlgebra$Algebra;LBladeAlgebra$Multi;)LBladeAlgebra$Multi;" } : Jvm.MethodName) ({ cls := "BladeAlgebra$One$1", name := "of", desc := "(LBladeAlgebra$Algebra;LBladeAlgebra$Multi;)LBladeAlgebra$Multi;" } : Jvm.MethodName)) ∈ lw_all := lw_g (lw_at lw_m3 175 rfl) rfl
theorem q751 : (Jvm.Cond.instanceMethod ({ cls := "BladeAlgebra$One$1", name := "of", desc := "(LBladeAlgebra$Algebra;LBladeAlgebra$Multi;)LBladeAlgebra$Multi;" } : Jvm.MethodName)) ∈ lw_all := lw_g (lw_at lw_m3 176 rfl) rfl
theorem q752 : (Jvm.Cond.code ({ cls := "BladeAlgebra$One$1", name := "of", desc := "(LBladeAlgebra$Algebra;LBladeAlgebra$Multi;)LBladeAlgebra$Multi;" } : Jvm.MethodName) prog_10_method_2_code (3 : Nat) (Option.some (Jvm.ClassFile.FieldType.object "BladeAlgebra$Multi"))) ∈ lw_all := lw_g (lw_at lw_m3 177 rfl) rfl
theorem q753 : (Jvm.Cond.methodLinkNest "BladeAlgebra$One$1" (7 : Nat) ({ cls := "BladeAlgebra", name := "reverse", desc := "(LBladeAlgebra$Multi;)LBladeAlgebra$Multi;" } : Jvm.MethodName) "BladeAlgebra") ∈ lw_tbl := lw_at lw_m3 178 rfl
theorem q1658 : (Jvm.Cond.selects "BladeAlgebra$One$1" ({ cls := "java/lang/Object", name := "getClass", desc := "()Ljava/lang/Class;" } : Jvm.MethodName) ({ cls := "java/lang/Object", name := "getClass", desc := "()Ljava/lang/Class;" } : Jvm.MethodName)) ∈ lw_all := lw_g (lw_at lw_m7 123 rfl) rfl
theorem q2549 : (Jvm.Cond.castable "BladeAlgebra$One$1" "BladeAlgebra$One") ∈ lw_tbl := lw_at lw_m11 54 rfl
theorem q2585 : (Jvm.Cond.castable "BladeAlgebra$One$1" "java/lang/Object") ∈ lw_tbl := lw_at lw_m11 90 rfl
/-! BladeAlgebra$One$10 -/
set_option maxRecDepth 100000
def RX33 : String := "BladeAlgebra$One$10"
abbrev cX33_of : ByteArray := prog_11_method_2_code
def yX33_of : MethodName := ⟨RX33, "of", "(LBladeAlgebra$Algebra;LBladeAlgebra$Multi;)LBladeAlgebra$Multi;"⟩
def dkwX33_of_1 : List UInt8 := [184, 0, 29, 176]
abbrev dktX33_of_1 : List UInt8 := dkwX33_of_1 ++ []
def dkwX33_of_0 : List UInt8 := [43, 44, 44, 184, 0, 7, 182, 0, 13, 78, 45, 182, 0, 19, 184, 0, 25, 44, 184, 0, 7, 45]
abbrev dktX33_of_0 : List UInt8 := dkwX33_of_0 ++ dktX33_of_1
theorem dksX33_of_0 : cX33_of.data.toList.drop 0 = dktX33_of_0 := by decide +kernel
theorem dksX33_of_1 : cX33_of.data.toList.drop 22 = dktX33_of_1 := dk_seg dksX33_of_0 22 rfl rfl
theorem dX33_of_0 : decode cX33_of 0 = .ok (.aload_n 1, 1) := dk_43 (dk_at dksX33_of_0 0 rfl rfl)
theorem dX33_of_1 : decode cX33_of 1 = .ok (.aload_n 2, 1) := dk_44 (dk_at dksX33_of_0 1 rfl rfl)
theorem dX33_of_2 : decode cX33_of 2 = .ok (.aload_n 2, 1) := dk_44 (dk_at dksX33_of_0 2 rfl rfl)
theorem dX33_of_3 : decode cX33_of 3 = .ok (.invokestatic 7, 3) := dk_184 0 7 (dk_at dksX33_of_0 3 rfl rfl)
theorem dX33_of_6 : decode cX33_of 6 = .ok (.invokevirtual 13, 3) := dk_182 0 13 (dk_at dksX33_of_0 6 rfl rfl)
theorem dX33_of_9 : decode cX33_of 9 = .ok (.astore_n 3, 1) := dk_78 (dk_at dksX33_of_0 9 rfl rfl)
theorem dX33_of_10 : decode cX33_of 10 = .ok (.aload_n 3, 1) := dk_45 (dk_at dksX33_of_0 10 rfl rfl)
theorem dX33_of_11 : decode cX33_of 11 = .ok (.invokevirtual 19, 3) := dk_182 0 19 (dk_at dksX33_of_0 11 rfl rfl)
theorem dX33_of_14 : decode cX33_of 14 = .ok (.invokestatic 25, 3) := dk_184 0 25 (dk_at dksX33_of_0 14 rfl rfl)
theorem dX33_of_17 : decode cX33_of 17 = .ok (.aload_n 2, 1) := dk_44 (dk_at dksX33_of_0 17 rfl rfl)
theorem dX33_of_18 : decode cX33_of 18 = .ok (.invokestatic 7, 3) := dk_184 0 7 (dk_at dksX33_of_0 18 rfl rfl)
theorem dX33_of_21 : decode cX33_of 21 = .ok (.aload_n 3, 1) := dk_45 (dk_at dksX33_of_0 21 rfl rfl)
theorem dX33_of_22 : decode cX33_of 22 = .ok (.invokestatic 29, 3) := dk_184 0 29 (dk_at dksX33_of_1 0 rfl rfl)
theorem dX33_of_25 : decode cX33_of 25 = .ok (.areturn, 1) := dk_176 (dk_at dksX33_of_1 3 rfl rfl)
theorem q762 : (Jvm.Cond.selects "BladeAlgebra$One$10" ({ cls := "BladeAlgebra$One", name := "of", desc := "(LBladeAlgebra$Algebra;LBladeAlgebra$Multi;)LBladeAlgebra$Multi;" } : Jvm.MethodName) ({ cls := "BladeAlgebra$One$10", name := "of", desc := "(LBladeAlgebra$Algebra;LBladeAlgebra$Multi;)LBladeAlgebra$Multi;" } : Jvm.MethodName)) ∈ lw_all := lw_g (lw_at lw_m3 187 rfl) rfl
theorem q763 : (Jvm.Cond.instanceMethod ({ cls := "BladeAlgebra$One$10", name := "of", desc := "(LBladeAlgebra$Algebra;LBladeAlgebra$Multi;)LBladeAlgebra$Multi;" } : Jvm.MethodName)) ∈ lw_all := lw_g (lw_at lw_m3 188 rfl) rfl
theorem q764 : (Jvm.Cond.code ({ cls := "BladeAlgebra$One$10", name := "of", desc := "(LBladeAlgebra$Algebra;LBladeAlgebra$Multi;)LBladeAlgebra$Multi;" } : Jvm.MethodName) prog_11_method_2_code (4 : Nat) (Option.some (Jvm.ClassFile.FieldType.object "BladeAlgebra$Multi"))) ∈ lw_all := lw_g (lw_at lw_m3 189 rfl) rfl
theorem q765 : (Jvm.Cond.methodLinkNest "BladeAlgebra$One$10" (7 : Nat) ({ cls := "BladeAlgebra", name := "reverse", desc := "(LBladeAlgebra$Multi;)LBladeAlgebra$Multi;" } : Jvm.MethodName) "BladeAlgebra") ∈ lw_tbl := lw_at lw_m3 190 rfl
theorem q766 : (Jvm.Cond.methodLink "BladeAlgebra$One$10" (13 : Nat) ({ cls := "BladeAlgebra$Algebra", name := "product", desc := "(LBladeAlgebra$Multi;LBladeAlgebra$Multi;)LBladeAlgebra$Multi;" } : Jvm.MethodName)) ∈ lw_all := lw_g (lw_at lw_m3 191 rfl) rfl
theorem q767 : (Jvm.Cond.methodLink "BladeAlgebra$One$10" (19 : Nat) ({ cls := "BladeAlgebra$Multi", name := "isOtherScalar", desc := "()Z" } : Jvm.MethodName)) ∈ lw_all := lw_g (lw_at lw_m3 192 rfl) rfl
theorem q775 : (Jvm.Cond.methodLinkNest "BladeAlgebra$One$10" (25 : Nat) ({ cls := "BladeAlgebra", name := "possible", desc := "(Z)V" } : Jvm.MethodName) "BladeAlgebra") ∈ lw_tbl := lw_at lw_m3 200 rfl
theorem q794 : (Jvm.Cond.methodLinkNest "BladeAlgebra$One$10" (29 : Nat) ({ cls := "BladeAlgebra", name := "by", desc := "(LBladeAlgebra$Multi;LBladeAlgebra$Multi;)LBladeAlgebra$Multi;" } : Jvm.MethodName) "BladeAlgebra") ∈ lw_tbl := lw_at lw_m3 219 rfl
theorem q1659 : (Jvm.Cond.selects "BladeAlgebra$One$10" ({ cls := "java/lang/Object", name := "getClass", desc := "()Ljava/lang/Class;" } : Jvm.MethodName) ({ cls := "java/lang/Object", name := "getClass", desc := "()Ljava/lang/Class;" } : Jvm.MethodName)) ∈ lw_all := lw_g (lw_at lw_m7 124 rfl) rfl
theorem q2550 : (Jvm.Cond.castable "BladeAlgebra$One$10" "BladeAlgebra$One") ∈ lw_tbl := lw_at lw_m11 55 rfl
theorem q2594 : (Jvm.Cond.castable "BladeAlgebra$One$10" "java/lang/Object") ∈ lw_tbl := lw_at lw_m11 99 rfl
/-! BladeAlgebra$One$2 -/
set_option maxRecDepth 100000
def RX34 : String := "BladeAlgebra$One$2"
abbrev cX34_of : ByteArray := prog_12_method_2_code
def yX34_of : MethodName := ⟨RX34, "of", "(LBladeAlgebra$Algebra;LBladeAlgebra$Multi;)LBladeAlgebra$Multi;"⟩
def dkwX34_of_0 : List UInt8 := [44, 16, 42, 16, 63, 182, 0, 9, 176]
abbrev dktX34_of_0 : List UInt8 := dkwX34_of_0 ++ []
theorem dksX34_of_0 : cX34_of.data.toList.drop 0 = dktX34_of_0 := by decide +kernel
theorem dX34_of_0 : decode cX34_of 0 = .ok (.aload_n 2, 1) := dk_44 (dk_at dksX34_of_0 0 rfl rfl)
theorem dX34_of_1 : decode cX34_of 1 = .ok (.bipush 42, 2) := dk_16 42 (dk_at dksX34_of_0 1 rfl rfl)
theorem dX34_of_3 : decode cX34_of 3 = .ok (.bipush 63, 2) := dk_16 63 (dk_at dksX34_of_0 3 rfl rfl)
theorem dX34_of_5 : decode cX34_of 5 = .ok (.invokevirtual 9, 3) := dk_182 0 9 (dk_at dksX34_of_0 5 rfl rfl)
theorem dX34_of_8 : decode cX34_of 8 = .ok (.areturn, 1) := dk_176 (dk_at dksX34_of_0 8 rfl rfl)
theorem q798 : (Jvm.Cond.selects "BladeAlgebra$One$2" ({ cls := "BladeAlgebra$One", name := "of", desc := "(LBladeAlgebra$Algebra;LBladeAlgebra$Multi;)LBladeAlgebra$Multi;" } : Jvm.MethodName) ({ cls := "BladeAlgebra$One$2", name := "of", desc := "(LBladeAlgebra$Algebra;LBladeAlgebra$Multi;)LBladeAlgebra$Multi;" } : Jvm.MethodName)) ∈ lw_all := lw_g (lw_at lw_m3 223 rfl) rfl
theorem q799 : (Jvm.Cond.instanceMethod ({ cls := "BladeAlgebra$One$2", name := "of", desc := "(LBladeAlgebra$Algebra;LBladeAlgebra$Multi;)LBladeAlgebra$Multi;" } : Jvm.MethodName)) ∈ lw_all := lw_g (lw_at lw_m3 224 rfl) rfl
theorem q800 : (Jvm.Cond.code ({ cls := "BladeAlgebra$One$2", name := "of", desc := "(LBladeAlgebra$Algebra;LBladeAlgebra$Multi;)LBladeAlgebra$Multi;" } : Jvm.MethodName) prog_12_method_2_code (3 : Nat) (Option.some (Jvm.ClassFile.FieldType.object "BladeAlgebra$Multi"))) ∈ lw_all := lw_g (lw_at lw_m3 225 rfl) rfl
theorem q801 : (Jvm.Cond.methodLink "BladeAlgebra$One$2" (9 : Nat) ({ cls := "BladeAlgebra$Multi", name := "signed", desc := "(II)LBladeAlgebra$Multi;" } : Jvm.MethodName)) ∈ lw_all := lw_g (lw_at lw_m3 226 rfl) rfl
theorem q1660 : (Jvm.Cond.selects "BladeAlgebra$One$2" ({ cls := "java/lang/Object", name := "getClass", desc := "()Ljava/lang/Class;" } : Jvm.MethodName) ({ cls := "java/lang/Object", name := "getClass", desc := "()Ljava/lang/Class;" } : Jvm.MethodName)) ∈ lw_all := lw_g (lw_at lw_m7 125 rfl) rfl
theorem q2551 : (Jvm.Cond.castable "BladeAlgebra$One$2" "BladeAlgebra$One") ∈ lw_tbl := lw_at lw_m11 56 rfl
theorem q2586 : (Jvm.Cond.castable "BladeAlgebra$One$2" "java/lang/Object") ∈ lw_tbl := lw_at lw_m11 91 rfl
/-! BladeAlgebra$One$3 -/
set_option maxRecDepth 100000
def RX35 : String := "BladeAlgebra$One$3"
abbrev cX35_of : ByteArray := prog_13_method_2_code
def yX35_of : MethodName := ⟨RX35, "of", "(LBladeAlgebra$Algebra;LBladeAlgebra$Multi;)LBladeAlgebra$Multi;"⟩
def dkwX35_of_0 : List UInt8 := [44, 16, 38, 16, 63, 182, 0, 9, 176]
abbrev dktX35_of_0 : List UInt8 := dkwX35_of_0 ++ []
theorem dksX35_of_0 : cX35_of.data.toList.drop 0 = dktX35_of_0 := by decide +kernel
theorem dX35_of_0 : decode cX35_of 0 = .ok (.aload_n 2, 1) := dk_44 (dk_at dksX35_of_0 0 rfl rfl)
theorem dX35_of_1 : decode cX35_of 1 = .ok (.bipush 38, 2) := dk_16 38 (dk_at dksX35_of_0 1 rfl rfl)
theorem dX35_of_3 : decode cX35_of 3 = .ok (.bipush 63, 2) := dk_16 63 (dk_at dksX35_of_0 3 rfl rfl)
theorem dX35_of_5 : decode cX35_of 5 = .ok (.invokevirtual 9, 3) := dk_182 0 9 (dk_at dksX35_of_0 5 rfl rfl)
theorem dX35_of_8 : decode cX35_of 8 = .ok (.areturn, 1) := dk_176 (dk_at dksX35_of_0 8 rfl rfl)
theorem q802 : (Jvm.Cond.selects "BladeAlgebra$One$3" ({ cls := "BladeAlgebra$One", name := "of", desc := "(LBladeAlgebra$Algebra;LBladeAlgebra$Multi;)LBladeAlgebra$Multi;" } : Jvm.MethodName) ({ cls := "BladeAlgebra$One$3", name := "of", desc := "(LBladeAlgebra$Algebra;LBladeAlgebra$Multi;)LBladeAlgebra$Multi;" } : Jvm.MethodName)) ∈ lw_all := lw_g (lw_at lw_m3 227 rfl) rfl
theorem q803 : (Jvm.Cond.instanceMethod ({ cls := "BladeAlgebra$One$3", name := "of", desc := "(LBladeAlgebra$Algebra;LBladeAlgebra$Multi;)LBladeAlgebra$Multi;" } : Jvm.MethodName)) ∈ lw_all := lw_g (lw_at lw_m3 228 rfl) rfl
theorem q804 : (Jvm.Cond.code ({ cls := "BladeAlgebra$One$3", name := "of", desc := "(LBladeAlgebra$Algebra;LBladeAlgebra$Multi;)LBladeAlgebra$Multi;" } : Jvm.MethodName) prog_13_method_2_code (3 : Nat) (Option.some (Jvm.ClassFile.FieldType.object "BladeAlgebra$Multi"))) ∈ lw_all := lw_g (lw_at lw_m3 229 rfl) rfl
theorem q805 : (Jvm.Cond.methodLink "BladeAlgebra$One$3" (9 : Nat) ({ cls := "BladeAlgebra$Multi", name := "signed", desc := "(II)LBladeAlgebra$Multi;" } : Jvm.MethodName)) ∈ lw_all := lw_g (lw_at lw_m3 230 rfl) rfl
theorem q1661 : (Jvm.Cond.selects "BladeAlgebra$One$3" ({ cls := "java/lang/Object", name := "getClass", desc := "()Ljava/lang/Class;" } : Jvm.MethodName) ({ cls := "java/lang/Object", name := "getClass", desc := "()Ljava/lang/Class;" } : Jvm.MethodName)) ∈ lw_all := lw_g (lw_at lw_m7 126 rfl) rfl
theorem q2552 : (Jvm.Cond.castable "BladeAlgebra$One$3" "BladeAlgebra$One") ∈ lw_tbl := lw_at lw_m11 57 rfl
theorem q2587 : (Jvm.Cond.castable "BladeAlgebra$One$3" "java/lang/Object") ∈ lw_tbl := lw_at lw_m11 92 rfl
/-! BladeAlgebra$One$4 -/
set_option maxRecDepth 100000
def RX36 : String := "BladeAlgebra$One$4"
abbrev cX36_of : ByteArray := prog_14_method_2_code
def yX36_of : MethodName := ⟨RX36, "of", "(LBladeAlgebra$Algebra;LBladeAlgebra$Multi;)LBladeAlgebra$Multi;"⟩
def dkwX36_of_0 : List UInt8 := [43, 44, 3, 182, 0, 7, 176]
abbrev dktX36_of_0 : List UInt8 := dkwX36_of_0 ++ []
theorem dksX36_of_0 : cX36_of.data.toList.drop 0 = dktX36_of_0 := by decide +kernel
theorem dX36_of_0 : decode cX36_of 0 = .ok (.aload_n 1, 1) := dk_43 (dk_at dksX36_of_0 0 rfl rfl)
theorem dX36_of_1 : decode cX36_of 1 = .ok (.aload_n 2, 1) := dk_44 (dk_at dksX36_of_0 1 rfl rfl)
theorem dX36_of_2 : decode cX36_of 2 = .ok (.iconst 0, 1) := dk_3 (dk_at dksX36_of_0 2 rfl rfl)
theorem dX36_of_3 : decode cX36_of 3 = .ok (.invokevirtual 7, 3) := dk_182 0 7 (dk_at dksX36_of_0 3 rfl rfl)
theorem dX36_of_6 : decode cX36_of 6 = .ok (.areturn, 1) := dk_176 (dk_at dksX36_of_0 6 rfl rfl)
theorem q806 : (Jvm.Cond.selects "BladeAlgebra$One$4" ({ cls := "BladeAlgebra$One", name := "of", desc := "(LBladeAlgebra$Algebra;LBladeAlgebra$Multi;)LBladeAlgebra$Multi;" } : Jvm.MethodName) ({ cls := "BladeAlgebra$One$4", name := "of", desc := "(LBladeAlgebra$Algebra;LBladeAlgebra$Multi;)LBladeAlgebra$Multi;" } : Jvm.MethodName)) ∈ lw_all := lw_g (lw_at lw_m3 231 rfl) rfl
theorem q807 : (Jvm.Cond.instanceMethod ({ cls := "BladeAlgebra$One$4", name := "of", desc := "(LBladeAlgebra$Algebra;LBladeAlgebra$Multi;)LBladeAlgebra$Multi;" } : Jvm.MethodName)) ∈ lw_all := lw_g (lw_at lw_m3 232 rfl) rfl
theorem q808 : (Jvm.Cond.code ({ cls := "BladeAlgebra$One$4", name := "of", desc := "(LBladeAlgebra$Algebra;LBladeAlgebra$Multi;)LBladeAlgebra$Multi;" } : Jvm.MethodName) prog_14_method_2_code (3 : Nat) (Option.some (Jvm.ClassFile.FieldType.object "BladeAlgebra$Multi"))) ∈ lw_all := lw_g (lw_at lw_m3 233 rfl) rfl
theorem q809 : (Jvm.Cond.methodLink "BladeAlgebra$One$4" (7 : Nat) ({ cls := "BladeAlgebra$Algebra", name := "complement", desc := "(LBladeAlgebra$Multi;Z)LBladeAlgebra$Multi;" } : Jvm.MethodName)) ∈ lw_all := lw_g (lw_at lw_m3 234 rfl) rfl
theorem q1662 : (Jvm.Cond.selects "BladeAlgebra$One$4" ({ cls := "java/lang/Object", name := "getClass", desc := "()Ljava/lang/Class;" } : Jvm.MethodName) ({ cls := "java/lang/Object", name := "getClass", desc := "()Ljava/lang/Class;" } : Jvm.MethodName)) ∈ lw_all := lw_g (lw_at lw_m7 127 rfl) rfl
theorem q2553 : (Jvm.Cond.castable "BladeAlgebra$One$4" "BladeAlgebra$One") ∈ lw_tbl := lw_at lw_m11 58 rfl
theorem q2588 : (Jvm.Cond.castable "BladeAlgebra$One$4" "java/lang/Object") ∈ lw_tbl := lw_at lw_m11 93 rfl
/-! BladeAlgebra$One$5 -/
set_option maxRecDepth 100000
def RX37 : String := "BladeAlgebra$One$5"
abbrev cX37_of : ByteArray := prog_15_method_2_code
def yX37_of : MethodName := ⟨RX37, "of", "(LBladeAlgebra$Algebra;LBladeAlgebra$Multi;)LBladeAlgebra$Multi;"⟩
def dkwX37_of_0 : List UInt8 := [43, 44, 4, 182, 0, 7, 176]
abbrev dktX37_of_0 : List UInt8 := dkwX37_of_0 ++ []
theorem dksX37_of_0 : cX37_of.data.toList.drop 0 = dktX37_of_0 := by decide +kernel
theorem dX37_of_0 : decode cX37_of 0 = .ok (.aload_n 1, 1) := dk_43 (dk_at dksX37_of_0 0 rfl rfl)
theorem dX37_of_1 : decode cX37_of 1 = .ok (.aload_n 2, 1) := dk_44 (dk_at dksX37_of_0 1 rfl rfl)
theorem dX37_of_2 : decode cX37_of 2 = .ok (.iconst 1, 1) := dk_4 (dk_at dksX37_of_0 2 rfl rfl)
theorem dX37_of_3 : decode cX37_of 3 = .ok (.invokevirtual 7, 3) := dk_182 0 7 (dk_at dksX37_of_0 3 rfl rfl)
theorem dX37_of_6 : decode cX37_of 6 = .ok (.areturn, 1) := dk_176 (dk_at dksX37_of_0 6 rfl rfl)
theorem q810 : (Jvm.Cond.selects "BladeAlgebra$One$5" ({ cls := "BladeAlgebra$One", name := "of", desc := "(LBladeAlgebra$Algebra;LBladeAlgebra$Multi;)LBladeAlgebra$Multi;" } : Jvm.MethodName) ({ cls := "BladeAlgebra$One$5", name := "of", desc := "(LBladeAlgebra$Algebra;LBladeAlgebra$Multi;)LBladeAlgebra$Multi;" } : Jvm.MethodName)) ∈ lw_all := lw_g (lw_at lw_m3 235 rfl) rfl
theorem q811 : (Jvm.Cond.instanceMethod ({ cls := "BladeAlgebra$One$5", name := "of", desc := "(LBladeAlgebra$Algebra;LBladeAlgebra$Multi;)LBladeAlgebra$Multi;" } : Jvm.MethodName)) ∈ lw_all := lw_g (lw_at lw_m3 236 rfl) rfl
theorem q812 : (Jvm.Cond.code ({ cls := "BladeAlgebra$One$5", name := "of", desc := "(LBladeAlgebra$Algebra;LBladeAlgebra$Multi;)LBladeAlgebra$Multi;" } : Jvm.MethodName) prog_15_method_2_code (3 : Nat) (Option.some (Jvm.ClassFile.FieldType.object "BladeAlgebra$Multi"))) ∈ lw_all := lw_g (lw_at lw_m3 237 rfl) rfl
theorem q813 : (Jvm.Cond.methodLink "BladeAlgebra$One$5" (7 : Nat) ({ cls := "BladeAlgebra$Algebra", name := "complement", desc := "(LBladeAlgebra$Multi;Z)LBladeAlgebra$Multi;" } : Jvm.MethodName)) ∈ lw_all := lw_g (lw_at lw_m3 238 rfl) rfl
theorem q1663 : (Jvm.Cond.selects "BladeAlgebra$One$5" ({ cls := "java/lang/Object", name := "getClass", desc := "()Ljava/lang/Class;" } : Jvm.MethodName) ({ cls := "java/lang/Object", name := "getClass", desc := "()Ljava/lang/Class;" } : Jvm.MethodName)) ∈ lw_all := lw_g (lw_at lw_m7 128 rfl) rfl
theorem q2554 : (Jvm.Cond.castable "BladeAlgebra$One$5" "BladeAlgebra$One") ∈ lw_tbl := lw_at lw_m11 59 rfl
theorem q2589 : (Jvm.Cond.castable "BladeAlgebra$One$5" "java/lang/Object") ∈ lw_tbl := lw_at lw_m11 94 rfl
/-! BladeAlgebra$One$7 -/
set_option maxRecDepth 100000
def RX38 : String := "BladeAlgebra$One$7"
abbrev cX38_of : ByteArray := prog_17_method_2_code
def yX38_of : MethodName := ⟨RX38, "of", "(LBladeAlgebra$Algebra;LBladeAlgebra$Multi;)LBladeAlgebra$Multi;"⟩
def dkwX38_of_0 : List UInt8 := [44, 3, 16, 21, 182, 0, 9, 176]
abbrev dktX38_of_0 : List UInt8 := dkwX38_of_0 ++ []
theorem dksX38_of_0 : cX38_of.data.toList.drop 0 = dktX38_of_0 := by decide +kernel
theorem dX38_of_0 : decode cX38_of 0 = .ok (.aload_n 2, 1) := dk_44 (dk_at dksX38_of_0 0 rfl rfl)
theorem dX38_of_1 : decode cX38_of 1 = .ok (.iconst 0, 1) := dk_3 (dk_at dksX38_of_0 1 rfl rfl)
theorem dX38_of_2 : decode cX38_of 2 = .ok (.bipush 21, 2) := dk_16 21 (dk_at dksX38_of_0 2 rfl rfl)
theorem dX38_of_4 : decode cX38_of 4 = .ok (.invokevirtual 9, 3) := dk_182 0 9 (dk_at dksX38_of_0 4 rfl rfl)
theorem dX38_of_7 : decode cX38_of 7 = .ok (.areturn, 1) := dk_176 (dk_at dksX38_of_0 7 rfl rfl)
theorem q823 : (Jvm.Cond.selects "BladeAlgebra$One$7" ({ cls := "BladeAlgebra$One", name := "of", desc := "(LBladeAlgebra$Algebra;LBladeAlgebra$Multi;)LBladeAlgebra$Multi;" } : Jvm.MethodName) ({ cls := "BladeAlgebra$One$7", name := "of", desc := "(LBladeAlgebra$Algebra;LBladeAlgebra$Multi;)LBladeAlgebra$Multi;" } : Jvm.MethodName)) ∈ lw_all := lw_g (lw_at lw_m4 8 rfl) rfl
theorem q824 : (Jvm.Cond.instanceMethod ({ cls := "BladeAlgebra$One$7", name := "of", desc := "(LBladeAlgebra$Algebra;LBladeAlgebra$Multi;)LBladeAlgebra$Multi;" } : Jvm.MethodName)) ∈ lw_all := lw_g (lw_at lw_m4 9 rfl) rfl
theorem q825 : (Jvm.Cond.code ({ cls := "BladeAlgebra$One$7", name := "of", desc := "(LBladeAlgebra$Algebra;LBladeAlgebra$Multi;)LBladeAlgebra$Multi;" } : Jvm.MethodName) prog_17_method_2_code (3 : Nat) (Option.some (Jvm.ClassFile.FieldType.object "BladeAlgebra$Multi"))) ∈ lw_all := lw_g (lw_at lw_m4 10 rfl) rfl
theorem q826 : (Jvm.Cond.methodLink "BladeAlgebra$One$7" (9 : Nat) ({ cls := "BladeAlgebra$Multi", name := "signed", desc := "(II)LBladeAlgebra$Multi;" } : Jvm.MethodName)) ∈ lw_all := lw_g (lw_at lw_m4 11 rfl) rfl
theorem q1665 : (Jvm.Cond.selects "BladeAlgebra$One$7" ({ cls := "java/lang/Object", name := "getClass", desc := "()Ljava/lang/Class;" } : Jvm.MethodName) ({ cls := "java/lang/Object", name := "getClass", desc := "()Ljava/lang/Class;" } : Jvm.MethodName)) ∈ lw_all := lw_g (lw_at lw_m7 130 rfl) rfl
theorem q2556 : (Jvm.Cond.castable "BladeAlgebra$One$7" "BladeAlgebra$One") ∈ lw_tbl := lw_at lw_m11 61 rfl
theorem q2591 : (Jvm.Cond.castable "BladeAlgebra$One$7" "java/lang/Object") ∈ lw_tbl := lw_at lw_m11 96 rfl
/-! BladeAlgebra$One$8 -/
set_option maxRecDepth 100000
def RX39 : String := "BladeAlgebra$One$8"
abbrev cX39_of : ByteArray := prog_18_method_2_code
def yX39_of : MethodName := ⟨RX39, "of", "(LBladeAlgebra$Algebra;LBladeAlgebra$Multi;)LBladeAlgebra$Multi;"⟩
def dkwX39_of_0 : List UInt8 := [44, 3, 16, 42, 182, 0, 9, 176]
abbrev dktX39_of_0 : List UInt8 := dkwX39_of_0 ++ []
theorem dksX39_of_0 : cX39_of.data.toList.drop 0 = dktX39_of_0 := by decide +kernel
theorem dX39_of_0 : decode cX39_of 0 = .ok (.aload_n 2, 1) := dk_44 (dk_at dksX39_of_0 0 rfl rfl)
theorem dX39_of_1 : decode cX39_of 1 = .ok (.iconst 0, 1) := dk_3 (dk_at dksX39_of_0 1 rfl rfl)
theorem dX39_of_2 : decode cX39_of 2 = .ok (.bipush 42, 2) := dk_16 42 (dk_at dksX39_of_0 2 rfl rfl)
theorem dX39_of_4 : decode cX39_of 4 = .ok (.invokevirtual 9, 3) := dk_182 0 9 (dk_at dksX39_of_0 4 rfl rfl)
theorem dX39_of_7 : decode cX39_of 7 = .ok (.areturn, 1) := dk_176 (dk_at dksX39_of_0 7 rfl rfl)
theorem q827 : (Jvm.Cond.selects "BladeAlgebra$One$8" ({ cls := "BladeAlgebra$One", name := "of", desc := "(LBladeAlgebra$Algebra;LBladeAlgebra$Multi;)LBladeAlgebra$Multi;" } : Jvm.MethodName) ({ cls := "BladeAlgebra$One$8", name := "of", desc := "(LBladeAlgebra$Algebra;LBladeAlgebra$Multi;)LBladeAlgebra$Multi;" } : Jvm.MethodName)) ∈ lw_all := lw_g (lw_at lw_m4 12 rfl) rfl
theorem q828 : (Jvm.Cond.instanceMethod ({ cls := "BladeAlgebra$One$8", name := "of", desc := "(LBladeAlgebra$Algebra;LBladeAlgebra$Multi;)LBladeAlgebra$Multi;" } : Jvm.MethodName)) ∈ lw_all := lw_g (lw_at lw_m4 13 rfl) rfl
theorem q829 : (Jvm.Cond.code ({ cls := "BladeAlgebra$One$8", name := "of", desc := "(LBladeAlgebra$Algebra;LBladeAlgebra$Multi;)LBladeAlgebra$Multi;" } : Jvm.MethodName) prog_18_method_2_code (3 : Nat) (Option.some (Jvm.ClassFile.FieldType.object "BladeAlgebra$Multi"))) ∈ lw_all := lw_g (lw_at lw_m4 14 rfl) rfl
theorem q830 : (Jvm.Cond.methodLink "BladeAlgebra$One$8" (9 : Nat) ({ cls := "BladeAlgebra$Multi", name := "signed", desc := "(II)LBladeAlgebra$Multi;" } : Jvm.MethodName)) ∈ lw_all := lw_g (lw_at lw_m4 15 rfl) rfl
theorem q1666 : (Jvm.Cond.selects "BladeAlgebra$One$8" ({ cls := "java/lang/Object", name := "getClass", desc := "()Ljava/lang/Class;" } : Jvm.MethodName) ({ cls := "java/lang/Object", name := "getClass", desc := "()Ljava/lang/Class;" } : Jvm.MethodName)) ∈ lw_all := lw_g (lw_at lw_m7 131 rfl) rfl
theorem q2557 : (Jvm.Cond.castable "BladeAlgebra$One$8" "BladeAlgebra$One") ∈ lw_tbl := lw_at lw_m11 62 rfl
theorem q2592 : (Jvm.Cond.castable "BladeAlgebra$One$8" "java/lang/Object") ∈ lw_tbl := lw_at lw_m11 97 rfl
/-! BladeAlgebra$One$9 -/
set_option maxRecDepth 100000
def RX40 : String := "BladeAlgebra$One$9"
abbrev cX40_of : ByteArray := prog_19_method_2_code
def yX40_of : MethodName := ⟨RX40, "of", "(LBladeAlgebra$Algebra;LBladeAlgebra$Multi;)LBladeAlgebra$Multi;"⟩
def dkwX40_of_0 : List UInt8 := [44, 16, 63, 16, 63, 182, 0, 9, 176]
abbrev dktX40_of_0 : List UInt8 := dkwX40_of_0 ++ []
theorem dksX40_of_0 : cX40_of.data.toList.drop 0 = dktX40_of_0 := by decide +kernel
theorem dX40_of_0 : decode cX40_of 0 = .ok (.aload_n 2, 1) := dk_44 (dk_at dksX40_of_0 0 rfl rfl)
theorem dX40_of_1 : decode cX40_of 1 = .ok (.bipush 63, 2) := dk_16 63 (dk_at dksX40_of_0 1 rfl rfl)
theorem dX40_of_3 : decode cX40_of 3 = .ok (.bipush 63, 2) := dk_16 63 (dk_at dksX40_of_0 3 rfl rfl)
theorem dX40_of_5 : decode cX40_of 5 = .ok (.invokevirtual 9, 3) := dk_182 0 9 (dk_at dksX40_of_0 5 rfl rfl)
theorem dX40_of_8 : decode cX40_of 8 = .ok (.areturn, 1) := dk_176 (dk_at dksX40_of_0 8 rfl rfl)
theorem q831 : (Jvm.Cond.selects "BladeAlgebra$One$9" ({ cls := "BladeAlgebra$One", name := "of", desc := "(LBladeAlgebra$Algebra;LBladeAlgebra$Multi;)LBladeAlgebra$Multi;" } : Jvm.MethodName) ({ cls := "BladeAlgebra$One$9", name := "of", desc := "(LBladeAlgebra$Algebra;LBladeAlgebra$Multi;)LBladeAlgebra$Multi;" } : Jvm.MethodName)) ∈ lw_all := lw_g (lw_at lw_m4 16 rfl) rfl
theorem q832 : (Jvm.Cond.instanceMethod ({ cls := "BladeAlgebra$One$9", name := "of", desc := "(LBladeAlgebra$Algebra;LBladeAlgebra$Multi;)LBladeAlgebra$Multi;" } : Jvm.MethodName)) ∈ lw_all := lw_g (lw_at lw_m4 17 rfl) rfl
theorem q833 : (Jvm.Cond.code ({ cls := "BladeAlgebra$One$9", name := "of", desc := "(LBladeAlgebra$Algebra;LBladeAlgebra$Multi;)LBladeAlgebra$Multi;" } : Jvm.MethodName) prog_19_method_2_code (3 : Nat) (Option.some (Jvm.ClassFile.FieldType.object "BladeAlgebra$Multi"))) ∈ lw_all := lw_g (lw_at lw_m4 18 rfl) rfl
theorem q834 : (Jvm.Cond.methodLink "BladeAlgebra$One$9" (9 : Nat) ({ cls := "BladeAlgebra$Multi", name := "signed", desc := "(II)LBladeAlgebra$Multi;" } : Jvm.MethodName)) ∈ lw_all := lw_g (lw_at lw_m4 19 rfl) rfl
theorem q1667 : (Jvm.Cond.selects "BladeAlgebra$One$9" ({ cls := "java/lang/Object", name := "getClass", desc := "()Ljava/lang/Class;" } : Jvm.MethodName) ({ cls := "java/lang/Object", name := "getClass", desc := "()Ljava/lang/Class;" } : Jvm.MethodName)) ∈ lw_all := lw_g (lw_at lw_m7 132 rfl) rfl
theorem q2558 : (Jvm.Cond.castable "BladeAlgebra$One$9" "BladeAlgebra$One") ∈ lw_tbl := lw_at lw_m11 63 rfl
theorem q2593 : (Jvm.Cond.castable "BladeAlgebra$One$9" "java/lang/Object") ∈ lw_tbl := lw_at lw_m11 98 rfl
theorem q118 : (Jvm.Cond.initialized "BladeAlgebra$Product") ∈ lw_all := lw_g (lw_at lw_m1 23 rfl) rfl
set_option maxRecDepth 100000
theorem q656 : (Jvm.Cond.laysStatic "BladeAlgebra$Product" "ALL" "LBladeAlgebra$Product;") ∈ lw_tbl := lw_at lw_m3 81 rfl
theorem q662 : (Jvm.Cond.declares ({ cls := "BladeAlgebra$Product", name := "takes", desc := "(III)Z" } : Jvm.MethodName)) ∈ lw_tbl := lw_at lw_m3 87 rfl
theorem q663 : (Jvm.Cond.sameMethod "BladeAlgebra$Product" "BladeAlgebra$Product" "takes" "(III)Z") ∈ lw_all := lw_g (lw_at lw_m3 88 rfl) rfl
theorem q684 : (Jvm.Cond.laysStatic "BladeAlgebra$Product" "OUTER" "LBladeAlgebra$Product;") ∈ lw_tbl := lw_at lw_m3 109 rfl
theorem q690 : (Jvm.Cond.laysStatic "BladeAlgebra$Product" "LEFT" "LBladeAlgebra$Product;") ∈ lw_tbl := lw_at lw_m3 115 rfl
theorem q696 : (Jvm.Cond.laysStatic "BladeAlgebra$Product" "RIGHT" "LBladeAlgebra$Product;") ∈ lw_tbl := lw_at lw_m3 121 rfl
theorem q702 : (Jvm.Cond.laysStatic "BladeAlgebra$Product" "SCALAR" "LBladeAlgebra$Product;") ∈ lw_tbl := lw_at lw_m3 127 rfl
theorem q2627 : (Jvm.Cond.castable "BladeAlgebra$Product" "java/lang/Object") ∈ lw_tbl := lw_at lw_m11 132 rfl
theorem q1454 : (Jvm.Cond.sameMethod "[B" "java/lang/Object" "clone" "()Ljava/lang/Object;") ∈ lw_all := lw_g (lw_at lw_m6 159 rfl) rfl
set_option maxRecDepth 100000
theorem q1455 : (Jvm.Cond.selects "[B" ({ cls := "[B", name := "clone", desc := "()Ljava/lang/Object;" } : Jvm.MethodName) ({ cls := "java/lang/Object", name := "clone", desc := "()Ljava/lang/Object;" } : Jvm.MethodName)) ∈ lw_all := lw_g (lw_at lw_m6 160 rfl) rfl
theorem q1456 : (Jvm.Cond.castable "[B" "java/lang/Cloneable") ∈ lw_tbl := lw_at lw_m6 161 rfl
theorem q2634 : (Jvm.Cond.castable "[B" "java/lang/Object") ∈ lw_tbl := lw_at lw_m11 139 rfl
theorem q2631 : (Jvm.Cond.castable "[I" "java/lang/Object") ∈ lw_tbl := lw_at lw_m11 136 rfl
set_option maxRecDepth 100000
theorem q506 : (Jvm.Cond.sameMethod "[J" "java/lang/Object" "clone" "()Ljava/lang/Object;") ∈ lw_all := lw_g (lw_at lw_m2 171 rfl) rfl
set_option maxRecDepth 100000
theorem q507 : (Jvm.Cond.selects "[J" ({ cls := "[J", name := "clone", desc := "()Ljava/lang/Object;" } : Jvm.MethodName) ({ cls := "java/lang/Object", name := "clone", desc := "()Ljava/lang/Object;" } : Jvm.MethodName)) ∈ lw_all := lw_g (lw_at lw_m2 172 rfl) rfl
theorem q508 : (Jvm.Cond.castable "[J" "java/lang/Cloneable") ∈ lw_tbl := lw_at lw_m2 173 rfl
theorem q2635 : (Jvm.Cond.castable "[J" "java/lang/Object") ∈ lw_tbl := lw_at lw_m11 140 rfl
theorem q2632 : (Jvm.Cond.castable "[LBladeAlgebra$Multi;" "java/lang/Object") ∈ lw_tbl := lw_at lw_m11 137 rfl
set_option maxRecDepth 100000
theorem q172 : (Jvm.Cond.sameMethod "[LBladeAlgebra$One;" "java/lang/Object" "clone" "()Ljava/lang/Object;") ∈ lw_all := lw_g (lw_at lw_m1 77 rfl) rfl
set_option maxRecDepth 100000
theorem q173 : (Jvm.Cond.selects "[LBladeAlgebra$One;" ({ cls := "[LBladeAlgebra$One;", name := "clone", desc := "()Ljava/lang/Object;" } : Jvm.MethodName) ({ cls := "java/lang/Object", name := "clone", desc := "()Ljava/lang/Object;" } : Jvm.MethodName)) ∈ lw_all := lw_g (lw_at lw_m1 78 rfl) rfl
theorem q174 : (Jvm.Cond.castable "[LBladeAlgebra$One;" "java/lang/Cloneable") ∈ lw_tbl := lw_at lw_m1 79 rfl
theorem q2629 : (Jvm.Cond.castable "[LBladeAlgebra$One;" "java/lang/Object") ∈ lw_tbl := lw_at lw_m11 134 rfl
theorem q159 : (Jvm.Cond.sameMethod "[LBladeAlgebra$Two;" "java/lang/Object" "clone" "()Ljava/lang/Object;") ∈ lw_all := lw_g (lw_at lw_m1 64 rfl) rfl
set_option maxRecDepth 100000
theorem q162 : (Jvm.Cond.selects "[LBladeAlgebra$Two;" ({ cls := "[LBladeAlgebra$Two;", name := "clone", desc := "()Ljava/lang/Object;" } : Jvm.MethodName) ({ cls := "java/lang/Object", name := "clone", desc := "()Ljava/lang/Object;" } : Jvm.MethodName)) ∈ lw_all := lw_g (lw_at lw_m1 67 rfl) rfl
theorem q163 : (Jvm.Cond.castable "[LBladeAlgebra$Two;" "java/lang/Cloneable") ∈ lw_tbl := lw_at lw_m1 68 rfl
theorem q2628 : (Jvm.Cond.castable "[LBladeAlgebra$Two;" "java/lang/Object") ∈ lw_tbl := lw_at lw_m11 133 rfl
theorem q2633 : (Jvm.Cond.castable "[LBladeAlgebra$World;" "java/lang/Object") ∈ lw_tbl := lw_at lw_m11 138 rfl
set_option maxRecDepth 100000
theorem q2624 : (Jvm.Cond.sameMethod "[Ljava/lang/Object;" "java/lang/Object" "getClass" "()Ljava/lang/Class;") ∈ lw_all := lw_g (lw_at lw_m11 129 rfl) rfl
set_option maxRecDepth 100000
theorem q2625 : (Jvm.Cond.selects "[Ljava/lang/Object;" ({ cls := "java/lang/Object", name := "getClass", desc := "()Ljava/lang/Class;" } : Jvm.MethodName) ({ cls := "java/lang/Object", name := "getClass", desc := "()Ljava/lang/Class;" } : Jvm.MethodName)) ∈ lw_all := lw_g (lw_at lw_m11 130 rfl) rfl
theorem q2636 : (Jvm.Cond.castable "[Ljava/lang/Object;" "java/lang/Object") ∈ lw_tbl := lw_at lw_m11 141 rfl
theorem q2637 : (Jvm.Cond.castable "[Z" "java/lang/Object") ∈ lw_tbl := lw_at lw_m11 142 rfl
set_option maxRecDepth 100000
theorem q2630 : (Jvm.Cond.castable "[[I" "java/lang/Object") ∈ lw_tbl := lw_at lw_m11 135 rfl
set_option maxRecDepth 100000
theorem q97 : (Jvm.Cond.initialized "java/lang/Enum") ∈ lw_all := lw_g (lw_at lw_m1 2 rfl) rfl
set_option maxRecDepth 100000
theorem q140 : (Jvm.Cond.initialized "java/lang/Integer$IntegerCache") ∈ lw_all := lw_g (lw_at lw_m1 45 rfl) rfl
set_option maxRecDepth 100000
theorem q1744 : (Jvm.Cond.laysStatic "java/lang/Integer$IntegerCache" "high" "I") ∈ lw_tbl := lw_at lw_m7 209 rfl
theorem q1746 : (Jvm.Cond.laysStatic "java/lang/Integer$IntegerCache" "cache" "[Ljava/lang/Integer;") ∈ lw_tbl := lw_at lw_m7 211 rfl
theorem q137 : (Jvm.Cond.initialized "java/lang/System") ∈ lw_all := lw_g (lw_at lw_m1 42 rfl) rfl
set_option maxRecDepth 100000
theorem q1460 : (Jvm.Cond.static ({ cls := "java/lang/System", name := "arraycopy", desc := "(Ljava/lang/Object;ILjava/lang/Object;II)V" } : Jvm.MethodName)) ∈ lw_all := lw_g (lw_at lw_m6 165 rfl) rfl
theorem q1461 : (Jvm.Cond.native ({ cls := "java/lang/System", name := "arraycopy", desc := "(Ljava/lang/Object;ILjava/lang/Object;II)V" } : Jvm.MethodName)) ∈ lw_all := lw_g (lw_at lw_m6 166 rfl) rfl
theorem q947 : (Jvm.Cond.interfaceMethod "java/util/Iterator" "java/util/Iterator" "hasNext" "()Z") ∈ lw_tbl := lw_at lw_m4 132 rfl
set_option maxRecDepth 100000
theorem q948 : (Jvm.Cond.declares ({ cls := "java/util/Iterator", name := "hasNext", desc := "()Z" } : Jvm.MethodName)) ∈ lw_tbl := lw_at lw_m4 133 rfl
theorem q963 : (Jvm.Cond.interfaceMethod "java/util/Iterator" "java/util/Iterator" "next" "()Ljava/lang/Object;") ∈ lw_tbl := lw_at lw_m4 148 rfl
theorem q964 : (Jvm.Cond.declares ({ cls := "java/util/Iterator", name := "next", desc := "()Ljava/lang/Object;" } : Jvm.MethodName)) ∈ lw_tbl := lw_at lw_m4 149 rfl
theorem q164 : (Jvm.Cond.arrayOver (Jvm.ClassFile.FieldType.object "BladeAlgebra$Two")) ∈ lw_tbl := lw_at lw_m1 69 rfl
set_option maxRecDepth 100000
theorem q175 : (Jvm.Cond.arrayOver (Jvm.ClassFile.FieldType.object "BladeAlgebra$One")) ∈ lw_tbl := lw_at lw_m1 80 rfl
theorem q193 : (Jvm.Cond.arrayOver (Jvm.ClassFile.FieldType.array Jvm.ClassFile.FieldType.int)) ∈ lw_tbl := lw_at lw_m1 98 rfl
theorem q230 : (Jvm.Cond.arrayClass Jvm.ClassFile.FieldType.int) ∈ lw_all := lw_g (lw_at lw_m1 135 rfl) rfl
theorem q232 : (Jvm.Cond.arrayOver (Jvm.ClassFile.FieldType.object "BladeAlgebra$Multi")) ∈ lw_tbl := lw_at lw_m1 137 rfl
theorem q250 : (Jvm.Cond.arrayOver (Jvm.ClassFile.FieldType.object "BladeAlgebra$World")) ∈ lw_tbl := lw_at lw_m1 155 rfl
theorem q283 : (Jvm.Cond.arrayClass Jvm.ClassFile.FieldType.byte) ∈ lw_all := lw_g (lw_at lw_m1 188 rfl) rfl
theorem q542 : (Jvm.Cond.arrayClass Jvm.ClassFile.FieldType.long) ∈ lw_all := lw_g (lw_at lw_m2 207 rfl) rfl
theorem q1415 : (Jvm.Cond.arrayOver (Jvm.ClassFile.FieldType.object "java/lang/Object")) ∈ lw_tbl := lw_at lw_m6 120 rfl
theorem q2088 : (Jvm.Cond.arrayClass Jvm.ClassFile.FieldType.boolean) ∈ lw_all := lw_g (lw_at lw_m9 73 rfl) rfl
/-! java/util/ArrayList -/
set_option maxRecDepth 100000
def RJ20 : String := "java/util/ArrayList"
def TJ20 : u_T := fun k => match k with
  | 0 => ("java/util/AbstractList", "modCount", "I", false)
  | 1 => ("java/util/ArrayList", "elementData", "[Ljava/lang/Object;", false)
  | _ => ("java/util/ArrayList", "size", "I", false)
def tyJ20 : Nat → FieldType := fun k => match k with
  | 0 => .int
  | 1 => .array (.object "java/lang/Object")
  | _ => .int
abbrev wsJ200 : List Cond := u_ws RJ20 TJ20 3
theorem nmJ20 : ∀ a, a < 3 → ∀ b, b < 3 → a ≠ b → (TJ20 a).2.1 ≠ (TJ20 b).2.1 := by decide +kernel
theorem tyJ20_ok : ∀ k, k < 3 → parseFieldDescriptor (TJ20 k).2.2.1 = some (tyJ20 k) := by decide +kernel
abbrev cJ20_init : ByteArray := prog_76_method_1_code
def yJ20_init : MethodName := ⟨RJ20, "<init>", "(I)V"⟩
def dkwJ20_init_2 : List UInt8 := [182, 0, 25, 27, 182, 0, 29, 182, 0, 32, 183, 0, 36, 191, 177]
abbrev dktJ20_init_2 : List UInt8 := dkwJ20_init_2 ++ []
def dkwJ20_init_1 : List UInt8 := [178, 0, 15, 181, 0, 9, 167, 0, 30, 187, 0, 18, 89, 187, 0, 20, 89, 183, 0, 22, 18, 23]
abbrev dktJ20_init_1 : List UInt8 := dkwJ20_init_1 ++ dktJ20_init_2
def dkwJ20_init_0 : List UInt8 := [42, 183, 0, 1, 27, 158, 0, 14, 42, 27, 189, 0, 7, 181, 0, 9, 167, 0, 44, 27, 154, 0, 13, 42]
abbrev dktJ20_init_0 : List UInt8 := dkwJ20_init_0 ++ dktJ20_init_1
theorem dksJ20_init_0 : cJ20_init.data.toList.drop 0 = dktJ20_init_0 := by decide +kernel
theorem dksJ20_init_1 : cJ20_init.data.toList.drop 24 = dktJ20_init_1 := dk_seg dksJ20_init_0 24 rfl rfl
theorem dksJ20_init_2 : cJ20_init.data.toList.drop 46 = dktJ20_init_2 := dk_seg dksJ20_init_1 22 rfl rfl
theorem dJ20_init_0 : decode cJ20_init 0 = .ok (.aload_n 0, 1) := dk_42 (dk_at dksJ20_init_0 0 rfl rfl)
theorem dJ20_init_1 : decode cJ20_init 1 = .ok (.invokespecial 1, 3) := dk_183 0 1 (dk_at dksJ20_init_0 1 rfl rfl)
theorem dJ20_init_4 : decode cJ20_init 4 = .ok (.iload_n 1, 1) := dk_27 (dk_at dksJ20_init_0 4 rfl rfl)
theorem dJ20_init_5 : decode cJ20_init 5 = .ok (.ifCond .le 14, 3) := dk_158 0 14 (dk_at dksJ20_init_0 5 rfl rfl)
theorem dJ20_init_8 : decode cJ20_init 8 = .ok (.aload_n 0, 1) := dk_42 (dk_at dksJ20_init_0 8 rfl rfl)
theorem dJ20_init_9 : decode cJ20_init 9 = .ok (.iload_n 1, 1) := dk_27 (dk_at dksJ20_init_0 9 rfl rfl)
theorem dJ20_init_10 : decode cJ20_init 10 = .ok (.anewarray 7, 3) := dk_189 0 7 (dk_at dksJ20_init_0 10 rfl rfl)
theorem dJ20_init_13 : decode cJ20_init 13 = .ok (.putfield 9, 3) := dk_181 0 9 (dk_at dksJ20_init_0 13 rfl rfl)
theorem dJ20_init_16 : decode cJ20_init 16 = .ok (.goto 44, 3) := dk_167 0 44 (dk_at dksJ20_init_0 16 rfl rfl)
theorem dJ20_init_19 : decode cJ20_init 19 = .ok (.iload_n 1, 1) := dk_27 (dk_at dksJ20_init_0 19 rfl rfl)
theorem dJ20_init_20 : decode cJ20_init 20 = .ok (.ifCond .ne 13, 3) := dk_154 0 13 (dk_at dksJ20_init_0 20 rfl rfl)
theorem dJ20_init_23 : decode cJ20_init 23 = .ok (.aload_n 0, 1) := dk_42 (dk_at dksJ20_init_0 23 rfl rfl)
theorem dJ20_init_24 : decode cJ20_init 24 = .ok (.getstatic 15, 3) := dk_178 0 15 (dk_at dksJ20_init_1 0 rfl rfl)
theorem dJ20_init_27 : decode cJ20_init 27 = .ok (.putfield 9, 3) := dk_181 0 9 (dk_at dksJ20_init_1 3 rfl rfl)
theorem dJ20_init_30 : decode cJ20_init 30 = .ok (.goto 30, 3) := dk_167 0 30 (dk_at dksJ20_init_1 6 rfl rfl)
theorem dJ20_init_33 : decode cJ20_init 33 = .ok (.new 18, 3) := dk_187 0 18 (dk_at dksJ20_init_1 9 rfl rfl)
theorem dJ20_init_36 : decode cJ20_init 36 = .ok (.dup, 1) := dk_89 (dk_at dksJ20_init_1 12 rfl rfl)
theorem dJ20_init_37 : decode cJ20_init 37 = .ok (.new 20, 3) := dk_187 0 20 (dk_at dksJ20_init_1 13 rfl rfl)
theorem dJ20_init_40 : decode cJ20_init 40 = .ok (.dup, 1) := dk_89 (dk_at dksJ20_init_1 16 rfl rfl)
theorem dJ20_init_41 : decode cJ20_init 41 = .ok (.invokespecial 22, 3) := dk_183 0 22 (dk_at dksJ20_init_1 17 rfl rfl)
theorem dJ20_init_44 : decode cJ20_init 44 = .ok (.ldc 23, 2) := dk_18 23 (dk_at dksJ20_init_1 20 rfl rfl)
theorem dJ20_init_46 : decode cJ20_init 46 = .ok (.invokevirtual 25, 3) := dk_182 0 25 (dk_at dksJ20_init_2 0 rfl rfl)
theorem dJ20_init_49 : decode cJ20_init 49 = .ok (.iload_n 1, 1) := dk_27 (dk_at dksJ20_init_2 3 rfl rfl)
theorem dJ20_init_50 : decode cJ20_init 50 = .ok (.invokevirtual 29, 3) := dk_182 0 29 (dk_at dksJ20_init_2 4 rfl rfl)
theorem dJ20_init_53 : decode cJ20_init 53 = .ok (.invokevirtual 32, 3) := dk_182 0 32 (dk_at dksJ20_init_2 7 rfl rfl)
theorem dJ20_init_56 : decode cJ20_init 56 = .ok (.invokespecial 36, 3) := dk_183 0 36 (dk_at dksJ20_init_2 10 rfl rfl)
theorem dJ20_init_59 : decode cJ20_init 59 = .ok (.athrow, 1) := dk_191 (dk_at dksJ20_init_2 13 rfl rfl)
theorem dJ20_init_60 : decode cJ20_init 60 = .ok (.return_, 1) := dk_177 (dk_at dksJ20_init_2 14 rfl rfl)
abbrev cJ20_add : ByteArray := prog_76_method_25_code
def yJ20_add : MethodName := ⟨RJ20, "add", "(Ljava/lang/Object;)Z"⟩
def dkwJ20_add_1 : List UInt8 := [172]
abbrev dktJ20_add_1 : List UInt8 := dkwJ20_add_1 ++ []
def dkwJ20_add_0 : List UInt8 := [42, 89, 180, 0, 63, 4, 96, 181, 0, 63, 42, 43, 42, 180, 0, 9, 42, 180, 0, 48, 182, 0, 131, 4]
abbrev dktJ20_add_0 : List UInt8 := dkwJ20_add_0 ++ dktJ20_add_1
theorem dksJ20_add_0 : cJ20_add.data.toList.drop 0 = dktJ20_add_0 := by decide +kernel
theorem dksJ20_add_1 : cJ20_add.data.toList.drop 24 = dktJ20_add_1 := dk_seg dksJ20_add_0 24 rfl rfl
theorem dJ20_add_0 : decode cJ20_add 0 = .ok (.aload_n 0, 1) := dk_42 (dk_at dksJ20_add_0 0 rfl rfl)
theorem dJ20_add_1 : decode cJ20_add 1 = .ok (.dup, 1) := dk_89 (dk_at dksJ20_add_0 1 rfl rfl)
theorem dJ20_add_2 : decode cJ20_add 2 = .ok (.getfield 63, 3) := dk_180 0 63 (dk_at dksJ20_add_0 2 rfl rfl)
theorem dJ20_add_5 : decode cJ20_add 5 = .ok (.iconst 1, 1) := dk_4 (dk_at dksJ20_add_0 5 rfl rfl)
theorem dJ20_add_6 : decode cJ20_add 6 = .ok (.iadd, 1) := dk_96 (dk_at dksJ20_add_0 6 rfl rfl)
theorem dJ20_add_7 : decode cJ20_add 7 = .ok (.putfield 63, 3) := dk_181 0 63 (dk_at dksJ20_add_0 7 rfl rfl)
theorem dJ20_add_10 : decode cJ20_add 10 = .ok (.aload_n 0, 1) := dk_42 (dk_at dksJ20_add_0 10 rfl rfl)
theorem dJ20_add_11 : decode cJ20_add 11 = .ok (.aload_n 1, 1) := dk_43 (dk_at dksJ20_add_0 11 rfl rfl)
theorem dJ20_add_12 : decode cJ20_add 12 = .ok (.aload_n 0, 1) := dk_42 (dk_at dksJ20_add_0 12 rfl rfl)
theorem dJ20_add_13 : decode cJ20_add 13 = .ok (.getfield 9, 3) := dk_180 0 9 (dk_at dksJ20_add_0 13 rfl rfl)
theorem dJ20_add_16 : decode cJ20_add 16 = .ok (.aload_n 0, 1) := dk_42 (dk_at dksJ20_add_0 16 rfl rfl)
theorem dJ20_add_17 : decode cJ20_add 17 = .ok (.getfield 48, 3) := dk_180 0 48 (dk_at dksJ20_add_0 17 rfl rfl)
theorem dJ20_add_20 : decode cJ20_add 20 = .ok (.invokevirtual 131, 3) := dk_182 0 131 (dk_at dksJ20_add_0 20 rfl rfl)
theorem dJ20_add_23 : decode cJ20_add 23 = .ok (.iconst 1, 1) := dk_4 (dk_at dksJ20_add_0 23 rfl rfl)
theorem dJ20_add_24 : decode cJ20_add 24 = .ok (.ireturn, 1) := dk_172 (dk_at dksJ20_add_1 0 rfl rfl)
abbrev cJ20_add_2 : ByteArray := prog_76_method_24_code
def yJ20_add_2 : MethodName := ⟨RJ20, "add", "(Ljava/lang/Object;[Ljava/lang/Object;I)V"⟩
def dkwJ20_add_2_0 : List UInt8 := [29, 44, 190, 160, 0, 8, 42, 182, 0, 129, 77, 44, 29, 43, 83, 42, 29, 4, 96, 181, 0, 48, 177]
abbrev dktJ20_add_2_0 : List UInt8 := dkwJ20_add_2_0 ++ []
theorem dksJ20_add_2_0 : cJ20_add_2.data.toList.drop 0 = dktJ20_add_2_0 := by decide +kernel
theorem dJ20_add_2_0 : decode cJ20_add_2 0 = .ok (.iload_n 3, 1) := dk_29 (dk_at dksJ20_add_2_0 0 rfl rfl)
theorem dJ20_add_2_1 : decode cJ20_add_2 1 = .ok (.aload_n 2, 1) := dk_44 (dk_at dksJ20_add_2_0 1 rfl rfl)
theorem dJ20_add_2_2 : decode cJ20_add_2 2 = .ok (.arraylength, 1) := dk_190 (dk_at dksJ20_add_2_0 2 rfl rfl)
theorem dJ20_add_2_3 : decode cJ20_add_2 3 = .ok (.if_icmp .ne 8, 3) := dk_160 0 8 (dk_at dksJ20_add_2_0 3 rfl rfl)
theorem dJ20_add_2_6 : decode cJ20_add_2 6 = .ok (.aload_n 0, 1) := dk_42 (dk_at dksJ20_add_2_0 6 rfl rfl)
theorem dJ20_add_2_7 : decode cJ20_add_2 7 = .ok (.invokevirtual 129, 3) := dk_182 0 129 (dk_at dksJ20_add_2_0 7 rfl rfl)
theorem dJ20_add_2_10 : decode cJ20_add_2 10 = .ok (.astore_n 2, 1) := dk_77 (dk_at dksJ20_add_2_0 10 rfl rfl)
theorem dJ20_add_2_11 : decode cJ20_add_2 11 = .ok (.aload_n 2, 1) := dk_44 (dk_at dksJ20_add_2_0 11 rfl rfl)
theorem dJ20_add_2_12 : decode cJ20_add_2 12 = .ok (.iload_n 3, 1) := dk_29 (dk_at dksJ20_add_2_0 12 rfl rfl)
theorem dJ20_add_2_13 : decode cJ20_add_2 13 = .ok (.aload_n 1, 1) := dk_43 (dk_at dksJ20_add_2_0 13 rfl rfl)
theorem dJ20_add_2_14 : decode cJ20_add_2 14 = .ok (.aastore, 1) := dk_83 (dk_at dksJ20_add_2_0 14 rfl rfl)
theorem dJ20_add_2_15 : decode cJ20_add_2 15 = .ok (.aload_n 0, 1) := dk_42 (dk_at dksJ20_add_2_0 15 rfl rfl)
theorem dJ20_add_2_16 : decode cJ20_add_2 16 = .ok (.iload_n 3, 1) := dk_29 (dk_at dksJ20_add_2_0 16 rfl rfl)
theorem dJ20_add_2_17 : decode cJ20_add_2 17 = .ok (.iconst 1, 1) := dk_4 (dk_at dksJ20_add_2_0 17 rfl rfl)
theorem dJ20_add_2_18 : decode cJ20_add_2 18 = .ok (.iadd, 1) := dk_96 (dk_at dksJ20_add_2_0 18 rfl rfl)
theorem dJ20_add_2_19 : decode cJ20_add_2 19 = .ok (.putfield 48, 3) := dk_181 0 48 (dk_at dksJ20_add_2_0 19 rfl rfl)
theorem dJ20_add_2_22 : decode cJ20_add_2 22 = .ok (.return_, 1) := dk_177 (dk_at dksJ20_add_2_0 22 rfl rfl)
abbrev cJ20_grow : ByteArray := prog_76_method_7_code
def yJ20_grow : MethodName := ⟨RJ20, "grow", "()[Ljava/lang/Object;"⟩
def dkwJ20_grow_0 : List UInt8 := [42, 42, 180, 0, 48, 4, 96, 182, 0, 69, 176]
abbrev dktJ20_grow_0 : List UInt8 := dkwJ20_grow_0 ++ []
theorem dksJ20_grow_0 : cJ20_grow.data.toList.drop 0 = dktJ20_grow_0 := by decide +kernel
theorem dJ20_grow_0 : decode cJ20_grow 0 = .ok (.aload_n 0, 1) := dk_42 (dk_at dksJ20_grow_0 0 rfl rfl)
theorem dJ20_grow_1 : decode cJ20_grow 1 = .ok (.aload_n 0, 1) := dk_42 (dk_at dksJ20_grow_0 1 rfl rfl)
theorem dJ20_grow_2 : decode cJ20_grow 2 = .ok (.getfield 48, 3) := dk_180 0 48 (dk_at dksJ20_grow_0 2 rfl rfl)
theorem dJ20_grow_5 : decode cJ20_grow 5 = .ok (.iconst 1, 1) := dk_4 (dk_at dksJ20_grow_0 5 rfl rfl)
theorem dJ20_grow_6 : decode cJ20_grow 6 = .ok (.iadd, 1) := dk_96 (dk_at dksJ20_grow_0 6 rfl rfl)
theorem dJ20_grow_7 : decode cJ20_grow 7 = .ok (.invokevirtual 69, 3) := dk_182 0 69 (dk_at dksJ20_grow_0 7 rfl rfl)
theorem dJ20_grow_10 : decode cJ20_grow 10 = .ok (.areturn, 1) := dk_176 (dk_at dksJ20_grow_0 10 rfl rfl)
abbrev cJ20_grow_2 : ByteArray := prog_76_method_6_code
def yJ20_grow_2 : MethodName := ⟨RJ20, "grow", "(I)[Ljava/lang/Object;"⟩
def dkwJ20_grow_2_2 : List UInt8 := [27, 184, 0, 79, 189, 0, 7, 90, 181, 0, 9, 176]
abbrev dktJ20_grow_2_2 : List UInt8 := dkwJ20_grow_2_2 ++ []
def dkwJ20_grow_2_1 : List UInt8 := [28, 4, 122, 184, 0, 73, 62, 42, 42, 180, 0, 9, 29, 184, 0, 66, 90, 181, 0, 9, 176, 42, 16, 10]
abbrev dktJ20_grow_2_1 : List UInt8 := dkwJ20_grow_2_1 ++ dktJ20_grow_2_2
def dkwJ20_grow_2_0 : List UInt8 := [42, 180, 0, 9, 190, 61, 28, 157, 0, 13, 42, 180, 0, 9, 178, 0, 39, 165, 0, 28, 28, 27, 28, 100]
abbrev dktJ20_grow_2_0 : List UInt8 := dkwJ20_grow_2_0 ++ dktJ20_grow_2_1
theorem dksJ20_grow_2_0 : cJ20_grow_2.data.toList.drop 0 = dktJ20_grow_2_0 := by decide +kernel
theorem dksJ20_grow_2_1 : cJ20_grow_2.data.toList.drop 24 = dktJ20_grow_2_1 := dk_seg dksJ20_grow_2_0 24 rfl rfl
theorem dksJ20_grow_2_2 : cJ20_grow_2.data.toList.drop 48 = dktJ20_grow_2_2 := dk_seg dksJ20_grow_2_1 24 rfl rfl
theorem dJ20_grow_2_0 : decode cJ20_grow_2 0 = .ok (.aload_n 0, 1) := dk_42 (dk_at dksJ20_grow_2_0 0 rfl rfl)
theorem dJ20_grow_2_1 : decode cJ20_grow_2 1 = .ok (.getfield 9, 3) := dk_180 0 9 (dk_at dksJ20_grow_2_0 1 rfl rfl)
theorem dJ20_grow_2_4 : decode cJ20_grow_2 4 = .ok (.arraylength, 1) := dk_190 (dk_at dksJ20_grow_2_0 4 rfl rfl)
theorem dJ20_grow_2_5 : decode cJ20_grow_2 5 = .ok (.istore_n 2, 1) := dk_61 (dk_at dksJ20_grow_2_0 5 rfl rfl)
theorem dJ20_grow_2_6 : decode cJ20_grow_2 6 = .ok (.iload_n 2, 1) := dk_28 (dk_at dksJ20_grow_2_0 6 rfl rfl)
theorem dJ20_grow_2_7 : decode cJ20_grow_2 7 = .ok (.ifCond .gt 13, 3) := dk_157 0 13 (dk_at dksJ20_grow_2_0 7 rfl rfl)
theorem dJ20_grow_2_10 : decode cJ20_grow_2 10 = .ok (.aload_n 0, 1) := dk_42 (dk_at dksJ20_grow_2_0 10 rfl rfl)
theorem dJ20_grow_2_11 : decode cJ20_grow_2 11 = .ok (.getfield 9, 3) := dk_180 0 9 (dk_at dksJ20_grow_2_0 11 rfl rfl)
theorem dJ20_grow_2_14 : decode cJ20_grow_2 14 = .ok (.getstatic 39, 3) := dk_178 0 39 (dk_at dksJ20_grow_2_0 14 rfl rfl)
theorem dJ20_grow_2_17 : decode cJ20_grow_2 17 = .ok (.if_acmp .eq 28, 3) := dk_165 0 28 (dk_at dksJ20_grow_2_0 17 rfl rfl)
theorem dJ20_grow_2_20 : decode cJ20_grow_2 20 = .ok (.iload_n 2, 1) := dk_28 (dk_at dksJ20_grow_2_0 20 rfl rfl)
theorem dJ20_grow_2_21 : decode cJ20_grow_2 21 = .ok (.iload_n 1, 1) := dk_27 (dk_at dksJ20_grow_2_0 21 rfl rfl)
theorem dJ20_grow_2_22 : decode cJ20_grow_2 22 = .ok (.iload_n 2, 1) := dk_28 (dk_at dksJ20_grow_2_0 22 rfl rfl)
theorem dJ20_grow_2_23 : decode cJ20_grow_2 23 = .ok (.isub, 1) := dk_100 (dk_at dksJ20_grow_2_0 23 rfl rfl)
theorem dJ20_grow_2_24 : decode cJ20_grow_2 24 = .ok (.iload_n 2, 1) := dk_28 (dk_at dksJ20_grow_2_1 0 rfl rfl)
theorem dJ20_grow_2_25 : decode cJ20_grow_2 25 = .ok (.iconst 1, 1) := dk_4 (dk_at dksJ20_grow_2_1 1 rfl rfl)
theorem dJ20_grow_2_26 : decode cJ20_grow_2 26 = .ok (.ishr, 1) := dk_122 (dk_at dksJ20_grow_2_1 2 rfl rfl)
theorem dJ20_grow_2_27 : decode cJ20_grow_2 27 = .ok (.invokestatic 73, 3) := dk_184 0 73 (dk_at dksJ20_grow_2_1 3 rfl rfl)
theorem dJ20_grow_2_30 : decode cJ20_grow_2 30 = .ok (.istore_n 3, 1) := dk_62 (dk_at dksJ20_grow_2_1 6 rfl rfl)
theorem dJ20_grow_2_31 : decode cJ20_grow_2 31 = .ok (.aload_n 0, 1) := dk_42 (dk_at dksJ20_grow_2_1 7 rfl rfl)
theorem dJ20_grow_2_32 : decode cJ20_grow_2 32 = .ok (.aload_n 0, 1) := dk_42 (dk_at dksJ20_grow_2_1 8 rfl rfl)
theorem dJ20_grow_2_33 : decode cJ20_grow_2 33 = .ok (.getfield 9, 3) := dk_180 0 9 (dk_at dksJ20_grow_2_1 9 rfl rfl)
theorem dJ20_grow_2_36 : decode cJ20_grow_2 36 = .ok (.iload_n 3, 1) := dk_29 (dk_at dksJ20_grow_2_1 12 rfl rfl)
theorem dJ20_grow_2_37 : decode cJ20_grow_2 37 = .ok (.invokestatic 66, 3) := dk_184 0 66 (dk_at dksJ20_grow_2_1 13 rfl rfl)
theorem dJ20_grow_2_40 : decode cJ20_grow_2 40 = .ok (.dup_x1, 1) := dk_90 (dk_at dksJ20_grow_2_1 16 rfl rfl)
theorem dJ20_grow_2_41 : decode cJ20_grow_2 41 = .ok (.putfield 9, 3) := dk_181 0 9 (dk_at dksJ20_grow_2_1 17 rfl rfl)
theorem dJ20_grow_2_44 : decode cJ20_grow_2 44 = .ok (.areturn, 1) := dk_176 (dk_at dksJ20_grow_2_1 20 rfl rfl)
theorem dJ20_grow_2_45 : decode cJ20_grow_2 45 = .ok (.aload_n 0, 1) := dk_42 (dk_at dksJ20_grow_2_1 21 rfl rfl)
theorem dJ20_grow_2_46 : decode cJ20_grow_2 46 = .ok (.bipush 10, 2) := dk_16 10 (dk_at dksJ20_grow_2_1 22 rfl rfl)
theorem dJ20_grow_2_48 : decode cJ20_grow_2 48 = .ok (.iload_n 1, 1) := dk_27 (dk_at dksJ20_grow_2_2 0 rfl rfl)
theorem dJ20_grow_2_49 : decode cJ20_grow_2 49 = .ok (.invokestatic 79, 3) := dk_184 0 79 (dk_at dksJ20_grow_2_2 1 rfl rfl)
theorem dJ20_grow_2_52 : decode cJ20_grow_2 52 = .ok (.anewarray 7, 3) := dk_189 0 7 (dk_at dksJ20_grow_2_2 4 rfl rfl)
theorem dJ20_grow_2_55 : decode cJ20_grow_2 55 = .ok (.dup_x1, 1) := dk_90 (dk_at dksJ20_grow_2_2 7 rfl rfl)
theorem dJ20_grow_2_56 : decode cJ20_grow_2 56 = .ok (.putfield 9, 3) := dk_181 0 9 (dk_at dksJ20_grow_2_2 8 rfl rfl)
theorem dJ20_grow_2_59 : decode cJ20_grow_2 59 = .ok (.areturn, 1) := dk_176 (dk_at dksJ20_grow_2_2 11 rfl rfl)
abbrev cJ20_iterator : ByteArray := prog_76_method_55_code
def yJ20_iterator : MethodName := ⟨RJ20, "iterator", "()Ljava/util/Iterator;"⟩
def dkwJ20_iterator_0 : List UInt8 := [187, 1, 11, 89, 42, 183, 1, 13, 176]
abbrev dktJ20_iterator_0 : List UInt8 := dkwJ20_iterator_0 ++ []
theorem dksJ20_iterator_0 : cJ20_iterator.data.toList.drop 0 = dktJ20_iterator_0 := by decide +kernel
theorem dJ20_iterator_0 : decode cJ20_iterator 0 = .ok (.new 267, 3) := dk_187 1 11 (dk_at dksJ20_iterator_0 0 rfl rfl)
theorem dJ20_iterator_3 : decode cJ20_iterator 3 = .ok (.dup, 1) := dk_89 (dk_at dksJ20_iterator_0 3 rfl rfl)
theorem dJ20_iterator_4 : decode cJ20_iterator 4 = .ok (.aload_n 0, 1) := dk_42 (dk_at dksJ20_iterator_0 4 rfl rfl)
theorem dJ20_iterator_5 : decode cJ20_iterator 5 = .ok (.invokespecial 269, 3) := dk_183 1 13 (dk_at dksJ20_iterator_0 5 rfl rfl)
theorem dJ20_iterator_8 : decode cJ20_iterator 8 = .ok (.areturn, 1) := dk_176 (dk_at dksJ20_iterator_0 8 rfl rfl)
abbrev cJ20_size : ByteArray := prog_76_method_8_code
def yJ20_size : MethodName := ⟨RJ20, "size", "()I"⟩
theorem dJ20_size_0 : decode cJ20_size 0 = .ok (.aload_n 0, 1) := by decide +kernel
theorem dJ20_size_1 : decode cJ20_size 1 = .ok (.getfield 48, 3) := by decide +kernel
theorem dJ20_size_4 : decode cJ20_size 4 = .ok (.ireturn, 1) := by decide +kernel
abbrev cJ20_get : ByteArray := prog_76_method_20_code
def yJ20_get : MethodName := ⟨RJ20, "get", "(I)Ljava/lang/Object;"⟩
def dkwJ20_get_0 : List UInt8 := [27, 42, 180, 0, 48, 184, 0, 118, 87, 42, 27, 182, 0, 123, 176]
abbrev dktJ20_get_0 : List UInt8 := dkwJ20_get_0 ++ []
theorem dksJ20_get_0 : cJ20_get.data.toList.drop 0 = dktJ20_get_0 := by decide +kernel
theorem dJ20_get_0 : decode cJ20_get 0 = .ok (.iload_n 1, 1) := dk_27 (dk_at dksJ20_get_0 0 rfl rfl)
theorem dJ20_get_1 : decode cJ20_get 1 = .ok (.aload_n 0, 1) := dk_42 (dk_at dksJ20_get_0 1 rfl rfl)
theorem dJ20_get_2 : decode cJ20_get 2 = .ok (.getfield 48, 3) := dk_180 0 48 (dk_at dksJ20_get_0 2 rfl rfl)
theorem dJ20_get_5 : decode cJ20_get 5 = .ok (.invokestatic 118, 3) := dk_184 0 118 (dk_at dksJ20_get_0 5 rfl rfl)
theorem dJ20_get_8 : decode cJ20_get 8 = .ok (.pop, 1) := dk_87 (dk_at dksJ20_get_0 8 rfl rfl)
theorem dJ20_get_9 : decode cJ20_get 9 = .ok (.aload_n 0, 1) := dk_42 (dk_at dksJ20_get_0 9 rfl rfl)
theorem dJ20_get_10 : decode cJ20_get 10 = .ok (.iload_n 1, 1) := dk_27 (dk_at dksJ20_get_0 10 rfl rfl)
theorem dJ20_get_11 : decode cJ20_get 11 = .ok (.invokevirtual 123, 3) := dk_182 0 123 (dk_at dksJ20_get_0 11 rfl rfl)
theorem dJ20_get_14 : decode cJ20_get 14 = .ok (.areturn, 1) := dk_176 (dk_at dksJ20_get_0 14 rfl rfl)
abbrev cJ20_elementData : ByteArray := prog_76_method_18_code
def yJ20_elementData : MethodName := ⟨RJ20, "elementData", "(I)Ljava/lang/Object;"⟩
def dkwJ20_elementData_0 : List UInt8 := [42, 180, 0, 9, 27, 50, 176]
abbrev dktJ20_elementData_0 : List UInt8 := dkwJ20_elementData_0 ++ []
theorem dksJ20_elementData_0 : cJ20_elementData.data.toList.drop 0 = dktJ20_elementData_0 := by decide +kernel
theorem dJ20_elementData_0 : decode cJ20_elementData 0 = .ok (.aload_n 0, 1) := dk_42 (dk_at dksJ20_elementData_0 0 rfl rfl)
theorem dJ20_elementData_1 : decode cJ20_elementData 1 = .ok (.getfield 9, 3) := dk_180 0 9 (dk_at dksJ20_elementData_0 1 rfl rfl)
theorem dJ20_elementData_4 : decode cJ20_elementData 4 = .ok (.iload_n 1, 1) := dk_27 (dk_at dksJ20_elementData_0 4 rfl rfl)
theorem dJ20_elementData_5 : decode cJ20_elementData 5 = .ok (.aaload, 1) := dk_50 (dk_at dksJ20_elementData_0 5 rfl rfl)
theorem dJ20_elementData_6 : decode cJ20_elementData 6 = .ok (.areturn, 1) := dk_176 (dk_at dksJ20_elementData_0 6 rfl rfl)
theorem q134 : (Jvm.Cond.initialized "java/util/ArrayList") ∈ lw_all := lw_g (lw_at lw_m1 39 rfl) rfl
theorem q1403 : (Jvm.Cond.instantiable "java/util/ArrayList" (3 : Nat)) ∈ lw_all := lw_g (lw_at lw_m6 108 rfl) rfl
theorem q1405 : (Jvm.Cond.instanceMethod ({ cls := "java/util/ArrayList", name := "<init>", desc := "(I)V" } : Jvm.MethodName)) ∈ lw_all := lw_g (lw_at lw_m6 110 rfl) rfl
theorem q1406 : (Jvm.Cond.code ({ cls := "java/util/ArrayList", name := "<init>", desc := "(I)V" } : Jvm.MethodName) prog_76_method_1_code (2 : Nat) (Option.none : Option Jvm.ClassFile.FieldType)) ∈ lw_all := lw_g (lw_at lw_m6 111 rfl) rfl
theorem q1407 : (Jvm.Cond.methodLink "java/util/ArrayList" (1 : Nat) ({ cls := "java/util/AbstractList", name := "<init>", desc := "()V" } : Jvm.MethodName)) ∈ lw_all := lw_g (lw_at lw_m6 112 rfl) rfl
theorem q1414 : (Jvm.Cond.classLink "java/util/ArrayList" (7 : Nat) "java/lang/Object") ∈ lw_all := lw_g (lw_at lw_m6 119 rfl) rfl
theorem q1416 : (Jvm.Cond.fieldLink "java/util/ArrayList" (15 : Nat) "java/util/ArrayList" "EMPTY_ELEMENTDATA" "[Ljava/lang/Object;") ∈ lw_all := lw_g (lw_at lw_m6 121 rfl) rfl
theorem q1417 : (Jvm.Cond.laysStatic "java/util/ArrayList" "EMPTY_ELEMENTDATA" "[Ljava/lang/Object;") ∈ lw_tbl := lw_at lw_m6 122 rfl
theorem q1418 : (Jvm.Cond.classLink "java/util/ArrayList" (18 : Nat) "java/lang/IllegalArgumentException") ∈ lw_all := lw_g (lw_at lw_m6 123 rfl) rfl
theorem q1419 : (Jvm.Cond.classLink "java/util/ArrayList" (20 : Nat) "java/lang/StringBuilder") ∈ lw_all := lw_g (lw_at lw_m6 124 rfl) rfl
theorem q1420 : (Jvm.Cond.methodLink "java/util/ArrayList" (22 : Nat) ({ cls := "java/lang/StringBuilder", name := "<init>", desc := "()V" } : Jvm.MethodName)) ∈ lw_all := lw_g (lw_at lw_m6 125 rfl) rfl
theorem q1421 : (Jvm.Cond.stringRef "java/util/ArrayList" (23 : Nat) "Illegal Capacity: ") ∈ lw_tbl := lw_at lw_m6 126 rfl
theorem q1422 : (Jvm.Cond.methodLink "java/util/ArrayList" (25 : Nat) ({ cls := "java/lang/StringBuilder", name := "append", desc := "(Ljava/lang/String;)Ljava/lang/StringBuilder;" } : Jvm.MethodName)) ∈ lw_all := lw_g (lw_at lw_m6 127 rfl) rfl
theorem q1508 : (Jvm.Cond.methodLink "java/util/ArrayList" (29 : Nat) ({ cls := "java/lang/StringBuilder", name := "append", desc := "(I)Ljava/lang/StringBuilder;" } : Jvm.MethodName)) ∈ lw_all := lw_g (lw_at lw_m6 213 rfl) rfl
theorem q1533 : (Jvm.Cond.methodLink "java/util/ArrayList" (32 : Nat) ({ cls := "java/lang/StringBuilder", name := "toString", desc := "()Ljava/lang/String;" } : Jvm.MethodName)) ∈ lw_all := lw_g (lw_at lw_m6 238 rfl) rfl
theorem q1593 : (Jvm.Cond.methodLink "java/util/ArrayList" (36 : Nat) ({ cls := "java/lang/IllegalArgumentException", name := "<init>", desc := "(Ljava/lang/String;)V" } : Jvm.MethodName)) ∈ lw_all := lw_g (lw_at lw_m7 58 rfl) rfl
theorem q1594 : (Jvm.Cond.fieldLink "java/util/ArrayList" (9 : Nat) "java/util/ArrayList" "elementData" "[Ljava/lang/Object;") ∈ lw_all := lw_g (lw_at lw_m7 59 rfl) rfl
theorem q1597 : (Jvm.Cond.fieldLink "java/util/ArrayList" (48 : Nat) "java/util/ArrayList" "size" "I") ∈ lw_all := lw_g (lw_at lw_m7 62 rfl) rfl
theorem q1600 : (Jvm.Cond.sameField "java/util/ArrayList" "java/util/AbstractList" "modCount" "I") ∈ lw_all := lw_g (lw_at lw_m7 65 rfl) rfl
theorem q1601 : (Jvm.Cond.fieldLink "java/util/ArrayList" (63 : Nat) "java/util/ArrayList" "modCount" "I") ∈ lw_all := lw_g (lw_at lw_m7 66 rfl) rfl
theorem q1602 : (Jvm.Cond.lays "java/util/ArrayList" "java/util/ArrayList" "elementData" "[Ljava/lang/Object;") ∈ lw_all := lw_g (lw_at lw_m7 67 rfl) rfl
theorem q1603 : (Jvm.Cond.soleField "java/util/ArrayList" "elementData") ∈ lw_all := lw_g (lw_at lw_m7 68 rfl) rfl
theorem q1604 : (Jvm.Cond.lays "java/util/ArrayList" "java/util/ArrayList" "size" "I") ∈ lw_all := lw_g (lw_at lw_m7 69 rfl) rfl
theorem q1605 : (Jvm.Cond.soleField "java/util/ArrayList" "size") ∈ lw_all := lw_g (lw_at lw_m7 70 rfl) rfl
theorem q1606 : (Jvm.Cond.lays "java/util/ArrayList" "java/util/AbstractList" "modCount" "I") ∈ lw_all := lw_g (lw_at lw_m7 71 rfl) rfl
theorem q1608 : (Jvm.Cond.superclass "java/util/ArrayList" "java/util/AbstractList") ∈ lw_all := lw_g (lw_at lw_m7 73 rfl) rfl
theorem q1627 : (Jvm.Cond.instanceMethod ({ cls := "java/util/ArrayList", name := "add", desc := "(Ljava/lang/Object;)Z" } : Jvm.MethodName)) ∈ lw_all := lw_g (lw_at lw_m7 92 rfl) rfl
theorem q1628 : (Jvm.Cond.selects "java/util/ArrayList" ({ cls := "java/util/ArrayList", name := "add", desc := "(Ljava/lang/Object;)Z" } : Jvm.MethodName) ({ cls := "java/util/ArrayList", name := "add", desc := "(Ljava/lang/Object;)Z" } : Jvm.MethodName)) ∈ lw_all := lw_g (lw_at lw_m7 93 rfl) rfl
theorem q1629 : (Jvm.Cond.code ({ cls := "java/util/ArrayList", name := "add", desc := "(Ljava/lang/Object;)Z" } : Jvm.MethodName) prog_76_method_25_code (2 : Nat) (Option.some Jvm.ClassFile.FieldType.boolean)) ∈ lw_all := lw_g (lw_at lw_m7 94 rfl) rfl
theorem q1630 : (Jvm.Cond.methodLink "java/util/ArrayList" (131 : Nat) ({ cls := "java/util/ArrayList", name := "add", desc := "(Ljava/lang/Object;[Ljava/lang/Object;I)V" } : Jvm.MethodName)) ∈ lw_all := lw_g (lw_at lw_m7 95 rfl) rfl
theorem q1631 : (Jvm.Cond.privateMethod ({ cls := "java/util/ArrayList", name := "add", desc := "(Ljava/lang/Object;[Ljava/lang/Object;I)V" } : Jvm.MethodName)) ∈ lw_tbl := lw_at lw_m7 96 rfl
theorem q1632 : (Jvm.Cond.instanceMethod ({ cls := "java/util/ArrayList", name := "add", desc := "(Ljava/lang/Object;[Ljava/lang/Object;I)V" } : Jvm.MethodName)) ∈ lw_all := lw_g (lw_at lw_m7 97 rfl) rfl
theorem q1633 : (Jvm.Cond.code ({ cls := "java/util/ArrayList", name := "add", desc := "(Ljava/lang/Object;[Ljava/lang/Object;I)V" } : Jvm.MethodName) prog_76_method_24_code (4 : Nat) (Option.none : Option Jvm.ClassFile.FieldType)) ∈ lw_all := lw_g (lw_at lw_m7 98 rfl) rfl
theorem q1634 : (Jvm.Cond.methodLink "java/util/ArrayList" (129 : Nat) ({ cls := "java/util/ArrayList", name := "grow", desc := "()[Ljava/lang/Object;" } : Jvm.MethodName)) ∈ lw_all := lw_g (lw_at lw_m7 99 rfl) rfl
theorem q1635 : (Jvm.Cond.privateMethod ({ cls := "java/util/ArrayList", name := "grow", desc := "()[Ljava/lang/Object;" } : Jvm.MethodName)) ∈ lw_tbl := lw_at lw_m7 100 rfl
theorem q1636 : (Jvm.Cond.instanceMethod ({ cls := "java/util/ArrayList", name := "grow", desc := "()[Ljava/lang/Object;" } : Jvm.MethodName)) ∈ lw_all := lw_g (lw_at lw_m7 101 rfl) rfl
theorem q1637 : (Jvm.Cond.code ({ cls := "java/util/ArrayList", name := "grow", desc := "()[Ljava/lang/Object;" } : Jvm.MethodName) prog_76_method_7_code (1 : Nat) (Option.some (Jvm.ClassFile.FieldType.array (Jvm.ClassFile.FieldType.object "java/lang/Object")))) ∈ lw_all := lw_g (lw_at lw_m7 102 rfl) rfl
theorem q1638 : (Jvm.Cond.methodLink "java/util/ArrayList" (69 : Nat) ({ cls := "java/util/ArrayList", name := "grow", desc := "(I)[Ljava/lang/Object;" } : Jvm.MethodName)) ∈ lw_all := lw_g (lw_at lw_m7 103 rfl) rfl
theorem q1639 : (Jvm.Cond.privateMethod ({ cls := "java/util/ArrayList", name := "grow", desc := "(I)[Ljava/lang/Object;" } : Jvm.MethodName)) ∈ lw_tbl := lw_at lw_m7 104 rfl
theorem q1640 : (Jvm.Cond.instanceMethod ({ cls := "java/util/ArrayList", name := "grow", desc := "(I)[Ljava/lang/Object;" } : Jvm.MethodName)) ∈ lw_all := lw_g (lw_at lw_m7 105 rfl) rfl
theorem q1641 : (Jvm.Cond.code ({ cls := "java/util/ArrayList", name := "grow", desc := "(I)[Ljava/lang/Object;" } : Jvm.MethodName) prog_76_method_6_code (4 : Nat) (Option.some (Jvm.ClassFile.FieldType.array (Jvm.ClassFile.FieldType.object "java/lang/Object")))) ∈ lw_all := lw_g (lw_at lw_m7 106 rfl) rfl
theorem q1642 : (Jvm.Cond.fieldLink "java/util/ArrayList" (39 : Nat) "java/util/ArrayList" "DEFAULTCAPACITY_EMPTY_ELEMENTDATA" "[Ljava/lang/Object;") ∈ lw_all := lw_g (lw_at lw_m7 107 rfl) rfl
theorem q1643 : (Jvm.Cond.laysStatic "java/util/ArrayList" "DEFAULTCAPACITY_EMPTY_ELEMENTDATA" "[Ljava/lang/Object;") ∈ lw_tbl := lw_at lw_m7 108 rfl
theorem q1644 : (Jvm.Cond.methodLink "java/util/ArrayList" (73 : Nat) ({ cls := "jdk/internal/util/ArraysSupport", name := "newLength", desc := "(III)I" } : Jvm.MethodName)) ∈ lw_all := lw_g (lw_at lw_m7 109 rfl) rfl
theorem q1645 : (Jvm.Cond.methodLink "java/util/ArrayList" (66 : Nat) ({ cls := "java/util/Arrays", name := "copyOf", desc := "([Ljava/lang/Object;I)[Ljava/lang/Object;" } : Jvm.MethodName)) ∈ lw_all := lw_g (lw_at lw_m7 110 rfl) rfl
theorem q1698 : (Jvm.Cond.selects "java/util/ArrayList" ({ cls := "java/lang/Object", name := "getClass", desc := "()Ljava/lang/Class;" } : Jvm.MethodName) ({ cls := "java/lang/Object", name := "getClass", desc := "()Ljava/lang/Class;" } : Jvm.MethodName)) ∈ lw_all := lw_g (lw_at lw_m7 163 rfl) rfl
theorem q1707 : (Jvm.Cond.methodLink "java/util/ArrayList" (79 : Nat) ({ cls := "java/lang/Math", name := "max", desc := "(II)I" } : Jvm.MethodName)) ∈ lw_all := lw_g (lw_at lw_m7 172 rfl) rfl
theorem q1775 : (Jvm.Cond.instanceMethod ({ cls := "java/util/ArrayList", name := "iterator", desc := "()Ljava/util/Iterator;" } : Jvm.MethodName)) ∈ lw_all := lw_g (lw_at lw_m8 0 rfl) rfl
theorem q1776 : (Jvm.Cond.selects "java/util/ArrayList" ({ cls := "java/util/ArrayList", name := "iterator", desc := "()Ljava/util/Iterator;" } : Jvm.MethodName) ({ cls := "java/util/ArrayList", name := "iterator", desc := "()Ljava/util/Iterator;" } : Jvm.MethodName)) ∈ lw_all := lw_g (lw_at lw_m8 1 rfl) rfl
theorem q1777 : (Jvm.Cond.code ({ cls := "java/util/ArrayList", name := "iterator", desc := "()Ljava/util/Iterator;" } : Jvm.MethodName) prog_76_method_55_code (1 : Nat) (Option.some (Jvm.ClassFile.FieldType.object "java/util/Iterator"))) ∈ lw_all := lw_g (lw_at lw_m8 2 rfl) rfl
theorem q1778 : (Jvm.Cond.classLink "java/util/ArrayList" (267 : Nat) "java/util/ArrayList$Itr") ∈ lw_all := lw_g (lw_at lw_m8 3 rfl) rfl
theorem q1780 : (Jvm.Cond.methodLink "java/util/ArrayList" (269 : Nat) ({ cls := "java/util/ArrayList$Itr", name := "<init>", desc := "(Ljava/util/ArrayList;)V" } : Jvm.MethodName)) ∈ lw_all := lw_g (lw_at lw_m8 5 rfl) rfl
theorem q1805 : (Jvm.Cond.instanceMethod ({ cls := "java/util/ArrayList", name := "size", desc := "()I" } : Jvm.MethodName)) ∈ lw_all := lw_g (lw_at lw_m8 30 rfl) rfl
theorem q1806 : (Jvm.Cond.selects "java/util/ArrayList" ({ cls := "java/util/ArrayList", name := "size", desc := "()I" } : Jvm.MethodName) ({ cls := "java/util/ArrayList", name := "size", desc := "()I" } : Jvm.MethodName)) ∈ lw_all := lw_g (lw_at lw_m8 31 rfl) rfl
theorem q1807 : (Jvm.Cond.code ({ cls := "java/util/ArrayList", name := "size", desc := "()I" } : Jvm.MethodName) prog_76_method_8_code (1 : Nat) (Option.some Jvm.ClassFile.FieldType.int)) ∈ lw_all := lw_g (lw_at lw_m8 32 rfl) rfl
theorem q1809 : (Jvm.Cond.instanceMethod ({ cls := "java/util/ArrayList", name := "get", desc := "(I)Ljava/lang/Object;" } : Jvm.MethodName)) ∈ lw_all := lw_g (lw_at lw_m8 34 rfl) rfl
theorem q1810 : (Jvm.Cond.selects "java/util/ArrayList" ({ cls := "java/util/ArrayList", name := "get", desc := "(I)Ljava/lang/Object;" } : Jvm.MethodName) ({ cls := "java/util/ArrayList", name := "get", desc := "(I)Ljava/lang/Object;" } : Jvm.MethodName)) ∈ lw_all := lw_g (lw_at lw_m8 35 rfl) rfl
theorem q1811 : (Jvm.Cond.code ({ cls := "java/util/ArrayList", name := "get", desc := "(I)Ljava/lang/Object;" } : Jvm.MethodName) prog_76_method_20_code (2 : Nat) (Option.some (Jvm.ClassFile.FieldType.object "java/lang/Object"))) ∈ lw_all := lw_g (lw_at lw_m8 36 rfl) rfl
theorem q1812 : (Jvm.Cond.methodLink "java/util/ArrayList" (118 : Nat) ({ cls := "java/util/Objects", name := "checkIndex", desc := "(II)I" } : Jvm.MethodName)) ∈ lw_all := lw_g (lw_at lw_m8 37 rfl) rfl
theorem q1818 : (Jvm.Cond.methodLink "java/util/ArrayList" (123 : Nat) ({ cls := "java/util/ArrayList", name := "elementData", desc := "(I)Ljava/lang/Object;" } : Jvm.MethodName)) ∈ lw_all := lw_g (lw_at lw_m8 43 rfl) rfl
theorem q1819 : (Jvm.Cond.instanceMethod ({ cls := "java/util/ArrayList", name := "elementData", desc := "(I)Ljava/lang/Object;" } : Jvm.MethodName)) ∈ lw_all := lw_g (lw_at lw_m8 44 rfl) rfl
theorem q1820 : (Jvm.Cond.selects "java/util/ArrayList" ({ cls := "java/util/ArrayList", name := "elementData", desc := "(I)Ljava/lang/Object;" } : Jvm.MethodName) ({ cls := "java/util/ArrayList", name := "elementData", desc := "(I)Ljava/lang/Object;" } : Jvm.MethodName)) ∈ lw_all := lw_g (lw_at lw_m8 45 rfl) rfl
theorem q1821 : (Jvm.Cond.code ({ cls := "java/util/ArrayList", name := "elementData", desc := "(I)Ljava/lang/Object;" } : Jvm.MethodName) prog_76_method_18_code (2 : Nat) (Option.some (Jvm.ClassFile.FieldType.object "java/lang/Object"))) ∈ lw_all := lw_g (lw_at lw_m8 46 rfl) rfl
theorem q2618 : (Jvm.Cond.castable "java/util/ArrayList" "java/lang/Object") ∈ lw_tbl := lw_at lw_m11 123 rfl
theorem in_J20 : ∀ w ∈ wsJ200, w ∈ lw_all := lw_in wsJ200 [1606, 1602, 1604] (by decide +kernel) (by decide +kernel)
/-! java/util/ArrayList$Itr -/
set_option maxRecDepth 100000
def RJ25 : String := "java/util/ArrayList$Itr"
def TJ25 : u_T := fun k => match k with
  | 0 => ("java/util/ArrayList$Itr", "cursor", "I", false)
  | 1 => ("java/util/ArrayList$Itr", "lastRet", "I", false)
  | 2 => ("java/util/ArrayList$Itr", "expectedModCount", "I", false)
  | _ => ("java/util/ArrayList$Itr", "this$0", "Ljava/util/ArrayList;", true)
def tyJ25 : Nat → FieldType := fun k => match k with
  | 0 => .int
  | 1 => .int
  | 2 => .int
  | _ => .object "java/util/ArrayList"
abbrev wsJ250 : List Cond := u_ws RJ25 TJ25 4
theorem nmJ25 : ∀ a, a < 4 → ∀ b, b < 4 → a ≠ b → (TJ25 a).2.1 ≠ (TJ25 b).2.1 := by decide +kernel
theorem tyJ25_ok : ∀ k, k < 4 → parseFieldDescriptor (TJ25 k).2.2.1 = some (tyJ25 k) := by decide +kernel
abbrev cJ25_hasNext : ByteArray := prog_77_method_2_code
def yJ25_hasNext : MethodName := ⟨RJ25, "hasNext", "()Z"⟩
def dkwJ25_hasNext_0 : List UInt8 := [42, 180, 0, 25, 42, 180, 0, 1, 180, 0, 28, 159, 0, 7, 4, 167, 0, 4, 3, 172]
abbrev dktJ25_hasNext_0 : List UInt8 := dkwJ25_hasNext_0 ++ []
theorem dksJ25_hasNext_0 : cJ25_hasNext.data.toList.drop 0 = dktJ25_hasNext_0 := by decide +kernel
theorem dJ25_hasNext_0 : decode cJ25_hasNext 0 = .ok (.aload_n 0, 1) := dk_42 (dk_at dksJ25_hasNext_0 0 rfl rfl)
theorem dJ25_hasNext_1 : decode cJ25_hasNext 1 = .ok (.getfield 25, 3) := dk_180 0 25 (dk_at dksJ25_hasNext_0 1 rfl rfl)
theorem dJ25_hasNext_4 : decode cJ25_hasNext 4 = .ok (.aload_n 0, 1) := dk_42 (dk_at dksJ25_hasNext_0 4 rfl rfl)
theorem dJ25_hasNext_5 : decode cJ25_hasNext 5 = .ok (.getfield 1, 3) := dk_180 0 1 (dk_at dksJ25_hasNext_0 5 rfl rfl)
theorem dJ25_hasNext_8 : decode cJ25_hasNext 8 = .ok (.getfield 28, 3) := dk_180 0 28 (dk_at dksJ25_hasNext_0 8 rfl rfl)
theorem dJ25_hasNext_11 : decode cJ25_hasNext 11 = .ok (.if_icmp .eq 7, 3) := dk_159 0 7 (dk_at dksJ25_hasNext_0 11 rfl rfl)
theorem dJ25_hasNext_14 : decode cJ25_hasNext 14 = .ok (.iconst 1, 1) := dk_4 (dk_at dksJ25_hasNext_0 14 rfl rfl)
theorem dJ25_hasNext_15 : decode cJ25_hasNext 15 = .ok (.goto 4, 3) := dk_167 0 4 (dk_at dksJ25_hasNext_0 15 rfl rfl)
theorem dJ25_hasNext_18 : decode cJ25_hasNext 18 = .ok (.iconst 0, 1) := dk_3 (dk_at dksJ25_hasNext_0 18 rfl rfl)
theorem dJ25_hasNext_19 : decode cJ25_hasNext 19 = .ok (.ireturn, 1) := dk_172 (dk_at dksJ25_hasNext_0 19 rfl rfl)
abbrev cJ25_next : ByteArray := prog_77_method_3_code
def yJ25_next : MethodName := ⟨RJ25, "next", "()Ljava/lang/Object;"⟩
def dkwJ25_next_2 : List UInt8 := [183, 0, 43, 191, 42, 27, 4, 96, 181, 0, 25, 44, 42, 27, 90, 181, 0, 13, 50, 176]
abbrev dktJ25_next_2 : List UInt8 := dkwJ25_next_2 ++ []
def dkwJ25_next_1 : List UInt8 := [183, 0, 36, 191, 42, 180, 0, 1, 180, 0, 37, 77, 27, 44, 190, 161, 0, 11, 187, 0, 41, 89]
abbrev dktJ25_next_1 : List UInt8 := dkwJ25_next_1 ++ dktJ25_next_2
def dkwJ25_next_0 : List UInt8 := [42, 182, 0, 31, 42, 180, 0, 25, 60, 27, 42, 180, 0, 1, 180, 0, 28, 161, 0, 11, 187, 0, 34, 89]
abbrev dktJ25_next_0 : List UInt8 := dkwJ25_next_0 ++ dktJ25_next_1
theorem dksJ25_next_0 : cJ25_next.data.toList.drop 0 = dktJ25_next_0 := by decide +kernel
theorem dksJ25_next_1 : cJ25_next.data.toList.drop 24 = dktJ25_next_1 := dk_seg dksJ25_next_0 24 rfl rfl
theorem dksJ25_next_2 : cJ25_next.data.toList.drop 46 = dktJ25_next_2 := dk_seg dksJ25_next_1 22 rfl rfl
theorem dJ25_next_0 : decode cJ25_next 0 = .ok (.aload_n 0, 1) := dk_42 (dk_at dksJ25_next_0 0 rfl rfl)
theorem dJ25_next_1 : decode cJ25_next 1 = .ok (.invokevirtual 31, 3) := dk_182 0 31 (dk_at dksJ25_next_0 1 rfl rfl)
theorem dJ25_next_4 : decode cJ25_next 4 = .ok (.aload_n 0, 1) := dk_42 (dk_at dksJ25_next_0 4 rfl rfl)
theorem dJ25_next_5 : decode cJ25_next 5 = .ok (.getfield 25, 3) := dk_180 0 25 (dk_at dksJ25_next_0 5 rfl rfl)
theorem dJ25_next_8 : decode cJ25_next 8 = .ok (.istore_n 1, 1) := dk_60 (dk_at dksJ25_next_0 8 rfl rfl)
theorem dJ25_next_9 : decode cJ25_next 9 = .ok (.iload_n 1, 1) := dk_27 (dk_at dksJ25_next_0 9 rfl rfl)
theorem dJ25_next_10 : decode cJ25_next 10 = .ok (.aload_n 0, 1) := dk_42 (dk_at dksJ25_next_0 10 rfl rfl)
theorem dJ25_next_11 : decode cJ25_next 11 = .ok (.getfield 1, 3) := dk_180 0 1 (dk_at dksJ25_next_0 11 rfl rfl)
theorem dJ25_next_14 : decode cJ25_next 14 = .ok (.getfield 28, 3) := dk_180 0 28 (dk_at dksJ25_next_0 14 rfl rfl)
theorem dJ25_next_17 : decode cJ25_next 17 = .ok (.if_icmp .lt 11, 3) := dk_161 0 11 (dk_at dksJ25_next_0 17 rfl rfl)
theorem dJ25_next_20 : decode cJ25_next 20 = .ok (.new 34, 3) := dk_187 0 34 (dk_at dksJ25_next_0 20 rfl rfl)
theorem dJ25_next_23 : decode cJ25_next 23 = .ok (.dup, 1) := dk_89 (dk_at dksJ25_next_0 23 rfl rfl)
theorem dJ25_next_24 : decode cJ25_next 24 = .ok (.invokespecial 36, 3) := dk_183 0 36 (dk_at dksJ25_next_1 0 rfl rfl)
theorem dJ25_next_27 : decode cJ25_next 27 = .ok (.athrow, 1) := dk_191 (dk_at dksJ25_next_1 3 rfl rfl)
theorem dJ25_next_28 : decode cJ25_next 28 = .ok (.aload_n 0, 1) := dk_42 (dk_at dksJ25_next_1 4 rfl rfl)
theorem dJ25_next_29 : decode cJ25_next 29 = .ok (.getfield 1, 3) := dk_180 0 1 (dk_at dksJ25_next_1 5 rfl rfl)
theorem dJ25_next_32 : decode cJ25_next 32 = .ok (.getfield 37, 3) := dk_180 0 37 (dk_at dksJ25_next_1 8 rfl rfl)
theorem dJ25_next_35 : decode cJ25_next 35 = .ok (.astore_n 2, 1) := dk_77 (dk_at dksJ25_next_1 11 rfl rfl)
theorem dJ25_next_36 : decode cJ25_next 36 = .ok (.iload_n 1, 1) := dk_27 (dk_at dksJ25_next_1 12 rfl rfl)
theorem dJ25_next_37 : decode cJ25_next 37 = .ok (.aload_n 2, 1) := dk_44 (dk_at dksJ25_next_1 13 rfl rfl)
theorem dJ25_next_38 : decode cJ25_next 38 = .ok (.arraylength, 1) := dk_190 (dk_at dksJ25_next_1 14 rfl rfl)
theorem dJ25_next_39 : decode cJ25_next 39 = .ok (.if_icmp .lt 11, 3) := dk_161 0 11 (dk_at dksJ25_next_1 15 rfl rfl)
theorem dJ25_next_42 : decode cJ25_next 42 = .ok (.new 41, 3) := dk_187 0 41 (dk_at dksJ25_next_1 18 rfl rfl)
theorem dJ25_next_45 : decode cJ25_next 45 = .ok (.dup, 1) := dk_89 (dk_at dksJ25_next_1 21 rfl rfl)
theorem dJ25_next_46 : decode cJ25_next 46 = .ok (.invokespecial 43, 3) := dk_183 0 43 (dk_at dksJ25_next_2 0 rfl rfl)
theorem dJ25_next_49 : decode cJ25_next 49 = .ok (.athrow, 1) := dk_191 (dk_at dksJ25_next_2 3 rfl rfl)
theorem dJ25_next_50 : decode cJ25_next 50 = .ok (.aload_n 0, 1) := dk_42 (dk_at dksJ25_next_2 4 rfl rfl)
theorem dJ25_next_51 : decode cJ25_next 51 = .ok (.iload_n 1, 1) := dk_27 (dk_at dksJ25_next_2 5 rfl rfl)
theorem dJ25_next_52 : decode cJ25_next 52 = .ok (.iconst 1, 1) := dk_4 (dk_at dksJ25_next_2 6 rfl rfl)
theorem dJ25_next_53 : decode cJ25_next 53 = .ok (.iadd, 1) := dk_96 (dk_at dksJ25_next_2 7 rfl rfl)
theorem dJ25_next_54 : decode cJ25_next 54 = .ok (.putfield 25, 3) := dk_181 0 25 (dk_at dksJ25_next_2 8 rfl rfl)
theorem dJ25_next_57 : decode cJ25_next 57 = .ok (.aload_n 2, 1) := dk_44 (dk_at dksJ25_next_2 11 rfl rfl)
theorem dJ25_next_58 : decode cJ25_next 58 = .ok (.aload_n 0, 1) := dk_42 (dk_at dksJ25_next_2 12 rfl rfl)
theorem dJ25_next_59 : decode cJ25_next 59 = .ok (.iload_n 1, 1) := dk_27 (dk_at dksJ25_next_2 13 rfl rfl)
theorem dJ25_next_60 : decode cJ25_next 60 = .ok (.dup_x1, 1) := dk_90 (dk_at dksJ25_next_2 14 rfl rfl)
theorem dJ25_next_61 : decode cJ25_next 61 = .ok (.putfield 13, 3) := dk_181 0 13 (dk_at dksJ25_next_2 15 rfl rfl)
theorem dJ25_next_64 : decode cJ25_next 64 = .ok (.aaload, 1) := dk_50 (dk_at dksJ25_next_2 18 rfl rfl)
theorem dJ25_next_65 : decode cJ25_next 65 = .ok (.areturn, 1) := dk_176 (dk_at dksJ25_next_2 19 rfl rfl)
abbrev cJ25_checkForComodification : ByteArray := prog_77_method_6_code
def yJ25_checkForComodification : MethodName := ⟨RJ25, "checkForComodification", "()V"⟩
def dkwJ25_checkForComodification_0 : List UInt8 := [42, 180, 0, 1, 180, 0, 17, 42, 180, 0, 22, 159, 0, 11, 187, 0, 41, 89, 183, 0, 43, 191, 177]
abbrev dktJ25_checkForComodification_0 : List UInt8 := dkwJ25_checkForComodification_0 ++ []
theorem dksJ25_checkForComodification_0 : cJ25_checkForComodification.data.toList.drop 0 = dktJ25_checkForComodification_0 := by decide +kernel
theorem dJ25_checkForComodification_0 : decode cJ25_checkForComodification 0 = .ok (.aload_n 0, 1) := dk_42 (dk_at dksJ25_checkForComodification_0 0 rfl rfl)
theorem dJ25_checkForComodification_1 : decode cJ25_checkForComodification 1 = .ok (.getfield 1, 3) := dk_180 0 1 (dk_at dksJ25_checkForComodification_0 1 rfl rfl)
theorem dJ25_checkForComodification_4 : decode cJ25_checkForComodification 4 = .ok (.getfield 17, 3) := dk_180 0 17 (dk_at dksJ25_checkForComodification_0 4 rfl rfl)
theorem dJ25_checkForComodification_7 : decode cJ25_checkForComodification 7 = .ok (.aload_n 0, 1) := dk_42 (dk_at dksJ25_checkForComodification_0 7 rfl rfl)
theorem dJ25_checkForComodification_8 : decode cJ25_checkForComodification 8 = .ok (.getfield 22, 3) := dk_180 0 22 (dk_at dksJ25_checkForComodification_0 8 rfl rfl)
theorem dJ25_checkForComodification_11 : decode cJ25_checkForComodification 11 = .ok (.if_icmp .eq 11, 3) := dk_159 0 11 (dk_at dksJ25_checkForComodification_0 11 rfl rfl)
theorem dJ25_checkForComodification_14 : decode cJ25_checkForComodification 14 = .ok (.new 41, 3) := dk_187 0 41 (dk_at dksJ25_checkForComodification_0 14 rfl rfl)
theorem dJ25_checkForComodification_17 : decode cJ25_checkForComodification 17 = .ok (.dup, 1) := dk_89 (dk_at dksJ25_checkForComodification_0 17 rfl rfl)
theorem dJ25_checkForComodification_18 : decode cJ25_checkForComodification 18 = .ok (.invokespecial 43, 3) := dk_183 0 43 (dk_at dksJ25_checkForComodification_0 18 rfl rfl)
theorem dJ25_checkForComodification_21 : decode cJ25_checkForComodification 21 = .ok (.athrow, 1) := dk_191 (dk_at dksJ25_checkForComodification_0 21 rfl rfl)
theorem dJ25_checkForComodification_22 : decode cJ25_checkForComodification 22 = .ok (.return_, 1) := dk_177 (dk_at dksJ25_checkForComodification_0 22 rfl rfl)
abbrev cJ25_init : ByteArray := prog_77_method_1_code
def yJ25_init : MethodName := ⟨RJ25, "<init>", "(Ljava/util/ArrayList;)V"⟩
def dkwJ25_init_1 : List UInt8 := [181, 0, 22, 177]
abbrev dktJ25_init_1 : List UInt8 := dkwJ25_init_1 ++ []
def dkwJ25_init_0 : List UInt8 := [42, 43, 181, 0, 1, 42, 183, 0, 7, 42, 2, 181, 0, 13, 42, 42, 180, 0, 1, 180, 0, 17]
abbrev dktJ25_init_0 : List UInt8 := dkwJ25_init_0 ++ dktJ25_init_1
theorem dksJ25_init_0 : cJ25_init.data.toList.drop 0 = dktJ25_init_0 := by decide +kernel
theorem dksJ25_init_1 : cJ25_init.data.toList.drop 22 = dktJ25_init_1 := dk_seg dksJ25_init_0 22 rfl rfl
theorem dJ25_init_0 : decode cJ25_init 0 = .ok (.aload_n 0, 1) := dk_42 (dk_at dksJ25_init_0 0 rfl rfl)
theorem dJ25_init_1 : decode cJ25_init 1 = .ok (.aload_n 1, 1) := dk_43 (dk_at dksJ25_init_0 1 rfl rfl)
theorem dJ25_init_2 : decode cJ25_init 2 = .ok (.putfield 1, 3) := dk_181 0 1 (dk_at dksJ25_init_0 2 rfl rfl)
theorem dJ25_init_5 : decode cJ25_init 5 = .ok (.aload_n 0, 1) := dk_42 (dk_at dksJ25_init_0 5 rfl rfl)
theorem dJ25_init_6 : decode cJ25_init 6 = .ok (.invokespecial 7, 3) := dk_183 0 7 (dk_at dksJ25_init_0 6 rfl rfl)
theorem dJ25_init_9 : decode cJ25_init 9 = .ok (.aload_n 0, 1) := dk_42 (dk_at dksJ25_init_0 9 rfl rfl)
theorem dJ25_init_10 : decode cJ25_init 10 = .ok (.iconst (-1), 1) := dk_2 (dk_at dksJ25_init_0 10 rfl rfl)
theorem dJ25_init_11 : decode cJ25_init 11 = .ok (.putfield 13, 3) := dk_181 0 13 (dk_at dksJ25_init_0 11 rfl rfl)
theorem dJ25_init_14 : decode cJ25_init 14 = .ok (.aload_n 0, 1) := dk_42 (dk_at dksJ25_init_0 14 rfl rfl)
theorem dJ25_init_15 : decode cJ25_init 15 = .ok (.aload_n 0, 1) := dk_42 (dk_at dksJ25_init_0 15 rfl rfl)
theorem dJ25_init_16 : decode cJ25_init 16 = .ok (.getfield 1, 3) := dk_180 0 1 (dk_at dksJ25_init_0 16 rfl rfl)
theorem dJ25_init_19 : decode cJ25_init 19 = .ok (.getfield 17, 3) := dk_180 0 17 (dk_at dksJ25_init_0 19 rfl rfl)
theorem dJ25_init_22 : decode cJ25_init 22 = .ok (.putfield 22, 3) := dk_181 0 22 (dk_at dksJ25_init_1 0 rfl rfl)
theorem dJ25_init_25 : decode cJ25_init 25 = .ok (.return_, 1) := dk_177 (dk_at dksJ25_init_1 3 rfl rfl)
theorem q141 : (Jvm.Cond.initialized "java/util/ArrayList$Itr") ∈ lw_all := lw_g (lw_at lw_m1 46 rfl) rfl
theorem q955 : (Jvm.Cond.castable "java/util/ArrayList$Itr" "java/util/Iterator") ∈ lw_tbl := lw_at lw_m4 140 rfl
theorem q956 : (Jvm.Cond.selects "java/util/ArrayList$Itr" ({ cls := "java/util/Iterator", name := "hasNext", desc := "()Z" } : Jvm.MethodName) ({ cls := "java/util/ArrayList$Itr", name := "hasNext", desc := "()Z" } : Jvm.MethodName)) ∈ lw_all := lw_g (lw_at lw_m4 141 rfl) rfl
theorem q957 : (Jvm.Cond.unhidden "java/util/ArrayList$Itr" "hasNext" "()Z") ∈ lw_tbl := lw_at lw_m4 142 rfl
theorem q958 : (Jvm.Cond.instanceMethod ({ cls := "java/util/ArrayList$Itr", name := "hasNext", desc := "()Z" } : Jvm.MethodName)) ∈ lw_all := lw_g (lw_at lw_m4 143 rfl) rfl
theorem q959 : (Jvm.Cond.publicMethod ({ cls := "java/util/ArrayList$Itr", name := "hasNext", desc := "()Z" } : Jvm.MethodName)) ∈ lw_tbl := lw_at lw_m4 144 rfl
theorem q960 : (Jvm.Cond.code ({ cls := "java/util/ArrayList$Itr", name := "hasNext", desc := "()Z" } : Jvm.MethodName) prog_77_method_2_code (1 : Nat) (Option.some Jvm.ClassFile.FieldType.boolean)) ∈ lw_all := lw_g (lw_at lw_m4 145 rfl) rfl
theorem q998 : (Jvm.Cond.selects "java/util/ArrayList$Itr" ({ cls := "java/util/Iterator", name := "next", desc := "()Ljava/lang/Object;" } : Jvm.MethodName) ({ cls := "java/util/ArrayList$Itr", name := "next", desc := "()Ljava/lang/Object;" } : Jvm.MethodName)) ∈ lw_all := lw_g (lw_at lw_m4 183 rfl) rfl
theorem q999 : (Jvm.Cond.unhidden "java/util/ArrayList$Itr" "next" "()Ljava/lang/Object;") ∈ lw_tbl := lw_at lw_m4 184 rfl
theorem q1000 : (Jvm.Cond.instanceMethod ({ cls := "java/util/ArrayList$Itr", name := "next", desc := "()Ljava/lang/Object;" } : Jvm.MethodName)) ∈ lw_all := lw_g (lw_at lw_m4 185 rfl) rfl
theorem q1001 : (Jvm.Cond.publicMethod ({ cls := "java/util/ArrayList$Itr", name := "next", desc := "()Ljava/lang/Object;" } : Jvm.MethodName)) ∈ lw_tbl := lw_at lw_m4 186 rfl
theorem q1002 : (Jvm.Cond.code ({ cls := "java/util/ArrayList$Itr", name := "next", desc := "()Ljava/lang/Object;" } : Jvm.MethodName) prog_77_method_3_code (3 : Nat) (Option.some (Jvm.ClassFile.FieldType.object "java/lang/Object"))) ∈ lw_all := lw_g (lw_at lw_m4 187 rfl) rfl
theorem q1003 : (Jvm.Cond.methodLink "java/util/ArrayList$Itr" (31 : Nat) ({ cls := "java/util/ArrayList$Itr", name := "checkForComodification", desc := "()V" } : Jvm.MethodName)) ∈ lw_all := lw_g (lw_at lw_m4 188 rfl) rfl
theorem q1004 : (Jvm.Cond.instanceMethod ({ cls := "java/util/ArrayList$Itr", name := "checkForComodification", desc := "()V" } : Jvm.MethodName)) ∈ lw_all := lw_g (lw_at lw_m4 189 rfl) rfl
theorem q1005 : (Jvm.Cond.selects "java/util/ArrayList$Itr" ({ cls := "java/util/ArrayList$Itr", name := "checkForComodification", desc := "()V" } : Jvm.MethodName) ({ cls := "java/util/ArrayList$Itr", name := "checkForComodification", desc := "()V" } : Jvm.MethodName)) ∈ lw_all := lw_g (lw_at lw_m4 190 rfl) rfl
theorem q1006 : (Jvm.Cond.code ({ cls := "java/util/ArrayList$Itr", name := "checkForComodification", desc := "()V" } : Jvm.MethodName) prog_77_method_6_code (1 : Nat) (Option.none : Option Jvm.ClassFile.FieldType)) ∈ lw_all := lw_g (lw_at lw_m4 191 rfl) rfl
theorem q1595 : (Jvm.Cond.fieldLink "java/util/ArrayList$Itr" (37 : Nat) "java/util/ArrayList" "elementData" "[Ljava/lang/Object;") ∈ lw_all := lw_g (lw_at lw_m7 60 rfl) rfl
theorem q1596 : (Jvm.Cond.fieldLinkNest "java/util/ArrayList$Itr" (28 : Nat) "java/util/ArrayList" "size" "I" "java/util/ArrayList") ∈ lw_tbl := lw_at lw_m7 61 rfl
theorem q1599 : (Jvm.Cond.fieldLink "java/util/ArrayList$Itr" (17 : Nat) "java/util/ArrayList" "modCount" "I") ∈ lw_all := lw_g (lw_at lw_m7 64 rfl) rfl
theorem q1699 : (Jvm.Cond.selects "java/util/ArrayList$Itr" ({ cls := "java/lang/Object", name := "getClass", desc := "()Ljava/lang/Class;" } : Jvm.MethodName) ({ cls := "java/lang/Object", name := "getClass", desc := "()Ljava/lang/Class;" } : Jvm.MethodName)) ∈ lw_all := lw_g (lw_at lw_m7 164 rfl) rfl
theorem q1779 : (Jvm.Cond.instantiable "java/util/ArrayList$Itr" (4 : Nat)) ∈ lw_all := lw_g (lw_at lw_m8 4 rfl) rfl
theorem q1781 : (Jvm.Cond.instanceMethod ({ cls := "java/util/ArrayList$Itr", name := "<init>", desc := "(Ljava/util/ArrayList;)V" } : Jvm.MethodName)) ∈ lw_all := lw_g (lw_at lw_m8 6 rfl) rfl
theorem q1782 : (Jvm.Cond.code ({ cls := "java/util/ArrayList$Itr", name := "<init>", desc := "(Ljava/util/ArrayList;)V" } : Jvm.MethodName) prog_77_method_1_code (2 : Nat) (Option.none : Option Jvm.ClassFile.FieldType)) ∈ lw_all := lw_g (lw_at lw_m8 7 rfl) rfl
theorem q1783 : (Jvm.Cond.methodLink "java/util/ArrayList$Itr" (7 : Nat) ({ cls := "java/lang/Object", name := "<init>", desc := "()V" } : Jvm.MethodName)) ∈ lw_all := lw_g (lw_at lw_m8 8 rfl) rfl
theorem q1784 : (Jvm.Cond.fieldLink "java/util/ArrayList$Itr" (25 : Nat) "java/util/ArrayList$Itr" "cursor" "I") ∈ lw_all := lw_g (lw_at lw_m8 9 rfl) rfl
theorem q1785 : (Jvm.Cond.fieldLink "java/util/ArrayList$Itr" (13 : Nat) "java/util/ArrayList$Itr" "lastRet" "I") ∈ lw_all := lw_g (lw_at lw_m8 10 rfl) rfl
theorem q1786 : (Jvm.Cond.fieldLink "java/util/ArrayList$Itr" (22 : Nat) "java/util/ArrayList$Itr" "expectedModCount" "I") ∈ lw_all := lw_g (lw_at lw_m8 11 rfl) rfl
theorem q1787 : (Jvm.Cond.fieldLink "java/util/ArrayList$Itr" (1 : Nat) "java/util/ArrayList$Itr" "this$0" "Ljava/util/ArrayList;") ∈ lw_all := lw_g (lw_at lw_m8 12 rfl) rfl
theorem q1788 : (Jvm.Cond.lays "java/util/ArrayList$Itr" "java/util/ArrayList$Itr" "cursor" "I") ∈ lw_all := lw_g (lw_at lw_m8 13 rfl) rfl
theorem q1789 : (Jvm.Cond.soleField "java/util/ArrayList$Itr" "cursor") ∈ lw_all := lw_g (lw_at lw_m8 14 rfl) rfl
theorem q1790 : (Jvm.Cond.lays "java/util/ArrayList$Itr" "java/util/ArrayList$Itr" "lastRet" "I") ∈ lw_all := lw_g (lw_at lw_m8 15 rfl) rfl
theorem q1791 : (Jvm.Cond.soleField "java/util/ArrayList$Itr" "lastRet") ∈ lw_all := lw_g (lw_at lw_m8 16 rfl) rfl
theorem q1792 : (Jvm.Cond.lays "java/util/ArrayList$Itr" "java/util/ArrayList$Itr" "expectedModCount" "I") ∈ lw_all := lw_g (lw_at lw_m8 17 rfl) rfl
theorem q1793 : (Jvm.Cond.soleField "java/util/ArrayList$Itr" "expectedModCount") ∈ lw_all := lw_g (lw_at lw_m8 18 rfl) rfl
theorem q1794 : (Jvm.Cond.laysFinal "java/util/ArrayList$Itr" "java/util/ArrayList$Itr" "this$0" "Ljava/util/ArrayList;") ∈ lw_all := lw_g (lw_at lw_m8 19 rfl) rfl
theorem q1795 : (Jvm.Cond.soleField "java/util/ArrayList$Itr" "this$0") ∈ lw_all := lw_g (lw_at lw_m8 20 rfl) rfl
theorem q1796 : (Jvm.Cond.superclass "java/util/ArrayList$Itr" "java/lang/Object") ∈ lw_all := lw_g (lw_at lw_m8 21 rfl) rfl
theorem q2621 : (Jvm.Cond.castable "java/util/ArrayList$Itr" "java/lang/Object") ∈ lw_tbl := lw_at lw_m11 126 rfl
theorem in_J25 : ∀ w ∈ wsJ250, w ∈ lw_all := lw_in wsJ250 [1788, 1790, 1792, 1794] (by decide +kernel) (by decide +kernel)
/-! java/lang/Integer -/
set_option maxRecDepth 100000
def RJ24 : String := "java/lang/Integer"
def TJ24 : u_T := fun k => match k with
  | _ => ("java/lang/Integer", "value", "I", true)
def tyJ24 : Nat → FieldType := fun k => match k with
  | _ => .int
abbrev wsJ240 : List Cond := u_ws RJ24 TJ24 1
theorem nmJ24 : ∀ a, a < 1 → ∀ b, b < 1 → a ≠ b → (TJ24 a).2.1 ≠ (TJ24 b).2.1 := by decide +kernel
theorem tyJ24_ok : ∀ k, k < 1 → parseFieldDescriptor (TJ24 k).2.2.1 = some (tyJ24 k) := by decide +kernel
abbrev cJ24_stringSize : ByteArray := prog_57_method_13_code
def yJ24_stringSize : MethodName := ⟨RJ24, "stringSize", "(I)I"⟩
def dkwJ24_stringSize_1 : List UInt8 := [164, 0, 7, 29, 27, 96, 172, 16, 10, 28, 104, 61, 132, 3, 1, 167, 255, 233, 16, 10, 27, 96, 172]
abbrev dktJ24_stringSize_1 : List UInt8 := dkwJ24_stringSize_1 ++ []
def dkwJ24_stringSize_0 : List UInt8 := [4, 60, 26, 155, 0, 8, 3, 60, 26, 116, 59, 16, 246, 61, 4, 62, 29, 16, 10, 162, 0, 23, 26, 28]
abbrev dktJ24_stringSize_0 : List UInt8 := dkwJ24_stringSize_0 ++ dktJ24_stringSize_1
theorem dksJ24_stringSize_0 : cJ24_stringSize.data.toList.drop 0 = dktJ24_stringSize_0 := by decide +kernel
theorem dksJ24_stringSize_1 : cJ24_stringSize.data.toList.drop 24 = dktJ24_stringSize_1 := dk_seg dksJ24_stringSize_0 24 rfl rfl
theorem dJ24_stringSize_0 : decode cJ24_stringSize 0 = .ok (.iconst 1, 1) := dk_4 (dk_at dksJ24_stringSize_0 0 rfl rfl)
theorem dJ24_stringSize_1 : decode cJ24_stringSize 1 = .ok (.istore_n 1, 1) := dk_60 (dk_at dksJ24_stringSize_0 1 rfl rfl)
theorem dJ24_stringSize_2 : decode cJ24_stringSize 2 = .ok (.iload_n 0, 1) := dk_26 (dk_at dksJ24_stringSize_0 2 rfl rfl)
theorem dJ24_stringSize_3 : decode cJ24_stringSize 3 = .ok (.ifCond .lt 8, 3) := dk_155 0 8 (dk_at dksJ24_stringSize_0 3 rfl rfl)
theorem dJ24_stringSize_6 : decode cJ24_stringSize 6 = .ok (.iconst 0, 1) := dk_3 (dk_at dksJ24_stringSize_0 6 rfl rfl)
theorem dJ24_stringSize_7 : decode cJ24_stringSize 7 = .ok (.istore_n 1, 1) := dk_60 (dk_at dksJ24_stringSize_0 7 rfl rfl)
theorem dJ24_stringSize_8 : decode cJ24_stringSize 8 = .ok (.iload_n 0, 1) := dk_26 (dk_at dksJ24_stringSize_0 8 rfl rfl)
theorem dJ24_stringSize_9 : decode cJ24_stringSize 9 = .ok (.ineg, 1) := dk_116 (dk_at dksJ24_stringSize_0 9 rfl rfl)
theorem dJ24_stringSize_10 : decode cJ24_stringSize 10 = .ok (.istore_n 0, 1) := dk_59 (dk_at dksJ24_stringSize_0 10 rfl rfl)
theorem dJ24_stringSize_11 : decode cJ24_stringSize 11 = .ok (.bipush (-10), 2) := dk_16 246 (dk_at dksJ24_stringSize_0 11 rfl rfl)
theorem dJ24_stringSize_13 : decode cJ24_stringSize 13 = .ok (.istore_n 2, 1) := dk_61 (dk_at dksJ24_stringSize_0 13 rfl rfl)
theorem dJ24_stringSize_14 : decode cJ24_stringSize 14 = .ok (.iconst 1, 1) := dk_4 (dk_at dksJ24_stringSize_0 14 rfl rfl)
theorem dJ24_stringSize_15 : decode cJ24_stringSize 15 = .ok (.istore_n 3, 1) := dk_62 (dk_at dksJ24_stringSize_0 15 rfl rfl)
theorem dJ24_stringSize_16 : decode cJ24_stringSize 16 = .ok (.iload_n 3, 1) := dk_29 (dk_at dksJ24_stringSize_0 16 rfl rfl)
theorem dJ24_stringSize_17 : decode cJ24_stringSize 17 = .ok (.bipush 10, 2) := dk_16 10 (dk_at dksJ24_stringSize_0 17 rfl rfl)
theorem dJ24_stringSize_19 : decode cJ24_stringSize 19 = .ok (.if_icmp .ge 23, 3) := dk_162 0 23 (dk_at dksJ24_stringSize_0 19 rfl rfl)
theorem dJ24_stringSize_22 : decode cJ24_stringSize 22 = .ok (.iload_n 0, 1) := dk_26 (dk_at dksJ24_stringSize_0 22 rfl rfl)
theorem dJ24_stringSize_23 : decode cJ24_stringSize 23 = .ok (.iload_n 2, 1) := dk_28 (dk_at dksJ24_stringSize_0 23 rfl rfl)
theorem dJ24_stringSize_24 : decode cJ24_stringSize 24 = .ok (.if_icmp .le 7, 3) := dk_164 0 7 (dk_at dksJ24_stringSize_1 0 rfl rfl)
theorem dJ24_stringSize_27 : decode cJ24_stringSize 27 = .ok (.iload_n 3, 1) := dk_29 (dk_at dksJ24_stringSize_1 3 rfl rfl)
theorem dJ24_stringSize_28 : decode cJ24_stringSize 28 = .ok (.iload_n 1, 1) := dk_27 (dk_at dksJ24_stringSize_1 4 rfl rfl)
theorem dJ24_stringSize_29 : decode cJ24_stringSize 29 = .ok (.iadd, 1) := dk_96 (dk_at dksJ24_stringSize_1 5 rfl rfl)
theorem dJ24_stringSize_30 : decode cJ24_stringSize 30 = .ok (.ireturn, 1) := dk_172 (dk_at dksJ24_stringSize_1 6 rfl rfl)
theorem dJ24_stringSize_31 : decode cJ24_stringSize 31 = .ok (.bipush 10, 2) := dk_16 10 (dk_at dksJ24_stringSize_1 7 rfl rfl)
theorem dJ24_stringSize_33 : decode cJ24_stringSize 33 = .ok (.iload_n 2, 1) := dk_28 (dk_at dksJ24_stringSize_1 9 rfl rfl)
theorem dJ24_stringSize_34 : decode cJ24_stringSize 34 = .ok (.imul, 1) := dk_104 (dk_at dksJ24_stringSize_1 10 rfl rfl)
theorem dJ24_stringSize_35 : decode cJ24_stringSize 35 = .ok (.istore_n 2, 1) := dk_61 (dk_at dksJ24_stringSize_1 11 rfl rfl)
theorem dJ24_stringSize_36 : decode cJ24_stringSize 36 = .ok (.iinc 3 1, 3) := dk_132 3 1 (dk_at dksJ24_stringSize_1 12 rfl rfl)
theorem dJ24_stringSize_39 : decode cJ24_stringSize 39 = .ok (.goto (-23), 3) := dk_167 255 233 (dk_at dksJ24_stringSize_1 15 rfl rfl)
theorem dJ24_stringSize_42 : decode cJ24_stringSize 42 = .ok (.bipush 10, 2) := dk_16 10 (dk_at dksJ24_stringSize_1 18 rfl rfl)
theorem dJ24_stringSize_44 : decode cJ24_stringSize 44 = .ok (.iload_n 1, 1) := dk_27 (dk_at dksJ24_stringSize_1 20 rfl rfl)
theorem dJ24_stringSize_45 : decode cJ24_stringSize 45 = .ok (.iadd, 1) := dk_96 (dk_at dksJ24_stringSize_1 21 rfl rfl)
theorem dJ24_stringSize_46 : decode cJ24_stringSize 46 = .ok (.ireturn, 1) := dk_172 (dk_at dksJ24_stringSize_1 22 rfl rfl)
abbrev cJ24_getChars : ByteArray := prog_57_method_12_code
def yJ24_getChars : MethodName := ⟨RJ24, "getChars", "(II[B)I"⟩
def dkwJ24_getChars_5 : List UInt8 := [16, 45, 84, 21, 5, 172]
abbrev dktJ24_getChars_5 : List UInt8 := dkwJ24_getChars_5 ++ []
def dkwJ24_getChars_4 : List UInt8 := [132, 5, 255, 21, 5, 178, 0, 87, 26, 116, 51, 84, 21, 6, 153, 0, 12, 44, 132, 5, 255, 21, 5]
abbrev dktJ24_getChars_4 : List UInt8 := dkwJ24_getChars_4 ++ dktJ24_getChars_5
def dkwJ24_getChars_3 : List UInt8 := [167, 255, 209, 44, 132, 5, 255, 21, 5, 178, 0, 83, 26, 116, 51, 84, 26, 16, 247, 162, 0, 16, 44]
abbrev dktJ24_getChars_3 : List UInt8 := dkwJ24_getChars_3 ++ dktJ24_getChars_4
def dkwJ24_getChars_2 : List UInt8 := [21, 5, 178, 0, 83, 21, 4, 51, 84, 44, 132, 5, 255, 21, 5, 178, 0, 87, 21, 4, 51, 84]
abbrev dktJ24_getChars_2 : List UInt8 := dkwJ24_getChars_2 ++ dktJ24_getChars_3
def dkwJ24_getChars_1 : List UInt8 := [16, 156, 163, 0, 47, 26, 16, 100, 108, 62, 29, 16, 100, 104, 26, 100, 54, 4, 29, 59, 44, 132, 5, 255]
abbrev dktJ24_getChars_1 : List UInt8 := dkwJ24_getChars_1 ++ dktJ24_getChars_2
def dkwJ24_getChars_0 : List UInt8 := [27, 54, 5, 26, 156, 0, 7, 4, 167, 0, 4, 3, 54, 6, 21, 6, 154, 0, 6, 26, 116, 59, 26]
abbrev dktJ24_getChars_0 : List UInt8 := dkwJ24_getChars_0 ++ dktJ24_getChars_1
theorem dksJ24_getChars_0 : cJ24_getChars.data.toList.drop 0 = dktJ24_getChars_0 := by decide +kernel
theorem dksJ24_getChars_1 : cJ24_getChars.data.toList.drop 23 = dktJ24_getChars_1 := dk_seg dksJ24_getChars_0 23 rfl rfl
theorem dksJ24_getChars_2 : cJ24_getChars.data.toList.drop 47 = dktJ24_getChars_2 := dk_seg dksJ24_getChars_1 24 rfl rfl
theorem dksJ24_getChars_3 : cJ24_getChars.data.toList.drop 69 = dktJ24_getChars_3 := dk_seg dksJ24_getChars_2 22 rfl rfl
theorem dksJ24_getChars_4 : cJ24_getChars.data.toList.drop 92 = dktJ24_getChars_4 := dk_seg dksJ24_getChars_3 23 rfl rfl
theorem dksJ24_getChars_5 : cJ24_getChars.data.toList.drop 115 = dktJ24_getChars_5 := dk_seg dksJ24_getChars_4 23 rfl rfl
theorem dJ24_getChars_0 : decode cJ24_getChars 0 = .ok (.iload_n 1, 1) := dk_27 (dk_at dksJ24_getChars_0 0 rfl rfl)
theorem dJ24_getChars_1 : decode cJ24_getChars 1 = .ok (.istore 5, 2) := dk_54 5 (dk_at dksJ24_getChars_0 1 rfl rfl)
theorem dJ24_getChars_3 : decode cJ24_getChars 3 = .ok (.iload_n 0, 1) := dk_26 (dk_at dksJ24_getChars_0 3 rfl rfl)
theorem dJ24_getChars_4 : decode cJ24_getChars 4 = .ok (.ifCond .ge 7, 3) := dk_156 0 7 (dk_at dksJ24_getChars_0 4 rfl rfl)
theorem dJ24_getChars_7 : decode cJ24_getChars 7 = .ok (.iconst 1, 1) := dk_4 (dk_at dksJ24_getChars_0 7 rfl rfl)
theorem dJ24_getChars_8 : decode cJ24_getChars 8 = .ok (.goto 4, 3) := dk_167 0 4 (dk_at dksJ24_getChars_0 8 rfl rfl)
theorem dJ24_getChars_11 : decode cJ24_getChars 11 = .ok (.iconst 0, 1) := dk_3 (dk_at dksJ24_getChars_0 11 rfl rfl)
theorem dJ24_getChars_12 : decode cJ24_getChars 12 = .ok (.istore 6, 2) := dk_54 6 (dk_at dksJ24_getChars_0 12 rfl rfl)
theorem dJ24_getChars_14 : decode cJ24_getChars 14 = .ok (.iload 6, 2) := dk_21 6 (dk_at dksJ24_getChars_0 14 rfl rfl)
theorem dJ24_getChars_16 : decode cJ24_getChars 16 = .ok (.ifCond .ne 6, 3) := dk_154 0 6 (dk_at dksJ24_getChars_0 16 rfl rfl)
theorem dJ24_getChars_19 : decode cJ24_getChars 19 = .ok (.iload_n 0, 1) := dk_26 (dk_at dksJ24_getChars_0 19 rfl rfl)
theorem dJ24_getChars_20 : decode cJ24_getChars 20 = .ok (.ineg, 1) := dk_116 (dk_at dksJ24_getChars_0 20 rfl rfl)
theorem dJ24_getChars_21 : decode cJ24_getChars 21 = .ok (.istore_n 0, 1) := dk_59 (dk_at dksJ24_getChars_0 21 rfl rfl)
theorem dJ24_getChars_22 : decode cJ24_getChars 22 = .ok (.iload_n 0, 1) := dk_26 (dk_at dksJ24_getChars_0 22 rfl rfl)
theorem dJ24_getChars_23 : decode cJ24_getChars 23 = .ok (.bipush (-100), 2) := dk_16 156 (dk_at dksJ24_getChars_1 0 rfl rfl)
theorem dJ24_getChars_25 : decode cJ24_getChars 25 = .ok (.if_icmp .gt 47, 3) := dk_163 0 47 (dk_at dksJ24_getChars_1 2 rfl rfl)
theorem dJ24_getChars_28 : decode cJ24_getChars 28 = .ok (.iload_n 0, 1) := dk_26 (dk_at dksJ24_getChars_1 5 rfl rfl)
theorem dJ24_getChars_29 : decode cJ24_getChars 29 = .ok (.bipush 100, 2) := dk_16 100 (dk_at dksJ24_getChars_1 6 rfl rfl)
theorem dJ24_getChars_31 : decode cJ24_getChars 31 = .ok (.idiv, 1) := dk_108 (dk_at dksJ24_getChars_1 8 rfl rfl)
theorem dJ24_getChars_32 : decode cJ24_getChars 32 = .ok (.istore_n 3, 1) := dk_62 (dk_at dksJ24_getChars_1 9 rfl rfl)
theorem dJ24_getChars_33 : decode cJ24_getChars 33 = .ok (.iload_n 3, 1) := dk_29 (dk_at dksJ24_getChars_1 10 rfl rfl)
theorem dJ24_getChars_34 : decode cJ24_getChars 34 = .ok (.bipush 100, 2) := dk_16 100 (dk_at dksJ24_getChars_1 11 rfl rfl)
theorem dJ24_getChars_36 : decode cJ24_getChars 36 = .ok (.imul, 1) := dk_104 (dk_at dksJ24_getChars_1 13 rfl rfl)
theorem dJ24_getChars_37 : decode cJ24_getChars 37 = .ok (.iload_n 0, 1) := dk_26 (dk_at dksJ24_getChars_1 14 rfl rfl)
theorem dJ24_getChars_38 : decode cJ24_getChars 38 = .ok (.isub, 1) := dk_100 (dk_at dksJ24_getChars_1 15 rfl rfl)
theorem dJ24_getChars_39 : decode cJ24_getChars 39 = .ok (.istore 4, 2) := dk_54 4 (dk_at dksJ24_getChars_1 16 rfl rfl)
theorem dJ24_getChars_41 : decode cJ24_getChars 41 = .ok (.iload_n 3, 1) := dk_29 (dk_at dksJ24_getChars_1 18 rfl rfl)
theorem dJ24_getChars_42 : decode cJ24_getChars 42 = .ok (.istore_n 0, 1) := dk_59 (dk_at dksJ24_getChars_1 19 rfl rfl)
theorem dJ24_getChars_43 : decode cJ24_getChars 43 = .ok (.aload_n 2, 1) := dk_44 (dk_at dksJ24_getChars_1 20 rfl rfl)
theorem dJ24_getChars_44 : decode cJ24_getChars 44 = .ok (.iinc 5 (-1), 3) := dk_132 5 255 (dk_at dksJ24_getChars_1 21 rfl rfl)
theorem dJ24_getChars_47 : decode cJ24_getChars 47 = .ok (.iload 5, 2) := dk_21 5 (dk_at dksJ24_getChars_2 0 rfl rfl)
theorem dJ24_getChars_49 : decode cJ24_getChars 49 = .ok (.getstatic 83, 3) := dk_178 0 83 (dk_at dksJ24_getChars_2 2 rfl rfl)
theorem dJ24_getChars_52 : decode cJ24_getChars 52 = .ok (.iload 4, 2) := dk_21 4 (dk_at dksJ24_getChars_2 5 rfl rfl)
theorem dJ24_getChars_54 : decode cJ24_getChars 54 = .ok (.baload, 1) := dk_51 (dk_at dksJ24_getChars_2 7 rfl rfl)
theorem dJ24_getChars_55 : decode cJ24_getChars 55 = .ok (.bastore, 1) := dk_84 (dk_at dksJ24_getChars_2 8 rfl rfl)
theorem dJ24_getChars_56 : decode cJ24_getChars 56 = .ok (.aload_n 2, 1) := dk_44 (dk_at dksJ24_getChars_2 9 rfl rfl)
theorem dJ24_getChars_57 : decode cJ24_getChars 57 = .ok (.iinc 5 (-1), 3) := dk_132 5 255 (dk_at dksJ24_getChars_2 10 rfl rfl)
theorem dJ24_getChars_60 : decode cJ24_getChars 60 = .ok (.iload 5, 2) := dk_21 5 (dk_at dksJ24_getChars_2 13 rfl rfl)
theorem dJ24_getChars_62 : decode cJ24_getChars 62 = .ok (.getstatic 87, 3) := dk_178 0 87 (dk_at dksJ24_getChars_2 15 rfl rfl)
theorem dJ24_getChars_65 : decode cJ24_getChars 65 = .ok (.iload 4, 2) := dk_21 4 (dk_at dksJ24_getChars_2 18 rfl rfl)
theorem dJ24_getChars_67 : decode cJ24_getChars 67 = .ok (.baload, 1) := dk_51 (dk_at dksJ24_getChars_2 20 rfl rfl)
theorem dJ24_getChars_68 : decode cJ24_getChars 68 = .ok (.bastore, 1) := dk_84 (dk_at dksJ24_getChars_2 21 rfl rfl)
theorem dJ24_getChars_69 : decode cJ24_getChars 69 = .ok (.goto (-47), 3) := dk_167 255 209 (dk_at dksJ24_getChars_3 0 rfl rfl)
theorem dJ24_getChars_72 : decode cJ24_getChars 72 = .ok (.aload_n 2, 1) := dk_44 (dk_at dksJ24_getChars_3 3 rfl rfl)
theorem dJ24_getChars_73 : decode cJ24_getChars 73 = .ok (.iinc 5 (-1), 3) := dk_132 5 255 (dk_at dksJ24_getChars_3 4 rfl rfl)
theorem dJ24_getChars_76 : decode cJ24_getChars 76 = .ok (.iload 5, 2) := dk_21 5 (dk_at dksJ24_getChars_3 7 rfl rfl)
theorem dJ24_getChars_78 : decode cJ24_getChars 78 = .ok (.getstatic 83, 3) := dk_178 0 83 (dk_at dksJ24_getChars_3 9 rfl rfl)
theorem dJ24_getChars_81 : decode cJ24_getChars 81 = .ok (.iload_n 0, 1) := dk_26 (dk_at dksJ24_getChars_3 12 rfl rfl)
theorem dJ24_getChars_82 : decode cJ24_getChars 82 = .ok (.ineg, 1) := dk_116 (dk_at dksJ24_getChars_3 13 rfl rfl)
theorem dJ24_getChars_83 : decode cJ24_getChars 83 = .ok (.baload, 1) := dk_51 (dk_at dksJ24_getChars_3 14 rfl rfl)
theorem dJ24_getChars_84 : decode cJ24_getChars 84 = .ok (.bastore, 1) := dk_84 (dk_at dksJ24_getChars_3 15 rfl rfl)
theorem dJ24_getChars_85 : decode cJ24_getChars 85 = .ok (.iload_n 0, 1) := dk_26 (dk_at dksJ24_getChars_3 16 rfl rfl)
theorem dJ24_getChars_86 : decode cJ24_getChars 86 = .ok (.bipush (-9), 2) := dk_16 247 (dk_at dksJ24_getChars_3 17 rfl rfl)
theorem dJ24_getChars_88 : decode cJ24_getChars 88 = .ok (.if_icmp .ge 16, 3) := dk_162 0 16 (dk_at dksJ24_getChars_3 19 rfl rfl)
theorem dJ24_getChars_91 : decode cJ24_getChars 91 = .ok (.aload_n 2, 1) := dk_44 (dk_at dksJ24_getChars_3 22 rfl rfl)
theorem dJ24_getChars_92 : decode cJ24_getChars 92 = .ok (.iinc 5 (-1), 3) := dk_132 5 255 (dk_at dksJ24_getChars_4 0 rfl rfl)
theorem dJ24_getChars_95 : decode cJ24_getChars 95 = .ok (.iload 5, 2) := dk_21 5 (dk_at dksJ24_getChars_4 3 rfl rfl)
theorem dJ24_getChars_97 : decode cJ24_getChars 97 = .ok (.getstatic 87, 3) := dk_178 0 87 (dk_at dksJ24_getChars_4 5 rfl rfl)
theorem dJ24_getChars_100 : decode cJ24_getChars 100 = .ok (.iload_n 0, 1) := dk_26 (dk_at dksJ24_getChars_4 8 rfl rfl)
theorem dJ24_getChars_101 : decode cJ24_getChars 101 = .ok (.ineg, 1) := dk_116 (dk_at dksJ24_getChars_4 9 rfl rfl)
theorem dJ24_getChars_102 : decode cJ24_getChars 102 = .ok (.baload, 1) := dk_51 (dk_at dksJ24_getChars_4 10 rfl rfl)
theorem dJ24_getChars_103 : decode cJ24_getChars 103 = .ok (.bastore, 1) := dk_84 (dk_at dksJ24_getChars_4 11 rfl rfl)
theorem dJ24_getChars_104 : decode cJ24_getChars 104 = .ok (.iload 6, 2) := dk_21 6 (dk_at dksJ24_getChars_4 12 rfl rfl)
theorem dJ24_getChars_106 : decode cJ24_getChars 106 = .ok (.ifCond .eq 12, 3) := dk_153 0 12 (dk_at dksJ24_getChars_4 14 rfl rfl)
theorem dJ24_getChars_109 : decode cJ24_getChars 109 = .ok (.aload_n 2, 1) := dk_44 (dk_at dksJ24_getChars_4 17 rfl rfl)
theorem dJ24_getChars_110 : decode cJ24_getChars 110 = .ok (.iinc 5 (-1), 3) := dk_132 5 255 (dk_at dksJ24_getChars_4 18 rfl rfl)
theorem dJ24_getChars_113 : decode cJ24_getChars 113 = .ok (.iload 5, 2) := dk_21 5 (dk_at dksJ24_getChars_4 21 rfl rfl)
theorem dJ24_getChars_115 : decode cJ24_getChars 115 = .ok (.bipush 45, 2) := dk_16 45 (dk_at dksJ24_getChars_5 0 rfl rfl)
theorem dJ24_getChars_117 : decode cJ24_getChars 117 = .ok (.bastore, 1) := dk_84 (dk_at dksJ24_getChars_5 2 rfl rfl)
theorem dJ24_getChars_118 : decode cJ24_getChars 118 = .ok (.iload 5, 2) := dk_21 5 (dk_at dksJ24_getChars_5 3 rfl rfl)
theorem dJ24_getChars_120 : decode cJ24_getChars 120 = .ok (.ireturn, 1) := dk_172 (dk_at dksJ24_getChars_5 5 rfl rfl)
abbrev cJ24_valueOf : ByteArray := prog_57_method_22_code
def yJ24_valueOf : MethodName := ⟨RJ24, "valueOf", "(I)Ljava/lang/Integer;"⟩
def dkwJ24_valueOf_1 : List UInt8 := [187, 0, 1, 89, 26, 183, 0, 199, 176]
abbrev dktJ24_valueOf_1 : List UInt8 := dkwJ24_valueOf_1 ++ []
def dkwJ24_valueOf_0 : List UInt8 := [26, 16, 128, 161, 0, 20, 26, 178, 0, 191, 163, 0, 13, 178, 0, 195, 26, 17, 0, 128, 96, 50, 176]
abbrev dktJ24_valueOf_0 : List UInt8 := dkwJ24_valueOf_0 ++ dktJ24_valueOf_1
theorem dksJ24_valueOf_0 : cJ24_valueOf.data.toList.drop 0 = dktJ24_valueOf_0 := by decide +kernel
theorem dksJ24_valueOf_1 : cJ24_valueOf.data.toList.drop 23 = dktJ24_valueOf_1 := dk_seg dksJ24_valueOf_0 23 rfl rfl
theorem dJ24_valueOf_0 : decode cJ24_valueOf 0 = .ok (.iload_n 0, 1) := dk_26 (dk_at dksJ24_valueOf_0 0 rfl rfl)
theorem dJ24_valueOf_1 : decode cJ24_valueOf 1 = .ok (.bipush (-128), 2) := dk_16 128 (dk_at dksJ24_valueOf_0 1 rfl rfl)
theorem dJ24_valueOf_3 : decode cJ24_valueOf 3 = .ok (.if_icmp .lt 20, 3) := dk_161 0 20 (dk_at dksJ24_valueOf_0 3 rfl rfl)
theorem dJ24_valueOf_6 : decode cJ24_valueOf 6 = .ok (.iload_n 0, 1) := dk_26 (dk_at dksJ24_valueOf_0 6 rfl rfl)
theorem dJ24_valueOf_7 : decode cJ24_valueOf 7 = .ok (.getstatic 191, 3) := dk_178 0 191 (dk_at dksJ24_valueOf_0 7 rfl rfl)
theorem dJ24_valueOf_10 : decode cJ24_valueOf 10 = .ok (.if_icmp .gt 13, 3) := dk_163 0 13 (dk_at dksJ24_valueOf_0 10 rfl rfl)
theorem dJ24_valueOf_13 : decode cJ24_valueOf 13 = .ok (.getstatic 195, 3) := dk_178 0 195 (dk_at dksJ24_valueOf_0 13 rfl rfl)
theorem dJ24_valueOf_16 : decode cJ24_valueOf 16 = .ok (.iload_n 0, 1) := dk_26 (dk_at dksJ24_valueOf_0 16 rfl rfl)
theorem dJ24_valueOf_17 : decode cJ24_valueOf 17 = .ok (.sipush 128, 3) := dk_17 0 128 (dk_at dksJ24_valueOf_0 17 rfl rfl)
theorem dJ24_valueOf_20 : decode cJ24_valueOf 20 = .ok (.iadd, 1) := dk_96 (dk_at dksJ24_valueOf_0 20 rfl rfl)
theorem dJ24_valueOf_21 : decode cJ24_valueOf 21 = .ok (.aaload, 1) := dk_50 (dk_at dksJ24_valueOf_0 21 rfl rfl)
theorem dJ24_valueOf_22 : decode cJ24_valueOf 22 = .ok (.areturn, 1) := dk_176 (dk_at dksJ24_valueOf_0 22 rfl rfl)
theorem dJ24_valueOf_23 : decode cJ24_valueOf 23 = .ok (.new 1, 3) := dk_187 0 1 (dk_at dksJ24_valueOf_1 0 rfl rfl)
theorem dJ24_valueOf_26 : decode cJ24_valueOf 26 = .ok (.dup, 1) := dk_89 (dk_at dksJ24_valueOf_1 3 rfl rfl)
theorem dJ24_valueOf_27 : decode cJ24_valueOf 27 = .ok (.iload_n 0, 1) := dk_26 (dk_at dksJ24_valueOf_1 4 rfl rfl)
theorem dJ24_valueOf_28 : decode cJ24_valueOf 28 = .ok (.invokespecial 199, 3) := dk_183 0 199 (dk_at dksJ24_valueOf_1 5 rfl rfl)
theorem dJ24_valueOf_31 : decode cJ24_valueOf 31 = .ok (.areturn, 1) := dk_176 (dk_at dksJ24_valueOf_1 8 rfl rfl)
abbrev cJ24_init : ByteArray := prog_57_method_23_code
def yJ24_init : MethodName := ⟨RJ24, "<init>", "(I)V"⟩
def dkwJ24_init_0 : List UInt8 := [42, 183, 0, 202, 42, 27, 181, 0, 205, 177]
abbrev dktJ24_init_0 : List UInt8 := dkwJ24_init_0 ++ []
theorem dksJ24_init_0 : cJ24_init.data.toList.drop 0 = dktJ24_init_0 := by decide +kernel
theorem dJ24_init_0 : decode cJ24_init 0 = .ok (.aload_n 0, 1) := dk_42 (dk_at dksJ24_init_0 0 rfl rfl)
theorem dJ24_init_1 : decode cJ24_init 1 = .ok (.invokespecial 202, 3) := dk_183 0 202 (dk_at dksJ24_init_0 1 rfl rfl)
theorem dJ24_init_4 : decode cJ24_init 4 = .ok (.aload_n 0, 1) := dk_42 (dk_at dksJ24_init_0 4 rfl rfl)
theorem dJ24_init_5 : decode cJ24_init 5 = .ok (.iload_n 1, 1) := dk_27 (dk_at dksJ24_init_0 5 rfl rfl)
theorem dJ24_init_6 : decode cJ24_init 6 = .ok (.putfield 205, 3) := dk_181 0 205 (dk_at dksJ24_init_0 6 rfl rfl)
theorem dJ24_init_9 : decode cJ24_init 9 = .ok (.return_, 1) := dk_177 (dk_at dksJ24_init_0 9 rfl rfl)
abbrev cJ24_intValue : ByteArray := prog_57_method_27_code
def yJ24_intValue : MethodName := ⟨RJ24, "intValue", "()I"⟩
theorem dJ24_intValue_0 : decode cJ24_intValue 0 = .ok (.aload_n 0, 1) := by decide +kernel
theorem dJ24_intValue_1 : decode cJ24_intValue 1 = .ok (.getfield 205, 3) := by decide +kernel
theorem dJ24_intValue_4 : decode cJ24_intValue 4 = .ok (.ireturn, 1) := by decide +kernel
theorem q139 : (Jvm.Cond.initialized "java/lang/Integer") ∈ lw_all := lw_g (lw_at lw_m1 44 rfl) rfl
theorem q1516 : (Jvm.Cond.static ({ cls := "java/lang/Integer", name := "stringSize", desc := "(I)I" } : Jvm.MethodName)) ∈ lw_all := lw_g (lw_at lw_m6 221 rfl) rfl
theorem q1517 : (Jvm.Cond.code ({ cls := "java/lang/Integer", name := "stringSize", desc := "(I)I" } : Jvm.MethodName) prog_57_method_13_code (4 : Nat) (Option.some Jvm.ClassFile.FieldType.int)) ∈ lw_all := lw_g (lw_at lw_m6 222 rfl) rfl
theorem q1519 : (Jvm.Cond.static ({ cls := "java/lang/Integer", name := "getChars", desc := "(II[B)I" } : Jvm.MethodName)) ∈ lw_all := lw_g (lw_at lw_m6 224 rfl) rfl
theorem q1520 : (Jvm.Cond.code ({ cls := "java/lang/Integer", name := "getChars", desc := "(II[B)I" } : Jvm.MethodName) prog_57_method_12_code (7 : Nat) (Option.some Jvm.ClassFile.FieldType.int)) ∈ lw_all := lw_g (lw_at lw_m6 225 rfl) rfl
theorem q1521 : (Jvm.Cond.fieldLink "java/lang/Integer" (83 : Nat) "java/lang/Integer" "DigitOnes" "[B") ∈ lw_all := lw_g (lw_at lw_m6 226 rfl) rfl
theorem q1522 : (Jvm.Cond.laysStatic "java/lang/Integer" "DigitOnes" "[B") ∈ lw_tbl := lw_at lw_m6 227 rfl
theorem q1523 : (Jvm.Cond.fieldLink "java/lang/Integer" (87 : Nat) "java/lang/Integer" "DigitTens" "[B") ∈ lw_all := lw_g (lw_at lw_m6 228 rfl) rfl
theorem q1524 : (Jvm.Cond.laysStatic "java/lang/Integer" "DigitTens" "[B") ∈ lw_tbl := lw_at lw_m6 229 rfl
theorem q1693 : (Jvm.Cond.selects "java/lang/Integer" ({ cls := "java/lang/Object", name := "getClass", desc := "()Ljava/lang/Class;" } : Jvm.MethodName) ({ cls := "java/lang/Object", name := "getClass", desc := "()Ljava/lang/Class;" } : Jvm.MethodName)) ∈ lw_all := lw_g (lw_at lw_m7 158 rfl) rfl
theorem q1741 : (Jvm.Cond.static ({ cls := "java/lang/Integer", name := "valueOf", desc := "(I)Ljava/lang/Integer;" } : Jvm.MethodName)) ∈ lw_all := lw_g (lw_at lw_m7 206 rfl) rfl
theorem q1742 : (Jvm.Cond.code ({ cls := "java/lang/Integer", name := "valueOf", desc := "(I)Ljava/lang/Integer;" } : Jvm.MethodName) prog_57_method_22_code (1 : Nat) (Option.some (Jvm.ClassFile.FieldType.object "java/lang/Integer"))) ∈ lw_all := lw_g (lw_at lw_m7 207 rfl) rfl
theorem q1743 : (Jvm.Cond.fieldLink "java/lang/Integer" (191 : Nat) "java/lang/Integer$IntegerCache" "high" "I") ∈ lw_all := lw_g (lw_at lw_m7 208 rfl) rfl
theorem q1745 : (Jvm.Cond.fieldLink "java/lang/Integer" (195 : Nat) "java/lang/Integer$IntegerCache" "cache" "[Ljava/lang/Integer;") ∈ lw_all := lw_g (lw_at lw_m7 210 rfl) rfl
theorem q1747 : (Jvm.Cond.classLink "java/lang/Integer" (1 : Nat) "java/lang/Integer") ∈ lw_all := lw_g (lw_at lw_m7 212 rfl) rfl
theorem q1748 : (Jvm.Cond.instantiable "java/lang/Integer" (1 : Nat)) ∈ lw_all := lw_g (lw_at lw_m7 213 rfl) rfl
theorem q1749 : (Jvm.Cond.methodLink "java/lang/Integer" (199 : Nat) ({ cls := "java/lang/Integer", name := "<init>", desc := "(I)V" } : Jvm.MethodName)) ∈ lw_all := lw_g (lw_at lw_m7 214 rfl) rfl
theorem q1750 : (Jvm.Cond.instanceMethod ({ cls := "java/lang/Integer", name := "<init>", desc := "(I)V" } : Jvm.MethodName)) ∈ lw_all := lw_g (lw_at lw_m7 215 rfl) rfl
theorem q1751 : (Jvm.Cond.code ({ cls := "java/lang/Integer", name := "<init>", desc := "(I)V" } : Jvm.MethodName) prog_57_method_23_code (2 : Nat) (Option.none : Option Jvm.ClassFile.FieldType)) ∈ lw_all := lw_g (lw_at lw_m7 216 rfl) rfl
theorem q1752 : (Jvm.Cond.methodLink "java/lang/Integer" (202 : Nat) ({ cls := "java/lang/Number", name := "<init>", desc := "()V" } : Jvm.MethodName)) ∈ lw_all := lw_g (lw_at lw_m7 217 rfl) rfl
theorem q1756 : (Jvm.Cond.fieldLink "java/lang/Integer" (205 : Nat) "java/lang/Integer" "value" "I") ∈ lw_all := lw_g (lw_at lw_m7 221 rfl) rfl
theorem q1757 : (Jvm.Cond.laysFinal "java/lang/Integer" "java/lang/Integer" "value" "I") ∈ lw_all := lw_g (lw_at lw_m7 222 rfl) rfl
theorem q1758 : (Jvm.Cond.soleField "java/lang/Integer" "value") ∈ lw_all := lw_g (lw_at lw_m7 223 rfl) rfl
theorem q1759 : (Jvm.Cond.superclass "java/lang/Integer" "java/lang/Number") ∈ lw_all := lw_g (lw_at lw_m7 224 rfl) rfl
theorem q1826 : (Jvm.Cond.instanceMethod ({ cls := "java/lang/Integer", name := "intValue", desc := "()I" } : Jvm.MethodName)) ∈ lw_all := lw_g (lw_at lw_m8 51 rfl) rfl
theorem q1827 : (Jvm.Cond.selects "java/lang/Integer" ({ cls := "java/lang/Integer", name := "intValue", desc := "()I" } : Jvm.MethodName) ({ cls := "java/lang/Integer", name := "intValue", desc := "()I" } : Jvm.MethodName)) ∈ lw_all := lw_g (lw_at lw_m8 52 rfl) rfl
theorem q1828 : (Jvm.Cond.code ({ cls := "java/lang/Integer", name := "intValue", desc := "()I" } : Jvm.MethodName) prog_57_method_27_code (1 : Nat) (Option.some Jvm.ClassFile.FieldType.int)) ∈ lw_all := lw_g (lw_at lw_m8 53 rfl) rfl
theorem q2620 : (Jvm.Cond.castable "java/lang/Integer" "java/lang/Object") ∈ lw_tbl := lw_at lw_m11 125 rfl
theorem in_J24 : ∀ w ∈ wsJ240, w ∈ lw_all := lw_in wsJ240 [1757] (by decide +kernel) (by decide +kernel)
/-! java/lang/StringBuilder -/
set_option maxRecDepth 100000
def RJ1 : String := "java/lang/StringBuilder"
def TJ1 : u_T := fun k => match k with
  | 0 => ("java/lang/AbstractStringBuilder", "value", "[B", false)
  | 1 => ("java/lang/AbstractStringBuilder", "coder", "B", false)
  | 2 => ("java/lang/AbstractStringBuilder", "maybeLatin1", "Z", false)
  | _ => ("java/lang/AbstractStringBuilder", "count", "I", false)
def tyJ1 : Nat → FieldType := fun k => match k with
  | 0 => .array .byte
  | 1 => .byte
  | 2 => .boolean
  | _ => .int
abbrev wsJ10 : List Cond := u_ws RJ1 TJ1 4
theorem nmJ1 : ∀ a, a < 4 → ∀ b, b < 4 → a ≠ b → (TJ1 a).2.1 ≠ (TJ1 b).2.1 := by decide +kernel
theorem tyJ1_ok : ∀ k, k < 4 → parseFieldDescriptor (TJ1 k).2.2.1 = some (tyJ1 k) := by decide +kernel
abbrev cJ1_init : ByteArray := prog_65_method_1_code
def yJ1_init : MethodName := ⟨RJ1, "<init>", "()V"⟩
def dkwJ1_init_0 : List UInt8 := [42, 16, 16, 183, 0, 1, 177]
abbrev dktJ1_init_0 : List UInt8 := dkwJ1_init_0 ++ []
theorem dksJ1_init_0 : cJ1_init.data.toList.drop 0 = dktJ1_init_0 := by decide +kernel
theorem dJ1_init_0 : decode cJ1_init 0 = .ok (.aload_n 0, 1) := dk_42 (dk_at dksJ1_init_0 0 rfl rfl)
theorem dJ1_init_1 : decode cJ1_init 1 = .ok (.bipush 16, 2) := dk_16 16 (dk_at dksJ1_init_0 1 rfl rfl)
theorem dJ1_init_3 : decode cJ1_init 3 = .ok (.invokespecial 1, 3) := dk_183 0 1 (dk_at dksJ1_init_0 3 rfl rfl)
theorem dJ1_init_6 : decode cJ1_init 6 = .ok (.return_, 1) := dk_177 (dk_at dksJ1_init_0 6 rfl rfl)
abbrev cJ1_append : ByteArray := prog_65_method_7_code
def yJ1_append : MethodName := ⟨RJ1, "append", "(Ljava/lang/String;)Ljava/lang/StringBuilder;"⟩
def dkwJ1_append_0 : List UInt8 := [42, 43, 183, 0, 29, 87, 42, 176]
abbrev dktJ1_append_0 : List UInt8 := dkwJ1_append_0 ++ []
theorem dksJ1_append_0 : cJ1_append.data.toList.drop 0 = dktJ1_append_0 := by decide +kernel
theorem dJ1_append_0 : decode cJ1_append 0 = .ok (.aload_n 0, 1) := dk_42 (dk_at dksJ1_append_0 0 rfl rfl)
theorem dJ1_append_1 : decode cJ1_append 1 = .ok (.aload_n 1, 1) := dk_43 (dk_at dksJ1_append_0 1 rfl rfl)
theorem dJ1_append_2 : decode cJ1_append 2 = .ok (.invokespecial 29, 3) := dk_183 0 29 (dk_at dksJ1_append_0 2 rfl rfl)
theorem dJ1_append_5 : decode cJ1_append 5 = .ok (.pop, 1) := dk_87 (dk_at dksJ1_append_0 5 rfl rfl)
theorem dJ1_append_6 : decode cJ1_append 6 = .ok (.aload_n 0, 1) := dk_42 (dk_at dksJ1_append_0 6 rfl rfl)
theorem dJ1_append_7 : decode cJ1_append 7 = .ok (.areturn, 1) := dk_176 (dk_at dksJ1_append_0 7 rfl rfl)
abbrev cJ1_append_2 : ByteArray := prog_65_method_15_code
def yJ1_append_2 : MethodName := ⟨RJ1, "append", "(I)Ljava/lang/StringBuilder;"⟩
def dkwJ1_append_2_0 : List UInt8 := [42, 27, 183, 0, 53, 87, 42, 176]
abbrev dktJ1_append_2_0 : List UInt8 := dkwJ1_append_2_0 ++ []
theorem dksJ1_append_2_0 : cJ1_append_2.data.toList.drop 0 = dktJ1_append_2_0 := by decide +kernel
theorem dJ1_append_2_0 : decode cJ1_append_2 0 = .ok (.aload_n 0, 1) := dk_42 (dk_at dksJ1_append_2_0 0 rfl rfl)
theorem dJ1_append_2_1 : decode cJ1_append_2 1 = .ok (.iload_n 1, 1) := dk_27 (dk_at dksJ1_append_2_0 1 rfl rfl)
theorem dJ1_append_2_2 : decode cJ1_append_2 2 = .ok (.invokespecial 53, 3) := dk_183 0 53 (dk_at dksJ1_append_2_0 2 rfl rfl)
theorem dJ1_append_2_5 : decode cJ1_append_2 5 = .ok (.pop, 1) := dk_87 (dk_at dksJ1_append_2_0 5 rfl rfl)
theorem dJ1_append_2_6 : decode cJ1_append_2 6 = .ok (.aload_n 0, 1) := dk_42 (dk_at dksJ1_append_2_0 6 rfl rfl)
theorem dJ1_append_2_7 : decode cJ1_append_2 7 = .ok (.areturn, 1) := dk_176 (dk_at dksJ1_append_2_0 7 rfl rfl)
abbrev cJ1_toString : ByteArray := prog_65_method_42_code
def yJ1_toString : MethodName := ⟨RJ1, "toString", "()Ljava/lang/String;"⟩
def dkwJ1_toString_0 : List UInt8 := [187, 0, 18, 89, 42, 183, 0, 137, 176]
abbrev dktJ1_toString_0 : List UInt8 := dkwJ1_toString_0 ++ []
theorem dksJ1_toString_0 : cJ1_toString.data.toList.drop 0 = dktJ1_toString_0 := by decide +kernel
theorem dJ1_toString_0 : decode cJ1_toString 0 = .ok (.new 18, 3) := dk_187 0 18 (dk_at dksJ1_toString_0 0 rfl rfl)
theorem dJ1_toString_3 : decode cJ1_toString 3 = .ok (.dup, 1) := dk_89 (dk_at dksJ1_toString_0 3 rfl rfl)
theorem dJ1_toString_4 : decode cJ1_toString 4 = .ok (.aload_n 0, 1) := dk_42 (dk_at dksJ1_toString_0 4 rfl rfl)
theorem dJ1_toString_5 : decode cJ1_toString 5 = .ok (.invokespecial 137, 3) := dk_183 0 137 (dk_at dksJ1_toString_0 5 rfl rfl)
theorem dJ1_toString_8 : decode cJ1_toString 8 = .ok (.areturn, 1) := dk_176 (dk_at dksJ1_toString_0 8 rfl rfl)
abbrev cJ1_length : ByteArray := prog_65_method_93_code
def yJ1_length : MethodName := ⟨RJ1, "length", "()I"⟩
theorem dJ1_length_0 : decode cJ1_length 0 = .ok (.aload_n 0, 1) := by decide +kernel
theorem dJ1_length_1 : decode cJ1_length 1 = .ok (.invokespecial 343, 3) := by decide +kernel
theorem dJ1_length_4 : decode cJ1_length 4 = .ok (.ireturn, 1) := by decide +kernel
abbrev cJ1_setLength : ByteArray := prog_65_method_89_code
def yJ1_setLength : MethodName := ⟨RJ1, "setLength", "(I)V"⟩
def dkwJ1_setLength_0 : List UInt8 := [42, 27, 183, 1, 77, 177]
abbrev dktJ1_setLength_0 : List UInt8 := dkwJ1_setLength_0 ++ []
theorem dksJ1_setLength_0 : cJ1_setLength.data.toList.drop 0 = dktJ1_setLength_0 := by decide +kernel
theorem dJ1_setLength_0 : decode cJ1_setLength 0 = .ok (.aload_n 0, 1) := dk_42 (dk_at dksJ1_setLength_0 0 rfl rfl)
theorem dJ1_setLength_1 : decode cJ1_setLength 1 = .ok (.iload_n 1, 1) := dk_27 (dk_at dksJ1_setLength_0 1 rfl rfl)
theorem dJ1_setLength_2 : decode cJ1_setLength 2 = .ok (.invokespecial 333, 3) := dk_183 1 77 (dk_at dksJ1_setLength_0 2 rfl rfl)
theorem dJ1_setLength_5 : decode cJ1_setLength 5 = .ok (.return_, 1) := dk_177 (dk_at dksJ1_setLength_0 5 rfl rfl)
abbrev cJ1_append_3 : ByteArray := prog_65_method_14_code
def yJ1_append_3 : MethodName := ⟨RJ1, "append", "(C)Ljava/lang/StringBuilder;"⟩
def dkwJ1_append_3_0 : List UInt8 := [42, 27, 183, 0, 50, 87, 42, 176]
abbrev dktJ1_append_3_0 : List UInt8 := dkwJ1_append_3_0 ++ []
theorem dksJ1_append_3_0 : cJ1_append_3.data.toList.drop 0 = dktJ1_append_3_0 := by decide +kernel
theorem dJ1_append_3_0 : decode cJ1_append_3 0 = .ok (.aload_n 0, 1) := dk_42 (dk_at dksJ1_append_3_0 0 rfl rfl)
theorem dJ1_append_3_1 : decode cJ1_append_3 1 = .ok (.iload_n 1, 1) := dk_27 (dk_at dksJ1_append_3_0 1 rfl rfl)
theorem dJ1_append_3_2 : decode cJ1_append_3 2 = .ok (.invokespecial 50, 3) := dk_183 0 50 (dk_at dksJ1_append_3_0 2 rfl rfl)
theorem dJ1_append_3_5 : decode cJ1_append_3 5 = .ok (.pop, 1) := dk_87 (dk_at dksJ1_append_3_0 5 rfl rfl)
theorem dJ1_append_3_6 : decode cJ1_append_3 6 = .ok (.aload_n 0, 1) := dk_42 (dk_at dksJ1_append_3_0 6 rfl rfl)
theorem dJ1_append_3_7 : decode cJ1_append_3 7 = .ok (.areturn, 1) := dk_176 (dk_at dksJ1_append_3_0 7 rfl rfl)
abbrev cJ1_append_4 : ByteArray := prog_65_method_16_code
def yJ1_append_4 : MethodName := ⟨RJ1, "append", "(J)Ljava/lang/StringBuilder;"⟩
def dkwJ1_append_4_0 : List UInt8 := [42, 31, 183, 0, 56, 87, 42, 176]
abbrev dktJ1_append_4_0 : List UInt8 := dkwJ1_append_4_0 ++ []
theorem dksJ1_append_4_0 : cJ1_append_4.data.toList.drop 0 = dktJ1_append_4_0 := by decide +kernel
theorem dJ1_append_4_0 : decode cJ1_append_4 0 = .ok (.aload_n 0, 1) := dk_42 (dk_at dksJ1_append_4_0 0 rfl rfl)
theorem dJ1_append_4_1 : decode cJ1_append_4 1 = .ok (.lload_n 1, 1) := dk_31 (dk_at dksJ1_append_4_0 1 rfl rfl)
theorem dJ1_append_4_2 : decode cJ1_append_4 2 = .ok (.invokespecial 56, 3) := dk_183 0 56 (dk_at dksJ1_append_4_0 2 rfl rfl)
theorem dJ1_append_4_5 : decode cJ1_append_4 5 = .ok (.pop, 1) := dk_87 (dk_at dksJ1_append_4_0 5 rfl rfl)
theorem dJ1_append_4_6 : decode cJ1_append_4 6 = .ok (.aload_n 0, 1) := dk_42 (dk_at dksJ1_append_4_0 6 rfl rfl)
theorem dJ1_append_4_7 : decode cJ1_append_4 7 = .ok (.areturn, 1) := dk_176 (dk_at dksJ1_append_4_0 7 rfl rfl)
abbrev cJ1_charAt : ByteArray := prog_65_method_88_code
def yJ1_charAt : MethodName := ⟨RJ1, "charAt", "(I)C"⟩
def dkwJ1_charAt_0 : List UInt8 := [42, 27, 183, 1, 73, 172]
abbrev dktJ1_charAt_0 : List UInt8 := dkwJ1_charAt_0 ++ []
theorem dksJ1_charAt_0 : cJ1_charAt.data.toList.drop 0 = dktJ1_charAt_0 := by decide +kernel
theorem dJ1_charAt_0 : decode cJ1_charAt 0 = .ok (.aload_n 0, 1) := dk_42 (dk_at dksJ1_charAt_0 0 rfl rfl)
theorem dJ1_charAt_1 : decode cJ1_charAt 1 = .ok (.iload_n 1, 1) := dk_27 (dk_at dksJ1_charAt_0 1 rfl rfl)
theorem dJ1_charAt_2 : decode cJ1_charAt 2 = .ok (.invokespecial 329, 3) := dk_183 1 73 (dk_at dksJ1_charAt_0 2 rfl rfl)
theorem dJ1_charAt_5 : decode cJ1_charAt 5 = .ok (.ireturn, 1) := dk_172 (dk_at dksJ1_charAt_0 5 rfl rfl)
theorem q104 : (Jvm.Cond.initialized "java/lang/StringBuilder") ∈ lw_all := lw_g (lw_at lw_m1 9 rfl) rfl
theorem q252 : (Jvm.Cond.instantiable "java/lang/StringBuilder" (4 : Nat)) ∈ lw_all := lw_g (lw_at lw_m1 157 rfl) rfl
theorem q254 : (Jvm.Cond.instanceMethod ({ cls := "java/lang/StringBuilder", name := "<init>", desc := "()V" } : Jvm.MethodName)) ∈ lw_all := lw_g (lw_at lw_m1 159 rfl) rfl
theorem q255 : (Jvm.Cond.code ({ cls := "java/lang/StringBuilder", name := "<init>", desc := "()V" } : Jvm.MethodName) prog_65_method_1_code (1 : Nat) (Option.none : Option Jvm.ClassFile.FieldType)) ∈ lw_all := lw_g (lw_at lw_m1 160 rfl) rfl
theorem q256 : (Jvm.Cond.methodLink "java/lang/StringBuilder" (1 : Nat) ({ cls := "java/lang/AbstractStringBuilder", name := "<init>", desc := "(I)V" } : Jvm.MethodName)) ∈ lw_all := lw_g (lw_at lw_m1 161 rfl) rfl
theorem q274 : (Jvm.Cond.lays "java/lang/StringBuilder" "java/lang/AbstractStringBuilder" "value" "[B") ∈ lw_all := lw_g (lw_at lw_m1 179 rfl) rfl
theorem q276 : (Jvm.Cond.lays "java/lang/StringBuilder" "java/lang/AbstractStringBuilder" "coder" "B") ∈ lw_all := lw_g (lw_at lw_m1 181 rfl) rfl
theorem q278 : (Jvm.Cond.lays "java/lang/StringBuilder" "java/lang/AbstractStringBuilder" "maybeLatin1" "Z") ∈ lw_all := lw_g (lw_at lw_m1 183 rfl) rfl
theorem q280 : (Jvm.Cond.lays "java/lang/StringBuilder" "java/lang/AbstractStringBuilder" "count" "I") ∈ lw_all := lw_g (lw_at lw_m1 185 rfl) rfl
theorem q282 : (Jvm.Cond.superclass "java/lang/StringBuilder" "java/lang/AbstractStringBuilder") ∈ lw_all := lw_g (lw_at lw_m1 187 rfl) rfl
theorem q1423 : (Jvm.Cond.instanceMethod ({ cls := "java/lang/StringBuilder", name := "append", desc := "(Ljava/lang/String;)Ljava/lang/StringBuilder;" } : Jvm.MethodName)) ∈ lw_all := lw_g (lw_at lw_m6 128 rfl) rfl
theorem q1424 : (Jvm.Cond.selects "java/lang/StringBuilder" ({ cls := "java/lang/StringBuilder", name := "append", desc := "(Ljava/lang/String;)Ljava/lang/StringBuilder;" } : Jvm.MethodName) ({ cls := "java/lang/StringBuilder", name := "append", desc := "(Ljava/lang/String;)Ljava/lang/StringBuilder;" } : Jvm.MethodName)) ∈ lw_all := lw_g (lw_at lw_m6 129 rfl) rfl
theorem q1425 : (Jvm.Cond.code ({ cls := "java/lang/StringBuilder", name := "append", desc := "(Ljava/lang/String;)Ljava/lang/StringBuilder;" } : Jvm.MethodName) prog_65_method_7_code (2 : Nat) (Option.some (Jvm.ClassFile.FieldType.object "java/lang/StringBuilder"))) ∈ lw_all := lw_g (lw_at lw_m6 130 rfl) rfl
theorem q1426 : (Jvm.Cond.methodLink "java/lang/StringBuilder" (29 : Nat) ({ cls := "java/lang/AbstractStringBuilder", name := "append", desc := "(Ljava/lang/String;)Ljava/lang/AbstractStringBuilder;" } : Jvm.MethodName)) ∈ lw_all := lw_g (lw_at lw_m6 131 rfl) rfl
theorem q1465 : (Jvm.Cond.selects "java/lang/StringBuilder" ({ cls := "java/lang/AbstractStringBuilder", name := "isLatin1", desc := "()Z" } : Jvm.MethodName) ({ cls := "java/lang/AbstractStringBuilder", name := "isLatin1", desc := "()Z" } : Jvm.MethodName)) ∈ lw_all := lw_g (lw_at lw_m6 170 rfl) rfl
theorem q1509 : (Jvm.Cond.instanceMethod ({ cls := "java/lang/StringBuilder", name := "append", desc := "(I)Ljava/lang/StringBuilder;" } : Jvm.MethodName)) ∈ lw_all := lw_g (lw_at lw_m6 214 rfl) rfl
theorem q1510 : (Jvm.Cond.selects "java/lang/StringBuilder" ({ cls := "java/lang/StringBuilder", name := "append", desc := "(I)Ljava/lang/StringBuilder;" } : Jvm.MethodName) ({ cls := "java/lang/StringBuilder", name := "append", desc := "(I)Ljava/lang/StringBuilder;" } : Jvm.MethodName)) ∈ lw_all := lw_g (lw_at lw_m6 215 rfl) rfl
theorem q1511 : (Jvm.Cond.code ({ cls := "java/lang/StringBuilder", name := "append", desc := "(I)Ljava/lang/StringBuilder;" } : Jvm.MethodName) prog_65_method_15_code (2 : Nat) (Option.some (Jvm.ClassFile.FieldType.object "java/lang/StringBuilder"))) ∈ lw_all := lw_g (lw_at lw_m6 216 rfl) rfl
theorem q1512 : (Jvm.Cond.methodLink "java/lang/StringBuilder" (53 : Nat) ({ cls := "java/lang/AbstractStringBuilder", name := "append", desc := "(I)Ljava/lang/AbstractStringBuilder;" } : Jvm.MethodName)) ∈ lw_all := lw_g (lw_at lw_m6 217 rfl) rfl
theorem q1534 : (Jvm.Cond.instanceMethod ({ cls := "java/lang/StringBuilder", name := "toString", desc := "()Ljava/lang/String;" } : Jvm.MethodName)) ∈ lw_all := lw_g (lw_at lw_m6 239 rfl) rfl
theorem q1535 : (Jvm.Cond.selects "java/lang/StringBuilder" ({ cls := "java/lang/StringBuilder", name := "toString", desc := "()Ljava/lang/String;" } : Jvm.MethodName) ({ cls := "java/lang/StringBuilder", name := "toString", desc := "()Ljava/lang/String;" } : Jvm.MethodName)) ∈ lw_all := lw_g (lw_at lw_m7 0 rfl) rfl
theorem q1536 : (Jvm.Cond.code ({ cls := "java/lang/StringBuilder", name := "toString", desc := "()Ljava/lang/String;" } : Jvm.MethodName) prog_65_method_42_code (1 : Nat) (Option.some (Jvm.ClassFile.FieldType.object "java/lang/String"))) ∈ lw_all := lw_g (lw_at lw_m7 1 rfl) rfl
theorem q1537 : (Jvm.Cond.classLink "java/lang/StringBuilder" (18 : Nat) "java/lang/String") ∈ lw_all := lw_g (lw_at lw_m7 2 rfl) rfl
theorem q1538 : (Jvm.Cond.methodLink "java/lang/StringBuilder" (137 : Nat) ({ cls := "java/lang/String", name := "<init>", desc := "(Ljava/lang/StringBuilder;)V" } : Jvm.MethodName)) ∈ lw_all := lw_g (lw_at lw_m7 3 rfl) rfl
theorem q1548 : (Jvm.Cond.selects "java/lang/StringBuilder" ({ cls := "java/lang/AbstractStringBuilder", name := "getValue", desc := "()[B" } : Jvm.MethodName) ({ cls := "java/lang/AbstractStringBuilder", name := "getValue", desc := "()[B" } : Jvm.MethodName)) ∈ lw_all := lw_g (lw_at lw_m7 13 rfl) rfl
theorem q1553 : (Jvm.Cond.selects "java/lang/StringBuilder" ({ cls := "java/lang/AbstractStringBuilder", name := "length", desc := "()I" } : Jvm.MethodName) ({ cls := "java/lang/StringBuilder", name := "length", desc := "()I" } : Jvm.MethodName)) ∈ lw_all := lw_g (lw_at lw_m7 18 rfl) rfl
theorem q1554 : (Jvm.Cond.instanceMethod ({ cls := "java/lang/StringBuilder", name := "length", desc := "()I" } : Jvm.MethodName)) ∈ lw_all := lw_g (lw_at lw_m7 19 rfl) rfl
theorem q1555 : (Jvm.Cond.code ({ cls := "java/lang/StringBuilder", name := "length", desc := "()I" } : Jvm.MethodName) prog_65_method_93_code (1 : Nat) (Option.some Jvm.ClassFile.FieldType.int)) ∈ lw_all := lw_g (lw_at lw_m7 20 rfl) rfl
theorem q1556 : (Jvm.Cond.methodLink "java/lang/StringBuilder" (343 : Nat) ({ cls := "java/lang/AbstractStringBuilder", name := "length", desc := "()I" } : Jvm.MethodName)) ∈ lw_all := lw_g (lw_at lw_m7 21 rfl) rfl
theorem q1695 : (Jvm.Cond.selects "java/lang/StringBuilder" ({ cls := "java/lang/Object", name := "getClass", desc := "()Ljava/lang/Class;" } : Jvm.MethodName) ({ cls := "java/lang/Object", name := "getClass", desc := "()Ljava/lang/Class;" } : Jvm.MethodName)) ∈ lw_all := lw_g (lw_at lw_m7 160 rfl) rfl
theorem q1848 : (Jvm.Cond.instanceMethod ({ cls := "java/lang/StringBuilder", name := "setLength", desc := "(I)V" } : Jvm.MethodName)) ∈ lw_all := lw_g (lw_at lw_m8 73 rfl) rfl
theorem q1849 : (Jvm.Cond.selects "java/lang/StringBuilder" ({ cls := "java/lang/StringBuilder", name := "setLength", desc := "(I)V" } : Jvm.MethodName) ({ cls := "java/lang/StringBuilder", name := "setLength", desc := "(I)V" } : Jvm.MethodName)) ∈ lw_all := lw_g (lw_at lw_m8 74 rfl) rfl
theorem q1850 : (Jvm.Cond.code ({ cls := "java/lang/StringBuilder", name := "setLength", desc := "(I)V" } : Jvm.MethodName) prog_65_method_89_code (2 : Nat) (Option.none : Option Jvm.ClassFile.FieldType)) ∈ lw_all := lw_g (lw_at lw_m8 75 rfl) rfl
theorem q1851 : (Jvm.Cond.methodLink "java/lang/StringBuilder" (333 : Nat) ({ cls := "java/lang/AbstractStringBuilder", name := "setLength", desc := "(I)V" } : Jvm.MethodName)) ∈ lw_all := lw_g (lw_at lw_m8 76 rfl) rfl
theorem q1908 : (Jvm.Cond.instanceMethod ({ cls := "java/lang/StringBuilder", name := "append", desc := "(C)Ljava/lang/StringBuilder;" } : Jvm.MethodName)) ∈ lw_all := lw_g (lw_at lw_m8 133 rfl) rfl
theorem q1909 : (Jvm.Cond.selects "java/lang/StringBuilder" ({ cls := "java/lang/StringBuilder", name := "append", desc := "(C)Ljava/lang/StringBuilder;" } : Jvm.MethodName) ({ cls := "java/lang/StringBuilder", name := "append", desc := "(C)Ljava/lang/StringBuilder;" } : Jvm.MethodName)) ∈ lw_all := lw_g (lw_at lw_m8 134 rfl) rfl
theorem q1910 : (Jvm.Cond.code ({ cls := "java/lang/StringBuilder", name := "append", desc := "(C)Ljava/lang/StringBuilder;" } : Jvm.MethodName) prog_65_method_14_code (2 : Nat) (Option.some (Jvm.ClassFile.FieldType.object "java/lang/StringBuilder"))) ∈ lw_all := lw_g (lw_at lw_m8 135 rfl) rfl
theorem q1911 : (Jvm.Cond.methodLink "java/lang/StringBuilder" (50 : Nat) ({ cls := "java/lang/AbstractStringBuilder", name := "append", desc := "(C)Ljava/lang/AbstractStringBuilder;" } : Jvm.MethodName)) ∈ lw_all := lw_g (lw_at lw_m8 136 rfl) rfl
theorem q1937 : (Jvm.Cond.instanceMethod ({ cls := "java/lang/StringBuilder", name := "append", desc := "(J)Ljava/lang/StringBuilder;" } : Jvm.MethodName)) ∈ lw_all := lw_g (lw_at lw_m8 162 rfl) rfl
theorem q1938 : (Jvm.Cond.selects "java/lang/StringBuilder" ({ cls := "java/lang/StringBuilder", name := "append", desc := "(J)Ljava/lang/StringBuilder;" } : Jvm.MethodName) ({ cls := "java/lang/StringBuilder", name := "append", desc := "(J)Ljava/lang/StringBuilder;" } : Jvm.MethodName)) ∈ lw_all := lw_g (lw_at lw_m8 163 rfl) rfl
theorem q1939 : (Jvm.Cond.code ({ cls := "java/lang/StringBuilder", name := "append", desc := "(J)Ljava/lang/StringBuilder;" } : Jvm.MethodName) prog_65_method_16_code (3 : Nat) (Option.some (Jvm.ClassFile.FieldType.object "java/lang/StringBuilder"))) ∈ lw_all := lw_g (lw_at lw_m8 164 rfl) rfl
theorem q1940 : (Jvm.Cond.methodLink "java/lang/StringBuilder" (56 : Nat) ({ cls := "java/lang/AbstractStringBuilder", name := "append", desc := "(J)Ljava/lang/AbstractStringBuilder;" } : Jvm.MethodName)) ∈ lw_all := lw_g (lw_at lw_m8 165 rfl) rfl
theorem q1972 : (Jvm.Cond.instanceMethod ({ cls := "java/lang/StringBuilder", name := "charAt", desc := "(I)C" } : Jvm.MethodName)) ∈ lw_all := lw_g (lw_at lw_m8 197 rfl) rfl
theorem q1973 : (Jvm.Cond.selects "java/lang/StringBuilder" ({ cls := "java/lang/StringBuilder", name := "charAt", desc := "(I)C" } : Jvm.MethodName) ({ cls := "java/lang/StringBuilder", name := "charAt", desc := "(I)C" } : Jvm.MethodName)) ∈ lw_all := lw_g (lw_at lw_m8 198 rfl) rfl
theorem q1974 : (Jvm.Cond.code ({ cls := "java/lang/StringBuilder", name := "charAt", desc := "(I)C" } : Jvm.MethodName) prog_65_method_88_code (2 : Nat) (Option.some Jvm.ClassFile.FieldType.char)) ∈ lw_all := lw_g (lw_at lw_m8 199 rfl) rfl
theorem q1975 : (Jvm.Cond.methodLink "java/lang/StringBuilder" (329 : Nat) ({ cls := "java/lang/AbstractStringBuilder", name := "charAt", desc := "(I)C" } : Jvm.MethodName)) ∈ lw_all := lw_g (lw_at lw_m8 200 rfl) rfl
theorem q2542 : (Jvm.Cond.selects "java/lang/StringBuilder" ({ cls := "java/lang/StringBuilder", name := "length", desc := "()I" } : Jvm.MethodName) ({ cls := "java/lang/StringBuilder", name := "length", desc := "()I" } : Jvm.MethodName)) ∈ lw_all := lw_g (lw_at lw_m11 47 rfl) rfl
theorem q2596 : (Jvm.Cond.castable "java/lang/StringBuilder" "java/lang/Object") ∈ lw_tbl := lw_at lw_m11 101 rfl
theorem in_J1 : ∀ w ∈ wsJ10, w ∈ lw_all := lw_in wsJ10 [274, 276, 278, 280] (by decide +kernel) (by decide +kernel)
/-! java/lang/ArithmeticException -/
set_option maxRecDepth 100000
def RJ10 : String := "java/lang/ArithmeticException"
def TJ10 : u_T := fun k => match k with
  | 0 => ("java/lang/Throwable", "backtrace", "Ljava/lang/Object;", false)
  | 1 => ("java/lang/Throwable", "detailMessage", "Ljava/lang/String;", false)
  | 2 => ("java/lang/Throwable", "cause", "Ljava/lang/Throwable;", false)
  | 3 => ("java/lang/Throwable", "stackTrace", "[Ljava/lang/StackTraceElement;", false)
  | 4 => ("java/lang/Throwable", "depth", "I", false)
  | _ => ("java/lang/Throwable", "suppressedExceptions", "Ljava/util/List;", false)
def tyJ10 : Nat → FieldType := fun k => match k with
  | 0 => .object "java/lang/Object"
  | 1 => .object "java/lang/String"
  | 2 => .object "java/lang/Throwable"
  | 3 => .array (.object "java/lang/StackTraceElement")
  | 4 => .int
  | _ => .object "java/util/List"
abbrev wsJ100 : List Cond := u_ws RJ10 TJ10 6
theorem nmJ10 : ∀ a, a < 6 → ∀ b, b < 6 → a ≠ b → (TJ10 a).2.1 ≠ (TJ10 b).2.1 := by decide +kernel
theorem tyJ10_ok : ∀ k, k < 6 → parseFieldDescriptor (TJ10 k).2.2.1 = some (tyJ10 k) := by decide +kernel
abbrev cJ10_init : ByteArray := prog_46_method_2_code
def yJ10_init : MethodName := ⟨RJ10, "<init>", "(Ljava/lang/String;)V"⟩
def dkwJ10_init_0 : List UInt8 := [42, 43, 183, 0, 7, 177]
abbrev dktJ10_init_0 : List UInt8 := dkwJ10_init_0 ++ []
theorem dksJ10_init_0 : cJ10_init.data.toList.drop 0 = dktJ10_init_0 := by decide +kernel
theorem dJ10_init_0 : decode cJ10_init 0 = .ok (.aload_n 0, 1) := dk_42 (dk_at dksJ10_init_0 0 rfl rfl)
theorem dJ10_init_1 : decode cJ10_init 1 = .ok (.aload_n 1, 1) := dk_43 (dk_at dksJ10_init_0 1 rfl rfl)
theorem dJ10_init_2 : decode cJ10_init 2 = .ok (.invokespecial 7, 3) := dk_183 0 7 (dk_at dksJ10_init_0 2 rfl rfl)
theorem dJ10_init_5 : decode cJ10_init 5 = .ok (.return_, 1) := dk_177 (dk_at dksJ10_init_0 5 rfl rfl)
theorem q114 : (Jvm.Cond.initialized "java/lang/ArithmeticException") ∈ lw_all := lw_g (lw_at lw_m1 19 rfl) rfl
theorem q373 : (Jvm.Cond.selects "java/lang/ArithmeticException" ({ cls := "java/lang/Throwable", name := "fillInStackTrace", desc := "()Ljava/lang/Throwable;" } : Jvm.MethodName) ({ cls := "java/lang/Throwable", name := "fillInStackTrace", desc := "()Ljava/lang/Throwable;" } : Jvm.MethodName)) ∈ lw_all := lw_g (lw_at lw_m2 38 rfl) rfl
theorem q451 : (Jvm.Cond.instantiable "java/lang/ArithmeticException" (6 : Nat)) ∈ lw_all := lw_g (lw_at lw_m2 116 rfl) rfl
theorem q452 : (Jvm.Cond.instanceMethod ({ cls := "java/lang/ArithmeticException", name := "<init>", desc := "(Ljava/lang/String;)V" } : Jvm.MethodName)) ∈ lw_all := lw_g (lw_at lw_m2 117 rfl) rfl
theorem q453 : (Jvm.Cond.code ({ cls := "java/lang/ArithmeticException", name := "<init>", desc := "(Ljava/lang/String;)V" } : Jvm.MethodName) prog_46_method_2_code (2 : Nat) (Option.none : Option Jvm.ClassFile.FieldType)) ∈ lw_all := lw_g (lw_at lw_m2 118 rfl) rfl
theorem q454 : (Jvm.Cond.methodLink "java/lang/ArithmeticException" (7 : Nat) ({ cls := "java/lang/RuntimeException", name := "<init>", desc := "(Ljava/lang/String;)V" } : Jvm.MethodName)) ∈ lw_all := lw_g (lw_at lw_m2 119 rfl) rfl
theorem q455 : (Jvm.Cond.lays "java/lang/ArithmeticException" "java/lang/Throwable" "backtrace" "Ljava/lang/Object;") ∈ lw_all := lw_g (lw_at lw_m2 120 rfl) rfl
theorem q456 : (Jvm.Cond.lays "java/lang/ArithmeticException" "java/lang/Throwable" "detailMessage" "Ljava/lang/String;") ∈ lw_all := lw_g (lw_at lw_m2 121 rfl) rfl
theorem q457 : (Jvm.Cond.lays "java/lang/ArithmeticException" "java/lang/Throwable" "cause" "Ljava/lang/Throwable;") ∈ lw_all := lw_g (lw_at lw_m2 122 rfl) rfl
theorem q458 : (Jvm.Cond.lays "java/lang/ArithmeticException" "java/lang/Throwable" "stackTrace" "[Ljava/lang/StackTraceElement;") ∈ lw_all := lw_g (lw_at lw_m2 123 rfl) rfl
theorem q459 : (Jvm.Cond.lays "java/lang/ArithmeticException" "java/lang/Throwable" "depth" "I") ∈ lw_all := lw_g (lw_at lw_m2 124 rfl) rfl
theorem q460 : (Jvm.Cond.lays "java/lang/ArithmeticException" "java/lang/Throwable" "suppressedExceptions" "Ljava/util/List;") ∈ lw_all := lw_g (lw_at lw_m2 125 rfl) rfl
theorem q461 : (Jvm.Cond.superclass "java/lang/ArithmeticException" "java/lang/RuntimeException") ∈ lw_all := lw_g (lw_at lw_m2 126 rfl) rfl
theorem q462 : (Jvm.Cond.castable "java/lang/ArithmeticException" "java/lang/ArithmeticException") ∈ lw_tbl := lw_at lw_m2 127 rfl
theorem q463 : (Jvm.Cond.selects "java/lang/ArithmeticException" ({ cls := "java/lang/Throwable", name := "fillInStackTrace", desc := "(I)Ljava/lang/Throwable;" } : Jvm.MethodName) ({ cls := "java/lang/Throwable", name := "fillInStackTrace", desc := "(I)Ljava/lang/Throwable;" } : Jvm.MethodName)) ∈ lw_all := lw_g (lw_at lw_m2 128 rfl) rfl
theorem q1688 : (Jvm.Cond.selects "java/lang/ArithmeticException" ({ cls := "java/lang/Object", name := "getClass", desc := "()Ljava/lang/Class;" } : Jvm.MethodName) ({ cls := "java/lang/Object", name := "getClass", desc := "()Ljava/lang/Class;" } : Jvm.MethodName)) ∈ lw_all := lw_g (lw_at lw_m7 153 rfl) rfl
theorem q2600 : (Jvm.Cond.castable "java/lang/ArithmeticException" "java/lang/Object") ∈ lw_tbl := lw_at lw_m11 105 rfl
theorem in_J10 : ∀ w ∈ wsJ100, w ∈ lw_all := lw_in wsJ100 [455, 456, 457, 458, 459, 460] (by decide +kernel) (by decide +kernel)
