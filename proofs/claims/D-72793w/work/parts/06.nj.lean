/-! java/lang/Number -/
set_option maxRecDepth 100000
def RJ0 : String := "java/lang/Number"
abbrev cJ0_init : ByteArray := prog_24_method_1_code
def yJ0_init : MethodName := ⟨RJ0, "<init>", "()V"⟩
theorem dJ0_init_0 : decode cJ0_init 0 = .ok (.aload_n 0, 1) := by decide +kernel
theorem dJ0_init_1 : decode cJ0_init 1 = .ok (.invokespecial 1, 3) := by decide +kernel
theorem dJ0_init_4 : decode cJ0_init 4 = .ok (.return_, 1) := by decide +kernel
theorem q54 : (Jvm.Cond.initialized "java/lang/Number") ∈ lw_all := lw_g (lw_at lw_m1 2 rfl) rfl
theorem q523 : (Jvm.Cond.instanceMethod ({ cls := "java/lang/Number", name := "<init>", desc := "()V" } : Jvm.MethodName)) ∈ lw_all := lw_g (lw_at lw_m2 231 rfl) rfl
theorem q524 : (Jvm.Cond.code ({ cls := "java/lang/Number", name := "<init>", desc := "()V" } : Jvm.MethodName) prog_24_method_1_code (1 : Nat) (Option.none : Option Jvm.ClassFile.FieldType)) ∈ lw_all := lw_g (lw_at lw_m2 232 rfl) rfl
theorem q525 : (Jvm.Cond.methodLink "java/lang/Number" (1 : Nat) ({ cls := "java/lang/Object", name := "<init>", desc := "()V" } : Jvm.MethodName)) ∈ lw_all := lw_g (lw_at lw_m2 233 rfl) rfl

/-! java/lang/Integer -/
set_option maxRecDepth 100000
def RJ1 : String := "java/lang/Integer"
def TJ1 : u_T := fun k => match k with
  | _ => ("java/lang/Integer", "value", "I", true)
def tyJ1 : Nat → FieldType := fun k => match k with
  | _ => .int
abbrev wsJ10 : List Cond := u_ws RJ1 TJ1 1
theorem nmJ1 : ∀ a, a < 1 → ∀ b, b < 1 → a ≠ b → (TJ1 a).2.1 ≠ (TJ1 b).2.1 := by decide +kernel
theorem tyJ1_ok : ∀ k, k < 1 → parseFieldDescriptor (TJ1 k).2.2.1 = some (tyJ1 k) := by decide +kernel
abbrev cJ1_bitCount : ByteArray := prog_19_method_49_code
def yJ1_bitCount : MethodName := ⟨RJ1, "bitCount", "(I)I"⟩
def dkwJ1_bitCount_2 : List UInt8 := [26, 16, 63, 126, 172]
abbrev dktJ1_bitCount_2 : List UInt8 := dkwJ1_bitCount_2 ++ []
def dkwJ1_bitCount_1 : List UInt8 := [26, 26, 7, 124, 96, 19, 1, 11, 126, 59, 26, 26, 16, 8, 124, 96, 59, 26, 26, 16, 16, 124, 96, 59]
abbrev dktJ1_bitCount_1 : List UInt8 := dkwJ1_bitCount_1 ++ dktJ1_bitCount_2
def dkwJ1_bitCount_0 : List UInt8 := [26, 26, 4, 124, 19, 1, 9, 126, 100, 59, 26, 19, 1, 10, 126, 26, 5, 124, 19, 1, 10, 126, 96, 59]
abbrev dktJ1_bitCount_0 : List UInt8 := dkwJ1_bitCount_0 ++ dktJ1_bitCount_1
theorem dksJ1_bitCount_0 : cJ1_bitCount.data.toList.drop 0 = dktJ1_bitCount_0 := by decide +kernel
theorem dksJ1_bitCount_1 : cJ1_bitCount.data.toList.drop 24 = dktJ1_bitCount_1 := dk_seg dksJ1_bitCount_0 24 rfl rfl
theorem dksJ1_bitCount_2 : cJ1_bitCount.data.toList.drop 48 = dktJ1_bitCount_2 := dk_seg dksJ1_bitCount_1 24 rfl rfl
theorem dJ1_bitCount_0 : decode cJ1_bitCount 0 = .ok (.iload_n 0, 1) := dk_26 (dk_at dksJ1_bitCount_0 0 rfl rfl)
theorem dJ1_bitCount_1 : decode cJ1_bitCount 1 = .ok (.iload_n 0, 1) := dk_26 (dk_at dksJ1_bitCount_0 1 rfl rfl)
theorem dJ1_bitCount_2 : decode cJ1_bitCount 2 = .ok (.iconst 1, 1) := dk_4 (dk_at dksJ1_bitCount_0 2 rfl rfl)
theorem dJ1_bitCount_3 : decode cJ1_bitCount 3 = .ok (.iushr, 1) := dk_124 (dk_at dksJ1_bitCount_0 3 rfl rfl)
theorem dJ1_bitCount_4 : decode cJ1_bitCount 4 = .ok (.ldc_w 265, 3) := dk_19 1 9 (dk_at dksJ1_bitCount_0 4 rfl rfl)
theorem dJ1_bitCount_7 : decode cJ1_bitCount 7 = .ok (.iand, 1) := dk_126 (dk_at dksJ1_bitCount_0 7 rfl rfl)
theorem dJ1_bitCount_8 : decode cJ1_bitCount 8 = .ok (.isub, 1) := dk_100 (dk_at dksJ1_bitCount_0 8 rfl rfl)
theorem dJ1_bitCount_9 : decode cJ1_bitCount 9 = .ok (.istore_n 0, 1) := dk_59 (dk_at dksJ1_bitCount_0 9 rfl rfl)
theorem dJ1_bitCount_10 : decode cJ1_bitCount 10 = .ok (.iload_n 0, 1) := dk_26 (dk_at dksJ1_bitCount_0 10 rfl rfl)
theorem dJ1_bitCount_11 : decode cJ1_bitCount 11 = .ok (.ldc_w 266, 3) := dk_19 1 10 (dk_at dksJ1_bitCount_0 11 rfl rfl)
theorem dJ1_bitCount_14 : decode cJ1_bitCount 14 = .ok (.iand, 1) := dk_126 (dk_at dksJ1_bitCount_0 14 rfl rfl)
theorem dJ1_bitCount_15 : decode cJ1_bitCount 15 = .ok (.iload_n 0, 1) := dk_26 (dk_at dksJ1_bitCount_0 15 rfl rfl)
theorem dJ1_bitCount_16 : decode cJ1_bitCount 16 = .ok (.iconst 2, 1) := dk_5 (dk_at dksJ1_bitCount_0 16 rfl rfl)
theorem dJ1_bitCount_17 : decode cJ1_bitCount 17 = .ok (.iushr, 1) := dk_124 (dk_at dksJ1_bitCount_0 17 rfl rfl)
theorem dJ1_bitCount_18 : decode cJ1_bitCount 18 = .ok (.ldc_w 266, 3) := dk_19 1 10 (dk_at dksJ1_bitCount_0 18 rfl rfl)
theorem dJ1_bitCount_21 : decode cJ1_bitCount 21 = .ok (.iand, 1) := dk_126 (dk_at dksJ1_bitCount_0 21 rfl rfl)
theorem dJ1_bitCount_22 : decode cJ1_bitCount 22 = .ok (.iadd, 1) := dk_96 (dk_at dksJ1_bitCount_0 22 rfl rfl)
theorem dJ1_bitCount_23 : decode cJ1_bitCount 23 = .ok (.istore_n 0, 1) := dk_59 (dk_at dksJ1_bitCount_0 23 rfl rfl)
theorem dJ1_bitCount_24 : decode cJ1_bitCount 24 = .ok (.iload_n 0, 1) := dk_26 (dk_at dksJ1_bitCount_1 0 rfl rfl)
theorem dJ1_bitCount_25 : decode cJ1_bitCount 25 = .ok (.iload_n 0, 1) := dk_26 (dk_at dksJ1_bitCount_1 1 rfl rfl)
theorem dJ1_bitCount_26 : decode cJ1_bitCount 26 = .ok (.iconst 4, 1) := dk_7 (dk_at dksJ1_bitCount_1 2 rfl rfl)
theorem dJ1_bitCount_27 : decode cJ1_bitCount 27 = .ok (.iushr, 1) := dk_124 (dk_at dksJ1_bitCount_1 3 rfl rfl)
theorem dJ1_bitCount_28 : decode cJ1_bitCount 28 = .ok (.iadd, 1) := dk_96 (dk_at dksJ1_bitCount_1 4 rfl rfl)
theorem dJ1_bitCount_29 : decode cJ1_bitCount 29 = .ok (.ldc_w 267, 3) := dk_19 1 11 (dk_at dksJ1_bitCount_1 5 rfl rfl)
theorem dJ1_bitCount_32 : decode cJ1_bitCount 32 = .ok (.iand, 1) := dk_126 (dk_at dksJ1_bitCount_1 8 rfl rfl)
theorem dJ1_bitCount_33 : decode cJ1_bitCount 33 = .ok (.istore_n 0, 1) := dk_59 (dk_at dksJ1_bitCount_1 9 rfl rfl)
theorem dJ1_bitCount_34 : decode cJ1_bitCount 34 = .ok (.iload_n 0, 1) := dk_26 (dk_at dksJ1_bitCount_1 10 rfl rfl)
theorem dJ1_bitCount_35 : decode cJ1_bitCount 35 = .ok (.iload_n 0, 1) := dk_26 (dk_at dksJ1_bitCount_1 11 rfl rfl)
theorem dJ1_bitCount_36 : decode cJ1_bitCount 36 = .ok (.bipush 8, 2) := dk_16 8 (dk_at dksJ1_bitCount_1 12 rfl rfl)
theorem dJ1_bitCount_38 : decode cJ1_bitCount 38 = .ok (.iushr, 1) := dk_124 (dk_at dksJ1_bitCount_1 14 rfl rfl)
theorem dJ1_bitCount_39 : decode cJ1_bitCount 39 = .ok (.iadd, 1) := dk_96 (dk_at dksJ1_bitCount_1 15 rfl rfl)
theorem dJ1_bitCount_40 : decode cJ1_bitCount 40 = .ok (.istore_n 0, 1) := dk_59 (dk_at dksJ1_bitCount_1 16 rfl rfl)
theorem dJ1_bitCount_41 : decode cJ1_bitCount 41 = .ok (.iload_n 0, 1) := dk_26 (dk_at dksJ1_bitCount_1 17 rfl rfl)
theorem dJ1_bitCount_42 : decode cJ1_bitCount 42 = .ok (.iload_n 0, 1) := dk_26 (dk_at dksJ1_bitCount_1 18 rfl rfl)
theorem dJ1_bitCount_43 : decode cJ1_bitCount 43 = .ok (.bipush 16, 2) := dk_16 16 (dk_at dksJ1_bitCount_1 19 rfl rfl)
theorem dJ1_bitCount_45 : decode cJ1_bitCount 45 = .ok (.iushr, 1) := dk_124 (dk_at dksJ1_bitCount_1 21 rfl rfl)
theorem dJ1_bitCount_46 : decode cJ1_bitCount 46 = .ok (.iadd, 1) := dk_96 (dk_at dksJ1_bitCount_1 22 rfl rfl)
theorem dJ1_bitCount_47 : decode cJ1_bitCount 47 = .ok (.istore_n 0, 1) := dk_59 (dk_at dksJ1_bitCount_1 23 rfl rfl)
theorem dJ1_bitCount_48 : decode cJ1_bitCount 48 = .ok (.iload_n 0, 1) := dk_26 (dk_at dksJ1_bitCount_2 0 rfl rfl)
theorem dJ1_bitCount_49 : decode cJ1_bitCount 49 = .ok (.bipush 63, 2) := dk_16 63 (dk_at dksJ1_bitCount_2 1 rfl rfl)
theorem dJ1_bitCount_51 : decode cJ1_bitCount 51 = .ok (.iand, 1) := dk_126 (dk_at dksJ1_bitCount_2 3 rfl rfl)
theorem dJ1_bitCount_52 : decode cJ1_bitCount 52 = .ok (.ireturn, 1) := dk_172 (dk_at dksJ1_bitCount_2 4 rfl rfl)
abbrev cJ1_valueOf : ByteArray := prog_19_method_22_code
def yJ1_valueOf : MethodName := ⟨RJ1, "valueOf", "(I)Ljava/lang/Integer;"⟩
def dkwJ1_valueOf_1 : List UInt8 := [187, 0, 1, 89, 26, 183, 0, 199, 176]
abbrev dktJ1_valueOf_1 : List UInt8 := dkwJ1_valueOf_1 ++ []
def dkwJ1_valueOf_0 : List UInt8 := [26, 16, 128, 161, 0, 20, 26, 178, 0, 191, 163, 0, 13, 178, 0, 195, 26, 17, 0, 128, 96, 50, 176]
abbrev dktJ1_valueOf_0 : List UInt8 := dkwJ1_valueOf_0 ++ dktJ1_valueOf_1
theorem dksJ1_valueOf_0 : cJ1_valueOf.data.toList.drop 0 = dktJ1_valueOf_0 := by decide +kernel
theorem dksJ1_valueOf_1 : cJ1_valueOf.data.toList.drop 23 = dktJ1_valueOf_1 := dk_seg dksJ1_valueOf_0 23 rfl rfl
theorem dJ1_valueOf_0 : decode cJ1_valueOf 0 = .ok (.iload_n 0, 1) := dk_26 (dk_at dksJ1_valueOf_0 0 rfl rfl)
theorem dJ1_valueOf_1 : decode cJ1_valueOf 1 = .ok (.bipush (-128), 2) := dk_16 128 (dk_at dksJ1_valueOf_0 1 rfl rfl)
theorem dJ1_valueOf_3 : decode cJ1_valueOf 3 = .ok (.if_icmp .lt 20, 3) := dk_161 0 20 (dk_at dksJ1_valueOf_0 3 rfl rfl)
theorem dJ1_valueOf_6 : decode cJ1_valueOf 6 = .ok (.iload_n 0, 1) := dk_26 (dk_at dksJ1_valueOf_0 6 rfl rfl)
theorem dJ1_valueOf_7 : decode cJ1_valueOf 7 = .ok (.getstatic 191, 3) := dk_178 0 191 (dk_at dksJ1_valueOf_0 7 rfl rfl)
theorem dJ1_valueOf_10 : decode cJ1_valueOf 10 = .ok (.if_icmp .gt 13, 3) := dk_163 0 13 (dk_at dksJ1_valueOf_0 10 rfl rfl)
theorem dJ1_valueOf_13 : decode cJ1_valueOf 13 = .ok (.getstatic 195, 3) := dk_178 0 195 (dk_at dksJ1_valueOf_0 13 rfl rfl)
theorem dJ1_valueOf_16 : decode cJ1_valueOf 16 = .ok (.iload_n 0, 1) := dk_26 (dk_at dksJ1_valueOf_0 16 rfl rfl)
theorem dJ1_valueOf_17 : decode cJ1_valueOf 17 = .ok (.sipush 128, 3) := dk_17 0 128 (dk_at dksJ1_valueOf_0 17 rfl rfl)
theorem dJ1_valueOf_20 : decode cJ1_valueOf 20 = .ok (.iadd, 1) := dk_96 (dk_at dksJ1_valueOf_0 20 rfl rfl)
theorem dJ1_valueOf_21 : decode cJ1_valueOf 21 = .ok (.aaload, 1) := dk_50 (dk_at dksJ1_valueOf_0 21 rfl rfl)
theorem dJ1_valueOf_22 : decode cJ1_valueOf 22 = .ok (.areturn, 1) := dk_176 (dk_at dksJ1_valueOf_0 22 rfl rfl)
theorem dJ1_valueOf_23 : decode cJ1_valueOf 23 = .ok (.new 1, 3) := dk_187 0 1 (dk_at dksJ1_valueOf_1 0 rfl rfl)
theorem dJ1_valueOf_26 : decode cJ1_valueOf 26 = .ok (.dup, 1) := dk_89 (dk_at dksJ1_valueOf_1 3 rfl rfl)
theorem dJ1_valueOf_27 : decode cJ1_valueOf 27 = .ok (.iload_n 0, 1) := dk_26 (dk_at dksJ1_valueOf_1 4 rfl rfl)
theorem dJ1_valueOf_28 : decode cJ1_valueOf 28 = .ok (.invokespecial 199, 3) := dk_183 0 199 (dk_at dksJ1_valueOf_1 5 rfl rfl)
theorem dJ1_valueOf_31 : decode cJ1_valueOf 31 = .ok (.areturn, 1) := dk_176 (dk_at dksJ1_valueOf_1 8 rfl rfl)
abbrev cJ1_init : ByteArray := prog_19_method_23_code
def yJ1_init : MethodName := ⟨RJ1, "<init>", "(I)V"⟩
def dkwJ1_init_0 : List UInt8 := [42, 183, 0, 202, 42, 27, 181, 0, 205, 177]
abbrev dktJ1_init_0 : List UInt8 := dkwJ1_init_0 ++ []
theorem dksJ1_init_0 : cJ1_init.data.toList.drop 0 = dktJ1_init_0 := by decide +kernel
theorem dJ1_init_0 : decode cJ1_init 0 = .ok (.aload_n 0, 1) := dk_42 (dk_at dksJ1_init_0 0 rfl rfl)
theorem dJ1_init_1 : decode cJ1_init 1 = .ok (.invokespecial 202, 3) := dk_183 0 202 (dk_at dksJ1_init_0 1 rfl rfl)
theorem dJ1_init_4 : decode cJ1_init 4 = .ok (.aload_n 0, 1) := dk_42 (dk_at dksJ1_init_0 4 rfl rfl)
theorem dJ1_init_5 : decode cJ1_init 5 = .ok (.iload_n 1, 1) := dk_27 (dk_at dksJ1_init_0 5 rfl rfl)
theorem dJ1_init_6 : decode cJ1_init 6 = .ok (.putfield 205, 3) := dk_181 0 205 (dk_at dksJ1_init_0 6 rfl rfl)
theorem dJ1_init_9 : decode cJ1_init 9 = .ok (.return_, 1) := dk_177 (dk_at dksJ1_init_0 9 rfl rfl)
abbrev cJ1_hashCode : ByteArray := prog_19_method_32_code
def yJ1_hashCode : MethodName := ⟨RJ1, "hashCode", "()I"⟩
def dkwJ1_hashCode_0 : List UInt8 := [42, 180, 0, 205, 184, 0, 208, 172]
abbrev dktJ1_hashCode_0 : List UInt8 := dkwJ1_hashCode_0 ++ []
theorem dksJ1_hashCode_0 : cJ1_hashCode.data.toList.drop 0 = dktJ1_hashCode_0 := by decide +kernel
theorem dJ1_hashCode_0 : decode cJ1_hashCode 0 = .ok (.aload_n 0, 1) := dk_42 (dk_at dksJ1_hashCode_0 0 rfl rfl)
theorem dJ1_hashCode_1 : decode cJ1_hashCode 1 = .ok (.getfield 205, 3) := dk_180 0 205 (dk_at dksJ1_hashCode_0 1 rfl rfl)
theorem dJ1_hashCode_4 : decode cJ1_hashCode 4 = .ok (.invokestatic 208, 3) := dk_184 0 208 (dk_at dksJ1_hashCode_0 4 rfl rfl)
theorem dJ1_hashCode_7 : decode cJ1_hashCode 7 = .ok (.ireturn, 1) := dk_172 (dk_at dksJ1_hashCode_0 7 rfl rfl)
abbrev cJ1_hashCode_2 : ByteArray := prog_19_method_33_code
def yJ1_hashCode_2 : MethodName := ⟨RJ1, "hashCode", "(I)I"⟩
theorem dJ1_hashCode_2_0 : decode cJ1_hashCode_2 0 = .ok (.iload_n 0, 1) := by decide +kernel
theorem dJ1_hashCode_2_1 : decode cJ1_hashCode_2 1 = .ok (.ireturn, 1) := by decide +kernel
abbrev cJ1_compareTo : ByteArray := prog_19_method_63_code
def yJ1_compareTo : MethodName := ⟨RJ1, "compareTo", "(Ljava/lang/Object;)I"⟩
def dkwJ1_compareTo_0 : List UInt8 := [42, 43, 192, 0, 1, 182, 1, 28, 172]
abbrev dktJ1_compareTo_0 : List UInt8 := dkwJ1_compareTo_0 ++ []
theorem dksJ1_compareTo_0 : cJ1_compareTo.data.toList.drop 0 = dktJ1_compareTo_0 := by decide +kernel
theorem dJ1_compareTo_0 : decode cJ1_compareTo 0 = .ok (.aload_n 0, 1) := dk_42 (dk_at dksJ1_compareTo_0 0 rfl rfl)
theorem dJ1_compareTo_1 : decode cJ1_compareTo 1 = .ok (.aload_n 1, 1) := dk_43 (dk_at dksJ1_compareTo_0 1 rfl rfl)
theorem dJ1_compareTo_2 : decode cJ1_compareTo 2 = .ok (.checkcast 1, 3) := dk_192 0 1 (dk_at dksJ1_compareTo_0 2 rfl rfl)
theorem dJ1_compareTo_5 : decode cJ1_compareTo 5 = .ok (.invokevirtual 284, 3) := dk_182 1 28 (dk_at dksJ1_compareTo_0 5 rfl rfl)
theorem dJ1_compareTo_8 : decode cJ1_compareTo 8 = .ok (.ireturn, 1) := dk_172 (dk_at dksJ1_compareTo_0 8 rfl rfl)
abbrev cJ1_compareTo_2 : ByteArray := prog_19_method_39_code
def yJ1_compareTo_2 : MethodName := ⟨RJ1, "compareTo", "(Ljava/lang/Integer;)I"⟩
def dkwJ1_compareTo_2_0 : List UInt8 := [42, 180, 0, 205, 43, 180, 0, 205, 184, 1, 3, 172]
abbrev dktJ1_compareTo_2_0 : List UInt8 := dkwJ1_compareTo_2_0 ++ []
theorem dksJ1_compareTo_2_0 : cJ1_compareTo_2.data.toList.drop 0 = dktJ1_compareTo_2_0 := by decide +kernel
theorem dJ1_compareTo_2_0 : decode cJ1_compareTo_2 0 = .ok (.aload_n 0, 1) := dk_42 (dk_at dksJ1_compareTo_2_0 0 rfl rfl)
theorem dJ1_compareTo_2_1 : decode cJ1_compareTo_2 1 = .ok (.getfield 205, 3) := dk_180 0 205 (dk_at dksJ1_compareTo_2_0 1 rfl rfl)
theorem dJ1_compareTo_2_4 : decode cJ1_compareTo_2 4 = .ok (.aload_n 1, 1) := dk_43 (dk_at dksJ1_compareTo_2_0 4 rfl rfl)
theorem dJ1_compareTo_2_5 : decode cJ1_compareTo_2 5 = .ok (.getfield 205, 3) := dk_180 0 205 (dk_at dksJ1_compareTo_2_0 5 rfl rfl)
theorem dJ1_compareTo_2_8 : decode cJ1_compareTo_2 8 = .ok (.invokestatic 259, 3) := dk_184 1 3 (dk_at dksJ1_compareTo_2_0 8 rfl rfl)
theorem dJ1_compareTo_2_11 : decode cJ1_compareTo_2 11 = .ok (.ireturn, 1) := dk_172 (dk_at dksJ1_compareTo_2_0 11 rfl rfl)
abbrev cJ1_compare : ByteArray := prog_19_method_40_code
def yJ1_compare : MethodName := ⟨RJ1, "compare", "(II)I"⟩
def dkwJ1_compare_0 : List UInt8 := [26, 27, 162, 0, 7, 2, 167, 0, 13, 26, 27, 160, 0, 7, 3, 167, 0, 4, 4, 172]
abbrev dktJ1_compare_0 : List UInt8 := dkwJ1_compare_0 ++ []
theorem dksJ1_compare_0 : cJ1_compare.data.toList.drop 0 = dktJ1_compare_0 := by decide +kernel
theorem dJ1_compare_0 : decode cJ1_compare 0 = .ok (.iload_n 0, 1) := dk_26 (dk_at dksJ1_compare_0 0 rfl rfl)
theorem dJ1_compare_1 : decode cJ1_compare 1 = .ok (.iload_n 1, 1) := dk_27 (dk_at dksJ1_compare_0 1 rfl rfl)
theorem dJ1_compare_2 : decode cJ1_compare 2 = .ok (.if_icmp .ge 7, 3) := dk_162 0 7 (dk_at dksJ1_compare_0 2 rfl rfl)
theorem dJ1_compare_5 : decode cJ1_compare 5 = .ok (.iconst (-1), 1) := dk_2 (dk_at dksJ1_compare_0 5 rfl rfl)
theorem dJ1_compare_6 : decode cJ1_compare 6 = .ok (.goto 13, 3) := dk_167 0 13 (dk_at dksJ1_compare_0 6 rfl rfl)
theorem dJ1_compare_9 : decode cJ1_compare 9 = .ok (.iload_n 0, 1) := dk_26 (dk_at dksJ1_compare_0 9 rfl rfl)
theorem dJ1_compare_10 : decode cJ1_compare 10 = .ok (.iload_n 1, 1) := dk_27 (dk_at dksJ1_compare_0 10 rfl rfl)
theorem dJ1_compare_11 : decode cJ1_compare 11 = .ok (.if_icmp .ne 7, 3) := dk_160 0 7 (dk_at dksJ1_compare_0 11 rfl rfl)
theorem dJ1_compare_14 : decode cJ1_compare 14 = .ok (.iconst 0, 1) := dk_3 (dk_at dksJ1_compare_0 14 rfl rfl)
theorem dJ1_compare_15 : decode cJ1_compare 15 = .ok (.goto 4, 3) := dk_167 0 4 (dk_at dksJ1_compare_0 15 rfl rfl)
theorem dJ1_compare_18 : decode cJ1_compare 18 = .ok (.iconst 1, 1) := dk_4 (dk_at dksJ1_compare_0 18 rfl rfl)
theorem dJ1_compare_19 : decode cJ1_compare 19 = .ok (.ireturn, 1) := dk_172 (dk_at dksJ1_compare_0 19 rfl rfl)
abbrev cJ1_numberOfLeadingZeros : ByteArray := prog_19_method_47_code
def yJ1_numberOfLeadingZeros : MethodName := ⟨RJ1, "numberOfLeadingZeros", "(I)I"⟩
def dkwJ1_numberOfLeadingZeros_3 : List UInt8 := [5, 124, 59, 27, 26, 4, 124, 100, 172]
abbrev dktJ1_numberOfLeadingZeros_3 : List UInt8 := dkwJ1_numberOfLeadingZeros_3 ++ []
def dkwJ1_numberOfLeadingZeros_2 : List UInt8 := [124, 59, 26, 16, 16, 161, 0, 10, 132, 1, 252, 26, 7, 124, 59, 26, 7, 161, 0, 10, 132, 1, 254, 26]
abbrev dktJ1_numberOfLeadingZeros_2 : List UInt8 := dkwJ1_numberOfLeadingZeros_2 ++ dktJ1_numberOfLeadingZeros_3
def dkwJ1_numberOfLeadingZeros_1 : List UInt8 := [161, 0, 11, 132, 1, 240, 26, 16, 16, 124, 59, 26, 17, 1, 0, 161, 0, 11, 132, 1, 248, 26, 16, 8]
abbrev dktJ1_numberOfLeadingZeros_1 : List UInt8 := dkwJ1_numberOfLeadingZeros_1 ++ dktJ1_numberOfLeadingZeros_2
def dkwJ1_numberOfLeadingZeros_0 : List UInt8 := [26, 157, 0, 14, 26, 154, 0, 8, 16, 32, 167, 0, 4, 3, 172, 16, 31, 60, 26, 19, 1, 8]
abbrev dktJ1_numberOfLeadingZeros_0 : List UInt8 := dkwJ1_numberOfLeadingZeros_0 ++ dktJ1_numberOfLeadingZeros_1
theorem dksJ1_numberOfLeadingZeros_0 : cJ1_numberOfLeadingZeros.data.toList.drop 0 = dktJ1_numberOfLeadingZeros_0 := by decide +kernel
theorem dksJ1_numberOfLeadingZeros_1 : cJ1_numberOfLeadingZeros.data.toList.drop 22 = dktJ1_numberOfLeadingZeros_1 := dk_seg dksJ1_numberOfLeadingZeros_0 22 rfl rfl
theorem dksJ1_numberOfLeadingZeros_2 : cJ1_numberOfLeadingZeros.data.toList.drop 46 = dktJ1_numberOfLeadingZeros_2 := dk_seg dksJ1_numberOfLeadingZeros_1 24 rfl rfl
theorem dksJ1_numberOfLeadingZeros_3 : cJ1_numberOfLeadingZeros.data.toList.drop 70 = dktJ1_numberOfLeadingZeros_3 := dk_seg dksJ1_numberOfLeadingZeros_2 24 rfl rfl
theorem dJ1_numberOfLeadingZeros_0 : decode cJ1_numberOfLeadingZeros 0 = .ok (.iload_n 0, 1) := dk_26 (dk_at dksJ1_numberOfLeadingZeros_0 0 rfl rfl)
theorem dJ1_numberOfLeadingZeros_1 : decode cJ1_numberOfLeadingZeros 1 = .ok (.ifCond .gt 14, 3) := dk_157 0 14 (dk_at dksJ1_numberOfLeadingZeros_0 1 rfl rfl)
theorem dJ1_numberOfLeadingZeros_4 : decode cJ1_numberOfLeadingZeros 4 = .ok (.iload_n 0, 1) := dk_26 (dk_at dksJ1_numberOfLeadingZeros_0 4 rfl rfl)
theorem dJ1_numberOfLeadingZeros_5 : decode cJ1_numberOfLeadingZeros 5 = .ok (.ifCond .ne 8, 3) := dk_154 0 8 (dk_at dksJ1_numberOfLeadingZeros_0 5 rfl rfl)
theorem dJ1_numberOfLeadingZeros_8 : decode cJ1_numberOfLeadingZeros 8 = .ok (.bipush 32, 2) := dk_16 32 (dk_at dksJ1_numberOfLeadingZeros_0 8 rfl rfl)
theorem dJ1_numberOfLeadingZeros_10 : decode cJ1_numberOfLeadingZeros 10 = .ok (.goto 4, 3) := dk_167 0 4 (dk_at dksJ1_numberOfLeadingZeros_0 10 rfl rfl)
theorem dJ1_numberOfLeadingZeros_13 : decode cJ1_numberOfLeadingZeros 13 = .ok (.iconst 0, 1) := dk_3 (dk_at dksJ1_numberOfLeadingZeros_0 13 rfl rfl)
theorem dJ1_numberOfLeadingZeros_14 : decode cJ1_numberOfLeadingZeros 14 = .ok (.ireturn, 1) := dk_172 (dk_at dksJ1_numberOfLeadingZeros_0 14 rfl rfl)
theorem dJ1_numberOfLeadingZeros_15 : decode cJ1_numberOfLeadingZeros 15 = .ok (.bipush 31, 2) := dk_16 31 (dk_at dksJ1_numberOfLeadingZeros_0 15 rfl rfl)
theorem dJ1_numberOfLeadingZeros_17 : decode cJ1_numberOfLeadingZeros 17 = .ok (.istore_n 1, 1) := dk_60 (dk_at dksJ1_numberOfLeadingZeros_0 17 rfl rfl)
theorem dJ1_numberOfLeadingZeros_18 : decode cJ1_numberOfLeadingZeros 18 = .ok (.iload_n 0, 1) := dk_26 (dk_at dksJ1_numberOfLeadingZeros_0 18 rfl rfl)
theorem dJ1_numberOfLeadingZeros_19 : decode cJ1_numberOfLeadingZeros 19 = .ok (.ldc_w 264, 3) := dk_19 1 8 (dk_at dksJ1_numberOfLeadingZeros_0 19 rfl rfl)
theorem dJ1_numberOfLeadingZeros_22 : decode cJ1_numberOfLeadingZeros 22 = .ok (.if_icmp .lt 11, 3) := dk_161 0 11 (dk_at dksJ1_numberOfLeadingZeros_1 0 rfl rfl)
theorem dJ1_numberOfLeadingZeros_25 : decode cJ1_numberOfLeadingZeros 25 = .ok (.iinc 1 (-16), 3) := dk_132 1 240 (dk_at dksJ1_numberOfLeadingZeros_1 3 rfl rfl)
theorem dJ1_numberOfLeadingZeros_28 : decode cJ1_numberOfLeadingZeros 28 = .ok (.iload_n 0, 1) := dk_26 (dk_at dksJ1_numberOfLeadingZeros_1 6 rfl rfl)
theorem dJ1_numberOfLeadingZeros_29 : decode cJ1_numberOfLeadingZeros 29 = .ok (.bipush 16, 2) := dk_16 16 (dk_at dksJ1_numberOfLeadingZeros_1 7 rfl rfl)
theorem dJ1_numberOfLeadingZeros_31 : decode cJ1_numberOfLeadingZeros 31 = .ok (.iushr, 1) := dk_124 (dk_at dksJ1_numberOfLeadingZeros_1 9 rfl rfl)
theorem dJ1_numberOfLeadingZeros_32 : decode cJ1_numberOfLeadingZeros 32 = .ok (.istore_n 0, 1) := dk_59 (dk_at dksJ1_numberOfLeadingZeros_1 10 rfl rfl)
theorem dJ1_numberOfLeadingZeros_33 : decode cJ1_numberOfLeadingZeros 33 = .ok (.iload_n 0, 1) := dk_26 (dk_at dksJ1_numberOfLeadingZeros_1 11 rfl rfl)
theorem dJ1_numberOfLeadingZeros_34 : decode cJ1_numberOfLeadingZeros 34 = .ok (.sipush 256, 3) := dk_17 1 0 (dk_at dksJ1_numberOfLeadingZeros_1 12 rfl rfl)
theorem dJ1_numberOfLeadingZeros_37 : decode cJ1_numberOfLeadingZeros 37 = .ok (.if_icmp .lt 11, 3) := dk_161 0 11 (dk_at dksJ1_numberOfLeadingZeros_1 15 rfl rfl)
theorem dJ1_numberOfLeadingZeros_40 : decode cJ1_numberOfLeadingZeros 40 = .ok (.iinc 1 (-8), 3) := dk_132 1 248 (dk_at dksJ1_numberOfLeadingZeros_1 18 rfl rfl)
theorem dJ1_numberOfLeadingZeros_43 : decode cJ1_numberOfLeadingZeros 43 = .ok (.iload_n 0, 1) := dk_26 (dk_at dksJ1_numberOfLeadingZeros_1 21 rfl rfl)
theorem dJ1_numberOfLeadingZeros_44 : decode cJ1_numberOfLeadingZeros 44 = .ok (.bipush 8, 2) := dk_16 8 (dk_at dksJ1_numberOfLeadingZeros_1 22 rfl rfl)
theorem dJ1_numberOfLeadingZeros_46 : decode cJ1_numberOfLeadingZeros 46 = .ok (.iushr, 1) := dk_124 (dk_at dksJ1_numberOfLeadingZeros_2 0 rfl rfl)
theorem dJ1_numberOfLeadingZeros_47 : decode cJ1_numberOfLeadingZeros 47 = .ok (.istore_n 0, 1) := dk_59 (dk_at dksJ1_numberOfLeadingZeros_2 1 rfl rfl)
theorem dJ1_numberOfLeadingZeros_48 : decode cJ1_numberOfLeadingZeros 48 = .ok (.iload_n 0, 1) := dk_26 (dk_at dksJ1_numberOfLeadingZeros_2 2 rfl rfl)
theorem dJ1_numberOfLeadingZeros_49 : decode cJ1_numberOfLeadingZeros 49 = .ok (.bipush 16, 2) := dk_16 16 (dk_at dksJ1_numberOfLeadingZeros_2 3 rfl rfl)
theorem dJ1_numberOfLeadingZeros_51 : decode cJ1_numberOfLeadingZeros 51 = .ok (.if_icmp .lt 10, 3) := dk_161 0 10 (dk_at dksJ1_numberOfLeadingZeros_2 5 rfl rfl)
theorem dJ1_numberOfLeadingZeros_54 : decode cJ1_numberOfLeadingZeros 54 = .ok (.iinc 1 (-4), 3) := dk_132 1 252 (dk_at dksJ1_numberOfLeadingZeros_2 8 rfl rfl)
theorem dJ1_numberOfLeadingZeros_57 : decode cJ1_numberOfLeadingZeros 57 = .ok (.iload_n 0, 1) := dk_26 (dk_at dksJ1_numberOfLeadingZeros_2 11 rfl rfl)
theorem dJ1_numberOfLeadingZeros_58 : decode cJ1_numberOfLeadingZeros 58 = .ok (.iconst 4, 1) := dk_7 (dk_at dksJ1_numberOfLeadingZeros_2 12 rfl rfl)
theorem dJ1_numberOfLeadingZeros_59 : decode cJ1_numberOfLeadingZeros 59 = .ok (.iushr, 1) := dk_124 (dk_at dksJ1_numberOfLeadingZeros_2 13 rfl rfl)
theorem dJ1_numberOfLeadingZeros_60 : decode cJ1_numberOfLeadingZeros 60 = .ok (.istore_n 0, 1) := dk_59 (dk_at dksJ1_numberOfLeadingZeros_2 14 rfl rfl)
theorem dJ1_numberOfLeadingZeros_61 : decode cJ1_numberOfLeadingZeros 61 = .ok (.iload_n 0, 1) := dk_26 (dk_at dksJ1_numberOfLeadingZeros_2 15 rfl rfl)
theorem dJ1_numberOfLeadingZeros_62 : decode cJ1_numberOfLeadingZeros 62 = .ok (.iconst 4, 1) := dk_7 (dk_at dksJ1_numberOfLeadingZeros_2 16 rfl rfl)
theorem dJ1_numberOfLeadingZeros_63 : decode cJ1_numberOfLeadingZeros 63 = .ok (.if_icmp .lt 10, 3) := dk_161 0 10 (dk_at dksJ1_numberOfLeadingZeros_2 17 rfl rfl)
theorem dJ1_numberOfLeadingZeros_66 : decode cJ1_numberOfLeadingZeros 66 = .ok (.iinc 1 (-2), 3) := dk_132 1 254 (dk_at dksJ1_numberOfLeadingZeros_2 20 rfl rfl)
theorem dJ1_numberOfLeadingZeros_69 : decode cJ1_numberOfLeadingZeros 69 = .ok (.iload_n 0, 1) := dk_26 (dk_at dksJ1_numberOfLeadingZeros_2 23 rfl rfl)
theorem dJ1_numberOfLeadingZeros_70 : decode cJ1_numberOfLeadingZeros 70 = .ok (.iconst 2, 1) := dk_5 (dk_at dksJ1_numberOfLeadingZeros_3 0 rfl rfl)
theorem dJ1_numberOfLeadingZeros_71 : decode cJ1_numberOfLeadingZeros 71 = .ok (.iushr, 1) := dk_124 (dk_at dksJ1_numberOfLeadingZeros_3 1 rfl rfl)
theorem dJ1_numberOfLeadingZeros_72 : decode cJ1_numberOfLeadingZeros 72 = .ok (.istore_n 0, 1) := dk_59 (dk_at dksJ1_numberOfLeadingZeros_3 2 rfl rfl)
theorem dJ1_numberOfLeadingZeros_73 : decode cJ1_numberOfLeadingZeros 73 = .ok (.iload_n 1, 1) := dk_27 (dk_at dksJ1_numberOfLeadingZeros_3 3 rfl rfl)
theorem dJ1_numberOfLeadingZeros_74 : decode cJ1_numberOfLeadingZeros 74 = .ok (.iload_n 0, 1) := dk_26 (dk_at dksJ1_numberOfLeadingZeros_3 4 rfl rfl)
theorem dJ1_numberOfLeadingZeros_75 : decode cJ1_numberOfLeadingZeros 75 = .ok (.iconst 1, 1) := dk_4 (dk_at dksJ1_numberOfLeadingZeros_3 5 rfl rfl)
theorem dJ1_numberOfLeadingZeros_76 : decode cJ1_numberOfLeadingZeros 76 = .ok (.iushr, 1) := dk_124 (dk_at dksJ1_numberOfLeadingZeros_3 6 rfl rfl)
theorem dJ1_numberOfLeadingZeros_77 : decode cJ1_numberOfLeadingZeros 77 = .ok (.isub, 1) := dk_100 (dk_at dksJ1_numberOfLeadingZeros_3 7 rfl rfl)
theorem dJ1_numberOfLeadingZeros_78 : decode cJ1_numberOfLeadingZeros 78 = .ok (.ireturn, 1) := dk_172 (dk_at dksJ1_numberOfLeadingZeros_3 8 rfl rfl)
abbrev cJ1_numberOfTrailingZeros : ByteArray := prog_19_method_48_code
def yJ1_numberOfTrailingZeros : MethodName := ⟨RJ1, "numberOfTrailingZeros", "(I)I"⟩
def dkwJ1_numberOfTrailingZeros_3 : List UInt8 := [5, 124, 59, 27, 26, 4, 124, 96, 172]
abbrev dktJ1_numberOfTrailingZeros_3 : List UInt8 := dkwJ1_numberOfTrailingZeros_3 ++ []
def dkwJ1_numberOfTrailingZeros_2 : List UInt8 := [124, 59, 26, 16, 16, 164, 0, 10, 132, 1, 4, 26, 7, 124, 59, 26, 7, 164, 0, 10, 132, 1, 2, 26]
abbrev dktJ1_numberOfTrailingZeros_2 : List UInt8 := dkwJ1_numberOfTrailingZeros_2 ++ dktJ1_numberOfTrailingZeros_3
def dkwJ1_numberOfTrailingZeros_1 : List UInt8 := [164, 0, 11, 132, 1, 16, 26, 16, 16, 124, 59, 26, 17, 1, 0, 164, 0, 11, 132, 1, 8, 26, 16, 8]
abbrev dktJ1_numberOfTrailingZeros_1 : List UInt8 := dkwJ1_numberOfTrailingZeros_1 ++ dktJ1_numberOfTrailingZeros_2
def dkwJ1_numberOfTrailingZeros_0 : List UInt8 := [26, 2, 130, 26, 4, 100, 126, 59, 26, 157, 0, 8, 26, 16, 32, 126, 172, 4, 60, 26, 19, 1, 8]
abbrev dktJ1_numberOfTrailingZeros_0 : List UInt8 := dkwJ1_numberOfTrailingZeros_0 ++ dktJ1_numberOfTrailingZeros_1
theorem dksJ1_numberOfTrailingZeros_0 : cJ1_numberOfTrailingZeros.data.toList.drop 0 = dktJ1_numberOfTrailingZeros_0 := by decide +kernel
theorem dksJ1_numberOfTrailingZeros_1 : cJ1_numberOfTrailingZeros.data.toList.drop 23 = dktJ1_numberOfTrailingZeros_1 := dk_seg dksJ1_numberOfTrailingZeros_0 23 rfl rfl
theorem dksJ1_numberOfTrailingZeros_2 : cJ1_numberOfTrailingZeros.data.toList.drop 47 = dktJ1_numberOfTrailingZeros_2 := dk_seg dksJ1_numberOfTrailingZeros_1 24 rfl rfl
theorem dksJ1_numberOfTrailingZeros_3 : cJ1_numberOfTrailingZeros.data.toList.drop 71 = dktJ1_numberOfTrailingZeros_3 := dk_seg dksJ1_numberOfTrailingZeros_2 24 rfl rfl
theorem dJ1_numberOfTrailingZeros_0 : decode cJ1_numberOfTrailingZeros 0 = .ok (.iload_n 0, 1) := dk_26 (dk_at dksJ1_numberOfTrailingZeros_0 0 rfl rfl)
theorem dJ1_numberOfTrailingZeros_1 : decode cJ1_numberOfTrailingZeros 1 = .ok (.iconst (-1), 1) := dk_2 (dk_at dksJ1_numberOfTrailingZeros_0 1 rfl rfl)
theorem dJ1_numberOfTrailingZeros_2 : decode cJ1_numberOfTrailingZeros 2 = .ok (.ixor, 1) := dk_130 (dk_at dksJ1_numberOfTrailingZeros_0 2 rfl rfl)
theorem dJ1_numberOfTrailingZeros_3 : decode cJ1_numberOfTrailingZeros 3 = .ok (.iload_n 0, 1) := dk_26 (dk_at dksJ1_numberOfTrailingZeros_0 3 rfl rfl)
theorem dJ1_numberOfTrailingZeros_4 : decode cJ1_numberOfTrailingZeros 4 = .ok (.iconst 1, 1) := dk_4 (dk_at dksJ1_numberOfTrailingZeros_0 4 rfl rfl)
theorem dJ1_numberOfTrailingZeros_5 : decode cJ1_numberOfTrailingZeros 5 = .ok (.isub, 1) := dk_100 (dk_at dksJ1_numberOfTrailingZeros_0 5 rfl rfl)
theorem dJ1_numberOfTrailingZeros_6 : decode cJ1_numberOfTrailingZeros 6 = .ok (.iand, 1) := dk_126 (dk_at dksJ1_numberOfTrailingZeros_0 6 rfl rfl)
theorem dJ1_numberOfTrailingZeros_7 : decode cJ1_numberOfTrailingZeros 7 = .ok (.istore_n 0, 1) := dk_59 (dk_at dksJ1_numberOfTrailingZeros_0 7 rfl rfl)
theorem dJ1_numberOfTrailingZeros_8 : decode cJ1_numberOfTrailingZeros 8 = .ok (.iload_n 0, 1) := dk_26 (dk_at dksJ1_numberOfTrailingZeros_0 8 rfl rfl)
theorem dJ1_numberOfTrailingZeros_9 : decode cJ1_numberOfTrailingZeros 9 = .ok (.ifCond .gt 8, 3) := dk_157 0 8 (dk_at dksJ1_numberOfTrailingZeros_0 9 rfl rfl)
theorem dJ1_numberOfTrailingZeros_12 : decode cJ1_numberOfTrailingZeros 12 = .ok (.iload_n 0, 1) := dk_26 (dk_at dksJ1_numberOfTrailingZeros_0 12 rfl rfl)
theorem dJ1_numberOfTrailingZeros_13 : decode cJ1_numberOfTrailingZeros 13 = .ok (.bipush 32, 2) := dk_16 32 (dk_at dksJ1_numberOfTrailingZeros_0 13 rfl rfl)
theorem dJ1_numberOfTrailingZeros_15 : decode cJ1_numberOfTrailingZeros 15 = .ok (.iand, 1) := dk_126 (dk_at dksJ1_numberOfTrailingZeros_0 15 rfl rfl)
theorem dJ1_numberOfTrailingZeros_16 : decode cJ1_numberOfTrailingZeros 16 = .ok (.ireturn, 1) := dk_172 (dk_at dksJ1_numberOfTrailingZeros_0 16 rfl rfl)
theorem dJ1_numberOfTrailingZeros_17 : decode cJ1_numberOfTrailingZeros 17 = .ok (.iconst 1, 1) := dk_4 (dk_at dksJ1_numberOfTrailingZeros_0 17 rfl rfl)
theorem dJ1_numberOfTrailingZeros_18 : decode cJ1_numberOfTrailingZeros 18 = .ok (.istore_n 1, 1) := dk_60 (dk_at dksJ1_numberOfTrailingZeros_0 18 rfl rfl)
theorem dJ1_numberOfTrailingZeros_19 : decode cJ1_numberOfTrailingZeros 19 = .ok (.iload_n 0, 1) := dk_26 (dk_at dksJ1_numberOfTrailingZeros_0 19 rfl rfl)
theorem dJ1_numberOfTrailingZeros_20 : decode cJ1_numberOfTrailingZeros 20 = .ok (.ldc_w 264, 3) := dk_19 1 8 (dk_at dksJ1_numberOfTrailingZeros_0 20 rfl rfl)
theorem dJ1_numberOfTrailingZeros_23 : decode cJ1_numberOfTrailingZeros 23 = .ok (.if_icmp .le 11, 3) := dk_164 0 11 (dk_at dksJ1_numberOfTrailingZeros_1 0 rfl rfl)
theorem dJ1_numberOfTrailingZeros_26 : decode cJ1_numberOfTrailingZeros 26 = .ok (.iinc 1 16, 3) := dk_132 1 16 (dk_at dksJ1_numberOfTrailingZeros_1 3 rfl rfl)
theorem dJ1_numberOfTrailingZeros_29 : decode cJ1_numberOfTrailingZeros 29 = .ok (.iload_n 0, 1) := dk_26 (dk_at dksJ1_numberOfTrailingZeros_1 6 rfl rfl)
theorem dJ1_numberOfTrailingZeros_30 : decode cJ1_numberOfTrailingZeros 30 = .ok (.bipush 16, 2) := dk_16 16 (dk_at dksJ1_numberOfTrailingZeros_1 7 rfl rfl)
theorem dJ1_numberOfTrailingZeros_32 : decode cJ1_numberOfTrailingZeros 32 = .ok (.iushr, 1) := dk_124 (dk_at dksJ1_numberOfTrailingZeros_1 9 rfl rfl)
theorem dJ1_numberOfTrailingZeros_33 : decode cJ1_numberOfTrailingZeros 33 = .ok (.istore_n 0, 1) := dk_59 (dk_at dksJ1_numberOfTrailingZeros_1 10 rfl rfl)
theorem dJ1_numberOfTrailingZeros_34 : decode cJ1_numberOfTrailingZeros 34 = .ok (.iload_n 0, 1) := dk_26 (dk_at dksJ1_numberOfTrailingZeros_1 11 rfl rfl)
theorem dJ1_numberOfTrailingZeros_35 : decode cJ1_numberOfTrailingZeros 35 = .ok (.sipush 256, 3) := dk_17 1 0 (dk_at dksJ1_numberOfTrailingZeros_1 12 rfl rfl)
theorem dJ1_numberOfTrailingZeros_38 : decode cJ1_numberOfTrailingZeros 38 = .ok (.if_icmp .le 11, 3) := dk_164 0 11 (dk_at dksJ1_numberOfTrailingZeros_1 15 rfl rfl)
theorem dJ1_numberOfTrailingZeros_41 : decode cJ1_numberOfTrailingZeros 41 = .ok (.iinc 1 8, 3) := dk_132 1 8 (dk_at dksJ1_numberOfTrailingZeros_1 18 rfl rfl)
theorem dJ1_numberOfTrailingZeros_44 : decode cJ1_numberOfTrailingZeros 44 = .ok (.iload_n 0, 1) := dk_26 (dk_at dksJ1_numberOfTrailingZeros_1 21 rfl rfl)
theorem dJ1_numberOfTrailingZeros_45 : decode cJ1_numberOfTrailingZeros 45 = .ok (.bipush 8, 2) := dk_16 8 (dk_at dksJ1_numberOfTrailingZeros_1 22 rfl rfl)
theorem dJ1_numberOfTrailingZeros_47 : decode cJ1_numberOfTrailingZeros 47 = .ok (.iushr, 1) := dk_124 (dk_at dksJ1_numberOfTrailingZeros_2 0 rfl rfl)
theorem dJ1_numberOfTrailingZeros_48 : decode cJ1_numberOfTrailingZeros 48 = .ok (.istore_n 0, 1) := dk_59 (dk_at dksJ1_numberOfTrailingZeros_2 1 rfl rfl)
theorem dJ1_numberOfTrailingZeros_49 : decode cJ1_numberOfTrailingZeros 49 = .ok (.iload_n 0, 1) := dk_26 (dk_at dksJ1_numberOfTrailingZeros_2 2 rfl rfl)
theorem dJ1_numberOfTrailingZeros_50 : decode cJ1_numberOfTrailingZeros 50 = .ok (.bipush 16, 2) := dk_16 16 (dk_at dksJ1_numberOfTrailingZeros_2 3 rfl rfl)
theorem dJ1_numberOfTrailingZeros_52 : decode cJ1_numberOfTrailingZeros 52 = .ok (.if_icmp .le 10, 3) := dk_164 0 10 (dk_at dksJ1_numberOfTrailingZeros_2 5 rfl rfl)
theorem dJ1_numberOfTrailingZeros_55 : decode cJ1_numberOfTrailingZeros 55 = .ok (.iinc 1 4, 3) := dk_132 1 4 (dk_at dksJ1_numberOfTrailingZeros_2 8 rfl rfl)
theorem dJ1_numberOfTrailingZeros_58 : decode cJ1_numberOfTrailingZeros 58 = .ok (.iload_n 0, 1) := dk_26 (dk_at dksJ1_numberOfTrailingZeros_2 11 rfl rfl)
theorem dJ1_numberOfTrailingZeros_59 : decode cJ1_numberOfTrailingZeros 59 = .ok (.iconst 4, 1) := dk_7 (dk_at dksJ1_numberOfTrailingZeros_2 12 rfl rfl)
theorem dJ1_numberOfTrailingZeros_60 : decode cJ1_numberOfTrailingZeros 60 = .ok (.iushr, 1) := dk_124 (dk_at dksJ1_numberOfTrailingZeros_2 13 rfl rfl)
theorem dJ1_numberOfTrailingZeros_61 : decode cJ1_numberOfTrailingZeros 61 = .ok (.istore_n 0, 1) := dk_59 (dk_at dksJ1_numberOfTrailingZeros_2 14 rfl rfl)
theorem dJ1_numberOfTrailingZeros_62 : decode cJ1_numberOfTrailingZeros 62 = .ok (.iload_n 0, 1) := dk_26 (dk_at dksJ1_numberOfTrailingZeros_2 15 rfl rfl)
theorem dJ1_numberOfTrailingZeros_63 : decode cJ1_numberOfTrailingZeros 63 = .ok (.iconst 4, 1) := dk_7 (dk_at dksJ1_numberOfTrailingZeros_2 16 rfl rfl)
theorem dJ1_numberOfTrailingZeros_64 : decode cJ1_numberOfTrailingZeros 64 = .ok (.if_icmp .le 10, 3) := dk_164 0 10 (dk_at dksJ1_numberOfTrailingZeros_2 17 rfl rfl)
theorem dJ1_numberOfTrailingZeros_67 : decode cJ1_numberOfTrailingZeros 67 = .ok (.iinc 1 2, 3) := dk_132 1 2 (dk_at dksJ1_numberOfTrailingZeros_2 20 rfl rfl)
theorem dJ1_numberOfTrailingZeros_70 : decode cJ1_numberOfTrailingZeros 70 = .ok (.iload_n 0, 1) := dk_26 (dk_at dksJ1_numberOfTrailingZeros_2 23 rfl rfl)
theorem dJ1_numberOfTrailingZeros_71 : decode cJ1_numberOfTrailingZeros 71 = .ok (.iconst 2, 1) := dk_5 (dk_at dksJ1_numberOfTrailingZeros_3 0 rfl rfl)
theorem dJ1_numberOfTrailingZeros_72 : decode cJ1_numberOfTrailingZeros 72 = .ok (.iushr, 1) := dk_124 (dk_at dksJ1_numberOfTrailingZeros_3 1 rfl rfl)
theorem dJ1_numberOfTrailingZeros_73 : decode cJ1_numberOfTrailingZeros 73 = .ok (.istore_n 0, 1) := dk_59 (dk_at dksJ1_numberOfTrailingZeros_3 2 rfl rfl)
theorem dJ1_numberOfTrailingZeros_74 : decode cJ1_numberOfTrailingZeros 74 = .ok (.iload_n 1, 1) := dk_27 (dk_at dksJ1_numberOfTrailingZeros_3 3 rfl rfl)
theorem dJ1_numberOfTrailingZeros_75 : decode cJ1_numberOfTrailingZeros 75 = .ok (.iload_n 0, 1) := dk_26 (dk_at dksJ1_numberOfTrailingZeros_3 4 rfl rfl)
theorem dJ1_numberOfTrailingZeros_76 : decode cJ1_numberOfTrailingZeros 76 = .ok (.iconst 1, 1) := dk_4 (dk_at dksJ1_numberOfTrailingZeros_3 5 rfl rfl)
theorem dJ1_numberOfTrailingZeros_77 : decode cJ1_numberOfTrailingZeros 77 = .ok (.iushr, 1) := dk_124 (dk_at dksJ1_numberOfTrailingZeros_3 6 rfl rfl)
theorem dJ1_numberOfTrailingZeros_78 : decode cJ1_numberOfTrailingZeros 78 = .ok (.iadd, 1) := dk_96 (dk_at dksJ1_numberOfTrailingZeros_3 7 rfl rfl)
theorem dJ1_numberOfTrailingZeros_79 : decode cJ1_numberOfTrailingZeros 79 = .ok (.ireturn, 1) := dk_172 (dk_at dksJ1_numberOfTrailingZeros_3 8 rfl rfl)
abbrev cJ1_equals : ByteArray := prog_19_method_34_code
def yJ1_equals : MethodName := ⟨RJ1, "equals", "(Ljava/lang/Object;)Z"⟩
def dkwJ1_equals_1 : List UInt8 := [167, 0, 4, 3, 172, 3, 172]
abbrev dktJ1_equals_1 : List UInt8 := dkwJ1_equals_1 ++ []
def dkwJ1_equals_0 : List UInt8 := [43, 193, 0, 1, 153, 0, 23, 42, 180, 0, 205, 43, 192, 0, 1, 182, 0, 211, 160, 0, 7, 4]
abbrev dktJ1_equals_0 : List UInt8 := dkwJ1_equals_0 ++ dktJ1_equals_1
theorem dksJ1_equals_0 : cJ1_equals.data.toList.drop 0 = dktJ1_equals_0 := by decide +kernel
theorem dksJ1_equals_1 : cJ1_equals.data.toList.drop 22 = dktJ1_equals_1 := dk_seg dksJ1_equals_0 22 rfl rfl
theorem dJ1_equals_0 : decode cJ1_equals 0 = .ok (.aload_n 1, 1) := dk_43 (dk_at dksJ1_equals_0 0 rfl rfl)
theorem dJ1_equals_1 : decode cJ1_equals 1 = .ok (.instanceof 1, 3) := dk_193 0 1 (dk_at dksJ1_equals_0 1 rfl rfl)
theorem dJ1_equals_4 : decode cJ1_equals 4 = .ok (.ifCond .eq 23, 3) := dk_153 0 23 (dk_at dksJ1_equals_0 4 rfl rfl)
theorem dJ1_equals_7 : decode cJ1_equals 7 = .ok (.aload_n 0, 1) := dk_42 (dk_at dksJ1_equals_0 7 rfl rfl)
theorem dJ1_equals_8 : decode cJ1_equals 8 = .ok (.getfield 205, 3) := dk_180 0 205 (dk_at dksJ1_equals_0 8 rfl rfl)
theorem dJ1_equals_11 : decode cJ1_equals 11 = .ok (.aload_n 1, 1) := dk_43 (dk_at dksJ1_equals_0 11 rfl rfl)
theorem dJ1_equals_12 : decode cJ1_equals 12 = .ok (.checkcast 1, 3) := dk_192 0 1 (dk_at dksJ1_equals_0 12 rfl rfl)
theorem dJ1_equals_15 : decode cJ1_equals 15 = .ok (.invokevirtual 211, 3) := dk_182 0 211 (dk_at dksJ1_equals_0 15 rfl rfl)
theorem dJ1_equals_18 : decode cJ1_equals 18 = .ok (.if_icmp .ne 7, 3) := dk_160 0 7 (dk_at dksJ1_equals_0 18 rfl rfl)
theorem dJ1_equals_21 : decode cJ1_equals 21 = .ok (.iconst 1, 1) := dk_4 (dk_at dksJ1_equals_0 21 rfl rfl)
theorem dJ1_equals_22 : decode cJ1_equals 22 = .ok (.goto 4, 3) := dk_167 0 4 (dk_at dksJ1_equals_1 0 rfl rfl)
theorem dJ1_equals_25 : decode cJ1_equals 25 = .ok (.iconst 0, 1) := dk_3 (dk_at dksJ1_equals_1 3 rfl rfl)
theorem dJ1_equals_26 : decode cJ1_equals 26 = .ok (.ireturn, 1) := dk_172 (dk_at dksJ1_equals_1 4 rfl rfl)
theorem dJ1_equals_27 : decode cJ1_equals 27 = .ok (.iconst 0, 1) := dk_3 (dk_at dksJ1_equals_1 5 rfl rfl)
theorem dJ1_equals_28 : decode cJ1_equals 28 = .ok (.ireturn, 1) := dk_172 (dk_at dksJ1_equals_1 6 rfl rfl)
abbrev cJ1_intValue : ByteArray := prog_19_method_27_code
def yJ1_intValue : MethodName := ⟨RJ1, "intValue", "()I"⟩
theorem dJ1_intValue_0 : decode cJ1_intValue 0 = .ok (.aload_n 0, 1) := by decide +kernel
theorem dJ1_intValue_1 : decode cJ1_intValue 1 = .ok (.getfield 205, 3) := by decide +kernel
theorem dJ1_intValue_4 : decode cJ1_intValue 4 = .ok (.ireturn, 1) := by decide +kernel
theorem q55 : (Jvm.Cond.initialized "java/lang/Integer") ∈ lw_all := lw_g (lw_at lw_m1 3 rfl) rfl
theorem q102 : (Jvm.Cond.static ({ cls := "java/lang/Integer", name := "bitCount", desc := "(I)I" } : Jvm.MethodName)) ∈ lw_all := lw_g (lw_at lw_m1 50 rfl) rfl
theorem q103 : (Jvm.Cond.code ({ cls := "java/lang/Integer", name := "bitCount", desc := "(I)I" } : Jvm.MethodName) prog_19_method_49_code (1 : Nat) (Option.some Jvm.ClassFile.FieldType.int)) ∈ lw_all := lw_g (lw_at lw_m1 51 rfl) rfl
theorem q104 : (Jvm.Cond.constant "java/lang/Integer" (265 : Nat) (1431655765 : Int32)) ∈ lw_all := lw_g (lw_at lw_m1 52 rfl) rfl
theorem q105 : (Jvm.Cond.constant "java/lang/Integer" (266 : Nat) (858993459 : Int32)) ∈ lw_all := lw_g (lw_at lw_m1 53 rfl) rfl
theorem q106 : (Jvm.Cond.constant "java/lang/Integer" (267 : Nat) (252645135 : Int32)) ∈ lw_all := lw_g (lw_at lw_m1 54 rfl) rfl
theorem q511 : (Jvm.Cond.static ({ cls := "java/lang/Integer", name := "valueOf", desc := "(I)Ljava/lang/Integer;" } : Jvm.MethodName)) ∈ lw_all := lw_g (lw_at lw_m2 219 rfl) rfl
theorem q512 : (Jvm.Cond.code ({ cls := "java/lang/Integer", name := "valueOf", desc := "(I)Ljava/lang/Integer;" } : Jvm.MethodName) prog_19_method_22_code (1 : Nat) (Option.some (Jvm.ClassFile.FieldType.object "java/lang/Integer"))) ∈ lw_all := lw_g (lw_at lw_m2 220 rfl) rfl
theorem q513 : (Jvm.Cond.fieldLink "java/lang/Integer" (191 : Nat) "java/lang/Integer$IntegerCache" "high" "I") ∈ lw_all := lw_g (lw_at lw_m2 221 rfl) rfl
theorem q515 : (Jvm.Cond.fieldLink "java/lang/Integer" (195 : Nat) "java/lang/Integer$IntegerCache" "cache" "[Ljava/lang/Integer;") ∈ lw_all := lw_g (lw_at lw_m2 223 rfl) rfl
theorem q517 : (Jvm.Cond.classLink "java/lang/Integer" (1 : Nat) "java/lang/Integer") ∈ lw_all := lw_g (lw_at lw_m2 225 rfl) rfl
theorem q518 : (Jvm.Cond.instantiable "java/lang/Integer" (1 : Nat)) ∈ lw_all := lw_g (lw_at lw_m2 226 rfl) rfl
theorem q519 : (Jvm.Cond.methodLink "java/lang/Integer" (199 : Nat) ({ cls := "java/lang/Integer", name := "<init>", desc := "(I)V" } : Jvm.MethodName)) ∈ lw_all := lw_g (lw_at lw_m2 227 rfl) rfl
theorem q520 : (Jvm.Cond.instanceMethod ({ cls := "java/lang/Integer", name := "<init>", desc := "(I)V" } : Jvm.MethodName)) ∈ lw_all := lw_g (lw_at lw_m2 228 rfl) rfl
theorem q521 : (Jvm.Cond.code ({ cls := "java/lang/Integer", name := "<init>", desc := "(I)V" } : Jvm.MethodName) prog_19_method_23_code (2 : Nat) (Option.none : Option Jvm.ClassFile.FieldType)) ∈ lw_all := lw_g (lw_at lw_m2 229 rfl) rfl
theorem q522 : (Jvm.Cond.methodLink "java/lang/Integer" (202 : Nat) ({ cls := "java/lang/Number", name := "<init>", desc := "()V" } : Jvm.MethodName)) ∈ lw_all := lw_g (lw_at lw_m2 230 rfl) rfl
theorem q526 : (Jvm.Cond.fieldLink "java/lang/Integer" (205 : Nat) "java/lang/Integer" "value" "I") ∈ lw_all := lw_g (lw_at lw_m2 234 rfl) rfl
theorem q527 : (Jvm.Cond.laysFinal "java/lang/Integer" "java/lang/Integer" "value" "I") ∈ lw_all := lw_g (lw_at lw_m2 235 rfl) rfl
theorem q528 : (Jvm.Cond.soleField "java/lang/Integer" "value") ∈ lw_all := lw_g (lw_at lw_m2 236 rfl) rfl
theorem q529 : (Jvm.Cond.superclass "java/lang/Integer" "java/lang/Number") ∈ lw_all := lw_g (lw_at lw_m2 237 rfl) rfl
theorem q554 : (Jvm.Cond.selects "java/lang/Integer" ({ cls := "java/lang/Object", name := "hashCode", desc := "()I" } : Jvm.MethodName) ({ cls := "java/lang/Integer", name := "hashCode", desc := "()I" } : Jvm.MethodName)) ∈ lw_all := lw_g (lw_at lw_m3 22 rfl) rfl
theorem q555 : (Jvm.Cond.instanceMethod ({ cls := "java/lang/Integer", name := "hashCode", desc := "()I" } : Jvm.MethodName)) ∈ lw_all := lw_g (lw_at lw_m3 23 rfl) rfl
theorem q556 : (Jvm.Cond.code ({ cls := "java/lang/Integer", name := "hashCode", desc := "()I" } : Jvm.MethodName) prog_19_method_32_code (1 : Nat) (Option.some Jvm.ClassFile.FieldType.int)) ∈ lw_all := lw_g (lw_at lw_m3 24 rfl) rfl
theorem q557 : (Jvm.Cond.methodLink "java/lang/Integer" (208 : Nat) ({ cls := "java/lang/Integer", name := "hashCode", desc := "(I)I" } : Jvm.MethodName)) ∈ lw_all := lw_g (lw_at lw_m3 25 rfl) rfl
theorem q558 : (Jvm.Cond.static ({ cls := "java/lang/Integer", name := "hashCode", desc := "(I)I" } : Jvm.MethodName)) ∈ lw_all := lw_g (lw_at lw_m3 26 rfl) rfl
theorem q559 : (Jvm.Cond.code ({ cls := "java/lang/Integer", name := "hashCode", desc := "(I)I" } : Jvm.MethodName) prog_19_method_33_code (1 : Nat) (Option.some Jvm.ClassFile.FieldType.int)) ∈ lw_all := lw_g (lw_at lw_m3 27 rfl) rfl
theorem q735 : (Jvm.Cond.selects "java/lang/Integer" ({ cls := "java/lang/Object", name := "getClass", desc := "()Ljava/lang/Class;" } : Jvm.MethodName) ({ cls := "java/lang/Object", name := "getClass", desc := "()Ljava/lang/Class;" } : Jvm.MethodName)) ∈ lw_all := lw_g (lw_at lw_m3 203 rfl) rfl
theorem q755 : (Jvm.Cond.castable "java/lang/Integer" "java/lang/Comparable") ∈ lw_tbl := lw_at lw_m3 223 rfl
theorem q756 : (Jvm.Cond.selects "java/lang/Integer" ({ cls := "java/lang/Comparable", name := "compareTo", desc := "(Ljava/lang/Object;)I" } : Jvm.MethodName) ({ cls := "java/lang/Integer", name := "compareTo", desc := "(Ljava/lang/Object;)I" } : Jvm.MethodName)) ∈ lw_all := lw_g (lw_at lw_m3 224 rfl) rfl
theorem q757 : (Jvm.Cond.unhidden "java/lang/Integer" "compareTo" "(Ljava/lang/Object;)I") ∈ lw_tbl := lw_at lw_m3 225 rfl
theorem q758 : (Jvm.Cond.instanceMethod ({ cls := "java/lang/Integer", name := "compareTo", desc := "(Ljava/lang/Object;)I" } : Jvm.MethodName)) ∈ lw_all := lw_g (lw_at lw_m3 226 rfl) rfl
theorem q759 : (Jvm.Cond.publicMethod ({ cls := "java/lang/Integer", name := "compareTo", desc := "(Ljava/lang/Object;)I" } : Jvm.MethodName)) ∈ lw_tbl := lw_at lw_m3 227 rfl
theorem q760 : (Jvm.Cond.code ({ cls := "java/lang/Integer", name := "compareTo", desc := "(Ljava/lang/Object;)I" } : Jvm.MethodName) prog_19_method_63_code (2 : Nat) (Option.some Jvm.ClassFile.FieldType.int)) ∈ lw_all := lw_g (lw_at lw_m3 228 rfl) rfl
theorem q761 : (Jvm.Cond.methodLink "java/lang/Integer" (284 : Nat) ({ cls := "java/lang/Integer", name := "compareTo", desc := "(Ljava/lang/Integer;)I" } : Jvm.MethodName)) ∈ lw_all := lw_g (lw_at lw_m3 229 rfl) rfl
theorem q762 : (Jvm.Cond.instanceMethod ({ cls := "java/lang/Integer", name := "compareTo", desc := "(Ljava/lang/Integer;)I" } : Jvm.MethodName)) ∈ lw_all := lw_g (lw_at lw_m3 230 rfl) rfl
theorem q763 : (Jvm.Cond.selects "java/lang/Integer" ({ cls := "java/lang/Integer", name := "compareTo", desc := "(Ljava/lang/Integer;)I" } : Jvm.MethodName) ({ cls := "java/lang/Integer", name := "compareTo", desc := "(Ljava/lang/Integer;)I" } : Jvm.MethodName)) ∈ lw_all := lw_g (lw_at lw_m3 231 rfl) rfl
theorem q764 : (Jvm.Cond.code ({ cls := "java/lang/Integer", name := "compareTo", desc := "(Ljava/lang/Integer;)I" } : Jvm.MethodName) prog_19_method_39_code (2 : Nat) (Option.some Jvm.ClassFile.FieldType.int)) ∈ lw_all := lw_g (lw_at lw_m3 232 rfl) rfl
theorem q765 : (Jvm.Cond.methodLink "java/lang/Integer" (259 : Nat) ({ cls := "java/lang/Integer", name := "compare", desc := "(II)I" } : Jvm.MethodName)) ∈ lw_all := lw_g (lw_at lw_m3 233 rfl) rfl
theorem q766 : (Jvm.Cond.static ({ cls := "java/lang/Integer", name := "compare", desc := "(II)I" } : Jvm.MethodName)) ∈ lw_all := lw_g (lw_at lw_m3 234 rfl) rfl
theorem q767 : (Jvm.Cond.code ({ cls := "java/lang/Integer", name := "compare", desc := "(II)I" } : Jvm.MethodName) prog_19_method_40_code (2 : Nat) (Option.some Jvm.ClassFile.FieldType.int)) ∈ lw_all := lw_g (lw_at lw_m3 235 rfl) rfl
theorem q862 : (Jvm.Cond.static ({ cls := "java/lang/Integer", name := "numberOfLeadingZeros", desc := "(I)I" } : Jvm.MethodName)) ∈ lw_all := lw_g (lw_at lw_m4 90 rfl) rfl
theorem q863 : (Jvm.Cond.code ({ cls := "java/lang/Integer", name := "numberOfLeadingZeros", desc := "(I)I" } : Jvm.MethodName) prog_19_method_47_code (2 : Nat) (Option.some Jvm.ClassFile.FieldType.int)) ∈ lw_all := lw_g (lw_at lw_m4 91 rfl) rfl
theorem q864 : (Jvm.Cond.constant "java/lang/Integer" (264 : Nat) (65536 : Int32)) ∈ lw_all := lw_g (lw_at lw_m4 92 rfl) rfl
theorem q871 : (Jvm.Cond.static ({ cls := "java/lang/Integer", name := "numberOfTrailingZeros", desc := "(I)I" } : Jvm.MethodName)) ∈ lw_all := lw_g (lw_at lw_m4 99 rfl) rfl
theorem q872 : (Jvm.Cond.code ({ cls := "java/lang/Integer", name := "numberOfTrailingZeros", desc := "(I)I" } : Jvm.MethodName) prog_19_method_48_code (2 : Nat) (Option.some Jvm.ClassFile.FieldType.int)) ∈ lw_all := lw_g (lw_at lw_m4 100 rfl) rfl
theorem q959 : (Jvm.Cond.selects "java/lang/Integer" ({ cls := "java/lang/Object", name := "equals", desc := "(Ljava/lang/Object;)Z" } : Jvm.MethodName) ({ cls := "java/lang/Integer", name := "equals", desc := "(Ljava/lang/Object;)Z" } : Jvm.MethodName)) ∈ lw_all := lw_g (lw_at lw_m4 187 rfl) rfl
theorem q960 : (Jvm.Cond.instanceMethod ({ cls := "java/lang/Integer", name := "equals", desc := "(Ljava/lang/Object;)Z" } : Jvm.MethodName)) ∈ lw_all := lw_g (lw_at lw_m4 188 rfl) rfl
theorem q961 : (Jvm.Cond.code ({ cls := "java/lang/Integer", name := "equals", desc := "(Ljava/lang/Object;)Z" } : Jvm.MethodName) prog_19_method_34_code (2 : Nat) (Option.some Jvm.ClassFile.FieldType.boolean)) ∈ lw_all := lw_g (lw_at lw_m4 189 rfl) rfl
theorem q962 : (Jvm.Cond.methodLink "java/lang/Integer" (211 : Nat) ({ cls := "java/lang/Integer", name := "intValue", desc := "()I" } : Jvm.MethodName)) ∈ lw_all := lw_g (lw_at lw_m4 190 rfl) rfl
theorem q963 : (Jvm.Cond.instanceMethod ({ cls := "java/lang/Integer", name := "intValue", desc := "()I" } : Jvm.MethodName)) ∈ lw_all := lw_g (lw_at lw_m4 191 rfl) rfl
theorem q964 : (Jvm.Cond.selects "java/lang/Integer" ({ cls := "java/lang/Integer", name := "intValue", desc := "()I" } : Jvm.MethodName) ({ cls := "java/lang/Integer", name := "intValue", desc := "()I" } : Jvm.MethodName)) ∈ lw_all := lw_g (lw_at lw_m4 192 rfl) rfl
theorem q965 : (Jvm.Cond.code ({ cls := "java/lang/Integer", name := "intValue", desc := "()I" } : Jvm.MethodName) prog_19_method_27_code (1 : Nat) (Option.some Jvm.ClassFile.FieldType.int)) ∈ lw_all := lw_g (lw_at lw_m4 193 rfl) rfl
theorem q1874 : (Jvm.Cond.castable "java/lang/Integer" "java/lang/Object") ∈ lw_tbl := lw_at lw_m8 142 rfl
theorem in_J1 : ∀ w ∈ wsJ10, w ∈ lw_all := lw_in wsJ10 [527] (by decide +kernel) (by decide +kernel)

/-! java/lang/Math -/
set_option maxRecDepth 100000
def RJ2 : String := "java/lang/Math"
abbrev cJ2_min : ByteArray := prog_23_method_69_code
def yJ2_min : MethodName := ⟨RJ2, "min", "(II)I"⟩
def dkwJ2_min_0 : List UInt8 := [26, 27, 163, 0, 7, 26, 167, 0, 4, 27, 172]
abbrev dktJ2_min_0 : List UInt8 := dkwJ2_min_0 ++ []
theorem dksJ2_min_0 : cJ2_min.data.toList.drop 0 = dktJ2_min_0 := by decide +kernel
theorem dJ2_min_0 : decode cJ2_min 0 = .ok (.iload_n 0, 1) := dk_26 (dk_at dksJ2_min_0 0 rfl rfl)
theorem dJ2_min_1 : decode cJ2_min 1 = .ok (.iload_n 1, 1) := dk_27 (dk_at dksJ2_min_0 1 rfl rfl)
theorem dJ2_min_2 : decode cJ2_min 2 = .ok (.if_icmp .gt 7, 3) := dk_163 0 7 (dk_at dksJ2_min_0 2 rfl rfl)
theorem dJ2_min_5 : decode cJ2_min 5 = .ok (.iload_n 0, 1) := dk_26 (dk_at dksJ2_min_0 5 rfl rfl)
theorem dJ2_min_6 : decode cJ2_min 6 = .ok (.goto 4, 3) := dk_167 0 4 (dk_at dksJ2_min_0 6 rfl rfl)
theorem dJ2_min_9 : decode cJ2_min 9 = .ok (.iload_n 1, 1) := dk_27 (dk_at dksJ2_min_0 9 rfl rfl)
theorem dJ2_min_10 : decode cJ2_min 10 = .ok (.ireturn, 1) := dk_172 (dk_at dksJ2_min_0 10 rfl rfl)
abbrev cJ2_max : ByteArray := prog_23_method_65_code
def yJ2_max : MethodName := ⟨RJ2, "max", "(II)I"⟩
def dkwJ2_max_0 : List UInt8 := [26, 27, 161, 0, 7, 26, 167, 0, 4, 27, 172]
abbrev dktJ2_max_0 : List UInt8 := dkwJ2_max_0 ++ []
theorem dksJ2_max_0 : cJ2_max.data.toList.drop 0 = dktJ2_max_0 := by decide +kernel
theorem dJ2_max_0 : decode cJ2_max 0 = .ok (.iload_n 0, 1) := dk_26 (dk_at dksJ2_max_0 0 rfl rfl)
theorem dJ2_max_1 : decode cJ2_max 1 = .ok (.iload_n 1, 1) := dk_27 (dk_at dksJ2_max_0 1 rfl rfl)
theorem dJ2_max_2 : decode cJ2_max 2 = .ok (.if_icmp .lt 7, 3) := dk_161 0 7 (dk_at dksJ2_max_0 2 rfl rfl)
theorem dJ2_max_5 : decode cJ2_max 5 = .ok (.iload_n 0, 1) := dk_26 (dk_at dksJ2_max_0 5 rfl rfl)
theorem dJ2_max_6 : decode cJ2_max 6 = .ok (.goto 4, 3) := dk_167 0 4 (dk_at dksJ2_max_0 6 rfl rfl)
theorem dJ2_max_9 : decode cJ2_max 9 = .ok (.iload_n 1, 1) := dk_27 (dk_at dksJ2_max_0 9 rfl rfl)
theorem dJ2_max_10 : decode cJ2_max 10 = .ok (.ireturn, 1) := dk_172 (dk_at dksJ2_max_0 10 rfl rfl)
abbrev cJ2_multiplyExact : ByteArray := prog_23_method_28_code
def yJ2_multiplyExact : MethodName := ⟨RJ2, "multiplyExact", "(II)I"⟩
def dkwJ2_multiplyExact_1 : List UInt8 := [32, 136, 172]
abbrev dktJ2_multiplyExact_1 : List UInt8 := dkwJ2_multiplyExact_1 ++ []
def dkwJ2_multiplyExact_0 : List UInt8 := [26, 133, 27, 133, 105, 65, 32, 136, 133, 32, 148, 153, 0, 13, 187, 0, 109, 89, 18, 111, 183, 0, 113, 191]
abbrev dktJ2_multiplyExact_0 : List UInt8 := dkwJ2_multiplyExact_0 ++ dktJ2_multiplyExact_1
theorem dksJ2_multiplyExact_0 : cJ2_multiplyExact.data.toList.drop 0 = dktJ2_multiplyExact_0 := by decide +kernel
theorem dksJ2_multiplyExact_1 : cJ2_multiplyExact.data.toList.drop 24 = dktJ2_multiplyExact_1 := dk_seg dksJ2_multiplyExact_0 24 rfl rfl
theorem dJ2_multiplyExact_0 : decode cJ2_multiplyExact 0 = .ok (.iload_n 0, 1) := dk_26 (dk_at dksJ2_multiplyExact_0 0 rfl rfl)
theorem dJ2_multiplyExact_1 : decode cJ2_multiplyExact 1 = .ok (.i2l, 1) := dk_133 (dk_at dksJ2_multiplyExact_0 1 rfl rfl)
theorem dJ2_multiplyExact_2 : decode cJ2_multiplyExact 2 = .ok (.iload_n 1, 1) := dk_27 (dk_at dksJ2_multiplyExact_0 2 rfl rfl)
theorem dJ2_multiplyExact_3 : decode cJ2_multiplyExact 3 = .ok (.i2l, 1) := dk_133 (dk_at dksJ2_multiplyExact_0 3 rfl rfl)
theorem dJ2_multiplyExact_4 : decode cJ2_multiplyExact 4 = .ok (.lmul, 1) := dk_105 (dk_at dksJ2_multiplyExact_0 4 rfl rfl)
theorem dJ2_multiplyExact_5 : decode cJ2_multiplyExact 5 = .ok (.lstore_n 2, 1) := dk_65 (dk_at dksJ2_multiplyExact_0 5 rfl rfl)
theorem dJ2_multiplyExact_6 : decode cJ2_multiplyExact 6 = .ok (.lload_n 2, 1) := dk_32 (dk_at dksJ2_multiplyExact_0 6 rfl rfl)
theorem dJ2_multiplyExact_7 : decode cJ2_multiplyExact 7 = .ok (.l2i, 1) := dk_136 (dk_at dksJ2_multiplyExact_0 7 rfl rfl)
theorem dJ2_multiplyExact_8 : decode cJ2_multiplyExact 8 = .ok (.i2l, 1) := dk_133 (dk_at dksJ2_multiplyExact_0 8 rfl rfl)
theorem dJ2_multiplyExact_9 : decode cJ2_multiplyExact 9 = .ok (.lload_n 2, 1) := dk_32 (dk_at dksJ2_multiplyExact_0 9 rfl rfl)
theorem dJ2_multiplyExact_10 : decode cJ2_multiplyExact 10 = .ok (.lcmp, 1) := dk_148 (dk_at dksJ2_multiplyExact_0 10 rfl rfl)
theorem dJ2_multiplyExact_11 : decode cJ2_multiplyExact 11 = .ok (.ifCond .eq 13, 3) := dk_153 0 13 (dk_at dksJ2_multiplyExact_0 11 rfl rfl)
theorem dJ2_multiplyExact_14 : decode cJ2_multiplyExact 14 = .ok (.new 109, 3) := dk_187 0 109 (dk_at dksJ2_multiplyExact_0 14 rfl rfl)
theorem dJ2_multiplyExact_17 : decode cJ2_multiplyExact 17 = .ok (.dup, 1) := dk_89 (dk_at dksJ2_multiplyExact_0 17 rfl rfl)
theorem dJ2_multiplyExact_18 : decode cJ2_multiplyExact 18 = .ok (.ldc 111, 2) := dk_18 111 (dk_at dksJ2_multiplyExact_0 18 rfl rfl)
theorem dJ2_multiplyExact_20 : decode cJ2_multiplyExact 20 = .ok (.invokespecial 113, 3) := dk_183 0 113 (dk_at dksJ2_multiplyExact_0 20 rfl rfl)
theorem dJ2_multiplyExact_23 : decode cJ2_multiplyExact 23 = .ok (.athrow, 1) := dk_191 (dk_at dksJ2_multiplyExact_0 23 rfl rfl)
theorem dJ2_multiplyExact_24 : decode cJ2_multiplyExact 24 = .ok (.lload_n 2, 1) := dk_32 (dk_at dksJ2_multiplyExact_1 0 rfl rfl)
theorem dJ2_multiplyExact_25 : decode cJ2_multiplyExact 25 = .ok (.l2i, 1) := dk_136 (dk_at dksJ2_multiplyExact_1 1 rfl rfl)
theorem dJ2_multiplyExact_26 : decode cJ2_multiplyExact 26 = .ok (.ireturn, 1) := dk_172 (dk_at dksJ2_multiplyExact_1 2 rfl rfl)
theorem q59 : (Jvm.Cond.initialized "java/lang/Math") ∈ lw_all := lw_g (lw_at lw_m1 7 rfl) rfl
theorem q281 : (Jvm.Cond.static ({ cls := "java/lang/Math", name := "min", desc := "(II)I" } : Jvm.MethodName)) ∈ lw_all := lw_g (lw_at lw_m1 229 rfl) rfl
theorem q282 : (Jvm.Cond.code ({ cls := "java/lang/Math", name := "min", desc := "(II)I" } : Jvm.MethodName) prog_23_method_69_code (2 : Nat) (Option.some Jvm.ClassFile.FieldType.int)) ∈ lw_all := lw_g (lw_at lw_m1 230 rfl) rfl
theorem q1149 : (Jvm.Cond.static ({ cls := "java/lang/Math", name := "max", desc := "(II)I" } : Jvm.MethodName)) ∈ lw_all := lw_g (lw_at lw_m5 137 rfl) rfl
theorem q1150 : (Jvm.Cond.code ({ cls := "java/lang/Math", name := "max", desc := "(II)I" } : Jvm.MethodName) prog_23_method_65_code (2 : Nat) (Option.some Jvm.ClassFile.FieldType.int)) ∈ lw_all := lw_g (lw_at lw_m5 138 rfl) rfl
theorem q1532 : (Jvm.Cond.static ({ cls := "java/lang/Math", name := "multiplyExact", desc := "(II)I" } : Jvm.MethodName)) ∈ lw_all := lw_g (lw_at lw_m7 40 rfl) rfl
theorem q1533 : (Jvm.Cond.code ({ cls := "java/lang/Math", name := "multiplyExact", desc := "(II)I" } : Jvm.MethodName) prog_23_method_28_code (4 : Nat) (Option.some Jvm.ClassFile.FieldType.int)) ∈ lw_all := lw_g (lw_at lw_m7 41 rfl) rfl
theorem q1534 : (Jvm.Cond.classLink "java/lang/Math" (109 : Nat) "java/lang/ArithmeticException") ∈ lw_all := lw_g (lw_at lw_m7 42 rfl) rfl
theorem q1535 : (Jvm.Cond.stringRef "java/lang/Math" (111 : Nat) "integer overflow") ∈ lw_tbl := lw_at lw_m7 43 rfl
theorem q1536 : (Jvm.Cond.methodLink "java/lang/Math" (113 : Nat) ({ cls := "java/lang/ArithmeticException", name := "<init>", desc := "(Ljava/lang/String;)V" } : Jvm.MethodName)) ∈ lw_all := lw_g (lw_at lw_m7 44 rfl) rfl

/-! java/lang/Throwable -/
set_option maxRecDepth 100000
def RJ3 : String := "java/lang/Throwable"
def TJ3 : u_T := fun k => match k with
  | 0 => ("java/lang/Throwable", "cause", "Ljava/lang/Throwable;", false)
  | 1 => ("java/lang/Throwable", "stackTrace", "[Ljava/lang/StackTraceElement;", false)
  | 2 => ("java/lang/Throwable", "suppressedExceptions", "Ljava/util/List;", false)
  | 3 => ("java/lang/Throwable", "detailMessage", "Ljava/lang/String;", false)
  | _ => ("java/lang/Throwable", "backtrace", "Ljava/lang/Object;", false)
def tyJ3 : Nat → FieldType := fun k => match k with
  | 0 => .object "java/lang/Throwable"
  | 1 => .array (.object "java/lang/StackTraceElement")
  | 2 => .object "java/util/List"
  | 3 => .object "java/lang/String"
  | _ => .object "java/lang/Object"
abbrev wsJ30 : List Cond := u_ws RJ3 TJ3 5
theorem nmJ3 : ∀ a, a < 5 → ∀ b, b < 5 → a ≠ b → (TJ3 a).2.1 ≠ (TJ3 b).2.1 := by decide +kernel
theorem tyJ3_ok : ∀ k, k < 5 → parseFieldDescriptor (TJ3 k).2.2.1 = some (tyJ3 k) := by decide +kernel
abbrev cJ3_init : ByteArray := prog_31_method_1_code
def yJ3_init : MethodName := ⟨RJ3, "<init>", "()V"⟩
def dkwJ3_init_1 : List UInt8 := [182, 0, 27, 87, 177]
abbrev dktJ3_init_1 : List UInt8 := dkwJ3_init_1 ++ []
def dkwJ3_init_0 : List UInt8 := [42, 183, 0, 1, 42, 42, 181, 0, 7, 42, 178, 0, 13, 181, 0, 17, 42, 178, 0, 20, 181, 0, 24, 42]
abbrev dktJ3_init_0 : List UInt8 := dkwJ3_init_0 ++ dktJ3_init_1
theorem dksJ3_init_0 : cJ3_init.data.toList.drop 0 = dktJ3_init_0 := by decide +kernel
theorem dksJ3_init_1 : cJ3_init.data.toList.drop 24 = dktJ3_init_1 := dk_seg dksJ3_init_0 24 rfl rfl
theorem dJ3_init_0 : decode cJ3_init 0 = .ok (.aload_n 0, 1) := dk_42 (dk_at dksJ3_init_0 0 rfl rfl)
theorem dJ3_init_1 : decode cJ3_init 1 = .ok (.invokespecial 1, 3) := dk_183 0 1 (dk_at dksJ3_init_0 1 rfl rfl)
theorem dJ3_init_4 : decode cJ3_init 4 = .ok (.aload_n 0, 1) := dk_42 (dk_at dksJ3_init_0 4 rfl rfl)
theorem dJ3_init_5 : decode cJ3_init 5 = .ok (.aload_n 0, 1) := dk_42 (dk_at dksJ3_init_0 5 rfl rfl)
theorem dJ3_init_6 : decode cJ3_init 6 = .ok (.putfield 7, 3) := dk_181 0 7 (dk_at dksJ3_init_0 6 rfl rfl)
theorem dJ3_init_9 : decode cJ3_init 9 = .ok (.aload_n 0, 1) := dk_42 (dk_at dksJ3_init_0 9 rfl rfl)
theorem dJ3_init_10 : decode cJ3_init 10 = .ok (.getstatic 13, 3) := dk_178 0 13 (dk_at dksJ3_init_0 10 rfl rfl)
theorem dJ3_init_13 : decode cJ3_init 13 = .ok (.putfield 17, 3) := dk_181 0 17 (dk_at dksJ3_init_0 13 rfl rfl)
theorem dJ3_init_16 : decode cJ3_init 16 = .ok (.aload_n 0, 1) := dk_42 (dk_at dksJ3_init_0 16 rfl rfl)
theorem dJ3_init_17 : decode cJ3_init 17 = .ok (.getstatic 20, 3) := dk_178 0 20 (dk_at dksJ3_init_0 17 rfl rfl)
theorem dJ3_init_20 : decode cJ3_init 20 = .ok (.putfield 24, 3) := dk_181 0 24 (dk_at dksJ3_init_0 20 rfl rfl)
theorem dJ3_init_23 : decode cJ3_init 23 = .ok (.aload_n 0, 1) := dk_42 (dk_at dksJ3_init_0 23 rfl rfl)
theorem dJ3_init_24 : decode cJ3_init 24 = .ok (.invokevirtual 27, 3) := dk_182 0 27 (dk_at dksJ3_init_1 0 rfl rfl)
theorem dJ3_init_27 : decode cJ3_init 27 = .ok (.pop, 1) := dk_87 (dk_at dksJ3_init_1 3 rfl rfl)
theorem dJ3_init_28 : decode cJ3_init 28 = .ok (.return_, 1) := dk_177 (dk_at dksJ3_init_1 4 rfl rfl)
abbrev cJ3_init_2 : ByteArray := prog_31_method_2_code
def yJ3_init_2 : MethodName := ⟨RJ3, "<init>", "(Ljava/lang/String;)V"⟩
def dkwJ3_init_2_1 : List UInt8 := [182, 0, 27, 87, 42, 43, 181, 0, 31, 177]
abbrev dktJ3_init_2_1 : List UInt8 := dkwJ3_init_2_1 ++ []
def dkwJ3_init_2_0 : List UInt8 := [42, 183, 0, 1, 42, 42, 181, 0, 7, 42, 178, 0, 13, 181, 0, 17, 42, 178, 0, 20, 181, 0, 24, 42]
abbrev dktJ3_init_2_0 : List UInt8 := dkwJ3_init_2_0 ++ dktJ3_init_2_1
theorem dksJ3_init_2_0 : cJ3_init_2.data.toList.drop 0 = dktJ3_init_2_0 := by decide +kernel
theorem dksJ3_init_2_1 : cJ3_init_2.data.toList.drop 24 = dktJ3_init_2_1 := dk_seg dksJ3_init_2_0 24 rfl rfl
theorem dJ3_init_2_0 : decode cJ3_init_2 0 = .ok (.aload_n 0, 1) := dk_42 (dk_at dksJ3_init_2_0 0 rfl rfl)
theorem dJ3_init_2_1 : decode cJ3_init_2 1 = .ok (.invokespecial 1, 3) := dk_183 0 1 (dk_at dksJ3_init_2_0 1 rfl rfl)
theorem dJ3_init_2_4 : decode cJ3_init_2 4 = .ok (.aload_n 0, 1) := dk_42 (dk_at dksJ3_init_2_0 4 rfl rfl)
theorem dJ3_init_2_5 : decode cJ3_init_2 5 = .ok (.aload_n 0, 1) := dk_42 (dk_at dksJ3_init_2_0 5 rfl rfl)
theorem dJ3_init_2_6 : decode cJ3_init_2 6 = .ok (.putfield 7, 3) := dk_181 0 7 (dk_at dksJ3_init_2_0 6 rfl rfl)
theorem dJ3_init_2_9 : decode cJ3_init_2 9 = .ok (.aload_n 0, 1) := dk_42 (dk_at dksJ3_init_2_0 9 rfl rfl)
theorem dJ3_init_2_10 : decode cJ3_init_2 10 = .ok (.getstatic 13, 3) := dk_178 0 13 (dk_at dksJ3_init_2_0 10 rfl rfl)
theorem dJ3_init_2_13 : decode cJ3_init_2 13 = .ok (.putfield 17, 3) := dk_181 0 17 (dk_at dksJ3_init_2_0 13 rfl rfl)
theorem dJ3_init_2_16 : decode cJ3_init_2 16 = .ok (.aload_n 0, 1) := dk_42 (dk_at dksJ3_init_2_0 16 rfl rfl)
theorem dJ3_init_2_17 : decode cJ3_init_2 17 = .ok (.getstatic 20, 3) := dk_178 0 20 (dk_at dksJ3_init_2_0 17 rfl rfl)
theorem dJ3_init_2_20 : decode cJ3_init_2 20 = .ok (.putfield 24, 3) := dk_181 0 24 (dk_at dksJ3_init_2_0 20 rfl rfl)
theorem dJ3_init_2_23 : decode cJ3_init_2 23 = .ok (.aload_n 0, 1) := dk_42 (dk_at dksJ3_init_2_0 23 rfl rfl)
theorem dJ3_init_2_24 : decode cJ3_init_2 24 = .ok (.invokevirtual 27, 3) := dk_182 0 27 (dk_at dksJ3_init_2_1 0 rfl rfl)
theorem dJ3_init_2_27 : decode cJ3_init_2 27 = .ok (.pop, 1) := dk_87 (dk_at dksJ3_init_2_1 3 rfl rfl)
theorem dJ3_init_2_28 : decode cJ3_init_2 28 = .ok (.aload_n 0, 1) := dk_42 (dk_at dksJ3_init_2_1 4 rfl rfl)
theorem dJ3_init_2_29 : decode cJ3_init_2 29 = .ok (.aload_n 1, 1) := dk_43 (dk_at dksJ3_init_2_1 5 rfl rfl)
theorem dJ3_init_2_30 : decode cJ3_init_2 30 = .ok (.putfield 31, 3) := dk_181 0 31 (dk_at dksJ3_init_2_1 6 rfl rfl)
theorem dJ3_init_2_33 : decode cJ3_init_2 33 = .ok (.return_, 1) := dk_177 (dk_at dksJ3_init_2_1 9 rfl rfl)
abbrev cJ3_init_3 : ByteArray := prog_31_method_3_code
def yJ3_init_3 : MethodName := ⟨RJ3, "<init>", "(Ljava/lang/String;Ljava/lang/Throwable;)V"⟩
def dkwJ3_init_3_1 : List UInt8 := [182, 0, 27, 87, 42, 43, 181, 0, 31, 42, 44, 181, 0, 7, 177]
abbrev dktJ3_init_3_1 : List UInt8 := dkwJ3_init_3_1 ++ []
def dkwJ3_init_3_0 : List UInt8 := [42, 183, 0, 1, 42, 42, 181, 0, 7, 42, 178, 0, 13, 181, 0, 17, 42, 178, 0, 20, 181, 0, 24, 42]
abbrev dktJ3_init_3_0 : List UInt8 := dkwJ3_init_3_0 ++ dktJ3_init_3_1
theorem dksJ3_init_3_0 : cJ3_init_3.data.toList.drop 0 = dktJ3_init_3_0 := by decide +kernel
theorem dksJ3_init_3_1 : cJ3_init_3.data.toList.drop 24 = dktJ3_init_3_1 := dk_seg dksJ3_init_3_0 24 rfl rfl
theorem dJ3_init_3_0 : decode cJ3_init_3 0 = .ok (.aload_n 0, 1) := dk_42 (dk_at dksJ3_init_3_0 0 rfl rfl)
theorem dJ3_init_3_1 : decode cJ3_init_3 1 = .ok (.invokespecial 1, 3) := dk_183 0 1 (dk_at dksJ3_init_3_0 1 rfl rfl)
theorem dJ3_init_3_4 : decode cJ3_init_3 4 = .ok (.aload_n 0, 1) := dk_42 (dk_at dksJ3_init_3_0 4 rfl rfl)
theorem dJ3_init_3_5 : decode cJ3_init_3 5 = .ok (.aload_n 0, 1) := dk_42 (dk_at dksJ3_init_3_0 5 rfl rfl)
theorem dJ3_init_3_6 : decode cJ3_init_3 6 = .ok (.putfield 7, 3) := dk_181 0 7 (dk_at dksJ3_init_3_0 6 rfl rfl)
theorem dJ3_init_3_9 : decode cJ3_init_3 9 = .ok (.aload_n 0, 1) := dk_42 (dk_at dksJ3_init_3_0 9 rfl rfl)
theorem dJ3_init_3_10 : decode cJ3_init_3 10 = .ok (.getstatic 13, 3) := dk_178 0 13 (dk_at dksJ3_init_3_0 10 rfl rfl)
theorem dJ3_init_3_13 : decode cJ3_init_3 13 = .ok (.putfield 17, 3) := dk_181 0 17 (dk_at dksJ3_init_3_0 13 rfl rfl)
theorem dJ3_init_3_16 : decode cJ3_init_3 16 = .ok (.aload_n 0, 1) := dk_42 (dk_at dksJ3_init_3_0 16 rfl rfl)
theorem dJ3_init_3_17 : decode cJ3_init_3 17 = .ok (.getstatic 20, 3) := dk_178 0 20 (dk_at dksJ3_init_3_0 17 rfl rfl)
theorem dJ3_init_3_20 : decode cJ3_init_3 20 = .ok (.putfield 24, 3) := dk_181 0 24 (dk_at dksJ3_init_3_0 20 rfl rfl)
theorem dJ3_init_3_23 : decode cJ3_init_3 23 = .ok (.aload_n 0, 1) := dk_42 (dk_at dksJ3_init_3_0 23 rfl rfl)
theorem dJ3_init_3_24 : decode cJ3_init_3 24 = .ok (.invokevirtual 27, 3) := dk_182 0 27 (dk_at dksJ3_init_3_1 0 rfl rfl)
theorem dJ3_init_3_27 : decode cJ3_init_3 27 = .ok (.pop, 1) := dk_87 (dk_at dksJ3_init_3_1 3 rfl rfl)
theorem dJ3_init_3_28 : decode cJ3_init_3 28 = .ok (.aload_n 0, 1) := dk_42 (dk_at dksJ3_init_3_1 4 rfl rfl)
theorem dJ3_init_3_29 : decode cJ3_init_3 29 = .ok (.aload_n 1, 1) := dk_43 (dk_at dksJ3_init_3_1 5 rfl rfl)
theorem dJ3_init_3_30 : decode cJ3_init_3 30 = .ok (.putfield 31, 3) := dk_181 0 31 (dk_at dksJ3_init_3_1 6 rfl rfl)
theorem dJ3_init_3_33 : decode cJ3_init_3 33 = .ok (.aload_n 0, 1) := dk_42 (dk_at dksJ3_init_3_1 9 rfl rfl)
theorem dJ3_init_3_34 : decode cJ3_init_3 34 = .ok (.aload_n 2, 1) := dk_44 (dk_at dksJ3_init_3_1 10 rfl rfl)
theorem dJ3_init_3_35 : decode cJ3_init_3 35 = .ok (.putfield 7, 3) := dk_181 0 7 (dk_at dksJ3_init_3_1 11 rfl rfl)
theorem dJ3_init_3_38 : decode cJ3_init_3 38 = .ok (.return_, 1) := dk_177 (dk_at dksJ3_init_3_1 14 rfl rfl)
theorem q60 : (Jvm.Cond.initialized "java/lang/Throwable") ∈ lw_all := lw_g (lw_at lw_m1 8 rfl) rfl
theorem q291 : (Jvm.Cond.declares ({ cls := "java/lang/Throwable", name := "<init>", desc := "()V" } : Jvm.MethodName)) ∈ lw_tbl := lw_at lw_m1 239 rfl
theorem q292 : (Jvm.Cond.declares ({ cls := "java/lang/Throwable", name := "<init>", desc := "(Ljava/lang/String;)V" } : Jvm.MethodName)) ∈ lw_tbl := lw_at lw_m2 0 rfl
theorem q296 : (Jvm.Cond.lays "java/lang/Throwable" "java/lang/Throwable" "cause" "Ljava/lang/Throwable;") ∈ lw_all := lw_g (lw_at lw_m2 4 rfl) rfl
theorem q298 : (Jvm.Cond.lays "java/lang/Throwable" "java/lang/Throwable" "stackTrace" "[Ljava/lang/StackTraceElement;") ∈ lw_all := lw_g (lw_at lw_m2 6 rfl) rfl
theorem q300 : (Jvm.Cond.lays "java/lang/Throwable" "java/lang/Throwable" "suppressedExceptions" "Ljava/util/List;") ∈ lw_all := lw_g (lw_at lw_m2 8 rfl) rfl
theorem q302 : (Jvm.Cond.lays "java/lang/Throwable" "java/lang/Throwable" "detailMessage" "Ljava/lang/String;") ∈ lw_all := lw_g (lw_at lw_m2 10 rfl) rfl
theorem q304 : (Jvm.Cond.lays "java/lang/Throwable" "java/lang/Throwable" "backtrace" "Ljava/lang/Object;") ∈ lw_all := lw_g (lw_at lw_m2 12 rfl) rfl
theorem q305 : (Jvm.Cond.fieldLink "java/lang/Throwable" (198 : Nat) "java/lang/Throwable" "backtrace" "Ljava/lang/Object;") ∈ lw_all := lw_g (lw_at lw_m2 13 rfl) rfl
theorem q306 : (Jvm.Cond.superclass "java/lang/Throwable" "java/lang/Object") ∈ lw_all := lw_g (lw_at lw_m2 14 rfl) rfl
theorem q307 : (Jvm.Cond.instanceMethod ({ cls := "java/lang/Throwable", name := "<init>", desc := "()V" } : Jvm.MethodName)) ∈ lw_all := lw_g (lw_at lw_m2 15 rfl) rfl
theorem q308 : (Jvm.Cond.code ({ cls := "java/lang/Throwable", name := "<init>", desc := "()V" } : Jvm.MethodName) prog_31_method_1_code (1 : Nat) (Option.none : Option Jvm.ClassFile.FieldType)) ∈ lw_all := lw_g (lw_at lw_m2 16 rfl) rfl
theorem q309 : (Jvm.Cond.methodLink "java/lang/Throwable" (1 : Nat) ({ cls := "java/lang/Object", name := "<init>", desc := "()V" } : Jvm.MethodName)) ∈ lw_all := lw_g (lw_at lw_m2 17 rfl) rfl
theorem q310 : (Jvm.Cond.fieldLink "java/lang/Throwable" (13 : Nat) "java/lang/Throwable" "UNASSIGNED_STACK" "[Ljava/lang/StackTraceElement;") ∈ lw_all := lw_g (lw_at lw_m2 18 rfl) rfl
theorem q311 : (Jvm.Cond.laysStatic "java/lang/Throwable" "UNASSIGNED_STACK" "[Ljava/lang/StackTraceElement;") ∈ lw_tbl := lw_at lw_m2 19 rfl
theorem q312 : (Jvm.Cond.fieldLink "java/lang/Throwable" (20 : Nat) "java/lang/Throwable" "SUPPRESSED_SENTINEL" "Ljava/util/List;") ∈ lw_all := lw_g (lw_at lw_m2 20 rfl) rfl
theorem q313 : (Jvm.Cond.laysStatic "java/lang/Throwable" "SUPPRESSED_SENTINEL" "Ljava/util/List;") ∈ lw_tbl := lw_at lw_m2 21 rfl
theorem q314 : (Jvm.Cond.methodLink "java/lang/Throwable" (27 : Nat) ({ cls := "java/lang/Throwable", name := "fillInStackTrace", desc := "()Ljava/lang/Throwable;" } : Jvm.MethodName)) ∈ lw_all := lw_g (lw_at lw_m2 22 rfl) rfl
theorem q315 : (Jvm.Cond.instanceMethod ({ cls := "java/lang/Throwable", name := "fillInStackTrace", desc := "()Ljava/lang/Throwable;" } : Jvm.MethodName)) ∈ lw_all := lw_g (lw_at lw_m2 23 rfl) rfl
theorem q316 : (Jvm.Cond.sameMethod "java/lang/Throwable" "java/lang/Throwable" "fillInStackTrace" "()Ljava/lang/Throwable;") ∈ lw_all := lw_g (lw_at lw_m2 24 rfl) rfl
theorem q319 : (Jvm.Cond.codeSync ({ cls := "java/lang/Throwable", name := "fillInStackTrace", desc := "()Ljava/lang/Throwable;" } : Jvm.MethodName) prog_31_method_18_code (1 : Nat) (Option.some (Jvm.ClassFile.FieldType.object "java/lang/Throwable"))) ∈ lw_all := lw_g (lw_at lw_m2 27 rfl) rfl
theorem q320 : (Jvm.Cond.methodLink "java/lang/Throwable" (202 : Nat) ({ cls := "java/lang/Throwable", name := "fillInStackTrace", desc := "(I)Ljava/lang/Throwable;" } : Jvm.MethodName)) ∈ lw_all := lw_g (lw_at lw_m2 28 rfl) rfl
theorem q321 : (Jvm.Cond.privateMethod ({ cls := "java/lang/Throwable", name := "fillInStackTrace", desc := "(I)Ljava/lang/Throwable;" } : Jvm.MethodName)) ∈ lw_tbl := lw_at lw_m2 29 rfl
theorem q322 : (Jvm.Cond.instanceMethod ({ cls := "java/lang/Throwable", name := "fillInStackTrace", desc := "(I)Ljava/lang/Throwable;" } : Jvm.MethodName)) ∈ lw_all := lw_g (lw_at lw_m2 30 rfl) rfl
theorem q323 : (Jvm.Cond.instantiable "java/lang/Throwable" (6 : Nat)) ∈ lw_all := lw_g (lw_at lw_m2 31 rfl) rfl
theorem q324 : (Jvm.Cond.native ({ cls := "java/lang/Throwable", name := "fillInStackTrace", desc := "(I)Ljava/lang/Throwable;" } : Jvm.MethodName)) ∈ lw_all := lw_g (lw_at lw_m2 32 rfl) rfl
theorem q333 : (Jvm.Cond.instanceMethod ({ cls := "java/lang/Throwable", name := "<init>", desc := "(Ljava/lang/String;)V" } : Jvm.MethodName)) ∈ lw_all := lw_g (lw_at lw_m2 41 rfl) rfl
theorem q334 : (Jvm.Cond.code ({ cls := "java/lang/Throwable", name := "<init>", desc := "(Ljava/lang/String;)V" } : Jvm.MethodName) prog_31_method_2_code (2 : Nat) (Option.none : Option Jvm.ClassFile.FieldType)) ∈ lw_all := lw_g (lw_at lw_m2 42 rfl) rfl
theorem q337 : (Jvm.Cond.fieldLink "java/lang/Throwable" (198 : Nat) "java/lang/Throwable" "backtrace" "Ljava/lang/Object;") ∈ lw_all := lw_g (lw_at lw_m2 45 rfl) rfl
theorem q338 : (Jvm.Cond.fieldLink "java/lang/Throwable" (31 : Nat) "java/lang/Throwable" "detailMessage" "Ljava/lang/String;") ∈ lw_all := lw_g (lw_at lw_m2 46 rfl) rfl
theorem q339 : (Jvm.Cond.fieldLink "java/lang/Throwable" (7 : Nat) "java/lang/Throwable" "cause" "Ljava/lang/Throwable;") ∈ lw_all := lw_g (lw_at lw_m2 47 rfl) rfl
theorem q340 : (Jvm.Cond.fieldLink "java/lang/Throwable" (17 : Nat) "java/lang/Throwable" "stackTrace" "[Ljava/lang/StackTraceElement;") ∈ lw_all := lw_g (lw_at lw_m2 48 rfl) rfl
theorem q341 : (Jvm.Cond.fieldLink "java/lang/Throwable" (24 : Nat) "java/lang/Throwable" "suppressedExceptions" "Ljava/util/List;") ∈ lw_all := lw_g (lw_at lw_m2 49 rfl) rfl
theorem q344 : (Jvm.Cond.soleField "java/lang/Throwable" "backtrace") ∈ lw_all := lw_g (lw_at lw_m2 52 rfl) rfl
theorem q345 : (Jvm.Cond.soleField "java/lang/Throwable" "detailMessage") ∈ lw_all := lw_g (lw_at lw_m2 53 rfl) rfl
theorem q346 : (Jvm.Cond.soleField "java/lang/Throwable" "cause") ∈ lw_all := lw_g (lw_at lw_m2 54 rfl) rfl
theorem q347 : (Jvm.Cond.soleField "java/lang/Throwable" "stackTrace") ∈ lw_all := lw_g (lw_at lw_m2 55 rfl) rfl
theorem q349 : (Jvm.Cond.soleField "java/lang/Throwable" "depth") ∈ lw_all := lw_g (lw_at lw_m2 57 rfl) rfl
theorem q350 : (Jvm.Cond.soleField "java/lang/Throwable" "suppressedExceptions") ∈ lw_all := lw_g (lw_at lw_m2 58 rfl) rfl
theorem q368 : (Jvm.Cond.instanceMethod ({ cls := "java/lang/Throwable", name := "<init>", desc := "(Ljava/lang/String;Ljava/lang/Throwable;)V" } : Jvm.MethodName)) ∈ lw_all := lw_g (lw_at lw_m2 76 rfl) rfl
theorem q369 : (Jvm.Cond.code ({ cls := "java/lang/Throwable", name := "<init>", desc := "(Ljava/lang/String;Ljava/lang/Throwable;)V" } : Jvm.MethodName) prog_31_method_3_code (3 : Nat) (Option.none : Option Jvm.ClassFile.FieldType)) ∈ lw_all := lw_g (lw_at lw_m2 77 rfl) rfl
theorem q374 : (Jvm.Cond.declares ({ cls := "java/lang/Throwable", name := "getCause", desc := "()Ljava/lang/Throwable;" } : Jvm.MethodName)) ∈ lw_tbl := lw_at lw_m2 82 rfl
theorem q376 : (Jvm.Cond.instanceMethod ({ cls := "java/lang/Throwable", name := "getCause", desc := "()Ljava/lang/Throwable;" } : Jvm.MethodName)) ∈ lw_all := lw_g (lw_at lw_m2 84 rfl) rfl
theorem q377 : (Jvm.Cond.codeSync ({ cls := "java/lang/Throwable", name := "getCause", desc := "()Ljava/lang/Throwable;" } : Jvm.MethodName) prog_31_method_8_code (1 : Nat) (Option.some (Jvm.ClassFile.FieldType.object "java/lang/Throwable"))) ∈ lw_all := lw_g (lw_at lw_m2 85 rfl) rfl
theorem q1863 : (Jvm.Cond.sameMethod "java/lang/Throwable" "java/lang/Throwable" "fillInStackTrace" "(I)Ljava/lang/Throwable;") ∈ lw_all := lw_g (lw_at lw_m8 131 rfl) rfl
theorem q1889 : (Jvm.Cond.castable "java/lang/Throwable" "java/lang/Object") ∈ lw_tbl := lw_at lw_m8 157 rfl
theorem in_J3 : ∀ w ∈ wsJ30, w ∈ lw_all := lw_in wsJ30 [296, 298, 300, 302, 304] (by decide +kernel) (by decide +kernel)

/-! java/lang/Exception -/
set_option maxRecDepth 100000
def RJ4 : String := "java/lang/Exception"
abbrev cJ4_init : ByteArray := prog_18_method_2_code
def yJ4_init : MethodName := ⟨RJ4, "<init>", "(Ljava/lang/String;)V"⟩
def dkwJ4_init_0 : List UInt8 := [42, 43, 183, 0, 7, 177]
abbrev dktJ4_init_0 : List UInt8 := dkwJ4_init_0 ++ []
theorem dksJ4_init_0 : cJ4_init.data.toList.drop 0 = dktJ4_init_0 := by decide +kernel
theorem dJ4_init_0 : decode cJ4_init 0 = .ok (.aload_n 0, 1) := dk_42 (dk_at dksJ4_init_0 0 rfl rfl)
theorem dJ4_init_1 : decode cJ4_init 1 = .ok (.aload_n 1, 1) := dk_43 (dk_at dksJ4_init_0 1 rfl rfl)
theorem dJ4_init_2 : decode cJ4_init 2 = .ok (.invokespecial 7, 3) := dk_183 0 7 (dk_at dksJ4_init_0 2 rfl rfl)
theorem dJ4_init_5 : decode cJ4_init 5 = .ok (.return_, 1) := dk_177 (dk_at dksJ4_init_0 5 rfl rfl)
abbrev cJ4_init_2 : ByteArray := prog_18_method_3_code
def yJ4_init_2 : MethodName := ⟨RJ4, "<init>", "(Ljava/lang/String;Ljava/lang/Throwable;)V"⟩
def dkwJ4_init_2_0 : List UInt8 := [42, 43, 44, 183, 0, 10, 177]
abbrev dktJ4_init_2_0 : List UInt8 := dkwJ4_init_2_0 ++ []
theorem dksJ4_init_2_0 : cJ4_init_2.data.toList.drop 0 = dktJ4_init_2_0 := by decide +kernel
theorem dJ4_init_2_0 : decode cJ4_init_2 0 = .ok (.aload_n 0, 1) := dk_42 (dk_at dksJ4_init_2_0 0 rfl rfl)
theorem dJ4_init_2_1 : decode cJ4_init_2 1 = .ok (.aload_n 1, 1) := dk_43 (dk_at dksJ4_init_2_0 1 rfl rfl)
theorem dJ4_init_2_2 : decode cJ4_init_2 2 = .ok (.aload_n 2, 1) := dk_44 (dk_at dksJ4_init_2_0 2 rfl rfl)
theorem dJ4_init_2_3 : decode cJ4_init_2 3 = .ok (.invokespecial 10, 3) := dk_183 0 10 (dk_at dksJ4_init_2_0 3 rfl rfl)
theorem dJ4_init_2_6 : decode cJ4_init_2 6 = .ok (.return_, 1) := dk_177 (dk_at dksJ4_init_2_0 6 rfl rfl)
theorem q61 : (Jvm.Cond.initialized "java/lang/Exception") ∈ lw_all := lw_g (lw_at lw_m1 9 rfl) rfl
theorem q289 : (Jvm.Cond.declares ({ cls := "java/lang/Exception", name := "<init>", desc := "()V" } : Jvm.MethodName)) ∈ lw_tbl := lw_at lw_m1 237 rfl
theorem q290 : (Jvm.Cond.declares ({ cls := "java/lang/Exception", name := "<init>", desc := "(Ljava/lang/String;)V" } : Jvm.MethodName)) ∈ lw_tbl := lw_at lw_m1 238 rfl
theorem q330 : (Jvm.Cond.instanceMethod ({ cls := "java/lang/Exception", name := "<init>", desc := "(Ljava/lang/String;)V" } : Jvm.MethodName)) ∈ lw_all := lw_g (lw_at lw_m2 38 rfl) rfl
theorem q331 : (Jvm.Cond.code ({ cls := "java/lang/Exception", name := "<init>", desc := "(Ljava/lang/String;)V" } : Jvm.MethodName) prog_18_method_2_code (2 : Nat) (Option.none : Option Jvm.ClassFile.FieldType)) ∈ lw_all := lw_g (lw_at lw_m2 39 rfl) rfl
theorem q332 : (Jvm.Cond.methodLink "java/lang/Exception" (7 : Nat) ({ cls := "java/lang/Throwable", name := "<init>", desc := "(Ljava/lang/String;)V" } : Jvm.MethodName)) ∈ lw_all := lw_g (lw_at lw_m2 40 rfl) rfl
theorem q365 : (Jvm.Cond.instanceMethod ({ cls := "java/lang/Exception", name := "<init>", desc := "(Ljava/lang/String;Ljava/lang/Throwable;)V" } : Jvm.MethodName)) ∈ lw_all := lw_g (lw_at lw_m2 73 rfl) rfl
theorem q366 : (Jvm.Cond.code ({ cls := "java/lang/Exception", name := "<init>", desc := "(Ljava/lang/String;Ljava/lang/Throwable;)V" } : Jvm.MethodName) prog_18_method_3_code (3 : Nat) (Option.none : Option Jvm.ClassFile.FieldType)) ∈ lw_all := lw_g (lw_at lw_m2 74 rfl) rfl
theorem q367 : (Jvm.Cond.methodLink "java/lang/Exception" (10 : Nat) ({ cls := "java/lang/Throwable", name := "<init>", desc := "(Ljava/lang/String;Ljava/lang/Throwable;)V" } : Jvm.MethodName)) ∈ lw_all := lw_g (lw_at lw_m2 75 rfl) rfl

/-! java/util/AbstractMap -/
set_option maxRecDepth 100000
def RJ5 : String := "java/util/AbstractMap"
abbrev cJ5_init : ByteArray := prog_36_method_1_code
def yJ5_init : MethodName := ⟨RJ5, "<init>", "()V"⟩
theorem dJ5_init_0 : decode cJ5_init 0 = .ok (.aload_n 0, 1) := by decide +kernel
theorem dJ5_init_1 : decode cJ5_init 1 = .ok (.invokespecial 1, 3) := by decide +kernel
theorem dJ5_init_4 : decode cJ5_init 4 = .ok (.return_, 1) := by decide +kernel
theorem q65 : (Jvm.Cond.initialized "java/util/AbstractMap") ∈ lw_all := lw_g (lw_at lw_m1 13 rfl) rfl
theorem q465 : (Jvm.Cond.instanceMethod ({ cls := "java/util/AbstractMap", name := "<init>", desc := "()V" } : Jvm.MethodName)) ∈ lw_all := lw_g (lw_at lw_m2 173 rfl) rfl
theorem q466 : (Jvm.Cond.code ({ cls := "java/util/AbstractMap", name := "<init>", desc := "()V" } : Jvm.MethodName) prog_36_method_1_code (1 : Nat) (Option.none : Option Jvm.ClassFile.FieldType)) ∈ lw_all := lw_g (lw_at lw_m2 174 rfl) rfl
theorem q467 : (Jvm.Cond.methodLink "java/util/AbstractMap" (1 : Nat) ({ cls := "java/lang/Object", name := "<init>", desc := "()V" } : Jvm.MethodName)) ∈ lw_all := lw_g (lw_at lw_m2 175 rfl) rfl
theorem q506 : (Jvm.Cond.soleField "java/util/AbstractMap" "keySet") ∈ lw_all := lw_g (lw_at lw_m2 214 rfl) rfl
theorem q508 : (Jvm.Cond.soleField "java/util/AbstractMap" "values") ∈ lw_all := lw_g (lw_at lw_m2 216 rfl) rfl

/-! java/util/HashMap -/
set_option maxRecDepth 100000
def RJ6 : String := "java/util/HashMap"
abbrev cJ6_init : ByteArray := prog_41_method_7_code
def yJ6_init : MethodName := ⟨RJ6, "<init>", "()V"⟩
def dkwJ6_init_0 : List UInt8 := [42, 183, 0, 43, 42, 18, 92, 181, 0, 81, 177]
abbrev dktJ6_init_0 : List UInt8 := dkwJ6_init_0 ++ []
theorem dksJ6_init_0 : cJ6_init.data.toList.drop 0 = dktJ6_init_0 := by decide +kernel
theorem dJ6_init_0 : decode cJ6_init 0 = .ok (.aload_n 0, 1) := dk_42 (dk_at dksJ6_init_0 0 rfl rfl)
theorem dJ6_init_1 : decode cJ6_init 1 = .ok (.invokespecial 43, 3) := dk_183 0 43 (dk_at dksJ6_init_0 1 rfl rfl)
theorem dJ6_init_4 : decode cJ6_init 4 = .ok (.aload_n 0, 1) := dk_42 (dk_at dksJ6_init_0 4 rfl rfl)
theorem dJ6_init_5 : decode cJ6_init 5 = .ok (.ldc 92, 2) := dk_18 92 (dk_at dksJ6_init_0 5 rfl rfl)
theorem dJ6_init_7 : decode cJ6_init 7 = .ok (.putfield 81, 3) := dk_181 0 81 (dk_at dksJ6_init_0 7 rfl rfl)
theorem dJ6_init_10 : decode cJ6_init 10 = .ok (.return_, 1) := dk_177 (dk_at dksJ6_init_0 10 rfl rfl)
abbrev cJ6_put : ByteArray := prog_41_method_15_code
def yJ6_put : MethodName := ⟨RJ6, "put", "(Ljava/lang/Object;Ljava/lang/Object;)Ljava/lang/Object;"⟩
def dkwJ6_put_0 : List UInt8 := [42, 43, 184, 0, 149, 43, 44, 3, 4, 182, 0, 152, 176]
abbrev dktJ6_put_0 : List UInt8 := dkwJ6_put_0 ++ []
theorem dksJ6_put_0 : cJ6_put.data.toList.drop 0 = dktJ6_put_0 := by decide +kernel
theorem dJ6_put_0 : decode cJ6_put 0 = .ok (.aload_n 0, 1) := dk_42 (dk_at dksJ6_put_0 0 rfl rfl)
theorem dJ6_put_1 : decode cJ6_put 1 = .ok (.aload_n 1, 1) := dk_43 (dk_at dksJ6_put_0 1 rfl rfl)
theorem dJ6_put_2 : decode cJ6_put 2 = .ok (.invokestatic 149, 3) := dk_184 0 149 (dk_at dksJ6_put_0 2 rfl rfl)
theorem dJ6_put_5 : decode cJ6_put 5 = .ok (.aload_n 1, 1) := dk_43 (dk_at dksJ6_put_0 5 rfl rfl)
theorem dJ6_put_6 : decode cJ6_put 6 = .ok (.aload_n 2, 1) := dk_44 (dk_at dksJ6_put_0 6 rfl rfl)
theorem dJ6_put_7 : decode cJ6_put 7 = .ok (.iconst 0, 1) := dk_3 (dk_at dksJ6_put_0 7 rfl rfl)
theorem dJ6_put_8 : decode cJ6_put 8 = .ok (.iconst 1, 1) := dk_4 (dk_at dksJ6_put_0 8 rfl rfl)
theorem dJ6_put_9 : decode cJ6_put 9 = .ok (.invokevirtual 152, 3) := dk_182 0 152 (dk_at dksJ6_put_0 9 rfl rfl)
theorem dJ6_put_12 : decode cJ6_put 12 = .ok (.areturn, 1) := dk_176 (dk_at dksJ6_put_0 12 rfl rfl)
abbrev cJ6_hash : ByteArray := prog_41_method_1_code
def yJ6_hash : MethodName := ⟨RJ6, "hash", "(Ljava/lang/Object;)I"⟩
def dkwJ6_hash_0 : List UInt8 := [42, 199, 0, 7, 3, 167, 0, 14, 42, 182, 0, 1, 89, 60, 27, 16, 16, 124, 130, 172]
abbrev dktJ6_hash_0 : List UInt8 := dkwJ6_hash_0 ++ []
theorem dksJ6_hash_0 : cJ6_hash.data.toList.drop 0 = dktJ6_hash_0 := by decide +kernel
theorem dJ6_hash_0 : decode cJ6_hash 0 = .ok (.aload_n 0, 1) := dk_42 (dk_at dksJ6_hash_0 0 rfl rfl)
theorem dJ6_hash_1 : decode cJ6_hash 1 = .ok (.ifnonnull 7, 3) := dk_199 0 7 (dk_at dksJ6_hash_0 1 rfl rfl)
theorem dJ6_hash_4 : decode cJ6_hash 4 = .ok (.iconst 0, 1) := dk_3 (dk_at dksJ6_hash_0 4 rfl rfl)
theorem dJ6_hash_5 : decode cJ6_hash 5 = .ok (.goto 14, 3) := dk_167 0 14 (dk_at dksJ6_hash_0 5 rfl rfl)
theorem dJ6_hash_8 : decode cJ6_hash 8 = .ok (.aload_n 0, 1) := dk_42 (dk_at dksJ6_hash_0 8 rfl rfl)
theorem dJ6_hash_9 : decode cJ6_hash 9 = .ok (.invokevirtual 1, 3) := dk_182 0 1 (dk_at dksJ6_hash_0 9 rfl rfl)
theorem dJ6_hash_12 : decode cJ6_hash 12 = .ok (.dup, 1) := dk_89 (dk_at dksJ6_hash_0 12 rfl rfl)
theorem dJ6_hash_13 : decode cJ6_hash 13 = .ok (.istore_n 1, 1) := dk_60 (dk_at dksJ6_hash_0 13 rfl rfl)
theorem dJ6_hash_14 : decode cJ6_hash 14 = .ok (.iload_n 1, 1) := dk_27 (dk_at dksJ6_hash_0 14 rfl rfl)
theorem dJ6_hash_15 : decode cJ6_hash 15 = .ok (.bipush 16, 2) := dk_16 16 (dk_at dksJ6_hash_0 15 rfl rfl)
theorem dJ6_hash_17 : decode cJ6_hash 17 = .ok (.iushr, 1) := dk_124 (dk_at dksJ6_hash_0 17 rfl rfl)
theorem dJ6_hash_18 : decode cJ6_hash 18 = .ok (.ixor, 1) := dk_130 (dk_at dksJ6_hash_0 18 rfl rfl)
theorem dJ6_hash_19 : decode cJ6_hash 19 = .ok (.ireturn, 1) := dk_172 (dk_at dksJ6_hash_0 19 rfl rfl)
abbrev cJ6_putVal : ByteArray := prog_41_method_16_code
def yJ6_putVal : MethodName := ⟨RJ6, "putVal", "(ILjava/lang/Object;Ljava/lang/Object;ZZ)Ljava/lang/Object;"⟩
def dkwJ6_putVal_12 : List UInt8 := [181, 0, 156, 42, 180, 0, 88, 164, 0, 8, 42, 182, 0, 117, 87, 42, 21, 5, 182, 0, 205, 1, 176]
abbrev dktJ6_putVal_12 : List UInt8 := dkwJ6_putVal_12 ++ []
def dkwJ6_putVal_11 : List UInt8 := [182, 0, 198, 25, 12, 176, 42, 89, 180, 0, 202, 4, 96, 181, 0, 202, 42, 89, 180, 0, 156, 4, 96, 90]
abbrev dktJ6_putVal_11 : List UInt8 := dkwJ6_putVal_11 ++ dktJ6_putVal_12
def dkwJ6_putVal_10 : List UInt8 := [180, 0, 162, 58, 12, 21, 4, 153, 0, 8, 25, 12, 199, 0, 9, 25, 10, 45, 181, 0, 162, 42, 25, 10]
abbrev dktJ6_putVal_10 : List UInt8 := dkwJ6_putVal_10 ++ dktJ6_putVal_11
def dkwJ6_putVal_9 : List UInt8 := [153, 0, 6, 167, 0, 13, 25, 10, 58, 7, 132, 12, 1, 167, 255, 171, 25, 10, 198, 0, 35, 25, 10]
abbrev dktJ6_putVal_9 : List UInt8 := dkwJ6_putVal_9 ++ dktJ6_putVal_10
def dkwJ6_putVal_8 : List UInt8 := [25, 10, 180, 0, 170, 89, 58, 11, 44, 165, 0, 29, 44, 198, 0, 15, 44, 25, 11, 182, 0, 173]
abbrev dktJ6_putVal_8 : List UInt8 := dkwJ6_putVal_8 ++ dktJ6_putVal_9
def dkwJ6_putVal_7 : List UInt8 := [16, 7, 161, 0, 60, 42, 25, 6, 27, 182, 0, 194, 167, 0, 50, 25, 10, 180, 0, 168, 27, 160, 0, 31]
abbrev dktJ6_putVal_7 : List UInt8 := dkwJ6_putVal_7 ++ dktJ6_putVal_8
def dkwJ6_putVal_6 : List UInt8 := [180, 0, 177, 89, 58, 10, 199, 0, 33, 25, 7, 42, 27, 44, 45, 1, 182, 0, 186, 181, 0, 177, 21, 12]
abbrev dktJ6_putVal_6 : List UInt8 := dkwJ6_putVal_6 ++ dktJ6_putVal_7
def dkwJ6_putVal_5 : List UInt8 := [192, 0, 180, 42, 25, 6, 27, 44, 45, 182, 0, 190, 58, 10, 167, 0, 94, 3, 54, 12, 25, 7]
abbrev dktJ6_putVal_5 : List UInt8 := dkwJ6_putVal_5 ++ dktJ6_putVal_6
def dkwJ6_putVal_4 : List UInt8 := [182, 0, 173, 153, 0, 10, 25, 7, 58, 10, 167, 0, 121, 25, 7, 193, 0, 180, 153, 0, 22, 25, 7]
abbrev dktJ6_putVal_4 : List UInt8 := dkwJ6_putVal_4 ++ dktJ6_putVal_5
def dkwJ6_putVal_3 : List UInt8 := [160, 0, 35, 25, 7, 180, 0, 170, 89, 58, 11, 44, 165, 0, 16, 44, 198, 0, 19, 44, 25, 11]
abbrev dktJ6_putVal_3 : List UInt8 := dkwJ6_putVal_3 ++ dktJ6_putVal_4
def dkwJ6_putVal_2 : List UInt8 := [25, 6, 21, 9, 42, 27, 44, 45, 1, 182, 0, 186, 83, 167, 0, 199, 25, 7, 180, 0, 168, 27]
abbrev dktJ6_putVal_2 : List UInt8 := dkwJ6_putVal_2 ++ dktJ6_putVal_3
def dkwJ6_putVal_1 : List UInt8 := [58, 6, 190, 54, 8, 25, 6, 21, 8, 4, 100, 27, 126, 89, 54, 9, 50, 89, 58, 7, 199, 0, 19]
abbrev dktJ6_putVal_1 : List UInt8 := dkwJ6_putVal_1 ++ dktJ6_putVal_2
def dkwJ6_putVal_0 : List UInt8 := [42, 180, 0, 105, 89, 58, 6, 198, 0, 12, 25, 6, 190, 89, 54, 8, 154, 0, 13, 42, 182, 0, 117, 89]
abbrev dktJ6_putVal_0 : List UInt8 := dkwJ6_putVal_0 ++ dktJ6_putVal_1
theorem dksJ6_putVal_0 : cJ6_putVal.data.toList.drop 0 = dktJ6_putVal_0 := by decide +kernel
theorem dksJ6_putVal_1 : cJ6_putVal.data.toList.drop 24 = dktJ6_putVal_1 := dk_seg dksJ6_putVal_0 24 rfl rfl
theorem dksJ6_putVal_2 : cJ6_putVal.data.toList.drop 47 = dktJ6_putVal_2 := dk_seg dksJ6_putVal_1 23 rfl rfl
theorem dksJ6_putVal_3 : cJ6_putVal.data.toList.drop 69 = dktJ6_putVal_3 := dk_seg dksJ6_putVal_2 22 rfl rfl
theorem dksJ6_putVal_4 : cJ6_putVal.data.toList.drop 91 = dktJ6_putVal_4 := dk_seg dksJ6_putVal_3 22 rfl rfl
theorem dksJ6_putVal_5 : cJ6_putVal.data.toList.drop 114 = dktJ6_putVal_5 := dk_seg dksJ6_putVal_4 23 rfl rfl
theorem dksJ6_putVal_6 : cJ6_putVal.data.toList.drop 136 = dktJ6_putVal_6 := dk_seg dksJ6_putVal_5 22 rfl rfl
theorem dksJ6_putVal_7 : cJ6_putVal.data.toList.drop 160 = dktJ6_putVal_7 := dk_seg dksJ6_putVal_6 24 rfl rfl
theorem dksJ6_putVal_8 : cJ6_putVal.data.toList.drop 184 = dktJ6_putVal_8 := dk_seg dksJ6_putVal_7 24 rfl rfl
theorem dksJ6_putVal_9 : cJ6_putVal.data.toList.drop 206 = dktJ6_putVal_9 := dk_seg dksJ6_putVal_8 22 rfl rfl
theorem dksJ6_putVal_10 : cJ6_putVal.data.toList.drop 229 = dktJ6_putVal_10 := dk_seg dksJ6_putVal_9 23 rfl rfl
theorem dksJ6_putVal_11 : cJ6_putVal.data.toList.drop 253 = dktJ6_putVal_11 := dk_seg dksJ6_putVal_10 24 rfl rfl
theorem dksJ6_putVal_12 : cJ6_putVal.data.toList.drop 277 = dktJ6_putVal_12 := dk_seg dksJ6_putVal_11 24 rfl rfl
theorem dJ6_putVal_0 : decode cJ6_putVal 0 = .ok (.aload_n 0, 1) := dk_42 (dk_at dksJ6_putVal_0 0 rfl rfl)
theorem dJ6_putVal_1 : decode cJ6_putVal 1 = .ok (.getfield 105, 3) := dk_180 0 105 (dk_at dksJ6_putVal_0 1 rfl rfl)
theorem dJ6_putVal_4 : decode cJ6_putVal 4 = .ok (.dup, 1) := dk_89 (dk_at dksJ6_putVal_0 4 rfl rfl)
theorem dJ6_putVal_5 : decode cJ6_putVal 5 = .ok (.astore 6, 2) := dk_58 6 (dk_at dksJ6_putVal_0 5 rfl rfl)
theorem dJ6_putVal_7 : decode cJ6_putVal 7 = .ok (.ifnull 12, 3) := dk_198 0 12 (dk_at dksJ6_putVal_0 7 rfl rfl)
theorem dJ6_putVal_10 : decode cJ6_putVal 10 = .ok (.aload 6, 2) := dk_25 6 (dk_at dksJ6_putVal_0 10 rfl rfl)
theorem dJ6_putVal_12 : decode cJ6_putVal 12 = .ok (.arraylength, 1) := dk_190 (dk_at dksJ6_putVal_0 12 rfl rfl)
theorem dJ6_putVal_13 : decode cJ6_putVal 13 = .ok (.dup, 1) := dk_89 (dk_at dksJ6_putVal_0 13 rfl rfl)
theorem dJ6_putVal_14 : decode cJ6_putVal 14 = .ok (.istore 8, 2) := dk_54 8 (dk_at dksJ6_putVal_0 14 rfl rfl)
theorem dJ6_putVal_16 : decode cJ6_putVal 16 = .ok (.ifCond .ne 13, 3) := dk_154 0 13 (dk_at dksJ6_putVal_0 16 rfl rfl)
theorem dJ6_putVal_19 : decode cJ6_putVal 19 = .ok (.aload_n 0, 1) := dk_42 (dk_at dksJ6_putVal_0 19 rfl rfl)
theorem dJ6_putVal_20 : decode cJ6_putVal 20 = .ok (.invokevirtual 117, 3) := dk_182 0 117 (dk_at dksJ6_putVal_0 20 rfl rfl)
theorem dJ6_putVal_23 : decode cJ6_putVal 23 = .ok (.dup, 1) := dk_89 (dk_at dksJ6_putVal_0 23 rfl rfl)
theorem dJ6_putVal_24 : decode cJ6_putVal 24 = .ok (.astore 6, 2) := dk_58 6 (dk_at dksJ6_putVal_1 0 rfl rfl)
theorem dJ6_putVal_26 : decode cJ6_putVal 26 = .ok (.arraylength, 1) := dk_190 (dk_at dksJ6_putVal_1 2 rfl rfl)
theorem dJ6_putVal_27 : decode cJ6_putVal 27 = .ok (.istore 8, 2) := dk_54 8 (dk_at dksJ6_putVal_1 3 rfl rfl)
theorem dJ6_putVal_29 : decode cJ6_putVal 29 = .ok (.aload 6, 2) := dk_25 6 (dk_at dksJ6_putVal_1 5 rfl rfl)
theorem dJ6_putVal_31 : decode cJ6_putVal 31 = .ok (.iload 8, 2) := dk_21 8 (dk_at dksJ6_putVal_1 7 rfl rfl)
theorem dJ6_putVal_33 : decode cJ6_putVal 33 = .ok (.iconst 1, 1) := dk_4 (dk_at dksJ6_putVal_1 9 rfl rfl)
theorem dJ6_putVal_34 : decode cJ6_putVal 34 = .ok (.isub, 1) := dk_100 (dk_at dksJ6_putVal_1 10 rfl rfl)
theorem dJ6_putVal_35 : decode cJ6_putVal 35 = .ok (.iload_n 1, 1) := dk_27 (dk_at dksJ6_putVal_1 11 rfl rfl)
theorem dJ6_putVal_36 : decode cJ6_putVal 36 = .ok (.iand, 1) := dk_126 (dk_at dksJ6_putVal_1 12 rfl rfl)
theorem dJ6_putVal_37 : decode cJ6_putVal 37 = .ok (.dup, 1) := dk_89 (dk_at dksJ6_putVal_1 13 rfl rfl)
theorem dJ6_putVal_38 : decode cJ6_putVal 38 = .ok (.istore 9, 2) := dk_54 9 (dk_at dksJ6_putVal_1 14 rfl rfl)
theorem dJ6_putVal_40 : decode cJ6_putVal 40 = .ok (.aaload, 1) := dk_50 (dk_at dksJ6_putVal_1 16 rfl rfl)
theorem dJ6_putVal_41 : decode cJ6_putVal 41 = .ok (.dup, 1) := dk_89 (dk_at dksJ6_putVal_1 17 rfl rfl)
theorem dJ6_putVal_42 : decode cJ6_putVal 42 = .ok (.astore 7, 2) := dk_58 7 (dk_at dksJ6_putVal_1 18 rfl rfl)
theorem dJ6_putVal_44 : decode cJ6_putVal 44 = .ok (.ifnonnull 19, 3) := dk_199 0 19 (dk_at dksJ6_putVal_1 20 rfl rfl)
theorem dJ6_putVal_47 : decode cJ6_putVal 47 = .ok (.aload 6, 2) := dk_25 6 (dk_at dksJ6_putVal_2 0 rfl rfl)
theorem dJ6_putVal_49 : decode cJ6_putVal 49 = .ok (.iload 9, 2) := dk_21 9 (dk_at dksJ6_putVal_2 2 rfl rfl)
theorem dJ6_putVal_51 : decode cJ6_putVal 51 = .ok (.aload_n 0, 1) := dk_42 (dk_at dksJ6_putVal_2 4 rfl rfl)
theorem dJ6_putVal_52 : decode cJ6_putVal 52 = .ok (.iload_n 1, 1) := dk_27 (dk_at dksJ6_putVal_2 5 rfl rfl)
theorem dJ6_putVal_53 : decode cJ6_putVal 53 = .ok (.aload_n 2, 1) := dk_44 (dk_at dksJ6_putVal_2 6 rfl rfl)
theorem dJ6_putVal_54 : decode cJ6_putVal 54 = .ok (.aload_n 3, 1) := dk_45 (dk_at dksJ6_putVal_2 7 rfl rfl)
theorem dJ6_putVal_55 : decode cJ6_putVal 55 = .ok (.aconst_null, 1) := dk_1 (dk_at dksJ6_putVal_2 8 rfl rfl)
theorem dJ6_putVal_56 : decode cJ6_putVal 56 = .ok (.invokevirtual 186, 3) := dk_182 0 186 (dk_at dksJ6_putVal_2 9 rfl rfl)
theorem dJ6_putVal_59 : decode cJ6_putVal 59 = .ok (.aastore, 1) := dk_83 (dk_at dksJ6_putVal_2 12 rfl rfl)
theorem dJ6_putVal_60 : decode cJ6_putVal 60 = .ok (.goto 199, 3) := dk_167 0 199 (dk_at dksJ6_putVal_2 13 rfl rfl)
theorem dJ6_putVal_63 : decode cJ6_putVal 63 = .ok (.aload 7, 2) := dk_25 7 (dk_at dksJ6_putVal_2 16 rfl rfl)
theorem dJ6_putVal_65 : decode cJ6_putVal 65 = .ok (.getfield 168, 3) := dk_180 0 168 (dk_at dksJ6_putVal_2 18 rfl rfl)
theorem dJ6_putVal_68 : decode cJ6_putVal 68 = .ok (.iload_n 1, 1) := dk_27 (dk_at dksJ6_putVal_2 21 rfl rfl)
theorem dJ6_putVal_69 : decode cJ6_putVal 69 = .ok (.if_icmp .ne 35, 3) := dk_160 0 35 (dk_at dksJ6_putVal_3 0 rfl rfl)
theorem dJ6_putVal_72 : decode cJ6_putVal 72 = .ok (.aload 7, 2) := dk_25 7 (dk_at dksJ6_putVal_3 3 rfl rfl)
theorem dJ6_putVal_74 : decode cJ6_putVal 74 = .ok (.getfield 170, 3) := dk_180 0 170 (dk_at dksJ6_putVal_3 5 rfl rfl)
theorem dJ6_putVal_77 : decode cJ6_putVal 77 = .ok (.dup, 1) := dk_89 (dk_at dksJ6_putVal_3 8 rfl rfl)
theorem dJ6_putVal_78 : decode cJ6_putVal 78 = .ok (.astore 11, 2) := dk_58 11 (dk_at dksJ6_putVal_3 9 rfl rfl)
theorem dJ6_putVal_80 : decode cJ6_putVal 80 = .ok (.aload_n 2, 1) := dk_44 (dk_at dksJ6_putVal_3 11 rfl rfl)
theorem dJ6_putVal_81 : decode cJ6_putVal 81 = .ok (.if_acmp .eq 16, 3) := dk_165 0 16 (dk_at dksJ6_putVal_3 12 rfl rfl)
theorem dJ6_putVal_84 : decode cJ6_putVal 84 = .ok (.aload_n 2, 1) := dk_44 (dk_at dksJ6_putVal_3 15 rfl rfl)
theorem dJ6_putVal_85 : decode cJ6_putVal 85 = .ok (.ifnull 19, 3) := dk_198 0 19 (dk_at dksJ6_putVal_3 16 rfl rfl)
theorem dJ6_putVal_88 : decode cJ6_putVal 88 = .ok (.aload_n 2, 1) := dk_44 (dk_at dksJ6_putVal_3 19 rfl rfl)
theorem dJ6_putVal_89 : decode cJ6_putVal 89 = .ok (.aload 11, 2) := dk_25 11 (dk_at dksJ6_putVal_3 20 rfl rfl)
theorem dJ6_putVal_91 : decode cJ6_putVal 91 = .ok (.invokevirtual 173, 3) := dk_182 0 173 (dk_at dksJ6_putVal_4 0 rfl rfl)
theorem dJ6_putVal_94 : decode cJ6_putVal 94 = .ok (.ifCond .eq 10, 3) := dk_153 0 10 (dk_at dksJ6_putVal_4 3 rfl rfl)
theorem dJ6_putVal_97 : decode cJ6_putVal 97 = .ok (.aload 7, 2) := dk_25 7 (dk_at dksJ6_putVal_4 6 rfl rfl)
theorem dJ6_putVal_99 : decode cJ6_putVal 99 = .ok (.astore 10, 2) := dk_58 10 (dk_at dksJ6_putVal_4 8 rfl rfl)
theorem dJ6_putVal_101 : decode cJ6_putVal 101 = .ok (.goto 121, 3) := dk_167 0 121 (dk_at dksJ6_putVal_4 10 rfl rfl)
theorem dJ6_putVal_104 : decode cJ6_putVal 104 = .ok (.aload 7, 2) := dk_25 7 (dk_at dksJ6_putVal_4 13 rfl rfl)
theorem dJ6_putVal_106 : decode cJ6_putVal 106 = .ok (.instanceof 180, 3) := dk_193 0 180 (dk_at dksJ6_putVal_4 15 rfl rfl)
theorem dJ6_putVal_109 : decode cJ6_putVal 109 = .ok (.ifCond .eq 22, 3) := dk_153 0 22 (dk_at dksJ6_putVal_4 18 rfl rfl)
theorem dJ6_putVal_112 : decode cJ6_putVal 112 = .ok (.aload 7, 2) := dk_25 7 (dk_at dksJ6_putVal_4 21 rfl rfl)
theorem dJ6_putVal_114 : decode cJ6_putVal 114 = .ok (.checkcast 180, 3) := dk_192 0 180 (dk_at dksJ6_putVal_5 0 rfl rfl)
theorem dJ6_putVal_117 : decode cJ6_putVal 117 = .ok (.aload_n 0, 1) := dk_42 (dk_at dksJ6_putVal_5 3 rfl rfl)
theorem dJ6_putVal_118 : decode cJ6_putVal 118 = .ok (.aload 6, 2) := dk_25 6 (dk_at dksJ6_putVal_5 4 rfl rfl)
theorem dJ6_putVal_120 : decode cJ6_putVal 120 = .ok (.iload_n 1, 1) := dk_27 (dk_at dksJ6_putVal_5 6 rfl rfl)
theorem dJ6_putVal_121 : decode cJ6_putVal 121 = .ok (.aload_n 2, 1) := dk_44 (dk_at dksJ6_putVal_5 7 rfl rfl)
theorem dJ6_putVal_122 : decode cJ6_putVal 122 = .ok (.aload_n 3, 1) := dk_45 (dk_at dksJ6_putVal_5 8 rfl rfl)
theorem dJ6_putVal_123 : decode cJ6_putVal 123 = .ok (.invokevirtual 190, 3) := dk_182 0 190 (dk_at dksJ6_putVal_5 9 rfl rfl)
theorem dJ6_putVal_126 : decode cJ6_putVal 126 = .ok (.astore 10, 2) := dk_58 10 (dk_at dksJ6_putVal_5 12 rfl rfl)
theorem dJ6_putVal_128 : decode cJ6_putVal 128 = .ok (.goto 94, 3) := dk_167 0 94 (dk_at dksJ6_putVal_5 14 rfl rfl)
theorem dJ6_putVal_131 : decode cJ6_putVal 131 = .ok (.iconst 0, 1) := dk_3 (dk_at dksJ6_putVal_5 17 rfl rfl)
theorem dJ6_putVal_132 : decode cJ6_putVal 132 = .ok (.istore 12, 2) := dk_54 12 (dk_at dksJ6_putVal_5 18 rfl rfl)
theorem dJ6_putVal_134 : decode cJ6_putVal 134 = .ok (.aload 7, 2) := dk_25 7 (dk_at dksJ6_putVal_5 20 rfl rfl)
theorem dJ6_putVal_136 : decode cJ6_putVal 136 = .ok (.getfield 177, 3) := dk_180 0 177 (dk_at dksJ6_putVal_6 0 rfl rfl)
theorem dJ6_putVal_139 : decode cJ6_putVal 139 = .ok (.dup, 1) := dk_89 (dk_at dksJ6_putVal_6 3 rfl rfl)
theorem dJ6_putVal_140 : decode cJ6_putVal 140 = .ok (.astore 10, 2) := dk_58 10 (dk_at dksJ6_putVal_6 4 rfl rfl)
theorem dJ6_putVal_142 : decode cJ6_putVal 142 = .ok (.ifnonnull 33, 3) := dk_199 0 33 (dk_at dksJ6_putVal_6 6 rfl rfl)
theorem dJ6_putVal_145 : decode cJ6_putVal 145 = .ok (.aload 7, 2) := dk_25 7 (dk_at dksJ6_putVal_6 9 rfl rfl)
theorem dJ6_putVal_147 : decode cJ6_putVal 147 = .ok (.aload_n 0, 1) := dk_42 (dk_at dksJ6_putVal_6 11 rfl rfl)
theorem dJ6_putVal_148 : decode cJ6_putVal 148 = .ok (.iload_n 1, 1) := dk_27 (dk_at dksJ6_putVal_6 12 rfl rfl)
theorem dJ6_putVal_149 : decode cJ6_putVal 149 = .ok (.aload_n 2, 1) := dk_44 (dk_at dksJ6_putVal_6 13 rfl rfl)
theorem dJ6_putVal_150 : decode cJ6_putVal 150 = .ok (.aload_n 3, 1) := dk_45 (dk_at dksJ6_putVal_6 14 rfl rfl)
theorem dJ6_putVal_151 : decode cJ6_putVal 151 = .ok (.aconst_null, 1) := dk_1 (dk_at dksJ6_putVal_6 15 rfl rfl)
theorem dJ6_putVal_152 : decode cJ6_putVal 152 = .ok (.invokevirtual 186, 3) := dk_182 0 186 (dk_at dksJ6_putVal_6 16 rfl rfl)
theorem dJ6_putVal_155 : decode cJ6_putVal 155 = .ok (.putfield 177, 3) := dk_181 0 177 (dk_at dksJ6_putVal_6 19 rfl rfl)
theorem dJ6_putVal_158 : decode cJ6_putVal 158 = .ok (.iload 12, 2) := dk_21 12 (dk_at dksJ6_putVal_6 22 rfl rfl)
theorem dJ6_putVal_160 : decode cJ6_putVal 160 = .ok (.bipush 7, 2) := dk_16 7 (dk_at dksJ6_putVal_7 0 rfl rfl)
theorem dJ6_putVal_162 : decode cJ6_putVal 162 = .ok (.if_icmp .lt 60, 3) := dk_161 0 60 (dk_at dksJ6_putVal_7 2 rfl rfl)
theorem dJ6_putVal_165 : decode cJ6_putVal 165 = .ok (.aload_n 0, 1) := dk_42 (dk_at dksJ6_putVal_7 5 rfl rfl)
theorem dJ6_putVal_166 : decode cJ6_putVal 166 = .ok (.aload 6, 2) := dk_25 6 (dk_at dksJ6_putVal_7 6 rfl rfl)
theorem dJ6_putVal_168 : decode cJ6_putVal 168 = .ok (.iload_n 1, 1) := dk_27 (dk_at dksJ6_putVal_7 8 rfl rfl)
theorem dJ6_putVal_169 : decode cJ6_putVal 169 = .ok (.invokevirtual 194, 3) := dk_182 0 194 (dk_at dksJ6_putVal_7 9 rfl rfl)
theorem dJ6_putVal_172 : decode cJ6_putVal 172 = .ok (.goto 50, 3) := dk_167 0 50 (dk_at dksJ6_putVal_7 12 rfl rfl)
theorem dJ6_putVal_175 : decode cJ6_putVal 175 = .ok (.aload 10, 2) := dk_25 10 (dk_at dksJ6_putVal_7 15 rfl rfl)
theorem dJ6_putVal_177 : decode cJ6_putVal 177 = .ok (.getfield 168, 3) := dk_180 0 168 (dk_at dksJ6_putVal_7 17 rfl rfl)
theorem dJ6_putVal_180 : decode cJ6_putVal 180 = .ok (.iload_n 1, 1) := dk_27 (dk_at dksJ6_putVal_7 20 rfl rfl)
theorem dJ6_putVal_181 : decode cJ6_putVal 181 = .ok (.if_icmp .ne 31, 3) := dk_160 0 31 (dk_at dksJ6_putVal_7 21 rfl rfl)
theorem dJ6_putVal_184 : decode cJ6_putVal 184 = .ok (.aload 10, 2) := dk_25 10 (dk_at dksJ6_putVal_8 0 rfl rfl)
theorem dJ6_putVal_186 : decode cJ6_putVal 186 = .ok (.getfield 170, 3) := dk_180 0 170 (dk_at dksJ6_putVal_8 2 rfl rfl)
theorem dJ6_putVal_189 : decode cJ6_putVal 189 = .ok (.dup, 1) := dk_89 (dk_at dksJ6_putVal_8 5 rfl rfl)
theorem dJ6_putVal_190 : decode cJ6_putVal 190 = .ok (.astore 11, 2) := dk_58 11 (dk_at dksJ6_putVal_8 6 rfl rfl)
theorem dJ6_putVal_192 : decode cJ6_putVal 192 = .ok (.aload_n 2, 1) := dk_44 (dk_at dksJ6_putVal_8 8 rfl rfl)
theorem dJ6_putVal_193 : decode cJ6_putVal 193 = .ok (.if_acmp .eq 29, 3) := dk_165 0 29 (dk_at dksJ6_putVal_8 9 rfl rfl)
theorem dJ6_putVal_196 : decode cJ6_putVal 196 = .ok (.aload_n 2, 1) := dk_44 (dk_at dksJ6_putVal_8 12 rfl rfl)
theorem dJ6_putVal_197 : decode cJ6_putVal 197 = .ok (.ifnull 15, 3) := dk_198 0 15 (dk_at dksJ6_putVal_8 13 rfl rfl)
theorem dJ6_putVal_200 : decode cJ6_putVal 200 = .ok (.aload_n 2, 1) := dk_44 (dk_at dksJ6_putVal_8 16 rfl rfl)
theorem dJ6_putVal_201 : decode cJ6_putVal 201 = .ok (.aload 11, 2) := dk_25 11 (dk_at dksJ6_putVal_8 17 rfl rfl)
theorem dJ6_putVal_203 : decode cJ6_putVal 203 = .ok (.invokevirtual 173, 3) := dk_182 0 173 (dk_at dksJ6_putVal_8 19 rfl rfl)
theorem dJ6_putVal_206 : decode cJ6_putVal 206 = .ok (.ifCond .eq 6, 3) := dk_153 0 6 (dk_at dksJ6_putVal_9 0 rfl rfl)
theorem dJ6_putVal_209 : decode cJ6_putVal 209 = .ok (.goto 13, 3) := dk_167 0 13 (dk_at dksJ6_putVal_9 3 rfl rfl)
theorem dJ6_putVal_212 : decode cJ6_putVal 212 = .ok (.aload 10, 2) := dk_25 10 (dk_at dksJ6_putVal_9 6 rfl rfl)
theorem dJ6_putVal_214 : decode cJ6_putVal 214 = .ok (.astore 7, 2) := dk_58 7 (dk_at dksJ6_putVal_9 8 rfl rfl)
theorem dJ6_putVal_216 : decode cJ6_putVal 216 = .ok (.iinc 12 1, 3) := dk_132 12 1 (dk_at dksJ6_putVal_9 10 rfl rfl)
theorem dJ6_putVal_219 : decode cJ6_putVal 219 = .ok (.goto (-85), 3) := dk_167 255 171 (dk_at dksJ6_putVal_9 13 rfl rfl)
theorem dJ6_putVal_222 : decode cJ6_putVal 222 = .ok (.aload 10, 2) := dk_25 10 (dk_at dksJ6_putVal_9 16 rfl rfl)
theorem dJ6_putVal_224 : decode cJ6_putVal 224 = .ok (.ifnull 35, 3) := dk_198 0 35 (dk_at dksJ6_putVal_9 18 rfl rfl)
theorem dJ6_putVal_227 : decode cJ6_putVal 227 = .ok (.aload 10, 2) := dk_25 10 (dk_at dksJ6_putVal_9 21 rfl rfl)
theorem dJ6_putVal_229 : decode cJ6_putVal 229 = .ok (.getfield 162, 3) := dk_180 0 162 (dk_at dksJ6_putVal_10 0 rfl rfl)
theorem dJ6_putVal_232 : decode cJ6_putVal 232 = .ok (.astore 12, 2) := dk_58 12 (dk_at dksJ6_putVal_10 3 rfl rfl)
theorem dJ6_putVal_234 : decode cJ6_putVal 234 = .ok (.iload 4, 2) := dk_21 4 (dk_at dksJ6_putVal_10 5 rfl rfl)
theorem dJ6_putVal_236 : decode cJ6_putVal 236 = .ok (.ifCond .eq 8, 3) := dk_153 0 8 (dk_at dksJ6_putVal_10 7 rfl rfl)
theorem dJ6_putVal_239 : decode cJ6_putVal 239 = .ok (.aload 12, 2) := dk_25 12 (dk_at dksJ6_putVal_10 10 rfl rfl)
theorem dJ6_putVal_241 : decode cJ6_putVal 241 = .ok (.ifnonnull 9, 3) := dk_199 0 9 (dk_at dksJ6_putVal_10 12 rfl rfl)
theorem dJ6_putVal_244 : decode cJ6_putVal 244 = .ok (.aload 10, 2) := dk_25 10 (dk_at dksJ6_putVal_10 15 rfl rfl)
theorem dJ6_putVal_246 : decode cJ6_putVal 246 = .ok (.aload_n 3, 1) := dk_45 (dk_at dksJ6_putVal_10 17 rfl rfl)
theorem dJ6_putVal_247 : decode cJ6_putVal 247 = .ok (.putfield 162, 3) := dk_181 0 162 (dk_at dksJ6_putVal_10 18 rfl rfl)
theorem dJ6_putVal_250 : decode cJ6_putVal 250 = .ok (.aload_n 0, 1) := dk_42 (dk_at dksJ6_putVal_10 21 rfl rfl)
theorem dJ6_putVal_251 : decode cJ6_putVal 251 = .ok (.aload 10, 2) := dk_25 10 (dk_at dksJ6_putVal_10 22 rfl rfl)
theorem dJ6_putVal_253 : decode cJ6_putVal 253 = .ok (.invokevirtual 198, 3) := dk_182 0 198 (dk_at dksJ6_putVal_11 0 rfl rfl)
theorem dJ6_putVal_256 : decode cJ6_putVal 256 = .ok (.aload 12, 2) := dk_25 12 (dk_at dksJ6_putVal_11 3 rfl rfl)
theorem dJ6_putVal_258 : decode cJ6_putVal 258 = .ok (.areturn, 1) := dk_176 (dk_at dksJ6_putVal_11 5 rfl rfl)
theorem dJ6_putVal_259 : decode cJ6_putVal 259 = .ok (.aload_n 0, 1) := dk_42 (dk_at dksJ6_putVal_11 6 rfl rfl)
theorem dJ6_putVal_260 : decode cJ6_putVal 260 = .ok (.dup, 1) := dk_89 (dk_at dksJ6_putVal_11 7 rfl rfl)
theorem dJ6_putVal_261 : decode cJ6_putVal 261 = .ok (.getfield 202, 3) := dk_180 0 202 (dk_at dksJ6_putVal_11 8 rfl rfl)
theorem dJ6_putVal_264 : decode cJ6_putVal 264 = .ok (.iconst 1, 1) := dk_4 (dk_at dksJ6_putVal_11 11 rfl rfl)
theorem dJ6_putVal_265 : decode cJ6_putVal 265 = .ok (.iadd, 1) := dk_96 (dk_at dksJ6_putVal_11 12 rfl rfl)
theorem dJ6_putVal_266 : decode cJ6_putVal 266 = .ok (.putfield 202, 3) := dk_181 0 202 (dk_at dksJ6_putVal_11 13 rfl rfl)
theorem dJ6_putVal_269 : decode cJ6_putVal 269 = .ok (.aload_n 0, 1) := dk_42 (dk_at dksJ6_putVal_11 16 rfl rfl)
theorem dJ6_putVal_270 : decode cJ6_putVal 270 = .ok (.dup, 1) := dk_89 (dk_at dksJ6_putVal_11 17 rfl rfl)
theorem dJ6_putVal_271 : decode cJ6_putVal 271 = .ok (.getfield 156, 3) := dk_180 0 156 (dk_at dksJ6_putVal_11 18 rfl rfl)
theorem dJ6_putVal_274 : decode cJ6_putVal 274 = .ok (.iconst 1, 1) := dk_4 (dk_at dksJ6_putVal_11 21 rfl rfl)
theorem dJ6_putVal_275 : decode cJ6_putVal 275 = .ok (.iadd, 1) := dk_96 (dk_at dksJ6_putVal_11 22 rfl rfl)
theorem dJ6_putVal_276 : decode cJ6_putVal 276 = .ok (.dup_x1, 1) := dk_90 (dk_at dksJ6_putVal_11 23 rfl rfl)
theorem dJ6_putVal_277 : decode cJ6_putVal 277 = .ok (.putfield 156, 3) := dk_181 0 156 (dk_at dksJ6_putVal_12 0 rfl rfl)
theorem dJ6_putVal_280 : decode cJ6_putVal 280 = .ok (.aload_n 0, 1) := dk_42 (dk_at dksJ6_putVal_12 3 rfl rfl)
theorem dJ6_putVal_281 : decode cJ6_putVal 281 = .ok (.getfield 88, 3) := dk_180 0 88 (dk_at dksJ6_putVal_12 4 rfl rfl)
theorem dJ6_putVal_284 : decode cJ6_putVal 284 = .ok (.if_icmp .le 8, 3) := dk_164 0 8 (dk_at dksJ6_putVal_12 7 rfl rfl)
theorem dJ6_putVal_287 : decode cJ6_putVal 287 = .ok (.aload_n 0, 1) := dk_42 (dk_at dksJ6_putVal_12 10 rfl rfl)
theorem dJ6_putVal_288 : decode cJ6_putVal 288 = .ok (.invokevirtual 117, 3) := dk_182 0 117 (dk_at dksJ6_putVal_12 11 rfl rfl)
theorem dJ6_putVal_291 : decode cJ6_putVal 291 = .ok (.pop, 1) := dk_87 (dk_at dksJ6_putVal_12 14 rfl rfl)
theorem dJ6_putVal_292 : decode cJ6_putVal 292 = .ok (.aload_n 0, 1) := dk_42 (dk_at dksJ6_putVal_12 15 rfl rfl)
theorem dJ6_putVal_293 : decode cJ6_putVal 293 = .ok (.iload 5, 2) := dk_21 5 (dk_at dksJ6_putVal_12 16 rfl rfl)
theorem dJ6_putVal_295 : decode cJ6_putVal 295 = .ok (.invokevirtual 205, 3) := dk_182 0 205 (dk_at dksJ6_putVal_12 18 rfl rfl)
theorem dJ6_putVal_298 : decode cJ6_putVal 298 = .ok (.aconst_null, 1) := dk_1 (dk_at dksJ6_putVal_12 21 rfl rfl)
theorem dJ6_putVal_299 : decode cJ6_putVal 299 = .ok (.areturn, 1) := dk_176 (dk_at dksJ6_putVal_12 22 rfl rfl)
abbrev cJ6_resize : ByteArray := prog_41_method_17_code
def yJ6_resize : MethodName := ⟨RJ6, "resize", "()[Ljava/util/HashMap$Node;"⟩
def dkwJ6_resize_15 : List UInt8 := [25, 6, 176]
abbrev dktJ6_resize_15 : List UInt8 := dkwJ6_resize_15 ++ []
def dkwJ6_resize_14 : List UInt8 := [198, 0, 18, 25, 12, 1, 181, 0, 177, 25, 6, 21, 7, 28, 96, 25, 11, 83, 132, 7, 1, 167, 255, 57]
abbrev dktJ6_resize_14 : List UInt8 := dkwJ6_resize_14 ++ dktJ6_resize_15
def dkwJ6_resize_13 : List UInt8 := [199, 255, 185, 25, 10, 198, 0, 16, 25, 10, 1, 181, 0, 177, 25, 6, 21, 7, 25, 9, 83, 25, 12]
abbrev dktJ6_resize_13 : List UInt8 := dkwJ6_resize_13 ++ dktJ6_resize_14
def dkwJ6_resize_12 : List UInt8 := [25, 8, 58, 11, 167, 0, 10, 25, 12, 25, 8, 181, 0, 177, 25, 8, 58, 12, 25, 13, 89, 58, 8]
abbrev dktJ6_resize_12 : List UInt8 := dkwJ6_resize_12 ++ dktJ6_resize_13
def dkwJ6_resize_11 : List UInt8 := [58, 9, 167, 0, 10, 25, 10, 25, 8, 181, 0, 177, 25, 8, 58, 10, 167, 0, 26, 25, 12, 199, 0, 10]
abbrev dktJ6_resize_11 : List UInt8 := dkwJ6_resize_11 ++ dktJ6_resize_12
def dkwJ6_resize_10 : List UInt8 := [25, 8, 180, 0, 177, 58, 13, 25, 8, 180, 0, 168, 28, 126, 154, 0, 29, 25, 10, 199, 0, 10, 25, 8]
abbrev dktJ6_resize_10 : List UInt8 := dkwJ6_resize_10 ++ dktJ6_resize_11
def dkwJ6_resize_9 : List UInt8 := [42, 25, 6, 21, 7, 28, 182, 0, 211, 167, 0, 127, 1, 58, 9, 1, 58, 10, 1, 58, 11, 1, 58, 12]
abbrev dktJ6_resize_9 : List UInt8 := dkwJ6_resize_9 ++ dktJ6_resize_10
def dkwJ6_resize_8 : List UInt8 := [21, 4, 4, 100, 126, 25, 8, 83, 167, 0, 152, 25, 8, 193, 0, 180, 153, 0, 20, 25, 8, 192, 0, 180]
abbrev dktJ6_resize_8 : List UInt8 := dkwJ6_resize_8 ++ dktJ6_resize_9
def dkwJ6_resize_7 : List UInt8 := [198, 0, 183, 43, 21, 7, 1, 83, 25, 8, 180, 0, 177, 199, 0, 21, 25, 6, 25, 8, 180, 0, 168]
abbrev dktJ6_resize_7 : List UInt8 := dkwJ6_resize_7 ++ dktJ6_resize_8
def dkwJ6_resize_6 : List UInt8 := [181, 0, 105, 43, 198, 0, 208, 3, 54, 7, 21, 7, 28, 162, 0, 199, 43, 21, 7, 50, 89, 58, 8]
abbrev dktJ6_resize_6 : List UInt8 := dkwJ6_resize_6 ++ dktJ6_resize_7
def dkwJ6_resize_5 : List UInt8 := [167, 0, 5, 18, 209, 54, 5, 42, 21, 5, 181, 0, 88, 21, 4, 189, 0, 163, 58, 6, 42, 25, 6]
abbrev dktJ6_resize_5 : List UInt8 := dkwJ6_resize_5 ++ dktJ6_resize_6
def dkwJ6_resize_4 : List UInt8 := [180, 0, 81, 106, 56, 6, 21, 4, 18, 42, 162, 0, 17, 23, 6, 18, 210, 150, 156, 0, 9, 23, 6, 139]
abbrev dktJ6_resize_4 : List UInt8 := dkwJ6_resize_4 ++ dktJ6_resize_5
def dkwJ6_resize_3 : List UInt8 := [54, 4, 167, 0, 11, 16, 16, 54, 4, 16, 12, 54, 5, 21, 5, 154, 0, 38, 21, 4, 134, 42]
abbrev dktJ6_resize_3 : List UInt8 := dkwJ6_resize_3 ++ dktJ6_resize_4
def dkwJ6_resize_2 : List UInt8 := [18, 42, 162, 0, 35, 28, 16, 16, 161, 0, 29, 29, 4, 120, 54, 5, 167, 0, 21, 29, 158, 0, 9, 29]
abbrev dktJ6_resize_2 : List UInt8 := dkwJ6_resize_2 ++ dktJ6_resize_3
def dkwJ6_resize_1 : List UInt8 := [28, 158, 0, 42, 28, 18, 42, 161, 0, 11, 42, 18, 209, 181, 0, 88, 43, 176, 28, 4, 120, 89, 54, 4]
abbrev dktJ6_resize_1 : List UInt8 := dkwJ6_resize_1 ++ dktJ6_resize_2
def dkwJ6_resize_0 : List UInt8 := [42, 180, 0, 105, 76, 43, 199, 0, 7, 3, 167, 0, 5, 43, 190, 61, 42, 180, 0, 88, 62, 3, 54, 5]
abbrev dktJ6_resize_0 : List UInt8 := dkwJ6_resize_0 ++ dktJ6_resize_1
theorem dksJ6_resize_0 : cJ6_resize.data.toList.drop 0 = dktJ6_resize_0 := by decide +kernel
theorem dksJ6_resize_1 : cJ6_resize.data.toList.drop 24 = dktJ6_resize_1 := dk_seg dksJ6_resize_0 24 rfl rfl
theorem dksJ6_resize_2 : cJ6_resize.data.toList.drop 48 = dktJ6_resize_2 := dk_seg dksJ6_resize_1 24 rfl rfl
theorem dksJ6_resize_3 : cJ6_resize.data.toList.drop 72 = dktJ6_resize_3 := dk_seg dksJ6_resize_2 24 rfl rfl
theorem dksJ6_resize_4 : cJ6_resize.data.toList.drop 94 = dktJ6_resize_4 := dk_seg dksJ6_resize_3 22 rfl rfl
theorem dksJ6_resize_5 : cJ6_resize.data.toList.drop 118 = dktJ6_resize_5 := dk_seg dksJ6_resize_4 24 rfl rfl
theorem dksJ6_resize_6 : cJ6_resize.data.toList.drop 141 = dktJ6_resize_6 := dk_seg dksJ6_resize_5 23 rfl rfl
theorem dksJ6_resize_7 : cJ6_resize.data.toList.drop 164 = dktJ6_resize_7 := dk_seg dksJ6_resize_6 23 rfl rfl
theorem dksJ6_resize_8 : cJ6_resize.data.toList.drop 187 = dktJ6_resize_8 := dk_seg dksJ6_resize_7 23 rfl rfl
theorem dksJ6_resize_9 : cJ6_resize.data.toList.drop 211 = dktJ6_resize_9 := dk_seg dksJ6_resize_8 24 rfl rfl
theorem dksJ6_resize_10 : cJ6_resize.data.toList.drop 235 = dktJ6_resize_10 := dk_seg dksJ6_resize_9 24 rfl rfl
theorem dksJ6_resize_11 : cJ6_resize.data.toList.drop 259 = dktJ6_resize_11 := dk_seg dksJ6_resize_10 24 rfl rfl
theorem dksJ6_resize_12 : cJ6_resize.data.toList.drop 283 = dktJ6_resize_12 := dk_seg dksJ6_resize_11 24 rfl rfl
theorem dksJ6_resize_13 : cJ6_resize.data.toList.drop 306 = dktJ6_resize_13 := dk_seg dksJ6_resize_12 23 rfl rfl
theorem dksJ6_resize_14 : cJ6_resize.data.toList.drop 329 = dktJ6_resize_14 := dk_seg dksJ6_resize_13 23 rfl rfl
theorem dksJ6_resize_15 : cJ6_resize.data.toList.drop 353 = dktJ6_resize_15 := dk_seg dksJ6_resize_14 24 rfl rfl
theorem dJ6_resize_0 : decode cJ6_resize 0 = .ok (.aload_n 0, 1) := dk_42 (dk_at dksJ6_resize_0 0 rfl rfl)
theorem dJ6_resize_1 : decode cJ6_resize 1 = .ok (.getfield 105, 3) := dk_180 0 105 (dk_at dksJ6_resize_0 1 rfl rfl)
theorem dJ6_resize_4 : decode cJ6_resize 4 = .ok (.astore_n 1, 1) := dk_76 (dk_at dksJ6_resize_0 4 rfl rfl)
theorem dJ6_resize_5 : decode cJ6_resize 5 = .ok (.aload_n 1, 1) := dk_43 (dk_at dksJ6_resize_0 5 rfl rfl)
theorem dJ6_resize_6 : decode cJ6_resize 6 = .ok (.ifnonnull 7, 3) := dk_199 0 7 (dk_at dksJ6_resize_0 6 rfl rfl)
theorem dJ6_resize_9 : decode cJ6_resize 9 = .ok (.iconst 0, 1) := dk_3 (dk_at dksJ6_resize_0 9 rfl rfl)
theorem dJ6_resize_10 : decode cJ6_resize 10 = .ok (.goto 5, 3) := dk_167 0 5 (dk_at dksJ6_resize_0 10 rfl rfl)
theorem dJ6_resize_13 : decode cJ6_resize 13 = .ok (.aload_n 1, 1) := dk_43 (dk_at dksJ6_resize_0 13 rfl rfl)
theorem dJ6_resize_14 : decode cJ6_resize 14 = .ok (.arraylength, 1) := dk_190 (dk_at dksJ6_resize_0 14 rfl rfl)
theorem dJ6_resize_15 : decode cJ6_resize 15 = .ok (.istore_n 2, 1) := dk_61 (dk_at dksJ6_resize_0 15 rfl rfl)
theorem dJ6_resize_16 : decode cJ6_resize 16 = .ok (.aload_n 0, 1) := dk_42 (dk_at dksJ6_resize_0 16 rfl rfl)
theorem dJ6_resize_17 : decode cJ6_resize 17 = .ok (.getfield 88, 3) := dk_180 0 88 (dk_at dksJ6_resize_0 17 rfl rfl)
theorem dJ6_resize_20 : decode cJ6_resize 20 = .ok (.istore_n 3, 1) := dk_62 (dk_at dksJ6_resize_0 20 rfl rfl)
theorem dJ6_resize_21 : decode cJ6_resize 21 = .ok (.iconst 0, 1) := dk_3 (dk_at dksJ6_resize_0 21 rfl rfl)
theorem dJ6_resize_22 : decode cJ6_resize 22 = .ok (.istore 5, 2) := dk_54 5 (dk_at dksJ6_resize_0 22 rfl rfl)
theorem dJ6_resize_24 : decode cJ6_resize 24 = .ok (.iload_n 2, 1) := dk_28 (dk_at dksJ6_resize_1 0 rfl rfl)
theorem dJ6_resize_25 : decode cJ6_resize 25 = .ok (.ifCond .le 42, 3) := dk_158 0 42 (dk_at dksJ6_resize_1 1 rfl rfl)
theorem dJ6_resize_28 : decode cJ6_resize 28 = .ok (.iload_n 2, 1) := dk_28 (dk_at dksJ6_resize_1 4 rfl rfl)
theorem dJ6_resize_29 : decode cJ6_resize 29 = .ok (.ldc 42, 2) := dk_18 42 (dk_at dksJ6_resize_1 5 rfl rfl)
theorem dJ6_resize_31 : decode cJ6_resize 31 = .ok (.if_icmp .lt 11, 3) := dk_161 0 11 (dk_at dksJ6_resize_1 7 rfl rfl)
theorem dJ6_resize_34 : decode cJ6_resize 34 = .ok (.aload_n 0, 1) := dk_42 (dk_at dksJ6_resize_1 10 rfl rfl)
theorem dJ6_resize_35 : decode cJ6_resize 35 = .ok (.ldc 209, 2) := dk_18 209 (dk_at dksJ6_resize_1 11 rfl rfl)
theorem dJ6_resize_37 : decode cJ6_resize 37 = .ok (.putfield 88, 3) := dk_181 0 88 (dk_at dksJ6_resize_1 13 rfl rfl)
theorem dJ6_resize_40 : decode cJ6_resize 40 = .ok (.aload_n 1, 1) := dk_43 (dk_at dksJ6_resize_1 16 rfl rfl)
theorem dJ6_resize_41 : decode cJ6_resize 41 = .ok (.areturn, 1) := dk_176 (dk_at dksJ6_resize_1 17 rfl rfl)
theorem dJ6_resize_42 : decode cJ6_resize 42 = .ok (.iload_n 2, 1) := dk_28 (dk_at dksJ6_resize_1 18 rfl rfl)
theorem dJ6_resize_43 : decode cJ6_resize 43 = .ok (.iconst 1, 1) := dk_4 (dk_at dksJ6_resize_1 19 rfl rfl)
theorem dJ6_resize_44 : decode cJ6_resize 44 = .ok (.ishl, 1) := dk_120 (dk_at dksJ6_resize_1 20 rfl rfl)
theorem dJ6_resize_45 : decode cJ6_resize 45 = .ok (.dup, 1) := dk_89 (dk_at dksJ6_resize_1 21 rfl rfl)
theorem dJ6_resize_46 : decode cJ6_resize 46 = .ok (.istore 4, 2) := dk_54 4 (dk_at dksJ6_resize_1 22 rfl rfl)
theorem dJ6_resize_48 : decode cJ6_resize 48 = .ok (.ldc 42, 2) := dk_18 42 (dk_at dksJ6_resize_2 0 rfl rfl)
theorem dJ6_resize_50 : decode cJ6_resize 50 = .ok (.if_icmp .ge 35, 3) := dk_162 0 35 (dk_at dksJ6_resize_2 2 rfl rfl)
theorem dJ6_resize_53 : decode cJ6_resize 53 = .ok (.iload_n 2, 1) := dk_28 (dk_at dksJ6_resize_2 5 rfl rfl)
theorem dJ6_resize_54 : decode cJ6_resize 54 = .ok (.bipush 16, 2) := dk_16 16 (dk_at dksJ6_resize_2 6 rfl rfl)
theorem dJ6_resize_56 : decode cJ6_resize 56 = .ok (.if_icmp .lt 29, 3) := dk_161 0 29 (dk_at dksJ6_resize_2 8 rfl rfl)
theorem dJ6_resize_59 : decode cJ6_resize 59 = .ok (.iload_n 3, 1) := dk_29 (dk_at dksJ6_resize_2 11 rfl rfl)
theorem dJ6_resize_60 : decode cJ6_resize 60 = .ok (.iconst 1, 1) := dk_4 (dk_at dksJ6_resize_2 12 rfl rfl)
theorem dJ6_resize_61 : decode cJ6_resize 61 = .ok (.ishl, 1) := dk_120 (dk_at dksJ6_resize_2 13 rfl rfl)
theorem dJ6_resize_62 : decode cJ6_resize 62 = .ok (.istore 5, 2) := dk_54 5 (dk_at dksJ6_resize_2 14 rfl rfl)
theorem dJ6_resize_64 : decode cJ6_resize 64 = .ok (.goto 21, 3) := dk_167 0 21 (dk_at dksJ6_resize_2 16 rfl rfl)
theorem dJ6_resize_67 : decode cJ6_resize 67 = .ok (.iload_n 3, 1) := dk_29 (dk_at dksJ6_resize_2 19 rfl rfl)
theorem dJ6_resize_68 : decode cJ6_resize 68 = .ok (.ifCond .le 9, 3) := dk_158 0 9 (dk_at dksJ6_resize_2 20 rfl rfl)
theorem dJ6_resize_71 : decode cJ6_resize 71 = .ok (.iload_n 3, 1) := dk_29 (dk_at dksJ6_resize_2 23 rfl rfl)
theorem dJ6_resize_72 : decode cJ6_resize 72 = .ok (.istore 4, 2) := dk_54 4 (dk_at dksJ6_resize_3 0 rfl rfl)
theorem dJ6_resize_74 : decode cJ6_resize 74 = .ok (.goto 11, 3) := dk_167 0 11 (dk_at dksJ6_resize_3 2 rfl rfl)
theorem dJ6_resize_77 : decode cJ6_resize 77 = .ok (.bipush 16, 2) := dk_16 16 (dk_at dksJ6_resize_3 5 rfl rfl)
theorem dJ6_resize_79 : decode cJ6_resize 79 = .ok (.istore 4, 2) := dk_54 4 (dk_at dksJ6_resize_3 7 rfl rfl)
theorem dJ6_resize_81 : decode cJ6_resize 81 = .ok (.bipush 12, 2) := dk_16 12 (dk_at dksJ6_resize_3 9 rfl rfl)
theorem dJ6_resize_83 : decode cJ6_resize 83 = .ok (.istore 5, 2) := dk_54 5 (dk_at dksJ6_resize_3 11 rfl rfl)
theorem dJ6_resize_85 : decode cJ6_resize 85 = .ok (.iload 5, 2) := dk_21 5 (dk_at dksJ6_resize_3 13 rfl rfl)
theorem dJ6_resize_87 : decode cJ6_resize 87 = .ok (.ifCond .ne 38, 3) := dk_154 0 38 (dk_at dksJ6_resize_3 15 rfl rfl)
theorem dJ6_resize_90 : decode cJ6_resize 90 = .ok (.iload 4, 2) := dk_21 4 (dk_at dksJ6_resize_3 18 rfl rfl)
theorem dJ6_resize_92 : decode cJ6_resize 92 = .ok (.i2f, 1) := dk_134 (dk_at dksJ6_resize_3 20 rfl rfl)
theorem dJ6_resize_93 : decode cJ6_resize 93 = .ok (.aload_n 0, 1) := dk_42 (dk_at dksJ6_resize_3 21 rfl rfl)
theorem dJ6_resize_94 : decode cJ6_resize 94 = .ok (.getfield 81, 3) := dk_180 0 81 (dk_at dksJ6_resize_4 0 rfl rfl)
theorem dJ6_resize_97 : decode cJ6_resize 97 = .ok (.fmul, 1) := dk_106 (dk_at dksJ6_resize_4 3 rfl rfl)
theorem dJ6_resize_98 : decode cJ6_resize 98 = .ok (.fstore 6, 2) := dk_56 6 (dk_at dksJ6_resize_4 4 rfl rfl)
theorem dJ6_resize_100 : decode cJ6_resize 100 = .ok (.iload 4, 2) := dk_21 4 (dk_at dksJ6_resize_4 6 rfl rfl)
theorem dJ6_resize_102 : decode cJ6_resize 102 = .ok (.ldc 42, 2) := dk_18 42 (dk_at dksJ6_resize_4 8 rfl rfl)
theorem dJ6_resize_104 : decode cJ6_resize 104 = .ok (.if_icmp .ge 17, 3) := dk_162 0 17 (dk_at dksJ6_resize_4 10 rfl rfl)
theorem dJ6_resize_107 : decode cJ6_resize 107 = .ok (.fload 6, 2) := dk_23 6 (dk_at dksJ6_resize_4 13 rfl rfl)
theorem dJ6_resize_109 : decode cJ6_resize 109 = .ok (.ldc 210, 2) := dk_18 210 (dk_at dksJ6_resize_4 15 rfl rfl)
theorem dJ6_resize_111 : decode cJ6_resize 111 = .ok (.fcmp .g, 1) := dk_150 (dk_at dksJ6_resize_4 17 rfl rfl)
theorem dJ6_resize_112 : decode cJ6_resize 112 = .ok (.ifCond .ge 9, 3) := dk_156 0 9 (dk_at dksJ6_resize_4 18 rfl rfl)
theorem dJ6_resize_115 : decode cJ6_resize 115 = .ok (.fload 6, 2) := dk_23 6 (dk_at dksJ6_resize_4 21 rfl rfl)
theorem dJ6_resize_117 : decode cJ6_resize 117 = .ok (.f2i, 1) := dk_139 (dk_at dksJ6_resize_4 23 rfl rfl)
theorem dJ6_resize_118 : decode cJ6_resize 118 = .ok (.goto 5, 3) := dk_167 0 5 (dk_at dksJ6_resize_5 0 rfl rfl)
theorem dJ6_resize_121 : decode cJ6_resize 121 = .ok (.ldc 209, 2) := dk_18 209 (dk_at dksJ6_resize_5 3 rfl rfl)
theorem dJ6_resize_123 : decode cJ6_resize 123 = .ok (.istore 5, 2) := dk_54 5 (dk_at dksJ6_resize_5 5 rfl rfl)
theorem dJ6_resize_125 : decode cJ6_resize 125 = .ok (.aload_n 0, 1) := dk_42 (dk_at dksJ6_resize_5 7 rfl rfl)
theorem dJ6_resize_126 : decode cJ6_resize 126 = .ok (.iload 5, 2) := dk_21 5 (dk_at dksJ6_resize_5 8 rfl rfl)
theorem dJ6_resize_128 : decode cJ6_resize 128 = .ok (.putfield 88, 3) := dk_181 0 88 (dk_at dksJ6_resize_5 10 rfl rfl)
theorem dJ6_resize_131 : decode cJ6_resize 131 = .ok (.iload 4, 2) := dk_21 4 (dk_at dksJ6_resize_5 13 rfl rfl)
theorem dJ6_resize_133 : decode cJ6_resize 133 = .ok (.anewarray 163, 3) := dk_189 0 163 (dk_at dksJ6_resize_5 15 rfl rfl)
theorem dJ6_resize_136 : decode cJ6_resize 136 = .ok (.astore 6, 2) := dk_58 6 (dk_at dksJ6_resize_5 18 rfl rfl)
theorem dJ6_resize_138 : decode cJ6_resize 138 = .ok (.aload_n 0, 1) := dk_42 (dk_at dksJ6_resize_5 20 rfl rfl)
theorem dJ6_resize_139 : decode cJ6_resize 139 = .ok (.aload 6, 2) := dk_25 6 (dk_at dksJ6_resize_5 21 rfl rfl)
theorem dJ6_resize_141 : decode cJ6_resize 141 = .ok (.putfield 105, 3) := dk_181 0 105 (dk_at dksJ6_resize_6 0 rfl rfl)
theorem dJ6_resize_144 : decode cJ6_resize 144 = .ok (.aload_n 1, 1) := dk_43 (dk_at dksJ6_resize_6 3 rfl rfl)
theorem dJ6_resize_145 : decode cJ6_resize 145 = .ok (.ifnull 208, 3) := dk_198 0 208 (dk_at dksJ6_resize_6 4 rfl rfl)
theorem dJ6_resize_148 : decode cJ6_resize 148 = .ok (.iconst 0, 1) := dk_3 (dk_at dksJ6_resize_6 7 rfl rfl)
theorem dJ6_resize_149 : decode cJ6_resize 149 = .ok (.istore 7, 2) := dk_54 7 (dk_at dksJ6_resize_6 8 rfl rfl)
theorem dJ6_resize_151 : decode cJ6_resize 151 = .ok (.iload 7, 2) := dk_21 7 (dk_at dksJ6_resize_6 10 rfl rfl)
theorem dJ6_resize_153 : decode cJ6_resize 153 = .ok (.iload_n 2, 1) := dk_28 (dk_at dksJ6_resize_6 12 rfl rfl)
theorem dJ6_resize_154 : decode cJ6_resize 154 = .ok (.if_icmp .ge 199, 3) := dk_162 0 199 (dk_at dksJ6_resize_6 13 rfl rfl)
theorem dJ6_resize_157 : decode cJ6_resize 157 = .ok (.aload_n 1, 1) := dk_43 (dk_at dksJ6_resize_6 16 rfl rfl)
theorem dJ6_resize_158 : decode cJ6_resize 158 = .ok (.iload 7, 2) := dk_21 7 (dk_at dksJ6_resize_6 17 rfl rfl)
theorem dJ6_resize_160 : decode cJ6_resize 160 = .ok (.aaload, 1) := dk_50 (dk_at dksJ6_resize_6 19 rfl rfl)
theorem dJ6_resize_161 : decode cJ6_resize 161 = .ok (.dup, 1) := dk_89 (dk_at dksJ6_resize_6 20 rfl rfl)
theorem dJ6_resize_162 : decode cJ6_resize 162 = .ok (.astore 8, 2) := dk_58 8 (dk_at dksJ6_resize_6 21 rfl rfl)
theorem dJ6_resize_164 : decode cJ6_resize 164 = .ok (.ifnull 183, 3) := dk_198 0 183 (dk_at dksJ6_resize_7 0 rfl rfl)
theorem dJ6_resize_167 : decode cJ6_resize 167 = .ok (.aload_n 1, 1) := dk_43 (dk_at dksJ6_resize_7 3 rfl rfl)
theorem dJ6_resize_168 : decode cJ6_resize 168 = .ok (.iload 7, 2) := dk_21 7 (dk_at dksJ6_resize_7 4 rfl rfl)
theorem dJ6_resize_170 : decode cJ6_resize 170 = .ok (.aconst_null, 1) := dk_1 (dk_at dksJ6_resize_7 6 rfl rfl)
theorem dJ6_resize_171 : decode cJ6_resize 171 = .ok (.aastore, 1) := dk_83 (dk_at dksJ6_resize_7 7 rfl rfl)
theorem dJ6_resize_172 : decode cJ6_resize 172 = .ok (.aload 8, 2) := dk_25 8 (dk_at dksJ6_resize_7 8 rfl rfl)
theorem dJ6_resize_174 : decode cJ6_resize 174 = .ok (.getfield 177, 3) := dk_180 0 177 (dk_at dksJ6_resize_7 10 rfl rfl)
theorem dJ6_resize_177 : decode cJ6_resize 177 = .ok (.ifnonnull 21, 3) := dk_199 0 21 (dk_at dksJ6_resize_7 13 rfl rfl)
theorem dJ6_resize_180 : decode cJ6_resize 180 = .ok (.aload 6, 2) := dk_25 6 (dk_at dksJ6_resize_7 16 rfl rfl)
theorem dJ6_resize_182 : decode cJ6_resize 182 = .ok (.aload 8, 2) := dk_25 8 (dk_at dksJ6_resize_7 18 rfl rfl)
theorem dJ6_resize_184 : decode cJ6_resize 184 = .ok (.getfield 168, 3) := dk_180 0 168 (dk_at dksJ6_resize_7 20 rfl rfl)
theorem dJ6_resize_187 : decode cJ6_resize 187 = .ok (.iload 4, 2) := dk_21 4 (dk_at dksJ6_resize_8 0 rfl rfl)
theorem dJ6_resize_189 : decode cJ6_resize 189 = .ok (.iconst 1, 1) := dk_4 (dk_at dksJ6_resize_8 2 rfl rfl)
theorem dJ6_resize_190 : decode cJ6_resize 190 = .ok (.isub, 1) := dk_100 (dk_at dksJ6_resize_8 3 rfl rfl)
theorem dJ6_resize_191 : decode cJ6_resize 191 = .ok (.iand, 1) := dk_126 (dk_at dksJ6_resize_8 4 rfl rfl)
theorem dJ6_resize_192 : decode cJ6_resize 192 = .ok (.aload 8, 2) := dk_25 8 (dk_at dksJ6_resize_8 5 rfl rfl)
theorem dJ6_resize_194 : decode cJ6_resize 194 = .ok (.aastore, 1) := dk_83 (dk_at dksJ6_resize_8 7 rfl rfl)
theorem dJ6_resize_195 : decode cJ6_resize 195 = .ok (.goto 152, 3) := dk_167 0 152 (dk_at dksJ6_resize_8 8 rfl rfl)
theorem dJ6_resize_198 : decode cJ6_resize 198 = .ok (.aload 8, 2) := dk_25 8 (dk_at dksJ6_resize_8 11 rfl rfl)
theorem dJ6_resize_200 : decode cJ6_resize 200 = .ok (.instanceof 180, 3) := dk_193 0 180 (dk_at dksJ6_resize_8 13 rfl rfl)
theorem dJ6_resize_203 : decode cJ6_resize 203 = .ok (.ifCond .eq 20, 3) := dk_153 0 20 (dk_at dksJ6_resize_8 16 rfl rfl)
theorem dJ6_resize_206 : decode cJ6_resize 206 = .ok (.aload 8, 2) := dk_25 8 (dk_at dksJ6_resize_8 19 rfl rfl)
theorem dJ6_resize_208 : decode cJ6_resize 208 = .ok (.checkcast 180, 3) := dk_192 0 180 (dk_at dksJ6_resize_8 21 rfl rfl)
theorem dJ6_resize_211 : decode cJ6_resize 211 = .ok (.aload_n 0, 1) := dk_42 (dk_at dksJ6_resize_9 0 rfl rfl)
theorem dJ6_resize_212 : decode cJ6_resize 212 = .ok (.aload 6, 2) := dk_25 6 (dk_at dksJ6_resize_9 1 rfl rfl)
theorem dJ6_resize_214 : decode cJ6_resize 214 = .ok (.iload 7, 2) := dk_21 7 (dk_at dksJ6_resize_9 3 rfl rfl)
theorem dJ6_resize_216 : decode cJ6_resize 216 = .ok (.iload_n 2, 1) := dk_28 (dk_at dksJ6_resize_9 5 rfl rfl)
theorem dJ6_resize_217 : decode cJ6_resize 217 = .ok (.invokevirtual 211, 3) := dk_182 0 211 (dk_at dksJ6_resize_9 6 rfl rfl)
theorem dJ6_resize_220 : decode cJ6_resize 220 = .ok (.goto 127, 3) := dk_167 0 127 (dk_at dksJ6_resize_9 9 rfl rfl)
theorem dJ6_resize_223 : decode cJ6_resize 223 = .ok (.aconst_null, 1) := dk_1 (dk_at dksJ6_resize_9 12 rfl rfl)
theorem dJ6_resize_224 : decode cJ6_resize 224 = .ok (.astore 9, 2) := dk_58 9 (dk_at dksJ6_resize_9 13 rfl rfl)
theorem dJ6_resize_226 : decode cJ6_resize 226 = .ok (.aconst_null, 1) := dk_1 (dk_at dksJ6_resize_9 15 rfl rfl)
theorem dJ6_resize_227 : decode cJ6_resize 227 = .ok (.astore 10, 2) := dk_58 10 (dk_at dksJ6_resize_9 16 rfl rfl)
theorem dJ6_resize_229 : decode cJ6_resize 229 = .ok (.aconst_null, 1) := dk_1 (dk_at dksJ6_resize_9 18 rfl rfl)
theorem dJ6_resize_230 : decode cJ6_resize 230 = .ok (.astore 11, 2) := dk_58 11 (dk_at dksJ6_resize_9 19 rfl rfl)
theorem dJ6_resize_232 : decode cJ6_resize 232 = .ok (.aconst_null, 1) := dk_1 (dk_at dksJ6_resize_9 21 rfl rfl)
theorem dJ6_resize_233 : decode cJ6_resize 233 = .ok (.astore 12, 2) := dk_58 12 (dk_at dksJ6_resize_9 22 rfl rfl)
theorem dJ6_resize_235 : decode cJ6_resize 235 = .ok (.aload 8, 2) := dk_25 8 (dk_at dksJ6_resize_10 0 rfl rfl)
theorem dJ6_resize_237 : decode cJ6_resize 237 = .ok (.getfield 177, 3) := dk_180 0 177 (dk_at dksJ6_resize_10 2 rfl rfl)
theorem dJ6_resize_240 : decode cJ6_resize 240 = .ok (.astore 13, 2) := dk_58 13 (dk_at dksJ6_resize_10 5 rfl rfl)
theorem dJ6_resize_242 : decode cJ6_resize 242 = .ok (.aload 8, 2) := dk_25 8 (dk_at dksJ6_resize_10 7 rfl rfl)
theorem dJ6_resize_244 : decode cJ6_resize 244 = .ok (.getfield 168, 3) := dk_180 0 168 (dk_at dksJ6_resize_10 9 rfl rfl)
theorem dJ6_resize_247 : decode cJ6_resize 247 = .ok (.iload_n 2, 1) := dk_28 (dk_at dksJ6_resize_10 12 rfl rfl)
theorem dJ6_resize_248 : decode cJ6_resize 248 = .ok (.iand, 1) := dk_126 (dk_at dksJ6_resize_10 13 rfl rfl)
theorem dJ6_resize_249 : decode cJ6_resize 249 = .ok (.ifCond .ne 29, 3) := dk_154 0 29 (dk_at dksJ6_resize_10 14 rfl rfl)
theorem dJ6_resize_252 : decode cJ6_resize 252 = .ok (.aload 10, 2) := dk_25 10 (dk_at dksJ6_resize_10 17 rfl rfl)
theorem dJ6_resize_254 : decode cJ6_resize 254 = .ok (.ifnonnull 10, 3) := dk_199 0 10 (dk_at dksJ6_resize_10 19 rfl rfl)
theorem dJ6_resize_257 : decode cJ6_resize 257 = .ok (.aload 8, 2) := dk_25 8 (dk_at dksJ6_resize_10 22 rfl rfl)
theorem dJ6_resize_259 : decode cJ6_resize 259 = .ok (.astore 9, 2) := dk_58 9 (dk_at dksJ6_resize_11 0 rfl rfl)
theorem dJ6_resize_261 : decode cJ6_resize 261 = .ok (.goto 10, 3) := dk_167 0 10 (dk_at dksJ6_resize_11 2 rfl rfl)
theorem dJ6_resize_264 : decode cJ6_resize 264 = .ok (.aload 10, 2) := dk_25 10 (dk_at dksJ6_resize_11 5 rfl rfl)
theorem dJ6_resize_266 : decode cJ6_resize 266 = .ok (.aload 8, 2) := dk_25 8 (dk_at dksJ6_resize_11 7 rfl rfl)
theorem dJ6_resize_268 : decode cJ6_resize 268 = .ok (.putfield 177, 3) := dk_181 0 177 (dk_at dksJ6_resize_11 9 rfl rfl)
theorem dJ6_resize_271 : decode cJ6_resize 271 = .ok (.aload 8, 2) := dk_25 8 (dk_at dksJ6_resize_11 12 rfl rfl)
theorem dJ6_resize_273 : decode cJ6_resize 273 = .ok (.astore 10, 2) := dk_58 10 (dk_at dksJ6_resize_11 14 rfl rfl)
theorem dJ6_resize_275 : decode cJ6_resize 275 = .ok (.goto 26, 3) := dk_167 0 26 (dk_at dksJ6_resize_11 16 rfl rfl)
theorem dJ6_resize_278 : decode cJ6_resize 278 = .ok (.aload 12, 2) := dk_25 12 (dk_at dksJ6_resize_11 19 rfl rfl)
theorem dJ6_resize_280 : decode cJ6_resize 280 = .ok (.ifnonnull 10, 3) := dk_199 0 10 (dk_at dksJ6_resize_11 21 rfl rfl)
theorem dJ6_resize_283 : decode cJ6_resize 283 = .ok (.aload 8, 2) := dk_25 8 (dk_at dksJ6_resize_12 0 rfl rfl)
theorem dJ6_resize_285 : decode cJ6_resize 285 = .ok (.astore 11, 2) := dk_58 11 (dk_at dksJ6_resize_12 2 rfl rfl)
theorem dJ6_resize_287 : decode cJ6_resize 287 = .ok (.goto 10, 3) := dk_167 0 10 (dk_at dksJ6_resize_12 4 rfl rfl)
theorem dJ6_resize_290 : decode cJ6_resize 290 = .ok (.aload 12, 2) := dk_25 12 (dk_at dksJ6_resize_12 7 rfl rfl)
theorem dJ6_resize_292 : decode cJ6_resize 292 = .ok (.aload 8, 2) := dk_25 8 (dk_at dksJ6_resize_12 9 rfl rfl)
theorem dJ6_resize_294 : decode cJ6_resize 294 = .ok (.putfield 177, 3) := dk_181 0 177 (dk_at dksJ6_resize_12 11 rfl rfl)
theorem dJ6_resize_297 : decode cJ6_resize 297 = .ok (.aload 8, 2) := dk_25 8 (dk_at dksJ6_resize_12 14 rfl rfl)
theorem dJ6_resize_299 : decode cJ6_resize 299 = .ok (.astore 12, 2) := dk_58 12 (dk_at dksJ6_resize_12 16 rfl rfl)
theorem dJ6_resize_301 : decode cJ6_resize 301 = .ok (.aload 13, 2) := dk_25 13 (dk_at dksJ6_resize_12 18 rfl rfl)
theorem dJ6_resize_303 : decode cJ6_resize 303 = .ok (.dup, 1) := dk_89 (dk_at dksJ6_resize_12 20 rfl rfl)
theorem dJ6_resize_304 : decode cJ6_resize 304 = .ok (.astore 8, 2) := dk_58 8 (dk_at dksJ6_resize_12 21 rfl rfl)
theorem dJ6_resize_306 : decode cJ6_resize 306 = .ok (.ifnonnull (-71), 3) := dk_199 255 185 (dk_at dksJ6_resize_13 0 rfl rfl)
theorem dJ6_resize_309 : decode cJ6_resize 309 = .ok (.aload 10, 2) := dk_25 10 (dk_at dksJ6_resize_13 3 rfl rfl)
theorem dJ6_resize_311 : decode cJ6_resize 311 = .ok (.ifnull 16, 3) := dk_198 0 16 (dk_at dksJ6_resize_13 5 rfl rfl)
theorem dJ6_resize_314 : decode cJ6_resize 314 = .ok (.aload 10, 2) := dk_25 10 (dk_at dksJ6_resize_13 8 rfl rfl)
theorem dJ6_resize_316 : decode cJ6_resize 316 = .ok (.aconst_null, 1) := dk_1 (dk_at dksJ6_resize_13 10 rfl rfl)
theorem dJ6_resize_317 : decode cJ6_resize 317 = .ok (.putfield 177, 3) := dk_181 0 177 (dk_at dksJ6_resize_13 11 rfl rfl)
theorem dJ6_resize_320 : decode cJ6_resize 320 = .ok (.aload 6, 2) := dk_25 6 (dk_at dksJ6_resize_13 14 rfl rfl)
theorem dJ6_resize_322 : decode cJ6_resize 322 = .ok (.iload 7, 2) := dk_21 7 (dk_at dksJ6_resize_13 16 rfl rfl)
theorem dJ6_resize_324 : decode cJ6_resize 324 = .ok (.aload 9, 2) := dk_25 9 (dk_at dksJ6_resize_13 18 rfl rfl)
theorem dJ6_resize_326 : decode cJ6_resize 326 = .ok (.aastore, 1) := dk_83 (dk_at dksJ6_resize_13 20 rfl rfl)
theorem dJ6_resize_327 : decode cJ6_resize 327 = .ok (.aload 12, 2) := dk_25 12 (dk_at dksJ6_resize_13 21 rfl rfl)
theorem dJ6_resize_329 : decode cJ6_resize 329 = .ok (.ifnull 18, 3) := dk_198 0 18 (dk_at dksJ6_resize_14 0 rfl rfl)
theorem dJ6_resize_332 : decode cJ6_resize 332 = .ok (.aload 12, 2) := dk_25 12 (dk_at dksJ6_resize_14 3 rfl rfl)
theorem dJ6_resize_334 : decode cJ6_resize 334 = .ok (.aconst_null, 1) := dk_1 (dk_at dksJ6_resize_14 5 rfl rfl)
theorem dJ6_resize_335 : decode cJ6_resize 335 = .ok (.putfield 177, 3) := dk_181 0 177 (dk_at dksJ6_resize_14 6 rfl rfl)
theorem dJ6_resize_338 : decode cJ6_resize 338 = .ok (.aload 6, 2) := dk_25 6 (dk_at dksJ6_resize_14 9 rfl rfl)
theorem dJ6_resize_340 : decode cJ6_resize 340 = .ok (.iload 7, 2) := dk_21 7 (dk_at dksJ6_resize_14 11 rfl rfl)
theorem dJ6_resize_342 : decode cJ6_resize 342 = .ok (.iload_n 2, 1) := dk_28 (dk_at dksJ6_resize_14 13 rfl rfl)
theorem dJ6_resize_343 : decode cJ6_resize 343 = .ok (.iadd, 1) := dk_96 (dk_at dksJ6_resize_14 14 rfl rfl)
theorem dJ6_resize_344 : decode cJ6_resize 344 = .ok (.aload 11, 2) := dk_25 11 (dk_at dksJ6_resize_14 15 rfl rfl)
theorem dJ6_resize_346 : decode cJ6_resize 346 = .ok (.aastore, 1) := dk_83 (dk_at dksJ6_resize_14 17 rfl rfl)
theorem dJ6_resize_347 : decode cJ6_resize 347 = .ok (.iinc 7 1, 3) := dk_132 7 1 (dk_at dksJ6_resize_14 18 rfl rfl)
theorem dJ6_resize_350 : decode cJ6_resize 350 = .ok (.goto (-199), 3) := dk_167 255 57 (dk_at dksJ6_resize_14 21 rfl rfl)
theorem dJ6_resize_353 : decode cJ6_resize 353 = .ok (.aload 6, 2) := dk_25 6 (dk_at dksJ6_resize_15 0 rfl rfl)
theorem dJ6_resize_355 : decode cJ6_resize 355 = .ok (.areturn, 1) := dk_176 (dk_at dksJ6_resize_15 2 rfl rfl)
abbrev cJ6_comparableClassFor : ByteArray := prog_41_method_2_code
def yJ6_comparableClassFor : MethodName := ⟨RJ6, "comparableClassFor", "(Ljava/lang/Object;)Ljava/lang/Class;"⟩
def dkwJ6_comparableClassFor_4 : List UInt8 := [4, 160, 0, 12, 45, 3, 50, 43, 166, 0, 5, 43, 176, 132, 7, 1, 167, 255, 186, 1, 176]
abbrev dktJ6_comparableClassFor_4 : List UInt8 := dkwJ6_comparableClassFor_4 ++ []
def dkwJ6_comparableClassFor_3 : List UInt8 := [185, 0, 23, 1, 0, 18, 7, 166, 0, 30, 25, 4, 185, 0, 27, 1, 0, 89, 78, 198, 0, 18, 45, 190]
abbrev dktJ6_comparableClassFor_3 : List UInt8 := dkwJ6_comparableClassFor_3 ++ dktJ6_comparableClassFor_4
def dkwJ6_comparableClassFor_2 : List UInt8 := [25, 5, 21, 7, 50, 58, 8, 25, 8, 193, 0, 21, 153, 0, 48, 25, 8, 192, 0, 21, 89, 58, 4]
abbrev dktJ6_comparableClassFor_2 : List UInt8 := dkwJ6_comparableClassFor_2 ++ dktJ6_comparableClassFor_3
def dkwJ6_comparableClassFor_1 : List UInt8 := [89, 77, 198, 0, 87, 44, 58, 5, 25, 5, 190, 54, 6, 3, 54, 7, 21, 7, 21, 6, 162, 0, 69]
abbrev dktJ6_comparableClassFor_1 : List UInt8 := dkwJ6_comparableClassFor_1 ++ dktJ6_comparableClassFor_2
def dkwJ6_comparableClassFor_0 : List UInt8 := [42, 193, 0, 7, 153, 0, 109, 42, 182, 0, 9, 89, 76, 18, 13, 166, 0, 5, 43, 176, 43, 182, 0, 15]
abbrev dktJ6_comparableClassFor_0 : List UInt8 := dkwJ6_comparableClassFor_0 ++ dktJ6_comparableClassFor_1
theorem dksJ6_comparableClassFor_0 : cJ6_comparableClassFor.data.toList.drop 0 = dktJ6_comparableClassFor_0 := by decide +kernel
theorem dksJ6_comparableClassFor_1 : cJ6_comparableClassFor.data.toList.drop 24 = dktJ6_comparableClassFor_1 := dk_seg dksJ6_comparableClassFor_0 24 rfl rfl
theorem dksJ6_comparableClassFor_2 : cJ6_comparableClassFor.data.toList.drop 47 = dktJ6_comparableClassFor_2 := dk_seg dksJ6_comparableClassFor_1 23 rfl rfl
theorem dksJ6_comparableClassFor_3 : cJ6_comparableClassFor.data.toList.drop 70 = dktJ6_comparableClassFor_3 := dk_seg dksJ6_comparableClassFor_2 23 rfl rfl
theorem dksJ6_comparableClassFor_4 : cJ6_comparableClassFor.data.toList.drop 94 = dktJ6_comparableClassFor_4 := dk_seg dksJ6_comparableClassFor_3 24 rfl rfl
theorem dJ6_comparableClassFor_0 : decode cJ6_comparableClassFor 0 = .ok (.aload_n 0, 1) := dk_42 (dk_at dksJ6_comparableClassFor_0 0 rfl rfl)
theorem dJ6_comparableClassFor_1 : decode cJ6_comparableClassFor 1 = .ok (.instanceof 7, 3) := dk_193 0 7 (dk_at dksJ6_comparableClassFor_0 1 rfl rfl)
theorem dJ6_comparableClassFor_4 : decode cJ6_comparableClassFor 4 = .ok (.ifCond .eq 109, 3) := dk_153 0 109 (dk_at dksJ6_comparableClassFor_0 4 rfl rfl)
theorem dJ6_comparableClassFor_7 : decode cJ6_comparableClassFor 7 = .ok (.aload_n 0, 1) := dk_42 (dk_at dksJ6_comparableClassFor_0 7 rfl rfl)
theorem dJ6_comparableClassFor_8 : decode cJ6_comparableClassFor 8 = .ok (.invokevirtual 9, 3) := dk_182 0 9 (dk_at dksJ6_comparableClassFor_0 8 rfl rfl)
theorem dJ6_comparableClassFor_11 : decode cJ6_comparableClassFor 11 = .ok (.dup, 1) := dk_89 (dk_at dksJ6_comparableClassFor_0 11 rfl rfl)
theorem dJ6_comparableClassFor_12 : decode cJ6_comparableClassFor 12 = .ok (.astore_n 1, 1) := dk_76 (dk_at dksJ6_comparableClassFor_0 12 rfl rfl)
theorem dJ6_comparableClassFor_13 : decode cJ6_comparableClassFor 13 = .ok (.ldc 13, 2) := dk_18 13 (dk_at dksJ6_comparableClassFor_0 13 rfl rfl)
theorem dJ6_comparableClassFor_15 : decode cJ6_comparableClassFor 15 = .ok (.if_acmp .ne 5, 3) := dk_166 0 5 (dk_at dksJ6_comparableClassFor_0 15 rfl rfl)
theorem dJ6_comparableClassFor_18 : decode cJ6_comparableClassFor 18 = .ok (.aload_n 1, 1) := dk_43 (dk_at dksJ6_comparableClassFor_0 18 rfl rfl)
theorem dJ6_comparableClassFor_19 : decode cJ6_comparableClassFor 19 = .ok (.areturn, 1) := dk_176 (dk_at dksJ6_comparableClassFor_0 19 rfl rfl)
theorem dJ6_comparableClassFor_20 : decode cJ6_comparableClassFor 20 = .ok (.aload_n 1, 1) := dk_43 (dk_at dksJ6_comparableClassFor_0 20 rfl rfl)
theorem dJ6_comparableClassFor_21 : decode cJ6_comparableClassFor 21 = .ok (.invokevirtual 15, 3) := dk_182 0 15 (dk_at dksJ6_comparableClassFor_0 21 rfl rfl)
theorem dJ6_comparableClassFor_24 : decode cJ6_comparableClassFor 24 = .ok (.dup, 1) := dk_89 (dk_at dksJ6_comparableClassFor_1 0 rfl rfl)
theorem dJ6_comparableClassFor_25 : decode cJ6_comparableClassFor 25 = .ok (.astore_n 2, 1) := dk_77 (dk_at dksJ6_comparableClassFor_1 1 rfl rfl)
theorem dJ6_comparableClassFor_26 : decode cJ6_comparableClassFor 26 = .ok (.ifnull 87, 3) := dk_198 0 87 (dk_at dksJ6_comparableClassFor_1 2 rfl rfl)
theorem dJ6_comparableClassFor_29 : decode cJ6_comparableClassFor 29 = .ok (.aload_n 2, 1) := dk_44 (dk_at dksJ6_comparableClassFor_1 5 rfl rfl)
theorem dJ6_comparableClassFor_30 : decode cJ6_comparableClassFor 30 = .ok (.astore 5, 2) := dk_58 5 (dk_at dksJ6_comparableClassFor_1 6 rfl rfl)
theorem dJ6_comparableClassFor_32 : decode cJ6_comparableClassFor 32 = .ok (.aload 5, 2) := dk_25 5 (dk_at dksJ6_comparableClassFor_1 8 rfl rfl)
theorem dJ6_comparableClassFor_34 : decode cJ6_comparableClassFor 34 = .ok (.arraylength, 1) := dk_190 (dk_at dksJ6_comparableClassFor_1 10 rfl rfl)
theorem dJ6_comparableClassFor_35 : decode cJ6_comparableClassFor 35 = .ok (.istore 6, 2) := dk_54 6 (dk_at dksJ6_comparableClassFor_1 11 rfl rfl)
theorem dJ6_comparableClassFor_37 : decode cJ6_comparableClassFor 37 = .ok (.iconst 0, 1) := dk_3 (dk_at dksJ6_comparableClassFor_1 13 rfl rfl)
theorem dJ6_comparableClassFor_38 : decode cJ6_comparableClassFor 38 = .ok (.istore 7, 2) := dk_54 7 (dk_at dksJ6_comparableClassFor_1 14 rfl rfl)
theorem dJ6_comparableClassFor_40 : decode cJ6_comparableClassFor 40 = .ok (.iload 7, 2) := dk_21 7 (dk_at dksJ6_comparableClassFor_1 16 rfl rfl)
theorem dJ6_comparableClassFor_42 : decode cJ6_comparableClassFor 42 = .ok (.iload 6, 2) := dk_21 6 (dk_at dksJ6_comparableClassFor_1 18 rfl rfl)
theorem dJ6_comparableClassFor_44 : decode cJ6_comparableClassFor 44 = .ok (.if_icmp .ge 69, 3) := dk_162 0 69 (dk_at dksJ6_comparableClassFor_1 20 rfl rfl)
theorem dJ6_comparableClassFor_47 : decode cJ6_comparableClassFor 47 = .ok (.aload 5, 2) := dk_25 5 (dk_at dksJ6_comparableClassFor_2 0 rfl rfl)
theorem dJ6_comparableClassFor_49 : decode cJ6_comparableClassFor 49 = .ok (.iload 7, 2) := dk_21 7 (dk_at dksJ6_comparableClassFor_2 2 rfl rfl)
theorem dJ6_comparableClassFor_51 : decode cJ6_comparableClassFor 51 = .ok (.aaload, 1) := dk_50 (dk_at dksJ6_comparableClassFor_2 4 rfl rfl)
theorem dJ6_comparableClassFor_52 : decode cJ6_comparableClassFor 52 = .ok (.astore 8, 2) := dk_58 8 (dk_at dksJ6_comparableClassFor_2 5 rfl rfl)
theorem dJ6_comparableClassFor_54 : decode cJ6_comparableClassFor 54 = .ok (.aload 8, 2) := dk_25 8 (dk_at dksJ6_comparableClassFor_2 7 rfl rfl)
theorem dJ6_comparableClassFor_56 : decode cJ6_comparableClassFor 56 = .ok (.instanceof 21, 3) := dk_193 0 21 (dk_at dksJ6_comparableClassFor_2 9 rfl rfl)
theorem dJ6_comparableClassFor_59 : decode cJ6_comparableClassFor 59 = .ok (.ifCond .eq 48, 3) := dk_153 0 48 (dk_at dksJ6_comparableClassFor_2 12 rfl rfl)
theorem dJ6_comparableClassFor_62 : decode cJ6_comparableClassFor 62 = .ok (.aload 8, 2) := dk_25 8 (dk_at dksJ6_comparableClassFor_2 15 rfl rfl)
theorem dJ6_comparableClassFor_64 : decode cJ6_comparableClassFor 64 = .ok (.checkcast 21, 3) := dk_192 0 21 (dk_at dksJ6_comparableClassFor_2 17 rfl rfl)
theorem dJ6_comparableClassFor_67 : decode cJ6_comparableClassFor 67 = .ok (.dup, 1) := dk_89 (dk_at dksJ6_comparableClassFor_2 20 rfl rfl)
theorem dJ6_comparableClassFor_68 : decode cJ6_comparableClassFor 68 = .ok (.astore 4, 2) := dk_58 4 (dk_at dksJ6_comparableClassFor_2 21 rfl rfl)
theorem dJ6_comparableClassFor_70 : decode cJ6_comparableClassFor 70 = .ok (.invokeinterface 23 1, 5) := by decide +kernel
theorem dJ6_comparableClassFor_75 : decode cJ6_comparableClassFor 75 = .ok (.ldc 7, 2) := dk_18 7 (dk_at dksJ6_comparableClassFor_3 5 rfl rfl)
theorem dJ6_comparableClassFor_77 : decode cJ6_comparableClassFor 77 = .ok (.if_acmp .ne 30, 3) := dk_166 0 30 (dk_at dksJ6_comparableClassFor_3 7 rfl rfl)
theorem dJ6_comparableClassFor_80 : decode cJ6_comparableClassFor 80 = .ok (.aload 4, 2) := dk_25 4 (dk_at dksJ6_comparableClassFor_3 10 rfl rfl)
theorem dJ6_comparableClassFor_82 : decode cJ6_comparableClassFor 82 = .ok (.invokeinterface 27 1, 5) := by decide +kernel
theorem dJ6_comparableClassFor_87 : decode cJ6_comparableClassFor 87 = .ok (.dup, 1) := dk_89 (dk_at dksJ6_comparableClassFor_3 17 rfl rfl)
theorem dJ6_comparableClassFor_88 : decode cJ6_comparableClassFor 88 = .ok (.astore_n 3, 1) := dk_78 (dk_at dksJ6_comparableClassFor_3 18 rfl rfl)
theorem dJ6_comparableClassFor_89 : decode cJ6_comparableClassFor 89 = .ok (.ifnull 18, 3) := dk_198 0 18 (dk_at dksJ6_comparableClassFor_3 19 rfl rfl)
theorem dJ6_comparableClassFor_92 : decode cJ6_comparableClassFor 92 = .ok (.aload_n 3, 1) := dk_45 (dk_at dksJ6_comparableClassFor_3 22 rfl rfl)
theorem dJ6_comparableClassFor_93 : decode cJ6_comparableClassFor 93 = .ok (.arraylength, 1) := dk_190 (dk_at dksJ6_comparableClassFor_3 23 rfl rfl)
theorem dJ6_comparableClassFor_94 : decode cJ6_comparableClassFor 94 = .ok (.iconst 1, 1) := dk_4 (dk_at dksJ6_comparableClassFor_4 0 rfl rfl)
theorem dJ6_comparableClassFor_95 : decode cJ6_comparableClassFor 95 = .ok (.if_icmp .ne 12, 3) := dk_160 0 12 (dk_at dksJ6_comparableClassFor_4 1 rfl rfl)
theorem dJ6_comparableClassFor_98 : decode cJ6_comparableClassFor 98 = .ok (.aload_n 3, 1) := dk_45 (dk_at dksJ6_comparableClassFor_4 4 rfl rfl)
theorem dJ6_comparableClassFor_99 : decode cJ6_comparableClassFor 99 = .ok (.iconst 0, 1) := dk_3 (dk_at dksJ6_comparableClassFor_4 5 rfl rfl)
theorem dJ6_comparableClassFor_100 : decode cJ6_comparableClassFor 100 = .ok (.aaload, 1) := dk_50 (dk_at dksJ6_comparableClassFor_4 6 rfl rfl)
theorem dJ6_comparableClassFor_101 : decode cJ6_comparableClassFor 101 = .ok (.aload_n 1, 1) := dk_43 (dk_at dksJ6_comparableClassFor_4 7 rfl rfl)
theorem dJ6_comparableClassFor_102 : decode cJ6_comparableClassFor 102 = .ok (.if_acmp .ne 5, 3) := dk_166 0 5 (dk_at dksJ6_comparableClassFor_4 8 rfl rfl)
theorem dJ6_comparableClassFor_105 : decode cJ6_comparableClassFor 105 = .ok (.aload_n 1, 1) := dk_43 (dk_at dksJ6_comparableClassFor_4 11 rfl rfl)
theorem dJ6_comparableClassFor_106 : decode cJ6_comparableClassFor 106 = .ok (.areturn, 1) := dk_176 (dk_at dksJ6_comparableClassFor_4 12 rfl rfl)
theorem dJ6_comparableClassFor_107 : decode cJ6_comparableClassFor 107 = .ok (.iinc 7 1, 3) := dk_132 7 1 (dk_at dksJ6_comparableClassFor_4 13 rfl rfl)
theorem dJ6_comparableClassFor_110 : decode cJ6_comparableClassFor 110 = .ok (.goto (-70), 3) := dk_167 255 186 (dk_at dksJ6_comparableClassFor_4 16 rfl rfl)
theorem dJ6_comparableClassFor_113 : decode cJ6_comparableClassFor 113 = .ok (.aconst_null, 1) := dk_1 (dk_at dksJ6_comparableClassFor_4 19 rfl rfl)
theorem dJ6_comparableClassFor_114 : decode cJ6_comparableClassFor 114 = .ok (.areturn, 1) := dk_176 (dk_at dksJ6_comparableClassFor_4 20 rfl rfl)
abbrev cJ6_compareComparables : ByteArray := prog_41_method_3_code
def yJ6_compareComparables : MethodName := ⟨RJ6, "compareComparables", "(Ljava/lang/Class;Ljava/lang/Object;Ljava/lang/Object;)I"⟩
def dkwJ6_compareComparables_1 : List UInt8 := [185, 0, 30, 2, 0, 172]
abbrev dktJ6_compareComparables_1 : List UInt8 := dkwJ6_compareComparables_1 ++ []
def dkwJ6_compareComparables_0 : List UInt8 := [44, 198, 0, 11, 44, 182, 0, 9, 42, 165, 0, 7, 3, 167, 0, 13, 43, 192, 0, 7, 44]
abbrev dktJ6_compareComparables_0 : List UInt8 := dkwJ6_compareComparables_0 ++ dktJ6_compareComparables_1
theorem dksJ6_compareComparables_0 : cJ6_compareComparables.data.toList.drop 0 = dktJ6_compareComparables_0 := by decide +kernel
theorem dksJ6_compareComparables_1 : cJ6_compareComparables.data.toList.drop 21 = dktJ6_compareComparables_1 := dk_seg dksJ6_compareComparables_0 21 rfl rfl
theorem dJ6_compareComparables_0 : decode cJ6_compareComparables 0 = .ok (.aload_n 2, 1) := dk_44 (dk_at dksJ6_compareComparables_0 0 rfl rfl)
theorem dJ6_compareComparables_1 : decode cJ6_compareComparables 1 = .ok (.ifnull 11, 3) := dk_198 0 11 (dk_at dksJ6_compareComparables_0 1 rfl rfl)
theorem dJ6_compareComparables_4 : decode cJ6_compareComparables 4 = .ok (.aload_n 2, 1) := dk_44 (dk_at dksJ6_compareComparables_0 4 rfl rfl)
theorem dJ6_compareComparables_5 : decode cJ6_compareComparables 5 = .ok (.invokevirtual 9, 3) := dk_182 0 9 (dk_at dksJ6_compareComparables_0 5 rfl rfl)
theorem dJ6_compareComparables_8 : decode cJ6_compareComparables 8 = .ok (.aload_n 0, 1) := dk_42 (dk_at dksJ6_compareComparables_0 8 rfl rfl)
theorem dJ6_compareComparables_9 : decode cJ6_compareComparables 9 = .ok (.if_acmp .eq 7, 3) := dk_165 0 7 (dk_at dksJ6_compareComparables_0 9 rfl rfl)
theorem dJ6_compareComparables_12 : decode cJ6_compareComparables 12 = .ok (.iconst 0, 1) := dk_3 (dk_at dksJ6_compareComparables_0 12 rfl rfl)
theorem dJ6_compareComparables_13 : decode cJ6_compareComparables 13 = .ok (.goto 13, 3) := dk_167 0 13 (dk_at dksJ6_compareComparables_0 13 rfl rfl)
theorem dJ6_compareComparables_16 : decode cJ6_compareComparables 16 = .ok (.aload_n 1, 1) := dk_43 (dk_at dksJ6_compareComparables_0 16 rfl rfl)
theorem dJ6_compareComparables_17 : decode cJ6_compareComparables 17 = .ok (.checkcast 7, 3) := dk_192 0 7 (dk_at dksJ6_compareComparables_0 17 rfl rfl)
theorem dJ6_compareComparables_20 : decode cJ6_compareComparables 20 = .ok (.aload_n 2, 1) := dk_44 (dk_at dksJ6_compareComparables_0 20 rfl rfl)
theorem dJ6_compareComparables_21 : decode cJ6_compareComparables 21 = .ok (.invokeinterface 30 2, 5) := by decide +kernel
theorem dJ6_compareComparables_26 : decode cJ6_compareComparables 26 = .ok (.ireturn, 1) := dk_172 (dk_at dksJ6_compareComparables_1 5 rfl rfl)
abbrev cJ6_treeifyBin : ByteArray := prog_41_method_18_code
def yJ6_treeifyBin : MethodName := ⟨RJ6, "treeifyBin", "([Ljava/util/HashMap$Node;I)V"⟩
def dkwJ6_treeifyBin_4 : List UInt8 := [21, 4, 25, 6, 91, 83, 198, 0, 9, 25, 6, 43, 182, 0, 224, 177]
abbrev dktJ6_treeifyBin_4 : List UInt8 := dkwJ6_treeifyBin_4 ++ []
def dkwJ6_treeifyBin_3 : List UInt8 := [25, 7, 25, 8, 181, 0, 223, 25, 8, 58, 7, 25, 5, 180, 0, 177, 89, 58, 5, 199, 255, 209, 43]
abbrev dktJ6_treeifyBin_3 : List UInt8 := dkwJ6_treeifyBin_3 ++ dktJ6_treeifyBin_4
def dkwJ6_treeifyBin_2 : List UInt8 := [182, 0, 215, 58, 8, 25, 7, 199, 0, 10, 25, 8, 58, 6, 167, 0, 17, 25, 8, 25, 7, 181, 0, 219]
abbrev dktJ6_treeifyBin_2 : List UInt8 := dkwJ6_treeifyBin_2 ++ dktJ6_treeifyBin_3
def dkwJ6_treeifyBin_1 : List UInt8 := [100, 28, 126, 89, 54, 4, 50, 89, 58, 5, 198, 0, 75, 1, 58, 6, 1, 58, 7, 42, 25, 5, 1]
abbrev dktJ6_treeifyBin_1 : List UInt8 := dkwJ6_treeifyBin_1 ++ dktJ6_treeifyBin_2
def dkwJ6_treeifyBin_0 : List UInt8 := [43, 198, 0, 12, 43, 190, 89, 62, 16, 64, 162, 0, 11, 42, 182, 0, 117, 87, 167, 0, 91, 43, 29, 4]
abbrev dktJ6_treeifyBin_0 : List UInt8 := dkwJ6_treeifyBin_0 ++ dktJ6_treeifyBin_1
theorem dksJ6_treeifyBin_0 : cJ6_treeifyBin.data.toList.drop 0 = dktJ6_treeifyBin_0 := by decide +kernel
theorem dksJ6_treeifyBin_1 : cJ6_treeifyBin.data.toList.drop 24 = dktJ6_treeifyBin_1 := dk_seg dksJ6_treeifyBin_0 24 rfl rfl
theorem dksJ6_treeifyBin_2 : cJ6_treeifyBin.data.toList.drop 47 = dktJ6_treeifyBin_2 := dk_seg dksJ6_treeifyBin_1 23 rfl rfl
theorem dksJ6_treeifyBin_3 : cJ6_treeifyBin.data.toList.drop 71 = dktJ6_treeifyBin_3 := dk_seg dksJ6_treeifyBin_2 24 rfl rfl
theorem dksJ6_treeifyBin_4 : cJ6_treeifyBin.data.toList.drop 94 = dktJ6_treeifyBin_4 := dk_seg dksJ6_treeifyBin_3 23 rfl rfl
theorem dJ6_treeifyBin_0 : decode cJ6_treeifyBin 0 = .ok (.aload_n 1, 1) := dk_43 (dk_at dksJ6_treeifyBin_0 0 rfl rfl)
theorem dJ6_treeifyBin_1 : decode cJ6_treeifyBin 1 = .ok (.ifnull 12, 3) := dk_198 0 12 (dk_at dksJ6_treeifyBin_0 1 rfl rfl)
theorem dJ6_treeifyBin_4 : decode cJ6_treeifyBin 4 = .ok (.aload_n 1, 1) := dk_43 (dk_at dksJ6_treeifyBin_0 4 rfl rfl)
theorem dJ6_treeifyBin_5 : decode cJ6_treeifyBin 5 = .ok (.arraylength, 1) := dk_190 (dk_at dksJ6_treeifyBin_0 5 rfl rfl)
theorem dJ6_treeifyBin_6 : decode cJ6_treeifyBin 6 = .ok (.dup, 1) := dk_89 (dk_at dksJ6_treeifyBin_0 6 rfl rfl)
theorem dJ6_treeifyBin_7 : decode cJ6_treeifyBin 7 = .ok (.istore_n 3, 1) := dk_62 (dk_at dksJ6_treeifyBin_0 7 rfl rfl)
theorem dJ6_treeifyBin_8 : decode cJ6_treeifyBin 8 = .ok (.bipush 64, 2) := dk_16 64 (dk_at dksJ6_treeifyBin_0 8 rfl rfl)
theorem dJ6_treeifyBin_10 : decode cJ6_treeifyBin 10 = .ok (.if_icmp .ge 11, 3) := dk_162 0 11 (dk_at dksJ6_treeifyBin_0 10 rfl rfl)
theorem dJ6_treeifyBin_13 : decode cJ6_treeifyBin 13 = .ok (.aload_n 0, 1) := dk_42 (dk_at dksJ6_treeifyBin_0 13 rfl rfl)
theorem dJ6_treeifyBin_14 : decode cJ6_treeifyBin 14 = .ok (.invokevirtual 117, 3) := dk_182 0 117 (dk_at dksJ6_treeifyBin_0 14 rfl rfl)
theorem dJ6_treeifyBin_17 : decode cJ6_treeifyBin 17 = .ok (.pop, 1) := dk_87 (dk_at dksJ6_treeifyBin_0 17 rfl rfl)
theorem dJ6_treeifyBin_18 : decode cJ6_treeifyBin 18 = .ok (.goto 91, 3) := dk_167 0 91 (dk_at dksJ6_treeifyBin_0 18 rfl rfl)
theorem dJ6_treeifyBin_21 : decode cJ6_treeifyBin 21 = .ok (.aload_n 1, 1) := dk_43 (dk_at dksJ6_treeifyBin_0 21 rfl rfl)
theorem dJ6_treeifyBin_22 : decode cJ6_treeifyBin 22 = .ok (.iload_n 3, 1) := dk_29 (dk_at dksJ6_treeifyBin_0 22 rfl rfl)
theorem dJ6_treeifyBin_23 : decode cJ6_treeifyBin 23 = .ok (.iconst 1, 1) := dk_4 (dk_at dksJ6_treeifyBin_0 23 rfl rfl)
theorem dJ6_treeifyBin_24 : decode cJ6_treeifyBin 24 = .ok (.isub, 1) := dk_100 (dk_at dksJ6_treeifyBin_1 0 rfl rfl)
theorem dJ6_treeifyBin_25 : decode cJ6_treeifyBin 25 = .ok (.iload_n 2, 1) := dk_28 (dk_at dksJ6_treeifyBin_1 1 rfl rfl)
theorem dJ6_treeifyBin_26 : decode cJ6_treeifyBin 26 = .ok (.iand, 1) := dk_126 (dk_at dksJ6_treeifyBin_1 2 rfl rfl)
theorem dJ6_treeifyBin_27 : decode cJ6_treeifyBin 27 = .ok (.dup, 1) := dk_89 (dk_at dksJ6_treeifyBin_1 3 rfl rfl)
theorem dJ6_treeifyBin_28 : decode cJ6_treeifyBin 28 = .ok (.istore 4, 2) := dk_54 4 (dk_at dksJ6_treeifyBin_1 4 rfl rfl)
theorem dJ6_treeifyBin_30 : decode cJ6_treeifyBin 30 = .ok (.aaload, 1) := dk_50 (dk_at dksJ6_treeifyBin_1 6 rfl rfl)
theorem dJ6_treeifyBin_31 : decode cJ6_treeifyBin 31 = .ok (.dup, 1) := dk_89 (dk_at dksJ6_treeifyBin_1 7 rfl rfl)
theorem dJ6_treeifyBin_32 : decode cJ6_treeifyBin 32 = .ok (.astore 5, 2) := dk_58 5 (dk_at dksJ6_treeifyBin_1 8 rfl rfl)
theorem dJ6_treeifyBin_34 : decode cJ6_treeifyBin 34 = .ok (.ifnull 75, 3) := dk_198 0 75 (dk_at dksJ6_treeifyBin_1 10 rfl rfl)
theorem dJ6_treeifyBin_37 : decode cJ6_treeifyBin 37 = .ok (.aconst_null, 1) := dk_1 (dk_at dksJ6_treeifyBin_1 13 rfl rfl)
theorem dJ6_treeifyBin_38 : decode cJ6_treeifyBin 38 = .ok (.astore 6, 2) := dk_58 6 (dk_at dksJ6_treeifyBin_1 14 rfl rfl)
theorem dJ6_treeifyBin_40 : decode cJ6_treeifyBin 40 = .ok (.aconst_null, 1) := dk_1 (dk_at dksJ6_treeifyBin_1 16 rfl rfl)
theorem dJ6_treeifyBin_41 : decode cJ6_treeifyBin 41 = .ok (.astore 7, 2) := dk_58 7 (dk_at dksJ6_treeifyBin_1 17 rfl rfl)
theorem dJ6_treeifyBin_43 : decode cJ6_treeifyBin 43 = .ok (.aload_n 0, 1) := dk_42 (dk_at dksJ6_treeifyBin_1 19 rfl rfl)
theorem dJ6_treeifyBin_44 : decode cJ6_treeifyBin 44 = .ok (.aload 5, 2) := dk_25 5 (dk_at dksJ6_treeifyBin_1 20 rfl rfl)
theorem dJ6_treeifyBin_46 : decode cJ6_treeifyBin 46 = .ok (.aconst_null, 1) := dk_1 (dk_at dksJ6_treeifyBin_1 22 rfl rfl)
theorem dJ6_treeifyBin_47 : decode cJ6_treeifyBin 47 = .ok (.invokevirtual 215, 3) := dk_182 0 215 (dk_at dksJ6_treeifyBin_2 0 rfl rfl)
theorem dJ6_treeifyBin_50 : decode cJ6_treeifyBin 50 = .ok (.astore 8, 2) := dk_58 8 (dk_at dksJ6_treeifyBin_2 3 rfl rfl)
theorem dJ6_treeifyBin_52 : decode cJ6_treeifyBin 52 = .ok (.aload 7, 2) := dk_25 7 (dk_at dksJ6_treeifyBin_2 5 rfl rfl)
theorem dJ6_treeifyBin_54 : decode cJ6_treeifyBin 54 = .ok (.ifnonnull 10, 3) := dk_199 0 10 (dk_at dksJ6_treeifyBin_2 7 rfl rfl)
theorem dJ6_treeifyBin_57 : decode cJ6_treeifyBin 57 = .ok (.aload 8, 2) := dk_25 8 (dk_at dksJ6_treeifyBin_2 10 rfl rfl)
theorem dJ6_treeifyBin_59 : decode cJ6_treeifyBin 59 = .ok (.astore 6, 2) := dk_58 6 (dk_at dksJ6_treeifyBin_2 12 rfl rfl)
theorem dJ6_treeifyBin_61 : decode cJ6_treeifyBin 61 = .ok (.goto 17, 3) := dk_167 0 17 (dk_at dksJ6_treeifyBin_2 14 rfl rfl)
theorem dJ6_treeifyBin_64 : decode cJ6_treeifyBin 64 = .ok (.aload 8, 2) := dk_25 8 (dk_at dksJ6_treeifyBin_2 17 rfl rfl)
theorem dJ6_treeifyBin_66 : decode cJ6_treeifyBin 66 = .ok (.aload 7, 2) := dk_25 7 (dk_at dksJ6_treeifyBin_2 19 rfl rfl)
theorem dJ6_treeifyBin_68 : decode cJ6_treeifyBin 68 = .ok (.putfield 219, 3) := dk_181 0 219 (dk_at dksJ6_treeifyBin_2 21 rfl rfl)
theorem dJ6_treeifyBin_71 : decode cJ6_treeifyBin 71 = .ok (.aload 7, 2) := dk_25 7 (dk_at dksJ6_treeifyBin_3 0 rfl rfl)
theorem dJ6_treeifyBin_73 : decode cJ6_treeifyBin 73 = .ok (.aload 8, 2) := dk_25 8 (dk_at dksJ6_treeifyBin_3 2 rfl rfl)
theorem dJ6_treeifyBin_75 : decode cJ6_treeifyBin 75 = .ok (.putfield 223, 3) := dk_181 0 223 (dk_at dksJ6_treeifyBin_3 4 rfl rfl)
theorem dJ6_treeifyBin_78 : decode cJ6_treeifyBin 78 = .ok (.aload 8, 2) := dk_25 8 (dk_at dksJ6_treeifyBin_3 7 rfl rfl)
theorem dJ6_treeifyBin_80 : decode cJ6_treeifyBin 80 = .ok (.astore 7, 2) := dk_58 7 (dk_at dksJ6_treeifyBin_3 9 rfl rfl)
theorem dJ6_treeifyBin_82 : decode cJ6_treeifyBin 82 = .ok (.aload 5, 2) := dk_25 5 (dk_at dksJ6_treeifyBin_3 11 rfl rfl)
theorem dJ6_treeifyBin_84 : decode cJ6_treeifyBin 84 = .ok (.getfield 177, 3) := dk_180 0 177 (dk_at dksJ6_treeifyBin_3 13 rfl rfl)
theorem dJ6_treeifyBin_87 : decode cJ6_treeifyBin 87 = .ok (.dup, 1) := dk_89 (dk_at dksJ6_treeifyBin_3 16 rfl rfl)
theorem dJ6_treeifyBin_88 : decode cJ6_treeifyBin 88 = .ok (.astore 5, 2) := dk_58 5 (dk_at dksJ6_treeifyBin_3 17 rfl rfl)
theorem dJ6_treeifyBin_90 : decode cJ6_treeifyBin 90 = .ok (.ifnonnull (-47), 3) := dk_199 255 209 (dk_at dksJ6_treeifyBin_3 19 rfl rfl)
theorem dJ6_treeifyBin_93 : decode cJ6_treeifyBin 93 = .ok (.aload_n 1, 1) := dk_43 (dk_at dksJ6_treeifyBin_3 22 rfl rfl)
theorem dJ6_treeifyBin_94 : decode cJ6_treeifyBin 94 = .ok (.iload 4, 2) := dk_21 4 (dk_at dksJ6_treeifyBin_4 0 rfl rfl)
theorem dJ6_treeifyBin_96 : decode cJ6_treeifyBin 96 = .ok (.aload 6, 2) := dk_25 6 (dk_at dksJ6_treeifyBin_4 2 rfl rfl)
theorem dJ6_treeifyBin_98 : decode cJ6_treeifyBin 98 = .ok (.dup_x2, 1) := dk_91 (dk_at dksJ6_treeifyBin_4 4 rfl rfl)
theorem dJ6_treeifyBin_99 : decode cJ6_treeifyBin 99 = .ok (.aastore, 1) := dk_83 (dk_at dksJ6_treeifyBin_4 5 rfl rfl)
theorem dJ6_treeifyBin_100 : decode cJ6_treeifyBin 100 = .ok (.ifnull 9, 3) := dk_198 0 9 (dk_at dksJ6_treeifyBin_4 6 rfl rfl)
theorem dJ6_treeifyBin_103 : decode cJ6_treeifyBin 103 = .ok (.aload 6, 2) := dk_25 6 (dk_at dksJ6_treeifyBin_4 9 rfl rfl)
theorem dJ6_treeifyBin_105 : decode cJ6_treeifyBin 105 = .ok (.aload_n 1, 1) := dk_43 (dk_at dksJ6_treeifyBin_4 11 rfl rfl)
theorem dJ6_treeifyBin_106 : decode cJ6_treeifyBin 106 = .ok (.invokevirtual 224, 3) := dk_182 0 224 (dk_at dksJ6_treeifyBin_4 12 rfl rfl)
theorem dJ6_treeifyBin_109 : decode cJ6_treeifyBin 109 = .ok (.return_, 1) := dk_177 (dk_at dksJ6_treeifyBin_4 15 rfl rfl)
theorem q66 : (Jvm.Cond.initialized "java/util/HashMap") ∈ lw_all := lw_g (lw_at lw_m1 14 rfl) rfl
theorem q462 : (Jvm.Cond.instanceMethod ({ cls := "java/util/HashMap", name := "<init>", desc := "()V" } : Jvm.MethodName)) ∈ lw_all := lw_g (lw_at lw_m2 170 rfl) rfl
theorem q463 : (Jvm.Cond.code ({ cls := "java/util/HashMap", name := "<init>", desc := "()V" } : Jvm.MethodName) prog_41_method_7_code (1 : Nat) (Option.none : Option Jvm.ClassFile.FieldType)) ∈ lw_all := lw_g (lw_at lw_m2 171 rfl) rfl
theorem q464 : (Jvm.Cond.methodLink "java/util/HashMap" (43 : Nat) ({ cls := "java/util/AbstractMap", name := "<init>", desc := "()V" } : Jvm.MethodName)) ∈ lw_all := lw_g (lw_at lw_m2 172 rfl) rfl
theorem q468 : (Jvm.Cond.constantFloat "java/util/HashMap" (92 : Nat) (1061158912 : UInt32)) ∈ lw_all := lw_g (lw_at lw_m2 176 rfl) rfl
theorem q475 : (Jvm.Cond.fieldLink "java/util/HashMap" (105 : Nat) "java/util/HashMap" "table" "[Ljava/util/HashMap$Node;") ∈ lw_all := lw_g (lw_at lw_m2 183 rfl) rfl
theorem q476 : (Jvm.Cond.fieldLink "java/util/HashMap" (156 : Nat) "java/util/HashMap" "size" "I") ∈ lw_all := lw_g (lw_at lw_m2 184 rfl) rfl
theorem q480 : (Jvm.Cond.fieldLink "java/util/HashMap" (202 : Nat) "java/util/HashMap" "modCount" "I") ∈ lw_all := lw_g (lw_at lw_m2 188 rfl) rfl
theorem q481 : (Jvm.Cond.fieldLink "java/util/HashMap" (88 : Nat) "java/util/HashMap" "threshold" "I") ∈ lw_all := lw_g (lw_at lw_m2 189 rfl) rfl
theorem q482 : (Jvm.Cond.fieldLink "java/util/HashMap" (81 : Nat) "java/util/HashMap" "loadFactor" "F") ∈ lw_all := lw_g (lw_at lw_m2 190 rfl) rfl
theorem q494 : (Jvm.Cond.soleField "java/util/HashMap" "table") ∈ lw_all := lw_g (lw_at lw_m2 202 rfl) rfl
theorem q496 : (Jvm.Cond.soleField "java/util/HashMap" "entrySet") ∈ lw_all := lw_g (lw_at lw_m2 204 rfl) rfl
theorem q498 : (Jvm.Cond.soleField "java/util/HashMap" "size") ∈ lw_all := lw_g (lw_at lw_m2 206 rfl) rfl
theorem q500 : (Jvm.Cond.soleField "java/util/HashMap" "modCount") ∈ lw_all := lw_g (lw_at lw_m2 208 rfl) rfl
theorem q502 : (Jvm.Cond.soleField "java/util/HashMap" "threshold") ∈ lw_all := lw_g (lw_at lw_m2 210 rfl) rfl
theorem q504 : (Jvm.Cond.soleField "java/util/HashMap" "loadFactor") ∈ lw_all := lw_g (lw_at lw_m2 212 rfl) rfl
theorem q532 : (Jvm.Cond.declares ({ cls := "java/util/HashMap", name := "put", desc := "(Ljava/lang/Object;Ljava/lang/Object;)Ljava/lang/Object;" } : Jvm.MethodName)) ∈ lw_tbl := lw_at lw_m3 0 rfl
theorem q534 : (Jvm.Cond.instanceMethod ({ cls := "java/util/HashMap", name := "put", desc := "(Ljava/lang/Object;Ljava/lang/Object;)Ljava/lang/Object;" } : Jvm.MethodName)) ∈ lw_all := lw_g (lw_at lw_m3 2 rfl) rfl
theorem q535 : (Jvm.Cond.code ({ cls := "java/util/HashMap", name := "put", desc := "(Ljava/lang/Object;Ljava/lang/Object;)Ljava/lang/Object;" } : Jvm.MethodName) prog_41_method_15_code (3 : Nat) (Option.some (Jvm.ClassFile.FieldType.object "java/lang/Object"))) ∈ lw_all := lw_g (lw_at lw_m3 3 rfl) rfl
theorem q536 : (Jvm.Cond.methodLink "java/util/HashMap" (149 : Nat) ({ cls := "java/util/HashMap", name := "hash", desc := "(Ljava/lang/Object;)I" } : Jvm.MethodName)) ∈ lw_all := lw_g (lw_at lw_m3 4 rfl) rfl
theorem q537 : (Jvm.Cond.static ({ cls := "java/util/HashMap", name := "hash", desc := "(Ljava/lang/Object;)I" } : Jvm.MethodName)) ∈ lw_all := lw_g (lw_at lw_m3 5 rfl) rfl
theorem q538 : (Jvm.Cond.code ({ cls := "java/util/HashMap", name := "hash", desc := "(Ljava/lang/Object;)I" } : Jvm.MethodName) prog_41_method_1_code (2 : Nat) (Option.some Jvm.ClassFile.FieldType.int)) ∈ lw_all := lw_g (lw_at lw_m3 6 rfl) rfl
theorem q540 : (Jvm.Cond.methodLink "java/util/HashMap" (1 : Nat) ({ cls := "java/lang/Object", name := "hashCode", desc := "()I" } : Jvm.MethodName)) ∈ lw_all := lw_g (lw_at lw_m3 8 rfl) rfl
theorem q629 : (Jvm.Cond.methodLink "java/util/HashMap" (152 : Nat) ({ cls := "java/util/HashMap", name := "putVal", desc := "(ILjava/lang/Object;Ljava/lang/Object;ZZ)Ljava/lang/Object;" } : Jvm.MethodName)) ∈ lw_all := lw_g (lw_at lw_m3 97 rfl) rfl
theorem q630 : (Jvm.Cond.instanceMethod ({ cls := "java/util/HashMap", name := "putVal", desc := "(ILjava/lang/Object;Ljava/lang/Object;ZZ)Ljava/lang/Object;" } : Jvm.MethodName)) ∈ lw_all := lw_g (lw_at lw_m3 98 rfl) rfl
theorem q631 : (Jvm.Cond.sameMethod "java/util/HashMap" "java/util/HashMap" "putVal" "(ILjava/lang/Object;Ljava/lang/Object;ZZ)Ljava/lang/Object;") ∈ lw_all := lw_g (lw_at lw_m3 99 rfl) rfl
theorem q633 : (Jvm.Cond.code ({ cls := "java/util/HashMap", name := "putVal", desc := "(ILjava/lang/Object;Ljava/lang/Object;ZZ)Ljava/lang/Object;" } : Jvm.MethodName) prog_41_method_16_code (13 : Nat) (Option.some (Jvm.ClassFile.FieldType.object "java/lang/Object"))) ∈ lw_all := lw_g (lw_at lw_m3 101 rfl) rfl
theorem q634 : (Jvm.Cond.methodLink "java/util/HashMap" (117 : Nat) ({ cls := "java/util/HashMap", name := "resize", desc := "()[Ljava/util/HashMap$Node;" } : Jvm.MethodName)) ∈ lw_all := lw_g (lw_at lw_m3 102 rfl) rfl
theorem q635 : (Jvm.Cond.instanceMethod ({ cls := "java/util/HashMap", name := "resize", desc := "()[Ljava/util/HashMap$Node;" } : Jvm.MethodName)) ∈ lw_all := lw_g (lw_at lw_m3 103 rfl) rfl
theorem q636 : (Jvm.Cond.sameMethod "java/util/HashMap" "java/util/HashMap" "resize" "()[Ljava/util/HashMap$Node;") ∈ lw_all := lw_g (lw_at lw_m3 104 rfl) rfl
theorem q638 : (Jvm.Cond.code ({ cls := "java/util/HashMap", name := "resize", desc := "()[Ljava/util/HashMap$Node;" } : Jvm.MethodName) prog_41_method_17_code (14 : Nat) (Option.some (Jvm.ClassFile.FieldType.array (Jvm.ClassFile.FieldType.object "java/util/HashMap$Node")))) ∈ lw_all := lw_g (lw_at lw_m3 106 rfl) rfl
theorem q639 : (Jvm.Cond.constant "java/util/HashMap" (42 : Nat) (1073741824 : Int32)) ∈ lw_all := lw_g (lw_at lw_m3 107 rfl) rfl
theorem q640 : (Jvm.Cond.constant "java/util/HashMap" (209 : Nat) (2147483647 : Int32)) ∈ lw_all := lw_g (lw_at lw_m3 108 rfl) rfl
theorem q641 : (Jvm.Cond.constantFloat "java/util/HashMap" (210 : Nat) (1317011456 : UInt32)) ∈ lw_all := lw_g (lw_at lw_m3 109 rfl) rfl
theorem q642 : (Jvm.Cond.classLink "java/util/HashMap" (163 : Nat) "java/util/HashMap$Node") ∈ lw_all := lw_g (lw_at lw_m3 110 rfl) rfl
theorem q644 : (Jvm.Cond.classLink "java/util/HashMap" (180 : Nat) "java/util/HashMap$TreeNode") ∈ lw_all := lw_g (lw_at lw_m3 112 rfl) rfl
theorem q645 : (Jvm.Cond.methodLink "java/util/HashMap" (211 : Nat) ({ cls := "java/util/HashMap$TreeNode", name := "split", desc := "(Ljava/util/HashMap;[Ljava/util/HashMap$Node;II)V" } : Jvm.MethodName)) ∈ lw_all := lw_g (lw_at lw_m3 113 rfl) rfl
theorem q655 : (Jvm.Cond.instanceMethod ({ cls := "java/util/HashMap", name := "replacementNode", desc := "(Ljava/util/HashMap$Node;Ljava/util/HashMap$Node;)Ljava/util/HashMap$Node;" } : Jvm.MethodName)) ∈ lw_all := lw_g (lw_at lw_m3 123 rfl) rfl
theorem q656 : (Jvm.Cond.sameMethod "java/util/HashMap" "java/util/HashMap" "replacementNode" "(Ljava/util/HashMap$Node;Ljava/util/HashMap$Node;)Ljava/util/HashMap$Node;") ∈ lw_all := lw_g (lw_at lw_m3 124 rfl) rfl
theorem q678 : (Jvm.Cond.fieldLink "java/util/HashMap" (168 : Nat) "java/util/HashMap$Node" "hash" "I") ∈ lw_all := lw_g (lw_at lw_m3 146 rfl) rfl
theorem q684 : (Jvm.Cond.fieldLink "java/util/HashMap" (170 : Nat) "java/util/HashMap$Node" "key" "Ljava/lang/Object;") ∈ lw_all := lw_g (lw_at lw_m3 152 rfl) rfl
theorem q688 : (Jvm.Cond.fieldLink "java/util/HashMap" (162 : Nat) "java/util/HashMap$Node" "value" "Ljava/lang/Object;") ∈ lw_all := lw_g (lw_at lw_m3 156 rfl) rfl
theorem q693 : (Jvm.Cond.fieldLink "java/util/HashMap" (177 : Nat) "java/util/HashMap$Node" "next" "Ljava/util/HashMap$Node;") ∈ lw_all := lw_g (lw_at lw_m3 161 rfl) rfl
theorem q694 : (Jvm.Cond.fieldLink "java/util/HashMap" (223 : Nat) "java/util/HashMap$TreeNode" "next" "Ljava/util/HashMap$Node;") ∈ lw_all := lw_g (lw_at lw_m3 162 rfl) rfl
theorem q712 : (Jvm.Cond.declares ({ cls := "java/util/HashMap", name := "replacementNode", desc := "(Ljava/util/HashMap$Node;Ljava/util/HashMap$Node;)Ljava/util/HashMap$Node;" } : Jvm.MethodName)) ∈ lw_tbl := lw_at lw_m3 180 rfl
theorem q718 : (Jvm.Cond.static ({ cls := "java/util/HashMap", name := "comparableClassFor", desc := "(Ljava/lang/Object;)Ljava/lang/Class;" } : Jvm.MethodName)) ∈ lw_all := lw_g (lw_at lw_m3 186 rfl) rfl
theorem q719 : (Jvm.Cond.code ({ cls := "java/util/HashMap", name := "comparableClassFor", desc := "(Ljava/lang/Object;)Ljava/lang/Class;" } : Jvm.MethodName) prog_41_method_2_code (9 : Nat) (Option.some (Jvm.ClassFile.FieldType.object "java/lang/Class"))) ∈ lw_all := lw_g (lw_at lw_m3 187 rfl) rfl
theorem q720 : (Jvm.Cond.classLink "java/util/HashMap" (7 : Nat) "java/lang/Comparable") ∈ lw_all := lw_g (lw_at lw_m3 188 rfl) rfl
theorem q721 : (Jvm.Cond.methodLink "java/util/HashMap" (9 : Nat) ({ cls := "java/lang/Object", name := "getClass", desc := "()Ljava/lang/Class;" } : Jvm.MethodName)) ∈ lw_all := lw_g (lw_at lw_m3 189 rfl) rfl
theorem q747 : (Jvm.Cond.classLink "java/util/HashMap" (13 : Nat) "java/lang/String") ∈ lw_all := lw_g (lw_at lw_m3 215 rfl) rfl
theorem q749 : (Jvm.Cond.static ({ cls := "java/util/HashMap", name := "compareComparables", desc := "(Ljava/lang/Class;Ljava/lang/Object;Ljava/lang/Object;)I" } : Jvm.MethodName)) ∈ lw_all := lw_g (lw_at lw_m3 217 rfl) rfl
theorem q750 : (Jvm.Cond.code ({ cls := "java/util/HashMap", name := "compareComparables", desc := "(Ljava/lang/Class;Ljava/lang/Object;Ljava/lang/Object;)I" } : Jvm.MethodName) prog_41_method_3_code (3 : Nat) (Option.some Jvm.ClassFile.FieldType.int)) ∈ lw_all := lw_g (lw_at lw_m3 218 rfl) rfl
theorem q751 : (Jvm.Cond.interfaceEntry "java/util/HashMap" (30 : Nat)) ∈ lw_tbl := lw_at lw_m3 219 rfl
theorem q752 : (Jvm.Cond.methodLink "java/util/HashMap" (30 : Nat) ({ cls := "java/lang/Comparable", name := "compareTo", desc := "(Ljava/lang/Object;)I" } : Jvm.MethodName)) ∈ lw_all := lw_g (lw_at lw_m3 220 rfl) rfl
theorem q933 : (Jvm.Cond.methodLink "java/util/HashMap" (186 : Nat) ({ cls := "java/util/HashMap", name := "newNode", desc := "(ILjava/lang/Object;Ljava/lang/Object;Ljava/util/HashMap$Node;)Ljava/util/HashMap$Node;" } : Jvm.MethodName)) ∈ lw_all := lw_g (lw_at lw_m4 161 rfl) rfl
theorem q934 : (Jvm.Cond.instanceMethod ({ cls := "java/util/HashMap", name := "newNode", desc := "(ILjava/lang/Object;Ljava/lang/Object;Ljava/util/HashMap$Node;)Ljava/util/HashMap$Node;" } : Jvm.MethodName)) ∈ lw_all := lw_g (lw_at lw_m4 162 rfl) rfl
theorem q935 : (Jvm.Cond.sameMethod "java/util/HashMap" "java/util/HashMap" "newNode" "(ILjava/lang/Object;Ljava/lang/Object;Ljava/util/HashMap$Node;)Ljava/util/HashMap$Node;") ∈ lw_all := lw_g (lw_at lw_m4 163 rfl) rfl
theorem q943 : (Jvm.Cond.declares ({ cls := "java/util/HashMap", name := "newNode", desc := "(ILjava/lang/Object;Ljava/lang/Object;Ljava/util/HashMap$Node;)Ljava/util/HashMap$Node;" } : Jvm.MethodName)) ∈ lw_tbl := lw_at lw_m4 171 rfl
theorem q945 : (Jvm.Cond.methodLink "java/util/HashMap" (173 : Nat) ({ cls := "java/lang/Object", name := "equals", desc := "(Ljava/lang/Object;)Z" } : Jvm.MethodName)) ∈ lw_all := lw_g (lw_at lw_m4 173 rfl) rfl
theorem q975 : (Jvm.Cond.methodLink "java/util/HashMap" (190 : Nat) ({ cls := "java/util/HashMap$TreeNode", name := "putTreeVal", desc := "(Ljava/util/HashMap;[Ljava/util/HashMap$Node;ILjava/lang/Object;Ljava/lang/Object;)Ljava/util/HashMap$TreeNode;" } : Jvm.MethodName)) ∈ lw_all := lw_g (lw_at lw_m4 203 rfl) rfl
theorem q989 : (Jvm.Cond.instanceMethod ({ cls := "java/util/HashMap", name := "newTreeNode", desc := "(ILjava/lang/Object;Ljava/lang/Object;Ljava/util/HashMap$Node;)Ljava/util/HashMap$TreeNode;" } : Jvm.MethodName)) ∈ lw_all := lw_g (lw_at lw_m4 217 rfl) rfl
theorem q990 : (Jvm.Cond.sameMethod "java/util/HashMap" "java/util/HashMap" "newTreeNode" "(ILjava/lang/Object;Ljava/lang/Object;Ljava/util/HashMap$Node;)Ljava/util/HashMap$TreeNode;") ∈ lw_all := lw_g (lw_at lw_m4 218 rfl) rfl
theorem q1004 : (Jvm.Cond.fieldLink "java/util/HashMap" (219 : Nat) "java/util/HashMap$TreeNode" "prev" "Ljava/util/HashMap$TreeNode;") ∈ lw_all := lw_g (lw_at lw_m4 232 rfl) rfl
theorem q1023 : (Jvm.Cond.declares ({ cls := "java/util/HashMap", name := "newTreeNode", desc := "(ILjava/lang/Object;Ljava/lang/Object;Ljava/util/HashMap$Node;)Ljava/util/HashMap$TreeNode;" } : Jvm.MethodName)) ∈ lw_tbl := lw_at lw_m5 11 rfl
theorem q1024 : (Jvm.Cond.methodLink "java/util/HashMap" (194 : Nat) ({ cls := "java/util/HashMap", name := "treeifyBin", desc := "([Ljava/util/HashMap$Node;I)V" } : Jvm.MethodName)) ∈ lw_all := lw_g (lw_at lw_m5 12 rfl) rfl
theorem q1025 : (Jvm.Cond.instanceMethod ({ cls := "java/util/HashMap", name := "treeifyBin", desc := "([Ljava/util/HashMap$Node;I)V" } : Jvm.MethodName)) ∈ lw_all := lw_g (lw_at lw_m5 13 rfl) rfl
theorem q1026 : (Jvm.Cond.sameMethod "java/util/HashMap" "java/util/HashMap" "treeifyBin" "([Ljava/util/HashMap$Node;I)V") ∈ lw_all := lw_g (lw_at lw_m5 14 rfl) rfl
theorem q1028 : (Jvm.Cond.code ({ cls := "java/util/HashMap", name := "treeifyBin", desc := "([Ljava/util/HashMap$Node;I)V" } : Jvm.MethodName) prog_41_method_18_code (9 : Nat) (Option.none : Option Jvm.ClassFile.FieldType)) ∈ lw_all := lw_g (lw_at lw_m5 16 rfl) rfl
theorem q1029 : (Jvm.Cond.methodLink "java/util/HashMap" (215 : Nat) ({ cls := "java/util/HashMap", name := "replacementTreeNode", desc := "(Ljava/util/HashMap$Node;Ljava/util/HashMap$Node;)Ljava/util/HashMap$TreeNode;" } : Jvm.MethodName)) ∈ lw_all := lw_g (lw_at lw_m5 17 rfl) rfl
theorem q1030 : (Jvm.Cond.instanceMethod ({ cls := "java/util/HashMap", name := "replacementTreeNode", desc := "(Ljava/util/HashMap$Node;Ljava/util/HashMap$Node;)Ljava/util/HashMap$TreeNode;" } : Jvm.MethodName)) ∈ lw_all := lw_g (lw_at lw_m5 18 rfl) rfl
theorem q1031 : (Jvm.Cond.sameMethod "java/util/HashMap" "java/util/HashMap" "replacementTreeNode" "(Ljava/util/HashMap$Node;Ljava/util/HashMap$Node;)Ljava/util/HashMap$TreeNode;") ∈ lw_all := lw_g (lw_at lw_m5 19 rfl) rfl
theorem q1035 : (Jvm.Cond.declares ({ cls := "java/util/HashMap", name := "replacementTreeNode", desc := "(Ljava/util/HashMap$Node;Ljava/util/HashMap$Node;)Ljava/util/HashMap$TreeNode;" } : Jvm.MethodName)) ∈ lw_tbl := lw_at lw_m5 23 rfl
theorem q1036 : (Jvm.Cond.methodLink "java/util/HashMap" (224 : Nat) ({ cls := "java/util/HashMap$TreeNode", name := "treeify", desc := "([Ljava/util/HashMap$Node;)V" } : Jvm.MethodName)) ∈ lw_all := lw_g (lw_at lw_m5 24 rfl) rfl
theorem q1037 : (Jvm.Cond.methodLink "java/util/HashMap" (198 : Nat) ({ cls := "java/util/HashMap", name := "afterNodeAccess", desc := "(Ljava/util/HashMap$Node;)V" } : Jvm.MethodName)) ∈ lw_all := lw_g (lw_at lw_m5 25 rfl) rfl
theorem q1038 : (Jvm.Cond.instanceMethod ({ cls := "java/util/HashMap", name := "afterNodeAccess", desc := "(Ljava/util/HashMap$Node;)V" } : Jvm.MethodName)) ∈ lw_all := lw_g (lw_at lw_m5 26 rfl) rfl
theorem q1039 : (Jvm.Cond.sameMethod "java/util/HashMap" "java/util/HashMap" "afterNodeAccess" "(Ljava/util/HashMap$Node;)V") ∈ lw_all := lw_g (lw_at lw_m5 27 rfl) rfl
theorem q1043 : (Jvm.Cond.declares ({ cls := "java/util/HashMap", name := "afterNodeAccess", desc := "(Ljava/util/HashMap$Node;)V" } : Jvm.MethodName)) ∈ lw_tbl := lw_at lw_m5 31 rfl
theorem q1044 : (Jvm.Cond.methodLink "java/util/HashMap" (205 : Nat) ({ cls := "java/util/HashMap", name := "afterNodeInsertion", desc := "(Z)V" } : Jvm.MethodName)) ∈ lw_all := lw_g (lw_at lw_m5 32 rfl) rfl
theorem q1045 : (Jvm.Cond.instanceMethod ({ cls := "java/util/HashMap", name := "afterNodeInsertion", desc := "(Z)V" } : Jvm.MethodName)) ∈ lw_all := lw_g (lw_at lw_m5 33 rfl) rfl
theorem q1046 : (Jvm.Cond.sameMethod "java/util/HashMap" "java/util/HashMap" "afterNodeInsertion" "(Z)V") ∈ lw_all := lw_g (lw_at lw_m5 34 rfl) rfl
theorem q1054 : (Jvm.Cond.declares ({ cls := "java/util/HashMap", name := "afterNodeInsertion", desc := "(Z)V" } : Jvm.MethodName)) ∈ lw_tbl := lw_at lw_m5 42 rfl

/-! java/util/LinkedHashMap -/
set_option maxRecDepth 100000
def RJ7 : String := "java/util/LinkedHashMap"
def TJ7 : u_T := fun k => match k with
  | 0 => ("java/util/HashMap", "table", "[Ljava/util/HashMap$Node;", false)
  | 1 => ("java/util/HashMap", "entrySet", "Ljava/util/Set;", false)
  | 2 => ("java/util/HashMap", "size", "I", false)
  | 3 => ("java/util/HashMap", "modCount", "I", false)
  | 4 => ("java/util/HashMap", "threshold", "I", false)
  | 5 => ("java/util/HashMap", "loadFactor", "F", true)
  | 6 => ("java/util/AbstractMap", "keySet", "Ljava/util/Set;", false)
  | 7 => ("java/util/AbstractMap", "values", "Ljava/util/Collection;", false)
  | 8 => ("java/util/LinkedHashMap", "head", "Ljava/util/LinkedHashMap$Entry;", false)
  | 9 => ("java/util/LinkedHashMap", "tail", "Ljava/util/LinkedHashMap$Entry;", false)
  | 10 => ("java/util/LinkedHashMap", "accessOrder", "Z", true)
  | _ => ("java/util/LinkedHashMap", "putMode", "I", false)
def tyJ7 : Nat → FieldType := fun k => match k with
  | 0 => .array (.object "java/util/HashMap$Node")
  | 1 => .object "java/util/Set"
  | 2 => .int
  | 3 => .int
  | 4 => .int
  | 5 => .float
  | 6 => .object "java/util/Set"
  | 7 => .object "java/util/Collection"
  | 8 => .object "java/util/LinkedHashMap$Entry"
  | 9 => .object "java/util/LinkedHashMap$Entry"
  | 10 => .boolean
  | _ => .int
abbrev wsJ70 : List Cond := u_ws RJ7 TJ7 12
theorem nmJ7 : ∀ a, a < 12 → ∀ b, b < 12 → a ≠ b → (TJ7 a).2.1 ≠ (TJ7 b).2.1 := by decide +kernel
theorem tyJ7_ok : ∀ k, k < 12 → parseFieldDescriptor (TJ7 k).2.2.1 = some (tyJ7 k) := by decide +kernel
abbrev cJ7_init : ByteArray := prog_45_method_16_code
def yJ7_init : MethodName := ⟨RJ7, "<init>", "()V"⟩
def dkwJ7_init_0 : List UInt8 := [42, 183, 0, 87, 42, 3, 181, 0, 1, 42, 3, 181, 0, 64, 177]
abbrev dktJ7_init_0 : List UInt8 := dkwJ7_init_0 ++ []
theorem dksJ7_init_0 : cJ7_init.data.toList.drop 0 = dktJ7_init_0 := by decide +kernel
theorem dJ7_init_0 : decode cJ7_init 0 = .ok (.aload_n 0, 1) := dk_42 (dk_at dksJ7_init_0 0 rfl rfl)
theorem dJ7_init_1 : decode cJ7_init 1 = .ok (.invokespecial 87, 3) := dk_183 0 87 (dk_at dksJ7_init_0 1 rfl rfl)
theorem dJ7_init_4 : decode cJ7_init 4 = .ok (.aload_n 0, 1) := dk_42 (dk_at dksJ7_init_0 4 rfl rfl)
theorem dJ7_init_5 : decode cJ7_init 5 = .ok (.iconst 0, 1) := dk_3 (dk_at dksJ7_init_0 5 rfl rfl)
theorem dJ7_init_6 : decode cJ7_init 6 = .ok (.putfield 1, 3) := dk_181 0 1 (dk_at dksJ7_init_0 6 rfl rfl)
theorem dJ7_init_9 : decode cJ7_init 9 = .ok (.aload_n 0, 1) := dk_42 (dk_at dksJ7_init_0 9 rfl rfl)
theorem dJ7_init_10 : decode cJ7_init 10 = .ok (.iconst 0, 1) := dk_3 (dk_at dksJ7_init_0 10 rfl rfl)
theorem dJ7_init_11 : decode cJ7_init 11 = .ok (.putfield 64, 3) := dk_181 0 64 (dk_at dksJ7_init_0 11 rfl rfl)
theorem dJ7_init_14 : decode cJ7_init 14 = .ok (.return_, 1) := dk_177 (dk_at dksJ7_init_0 14 rfl rfl)
abbrev cJ7_replacementNode : ByteArray := prog_45_method_5_code
def yJ7_replacementNode : MethodName := ⟨RJ7, "replacementNode", "(Ljava/util/HashMap$Node;Ljava/util/HashMap$Node;)Ljava/util/HashMap$Node;"⟩
def dkwJ7_replacementNode_1 : List UInt8 := [183, 0, 28, 58, 4, 42, 45, 25, 4, 182, 0, 46, 25, 4, 176]
abbrev dktJ7_replacementNode_1 : List UInt8 := dkwJ7_replacementNode_1 ++ []
def dkwJ7_replacementNode_0 : List UInt8 := [43, 192, 0, 15, 78, 187, 0, 15, 89, 45, 180, 0, 36, 45, 180, 0, 39, 45, 180, 0, 43, 44]
abbrev dktJ7_replacementNode_0 : List UInt8 := dkwJ7_replacementNode_0 ++ dktJ7_replacementNode_1
theorem dksJ7_replacementNode_0 : cJ7_replacementNode.data.toList.drop 0 = dktJ7_replacementNode_0 := by decide +kernel
theorem dksJ7_replacementNode_1 : cJ7_replacementNode.data.toList.drop 22 = dktJ7_replacementNode_1 := dk_seg dksJ7_replacementNode_0 22 rfl rfl
theorem dJ7_replacementNode_0 : decode cJ7_replacementNode 0 = .ok (.aload_n 1, 1) := dk_43 (dk_at dksJ7_replacementNode_0 0 rfl rfl)
theorem dJ7_replacementNode_1 : decode cJ7_replacementNode 1 = .ok (.checkcast 15, 3) := dk_192 0 15 (dk_at dksJ7_replacementNode_0 1 rfl rfl)
theorem dJ7_replacementNode_4 : decode cJ7_replacementNode 4 = .ok (.astore_n 3, 1) := dk_78 (dk_at dksJ7_replacementNode_0 4 rfl rfl)
theorem dJ7_replacementNode_5 : decode cJ7_replacementNode 5 = .ok (.new 15, 3) := dk_187 0 15 (dk_at dksJ7_replacementNode_0 5 rfl rfl)
theorem dJ7_replacementNode_8 : decode cJ7_replacementNode 8 = .ok (.dup, 1) := dk_89 (dk_at dksJ7_replacementNode_0 8 rfl rfl)
theorem dJ7_replacementNode_9 : decode cJ7_replacementNode 9 = .ok (.aload_n 3, 1) := dk_45 (dk_at dksJ7_replacementNode_0 9 rfl rfl)
theorem dJ7_replacementNode_10 : decode cJ7_replacementNode 10 = .ok (.getfield 36, 3) := dk_180 0 36 (dk_at dksJ7_replacementNode_0 10 rfl rfl)
theorem dJ7_replacementNode_13 : decode cJ7_replacementNode 13 = .ok (.aload_n 3, 1) := dk_45 (dk_at dksJ7_replacementNode_0 13 rfl rfl)
theorem dJ7_replacementNode_14 : decode cJ7_replacementNode 14 = .ok (.getfield 39, 3) := dk_180 0 39 (dk_at dksJ7_replacementNode_0 14 rfl rfl)
theorem dJ7_replacementNode_17 : decode cJ7_replacementNode 17 = .ok (.aload_n 3, 1) := dk_45 (dk_at dksJ7_replacementNode_0 17 rfl rfl)
theorem dJ7_replacementNode_18 : decode cJ7_replacementNode 18 = .ok (.getfield 43, 3) := dk_180 0 43 (dk_at dksJ7_replacementNode_0 18 rfl rfl)
theorem dJ7_replacementNode_21 : decode cJ7_replacementNode 21 = .ok (.aload_n 2, 1) := dk_44 (dk_at dksJ7_replacementNode_0 21 rfl rfl)
theorem dJ7_replacementNode_22 : decode cJ7_replacementNode 22 = .ok (.invokespecial 28, 3) := dk_183 0 28 (dk_at dksJ7_replacementNode_1 0 rfl rfl)
theorem dJ7_replacementNode_25 : decode cJ7_replacementNode 25 = .ok (.astore 4, 2) := dk_58 4 (dk_at dksJ7_replacementNode_1 3 rfl rfl)
theorem dJ7_replacementNode_27 : decode cJ7_replacementNode 27 = .ok (.aload_n 0, 1) := dk_42 (dk_at dksJ7_replacementNode_1 5 rfl rfl)
theorem dJ7_replacementNode_28 : decode cJ7_replacementNode 28 = .ok (.aload_n 3, 1) := dk_45 (dk_at dksJ7_replacementNode_1 6 rfl rfl)
theorem dJ7_replacementNode_29 : decode cJ7_replacementNode 29 = .ok (.aload 4, 2) := dk_25 4 (dk_at dksJ7_replacementNode_1 7 rfl rfl)
theorem dJ7_replacementNode_31 : decode cJ7_replacementNode 31 = .ok (.invokevirtual 46, 3) := dk_182 0 46 (dk_at dksJ7_replacementNode_1 9 rfl rfl)
theorem dJ7_replacementNode_34 : decode cJ7_replacementNode 34 = .ok (.aload 4, 2) := dk_25 4 (dk_at dksJ7_replacementNode_1 12 rfl rfl)
theorem dJ7_replacementNode_36 : decode cJ7_replacementNode 36 = .ok (.areturn, 1) := dk_176 (dk_at dksJ7_replacementNode_1 14 rfl rfl)
abbrev cJ7_transferLinks : ByteArray := prog_45_method_2_code
def yJ7_transferLinks : MethodName := ⟨RJ7, "transferLinks", "(Ljava/util/LinkedHashMap$Entry;Ljava/util/LinkedHashMap$Entry;)V"⟩
def dkwJ7_transferLinks_2 : List UInt8 := [181, 0, 11, 167, 0, 9, 25, 4, 44, 181, 0, 19, 177]
abbrev dktJ7_transferLinks_2 : List UInt8 := dkwJ7_transferLinks_2 ++ []
def dkwJ7_transferLinks_1 : List UInt8 := [199, 0, 11, 42, 44, 181, 0, 7, 167, 0, 8, 45, 44, 181, 0, 14, 25, 4, 199, 0, 11, 42, 44]
abbrev dktJ7_transferLinks_1 : List UInt8 := dkwJ7_transferLinks_1 ++ dktJ7_transferLinks_2
def dkwJ7_transferLinks_0 : List UInt8 := [44, 43, 180, 0, 19, 90, 181, 0, 19, 78, 44, 43, 180, 0, 14, 90, 181, 0, 14, 58, 4, 45]
abbrev dktJ7_transferLinks_0 : List UInt8 := dkwJ7_transferLinks_0 ++ dktJ7_transferLinks_1
theorem dksJ7_transferLinks_0 : cJ7_transferLinks.data.toList.drop 0 = dktJ7_transferLinks_0 := by decide +kernel
theorem dksJ7_transferLinks_1 : cJ7_transferLinks.data.toList.drop 22 = dktJ7_transferLinks_1 := dk_seg dksJ7_transferLinks_0 22 rfl rfl
theorem dksJ7_transferLinks_2 : cJ7_transferLinks.data.toList.drop 45 = dktJ7_transferLinks_2 := dk_seg dksJ7_transferLinks_1 23 rfl rfl
theorem dJ7_transferLinks_0 : decode cJ7_transferLinks 0 = .ok (.aload_n 2, 1) := dk_44 (dk_at dksJ7_transferLinks_0 0 rfl rfl)
theorem dJ7_transferLinks_1 : decode cJ7_transferLinks 1 = .ok (.aload_n 1, 1) := dk_43 (dk_at dksJ7_transferLinks_0 1 rfl rfl)
theorem dJ7_transferLinks_2 : decode cJ7_transferLinks 2 = .ok (.getfield 19, 3) := dk_180 0 19 (dk_at dksJ7_transferLinks_0 2 rfl rfl)
theorem dJ7_transferLinks_5 : decode cJ7_transferLinks 5 = .ok (.dup_x1, 1) := dk_90 (dk_at dksJ7_transferLinks_0 5 rfl rfl)
theorem dJ7_transferLinks_6 : decode cJ7_transferLinks 6 = .ok (.putfield 19, 3) := dk_181 0 19 (dk_at dksJ7_transferLinks_0 6 rfl rfl)
theorem dJ7_transferLinks_9 : decode cJ7_transferLinks 9 = .ok (.astore_n 3, 1) := dk_78 (dk_at dksJ7_transferLinks_0 9 rfl rfl)
theorem dJ7_transferLinks_10 : decode cJ7_transferLinks 10 = .ok (.aload_n 2, 1) := dk_44 (dk_at dksJ7_transferLinks_0 10 rfl rfl)
theorem dJ7_transferLinks_11 : decode cJ7_transferLinks 11 = .ok (.aload_n 1, 1) := dk_43 (dk_at dksJ7_transferLinks_0 11 rfl rfl)
theorem dJ7_transferLinks_12 : decode cJ7_transferLinks 12 = .ok (.getfield 14, 3) := dk_180 0 14 (dk_at dksJ7_transferLinks_0 12 rfl rfl)
theorem dJ7_transferLinks_15 : decode cJ7_transferLinks 15 = .ok (.dup_x1, 1) := dk_90 (dk_at dksJ7_transferLinks_0 15 rfl rfl)
theorem dJ7_transferLinks_16 : decode cJ7_transferLinks 16 = .ok (.putfield 14, 3) := dk_181 0 14 (dk_at dksJ7_transferLinks_0 16 rfl rfl)
theorem dJ7_transferLinks_19 : decode cJ7_transferLinks 19 = .ok (.astore 4, 2) := dk_58 4 (dk_at dksJ7_transferLinks_0 19 rfl rfl)
theorem dJ7_transferLinks_21 : decode cJ7_transferLinks 21 = .ok (.aload_n 3, 1) := dk_45 (dk_at dksJ7_transferLinks_0 21 rfl rfl)
theorem dJ7_transferLinks_22 : decode cJ7_transferLinks 22 = .ok (.ifnonnull 11, 3) := dk_199 0 11 (dk_at dksJ7_transferLinks_1 0 rfl rfl)
theorem dJ7_transferLinks_25 : decode cJ7_transferLinks 25 = .ok (.aload_n 0, 1) := dk_42 (dk_at dksJ7_transferLinks_1 3 rfl rfl)
theorem dJ7_transferLinks_26 : decode cJ7_transferLinks 26 = .ok (.aload_n 2, 1) := dk_44 (dk_at dksJ7_transferLinks_1 4 rfl rfl)
theorem dJ7_transferLinks_27 : decode cJ7_transferLinks 27 = .ok (.putfield 7, 3) := dk_181 0 7 (dk_at dksJ7_transferLinks_1 5 rfl rfl)
theorem dJ7_transferLinks_30 : decode cJ7_transferLinks 30 = .ok (.goto 8, 3) := dk_167 0 8 (dk_at dksJ7_transferLinks_1 8 rfl rfl)
theorem dJ7_transferLinks_33 : decode cJ7_transferLinks 33 = .ok (.aload_n 3, 1) := dk_45 (dk_at dksJ7_transferLinks_1 11 rfl rfl)
theorem dJ7_transferLinks_34 : decode cJ7_transferLinks 34 = .ok (.aload_n 2, 1) := dk_44 (dk_at dksJ7_transferLinks_1 12 rfl rfl)
theorem dJ7_transferLinks_35 : decode cJ7_transferLinks 35 = .ok (.putfield 14, 3) := dk_181 0 14 (dk_at dksJ7_transferLinks_1 13 rfl rfl)
theorem dJ7_transferLinks_38 : decode cJ7_transferLinks 38 = .ok (.aload 4, 2) := dk_25 4 (dk_at dksJ7_transferLinks_1 16 rfl rfl)
theorem dJ7_transferLinks_40 : decode cJ7_transferLinks 40 = .ok (.ifnonnull 11, 3) := dk_199 0 11 (dk_at dksJ7_transferLinks_1 18 rfl rfl)
theorem dJ7_transferLinks_43 : decode cJ7_transferLinks 43 = .ok (.aload_n 0, 1) := dk_42 (dk_at dksJ7_transferLinks_1 21 rfl rfl)
theorem dJ7_transferLinks_44 : decode cJ7_transferLinks 44 = .ok (.aload_n 2, 1) := dk_44 (dk_at dksJ7_transferLinks_1 22 rfl rfl)
theorem dJ7_transferLinks_45 : decode cJ7_transferLinks 45 = .ok (.putfield 11, 3) := dk_181 0 11 (dk_at dksJ7_transferLinks_2 0 rfl rfl)
theorem dJ7_transferLinks_48 : decode cJ7_transferLinks 48 = .ok (.goto 9, 3) := dk_167 0 9 (dk_at dksJ7_transferLinks_2 3 rfl rfl)
theorem dJ7_transferLinks_51 : decode cJ7_transferLinks 51 = .ok (.aload 4, 2) := dk_25 4 (dk_at dksJ7_transferLinks_2 6 rfl rfl)
theorem dJ7_transferLinks_53 : decode cJ7_transferLinks 53 = .ok (.aload_n 2, 1) := dk_44 (dk_at dksJ7_transferLinks_2 8 rfl rfl)
theorem dJ7_transferLinks_54 : decode cJ7_transferLinks 54 = .ok (.putfield 19, 3) := dk_181 0 19 (dk_at dksJ7_transferLinks_2 9 rfl rfl)
theorem dJ7_transferLinks_57 : decode cJ7_transferLinks 57 = .ok (.return_, 1) := dk_177 (dk_at dksJ7_transferLinks_2 12 rfl rfl)
abbrev cJ7_newNode : ByteArray := prog_45_method_4_code
def yJ7_newNode : MethodName := ⟨RJ7, "newNode", "(ILjava/lang/Object;Ljava/lang/Object;Ljava/util/HashMap$Node;)Ljava/util/HashMap$Node;"⟩
def dkwJ7_newNode_0 : List UInt8 := [187, 0, 15, 89, 27, 44, 45, 25, 4, 183, 0, 28, 58, 5, 42, 25, 5, 182, 0, 32, 25, 5, 176]
abbrev dktJ7_newNode_0 : List UInt8 := dkwJ7_newNode_0 ++ []
theorem dksJ7_newNode_0 : cJ7_newNode.data.toList.drop 0 = dktJ7_newNode_0 := by decide +kernel
theorem dJ7_newNode_0 : decode cJ7_newNode 0 = .ok (.new 15, 3) := dk_187 0 15 (dk_at dksJ7_newNode_0 0 rfl rfl)
theorem dJ7_newNode_3 : decode cJ7_newNode 3 = .ok (.dup, 1) := dk_89 (dk_at dksJ7_newNode_0 3 rfl rfl)
theorem dJ7_newNode_4 : decode cJ7_newNode 4 = .ok (.iload_n 1, 1) := dk_27 (dk_at dksJ7_newNode_0 4 rfl rfl)
theorem dJ7_newNode_5 : decode cJ7_newNode 5 = .ok (.aload_n 2, 1) := dk_44 (dk_at dksJ7_newNode_0 5 rfl rfl)
theorem dJ7_newNode_6 : decode cJ7_newNode 6 = .ok (.aload_n 3, 1) := dk_45 (dk_at dksJ7_newNode_0 6 rfl rfl)
theorem dJ7_newNode_7 : decode cJ7_newNode 7 = .ok (.aload 4, 2) := dk_25 4 (dk_at dksJ7_newNode_0 7 rfl rfl)
theorem dJ7_newNode_9 : decode cJ7_newNode 9 = .ok (.invokespecial 28, 3) := dk_183 0 28 (dk_at dksJ7_newNode_0 9 rfl rfl)
theorem dJ7_newNode_12 : decode cJ7_newNode 12 = .ok (.astore 5, 2) := dk_58 5 (dk_at dksJ7_newNode_0 12 rfl rfl)
theorem dJ7_newNode_14 : decode cJ7_newNode 14 = .ok (.aload_n 0, 1) := dk_42 (dk_at dksJ7_newNode_0 14 rfl rfl)
theorem dJ7_newNode_15 : decode cJ7_newNode 15 = .ok (.aload 5, 2) := dk_25 5 (dk_at dksJ7_newNode_0 15 rfl rfl)
theorem dJ7_newNode_17 : decode cJ7_newNode 17 = .ok (.invokevirtual 32, 3) := dk_182 0 32 (dk_at dksJ7_newNode_0 17 rfl rfl)
theorem dJ7_newNode_20 : decode cJ7_newNode 20 = .ok (.aload 5, 2) := dk_25 5 (dk_at dksJ7_newNode_0 20 rfl rfl)
theorem dJ7_newNode_22 : decode cJ7_newNode 22 = .ok (.areturn, 1) := dk_176 (dk_at dksJ7_newNode_0 22 rfl rfl)
abbrev cJ7_linkNodeAtEnd : ByteArray := prog_45_method_1_code
def yJ7_linkNodeAtEnd : MethodName := ⟨RJ7, "linkNodeAtEnd", "(Ljava/util/LinkedHashMap$Entry;)V"⟩
def dkwJ7_linkNodeAtEnd_3 : List UInt8 := [181, 0, 14, 177]
abbrev dktJ7_linkNodeAtEnd_3 : List UInt8 := dkwJ7_linkNodeAtEnd_3 ++ []
def dkwJ7_linkNodeAtEnd_2 : List UInt8 := [42, 43, 181, 0, 11, 44, 199, 0, 11, 42, 43, 181, 0, 7, 167, 0, 13, 43, 44, 181, 0, 19, 44, 43]
abbrev dktJ7_linkNodeAtEnd_2 : List UInt8 := dkwJ7_linkNodeAtEnd_2 ++ dktJ7_linkNodeAtEnd_3
def dkwJ7_linkNodeAtEnd_1 : List UInt8 := [181, 0, 11, 167, 0, 13, 43, 44, 181, 0, 14, 44, 43, 181, 0, 19, 167, 0, 35, 42, 180, 0, 11, 77]
abbrev dktJ7_linkNodeAtEnd_1 : List UInt8 := dkwJ7_linkNodeAtEnd_1 ++ dktJ7_linkNodeAtEnd_2
def dkwJ7_linkNodeAtEnd_0 : List UInt8 := [42, 180, 0, 1, 4, 160, 0, 38, 42, 180, 0, 7, 77, 42, 43, 181, 0, 7, 44, 199, 0, 11, 42, 43]
abbrev dktJ7_linkNodeAtEnd_0 : List UInt8 := dkwJ7_linkNodeAtEnd_0 ++ dktJ7_linkNodeAtEnd_1
theorem dksJ7_linkNodeAtEnd_0 : cJ7_linkNodeAtEnd.data.toList.drop 0 = dktJ7_linkNodeAtEnd_0 := by decide +kernel
theorem dksJ7_linkNodeAtEnd_1 : cJ7_linkNodeAtEnd.data.toList.drop 24 = dktJ7_linkNodeAtEnd_1 := dk_seg dksJ7_linkNodeAtEnd_0 24 rfl rfl
theorem dksJ7_linkNodeAtEnd_2 : cJ7_linkNodeAtEnd.data.toList.drop 48 = dktJ7_linkNodeAtEnd_2 := dk_seg dksJ7_linkNodeAtEnd_1 24 rfl rfl
theorem dksJ7_linkNodeAtEnd_3 : cJ7_linkNodeAtEnd.data.toList.drop 72 = dktJ7_linkNodeAtEnd_3 := dk_seg dksJ7_linkNodeAtEnd_2 24 rfl rfl
theorem dJ7_linkNodeAtEnd_0 : decode cJ7_linkNodeAtEnd 0 = .ok (.aload_n 0, 1) := dk_42 (dk_at dksJ7_linkNodeAtEnd_0 0 rfl rfl)
theorem dJ7_linkNodeAtEnd_1 : decode cJ7_linkNodeAtEnd 1 = .ok (.getfield 1, 3) := dk_180 0 1 (dk_at dksJ7_linkNodeAtEnd_0 1 rfl rfl)
theorem dJ7_linkNodeAtEnd_4 : decode cJ7_linkNodeAtEnd 4 = .ok (.iconst 1, 1) := dk_4 (dk_at dksJ7_linkNodeAtEnd_0 4 rfl rfl)
theorem dJ7_linkNodeAtEnd_5 : decode cJ7_linkNodeAtEnd 5 = .ok (.if_icmp .ne 38, 3) := dk_160 0 38 (dk_at dksJ7_linkNodeAtEnd_0 5 rfl rfl)
theorem dJ7_linkNodeAtEnd_8 : decode cJ7_linkNodeAtEnd 8 = .ok (.aload_n 0, 1) := dk_42 (dk_at dksJ7_linkNodeAtEnd_0 8 rfl rfl)
theorem dJ7_linkNodeAtEnd_9 : decode cJ7_linkNodeAtEnd 9 = .ok (.getfield 7, 3) := dk_180 0 7 (dk_at dksJ7_linkNodeAtEnd_0 9 rfl rfl)
theorem dJ7_linkNodeAtEnd_12 : decode cJ7_linkNodeAtEnd 12 = .ok (.astore_n 2, 1) := dk_77 (dk_at dksJ7_linkNodeAtEnd_0 12 rfl rfl)
theorem dJ7_linkNodeAtEnd_13 : decode cJ7_linkNodeAtEnd 13 = .ok (.aload_n 0, 1) := dk_42 (dk_at dksJ7_linkNodeAtEnd_0 13 rfl rfl)
theorem dJ7_linkNodeAtEnd_14 : decode cJ7_linkNodeAtEnd 14 = .ok (.aload_n 1, 1) := dk_43 (dk_at dksJ7_linkNodeAtEnd_0 14 rfl rfl)
theorem dJ7_linkNodeAtEnd_15 : decode cJ7_linkNodeAtEnd 15 = .ok (.putfield 7, 3) := dk_181 0 7 (dk_at dksJ7_linkNodeAtEnd_0 15 rfl rfl)
theorem dJ7_linkNodeAtEnd_18 : decode cJ7_linkNodeAtEnd 18 = .ok (.aload_n 2, 1) := dk_44 (dk_at dksJ7_linkNodeAtEnd_0 18 rfl rfl)
theorem dJ7_linkNodeAtEnd_19 : decode cJ7_linkNodeAtEnd 19 = .ok (.ifnonnull 11, 3) := dk_199 0 11 (dk_at dksJ7_linkNodeAtEnd_0 19 rfl rfl)
theorem dJ7_linkNodeAtEnd_22 : decode cJ7_linkNodeAtEnd 22 = .ok (.aload_n 0, 1) := dk_42 (dk_at dksJ7_linkNodeAtEnd_0 22 rfl rfl)
theorem dJ7_linkNodeAtEnd_23 : decode cJ7_linkNodeAtEnd 23 = .ok (.aload_n 1, 1) := dk_43 (dk_at dksJ7_linkNodeAtEnd_0 23 rfl rfl)
theorem dJ7_linkNodeAtEnd_24 : decode cJ7_linkNodeAtEnd 24 = .ok (.putfield 11, 3) := dk_181 0 11 (dk_at dksJ7_linkNodeAtEnd_1 0 rfl rfl)
theorem dJ7_linkNodeAtEnd_27 : decode cJ7_linkNodeAtEnd 27 = .ok (.goto 13, 3) := dk_167 0 13 (dk_at dksJ7_linkNodeAtEnd_1 3 rfl rfl)
theorem dJ7_linkNodeAtEnd_30 : decode cJ7_linkNodeAtEnd 30 = .ok (.aload_n 1, 1) := dk_43 (dk_at dksJ7_linkNodeAtEnd_1 6 rfl rfl)
theorem dJ7_linkNodeAtEnd_31 : decode cJ7_linkNodeAtEnd 31 = .ok (.aload_n 2, 1) := dk_44 (dk_at dksJ7_linkNodeAtEnd_1 7 rfl rfl)
theorem dJ7_linkNodeAtEnd_32 : decode cJ7_linkNodeAtEnd 32 = .ok (.putfield 14, 3) := dk_181 0 14 (dk_at dksJ7_linkNodeAtEnd_1 8 rfl rfl)
theorem dJ7_linkNodeAtEnd_35 : decode cJ7_linkNodeAtEnd 35 = .ok (.aload_n 2, 1) := dk_44 (dk_at dksJ7_linkNodeAtEnd_1 11 rfl rfl)
theorem dJ7_linkNodeAtEnd_36 : decode cJ7_linkNodeAtEnd 36 = .ok (.aload_n 1, 1) := dk_43 (dk_at dksJ7_linkNodeAtEnd_1 12 rfl rfl)
theorem dJ7_linkNodeAtEnd_37 : decode cJ7_linkNodeAtEnd 37 = .ok (.putfield 19, 3) := dk_181 0 19 (dk_at dksJ7_linkNodeAtEnd_1 13 rfl rfl)
theorem dJ7_linkNodeAtEnd_40 : decode cJ7_linkNodeAtEnd 40 = .ok (.goto 35, 3) := dk_167 0 35 (dk_at dksJ7_linkNodeAtEnd_1 16 rfl rfl)
theorem dJ7_linkNodeAtEnd_43 : decode cJ7_linkNodeAtEnd 43 = .ok (.aload_n 0, 1) := dk_42 (dk_at dksJ7_linkNodeAtEnd_1 19 rfl rfl)
theorem dJ7_linkNodeAtEnd_44 : decode cJ7_linkNodeAtEnd 44 = .ok (.getfield 11, 3) := dk_180 0 11 (dk_at dksJ7_linkNodeAtEnd_1 20 rfl rfl)
theorem dJ7_linkNodeAtEnd_47 : decode cJ7_linkNodeAtEnd 47 = .ok (.astore_n 2, 1) := dk_77 (dk_at dksJ7_linkNodeAtEnd_1 23 rfl rfl)
theorem dJ7_linkNodeAtEnd_48 : decode cJ7_linkNodeAtEnd 48 = .ok (.aload_n 0, 1) := dk_42 (dk_at dksJ7_linkNodeAtEnd_2 0 rfl rfl)
theorem dJ7_linkNodeAtEnd_49 : decode cJ7_linkNodeAtEnd 49 = .ok (.aload_n 1, 1) := dk_43 (dk_at dksJ7_linkNodeAtEnd_2 1 rfl rfl)
theorem dJ7_linkNodeAtEnd_50 : decode cJ7_linkNodeAtEnd 50 = .ok (.putfield 11, 3) := dk_181 0 11 (dk_at dksJ7_linkNodeAtEnd_2 2 rfl rfl)
theorem dJ7_linkNodeAtEnd_53 : decode cJ7_linkNodeAtEnd 53 = .ok (.aload_n 2, 1) := dk_44 (dk_at dksJ7_linkNodeAtEnd_2 5 rfl rfl)
theorem dJ7_linkNodeAtEnd_54 : decode cJ7_linkNodeAtEnd 54 = .ok (.ifnonnull 11, 3) := dk_199 0 11 (dk_at dksJ7_linkNodeAtEnd_2 6 rfl rfl)
theorem dJ7_linkNodeAtEnd_57 : decode cJ7_linkNodeAtEnd 57 = .ok (.aload_n 0, 1) := dk_42 (dk_at dksJ7_linkNodeAtEnd_2 9 rfl rfl)
theorem dJ7_linkNodeAtEnd_58 : decode cJ7_linkNodeAtEnd 58 = .ok (.aload_n 1, 1) := dk_43 (dk_at dksJ7_linkNodeAtEnd_2 10 rfl rfl)
theorem dJ7_linkNodeAtEnd_59 : decode cJ7_linkNodeAtEnd 59 = .ok (.putfield 7, 3) := dk_181 0 7 (dk_at dksJ7_linkNodeAtEnd_2 11 rfl rfl)
theorem dJ7_linkNodeAtEnd_62 : decode cJ7_linkNodeAtEnd 62 = .ok (.goto 13, 3) := dk_167 0 13 (dk_at dksJ7_linkNodeAtEnd_2 14 rfl rfl)
theorem dJ7_linkNodeAtEnd_65 : decode cJ7_linkNodeAtEnd 65 = .ok (.aload_n 1, 1) := dk_43 (dk_at dksJ7_linkNodeAtEnd_2 17 rfl rfl)
theorem dJ7_linkNodeAtEnd_66 : decode cJ7_linkNodeAtEnd 66 = .ok (.aload_n 2, 1) := dk_44 (dk_at dksJ7_linkNodeAtEnd_2 18 rfl rfl)
theorem dJ7_linkNodeAtEnd_67 : decode cJ7_linkNodeAtEnd 67 = .ok (.putfield 19, 3) := dk_181 0 19 (dk_at dksJ7_linkNodeAtEnd_2 19 rfl rfl)
theorem dJ7_linkNodeAtEnd_70 : decode cJ7_linkNodeAtEnd 70 = .ok (.aload_n 2, 1) := dk_44 (dk_at dksJ7_linkNodeAtEnd_2 22 rfl rfl)
theorem dJ7_linkNodeAtEnd_71 : decode cJ7_linkNodeAtEnd 71 = .ok (.aload_n 1, 1) := dk_43 (dk_at dksJ7_linkNodeAtEnd_2 23 rfl rfl)
theorem dJ7_linkNodeAtEnd_72 : decode cJ7_linkNodeAtEnd 72 = .ok (.putfield 14, 3) := dk_181 0 14 (dk_at dksJ7_linkNodeAtEnd_3 0 rfl rfl)
theorem dJ7_linkNodeAtEnd_75 : decode cJ7_linkNodeAtEnd 75 = .ok (.return_, 1) := dk_177 (dk_at dksJ7_linkNodeAtEnd_3 3 rfl rfl)
abbrev cJ7_newTreeNode : ByteArray := prog_45_method_6_code
def yJ7_newTreeNode : MethodName := ⟨RJ7, "newTreeNode", "(ILjava/lang/Object;Ljava/lang/Object;Ljava/util/HashMap$Node;)Ljava/util/HashMap$TreeNode;"⟩
def dkwJ7_newTreeNode_0 : List UInt8 := [187, 0, 50, 89, 27, 44, 45, 25, 4, 183, 0, 52, 58, 5, 42, 25, 5, 182, 0, 32, 25, 5, 176]
abbrev dktJ7_newTreeNode_0 : List UInt8 := dkwJ7_newTreeNode_0 ++ []
theorem dksJ7_newTreeNode_0 : cJ7_newTreeNode.data.toList.drop 0 = dktJ7_newTreeNode_0 := by decide +kernel
theorem dJ7_newTreeNode_0 : decode cJ7_newTreeNode 0 = .ok (.new 50, 3) := dk_187 0 50 (dk_at dksJ7_newTreeNode_0 0 rfl rfl)
theorem dJ7_newTreeNode_3 : decode cJ7_newTreeNode 3 = .ok (.dup, 1) := dk_89 (dk_at dksJ7_newTreeNode_0 3 rfl rfl)
theorem dJ7_newTreeNode_4 : decode cJ7_newTreeNode 4 = .ok (.iload_n 1, 1) := dk_27 (dk_at dksJ7_newTreeNode_0 4 rfl rfl)
theorem dJ7_newTreeNode_5 : decode cJ7_newTreeNode 5 = .ok (.aload_n 2, 1) := dk_44 (dk_at dksJ7_newTreeNode_0 5 rfl rfl)
theorem dJ7_newTreeNode_6 : decode cJ7_newTreeNode 6 = .ok (.aload_n 3, 1) := dk_45 (dk_at dksJ7_newTreeNode_0 6 rfl rfl)
theorem dJ7_newTreeNode_7 : decode cJ7_newTreeNode 7 = .ok (.aload 4, 2) := dk_25 4 (dk_at dksJ7_newTreeNode_0 7 rfl rfl)
theorem dJ7_newTreeNode_9 : decode cJ7_newTreeNode 9 = .ok (.invokespecial 52, 3) := dk_183 0 52 (dk_at dksJ7_newTreeNode_0 9 rfl rfl)
theorem dJ7_newTreeNode_12 : decode cJ7_newTreeNode 12 = .ok (.astore 5, 2) := dk_58 5 (dk_at dksJ7_newTreeNode_0 12 rfl rfl)
theorem dJ7_newTreeNode_14 : decode cJ7_newTreeNode 14 = .ok (.aload_n 0, 1) := dk_42 (dk_at dksJ7_newTreeNode_0 14 rfl rfl)
theorem dJ7_newTreeNode_15 : decode cJ7_newTreeNode 15 = .ok (.aload 5, 2) := dk_25 5 (dk_at dksJ7_newTreeNode_0 15 rfl rfl)
theorem dJ7_newTreeNode_17 : decode cJ7_newTreeNode 17 = .ok (.invokevirtual 32, 3) := dk_182 0 32 (dk_at dksJ7_newTreeNode_0 17 rfl rfl)
theorem dJ7_newTreeNode_20 : decode cJ7_newTreeNode 20 = .ok (.aload 5, 2) := dk_25 5 (dk_at dksJ7_newTreeNode_0 20 rfl rfl)
theorem dJ7_newTreeNode_22 : decode cJ7_newTreeNode 22 = .ok (.areturn, 1) := dk_176 (dk_at dksJ7_newTreeNode_0 22 rfl rfl)
abbrev cJ7_replacementTreeNode : ByteArray := prog_45_method_7_code
def yJ7_replacementTreeNode : MethodName := ⟨RJ7, "replacementTreeNode", "(Ljava/util/HashMap$Node;Ljava/util/HashMap$Node;)Ljava/util/HashMap$TreeNode;"⟩
def dkwJ7_replacementTreeNode_1 : List UInt8 := [183, 0, 52, 58, 4, 42, 45, 25, 4, 182, 0, 46, 25, 4, 176]
abbrev dktJ7_replacementTreeNode_1 : List UInt8 := dkwJ7_replacementTreeNode_1 ++ []
def dkwJ7_replacementTreeNode_0 : List UInt8 := [43, 192, 0, 15, 78, 187, 0, 50, 89, 45, 180, 0, 36, 45, 180, 0, 39, 45, 180, 0, 43, 44]
abbrev dktJ7_replacementTreeNode_0 : List UInt8 := dkwJ7_replacementTreeNode_0 ++ dktJ7_replacementTreeNode_1
theorem dksJ7_replacementTreeNode_0 : cJ7_replacementTreeNode.data.toList.drop 0 = dktJ7_replacementTreeNode_0 := by decide +kernel
theorem dksJ7_replacementTreeNode_1 : cJ7_replacementTreeNode.data.toList.drop 22 = dktJ7_replacementTreeNode_1 := dk_seg dksJ7_replacementTreeNode_0 22 rfl rfl
theorem dJ7_replacementTreeNode_0 : decode cJ7_replacementTreeNode 0 = .ok (.aload_n 1, 1) := dk_43 (dk_at dksJ7_replacementTreeNode_0 0 rfl rfl)
theorem dJ7_replacementTreeNode_1 : decode cJ7_replacementTreeNode 1 = .ok (.checkcast 15, 3) := dk_192 0 15 (dk_at dksJ7_replacementTreeNode_0 1 rfl rfl)
theorem dJ7_replacementTreeNode_4 : decode cJ7_replacementTreeNode 4 = .ok (.astore_n 3, 1) := dk_78 (dk_at dksJ7_replacementTreeNode_0 4 rfl rfl)
theorem dJ7_replacementTreeNode_5 : decode cJ7_replacementTreeNode 5 = .ok (.new 50, 3) := dk_187 0 50 (dk_at dksJ7_replacementTreeNode_0 5 rfl rfl)
theorem dJ7_replacementTreeNode_8 : decode cJ7_replacementTreeNode 8 = .ok (.dup, 1) := dk_89 (dk_at dksJ7_replacementTreeNode_0 8 rfl rfl)
theorem dJ7_replacementTreeNode_9 : decode cJ7_replacementTreeNode 9 = .ok (.aload_n 3, 1) := dk_45 (dk_at dksJ7_replacementTreeNode_0 9 rfl rfl)
theorem dJ7_replacementTreeNode_10 : decode cJ7_replacementTreeNode 10 = .ok (.getfield 36, 3) := dk_180 0 36 (dk_at dksJ7_replacementTreeNode_0 10 rfl rfl)
theorem dJ7_replacementTreeNode_13 : decode cJ7_replacementTreeNode 13 = .ok (.aload_n 3, 1) := dk_45 (dk_at dksJ7_replacementTreeNode_0 13 rfl rfl)
theorem dJ7_replacementTreeNode_14 : decode cJ7_replacementTreeNode 14 = .ok (.getfield 39, 3) := dk_180 0 39 (dk_at dksJ7_replacementTreeNode_0 14 rfl rfl)
theorem dJ7_replacementTreeNode_17 : decode cJ7_replacementTreeNode 17 = .ok (.aload_n 3, 1) := dk_45 (dk_at dksJ7_replacementTreeNode_0 17 rfl rfl)
theorem dJ7_replacementTreeNode_18 : decode cJ7_replacementTreeNode 18 = .ok (.getfield 43, 3) := dk_180 0 43 (dk_at dksJ7_replacementTreeNode_0 18 rfl rfl)
theorem dJ7_replacementTreeNode_21 : decode cJ7_replacementTreeNode 21 = .ok (.aload_n 2, 1) := dk_44 (dk_at dksJ7_replacementTreeNode_0 21 rfl rfl)
theorem dJ7_replacementTreeNode_22 : decode cJ7_replacementTreeNode 22 = .ok (.invokespecial 52, 3) := dk_183 0 52 (dk_at dksJ7_replacementTreeNode_1 0 rfl rfl)
theorem dJ7_replacementTreeNode_25 : decode cJ7_replacementTreeNode 25 = .ok (.astore 4, 2) := dk_58 4 (dk_at dksJ7_replacementTreeNode_1 3 rfl rfl)
theorem dJ7_replacementTreeNode_27 : decode cJ7_replacementTreeNode 27 = .ok (.aload_n 0, 1) := dk_42 (dk_at dksJ7_replacementTreeNode_1 5 rfl rfl)
theorem dJ7_replacementTreeNode_28 : decode cJ7_replacementTreeNode 28 = .ok (.aload_n 3, 1) := dk_45 (dk_at dksJ7_replacementTreeNode_1 6 rfl rfl)
theorem dJ7_replacementTreeNode_29 : decode cJ7_replacementTreeNode 29 = .ok (.aload 4, 2) := dk_25 4 (dk_at dksJ7_replacementTreeNode_1 7 rfl rfl)
theorem dJ7_replacementTreeNode_31 : decode cJ7_replacementTreeNode 31 = .ok (.invokevirtual 46, 3) := dk_182 0 46 (dk_at dksJ7_replacementTreeNode_1 9 rfl rfl)
theorem dJ7_replacementTreeNode_34 : decode cJ7_replacementTreeNode 34 = .ok (.aload 4, 2) := dk_25 4 (dk_at dksJ7_replacementTreeNode_1 12 rfl rfl)
theorem dJ7_replacementTreeNode_36 : decode cJ7_replacementTreeNode 36 = .ok (.areturn, 1) := dk_176 (dk_at dksJ7_replacementTreeNode_1 14 rfl rfl)
abbrev cJ7_afterNodeAccess : ByteArray := prog_45_method_10_code
def yJ7_afterNodeAccess : MethodName := ⟨RJ7, "afterNodeAccess", "(Ljava/util/HashMap$Node;)V"⟩
def dkwJ7_afterNodeAccess_11 : List UInt8 := [181, 0, 7, 42, 89, 180, 0, 68, 4, 96, 181, 0, 68, 177]
abbrev dktJ7_afterNodeAccess_11 : List UInt8 := dkwJ7_afterNodeAccess_11 ++ []
def dkwJ7_afterNodeAccess_10 : List UInt8 := [25, 4, 181, 0, 11, 167, 0, 15, 25, 4, 45, 181, 0, 14, 45, 25, 4, 181, 0, 19, 42, 25, 4]
abbrev dktJ7_afterNodeAccess_10 : List UInt8 := dkwJ7_afterNodeAccess_10 ++ dktJ7_afterNodeAccess_11
def dkwJ7_afterNodeAccess_9 : List UInt8 := [25, 5, 198, 0, 13, 25, 5, 25, 6, 181, 0, 14, 167, 0, 6, 25, 6, 78, 45, 199, 0, 12, 42]
abbrev dktJ7_afterNodeAccess_9 : List UInt8 := dkwJ7_afterNodeAccess_9 ++ dktJ7_afterNodeAccess_10
def dkwJ7_afterNodeAccess_8 : List UInt8 := [181, 0, 19, 25, 6, 199, 0, 12, 42, 25, 5, 181, 0, 11, 167, 0, 10, 25, 6, 25, 5, 181, 0, 19]
abbrev dktJ7_afterNodeAccess_8 : List UInt8 := dkwJ7_afterNodeAccess_8 ++ dktJ7_afterNodeAccess_9
def dkwJ7_afterNodeAccess_7 : List UInt8 := [43, 192, 0, 15, 58, 4, 25, 4, 180, 0, 19, 58, 5, 25, 4, 180, 0, 14, 58, 6, 25, 4, 1]
abbrev dktJ7_afterNodeAccess_7 : List UInt8 := dkwJ7_afterNodeAccess_7 ++ dktJ7_afterNodeAccess_8
def dkwJ7_afterNodeAccess_6 : List UInt8 := [181, 0, 68, 167, 0, 127, 42, 180, 0, 1, 4, 160, 0, 119, 42, 180, 0, 7, 89, 78, 43, 165, 0, 109]
abbrev dktJ7_afterNodeAccess_6 : List UInt8 := dkwJ7_afterNodeAccess_6 ++ dktJ7_afterNodeAccess_7
def dkwJ7_afterNodeAccess_5 : List UInt8 := [181, 0, 19, 44, 25, 4, 181, 0, 14, 42, 25, 4, 181, 0, 11, 42, 89, 180, 0, 68, 4, 96]
abbrev dktJ7_afterNodeAccess_5 : List UInt8 := dkwJ7_afterNodeAccess_5 ++ dktJ7_afterNodeAccess_6
def dkwJ7_afterNodeAccess_4 : List UInt8 := [167, 0, 6, 25, 5, 77, 44, 199, 0, 12, 42, 25, 4, 181, 0, 7, 167, 0, 15, 25, 4, 44]
abbrev dktJ7_afterNodeAccess_4 : List UInt8 := dkwJ7_afterNodeAccess_4 ++ dktJ7_afterNodeAccess_5
def dkwJ7_afterNodeAccess_3 : List UInt8 := [167, 0, 10, 25, 5, 25, 6, 181, 0, 14, 25, 6, 198, 0, 13, 25, 6, 25, 5, 181, 0, 19]
abbrev dktJ7_afterNodeAccess_3 : List UInt8 := dkwJ7_afterNodeAccess_3 ++ dktJ7_afterNodeAccess_4
def dkwJ7_afterNodeAccess_2 : List UInt8 := [180, 0, 14, 58, 6, 25, 4, 1, 181, 0, 14, 25, 5, 199, 0, 12, 42, 25, 6, 181, 0, 7]
abbrev dktJ7_afterNodeAccess_2 : List UInt8 := dkwJ7_afterNodeAccess_2 ++ dktJ7_afterNodeAccess_3
def dkwJ7_afterNodeAccess_1 : List UInt8 := [180, 0, 11, 89, 77, 43, 165, 0, 112, 43, 192, 0, 15, 58, 4, 25, 4, 180, 0, 19, 58, 5, 25, 4]
abbrev dktJ7_afterNodeAccess_1 : List UInt8 := dkwJ7_afterNodeAccess_1 ++ dktJ7_afterNodeAccess_2
def dkwJ7_afterNodeAccess_0 : List UInt8 := [42, 180, 0, 1, 5, 159, 0, 17, 42, 180, 0, 1, 154, 0, 129, 42, 180, 0, 64, 153, 0, 122, 42]
abbrev dktJ7_afterNodeAccess_0 : List UInt8 := dkwJ7_afterNodeAccess_0 ++ dktJ7_afterNodeAccess_1
theorem dksJ7_afterNodeAccess_0 : cJ7_afterNodeAccess.data.toList.drop 0 = dktJ7_afterNodeAccess_0 := by decide +kernel
theorem dksJ7_afterNodeAccess_1 : cJ7_afterNodeAccess.data.toList.drop 23 = dktJ7_afterNodeAccess_1 := dk_seg dksJ7_afterNodeAccess_0 23 rfl rfl
theorem dksJ7_afterNodeAccess_2 : cJ7_afterNodeAccess.data.toList.drop 47 = dktJ7_afterNodeAccess_2 := dk_seg dksJ7_afterNodeAccess_1 24 rfl rfl
theorem dksJ7_afterNodeAccess_3 : cJ7_afterNodeAccess.data.toList.drop 69 = dktJ7_afterNodeAccess_3 := dk_seg dksJ7_afterNodeAccess_2 22 rfl rfl
theorem dksJ7_afterNodeAccess_4 : cJ7_afterNodeAccess.data.toList.drop 91 = dktJ7_afterNodeAccess_4 := dk_seg dksJ7_afterNodeAccess_3 22 rfl rfl
theorem dksJ7_afterNodeAccess_5 : cJ7_afterNodeAccess.data.toList.drop 113 = dktJ7_afterNodeAccess_5 := dk_seg dksJ7_afterNodeAccess_4 22 rfl rfl
theorem dksJ7_afterNodeAccess_6 : cJ7_afterNodeAccess.data.toList.drop 135 = dktJ7_afterNodeAccess_6 := dk_seg dksJ7_afterNodeAccess_5 22 rfl rfl
theorem dksJ7_afterNodeAccess_7 : cJ7_afterNodeAccess.data.toList.drop 159 = dktJ7_afterNodeAccess_7 := dk_seg dksJ7_afterNodeAccess_6 24 rfl rfl
theorem dksJ7_afterNodeAccess_8 : cJ7_afterNodeAccess.data.toList.drop 182 = dktJ7_afterNodeAccess_8 := dk_seg dksJ7_afterNodeAccess_7 23 rfl rfl
theorem dksJ7_afterNodeAccess_9 : cJ7_afterNodeAccess.data.toList.drop 206 = dktJ7_afterNodeAccess_9 := dk_seg dksJ7_afterNodeAccess_8 24 rfl rfl
theorem dksJ7_afterNodeAccess_10 : cJ7_afterNodeAccess.data.toList.drop 229 = dktJ7_afterNodeAccess_10 := dk_seg dksJ7_afterNodeAccess_9 23 rfl rfl
theorem dksJ7_afterNodeAccess_11 : cJ7_afterNodeAccess.data.toList.drop 252 = dktJ7_afterNodeAccess_11 := dk_seg dksJ7_afterNodeAccess_10 23 rfl rfl
theorem dJ7_afterNodeAccess_0 : decode cJ7_afterNodeAccess 0 = .ok (.aload_n 0, 1) := dk_42 (dk_at dksJ7_afterNodeAccess_0 0 rfl rfl)
theorem dJ7_afterNodeAccess_1 : decode cJ7_afterNodeAccess 1 = .ok (.getfield 1, 3) := dk_180 0 1 (dk_at dksJ7_afterNodeAccess_0 1 rfl rfl)
theorem dJ7_afterNodeAccess_4 : decode cJ7_afterNodeAccess 4 = .ok (.iconst 2, 1) := dk_5 (dk_at dksJ7_afterNodeAccess_0 4 rfl rfl)
theorem dJ7_afterNodeAccess_5 : decode cJ7_afterNodeAccess 5 = .ok (.if_icmp .eq 17, 3) := dk_159 0 17 (dk_at dksJ7_afterNodeAccess_0 5 rfl rfl)
theorem dJ7_afterNodeAccess_8 : decode cJ7_afterNodeAccess 8 = .ok (.aload_n 0, 1) := dk_42 (dk_at dksJ7_afterNodeAccess_0 8 rfl rfl)
theorem dJ7_afterNodeAccess_9 : decode cJ7_afterNodeAccess 9 = .ok (.getfield 1, 3) := dk_180 0 1 (dk_at dksJ7_afterNodeAccess_0 9 rfl rfl)
theorem dJ7_afterNodeAccess_12 : decode cJ7_afterNodeAccess 12 = .ok (.ifCond .ne 129, 3) := dk_154 0 129 (dk_at dksJ7_afterNodeAccess_0 12 rfl rfl)
theorem dJ7_afterNodeAccess_15 : decode cJ7_afterNodeAccess 15 = .ok (.aload_n 0, 1) := dk_42 (dk_at dksJ7_afterNodeAccess_0 15 rfl rfl)
theorem dJ7_afterNodeAccess_16 : decode cJ7_afterNodeAccess 16 = .ok (.getfield 64, 3) := dk_180 0 64 (dk_at dksJ7_afterNodeAccess_0 16 rfl rfl)
theorem dJ7_afterNodeAccess_19 : decode cJ7_afterNodeAccess 19 = .ok (.ifCond .eq 122, 3) := dk_153 0 122 (dk_at dksJ7_afterNodeAccess_0 19 rfl rfl)
theorem dJ7_afterNodeAccess_22 : decode cJ7_afterNodeAccess 22 = .ok (.aload_n 0, 1) := dk_42 (dk_at dksJ7_afterNodeAccess_0 22 rfl rfl)
theorem dJ7_afterNodeAccess_23 : decode cJ7_afterNodeAccess 23 = .ok (.getfield 11, 3) := dk_180 0 11 (dk_at dksJ7_afterNodeAccess_1 0 rfl rfl)
theorem dJ7_afterNodeAccess_26 : decode cJ7_afterNodeAccess 26 = .ok (.dup, 1) := dk_89 (dk_at dksJ7_afterNodeAccess_1 3 rfl rfl)
theorem dJ7_afterNodeAccess_27 : decode cJ7_afterNodeAccess 27 = .ok (.astore_n 2, 1) := dk_77 (dk_at dksJ7_afterNodeAccess_1 4 rfl rfl)
theorem dJ7_afterNodeAccess_28 : decode cJ7_afterNodeAccess 28 = .ok (.aload_n 1, 1) := dk_43 (dk_at dksJ7_afterNodeAccess_1 5 rfl rfl)
theorem dJ7_afterNodeAccess_29 : decode cJ7_afterNodeAccess 29 = .ok (.if_acmp .eq 112, 3) := dk_165 0 112 (dk_at dksJ7_afterNodeAccess_1 6 rfl rfl)
theorem dJ7_afterNodeAccess_32 : decode cJ7_afterNodeAccess 32 = .ok (.aload_n 1, 1) := dk_43 (dk_at dksJ7_afterNodeAccess_1 9 rfl rfl)
theorem dJ7_afterNodeAccess_33 : decode cJ7_afterNodeAccess 33 = .ok (.checkcast 15, 3) := dk_192 0 15 (dk_at dksJ7_afterNodeAccess_1 10 rfl rfl)
theorem dJ7_afterNodeAccess_36 : decode cJ7_afterNodeAccess 36 = .ok (.astore 4, 2) := dk_58 4 (dk_at dksJ7_afterNodeAccess_1 13 rfl rfl)
theorem dJ7_afterNodeAccess_38 : decode cJ7_afterNodeAccess 38 = .ok (.aload 4, 2) := dk_25 4 (dk_at dksJ7_afterNodeAccess_1 15 rfl rfl)
theorem dJ7_afterNodeAccess_40 : decode cJ7_afterNodeAccess 40 = .ok (.getfield 19, 3) := dk_180 0 19 (dk_at dksJ7_afterNodeAccess_1 17 rfl rfl)
theorem dJ7_afterNodeAccess_43 : decode cJ7_afterNodeAccess 43 = .ok (.astore 5, 2) := dk_58 5 (dk_at dksJ7_afterNodeAccess_1 20 rfl rfl)
theorem dJ7_afterNodeAccess_45 : decode cJ7_afterNodeAccess 45 = .ok (.aload 4, 2) := dk_25 4 (dk_at dksJ7_afterNodeAccess_1 22 rfl rfl)
theorem dJ7_afterNodeAccess_47 : decode cJ7_afterNodeAccess 47 = .ok (.getfield 14, 3) := dk_180 0 14 (dk_at dksJ7_afterNodeAccess_2 0 rfl rfl)
theorem dJ7_afterNodeAccess_50 : decode cJ7_afterNodeAccess 50 = .ok (.astore 6, 2) := dk_58 6 (dk_at dksJ7_afterNodeAccess_2 3 rfl rfl)
theorem dJ7_afterNodeAccess_52 : decode cJ7_afterNodeAccess 52 = .ok (.aload 4, 2) := dk_25 4 (dk_at dksJ7_afterNodeAccess_2 5 rfl rfl)
theorem dJ7_afterNodeAccess_54 : decode cJ7_afterNodeAccess 54 = .ok (.aconst_null, 1) := dk_1 (dk_at dksJ7_afterNodeAccess_2 7 rfl rfl)
theorem dJ7_afterNodeAccess_55 : decode cJ7_afterNodeAccess 55 = .ok (.putfield 14, 3) := dk_181 0 14 (dk_at dksJ7_afterNodeAccess_2 8 rfl rfl)
theorem dJ7_afterNodeAccess_58 : decode cJ7_afterNodeAccess 58 = .ok (.aload 5, 2) := dk_25 5 (dk_at dksJ7_afterNodeAccess_2 11 rfl rfl)
theorem dJ7_afterNodeAccess_60 : decode cJ7_afterNodeAccess 60 = .ok (.ifnonnull 12, 3) := dk_199 0 12 (dk_at dksJ7_afterNodeAccess_2 13 rfl rfl)
theorem dJ7_afterNodeAccess_63 : decode cJ7_afterNodeAccess 63 = .ok (.aload_n 0, 1) := dk_42 (dk_at dksJ7_afterNodeAccess_2 16 rfl rfl)
theorem dJ7_afterNodeAccess_64 : decode cJ7_afterNodeAccess 64 = .ok (.aload 6, 2) := dk_25 6 (dk_at dksJ7_afterNodeAccess_2 17 rfl rfl)
theorem dJ7_afterNodeAccess_66 : decode cJ7_afterNodeAccess 66 = .ok (.putfield 7, 3) := dk_181 0 7 (dk_at dksJ7_afterNodeAccess_2 19 rfl rfl)
theorem dJ7_afterNodeAccess_69 : decode cJ7_afterNodeAccess 69 = .ok (.goto 10, 3) := dk_167 0 10 (dk_at dksJ7_afterNodeAccess_3 0 rfl rfl)
theorem dJ7_afterNodeAccess_72 : decode cJ7_afterNodeAccess 72 = .ok (.aload 5, 2) := dk_25 5 (dk_at dksJ7_afterNodeAccess_3 3 rfl rfl)
theorem dJ7_afterNodeAccess_74 : decode cJ7_afterNodeAccess 74 = .ok (.aload 6, 2) := dk_25 6 (dk_at dksJ7_afterNodeAccess_3 5 rfl rfl)
theorem dJ7_afterNodeAccess_76 : decode cJ7_afterNodeAccess 76 = .ok (.putfield 14, 3) := dk_181 0 14 (dk_at dksJ7_afterNodeAccess_3 7 rfl rfl)
theorem dJ7_afterNodeAccess_79 : decode cJ7_afterNodeAccess 79 = .ok (.aload 6, 2) := dk_25 6 (dk_at dksJ7_afterNodeAccess_3 10 rfl rfl)
theorem dJ7_afterNodeAccess_81 : decode cJ7_afterNodeAccess 81 = .ok (.ifnull 13, 3) := dk_198 0 13 (dk_at dksJ7_afterNodeAccess_3 12 rfl rfl)
theorem dJ7_afterNodeAccess_84 : decode cJ7_afterNodeAccess 84 = .ok (.aload 6, 2) := dk_25 6 (dk_at dksJ7_afterNodeAccess_3 15 rfl rfl)
theorem dJ7_afterNodeAccess_86 : decode cJ7_afterNodeAccess 86 = .ok (.aload 5, 2) := dk_25 5 (dk_at dksJ7_afterNodeAccess_3 17 rfl rfl)
theorem dJ7_afterNodeAccess_88 : decode cJ7_afterNodeAccess 88 = .ok (.putfield 19, 3) := dk_181 0 19 (dk_at dksJ7_afterNodeAccess_3 19 rfl rfl)
theorem dJ7_afterNodeAccess_91 : decode cJ7_afterNodeAccess 91 = .ok (.goto 6, 3) := dk_167 0 6 (dk_at dksJ7_afterNodeAccess_4 0 rfl rfl)
theorem dJ7_afterNodeAccess_94 : decode cJ7_afterNodeAccess 94 = .ok (.aload 5, 2) := dk_25 5 (dk_at dksJ7_afterNodeAccess_4 3 rfl rfl)
theorem dJ7_afterNodeAccess_96 : decode cJ7_afterNodeAccess 96 = .ok (.astore_n 2, 1) := dk_77 (dk_at dksJ7_afterNodeAccess_4 5 rfl rfl)
theorem dJ7_afterNodeAccess_97 : decode cJ7_afterNodeAccess 97 = .ok (.aload_n 2, 1) := dk_44 (dk_at dksJ7_afterNodeAccess_4 6 rfl rfl)
theorem dJ7_afterNodeAccess_98 : decode cJ7_afterNodeAccess 98 = .ok (.ifnonnull 12, 3) := dk_199 0 12 (dk_at dksJ7_afterNodeAccess_4 7 rfl rfl)
theorem dJ7_afterNodeAccess_101 : decode cJ7_afterNodeAccess 101 = .ok (.aload_n 0, 1) := dk_42 (dk_at dksJ7_afterNodeAccess_4 10 rfl rfl)
theorem dJ7_afterNodeAccess_102 : decode cJ7_afterNodeAccess 102 = .ok (.aload 4, 2) := dk_25 4 (dk_at dksJ7_afterNodeAccess_4 11 rfl rfl)
theorem dJ7_afterNodeAccess_104 : decode cJ7_afterNodeAccess 104 = .ok (.putfield 7, 3) := dk_181 0 7 (dk_at dksJ7_afterNodeAccess_4 13 rfl rfl)
theorem dJ7_afterNodeAccess_107 : decode cJ7_afterNodeAccess 107 = .ok (.goto 15, 3) := dk_167 0 15 (dk_at dksJ7_afterNodeAccess_4 16 rfl rfl)
theorem dJ7_afterNodeAccess_110 : decode cJ7_afterNodeAccess 110 = .ok (.aload 4, 2) := dk_25 4 (dk_at dksJ7_afterNodeAccess_4 19 rfl rfl)
theorem dJ7_afterNodeAccess_112 : decode cJ7_afterNodeAccess 112 = .ok (.aload_n 2, 1) := dk_44 (dk_at dksJ7_afterNodeAccess_4 21 rfl rfl)
theorem dJ7_afterNodeAccess_113 : decode cJ7_afterNodeAccess 113 = .ok (.putfield 19, 3) := dk_181 0 19 (dk_at dksJ7_afterNodeAccess_5 0 rfl rfl)
theorem dJ7_afterNodeAccess_116 : decode cJ7_afterNodeAccess 116 = .ok (.aload_n 2, 1) := dk_44 (dk_at dksJ7_afterNodeAccess_5 3 rfl rfl)
theorem dJ7_afterNodeAccess_117 : decode cJ7_afterNodeAccess 117 = .ok (.aload 4, 2) := dk_25 4 (dk_at dksJ7_afterNodeAccess_5 4 rfl rfl)
theorem dJ7_afterNodeAccess_119 : decode cJ7_afterNodeAccess 119 = .ok (.putfield 14, 3) := dk_181 0 14 (dk_at dksJ7_afterNodeAccess_5 6 rfl rfl)
theorem dJ7_afterNodeAccess_122 : decode cJ7_afterNodeAccess 122 = .ok (.aload_n 0, 1) := dk_42 (dk_at dksJ7_afterNodeAccess_5 9 rfl rfl)
theorem dJ7_afterNodeAccess_123 : decode cJ7_afterNodeAccess 123 = .ok (.aload 4, 2) := dk_25 4 (dk_at dksJ7_afterNodeAccess_5 10 rfl rfl)
theorem dJ7_afterNodeAccess_125 : decode cJ7_afterNodeAccess 125 = .ok (.putfield 11, 3) := dk_181 0 11 (dk_at dksJ7_afterNodeAccess_5 12 rfl rfl)
theorem dJ7_afterNodeAccess_128 : decode cJ7_afterNodeAccess 128 = .ok (.aload_n 0, 1) := dk_42 (dk_at dksJ7_afterNodeAccess_5 15 rfl rfl)
theorem dJ7_afterNodeAccess_129 : decode cJ7_afterNodeAccess 129 = .ok (.dup, 1) := dk_89 (dk_at dksJ7_afterNodeAccess_5 16 rfl rfl)
theorem dJ7_afterNodeAccess_130 : decode cJ7_afterNodeAccess 130 = .ok (.getfield 68, 3) := dk_180 0 68 (dk_at dksJ7_afterNodeAccess_5 17 rfl rfl)
theorem dJ7_afterNodeAccess_133 : decode cJ7_afterNodeAccess 133 = .ok (.iconst 1, 1) := dk_4 (dk_at dksJ7_afterNodeAccess_5 20 rfl rfl)
theorem dJ7_afterNodeAccess_134 : decode cJ7_afterNodeAccess 134 = .ok (.iadd, 1) := dk_96 (dk_at dksJ7_afterNodeAccess_5 21 rfl rfl)
theorem dJ7_afterNodeAccess_135 : decode cJ7_afterNodeAccess 135 = .ok (.putfield 68, 3) := dk_181 0 68 (dk_at dksJ7_afterNodeAccess_6 0 rfl rfl)
theorem dJ7_afterNodeAccess_138 : decode cJ7_afterNodeAccess 138 = .ok (.goto 127, 3) := dk_167 0 127 (dk_at dksJ7_afterNodeAccess_6 3 rfl rfl)
theorem dJ7_afterNodeAccess_141 : decode cJ7_afterNodeAccess 141 = .ok (.aload_n 0, 1) := dk_42 (dk_at dksJ7_afterNodeAccess_6 6 rfl rfl)
theorem dJ7_afterNodeAccess_142 : decode cJ7_afterNodeAccess 142 = .ok (.getfield 1, 3) := dk_180 0 1 (dk_at dksJ7_afterNodeAccess_6 7 rfl rfl)
theorem dJ7_afterNodeAccess_145 : decode cJ7_afterNodeAccess 145 = .ok (.iconst 1, 1) := dk_4 (dk_at dksJ7_afterNodeAccess_6 10 rfl rfl)
theorem dJ7_afterNodeAccess_146 : decode cJ7_afterNodeAccess 146 = .ok (.if_icmp .ne 119, 3) := dk_160 0 119 (dk_at dksJ7_afterNodeAccess_6 11 rfl rfl)
theorem dJ7_afterNodeAccess_149 : decode cJ7_afterNodeAccess 149 = .ok (.aload_n 0, 1) := dk_42 (dk_at dksJ7_afterNodeAccess_6 14 rfl rfl)
theorem dJ7_afterNodeAccess_150 : decode cJ7_afterNodeAccess 150 = .ok (.getfield 7, 3) := dk_180 0 7 (dk_at dksJ7_afterNodeAccess_6 15 rfl rfl)
theorem dJ7_afterNodeAccess_153 : decode cJ7_afterNodeAccess 153 = .ok (.dup, 1) := dk_89 (dk_at dksJ7_afterNodeAccess_6 18 rfl rfl)
theorem dJ7_afterNodeAccess_154 : decode cJ7_afterNodeAccess 154 = .ok (.astore_n 3, 1) := dk_78 (dk_at dksJ7_afterNodeAccess_6 19 rfl rfl)
theorem dJ7_afterNodeAccess_155 : decode cJ7_afterNodeAccess 155 = .ok (.aload_n 1, 1) := dk_43 (dk_at dksJ7_afterNodeAccess_6 20 rfl rfl)
theorem dJ7_afterNodeAccess_156 : decode cJ7_afterNodeAccess 156 = .ok (.if_acmp .eq 109, 3) := dk_165 0 109 (dk_at dksJ7_afterNodeAccess_6 21 rfl rfl)
theorem dJ7_afterNodeAccess_159 : decode cJ7_afterNodeAccess 159 = .ok (.aload_n 1, 1) := dk_43 (dk_at dksJ7_afterNodeAccess_7 0 rfl rfl)
theorem dJ7_afterNodeAccess_160 : decode cJ7_afterNodeAccess 160 = .ok (.checkcast 15, 3) := dk_192 0 15 (dk_at dksJ7_afterNodeAccess_7 1 rfl rfl)
theorem dJ7_afterNodeAccess_163 : decode cJ7_afterNodeAccess 163 = .ok (.astore 4, 2) := dk_58 4 (dk_at dksJ7_afterNodeAccess_7 4 rfl rfl)
theorem dJ7_afterNodeAccess_165 : decode cJ7_afterNodeAccess 165 = .ok (.aload 4, 2) := dk_25 4 (dk_at dksJ7_afterNodeAccess_7 6 rfl rfl)
theorem dJ7_afterNodeAccess_167 : decode cJ7_afterNodeAccess 167 = .ok (.getfield 19, 3) := dk_180 0 19 (dk_at dksJ7_afterNodeAccess_7 8 rfl rfl)
theorem dJ7_afterNodeAccess_170 : decode cJ7_afterNodeAccess 170 = .ok (.astore 5, 2) := dk_58 5 (dk_at dksJ7_afterNodeAccess_7 11 rfl rfl)
theorem dJ7_afterNodeAccess_172 : decode cJ7_afterNodeAccess 172 = .ok (.aload 4, 2) := dk_25 4 (dk_at dksJ7_afterNodeAccess_7 13 rfl rfl)
theorem dJ7_afterNodeAccess_174 : decode cJ7_afterNodeAccess 174 = .ok (.getfield 14, 3) := dk_180 0 14 (dk_at dksJ7_afterNodeAccess_7 15 rfl rfl)
theorem dJ7_afterNodeAccess_177 : decode cJ7_afterNodeAccess 177 = .ok (.astore 6, 2) := dk_58 6 (dk_at dksJ7_afterNodeAccess_7 18 rfl rfl)
theorem dJ7_afterNodeAccess_179 : decode cJ7_afterNodeAccess 179 = .ok (.aload 4, 2) := dk_25 4 (dk_at dksJ7_afterNodeAccess_7 20 rfl rfl)
theorem dJ7_afterNodeAccess_181 : decode cJ7_afterNodeAccess 181 = .ok (.aconst_null, 1) := dk_1 (dk_at dksJ7_afterNodeAccess_7 22 rfl rfl)
theorem dJ7_afterNodeAccess_182 : decode cJ7_afterNodeAccess 182 = .ok (.putfield 19, 3) := dk_181 0 19 (dk_at dksJ7_afterNodeAccess_8 0 rfl rfl)
theorem dJ7_afterNodeAccess_185 : decode cJ7_afterNodeAccess 185 = .ok (.aload 6, 2) := dk_25 6 (dk_at dksJ7_afterNodeAccess_8 3 rfl rfl)
theorem dJ7_afterNodeAccess_187 : decode cJ7_afterNodeAccess 187 = .ok (.ifnonnull 12, 3) := dk_199 0 12 (dk_at dksJ7_afterNodeAccess_8 5 rfl rfl)
theorem dJ7_afterNodeAccess_190 : decode cJ7_afterNodeAccess 190 = .ok (.aload_n 0, 1) := dk_42 (dk_at dksJ7_afterNodeAccess_8 8 rfl rfl)
theorem dJ7_afterNodeAccess_191 : decode cJ7_afterNodeAccess 191 = .ok (.aload 5, 2) := dk_25 5 (dk_at dksJ7_afterNodeAccess_8 9 rfl rfl)
theorem dJ7_afterNodeAccess_193 : decode cJ7_afterNodeAccess 193 = .ok (.putfield 11, 3) := dk_181 0 11 (dk_at dksJ7_afterNodeAccess_8 11 rfl rfl)
theorem dJ7_afterNodeAccess_196 : decode cJ7_afterNodeAccess 196 = .ok (.goto 10, 3) := dk_167 0 10 (dk_at dksJ7_afterNodeAccess_8 14 rfl rfl)
theorem dJ7_afterNodeAccess_199 : decode cJ7_afterNodeAccess 199 = .ok (.aload 6, 2) := dk_25 6 (dk_at dksJ7_afterNodeAccess_8 17 rfl rfl)
theorem dJ7_afterNodeAccess_201 : decode cJ7_afterNodeAccess 201 = .ok (.aload 5, 2) := dk_25 5 (dk_at dksJ7_afterNodeAccess_8 19 rfl rfl)
theorem dJ7_afterNodeAccess_203 : decode cJ7_afterNodeAccess 203 = .ok (.putfield 19, 3) := dk_181 0 19 (dk_at dksJ7_afterNodeAccess_8 21 rfl rfl)
theorem dJ7_afterNodeAccess_206 : decode cJ7_afterNodeAccess 206 = .ok (.aload 5, 2) := dk_25 5 (dk_at dksJ7_afterNodeAccess_9 0 rfl rfl)
theorem dJ7_afterNodeAccess_208 : decode cJ7_afterNodeAccess 208 = .ok (.ifnull 13, 3) := dk_198 0 13 (dk_at dksJ7_afterNodeAccess_9 2 rfl rfl)
theorem dJ7_afterNodeAccess_211 : decode cJ7_afterNodeAccess 211 = .ok (.aload 5, 2) := dk_25 5 (dk_at dksJ7_afterNodeAccess_9 5 rfl rfl)
theorem dJ7_afterNodeAccess_213 : decode cJ7_afterNodeAccess 213 = .ok (.aload 6, 2) := dk_25 6 (dk_at dksJ7_afterNodeAccess_9 7 rfl rfl)
theorem dJ7_afterNodeAccess_215 : decode cJ7_afterNodeAccess 215 = .ok (.putfield 14, 3) := dk_181 0 14 (dk_at dksJ7_afterNodeAccess_9 9 rfl rfl)
theorem dJ7_afterNodeAccess_218 : decode cJ7_afterNodeAccess 218 = .ok (.goto 6, 3) := dk_167 0 6 (dk_at dksJ7_afterNodeAccess_9 12 rfl rfl)
theorem dJ7_afterNodeAccess_221 : decode cJ7_afterNodeAccess 221 = .ok (.aload 6, 2) := dk_25 6 (dk_at dksJ7_afterNodeAccess_9 15 rfl rfl)
theorem dJ7_afterNodeAccess_223 : decode cJ7_afterNodeAccess 223 = .ok (.astore_n 3, 1) := dk_78 (dk_at dksJ7_afterNodeAccess_9 17 rfl rfl)
theorem dJ7_afterNodeAccess_224 : decode cJ7_afterNodeAccess 224 = .ok (.aload_n 3, 1) := dk_45 (dk_at dksJ7_afterNodeAccess_9 18 rfl rfl)
theorem dJ7_afterNodeAccess_225 : decode cJ7_afterNodeAccess 225 = .ok (.ifnonnull 12, 3) := dk_199 0 12 (dk_at dksJ7_afterNodeAccess_9 19 rfl rfl)
theorem dJ7_afterNodeAccess_228 : decode cJ7_afterNodeAccess 228 = .ok (.aload_n 0, 1) := dk_42 (dk_at dksJ7_afterNodeAccess_9 22 rfl rfl)
theorem dJ7_afterNodeAccess_229 : decode cJ7_afterNodeAccess 229 = .ok (.aload 4, 2) := dk_25 4 (dk_at dksJ7_afterNodeAccess_10 0 rfl rfl)
theorem dJ7_afterNodeAccess_231 : decode cJ7_afterNodeAccess 231 = .ok (.putfield 11, 3) := dk_181 0 11 (dk_at dksJ7_afterNodeAccess_10 2 rfl rfl)
theorem dJ7_afterNodeAccess_234 : decode cJ7_afterNodeAccess 234 = .ok (.goto 15, 3) := dk_167 0 15 (dk_at dksJ7_afterNodeAccess_10 5 rfl rfl)
theorem dJ7_afterNodeAccess_237 : decode cJ7_afterNodeAccess 237 = .ok (.aload 4, 2) := dk_25 4 (dk_at dksJ7_afterNodeAccess_10 8 rfl rfl)
theorem dJ7_afterNodeAccess_239 : decode cJ7_afterNodeAccess 239 = .ok (.aload_n 3, 1) := dk_45 (dk_at dksJ7_afterNodeAccess_10 10 rfl rfl)
theorem dJ7_afterNodeAccess_240 : decode cJ7_afterNodeAccess 240 = .ok (.putfield 14, 3) := dk_181 0 14 (dk_at dksJ7_afterNodeAccess_10 11 rfl rfl)
theorem dJ7_afterNodeAccess_243 : decode cJ7_afterNodeAccess 243 = .ok (.aload_n 3, 1) := dk_45 (dk_at dksJ7_afterNodeAccess_10 14 rfl rfl)
theorem dJ7_afterNodeAccess_244 : decode cJ7_afterNodeAccess 244 = .ok (.aload 4, 2) := dk_25 4 (dk_at dksJ7_afterNodeAccess_10 15 rfl rfl)
theorem dJ7_afterNodeAccess_246 : decode cJ7_afterNodeAccess 246 = .ok (.putfield 19, 3) := dk_181 0 19 (dk_at dksJ7_afterNodeAccess_10 17 rfl rfl)
theorem dJ7_afterNodeAccess_249 : decode cJ7_afterNodeAccess 249 = .ok (.aload_n 0, 1) := dk_42 (dk_at dksJ7_afterNodeAccess_10 20 rfl rfl)
theorem dJ7_afterNodeAccess_250 : decode cJ7_afterNodeAccess 250 = .ok (.aload 4, 2) := dk_25 4 (dk_at dksJ7_afterNodeAccess_10 21 rfl rfl)
theorem dJ7_afterNodeAccess_252 : decode cJ7_afterNodeAccess 252 = .ok (.putfield 7, 3) := dk_181 0 7 (dk_at dksJ7_afterNodeAccess_11 0 rfl rfl)
theorem dJ7_afterNodeAccess_255 : decode cJ7_afterNodeAccess 255 = .ok (.aload_n 0, 1) := dk_42 (dk_at dksJ7_afterNodeAccess_11 3 rfl rfl)
theorem dJ7_afterNodeAccess_256 : decode cJ7_afterNodeAccess 256 = .ok (.dup, 1) := dk_89 (dk_at dksJ7_afterNodeAccess_11 4 rfl rfl)
theorem dJ7_afterNodeAccess_257 : decode cJ7_afterNodeAccess 257 = .ok (.getfield 68, 3) := dk_180 0 68 (dk_at dksJ7_afterNodeAccess_11 5 rfl rfl)
theorem dJ7_afterNodeAccess_260 : decode cJ7_afterNodeAccess 260 = .ok (.iconst 1, 1) := dk_4 (dk_at dksJ7_afterNodeAccess_11 8 rfl rfl)
theorem dJ7_afterNodeAccess_261 : decode cJ7_afterNodeAccess 261 = .ok (.iadd, 1) := dk_96 (dk_at dksJ7_afterNodeAccess_11 9 rfl rfl)
theorem dJ7_afterNodeAccess_262 : decode cJ7_afterNodeAccess 262 = .ok (.putfield 68, 3) := dk_181 0 68 (dk_at dksJ7_afterNodeAccess_11 10 rfl rfl)
theorem dJ7_afterNodeAccess_265 : decode cJ7_afterNodeAccess 265 = .ok (.return_, 1) := dk_177 (dk_at dksJ7_afterNodeAccess_11 13 rfl rfl)
abbrev cJ7_afterNodeInsertion : ByteArray := prog_45_method_9_code
def yJ7_afterNodeInsertion : MethodName := ⟨RJ7, "afterNodeInsertion", "(Z)V"⟩
def dkwJ7_afterNodeInsertion_1 : List UInt8 := [180, 0, 39, 78, 42, 45, 184, 0, 57, 45, 1, 3, 4, 182, 0, 60, 87, 177]
abbrev dktJ7_afterNodeInsertion_1 : List UInt8 := dkwJ7_afterNodeInsertion_1 ++ []
def dkwJ7_afterNodeInsertion_0 : List UInt8 := [27, 153, 0, 38, 42, 180, 0, 7, 89, 77, 198, 0, 29, 42, 44, 182, 0, 53, 153, 0, 21, 44]
abbrev dktJ7_afterNodeInsertion_0 : List UInt8 := dkwJ7_afterNodeInsertion_0 ++ dktJ7_afterNodeInsertion_1
theorem dksJ7_afterNodeInsertion_0 : cJ7_afterNodeInsertion.data.toList.drop 0 = dktJ7_afterNodeInsertion_0 := by decide +kernel
theorem dksJ7_afterNodeInsertion_1 : cJ7_afterNodeInsertion.data.toList.drop 22 = dktJ7_afterNodeInsertion_1 := dk_seg dksJ7_afterNodeInsertion_0 22 rfl rfl
theorem dJ7_afterNodeInsertion_0 : decode cJ7_afterNodeInsertion 0 = .ok (.iload_n 1, 1) := dk_27 (dk_at dksJ7_afterNodeInsertion_0 0 rfl rfl)
theorem dJ7_afterNodeInsertion_1 : decode cJ7_afterNodeInsertion 1 = .ok (.ifCond .eq 38, 3) := dk_153 0 38 (dk_at dksJ7_afterNodeInsertion_0 1 rfl rfl)
theorem dJ7_afterNodeInsertion_4 : decode cJ7_afterNodeInsertion 4 = .ok (.aload_n 0, 1) := dk_42 (dk_at dksJ7_afterNodeInsertion_0 4 rfl rfl)
theorem dJ7_afterNodeInsertion_5 : decode cJ7_afterNodeInsertion 5 = .ok (.getfield 7, 3) := dk_180 0 7 (dk_at dksJ7_afterNodeInsertion_0 5 rfl rfl)
theorem dJ7_afterNodeInsertion_8 : decode cJ7_afterNodeInsertion 8 = .ok (.dup, 1) := dk_89 (dk_at dksJ7_afterNodeInsertion_0 8 rfl rfl)
theorem dJ7_afterNodeInsertion_9 : decode cJ7_afterNodeInsertion 9 = .ok (.astore_n 2, 1) := dk_77 (dk_at dksJ7_afterNodeInsertion_0 9 rfl rfl)
theorem dJ7_afterNodeInsertion_10 : decode cJ7_afterNodeInsertion 10 = .ok (.ifnull 29, 3) := dk_198 0 29 (dk_at dksJ7_afterNodeInsertion_0 10 rfl rfl)
theorem dJ7_afterNodeInsertion_13 : decode cJ7_afterNodeInsertion 13 = .ok (.aload_n 0, 1) := dk_42 (dk_at dksJ7_afterNodeInsertion_0 13 rfl rfl)
theorem dJ7_afterNodeInsertion_14 : decode cJ7_afterNodeInsertion 14 = .ok (.aload_n 2, 1) := dk_44 (dk_at dksJ7_afterNodeInsertion_0 14 rfl rfl)
theorem dJ7_afterNodeInsertion_15 : decode cJ7_afterNodeInsertion 15 = .ok (.invokevirtual 53, 3) := dk_182 0 53 (dk_at dksJ7_afterNodeInsertion_0 15 rfl rfl)
theorem dJ7_afterNodeInsertion_18 : decode cJ7_afterNodeInsertion 18 = .ok (.ifCond .eq 21, 3) := dk_153 0 21 (dk_at dksJ7_afterNodeInsertion_0 18 rfl rfl)
theorem dJ7_afterNodeInsertion_21 : decode cJ7_afterNodeInsertion 21 = .ok (.aload_n 2, 1) := dk_44 (dk_at dksJ7_afterNodeInsertion_0 21 rfl rfl)
theorem dJ7_afterNodeInsertion_22 : decode cJ7_afterNodeInsertion 22 = .ok (.getfield 39, 3) := dk_180 0 39 (dk_at dksJ7_afterNodeInsertion_1 0 rfl rfl)
theorem dJ7_afterNodeInsertion_25 : decode cJ7_afterNodeInsertion 25 = .ok (.astore_n 3, 1) := dk_78 (dk_at dksJ7_afterNodeInsertion_1 3 rfl rfl)
theorem dJ7_afterNodeInsertion_26 : decode cJ7_afterNodeInsertion 26 = .ok (.aload_n 0, 1) := dk_42 (dk_at dksJ7_afterNodeInsertion_1 4 rfl rfl)
theorem dJ7_afterNodeInsertion_27 : decode cJ7_afterNodeInsertion 27 = .ok (.aload_n 3, 1) := dk_45 (dk_at dksJ7_afterNodeInsertion_1 5 rfl rfl)
theorem dJ7_afterNodeInsertion_28 : decode cJ7_afterNodeInsertion 28 = .ok (.invokestatic 57, 3) := dk_184 0 57 (dk_at dksJ7_afterNodeInsertion_1 6 rfl rfl)
theorem dJ7_afterNodeInsertion_31 : decode cJ7_afterNodeInsertion 31 = .ok (.aload_n 3, 1) := dk_45 (dk_at dksJ7_afterNodeInsertion_1 9 rfl rfl)
theorem dJ7_afterNodeInsertion_32 : decode cJ7_afterNodeInsertion 32 = .ok (.aconst_null, 1) := dk_1 (dk_at dksJ7_afterNodeInsertion_1 10 rfl rfl)
theorem dJ7_afterNodeInsertion_33 : decode cJ7_afterNodeInsertion 33 = .ok (.iconst 0, 1) := dk_3 (dk_at dksJ7_afterNodeInsertion_1 11 rfl rfl)
theorem dJ7_afterNodeInsertion_34 : decode cJ7_afterNodeInsertion 34 = .ok (.iconst 1, 1) := dk_4 (dk_at dksJ7_afterNodeInsertion_1 12 rfl rfl)
theorem dJ7_afterNodeInsertion_35 : decode cJ7_afterNodeInsertion 35 = .ok (.invokevirtual 60, 3) := dk_182 0 60 (dk_at dksJ7_afterNodeInsertion_1 13 rfl rfl)
theorem dJ7_afterNodeInsertion_38 : decode cJ7_afterNodeInsertion 38 = .ok (.pop, 1) := dk_87 (dk_at dksJ7_afterNodeInsertion_1 16 rfl rfl)
theorem dJ7_afterNodeInsertion_39 : decode cJ7_afterNodeInsertion 39 = .ok (.return_, 1) := dk_177 (dk_at dksJ7_afterNodeInsertion_1 17 rfl rfl)
abbrev cJ7_removeEldestEntry : ByteArray := prog_45_method_23_code
def yJ7_removeEldestEntry : MethodName := ⟨RJ7, "removeEldestEntry", "(Ljava/util/Map$Entry;)Z"⟩
theorem dJ7_removeEldestEntry_0 : decode cJ7_removeEldestEntry 0 = .ok (.iconst 0, 1) := by decide +kernel
theorem dJ7_removeEldestEntry_1 : decode cJ7_removeEldestEntry 1 = .ok (.ireturn, 1) := by decide +kernel
abbrev cJ7_keySet : ByteArray := prog_45_method_24_code
def yJ7_keySet : MethodName := ⟨RJ7, "keySet", "()Ljava/util/Set;"⟩
theorem dJ7_keySet_0 : decode cJ7_keySet 0 = .ok (.aload_n 0, 1) := by decide +kernel
theorem dJ7_keySet_1 : decode cJ7_keySet 1 = .ok (.invokevirtual 113, 3) := by decide +kernel
theorem dJ7_keySet_4 : decode cJ7_keySet 4 = .ok (.areturn, 1) := by decide +kernel
abbrev cJ7_sequencedKeySet : ByteArray := prog_45_method_25_code
def yJ7_sequencedKeySet : MethodName := ⟨RJ7, "sequencedKeySet", "()Ljava/util/SequencedSet;"⟩
def dkwJ7_sequencedKeySet_1 : List UInt8 := [44, 176, 43, 192, 0, 126, 176]
abbrev dktJ7_sequencedKeySet_1 : List UInt8 := dkwJ7_sequencedKeySet_1 ++ []
def dkwJ7_sequencedKeySet_0 : List UInt8 := [42, 180, 0, 117, 76, 43, 199, 0, 20, 187, 0, 121, 89, 42, 3, 183, 0, 123, 77, 42, 44, 181, 0, 117]
abbrev dktJ7_sequencedKeySet_0 : List UInt8 := dkwJ7_sequencedKeySet_0 ++ dktJ7_sequencedKeySet_1
theorem dksJ7_sequencedKeySet_0 : cJ7_sequencedKeySet.data.toList.drop 0 = dktJ7_sequencedKeySet_0 := by decide +kernel
theorem dksJ7_sequencedKeySet_1 : cJ7_sequencedKeySet.data.toList.drop 24 = dktJ7_sequencedKeySet_1 := dk_seg dksJ7_sequencedKeySet_0 24 rfl rfl
theorem dJ7_sequencedKeySet_0 : decode cJ7_sequencedKeySet 0 = .ok (.aload_n 0, 1) := dk_42 (dk_at dksJ7_sequencedKeySet_0 0 rfl rfl)
theorem dJ7_sequencedKeySet_1 : decode cJ7_sequencedKeySet 1 = .ok (.getfield 117, 3) := dk_180 0 117 (dk_at dksJ7_sequencedKeySet_0 1 rfl rfl)
theorem dJ7_sequencedKeySet_4 : decode cJ7_sequencedKeySet 4 = .ok (.astore_n 1, 1) := dk_76 (dk_at dksJ7_sequencedKeySet_0 4 rfl rfl)
theorem dJ7_sequencedKeySet_5 : decode cJ7_sequencedKeySet 5 = .ok (.aload_n 1, 1) := dk_43 (dk_at dksJ7_sequencedKeySet_0 5 rfl rfl)
theorem dJ7_sequencedKeySet_6 : decode cJ7_sequencedKeySet 6 = .ok (.ifnonnull 20, 3) := dk_199 0 20 (dk_at dksJ7_sequencedKeySet_0 6 rfl rfl)
theorem dJ7_sequencedKeySet_9 : decode cJ7_sequencedKeySet 9 = .ok (.new 121, 3) := dk_187 0 121 (dk_at dksJ7_sequencedKeySet_0 9 rfl rfl)
theorem dJ7_sequencedKeySet_12 : decode cJ7_sequencedKeySet 12 = .ok (.dup, 1) := dk_89 (dk_at dksJ7_sequencedKeySet_0 12 rfl rfl)
theorem dJ7_sequencedKeySet_13 : decode cJ7_sequencedKeySet 13 = .ok (.aload_n 0, 1) := dk_42 (dk_at dksJ7_sequencedKeySet_0 13 rfl rfl)
theorem dJ7_sequencedKeySet_14 : decode cJ7_sequencedKeySet 14 = .ok (.iconst 0, 1) := dk_3 (dk_at dksJ7_sequencedKeySet_0 14 rfl rfl)
theorem dJ7_sequencedKeySet_15 : decode cJ7_sequencedKeySet 15 = .ok (.invokespecial 123, 3) := dk_183 0 123 (dk_at dksJ7_sequencedKeySet_0 15 rfl rfl)
theorem dJ7_sequencedKeySet_18 : decode cJ7_sequencedKeySet 18 = .ok (.astore_n 2, 1) := dk_77 (dk_at dksJ7_sequencedKeySet_0 18 rfl rfl)
theorem dJ7_sequencedKeySet_19 : decode cJ7_sequencedKeySet 19 = .ok (.aload_n 0, 1) := dk_42 (dk_at dksJ7_sequencedKeySet_0 19 rfl rfl)
theorem dJ7_sequencedKeySet_20 : decode cJ7_sequencedKeySet 20 = .ok (.aload_n 2, 1) := dk_44 (dk_at dksJ7_sequencedKeySet_0 20 rfl rfl)
theorem dJ7_sequencedKeySet_21 : decode cJ7_sequencedKeySet 21 = .ok (.putfield 117, 3) := dk_181 0 117 (dk_at dksJ7_sequencedKeySet_0 21 rfl rfl)
theorem dJ7_sequencedKeySet_24 : decode cJ7_sequencedKeySet 24 = .ok (.aload_n 2, 1) := dk_44 (dk_at dksJ7_sequencedKeySet_1 0 rfl rfl)
theorem dJ7_sequencedKeySet_25 : decode cJ7_sequencedKeySet 25 = .ok (.areturn, 1) := dk_176 (dk_at dksJ7_sequencedKeySet_1 1 rfl rfl)
theorem dJ7_sequencedKeySet_26 : decode cJ7_sequencedKeySet 26 = .ok (.aload_n 1, 1) := dk_43 (dk_at dksJ7_sequencedKeySet_1 2 rfl rfl)
theorem dJ7_sequencedKeySet_27 : decode cJ7_sequencedKeySet 27 = .ok (.checkcast 126, 3) := dk_192 0 126 (dk_at dksJ7_sequencedKeySet_1 3 rfl rfl)
theorem dJ7_sequencedKeySet_30 : decode cJ7_sequencedKeySet 30 = .ok (.areturn, 1) := dk_176 (dk_at dksJ7_sequencedKeySet_1 6 rfl rfl)
theorem q67 : (Jvm.Cond.initialized "java/util/LinkedHashMap") ∈ lw_all := lw_g (lw_at lw_m1 15 rfl) rfl
theorem q457 : (Jvm.Cond.instantiable "java/util/LinkedHashMap" (12 : Nat)) ∈ lw_all := lw_g (lw_at lw_m2 165 rfl) rfl
theorem q459 : (Jvm.Cond.instanceMethod ({ cls := "java/util/LinkedHashMap", name := "<init>", desc := "()V" } : Jvm.MethodName)) ∈ lw_all := lw_g (lw_at lw_m2 167 rfl) rfl
theorem q460 : (Jvm.Cond.code ({ cls := "java/util/LinkedHashMap", name := "<init>", desc := "()V" } : Jvm.MethodName) prog_45_method_16_code (1 : Nat) (Option.none : Option Jvm.ClassFile.FieldType)) ∈ lw_all := lw_g (lw_at lw_m2 168 rfl) rfl
theorem q461 : (Jvm.Cond.methodLink "java/util/LinkedHashMap" (87 : Nat) ({ cls := "java/util/HashMap", name := "<init>", desc := "()V" } : Jvm.MethodName)) ∈ lw_all := lw_g (lw_at lw_m2 169 rfl) rfl
theorem q469 : (Jvm.Cond.fieldLink "java/util/LinkedHashMap" (7 : Nat) "java/util/LinkedHashMap" "head" "Ljava/util/LinkedHashMap$Entry;") ∈ lw_all := lw_g (lw_at lw_m2 177 rfl) rfl
theorem q472 : (Jvm.Cond.fieldLink "java/util/LinkedHashMap" (11 : Nat) "java/util/LinkedHashMap" "tail" "Ljava/util/LinkedHashMap$Entry;") ∈ lw_all := lw_g (lw_at lw_m2 180 rfl) rfl
theorem q473 : (Jvm.Cond.fieldLink "java/util/LinkedHashMap" (64 : Nat) "java/util/LinkedHashMap" "accessOrder" "Z") ∈ lw_all := lw_g (lw_at lw_m2 181 rfl) rfl
theorem q474 : (Jvm.Cond.fieldLink "java/util/LinkedHashMap" (1 : Nat) "java/util/LinkedHashMap" "putMode" "I") ∈ lw_all := lw_g (lw_at lw_m2 182 rfl) rfl
theorem q478 : (Jvm.Cond.sameField "java/util/LinkedHashMap" "java/util/HashMap" "modCount" "I") ∈ lw_all := lw_g (lw_at lw_m2 186 rfl) rfl
theorem q479 : (Jvm.Cond.fieldLink "java/util/LinkedHashMap" (68 : Nat) "java/util/LinkedHashMap" "modCount" "I") ∈ lw_all := lw_g (lw_at lw_m2 187 rfl) rfl
theorem q483 : (Jvm.Cond.fieldLink "java/util/LinkedHashMap" (117 : Nat) "java/util/LinkedHashMap" "keySet" "Ljava/util/Set;") ∈ lw_all := lw_g (lw_at lw_m2 191 rfl) rfl
theorem q484 : (Jvm.Cond.sameField "java/util/LinkedHashMap" "java/util/AbstractMap" "keySet" "Ljava/util/Set;") ∈ lw_all := lw_g (lw_at lw_m2 192 rfl) rfl
theorem q485 : (Jvm.Cond.lays "java/util/LinkedHashMap" "java/util/LinkedHashMap" "head" "Ljava/util/LinkedHashMap$Entry;") ∈ lw_all := lw_g (lw_at lw_m2 193 rfl) rfl
theorem q486 : (Jvm.Cond.soleField "java/util/LinkedHashMap" "head") ∈ lw_all := lw_g (lw_at lw_m2 194 rfl) rfl
theorem q487 : (Jvm.Cond.lays "java/util/LinkedHashMap" "java/util/LinkedHashMap" "tail" "Ljava/util/LinkedHashMap$Entry;") ∈ lw_all := lw_g (lw_at lw_m2 195 rfl) rfl
theorem q488 : (Jvm.Cond.soleField "java/util/LinkedHashMap" "tail") ∈ lw_all := lw_g (lw_at lw_m2 196 rfl) rfl
theorem q489 : (Jvm.Cond.laysFinal "java/util/LinkedHashMap" "java/util/LinkedHashMap" "accessOrder" "Z") ∈ lw_all := lw_g (lw_at lw_m2 197 rfl) rfl
theorem q490 : (Jvm.Cond.soleField "java/util/LinkedHashMap" "accessOrder") ∈ lw_all := lw_g (lw_at lw_m2 198 rfl) rfl
theorem q491 : (Jvm.Cond.lays "java/util/LinkedHashMap" "java/util/LinkedHashMap" "putMode" "I") ∈ lw_all := lw_g (lw_at lw_m2 199 rfl) rfl
theorem q492 : (Jvm.Cond.soleField "java/util/LinkedHashMap" "putMode") ∈ lw_all := lw_g (lw_at lw_m2 200 rfl) rfl
theorem q493 : (Jvm.Cond.lays "java/util/LinkedHashMap" "java/util/HashMap" "table" "[Ljava/util/HashMap$Node;") ∈ lw_all := lw_g (lw_at lw_m2 201 rfl) rfl
theorem q495 : (Jvm.Cond.lays "java/util/LinkedHashMap" "java/util/HashMap" "entrySet" "Ljava/util/Set;") ∈ lw_all := lw_g (lw_at lw_m2 203 rfl) rfl
theorem q497 : (Jvm.Cond.lays "java/util/LinkedHashMap" "java/util/HashMap" "size" "I") ∈ lw_all := lw_g (lw_at lw_m2 205 rfl) rfl
theorem q499 : (Jvm.Cond.lays "java/util/LinkedHashMap" "java/util/HashMap" "modCount" "I") ∈ lw_all := lw_g (lw_at lw_m2 207 rfl) rfl
theorem q501 : (Jvm.Cond.lays "java/util/LinkedHashMap" "java/util/HashMap" "threshold" "I") ∈ lw_all := lw_g (lw_at lw_m2 209 rfl) rfl
theorem q503 : (Jvm.Cond.laysFinal "java/util/LinkedHashMap" "java/util/HashMap" "loadFactor" "F") ∈ lw_all := lw_g (lw_at lw_m2 211 rfl) rfl
theorem q505 : (Jvm.Cond.lays "java/util/LinkedHashMap" "java/util/AbstractMap" "keySet" "Ljava/util/Set;") ∈ lw_all := lw_g (lw_at lw_m2 213 rfl) rfl
theorem q507 : (Jvm.Cond.lays "java/util/LinkedHashMap" "java/util/AbstractMap" "values" "Ljava/util/Collection;") ∈ lw_all := lw_g (lw_at lw_m2 215 rfl) rfl
theorem q509 : (Jvm.Cond.superclass "java/util/LinkedHashMap" "java/util/HashMap") ∈ lw_all := lw_g (lw_at lw_m2 217 rfl) rfl
theorem q531 : (Jvm.Cond.sameMethod "java/util/LinkedHashMap" "java/util/HashMap" "put" "(Ljava/lang/Object;Ljava/lang/Object;)Ljava/lang/Object;") ∈ lw_all := lw_g (lw_at lw_m2 239 rfl) rfl
theorem q533 : (Jvm.Cond.selects "java/util/LinkedHashMap" ({ cls := "java/util/LinkedHashMap", name := "put", desc := "(Ljava/lang/Object;Ljava/lang/Object;)Ljava/lang/Object;" } : Jvm.MethodName) ({ cls := "java/util/HashMap", name := "put", desc := "(Ljava/lang/Object;Ljava/lang/Object;)Ljava/lang/Object;" } : Jvm.MethodName)) ∈ lw_all := lw_g (lw_at lw_m3 1 rfl) rfl
theorem q632 : (Jvm.Cond.selects "java/util/LinkedHashMap" ({ cls := "java/util/HashMap", name := "putVal", desc := "(ILjava/lang/Object;Ljava/lang/Object;ZZ)Ljava/lang/Object;" } : Jvm.MethodName) ({ cls := "java/util/HashMap", name := "putVal", desc := "(ILjava/lang/Object;Ljava/lang/Object;ZZ)Ljava/lang/Object;" } : Jvm.MethodName)) ∈ lw_all := lw_g (lw_at lw_m3 100 rfl) rfl
theorem q637 : (Jvm.Cond.selects "java/util/LinkedHashMap" ({ cls := "java/util/HashMap", name := "resize", desc := "()[Ljava/util/HashMap$Node;" } : Jvm.MethodName) ({ cls := "java/util/HashMap", name := "resize", desc := "()[Ljava/util/HashMap$Node;" } : Jvm.MethodName)) ∈ lw_all := lw_g (lw_at lw_m3 105 rfl) rfl
theorem q657 : (Jvm.Cond.selects "java/util/LinkedHashMap" ({ cls := "java/util/HashMap", name := "replacementNode", desc := "(Ljava/util/HashMap$Node;Ljava/util/HashMap$Node;)Ljava/util/HashMap$Node;" } : Jvm.MethodName) ({ cls := "java/util/LinkedHashMap", name := "replacementNode", desc := "(Ljava/util/HashMap$Node;Ljava/util/HashMap$Node;)Ljava/util/HashMap$Node;" } : Jvm.MethodName)) ∈ lw_all := lw_g (lw_at lw_m3 125 rfl) rfl
theorem q658 : (Jvm.Cond.instanceMethod ({ cls := "java/util/LinkedHashMap", name := "replacementNode", desc := "(Ljava/util/HashMap$Node;Ljava/util/HashMap$Node;)Ljava/util/HashMap$Node;" } : Jvm.MethodName)) ∈ lw_all := lw_g (lw_at lw_m3 126 rfl) rfl
theorem q659 : (Jvm.Cond.code ({ cls := "java/util/LinkedHashMap", name := "replacementNode", desc := "(Ljava/util/HashMap$Node;Ljava/util/HashMap$Node;)Ljava/util/HashMap$Node;" } : Jvm.MethodName) prog_45_method_5_code (5 : Nat) (Option.some (Jvm.ClassFile.FieldType.object "java/util/HashMap$Node"))) ∈ lw_all := lw_g (lw_at lw_m3 127 rfl) rfl
theorem q660 : (Jvm.Cond.classLink "java/util/LinkedHashMap" (15 : Nat) "java/util/LinkedHashMap$Entry") ∈ lw_all := lw_g (lw_at lw_m3 128 rfl) rfl
theorem q662 : (Jvm.Cond.methodLink "java/util/LinkedHashMap" (28 : Nat) ({ cls := "java/util/LinkedHashMap$Entry", name := "<init>", desc := "(ILjava/lang/Object;Ljava/lang/Object;Ljava/util/HashMap$Node;)V" } : Jvm.MethodName)) ∈ lw_all := lw_g (lw_at lw_m3 130 rfl) rfl
theorem q669 : (Jvm.Cond.fieldLink "java/util/LinkedHashMap" (19 : Nat) "java/util/LinkedHashMap$Entry" "before" "Ljava/util/LinkedHashMap$Entry;") ∈ lw_all := lw_g (lw_at lw_m3 137 rfl) rfl
theorem q671 : (Jvm.Cond.fieldLink "java/util/LinkedHashMap" (14 : Nat) "java/util/LinkedHashMap$Entry" "after" "Ljava/util/LinkedHashMap$Entry;") ∈ lw_all := lw_g (lw_at lw_m3 139 rfl) rfl
theorem q676 : (Jvm.Cond.fieldLink "java/util/LinkedHashMap" (36 : Nat) "java/util/LinkedHashMap$Entry" "hash" "I") ∈ lw_all := lw_g (lw_at lw_m3 144 rfl) rfl
theorem q682 : (Jvm.Cond.fieldLink "java/util/LinkedHashMap" (39 : Nat) "java/util/LinkedHashMap$Entry" "key" "Ljava/lang/Object;") ∈ lw_all := lw_g (lw_at lw_m3 150 rfl) rfl
theorem q686 : (Jvm.Cond.fieldLink "java/util/LinkedHashMap" (43 : Nat) "java/util/LinkedHashMap$Entry" "value" "Ljava/lang/Object;") ∈ lw_all := lw_g (lw_at lw_m3 154 rfl) rfl
theorem q708 : (Jvm.Cond.methodLink "java/util/LinkedHashMap" (46 : Nat) ({ cls := "java/util/LinkedHashMap", name := "transferLinks", desc := "(Ljava/util/LinkedHashMap$Entry;Ljava/util/LinkedHashMap$Entry;)V" } : Jvm.MethodName)) ∈ lw_all := lw_g (lw_at lw_m3 176 rfl) rfl
theorem q709 : (Jvm.Cond.privateMethod ({ cls := "java/util/LinkedHashMap", name := "transferLinks", desc := "(Ljava/util/LinkedHashMap$Entry;Ljava/util/LinkedHashMap$Entry;)V" } : Jvm.MethodName)) ∈ lw_tbl := lw_at lw_m3 177 rfl
theorem q710 : (Jvm.Cond.instanceMethod ({ cls := "java/util/LinkedHashMap", name := "transferLinks", desc := "(Ljava/util/LinkedHashMap$Entry;Ljava/util/LinkedHashMap$Entry;)V" } : Jvm.MethodName)) ∈ lw_all := lw_g (lw_at lw_m3 178 rfl) rfl
theorem q711 : (Jvm.Cond.code ({ cls := "java/util/LinkedHashMap", name := "transferLinks", desc := "(Ljava/util/LinkedHashMap$Entry;Ljava/util/LinkedHashMap$Entry;)V" } : Jvm.MethodName) prog_45_method_2_code (5 : Nat) (Option.none : Option Jvm.ClassFile.FieldType)) ∈ lw_all := lw_g (lw_at lw_m3 179 rfl) rfl
theorem q739 : (Jvm.Cond.selects "java/util/LinkedHashMap" ({ cls := "java/lang/Object", name := "getClass", desc := "()Ljava/lang/Class;" } : Jvm.MethodName) ({ cls := "java/lang/Object", name := "getClass", desc := "()Ljava/lang/Class;" } : Jvm.MethodName)) ∈ lw_all := lw_g (lw_at lw_m3 207 rfl) rfl
theorem q936 : (Jvm.Cond.selects "java/util/LinkedHashMap" ({ cls := "java/util/HashMap", name := "newNode", desc := "(ILjava/lang/Object;Ljava/lang/Object;Ljava/util/HashMap$Node;)Ljava/util/HashMap$Node;" } : Jvm.MethodName) ({ cls := "java/util/LinkedHashMap", name := "newNode", desc := "(ILjava/lang/Object;Ljava/lang/Object;Ljava/util/HashMap$Node;)Ljava/util/HashMap$Node;" } : Jvm.MethodName)) ∈ lw_all := lw_g (lw_at lw_m4 164 rfl) rfl
theorem q937 : (Jvm.Cond.instanceMethod ({ cls := "java/util/LinkedHashMap", name := "newNode", desc := "(ILjava/lang/Object;Ljava/lang/Object;Ljava/util/HashMap$Node;)Ljava/util/HashMap$Node;" } : Jvm.MethodName)) ∈ lw_all := lw_g (lw_at lw_m4 165 rfl) rfl
theorem q938 : (Jvm.Cond.code ({ cls := "java/util/LinkedHashMap", name := "newNode", desc := "(ILjava/lang/Object;Ljava/lang/Object;Ljava/util/HashMap$Node;)Ljava/util/HashMap$Node;" } : Jvm.MethodName) prog_45_method_4_code (6 : Nat) (Option.some (Jvm.ClassFile.FieldType.object "java/util/HashMap$Node"))) ∈ lw_all := lw_g (lw_at lw_m4 166 rfl) rfl
theorem q939 : (Jvm.Cond.methodLink "java/util/LinkedHashMap" (32 : Nat) ({ cls := "java/util/LinkedHashMap", name := "linkNodeAtEnd", desc := "(Ljava/util/LinkedHashMap$Entry;)V" } : Jvm.MethodName)) ∈ lw_all := lw_g (lw_at lw_m4 167 rfl) rfl
theorem q940 : (Jvm.Cond.privateMethod ({ cls := "java/util/LinkedHashMap", name := "linkNodeAtEnd", desc := "(Ljava/util/LinkedHashMap$Entry;)V" } : Jvm.MethodName)) ∈ lw_tbl := lw_at lw_m4 168 rfl
theorem q941 : (Jvm.Cond.instanceMethod ({ cls := "java/util/LinkedHashMap", name := "linkNodeAtEnd", desc := "(Ljava/util/LinkedHashMap$Entry;)V" } : Jvm.MethodName)) ∈ lw_all := lw_g (lw_at lw_m4 169 rfl) rfl
theorem q942 : (Jvm.Cond.code ({ cls := "java/util/LinkedHashMap", name := "linkNodeAtEnd", desc := "(Ljava/util/LinkedHashMap$Entry;)V" } : Jvm.MethodName) prog_45_method_1_code (3 : Nat) (Option.none : Option Jvm.ClassFile.FieldType)) ∈ lw_all := lw_g (lw_at lw_m4 170 rfl) rfl
theorem q991 : (Jvm.Cond.selects "java/util/LinkedHashMap" ({ cls := "java/util/HashMap", name := "newTreeNode", desc := "(ILjava/lang/Object;Ljava/lang/Object;Ljava/util/HashMap$Node;)Ljava/util/HashMap$TreeNode;" } : Jvm.MethodName) ({ cls := "java/util/LinkedHashMap", name := "newTreeNode", desc := "(ILjava/lang/Object;Ljava/lang/Object;Ljava/util/HashMap$Node;)Ljava/util/HashMap$TreeNode;" } : Jvm.MethodName)) ∈ lw_all := lw_g (lw_at lw_m4 219 rfl) rfl
theorem q992 : (Jvm.Cond.instanceMethod ({ cls := "java/util/LinkedHashMap", name := "newTreeNode", desc := "(ILjava/lang/Object;Ljava/lang/Object;Ljava/util/HashMap$Node;)Ljava/util/HashMap$TreeNode;" } : Jvm.MethodName)) ∈ lw_all := lw_g (lw_at lw_m4 220 rfl) rfl
theorem q993 : (Jvm.Cond.code ({ cls := "java/util/LinkedHashMap", name := "newTreeNode", desc := "(ILjava/lang/Object;Ljava/lang/Object;Ljava/util/HashMap$Node;)Ljava/util/HashMap$TreeNode;" } : Jvm.MethodName) prog_45_method_6_code (6 : Nat) (Option.some (Jvm.ClassFile.FieldType.object "java/util/HashMap$TreeNode"))) ∈ lw_all := lw_g (lw_at lw_m4 221 rfl) rfl
theorem q994 : (Jvm.Cond.classLink "java/util/LinkedHashMap" (50 : Nat) "java/util/HashMap$TreeNode") ∈ lw_all := lw_g (lw_at lw_m4 222 rfl) rfl
theorem q996 : (Jvm.Cond.methodLink "java/util/LinkedHashMap" (52 : Nat) ({ cls := "java/util/HashMap$TreeNode", name := "<init>", desc := "(ILjava/lang/Object;Ljava/lang/Object;Ljava/util/HashMap$Node;)V" } : Jvm.MethodName)) ∈ lw_all := lw_g (lw_at lw_m4 224 rfl) rfl
theorem q1027 : (Jvm.Cond.selects "java/util/LinkedHashMap" ({ cls := "java/util/HashMap", name := "treeifyBin", desc := "([Ljava/util/HashMap$Node;I)V" } : Jvm.MethodName) ({ cls := "java/util/HashMap", name := "treeifyBin", desc := "([Ljava/util/HashMap$Node;I)V" } : Jvm.MethodName)) ∈ lw_all := lw_g (lw_at lw_m5 15 rfl) rfl
theorem q1032 : (Jvm.Cond.selects "java/util/LinkedHashMap" ({ cls := "java/util/HashMap", name := "replacementTreeNode", desc := "(Ljava/util/HashMap$Node;Ljava/util/HashMap$Node;)Ljava/util/HashMap$TreeNode;" } : Jvm.MethodName) ({ cls := "java/util/LinkedHashMap", name := "replacementTreeNode", desc := "(Ljava/util/HashMap$Node;Ljava/util/HashMap$Node;)Ljava/util/HashMap$TreeNode;" } : Jvm.MethodName)) ∈ lw_all := lw_g (lw_at lw_m5 20 rfl) rfl
theorem q1033 : (Jvm.Cond.instanceMethod ({ cls := "java/util/LinkedHashMap", name := "replacementTreeNode", desc := "(Ljava/util/HashMap$Node;Ljava/util/HashMap$Node;)Ljava/util/HashMap$TreeNode;" } : Jvm.MethodName)) ∈ lw_all := lw_g (lw_at lw_m5 21 rfl) rfl
theorem q1034 : (Jvm.Cond.code ({ cls := "java/util/LinkedHashMap", name := "replacementTreeNode", desc := "(Ljava/util/HashMap$Node;Ljava/util/HashMap$Node;)Ljava/util/HashMap$TreeNode;" } : Jvm.MethodName) prog_45_method_7_code (5 : Nat) (Option.some (Jvm.ClassFile.FieldType.object "java/util/HashMap$TreeNode"))) ∈ lw_all := lw_g (lw_at lw_m5 22 rfl) rfl
theorem q1040 : (Jvm.Cond.selects "java/util/LinkedHashMap" ({ cls := "java/util/HashMap", name := "afterNodeAccess", desc := "(Ljava/util/HashMap$Node;)V" } : Jvm.MethodName) ({ cls := "java/util/LinkedHashMap", name := "afterNodeAccess", desc := "(Ljava/util/HashMap$Node;)V" } : Jvm.MethodName)) ∈ lw_all := lw_g (lw_at lw_m5 28 rfl) rfl
theorem q1041 : (Jvm.Cond.instanceMethod ({ cls := "java/util/LinkedHashMap", name := "afterNodeAccess", desc := "(Ljava/util/HashMap$Node;)V" } : Jvm.MethodName)) ∈ lw_all := lw_g (lw_at lw_m5 29 rfl) rfl
theorem q1042 : (Jvm.Cond.code ({ cls := "java/util/LinkedHashMap", name := "afterNodeAccess", desc := "(Ljava/util/HashMap$Node;)V" } : Jvm.MethodName) prog_45_method_10_code (7 : Nat) (Option.none : Option Jvm.ClassFile.FieldType)) ∈ lw_all := lw_g (lw_at lw_m5 30 rfl) rfl
theorem q1047 : (Jvm.Cond.selects "java/util/LinkedHashMap" ({ cls := "java/util/HashMap", name := "afterNodeInsertion", desc := "(Z)V" } : Jvm.MethodName) ({ cls := "java/util/LinkedHashMap", name := "afterNodeInsertion", desc := "(Z)V" } : Jvm.MethodName)) ∈ lw_all := lw_g (lw_at lw_m5 35 rfl) rfl
theorem q1048 : (Jvm.Cond.instanceMethod ({ cls := "java/util/LinkedHashMap", name := "afterNodeInsertion", desc := "(Z)V" } : Jvm.MethodName)) ∈ lw_all := lw_g (lw_at lw_m5 36 rfl) rfl
theorem q1049 : (Jvm.Cond.code ({ cls := "java/util/LinkedHashMap", name := "afterNodeInsertion", desc := "(Z)V" } : Jvm.MethodName) prog_45_method_9_code (4 : Nat) (Option.none : Option Jvm.ClassFile.FieldType)) ∈ lw_all := lw_g (lw_at lw_m5 37 rfl) rfl
theorem q1050 : (Jvm.Cond.methodLink "java/util/LinkedHashMap" (53 : Nat) ({ cls := "java/util/LinkedHashMap", name := "removeEldestEntry", desc := "(Ljava/util/Map$Entry;)Z" } : Jvm.MethodName)) ∈ lw_all := lw_g (lw_at lw_m5 38 rfl) rfl
theorem q1051 : (Jvm.Cond.instanceMethod ({ cls := "java/util/LinkedHashMap", name := "removeEldestEntry", desc := "(Ljava/util/Map$Entry;)Z" } : Jvm.MethodName)) ∈ lw_all := lw_g (lw_at lw_m5 39 rfl) rfl
theorem q1052 : (Jvm.Cond.selects "java/util/LinkedHashMap" ({ cls := "java/util/LinkedHashMap", name := "removeEldestEntry", desc := "(Ljava/util/Map$Entry;)Z" } : Jvm.MethodName) ({ cls := "java/util/LinkedHashMap", name := "removeEldestEntry", desc := "(Ljava/util/Map$Entry;)Z" } : Jvm.MethodName)) ∈ lw_all := lw_g (lw_at lw_m5 40 rfl) rfl
theorem q1053 : (Jvm.Cond.code ({ cls := "java/util/LinkedHashMap", name := "removeEldestEntry", desc := "(Ljava/util/Map$Entry;)Z" } : Jvm.MethodName) prog_45_method_23_code (2 : Nat) (Option.some Jvm.ClassFile.FieldType.boolean)) ∈ lw_all := lw_g (lw_at lw_m5 41 rfl) rfl
theorem q1056 : (Jvm.Cond.instanceMethod ({ cls := "java/util/LinkedHashMap", name := "keySet", desc := "()Ljava/util/Set;" } : Jvm.MethodName)) ∈ lw_all := lw_g (lw_at lw_m5 44 rfl) rfl
theorem q1057 : (Jvm.Cond.selects "java/util/LinkedHashMap" ({ cls := "java/util/LinkedHashMap", name := "keySet", desc := "()Ljava/util/Set;" } : Jvm.MethodName) ({ cls := "java/util/LinkedHashMap", name := "keySet", desc := "()Ljava/util/Set;" } : Jvm.MethodName)) ∈ lw_all := lw_g (lw_at lw_m5 45 rfl) rfl
theorem q1058 : (Jvm.Cond.code ({ cls := "java/util/LinkedHashMap", name := "keySet", desc := "()Ljava/util/Set;" } : Jvm.MethodName) prog_45_method_24_code (1 : Nat) (Option.some (Jvm.ClassFile.FieldType.object "java/util/Set"))) ∈ lw_all := lw_g (lw_at lw_m5 46 rfl) rfl
theorem q1059 : (Jvm.Cond.methodLink "java/util/LinkedHashMap" (113 : Nat) ({ cls := "java/util/LinkedHashMap", name := "sequencedKeySet", desc := "()Ljava/util/SequencedSet;" } : Jvm.MethodName)) ∈ lw_all := lw_g (lw_at lw_m5 47 rfl) rfl
theorem q1060 : (Jvm.Cond.instanceMethod ({ cls := "java/util/LinkedHashMap", name := "sequencedKeySet", desc := "()Ljava/util/SequencedSet;" } : Jvm.MethodName)) ∈ lw_all := lw_g (lw_at lw_m5 48 rfl) rfl
theorem q1061 : (Jvm.Cond.selects "java/util/LinkedHashMap" ({ cls := "java/util/LinkedHashMap", name := "sequencedKeySet", desc := "()Ljava/util/SequencedSet;" } : Jvm.MethodName) ({ cls := "java/util/LinkedHashMap", name := "sequencedKeySet", desc := "()Ljava/util/SequencedSet;" } : Jvm.MethodName)) ∈ lw_all := lw_g (lw_at lw_m5 49 rfl) rfl
theorem q1062 : (Jvm.Cond.code ({ cls := "java/util/LinkedHashMap", name := "sequencedKeySet", desc := "()Ljava/util/SequencedSet;" } : Jvm.MethodName) prog_45_method_25_code (3 : Nat) (Option.some (Jvm.ClassFile.FieldType.object "java/util/SequencedSet"))) ∈ lw_all := lw_g (lw_at lw_m5 50 rfl) rfl
theorem q1063 : (Jvm.Cond.classLink "java/util/LinkedHashMap" (121 : Nat) "java/util/LinkedHashMap$LinkedKeySet") ∈ lw_all := lw_g (lw_at lw_m5 51 rfl) rfl
theorem q1065 : (Jvm.Cond.methodLink "java/util/LinkedHashMap" (123 : Nat) ({ cls := "java/util/LinkedHashMap$LinkedKeySet", name := "<init>", desc := "(Ljava/util/LinkedHashMap;Z)V" } : Jvm.MethodName)) ∈ lw_all := lw_g (lw_at lw_m5 53 rfl) rfl
theorem q1082 : (Jvm.Cond.classLink "java/util/LinkedHashMap" (126 : Nat) "java/util/SequencedSet") ∈ lw_all := lw_g (lw_at lw_m5 70 rfl) rfl
theorem q1873 : (Jvm.Cond.castable "java/util/LinkedHashMap" "java/lang/Object") ∈ lw_tbl := lw_at lw_m8 141 rfl
theorem in_J7 : ∀ w ∈ wsJ70, w ∈ lw_all := lw_in wsJ70 [493, 495, 497, 499, 501, 503, 505, 507, 485, 487, 489, 491] (by decide +kernel) (by decide +kernel)

/-! java/util/HashMap$Node -/
set_option maxRecDepth 100000
def RJ12 : String := "java/util/HashMap$Node"
abbrev cJ12_init : ByteArray := prog_42_method_1_code
def yJ12_init : MethodName := ⟨RJ12, "<init>", "(ILjava/lang/Object;Ljava/lang/Object;Ljava/util/HashMap$Node;)V"⟩
def dkwJ12_init_1 : List UInt8 := [181, 0, 20, 177]
abbrev dktJ12_init_1 : List UInt8 := dkwJ12_init_1 ++ []
def dkwJ12_init_0 : List UInt8 := [42, 183, 0, 1, 42, 27, 181, 0, 7, 42, 44, 181, 0, 13, 42, 45, 181, 0, 17, 42, 25, 4]
abbrev dktJ12_init_0 : List UInt8 := dkwJ12_init_0 ++ dktJ12_init_1
theorem dksJ12_init_0 : cJ12_init.data.toList.drop 0 = dktJ12_init_0 := by decide +kernel
theorem dksJ12_init_1 : cJ12_init.data.toList.drop 22 = dktJ12_init_1 := dk_seg dksJ12_init_0 22 rfl rfl
theorem dJ12_init_0 : decode cJ12_init 0 = .ok (.aload_n 0, 1) := dk_42 (dk_at dksJ12_init_0 0 rfl rfl)
theorem dJ12_init_1 : decode cJ12_init 1 = .ok (.invokespecial 1, 3) := dk_183 0 1 (dk_at dksJ12_init_0 1 rfl rfl)
theorem dJ12_init_4 : decode cJ12_init 4 = .ok (.aload_n 0, 1) := dk_42 (dk_at dksJ12_init_0 4 rfl rfl)
theorem dJ12_init_5 : decode cJ12_init 5 = .ok (.iload_n 1, 1) := dk_27 (dk_at dksJ12_init_0 5 rfl rfl)
theorem dJ12_init_6 : decode cJ12_init 6 = .ok (.putfield 7, 3) := dk_181 0 7 (dk_at dksJ12_init_0 6 rfl rfl)
theorem dJ12_init_9 : decode cJ12_init 9 = .ok (.aload_n 0, 1) := dk_42 (dk_at dksJ12_init_0 9 rfl rfl)
theorem dJ12_init_10 : decode cJ12_init 10 = .ok (.aload_n 2, 1) := dk_44 (dk_at dksJ12_init_0 10 rfl rfl)
theorem dJ12_init_11 : decode cJ12_init 11 = .ok (.putfield 13, 3) := dk_181 0 13 (dk_at dksJ12_init_0 11 rfl rfl)
theorem dJ12_init_14 : decode cJ12_init 14 = .ok (.aload_n 0, 1) := dk_42 (dk_at dksJ12_init_0 14 rfl rfl)
theorem dJ12_init_15 : decode cJ12_init 15 = .ok (.aload_n 3, 1) := dk_45 (dk_at dksJ12_init_0 15 rfl rfl)
theorem dJ12_init_16 : decode cJ12_init 16 = .ok (.putfield 17, 3) := dk_181 0 17 (dk_at dksJ12_init_0 16 rfl rfl)
theorem dJ12_init_19 : decode cJ12_init 19 = .ok (.aload_n 0, 1) := dk_42 (dk_at dksJ12_init_0 19 rfl rfl)
theorem dJ12_init_20 : decode cJ12_init 20 = .ok (.aload 4, 2) := dk_25 4 (dk_at dksJ12_init_0 20 rfl rfl)
theorem dJ12_init_22 : decode cJ12_init 22 = .ok (.putfield 20, 3) := dk_181 0 20 (dk_at dksJ12_init_1 0 rfl rfl)
theorem dJ12_init_25 : decode cJ12_init 25 = .ok (.return_, 1) := dk_177 (dk_at dksJ12_init_1 3 rfl rfl)
abbrev cJ12_getKey : ByteArray := prog_42_method_2_code
def yJ12_getKey : MethodName := ⟨RJ12, "getKey", "()Ljava/lang/Object;"⟩
theorem dJ12_getKey_0 : decode cJ12_getKey 0 = .ok (.aload_n 0, 1) := by decide +kernel
theorem dJ12_getKey_1 : decode cJ12_getKey 1 = .ok (.getfield 13, 3) := by decide +kernel
theorem dJ12_getKey_4 : decode cJ12_getKey 4 = .ok (.areturn, 1) := by decide +kernel
theorem q73 : (Jvm.Cond.initialized "java/util/HashMap$Node") ∈ lw_all := lw_g (lw_at lw_m1 21 rfl) rfl
theorem q666 : (Jvm.Cond.instanceMethod ({ cls := "java/util/HashMap$Node", name := "<init>", desc := "(ILjava/lang/Object;Ljava/lang/Object;Ljava/util/HashMap$Node;)V" } : Jvm.MethodName)) ∈ lw_all := lw_g (lw_at lw_m3 134 rfl) rfl
theorem q667 : (Jvm.Cond.code ({ cls := "java/util/HashMap$Node", name := "<init>", desc := "(ILjava/lang/Object;Ljava/lang/Object;Ljava/util/HashMap$Node;)V" } : Jvm.MethodName) prog_42_method_1_code (5 : Nat) (Option.none : Option Jvm.ClassFile.FieldType)) ∈ lw_all := lw_g (lw_at lw_m3 135 rfl) rfl
theorem q668 : (Jvm.Cond.methodLink "java/util/HashMap$Node" (1 : Nat) ({ cls := "java/lang/Object", name := "<init>", desc := "()V" } : Jvm.MethodName)) ∈ lw_all := lw_g (lw_at lw_m3 136 rfl) rfl
theorem q673 : (Jvm.Cond.fieldLink "java/util/HashMap$Node" (7 : Nat) "java/util/HashMap$Node" "hash" "I") ∈ lw_all := lw_g (lw_at lw_m3 141 rfl) rfl
theorem q679 : (Jvm.Cond.fieldLink "java/util/HashMap$Node" (13 : Nat) "java/util/HashMap$Node" "key" "Ljava/lang/Object;") ∈ lw_all := lw_g (lw_at lw_m3 147 rfl) rfl
theorem q685 : (Jvm.Cond.fieldLink "java/util/HashMap$Node" (17 : Nat) "java/util/HashMap$Node" "value" "Ljava/lang/Object;") ∈ lw_all := lw_g (lw_at lw_m3 153 rfl) rfl
theorem q689 : (Jvm.Cond.fieldLink "java/util/HashMap$Node" (20 : Nat) "java/util/HashMap$Node" "next" "Ljava/util/HashMap$Node;") ∈ lw_all := lw_g (lw_at lw_m3 157 rfl) rfl
theorem q700 : (Jvm.Cond.soleField "java/util/HashMap$Node" "hash") ∈ lw_all := lw_g (lw_at lw_m3 168 rfl) rfl
theorem q702 : (Jvm.Cond.soleField "java/util/HashMap$Node" "key") ∈ lw_all := lw_g (lw_at lw_m3 170 rfl) rfl
theorem q704 : (Jvm.Cond.soleField "java/util/HashMap$Node" "value") ∈ lw_all := lw_g (lw_at lw_m3 172 rfl) rfl
theorem q706 : (Jvm.Cond.soleField "java/util/HashMap$Node" "next") ∈ lw_all := lw_g (lw_at lw_m3 174 rfl) rfl
theorem q737 : (Jvm.Cond.selects "java/util/HashMap$Node" ({ cls := "java/lang/Object", name := "getClass", desc := "()Ljava/lang/Class;" } : Jvm.MethodName) ({ cls := "java/lang/Object", name := "getClass", desc := "()Ljava/lang/Class;" } : Jvm.MethodName)) ∈ lw_all := lw_g (lw_at lw_m3 205 rfl) rfl
theorem q1198 : (Jvm.Cond.declares ({ cls := "java/util/HashMap$Node", name := "getKey", desc := "()Ljava/lang/Object;" } : Jvm.MethodName)) ∈ lw_tbl := lw_at lw_m5 186 rfl
theorem q1201 : (Jvm.Cond.instanceMethod ({ cls := "java/util/HashMap$Node", name := "getKey", desc := "()Ljava/lang/Object;" } : Jvm.MethodName)) ∈ lw_all := lw_g (lw_at lw_m5 189 rfl) rfl
theorem q1202 : (Jvm.Cond.code ({ cls := "java/util/HashMap$Node", name := "getKey", desc := "()Ljava/lang/Object;" } : Jvm.MethodName) prog_42_method_2_code (1 : Nat) (Option.some (Jvm.ClassFile.FieldType.object "java/lang/Object"))) ∈ lw_all := lw_g (lw_at lw_m5 190 rfl) rfl
theorem q1876 : (Jvm.Cond.castable "java/util/HashMap$Node" "java/lang/Object") ∈ lw_tbl := lw_at lw_m8 144 rfl

/-! java/util/LinkedHashMap$Entry -/
set_option maxRecDepth 100000
def RJ13 : String := "java/util/LinkedHashMap$Entry"
def TJ13 : u_T := fun k => match k with
  | 0 => ("java/util/HashMap$Node", "hash", "I", true)
  | 1 => ("java/util/HashMap$Node", "key", "Ljava/lang/Object;", true)
  | 2 => ("java/util/HashMap$Node", "value", "Ljava/lang/Object;", false)
  | 3 => ("java/util/HashMap$Node", "next", "Ljava/util/HashMap$Node;", false)
  | 4 => ("java/util/LinkedHashMap$Entry", "before", "Ljava/util/LinkedHashMap$Entry;", false)
  | _ => ("java/util/LinkedHashMap$Entry", "after", "Ljava/util/LinkedHashMap$Entry;", false)
def tyJ13 : Nat → FieldType := fun k => match k with
  | 0 => .int
  | 1 => .object "java/lang/Object"
  | 2 => .object "java/lang/Object"
  | 3 => .object "java/util/HashMap$Node"
  | 4 => .object "java/util/LinkedHashMap$Entry"
  | _ => .object "java/util/LinkedHashMap$Entry"
abbrev wsJ130 : List Cond := u_ws RJ13 TJ13 6
theorem nmJ13 : ∀ a, a < 6 → ∀ b, b < 6 → a ≠ b → (TJ13 a).2.1 ≠ (TJ13 b).2.1 := by decide +kernel
theorem tyJ13_ok : ∀ k, k < 6 → parseFieldDescriptor (TJ13 k).2.2.1 = some (tyJ13 k) := by decide +kernel
abbrev cJ13_init : ByteArray := prog_46_method_1_code
def yJ13_init : MethodName := ⟨RJ13, "<init>", "(ILjava/lang/Object;Ljava/lang/Object;Ljava/util/HashMap$Node;)V"⟩
def dkwJ13_init_0 : List UInt8 := [42, 27, 44, 45, 25, 4, 183, 0, 1, 177]
abbrev dktJ13_init_0 : List UInt8 := dkwJ13_init_0 ++ []
theorem dksJ13_init_0 : cJ13_init.data.toList.drop 0 = dktJ13_init_0 := by decide +kernel
theorem dJ13_init_0 : decode cJ13_init 0 = .ok (.aload_n 0, 1) := dk_42 (dk_at dksJ13_init_0 0 rfl rfl)
theorem dJ13_init_1 : decode cJ13_init 1 = .ok (.iload_n 1, 1) := dk_27 (dk_at dksJ13_init_0 1 rfl rfl)
theorem dJ13_init_2 : decode cJ13_init 2 = .ok (.aload_n 2, 1) := dk_44 (dk_at dksJ13_init_0 2 rfl rfl)
theorem dJ13_init_3 : decode cJ13_init 3 = .ok (.aload_n 3, 1) := dk_45 (dk_at dksJ13_init_0 3 rfl rfl)
theorem dJ13_init_4 : decode cJ13_init 4 = .ok (.aload 4, 2) := dk_25 4 (dk_at dksJ13_init_0 4 rfl rfl)
theorem dJ13_init_6 : decode cJ13_init 6 = .ok (.invokespecial 1, 3) := dk_183 0 1 (dk_at dksJ13_init_0 6 rfl rfl)
theorem dJ13_init_9 : decode cJ13_init 9 = .ok (.return_, 1) := dk_177 (dk_at dksJ13_init_0 9 rfl rfl)
theorem q74 : (Jvm.Cond.initialized "java/util/LinkedHashMap$Entry") ∈ lw_all := lw_g (lw_at lw_m1 22 rfl) rfl
theorem q661 : (Jvm.Cond.instantiable "java/util/LinkedHashMap$Entry" (6 : Nat)) ∈ lw_all := lw_g (lw_at lw_m3 129 rfl) rfl
theorem q663 : (Jvm.Cond.instanceMethod ({ cls := "java/util/LinkedHashMap$Entry", name := "<init>", desc := "(ILjava/lang/Object;Ljava/lang/Object;Ljava/util/HashMap$Node;)V" } : Jvm.MethodName)) ∈ lw_all := lw_g (lw_at lw_m3 131 rfl) rfl
theorem q664 : (Jvm.Cond.code ({ cls := "java/util/LinkedHashMap$Entry", name := "<init>", desc := "(ILjava/lang/Object;Ljava/lang/Object;Ljava/util/HashMap$Node;)V" } : Jvm.MethodName) prog_46_method_1_code (5 : Nat) (Option.none : Option Jvm.ClassFile.FieldType)) ∈ lw_all := lw_g (lw_at lw_m3 132 rfl) rfl
theorem q665 : (Jvm.Cond.methodLink "java/util/LinkedHashMap$Entry" (1 : Nat) ({ cls := "java/util/HashMap$Node", name := "<init>", desc := "(ILjava/lang/Object;Ljava/lang/Object;Ljava/util/HashMap$Node;)V" } : Jvm.MethodName)) ∈ lw_all := lw_g (lw_at lw_m3 133 rfl) rfl
theorem q677 : (Jvm.Cond.sameField "java/util/LinkedHashMap$Entry" "java/util/HashMap$Node" "hash" "I") ∈ lw_all := lw_g (lw_at lw_m3 145 rfl) rfl
theorem q683 : (Jvm.Cond.sameField "java/util/LinkedHashMap$Entry" "java/util/HashMap$Node" "key" "Ljava/lang/Object;") ∈ lw_all := lw_g (lw_at lw_m3 151 rfl) rfl
theorem q687 : (Jvm.Cond.sameField "java/util/LinkedHashMap$Entry" "java/util/HashMap$Node" "value" "Ljava/lang/Object;") ∈ lw_all := lw_g (lw_at lw_m3 155 rfl) rfl
theorem q695 : (Jvm.Cond.lays "java/util/LinkedHashMap$Entry" "java/util/LinkedHashMap$Entry" "before" "Ljava/util/LinkedHashMap$Entry;") ∈ lw_all := lw_g (lw_at lw_m3 163 rfl) rfl
theorem q696 : (Jvm.Cond.soleField "java/util/LinkedHashMap$Entry" "before") ∈ lw_all := lw_g (lw_at lw_m3 164 rfl) rfl
theorem q697 : (Jvm.Cond.lays "java/util/LinkedHashMap$Entry" "java/util/LinkedHashMap$Entry" "after" "Ljava/util/LinkedHashMap$Entry;") ∈ lw_all := lw_g (lw_at lw_m3 165 rfl) rfl
theorem q698 : (Jvm.Cond.soleField "java/util/LinkedHashMap$Entry" "after") ∈ lw_all := lw_g (lw_at lw_m3 166 rfl) rfl
theorem q699 : (Jvm.Cond.laysFinal "java/util/LinkedHashMap$Entry" "java/util/HashMap$Node" "hash" "I") ∈ lw_all := lw_g (lw_at lw_m3 167 rfl) rfl
theorem q701 : (Jvm.Cond.laysFinal "java/util/LinkedHashMap$Entry" "java/util/HashMap$Node" "key" "Ljava/lang/Object;") ∈ lw_all := lw_g (lw_at lw_m3 169 rfl) rfl
theorem q703 : (Jvm.Cond.lays "java/util/LinkedHashMap$Entry" "java/util/HashMap$Node" "value" "Ljava/lang/Object;") ∈ lw_all := lw_g (lw_at lw_m3 171 rfl) rfl
theorem q705 : (Jvm.Cond.lays "java/util/LinkedHashMap$Entry" "java/util/HashMap$Node" "next" "Ljava/util/HashMap$Node;") ∈ lw_all := lw_g (lw_at lw_m3 173 rfl) rfl
theorem q707 : (Jvm.Cond.superclass "java/util/LinkedHashMap$Entry" "java/util/HashMap$Node") ∈ lw_all := lw_g (lw_at lw_m3 175 rfl) rfl
theorem q740 : (Jvm.Cond.selects "java/util/LinkedHashMap$Entry" ({ cls := "java/lang/Object", name := "getClass", desc := "()Ljava/lang/Class;" } : Jvm.MethodName) ({ cls := "java/lang/Object", name := "getClass", desc := "()Ljava/lang/Class;" } : Jvm.MethodName)) ∈ lw_all := lw_g (lw_at lw_m3 208 rfl) rfl
theorem q1197 : (Jvm.Cond.sameMethod "java/util/LinkedHashMap$Entry" "java/util/HashMap$Node" "getKey" "()Ljava/lang/Object;") ∈ lw_all := lw_g (lw_at lw_m5 185 rfl) rfl
theorem q1200 : (Jvm.Cond.selects "java/util/LinkedHashMap$Entry" ({ cls := "java/util/LinkedHashMap$Entry", name := "getKey", desc := "()Ljava/lang/Object;" } : Jvm.MethodName) ({ cls := "java/util/HashMap$Node", name := "getKey", desc := "()Ljava/lang/Object;" } : Jvm.MethodName)) ∈ lw_all := lw_g (lw_at lw_m5 188 rfl) rfl
theorem q1877 : (Jvm.Cond.castable "java/util/LinkedHashMap$Entry" "java/lang/Object") ∈ lw_tbl := lw_at lw_m8 145 rfl
theorem q1891 : (Jvm.Cond.castable "java/util/LinkedHashMap$Entry" "java/util/HashMap$Node") ∈ lw_tbl := lw_at lw_m8 159 rfl
theorem in_J13 : ∀ w ∈ wsJ130, w ∈ lw_all := lw_in wsJ130 [699, 701, 703, 705, 695, 697] (by decide +kernel) (by decide +kernel)

/-! java/util/AbstractCollection -/
set_option maxRecDepth 100000
def RJ17 : String := "java/util/AbstractCollection"
abbrev cJ17_init : ByteArray := prog_34_method_1_code
def yJ17_init : MethodName := ⟨RJ17, "<init>", "()V"⟩
theorem dJ17_init_0 : decode cJ17_init 0 = .ok (.aload_n 0, 1) := by decide +kernel
theorem dJ17_init_1 : decode cJ17_init 1 = .ok (.invokespecial 1, 3) := by decide +kernel
theorem dJ17_init_4 : decode cJ17_init 4 = .ok (.return_, 1) := by decide +kernel
theorem q79 : (Jvm.Cond.initialized "java/util/AbstractCollection") ∈ lw_all := lw_g (lw_at lw_m1 27 rfl) rfl
theorem q1072 : (Jvm.Cond.instanceMethod ({ cls := "java/util/AbstractCollection", name := "<init>", desc := "()V" } : Jvm.MethodName)) ∈ lw_all := lw_g (lw_at lw_m5 60 rfl) rfl
theorem q1073 : (Jvm.Cond.code ({ cls := "java/util/AbstractCollection", name := "<init>", desc := "()V" } : Jvm.MethodName) prog_34_method_1_code (1 : Nat) (Option.none : Option Jvm.ClassFile.FieldType)) ∈ lw_all := lw_g (lw_at lw_m5 61 rfl) rfl
theorem q1074 : (Jvm.Cond.methodLink "java/util/AbstractCollection" (1 : Nat) ({ cls := "java/lang/Object", name := "<init>", desc := "()V" } : Jvm.MethodName)) ∈ lw_all := lw_g (lw_at lw_m5 62 rfl) rfl

/-! java/util/AbstractSet -/
set_option maxRecDepth 100000
def RJ18 : String := "java/util/AbstractSet"
abbrev cJ18_init : ByteArray := prog_37_method_1_code
def yJ18_init : MethodName := ⟨RJ18, "<init>", "()V"⟩
theorem dJ18_init_0 : decode cJ18_init 0 = .ok (.aload_n 0, 1) := by decide +kernel
theorem dJ18_init_1 : decode cJ18_init 1 = .ok (.invokespecial 1, 3) := by decide +kernel
theorem dJ18_init_4 : decode cJ18_init 4 = .ok (.return_, 1) := by decide +kernel
theorem q80 : (Jvm.Cond.initialized "java/util/AbstractSet") ∈ lw_all := lw_g (lw_at lw_m1 28 rfl) rfl
theorem q1069 : (Jvm.Cond.instanceMethod ({ cls := "java/util/AbstractSet", name := "<init>", desc := "()V" } : Jvm.MethodName)) ∈ lw_all := lw_g (lw_at lw_m5 57 rfl) rfl
theorem q1070 : (Jvm.Cond.code ({ cls := "java/util/AbstractSet", name := "<init>", desc := "()V" } : Jvm.MethodName) prog_37_method_1_code (1 : Nat) (Option.none : Option Jvm.ClassFile.FieldType)) ∈ lw_all := lw_g (lw_at lw_m5 58 rfl) rfl
theorem q1071 : (Jvm.Cond.methodLink "java/util/AbstractSet" (1 : Nat) ({ cls := "java/util/AbstractCollection", name := "<init>", desc := "()V" } : Jvm.MethodName)) ∈ lw_all := lw_g (lw_at lw_m5 59 rfl) rfl

/-! java/util/LinkedHashMap$LinkedKeySet -/
set_option maxRecDepth 100000
def RJ19 : String := "java/util/LinkedHashMap$LinkedKeySet"
def TJ19 : u_T := fun k => match k with
  | 0 => ("java/util/LinkedHashMap$LinkedKeySet", "reversed", "Z", true)
  | _ => ("java/util/LinkedHashMap$LinkedKeySet", "this$0", "Ljava/util/LinkedHashMap;", true)
def tyJ19 : Nat → FieldType := fun k => match k with
  | 0 => .boolean
  | _ => .object "java/util/LinkedHashMap"
abbrev wsJ190 : List Cond := u_ws RJ19 TJ19 2
theorem nmJ19 : ∀ a, a < 2 → ∀ b, b < 2 → a ≠ b → (TJ19 a).2.1 ≠ (TJ19 b).2.1 := by decide +kernel
theorem tyJ19_ok : ∀ k, k < 2 → parseFieldDescriptor (TJ19 k).2.2.1 = some (tyJ19 k) := by decide +kernel
abbrev cJ19_init : ByteArray := prog_49_method_1_code
def yJ19_init : MethodName := ⟨RJ19, "<init>", "(Ljava/util/LinkedHashMap;Z)V"⟩
def dkwJ19_init_0 : List UInt8 := [42, 43, 181, 0, 1, 42, 183, 0, 7, 42, 28, 181, 0, 13, 177]
abbrev dktJ19_init_0 : List UInt8 := dkwJ19_init_0 ++ []
theorem dksJ19_init_0 : cJ19_init.data.toList.drop 0 = dktJ19_init_0 := by decide +kernel
theorem dJ19_init_0 : decode cJ19_init 0 = .ok (.aload_n 0, 1) := dk_42 (dk_at dksJ19_init_0 0 rfl rfl)
theorem dJ19_init_1 : decode cJ19_init 1 = .ok (.aload_n 1, 1) := dk_43 (dk_at dksJ19_init_0 1 rfl rfl)
theorem dJ19_init_2 : decode cJ19_init 2 = .ok (.putfield 1, 3) := dk_181 0 1 (dk_at dksJ19_init_0 2 rfl rfl)
theorem dJ19_init_5 : decode cJ19_init 5 = .ok (.aload_n 0, 1) := dk_42 (dk_at dksJ19_init_0 5 rfl rfl)
theorem dJ19_init_6 : decode cJ19_init 6 = .ok (.invokespecial 7, 3) := dk_183 0 7 (dk_at dksJ19_init_0 6 rfl rfl)
theorem dJ19_init_9 : decode cJ19_init 9 = .ok (.aload_n 0, 1) := dk_42 (dk_at dksJ19_init_0 9 rfl rfl)
theorem dJ19_init_10 : decode cJ19_init 10 = .ok (.iload_n 2, 1) := dk_28 (dk_at dksJ19_init_0 10 rfl rfl)
theorem dJ19_init_11 : decode cJ19_init 11 = .ok (.putfield 13, 3) := dk_181 0 13 (dk_at dksJ19_init_0 11 rfl rfl)
theorem dJ19_init_14 : decode cJ19_init 14 = .ok (.return_, 1) := dk_177 (dk_at dksJ19_init_0 14 rfl rfl)
abbrev cJ19_iterator : ByteArray := prog_49_method_4_code
def yJ19_iterator : MethodName := ⟨RJ19, "iterator", "()Ljava/util/Iterator;"⟩
def dkwJ19_iterator_0 : List UInt8 := [187, 0, 26, 89, 42, 180, 0, 1, 42, 180, 0, 13, 183, 0, 28, 176]
abbrev dktJ19_iterator_0 : List UInt8 := dkwJ19_iterator_0 ++ []
theorem dksJ19_iterator_0 : cJ19_iterator.data.toList.drop 0 = dktJ19_iterator_0 := by decide +kernel
theorem dJ19_iterator_0 : decode cJ19_iterator 0 = .ok (.new 26, 3) := dk_187 0 26 (dk_at dksJ19_iterator_0 0 rfl rfl)
theorem dJ19_iterator_3 : decode cJ19_iterator 3 = .ok (.dup, 1) := dk_89 (dk_at dksJ19_iterator_0 3 rfl rfl)
theorem dJ19_iterator_4 : decode cJ19_iterator 4 = .ok (.aload_n 0, 1) := dk_42 (dk_at dksJ19_iterator_0 4 rfl rfl)
theorem dJ19_iterator_5 : decode cJ19_iterator 5 = .ok (.getfield 1, 3) := dk_180 0 1 (dk_at dksJ19_iterator_0 5 rfl rfl)
theorem dJ19_iterator_8 : decode cJ19_iterator 8 = .ok (.aload_n 0, 1) := dk_42 (dk_at dksJ19_iterator_0 8 rfl rfl)
theorem dJ19_iterator_9 : decode cJ19_iterator 9 = .ok (.getfield 13, 3) := dk_180 0 13 (dk_at dksJ19_iterator_0 9 rfl rfl)
theorem dJ19_iterator_12 : decode cJ19_iterator 12 = .ok (.invokespecial 28, 3) := dk_183 0 28 (dk_at dksJ19_iterator_0 12 rfl rfl)
theorem dJ19_iterator_15 : decode cJ19_iterator 15 = .ok (.areturn, 1) := dk_176 (dk_at dksJ19_iterator_0 15 rfl rfl)
theorem q81 : (Jvm.Cond.initialized "java/util/LinkedHashMap$LinkedKeySet") ∈ lw_all := lw_g (lw_at lw_m1 29 rfl) rfl
theorem q742 : (Jvm.Cond.selects "java/util/LinkedHashMap$LinkedKeySet" ({ cls := "java/lang/Object", name := "getClass", desc := "()Ljava/lang/Class;" } : Jvm.MethodName) ({ cls := "java/lang/Object", name := "getClass", desc := "()Ljava/lang/Class;" } : Jvm.MethodName)) ∈ lw_all := lw_g (lw_at lw_m3 210 rfl) rfl
theorem q1064 : (Jvm.Cond.instantiable "java/util/LinkedHashMap$LinkedKeySet" (2 : Nat)) ∈ lw_all := lw_g (lw_at lw_m5 52 rfl) rfl
theorem q1066 : (Jvm.Cond.instanceMethod ({ cls := "java/util/LinkedHashMap$LinkedKeySet", name := "<init>", desc := "(Ljava/util/LinkedHashMap;Z)V" } : Jvm.MethodName)) ∈ lw_all := lw_g (lw_at lw_m5 54 rfl) rfl
theorem q1067 : (Jvm.Cond.code ({ cls := "java/util/LinkedHashMap$LinkedKeySet", name := "<init>", desc := "(Ljava/util/LinkedHashMap;Z)V" } : Jvm.MethodName) prog_49_method_1_code (3 : Nat) (Option.none : Option Jvm.ClassFile.FieldType)) ∈ lw_all := lw_g (lw_at lw_m5 55 rfl) rfl
theorem q1068 : (Jvm.Cond.methodLink "java/util/LinkedHashMap$LinkedKeySet" (7 : Nat) ({ cls := "java/util/AbstractSet", name := "<init>", desc := "()V" } : Jvm.MethodName)) ∈ lw_all := lw_g (lw_at lw_m5 56 rfl) rfl
theorem q1075 : (Jvm.Cond.fieldLink "java/util/LinkedHashMap$LinkedKeySet" (13 : Nat) "java/util/LinkedHashMap$LinkedKeySet" "reversed" "Z") ∈ lw_all := lw_g (lw_at lw_m5 63 rfl) rfl
theorem q1076 : (Jvm.Cond.fieldLink "java/util/LinkedHashMap$LinkedKeySet" (1 : Nat) "java/util/LinkedHashMap$LinkedKeySet" "this$0" "Ljava/util/LinkedHashMap;") ∈ lw_all := lw_g (lw_at lw_m5 64 rfl) rfl
theorem q1077 : (Jvm.Cond.laysFinal "java/util/LinkedHashMap$LinkedKeySet" "java/util/LinkedHashMap$LinkedKeySet" "reversed" "Z") ∈ lw_all := lw_g (lw_at lw_m5 65 rfl) rfl
theorem q1078 : (Jvm.Cond.soleField "java/util/LinkedHashMap$LinkedKeySet" "reversed") ∈ lw_all := lw_g (lw_at lw_m5 66 rfl) rfl
theorem q1079 : (Jvm.Cond.laysFinal "java/util/LinkedHashMap$LinkedKeySet" "java/util/LinkedHashMap$LinkedKeySet" "this$0" "Ljava/util/LinkedHashMap;") ∈ lw_all := lw_g (lw_at lw_m5 67 rfl) rfl
theorem q1080 : (Jvm.Cond.soleField "java/util/LinkedHashMap$LinkedKeySet" "this$0") ∈ lw_all := lw_g (lw_at lw_m5 68 rfl) rfl
theorem q1081 : (Jvm.Cond.superclass "java/util/LinkedHashMap$LinkedKeySet" "java/util/AbstractSet") ∈ lw_all := lw_g (lw_at lw_m5 69 rfl) rfl
theorem q1087 : (Jvm.Cond.castable "java/util/LinkedHashMap$LinkedKeySet" "java/util/Set") ∈ lw_tbl := lw_at lw_m5 75 rfl
theorem q1088 : (Jvm.Cond.selects "java/util/LinkedHashMap$LinkedKeySet" ({ cls := "java/util/Set", name := "iterator", desc := "()Ljava/util/Iterator;" } : Jvm.MethodName) ({ cls := "java/util/LinkedHashMap$LinkedKeySet", name := "iterator", desc := "()Ljava/util/Iterator;" } : Jvm.MethodName)) ∈ lw_all := lw_g (lw_at lw_m5 76 rfl) rfl
theorem q1089 : (Jvm.Cond.unhidden "java/util/LinkedHashMap$LinkedKeySet" "iterator" "()Ljava/util/Iterator;") ∈ lw_tbl := lw_at lw_m5 77 rfl
theorem q1090 : (Jvm.Cond.instanceMethod ({ cls := "java/util/LinkedHashMap$LinkedKeySet", name := "iterator", desc := "()Ljava/util/Iterator;" } : Jvm.MethodName)) ∈ lw_all := lw_g (lw_at lw_m5 78 rfl) rfl
theorem q1091 : (Jvm.Cond.publicMethod ({ cls := "java/util/LinkedHashMap$LinkedKeySet", name := "iterator", desc := "()Ljava/util/Iterator;" } : Jvm.MethodName)) ∈ lw_tbl := lw_at lw_m5 79 rfl
theorem q1092 : (Jvm.Cond.code ({ cls := "java/util/LinkedHashMap$LinkedKeySet", name := "iterator", desc := "()Ljava/util/Iterator;" } : Jvm.MethodName) prog_49_method_4_code (1 : Nat) (Option.some (Jvm.ClassFile.FieldType.object "java/util/Iterator"))) ∈ lw_all := lw_g (lw_at lw_m5 80 rfl) rfl
theorem q1093 : (Jvm.Cond.classLink "java/util/LinkedHashMap$LinkedKeySet" (26 : Nat) "java/util/LinkedHashMap$LinkedKeyIterator") ∈ lw_all := lw_g (lw_at lw_m5 81 rfl) rfl
theorem q1095 : (Jvm.Cond.methodLink "java/util/LinkedHashMap$LinkedKeySet" (28 : Nat) ({ cls := "java/util/LinkedHashMap$LinkedKeyIterator", name := "<init>", desc := "(Ljava/util/LinkedHashMap;Z)V" } : Jvm.MethodName)) ∈ lw_all := lw_g (lw_at lw_m5 83 rfl) rfl
theorem q1865 : (Jvm.Cond.castable "java/util/LinkedHashMap$LinkedKeySet" "java/util/SequencedSet") ∈ lw_tbl := lw_at lw_m8 133 rfl
theorem q1880 : (Jvm.Cond.castable "java/util/LinkedHashMap$LinkedKeySet" "java/lang/Object") ∈ lw_tbl := lw_at lw_m8 148 rfl
theorem in_J19 : ∀ w ∈ wsJ190, w ∈ lw_all := lw_in wsJ190 [1077, 1079] (by decide +kernel) (by decide +kernel)

/-! java/util/LinkedHashMap$LinkedHashIterator -/
set_option maxRecDepth 100000
def RJ20 : String := "java/util/LinkedHashMap$LinkedHashIterator"
abbrev cJ20_init : ByteArray := prog_47_method_1_code
def yJ20_init : MethodName := ⟨RJ20, "<init>", "(Ljava/util/LinkedHashMap;Z)V"⟩
def dkwJ20_init_1 : List UInt8 := [167, 0, 7, 43, 180, 0, 23, 181, 0, 26, 42, 43, 180, 0, 29, 181, 0, 33, 42, 1, 181, 0, 36, 177]
abbrev dktJ20_init_1 : List UInt8 := dkwJ20_init_1 ++ []
def dkwJ20_init_0 : List UInt8 := [42, 43, 181, 0, 1, 42, 183, 0, 7, 42, 28, 181, 0, 13, 42, 28, 153, 0, 10, 43, 180, 0, 17]
abbrev dktJ20_init_0 : List UInt8 := dkwJ20_init_0 ++ dktJ20_init_1
theorem dksJ20_init_0 : cJ20_init.data.toList.drop 0 = dktJ20_init_0 := by decide +kernel
theorem dksJ20_init_1 : cJ20_init.data.toList.drop 23 = dktJ20_init_1 := dk_seg dksJ20_init_0 23 rfl rfl
theorem dJ20_init_0 : decode cJ20_init 0 = .ok (.aload_n 0, 1) := dk_42 (dk_at dksJ20_init_0 0 rfl rfl)
theorem dJ20_init_1 : decode cJ20_init 1 = .ok (.aload_n 1, 1) := dk_43 (dk_at dksJ20_init_0 1 rfl rfl)
theorem dJ20_init_2 : decode cJ20_init 2 = .ok (.putfield 1, 3) := dk_181 0 1 (dk_at dksJ20_init_0 2 rfl rfl)
theorem dJ20_init_5 : decode cJ20_init 5 = .ok (.aload_n 0, 1) := dk_42 (dk_at dksJ20_init_0 5 rfl rfl)
theorem dJ20_init_6 : decode cJ20_init 6 = .ok (.invokespecial 7, 3) := dk_183 0 7 (dk_at dksJ20_init_0 6 rfl rfl)
theorem dJ20_init_9 : decode cJ20_init 9 = .ok (.aload_n 0, 1) := dk_42 (dk_at dksJ20_init_0 9 rfl rfl)
theorem dJ20_init_10 : decode cJ20_init 10 = .ok (.iload_n 2, 1) := dk_28 (dk_at dksJ20_init_0 10 rfl rfl)
theorem dJ20_init_11 : decode cJ20_init 11 = .ok (.putfield 13, 3) := dk_181 0 13 (dk_at dksJ20_init_0 11 rfl rfl)
theorem dJ20_init_14 : decode cJ20_init 14 = .ok (.aload_n 0, 1) := dk_42 (dk_at dksJ20_init_0 14 rfl rfl)
theorem dJ20_init_15 : decode cJ20_init 15 = .ok (.iload_n 2, 1) := dk_28 (dk_at dksJ20_init_0 15 rfl rfl)
theorem dJ20_init_16 : decode cJ20_init 16 = .ok (.ifCond .eq 10, 3) := dk_153 0 10 (dk_at dksJ20_init_0 16 rfl rfl)
theorem dJ20_init_19 : decode cJ20_init 19 = .ok (.aload_n 1, 1) := dk_43 (dk_at dksJ20_init_0 19 rfl rfl)
theorem dJ20_init_20 : decode cJ20_init 20 = .ok (.getfield 17, 3) := dk_180 0 17 (dk_at dksJ20_init_0 20 rfl rfl)
theorem dJ20_init_23 : decode cJ20_init 23 = .ok (.goto 7, 3) := dk_167 0 7 (dk_at dksJ20_init_1 0 rfl rfl)
theorem dJ20_init_26 : decode cJ20_init 26 = .ok (.aload_n 1, 1) := dk_43 (dk_at dksJ20_init_1 3 rfl rfl)
theorem dJ20_init_27 : decode cJ20_init 27 = .ok (.getfield 23, 3) := dk_180 0 23 (dk_at dksJ20_init_1 4 rfl rfl)
theorem dJ20_init_30 : decode cJ20_init 30 = .ok (.putfield 26, 3) := dk_181 0 26 (dk_at dksJ20_init_1 7 rfl rfl)
theorem dJ20_init_33 : decode cJ20_init 33 = .ok (.aload_n 0, 1) := dk_42 (dk_at dksJ20_init_1 10 rfl rfl)
theorem dJ20_init_34 : decode cJ20_init 34 = .ok (.aload_n 1, 1) := dk_43 (dk_at dksJ20_init_1 11 rfl rfl)
theorem dJ20_init_35 : decode cJ20_init 35 = .ok (.getfield 29, 3) := dk_180 0 29 (dk_at dksJ20_init_1 12 rfl rfl)
theorem dJ20_init_38 : decode cJ20_init 38 = .ok (.putfield 33, 3) := dk_181 0 33 (dk_at dksJ20_init_1 15 rfl rfl)
theorem dJ20_init_41 : decode cJ20_init 41 = .ok (.aload_n 0, 1) := dk_42 (dk_at dksJ20_init_1 18 rfl rfl)
theorem dJ20_init_42 : decode cJ20_init 42 = .ok (.aconst_null, 1) := dk_1 (dk_at dksJ20_init_1 19 rfl rfl)
theorem dJ20_init_43 : decode cJ20_init 43 = .ok (.putfield 36, 3) := dk_181 0 36 (dk_at dksJ20_init_1 20 rfl rfl)
theorem dJ20_init_46 : decode cJ20_init 46 = .ok (.return_, 1) := dk_177 (dk_at dksJ20_init_1 23 rfl rfl)
abbrev cJ20_hasNext : ByteArray := prog_47_method_2_code
def yJ20_hasNext : MethodName := ⟨RJ20, "hasNext", "()Z"⟩
def dkwJ20_hasNext_0 : List UInt8 := [42, 180, 0, 26, 198, 0, 7, 4, 167, 0, 4, 3, 172]
abbrev dktJ20_hasNext_0 : List UInt8 := dkwJ20_hasNext_0 ++ []
theorem dksJ20_hasNext_0 : cJ20_hasNext.data.toList.drop 0 = dktJ20_hasNext_0 := by decide +kernel
theorem dJ20_hasNext_0 : decode cJ20_hasNext 0 = .ok (.aload_n 0, 1) := dk_42 (dk_at dksJ20_hasNext_0 0 rfl rfl)
theorem dJ20_hasNext_1 : decode cJ20_hasNext 1 = .ok (.getfield 26, 3) := dk_180 0 26 (dk_at dksJ20_hasNext_0 1 rfl rfl)
theorem dJ20_hasNext_4 : decode cJ20_hasNext 4 = .ok (.ifnull 7, 3) := dk_198 0 7 (dk_at dksJ20_hasNext_0 4 rfl rfl)
theorem dJ20_hasNext_7 : decode cJ20_hasNext 7 = .ok (.iconst 1, 1) := dk_4 (dk_at dksJ20_hasNext_0 7 rfl rfl)
theorem dJ20_hasNext_8 : decode cJ20_hasNext 8 = .ok (.goto 4, 3) := dk_167 0 4 (dk_at dksJ20_hasNext_0 8 rfl rfl)
theorem dJ20_hasNext_11 : decode cJ20_hasNext 11 = .ok (.iconst 0, 1) := dk_3 (dk_at dksJ20_hasNext_0 11 rfl rfl)
theorem dJ20_hasNext_12 : decode cJ20_hasNext 12 = .ok (.ireturn, 1) := dk_172 (dk_at dksJ20_hasNext_0 12 rfl rfl)
abbrev cJ20_nextNode : ByteArray := prog_47_method_3_code
def yJ20_nextNode : MethodName := ⟨RJ20, "nextNode", "()Ljava/util/LinkedHashMap$Entry;"⟩
def dkwJ20_nextNode_2 : List UInt8 := [180, 0, 13, 153, 0, 10, 43, 180, 0, 45, 167, 0, 7, 43, 180, 0, 50, 181, 0, 26, 43, 176]
abbrev dktJ20_nextNode_2 : List UInt8 := dkwJ20_nextNode_2 ++ []
def dkwJ20_nextNode_1 : List UInt8 := [183, 0, 41, 191, 43, 199, 0, 11, 187, 0, 42, 89, 183, 0, 44, 191, 42, 43, 181, 0, 36, 42, 42]
abbrev dktJ20_nextNode_1 : List UInt8 := dkwJ20_nextNode_1 ++ dktJ20_nextNode_2
def dkwJ20_nextNode_0 : List UInt8 := [42, 180, 0, 26, 76, 42, 180, 0, 1, 180, 0, 29, 42, 180, 0, 33, 159, 0, 11, 187, 0, 39, 89]
abbrev dktJ20_nextNode_0 : List UInt8 := dkwJ20_nextNode_0 ++ dktJ20_nextNode_1
theorem dksJ20_nextNode_0 : cJ20_nextNode.data.toList.drop 0 = dktJ20_nextNode_0 := by decide +kernel
theorem dksJ20_nextNode_1 : cJ20_nextNode.data.toList.drop 23 = dktJ20_nextNode_1 := dk_seg dksJ20_nextNode_0 23 rfl rfl
theorem dksJ20_nextNode_2 : cJ20_nextNode.data.toList.drop 46 = dktJ20_nextNode_2 := dk_seg dksJ20_nextNode_1 23 rfl rfl
theorem dJ20_nextNode_0 : decode cJ20_nextNode 0 = .ok (.aload_n 0, 1) := dk_42 (dk_at dksJ20_nextNode_0 0 rfl rfl)
theorem dJ20_nextNode_1 : decode cJ20_nextNode 1 = .ok (.getfield 26, 3) := dk_180 0 26 (dk_at dksJ20_nextNode_0 1 rfl rfl)
theorem dJ20_nextNode_4 : decode cJ20_nextNode 4 = .ok (.astore_n 1, 1) := dk_76 (dk_at dksJ20_nextNode_0 4 rfl rfl)
theorem dJ20_nextNode_5 : decode cJ20_nextNode 5 = .ok (.aload_n 0, 1) := dk_42 (dk_at dksJ20_nextNode_0 5 rfl rfl)
theorem dJ20_nextNode_6 : decode cJ20_nextNode 6 = .ok (.getfield 1, 3) := dk_180 0 1 (dk_at dksJ20_nextNode_0 6 rfl rfl)
theorem dJ20_nextNode_9 : decode cJ20_nextNode 9 = .ok (.getfield 29, 3) := dk_180 0 29 (dk_at dksJ20_nextNode_0 9 rfl rfl)
theorem dJ20_nextNode_12 : decode cJ20_nextNode 12 = .ok (.aload_n 0, 1) := dk_42 (dk_at dksJ20_nextNode_0 12 rfl rfl)
theorem dJ20_nextNode_13 : decode cJ20_nextNode 13 = .ok (.getfield 33, 3) := dk_180 0 33 (dk_at dksJ20_nextNode_0 13 rfl rfl)
theorem dJ20_nextNode_16 : decode cJ20_nextNode 16 = .ok (.if_icmp .eq 11, 3) := dk_159 0 11 (dk_at dksJ20_nextNode_0 16 rfl rfl)
theorem dJ20_nextNode_19 : decode cJ20_nextNode 19 = .ok (.new 39, 3) := dk_187 0 39 (dk_at dksJ20_nextNode_0 19 rfl rfl)
theorem dJ20_nextNode_22 : decode cJ20_nextNode 22 = .ok (.dup, 1) := dk_89 (dk_at dksJ20_nextNode_0 22 rfl rfl)
theorem dJ20_nextNode_23 : decode cJ20_nextNode 23 = .ok (.invokespecial 41, 3) := dk_183 0 41 (dk_at dksJ20_nextNode_1 0 rfl rfl)
theorem dJ20_nextNode_26 : decode cJ20_nextNode 26 = .ok (.athrow, 1) := dk_191 (dk_at dksJ20_nextNode_1 3 rfl rfl)
theorem dJ20_nextNode_27 : decode cJ20_nextNode 27 = .ok (.aload_n 1, 1) := dk_43 (dk_at dksJ20_nextNode_1 4 rfl rfl)
theorem dJ20_nextNode_28 : decode cJ20_nextNode 28 = .ok (.ifnonnull 11, 3) := dk_199 0 11 (dk_at dksJ20_nextNode_1 5 rfl rfl)
theorem dJ20_nextNode_31 : decode cJ20_nextNode 31 = .ok (.new 42, 3) := dk_187 0 42 (dk_at dksJ20_nextNode_1 8 rfl rfl)
theorem dJ20_nextNode_34 : decode cJ20_nextNode 34 = .ok (.dup, 1) := dk_89 (dk_at dksJ20_nextNode_1 11 rfl rfl)
theorem dJ20_nextNode_35 : decode cJ20_nextNode 35 = .ok (.invokespecial 44, 3) := dk_183 0 44 (dk_at dksJ20_nextNode_1 12 rfl rfl)
theorem dJ20_nextNode_38 : decode cJ20_nextNode 38 = .ok (.athrow, 1) := dk_191 (dk_at dksJ20_nextNode_1 15 rfl rfl)
theorem dJ20_nextNode_39 : decode cJ20_nextNode 39 = .ok (.aload_n 0, 1) := dk_42 (dk_at dksJ20_nextNode_1 16 rfl rfl)
theorem dJ20_nextNode_40 : decode cJ20_nextNode 40 = .ok (.aload_n 1, 1) := dk_43 (dk_at dksJ20_nextNode_1 17 rfl rfl)
theorem dJ20_nextNode_41 : decode cJ20_nextNode 41 = .ok (.putfield 36, 3) := dk_181 0 36 (dk_at dksJ20_nextNode_1 18 rfl rfl)
theorem dJ20_nextNode_44 : decode cJ20_nextNode 44 = .ok (.aload_n 0, 1) := dk_42 (dk_at dksJ20_nextNode_1 21 rfl rfl)
theorem dJ20_nextNode_45 : decode cJ20_nextNode 45 = .ok (.aload_n 0, 1) := dk_42 (dk_at dksJ20_nextNode_1 22 rfl rfl)
theorem dJ20_nextNode_46 : decode cJ20_nextNode 46 = .ok (.getfield 13, 3) := dk_180 0 13 (dk_at dksJ20_nextNode_2 0 rfl rfl)
theorem dJ20_nextNode_49 : decode cJ20_nextNode 49 = .ok (.ifCond .eq 10, 3) := dk_153 0 10 (dk_at dksJ20_nextNode_2 3 rfl rfl)
theorem dJ20_nextNode_52 : decode cJ20_nextNode 52 = .ok (.aload_n 1, 1) := dk_43 (dk_at dksJ20_nextNode_2 6 rfl rfl)
theorem dJ20_nextNode_53 : decode cJ20_nextNode 53 = .ok (.getfield 45, 3) := dk_180 0 45 (dk_at dksJ20_nextNode_2 7 rfl rfl)
theorem dJ20_nextNode_56 : decode cJ20_nextNode 56 = .ok (.goto 7, 3) := dk_167 0 7 (dk_at dksJ20_nextNode_2 10 rfl rfl)
theorem dJ20_nextNode_59 : decode cJ20_nextNode 59 = .ok (.aload_n 1, 1) := dk_43 (dk_at dksJ20_nextNode_2 13 rfl rfl)
theorem dJ20_nextNode_60 : decode cJ20_nextNode 60 = .ok (.getfield 50, 3) := dk_180 0 50 (dk_at dksJ20_nextNode_2 14 rfl rfl)
theorem dJ20_nextNode_63 : decode cJ20_nextNode 63 = .ok (.putfield 26, 3) := dk_181 0 26 (dk_at dksJ20_nextNode_2 17 rfl rfl)
theorem dJ20_nextNode_66 : decode cJ20_nextNode 66 = .ok (.aload_n 1, 1) := dk_43 (dk_at dksJ20_nextNode_2 20 rfl rfl)
theorem dJ20_nextNode_67 : decode cJ20_nextNode 67 = .ok (.areturn, 1) := dk_176 (dk_at dksJ20_nextNode_2 21 rfl rfl)
theorem q82 : (Jvm.Cond.initialized "java/util/LinkedHashMap$LinkedHashIterator") ∈ lw_all := lw_g (lw_at lw_m1 30 rfl) rfl
theorem q470 : (Jvm.Cond.fieldLink "java/util/LinkedHashMap$LinkedHashIterator" (23 : Nat) "java/util/LinkedHashMap" "head" "Ljava/util/LinkedHashMap$Entry;") ∈ lw_all := lw_g (lw_at lw_m2 178 rfl) rfl
theorem q471 : (Jvm.Cond.fieldLink "java/util/LinkedHashMap$LinkedHashIterator" (17 : Nat) "java/util/LinkedHashMap" "tail" "Ljava/util/LinkedHashMap$Entry;") ∈ lw_all := lw_g (lw_at lw_m2 179 rfl) rfl
theorem q477 : (Jvm.Cond.fieldLink "java/util/LinkedHashMap$LinkedHashIterator" (29 : Nat) "java/util/LinkedHashMap" "modCount" "I") ∈ lw_all := lw_g (lw_at lw_m2 185 rfl) rfl
theorem q670 : (Jvm.Cond.fieldLink "java/util/LinkedHashMap$LinkedHashIterator" (45 : Nat) "java/util/LinkedHashMap$Entry" "before" "Ljava/util/LinkedHashMap$Entry;") ∈ lw_all := lw_g (lw_at lw_m3 138 rfl) rfl
theorem q672 : (Jvm.Cond.fieldLink "java/util/LinkedHashMap$LinkedHashIterator" (50 : Nat) "java/util/LinkedHashMap$Entry" "after" "Ljava/util/LinkedHashMap$Entry;") ∈ lw_all := lw_g (lw_at lw_m3 140 rfl) rfl
theorem q1099 : (Jvm.Cond.instanceMethod ({ cls := "java/util/LinkedHashMap$LinkedHashIterator", name := "<init>", desc := "(Ljava/util/LinkedHashMap;Z)V" } : Jvm.MethodName)) ∈ lw_all := lw_g (lw_at lw_m5 87 rfl) rfl
theorem q1100 : (Jvm.Cond.code ({ cls := "java/util/LinkedHashMap$LinkedHashIterator", name := "<init>", desc := "(Ljava/util/LinkedHashMap;Z)V" } : Jvm.MethodName) prog_47_method_1_code (3 : Nat) (Option.none : Option Jvm.ClassFile.FieldType)) ∈ lw_all := lw_g (lw_at lw_m5 88 rfl) rfl
theorem q1101 : (Jvm.Cond.methodLink "java/util/LinkedHashMap$LinkedHashIterator" (7 : Nat) ({ cls := "java/lang/Object", name := "<init>", desc := "()V" } : Jvm.MethodName)) ∈ lw_all := lw_g (lw_at lw_m5 89 rfl) rfl
theorem q1102 : (Jvm.Cond.fieldLink "java/util/LinkedHashMap$LinkedHashIterator" (26 : Nat) "java/util/LinkedHashMap$LinkedHashIterator" "next" "Ljava/util/LinkedHashMap$Entry;") ∈ lw_all := lw_g (lw_at lw_m5 90 rfl) rfl
theorem q1103 : (Jvm.Cond.fieldLink "java/util/LinkedHashMap$LinkedHashIterator" (36 : Nat) "java/util/LinkedHashMap$LinkedHashIterator" "current" "Ljava/util/LinkedHashMap$Entry;") ∈ lw_all := lw_g (lw_at lw_m5 91 rfl) rfl
theorem q1104 : (Jvm.Cond.fieldLink "java/util/LinkedHashMap$LinkedHashIterator" (33 : Nat) "java/util/LinkedHashMap$LinkedHashIterator" "expectedModCount" "I") ∈ lw_all := lw_g (lw_at lw_m5 92 rfl) rfl
theorem q1105 : (Jvm.Cond.fieldLink "java/util/LinkedHashMap$LinkedHashIterator" (13 : Nat) "java/util/LinkedHashMap$LinkedHashIterator" "reversed" "Z") ∈ lw_all := lw_g (lw_at lw_m5 93 rfl) rfl
theorem q1106 : (Jvm.Cond.fieldLink "java/util/LinkedHashMap$LinkedHashIterator" (1 : Nat) "java/util/LinkedHashMap$LinkedHashIterator" "this$0" "Ljava/util/LinkedHashMap;") ∈ lw_all := lw_g (lw_at lw_m5 94 rfl) rfl
theorem q1108 : (Jvm.Cond.soleField "java/util/LinkedHashMap$LinkedHashIterator" "next") ∈ lw_all := lw_g (lw_at lw_m5 96 rfl) rfl
theorem q1110 : (Jvm.Cond.soleField "java/util/LinkedHashMap$LinkedHashIterator" "current") ∈ lw_all := lw_g (lw_at lw_m5 98 rfl) rfl
theorem q1112 : (Jvm.Cond.soleField "java/util/LinkedHashMap$LinkedHashIterator" "expectedModCount") ∈ lw_all := lw_g (lw_at lw_m5 100 rfl) rfl
theorem q1114 : (Jvm.Cond.soleField "java/util/LinkedHashMap$LinkedHashIterator" "reversed") ∈ lw_all := lw_g (lw_at lw_m5 102 rfl) rfl
theorem q1116 : (Jvm.Cond.soleField "java/util/LinkedHashMap$LinkedHashIterator" "this$0") ∈ lw_all := lw_g (lw_at lw_m5 104 rfl) rfl
theorem q1132 : (Jvm.Cond.instanceMethod ({ cls := "java/util/LinkedHashMap$LinkedHashIterator", name := "hasNext", desc := "()Z" } : Jvm.MethodName)) ∈ lw_all := lw_g (lw_at lw_m5 120 rfl) rfl
theorem q1133 : (Jvm.Cond.publicMethod ({ cls := "java/util/LinkedHashMap$LinkedHashIterator", name := "hasNext", desc := "()Z" } : Jvm.MethodName)) ∈ lw_tbl := lw_at lw_m5 121 rfl
theorem q1134 : (Jvm.Cond.code ({ cls := "java/util/LinkedHashMap$LinkedHashIterator", name := "hasNext", desc := "()Z" } : Jvm.MethodName) prog_47_method_2_code (1 : Nat) (Option.some Jvm.ClassFile.FieldType.boolean)) ∈ lw_all := lw_g (lw_at lw_m5 122 rfl) rfl
theorem q1192 : (Jvm.Cond.declares ({ cls := "java/util/LinkedHashMap$LinkedHashIterator", name := "nextNode", desc := "()Ljava/util/LinkedHashMap$Entry;" } : Jvm.MethodName)) ∈ lw_tbl := lw_at lw_m5 180 rfl
theorem q1194 : (Jvm.Cond.instanceMethod ({ cls := "java/util/LinkedHashMap$LinkedHashIterator", name := "nextNode", desc := "()Ljava/util/LinkedHashMap$Entry;" } : Jvm.MethodName)) ∈ lw_all := lw_g (lw_at lw_m5 182 rfl) rfl
theorem q1195 : (Jvm.Cond.code ({ cls := "java/util/LinkedHashMap$LinkedHashIterator", name := "nextNode", desc := "()Ljava/util/LinkedHashMap$Entry;" } : Jvm.MethodName) prog_47_method_3_code (2 : Nat) (Option.some (Jvm.ClassFile.FieldType.object "java/util/LinkedHashMap$Entry"))) ∈ lw_all := lw_g (lw_at lw_m5 183 rfl) rfl

/-! java/util/LinkedHashMap$LinkedKeyIterator -/
set_option maxRecDepth 100000
def RJ21 : String := "java/util/LinkedHashMap$LinkedKeyIterator"
def TJ21 : u_T := fun k => match k with
  | 0 => ("java/util/LinkedHashMap$LinkedHashIterator", "next", "Ljava/util/LinkedHashMap$Entry;", false)
  | 1 => ("java/util/LinkedHashMap$LinkedHashIterator", "current", "Ljava/util/LinkedHashMap$Entry;", false)
  | 2 => ("java/util/LinkedHashMap$LinkedHashIterator", "expectedModCount", "I", false)
  | 3 => ("java/util/LinkedHashMap$LinkedHashIterator", "reversed", "Z", false)
  | _ => ("java/util/LinkedHashMap$LinkedHashIterator", "this$0", "Ljava/util/LinkedHashMap;", true)
def tyJ21 : Nat → FieldType := fun k => match k with
  | 0 => .object "java/util/LinkedHashMap$Entry"
  | 1 => .object "java/util/LinkedHashMap$Entry"
  | 2 => .int
  | 3 => .boolean
  | _ => .object "java/util/LinkedHashMap"
abbrev wsJ210 : List Cond := u_ws RJ21 TJ21 5
theorem nmJ21 : ∀ a, a < 5 → ∀ b, b < 5 → a ≠ b → (TJ21 a).2.1 ≠ (TJ21 b).2.1 := by decide +kernel
theorem tyJ21_ok : ∀ k, k < 5 → parseFieldDescriptor (TJ21 k).2.2.1 = some (tyJ21 k) := by decide +kernel
abbrev cJ21_init : ByteArray := prog_48_method_1_code
def yJ21_init : MethodName := ⟨RJ21, "<init>", "(Ljava/util/LinkedHashMap;Z)V"⟩
def dkwJ21_init_0 : List UInt8 := [42, 43, 28, 183, 0, 1, 177]
abbrev dktJ21_init_0 : List UInt8 := dkwJ21_init_0 ++ []
theorem dksJ21_init_0 : cJ21_init.data.toList.drop 0 = dktJ21_init_0 := by decide +kernel
theorem dJ21_init_0 : decode cJ21_init 0 = .ok (.aload_n 0, 1) := dk_42 (dk_at dksJ21_init_0 0 rfl rfl)
theorem dJ21_init_1 : decode cJ21_init 1 = .ok (.aload_n 1, 1) := dk_43 (dk_at dksJ21_init_0 1 rfl rfl)
theorem dJ21_init_2 : decode cJ21_init 2 = .ok (.iload_n 2, 1) := dk_28 (dk_at dksJ21_init_0 2 rfl rfl)
theorem dJ21_init_3 : decode cJ21_init 3 = .ok (.invokespecial 1, 3) := dk_183 0 1 (dk_at dksJ21_init_0 3 rfl rfl)
theorem dJ21_init_6 : decode cJ21_init 6 = .ok (.return_, 1) := dk_177 (dk_at dksJ21_init_0 6 rfl rfl)
abbrev cJ21_next : ByteArray := prog_48_method_2_code
def yJ21_next : MethodName := ⟨RJ21, "next", "()Ljava/lang/Object;"⟩
def dkwJ21_next_0 : List UInt8 := [42, 182, 0, 7, 182, 0, 13, 176]
abbrev dktJ21_next_0 : List UInt8 := dkwJ21_next_0 ++ []
theorem dksJ21_next_0 : cJ21_next.data.toList.drop 0 = dktJ21_next_0 := by decide +kernel
theorem dJ21_next_0 : decode cJ21_next 0 = .ok (.aload_n 0, 1) := dk_42 (dk_at dksJ21_next_0 0 rfl rfl)
theorem dJ21_next_1 : decode cJ21_next 1 = .ok (.invokevirtual 7, 3) := dk_182 0 7 (dk_at dksJ21_next_0 1 rfl rfl)
theorem dJ21_next_4 : decode cJ21_next 4 = .ok (.invokevirtual 13, 3) := dk_182 0 13 (dk_at dksJ21_next_0 4 rfl rfl)
theorem dJ21_next_7 : decode cJ21_next 7 = .ok (.areturn, 1) := dk_176 (dk_at dksJ21_next_0 7 rfl rfl)
theorem q83 : (Jvm.Cond.initialized "java/util/LinkedHashMap$LinkedKeyIterator") ∈ lw_all := lw_g (lw_at lw_m1 31 rfl) rfl
theorem q741 : (Jvm.Cond.selects "java/util/LinkedHashMap$LinkedKeyIterator" ({ cls := "java/lang/Object", name := "getClass", desc := "()Ljava/lang/Class;" } : Jvm.MethodName) ({ cls := "java/lang/Object", name := "getClass", desc := "()Ljava/lang/Class;" } : Jvm.MethodName)) ∈ lw_all := lw_g (lw_at lw_m3 209 rfl) rfl
theorem q1094 : (Jvm.Cond.instantiable "java/util/LinkedHashMap$LinkedKeyIterator" (5 : Nat)) ∈ lw_all := lw_g (lw_at lw_m5 82 rfl) rfl
theorem q1096 : (Jvm.Cond.instanceMethod ({ cls := "java/util/LinkedHashMap$LinkedKeyIterator", name := "<init>", desc := "(Ljava/util/LinkedHashMap;Z)V" } : Jvm.MethodName)) ∈ lw_all := lw_g (lw_at lw_m5 84 rfl) rfl
theorem q1097 : (Jvm.Cond.code ({ cls := "java/util/LinkedHashMap$LinkedKeyIterator", name := "<init>", desc := "(Ljava/util/LinkedHashMap;Z)V" } : Jvm.MethodName) prog_48_method_1_code (3 : Nat) (Option.none : Option Jvm.ClassFile.FieldType)) ∈ lw_all := lw_g (lw_at lw_m5 85 rfl) rfl
theorem q1098 : (Jvm.Cond.methodLink "java/util/LinkedHashMap$LinkedKeyIterator" (1 : Nat) ({ cls := "java/util/LinkedHashMap$LinkedHashIterator", name := "<init>", desc := "(Ljava/util/LinkedHashMap;Z)V" } : Jvm.MethodName)) ∈ lw_all := lw_g (lw_at lw_m5 86 rfl) rfl
theorem q1107 : (Jvm.Cond.lays "java/util/LinkedHashMap$LinkedKeyIterator" "java/util/LinkedHashMap$LinkedHashIterator" "next" "Ljava/util/LinkedHashMap$Entry;") ∈ lw_all := lw_g (lw_at lw_m5 95 rfl) rfl
theorem q1109 : (Jvm.Cond.lays "java/util/LinkedHashMap$LinkedKeyIterator" "java/util/LinkedHashMap$LinkedHashIterator" "current" "Ljava/util/LinkedHashMap$Entry;") ∈ lw_all := lw_g (lw_at lw_m5 97 rfl) rfl
theorem q1111 : (Jvm.Cond.lays "java/util/LinkedHashMap$LinkedKeyIterator" "java/util/LinkedHashMap$LinkedHashIterator" "expectedModCount" "I") ∈ lw_all := lw_g (lw_at lw_m5 99 rfl) rfl
theorem q1113 : (Jvm.Cond.lays "java/util/LinkedHashMap$LinkedKeyIterator" "java/util/LinkedHashMap$LinkedHashIterator" "reversed" "Z") ∈ lw_all := lw_g (lw_at lw_m5 101 rfl) rfl
theorem q1115 : (Jvm.Cond.laysFinal "java/util/LinkedHashMap$LinkedKeyIterator" "java/util/LinkedHashMap$LinkedHashIterator" "this$0" "Ljava/util/LinkedHashMap;") ∈ lw_all := lw_g (lw_at lw_m5 103 rfl) rfl
theorem q1117 : (Jvm.Cond.superclass "java/util/LinkedHashMap$LinkedKeyIterator" "java/util/LinkedHashMap$LinkedHashIterator") ∈ lw_all := lw_g (lw_at lw_m5 105 rfl) rfl
theorem q1129 : (Jvm.Cond.castable "java/util/LinkedHashMap$LinkedKeyIterator" "java/util/Iterator") ∈ lw_tbl := lw_at lw_m5 117 rfl
theorem q1130 : (Jvm.Cond.selects "java/util/LinkedHashMap$LinkedKeyIterator" ({ cls := "java/util/Iterator", name := "hasNext", desc := "()Z" } : Jvm.MethodName) ({ cls := "java/util/LinkedHashMap$LinkedHashIterator", name := "hasNext", desc := "()Z" } : Jvm.MethodName)) ∈ lw_all := lw_g (lw_at lw_m5 118 rfl) rfl
theorem q1131 : (Jvm.Cond.unhidden "java/util/LinkedHashMap$LinkedKeyIterator" "hasNext" "()Z") ∈ lw_tbl := lw_at lw_m5 119 rfl
theorem q1185 : (Jvm.Cond.selects "java/util/LinkedHashMap$LinkedKeyIterator" ({ cls := "java/util/Iterator", name := "next", desc := "()Ljava/lang/Object;" } : Jvm.MethodName) ({ cls := "java/util/LinkedHashMap$LinkedKeyIterator", name := "next", desc := "()Ljava/lang/Object;" } : Jvm.MethodName)) ∈ lw_all := lw_g (lw_at lw_m5 173 rfl) rfl
theorem q1186 : (Jvm.Cond.unhidden "java/util/LinkedHashMap$LinkedKeyIterator" "next" "()Ljava/lang/Object;") ∈ lw_tbl := lw_at lw_m5 174 rfl
theorem q1187 : (Jvm.Cond.instanceMethod ({ cls := "java/util/LinkedHashMap$LinkedKeyIterator", name := "next", desc := "()Ljava/lang/Object;" } : Jvm.MethodName)) ∈ lw_all := lw_g (lw_at lw_m5 175 rfl) rfl
theorem q1188 : (Jvm.Cond.publicMethod ({ cls := "java/util/LinkedHashMap$LinkedKeyIterator", name := "next", desc := "()Ljava/lang/Object;" } : Jvm.MethodName)) ∈ lw_tbl := lw_at lw_m5 176 rfl
theorem q1189 : (Jvm.Cond.code ({ cls := "java/util/LinkedHashMap$LinkedKeyIterator", name := "next", desc := "()Ljava/lang/Object;" } : Jvm.MethodName) prog_48_method_2_code (1 : Nat) (Option.some (Jvm.ClassFile.FieldType.object "java/lang/Object"))) ∈ lw_all := lw_g (lw_at lw_m5 177 rfl) rfl
theorem q1190 : (Jvm.Cond.methodLink "java/util/LinkedHashMap$LinkedKeyIterator" (7 : Nat) ({ cls := "java/util/LinkedHashMap$LinkedKeyIterator", name := "nextNode", desc := "()Ljava/util/LinkedHashMap$Entry;" } : Jvm.MethodName)) ∈ lw_all := lw_g (lw_at lw_m5 178 rfl) rfl
theorem q1191 : (Jvm.Cond.sameMethod "java/util/LinkedHashMap$LinkedKeyIterator" "java/util/LinkedHashMap$LinkedHashIterator" "nextNode" "()Ljava/util/LinkedHashMap$Entry;") ∈ lw_all := lw_g (lw_at lw_m5 179 rfl) rfl
theorem q1193 : (Jvm.Cond.selects "java/util/LinkedHashMap$LinkedKeyIterator" ({ cls := "java/util/LinkedHashMap$LinkedKeyIterator", name := "nextNode", desc := "()Ljava/util/LinkedHashMap$Entry;" } : Jvm.MethodName) ({ cls := "java/util/LinkedHashMap$LinkedHashIterator", name := "nextNode", desc := "()Ljava/util/LinkedHashMap$Entry;" } : Jvm.MethodName)) ∈ lw_all := lw_g (lw_at lw_m5 181 rfl) rfl
theorem q1196 : (Jvm.Cond.methodLink "java/util/LinkedHashMap$LinkedKeyIterator" (13 : Nat) ({ cls := "java/util/LinkedHashMap$Entry", name := "getKey", desc := "()Ljava/lang/Object;" } : Jvm.MethodName)) ∈ lw_all := lw_g (lw_at lw_m5 184 rfl) rfl
theorem q1881 : (Jvm.Cond.castable "java/util/LinkedHashMap$LinkedKeyIterator" "java/lang/Object") ∈ lw_tbl := lw_at lw_m8 149 rfl
theorem in_J21 : ∀ w ∈ wsJ210, w ∈ lw_all := lw_in wsJ210 [1107, 1109, 1111, 1113, 1115] (by decide +kernel) (by decide +kernel)

/-! java/util/TreeMap -/
set_option maxRecDepth 100000
def RJ22 : String := "java/util/TreeMap"
def TJ22 : u_T := fun k => match k with
  | 0 => ("java/util/AbstractMap", "keySet", "Ljava/util/Set;", false)
  | 1 => ("java/util/AbstractMap", "values", "Ljava/util/Collection;", false)
  | 2 => ("java/util/TreeMap", "comparator", "Ljava/util/Comparator;", true)
  | 3 => ("java/util/TreeMap", "root", "Ljava/util/TreeMap$Entry;", false)
  | 4 => ("java/util/TreeMap", "size", "I", false)
  | 5 => ("java/util/TreeMap", "modCount", "I", false)
  | 6 => ("java/util/TreeMap", "entrySet", "Ljava/util/TreeMap$EntrySet;", false)
  | 7 => ("java/util/TreeMap", "navigableKeySet", "Ljava/util/TreeMap$KeySet;", false)
  | _ => ("java/util/TreeMap", "descendingMap", "Ljava/util/NavigableMap;", false)
def tyJ22 : Nat → FieldType := fun k => match k with
  | 0 => .object "java/util/Set"
  | 1 => .object "java/util/Collection"
  | 2 => .object "java/util/Comparator"
  | 3 => .object "java/util/TreeMap$Entry"
  | 4 => .int
  | 5 => .int
  | 6 => .object "java/util/TreeMap$EntrySet"
  | 7 => .object "java/util/TreeMap$KeySet"
  | _ => .object "java/util/NavigableMap"
abbrev wsJ220 : List Cond := u_ws RJ22 TJ22 9
theorem nmJ22 : ∀ a, a < 9 → ∀ b, b < 9 → a ≠ b → (TJ22 a).2.1 ≠ (TJ22 b).2.1 := by decide +kernel
theorem tyJ22_ok : ∀ k, k < 9 → parseFieldDescriptor (TJ22 k).2.2.1 = some (tyJ22 k) := by decide +kernel
abbrev cJ22_init : ByteArray := prog_61_method_2_code
def yJ22_init : MethodName := ⟨RJ22, "<init>", "(Ljava/util/Comparator;)V"⟩
def dkwJ22_init_0 : List UInt8 := [42, 183, 0, 1, 42, 3, 181, 0, 7, 42, 3, 181, 0, 13, 42, 43, 181, 0, 16, 177]
abbrev dktJ22_init_0 : List UInt8 := dkwJ22_init_0 ++ []
theorem dksJ22_init_0 : cJ22_init.data.toList.drop 0 = dktJ22_init_0 := by decide +kernel
theorem dJ22_init_0 : decode cJ22_init 0 = .ok (.aload_n 0, 1) := dk_42 (dk_at dksJ22_init_0 0 rfl rfl)
theorem dJ22_init_1 : decode cJ22_init 1 = .ok (.invokespecial 1, 3) := dk_183 0 1 (dk_at dksJ22_init_0 1 rfl rfl)
theorem dJ22_init_4 : decode cJ22_init 4 = .ok (.aload_n 0, 1) := dk_42 (dk_at dksJ22_init_0 4 rfl rfl)
theorem dJ22_init_5 : decode cJ22_init 5 = .ok (.iconst 0, 1) := dk_3 (dk_at dksJ22_init_0 5 rfl rfl)
theorem dJ22_init_6 : decode cJ22_init 6 = .ok (.putfield 7, 3) := dk_181 0 7 (dk_at dksJ22_init_0 6 rfl rfl)
theorem dJ22_init_9 : decode cJ22_init 9 = .ok (.aload_n 0, 1) := dk_42 (dk_at dksJ22_init_0 9 rfl rfl)
theorem dJ22_init_10 : decode cJ22_init 10 = .ok (.iconst 0, 1) := dk_3 (dk_at dksJ22_init_0 10 rfl rfl)
theorem dJ22_init_11 : decode cJ22_init 11 = .ok (.putfield 13, 3) := dk_181 0 13 (dk_at dksJ22_init_0 11 rfl rfl)
theorem dJ22_init_14 : decode cJ22_init 14 = .ok (.aload_n 0, 1) := dk_42 (dk_at dksJ22_init_0 14 rfl rfl)
theorem dJ22_init_15 : decode cJ22_init 15 = .ok (.aload_n 1, 1) := dk_43 (dk_at dksJ22_init_0 15 rfl rfl)
theorem dJ22_init_16 : decode cJ22_init 16 = .ok (.putfield 16, 3) := dk_181 0 16 (dk_at dksJ22_init_0 16 rfl rfl)
theorem dJ22_init_19 : decode cJ22_init 19 = .ok (.return_, 1) := dk_177 (dk_at dksJ22_init_0 19 rfl rfl)
abbrev cJ22_get : ByteArray := prog_61_method_8_code
def yJ22_get : MethodName := ⟨RJ22, "get", "(Ljava/lang/Object;)Ljava/lang/Object;"⟩
def dkwJ22_get_0 : List UInt8 := [42, 43, 182, 0, 50, 77, 44, 199, 0, 7, 1, 167, 0, 7, 44, 180, 0, 58, 176]
abbrev dktJ22_get_0 : List UInt8 := dkwJ22_get_0 ++ []
theorem dksJ22_get_0 : cJ22_get.data.toList.drop 0 = dktJ22_get_0 := by decide +kernel
theorem dJ22_get_0 : decode cJ22_get 0 = .ok (.aload_n 0, 1) := dk_42 (dk_at dksJ22_get_0 0 rfl rfl)
theorem dJ22_get_1 : decode cJ22_get 1 = .ok (.aload_n 1, 1) := dk_43 (dk_at dksJ22_get_0 1 rfl rfl)
theorem dJ22_get_2 : decode cJ22_get 2 = .ok (.invokevirtual 50, 3) := dk_182 0 50 (dk_at dksJ22_get_0 2 rfl rfl)
theorem dJ22_get_5 : decode cJ22_get 5 = .ok (.astore_n 2, 1) := dk_77 (dk_at dksJ22_get_0 5 rfl rfl)
theorem dJ22_get_6 : decode cJ22_get 6 = .ok (.aload_n 2, 1) := dk_44 (dk_at dksJ22_get_0 6 rfl rfl)
theorem dJ22_get_7 : decode cJ22_get 7 = .ok (.ifnonnull 7, 3) := dk_199 0 7 (dk_at dksJ22_get_0 7 rfl rfl)
theorem dJ22_get_10 : decode cJ22_get 10 = .ok (.aconst_null, 1) := dk_1 (dk_at dksJ22_get_0 10 rfl rfl)
theorem dJ22_get_11 : decode cJ22_get 11 = .ok (.goto 7, 3) := dk_167 0 7 (dk_at dksJ22_get_0 11 rfl rfl)
theorem dJ22_get_14 : decode cJ22_get 14 = .ok (.aload_n 2, 1) := dk_44 (dk_at dksJ22_get_0 14 rfl rfl)
theorem dJ22_get_15 : decode cJ22_get 15 = .ok (.getfield 58, 3) := dk_180 0 58 (dk_at dksJ22_get_0 15 rfl rfl)
theorem dJ22_get_18 : decode cJ22_get 18 = .ok (.areturn, 1) := dk_176 (dk_at dksJ22_get_0 18 rfl rfl)
abbrev cJ22_getEntry : ByteArray := prog_61_method_15_code
def yJ22_getEntry : MethodName := ⟨RJ22, "getEntry", "(Ljava/lang/Object;)Ljava/util/TreeMap$Entry;"⟩
def dkwJ22_getEntry_3 : List UInt8 := [45, 176, 167, 255, 212, 1, 176]
abbrev dktJ22_getEntry_3 : List UInt8 := dkwJ22_getEntry_3 ++ []
def dkwJ22_getEntry_2 : List UInt8 := [156, 0, 11, 45, 180, 0, 111, 78, 167, 0, 18, 21, 4, 158, 0, 11, 45, 180, 0, 114, 78, 167, 0, 5]
abbrev dktJ22_getEntry_2 : List UInt8 := dkwJ22_getEntry_2 ++ dktJ22_getEntry_3
def dkwJ22_getEntry_1 : List UInt8 := [180, 0, 101, 78, 45, 198, 0, 46, 44, 45, 180, 0, 105, 185, 0, 107, 2, 0, 54, 4, 21, 4]
abbrev dktJ22_getEntry_1 : List UInt8 := dkwJ22_getEntry_1 ++ dktJ22_getEntry_2
def dkwJ22_getEntry_0 : List UInt8 := [42, 180, 0, 16, 198, 0, 9, 42, 43, 182, 0, 92, 176, 43, 184, 0, 95, 87, 43, 192, 0, 99, 77, 42]
abbrev dktJ22_getEntry_0 : List UInt8 := dkwJ22_getEntry_0 ++ dktJ22_getEntry_1
theorem dksJ22_getEntry_0 : cJ22_getEntry.data.toList.drop 0 = dktJ22_getEntry_0 := by decide +kernel
theorem dksJ22_getEntry_1 : cJ22_getEntry.data.toList.drop 24 = dktJ22_getEntry_1 := dk_seg dksJ22_getEntry_0 24 rfl rfl
theorem dksJ22_getEntry_2 : cJ22_getEntry.data.toList.drop 46 = dktJ22_getEntry_2 := dk_seg dksJ22_getEntry_1 22 rfl rfl
theorem dksJ22_getEntry_3 : cJ22_getEntry.data.toList.drop 70 = dktJ22_getEntry_3 := dk_seg dksJ22_getEntry_2 24 rfl rfl
theorem dJ22_getEntry_0 : decode cJ22_getEntry 0 = .ok (.aload_n 0, 1) := dk_42 (dk_at dksJ22_getEntry_0 0 rfl rfl)
theorem dJ22_getEntry_1 : decode cJ22_getEntry 1 = .ok (.getfield 16, 3) := dk_180 0 16 (dk_at dksJ22_getEntry_0 1 rfl rfl)
theorem dJ22_getEntry_4 : decode cJ22_getEntry 4 = .ok (.ifnull 9, 3) := dk_198 0 9 (dk_at dksJ22_getEntry_0 4 rfl rfl)
theorem dJ22_getEntry_7 : decode cJ22_getEntry 7 = .ok (.aload_n 0, 1) := dk_42 (dk_at dksJ22_getEntry_0 7 rfl rfl)
theorem dJ22_getEntry_8 : decode cJ22_getEntry 8 = .ok (.aload_n 1, 1) := dk_43 (dk_at dksJ22_getEntry_0 8 rfl rfl)
theorem dJ22_getEntry_9 : decode cJ22_getEntry 9 = .ok (.invokevirtual 92, 3) := dk_182 0 92 (dk_at dksJ22_getEntry_0 9 rfl rfl)
theorem dJ22_getEntry_12 : decode cJ22_getEntry 12 = .ok (.areturn, 1) := dk_176 (dk_at dksJ22_getEntry_0 12 rfl rfl)
theorem dJ22_getEntry_13 : decode cJ22_getEntry 13 = .ok (.aload_n 1, 1) := dk_43 (dk_at dksJ22_getEntry_0 13 rfl rfl)
theorem dJ22_getEntry_14 : decode cJ22_getEntry 14 = .ok (.invokestatic 95, 3) := dk_184 0 95 (dk_at dksJ22_getEntry_0 14 rfl rfl)
theorem dJ22_getEntry_17 : decode cJ22_getEntry 17 = .ok (.pop, 1) := dk_87 (dk_at dksJ22_getEntry_0 17 rfl rfl)
theorem dJ22_getEntry_18 : decode cJ22_getEntry 18 = .ok (.aload_n 1, 1) := dk_43 (dk_at dksJ22_getEntry_0 18 rfl rfl)
theorem dJ22_getEntry_19 : decode cJ22_getEntry 19 = .ok (.checkcast 99, 3) := dk_192 0 99 (dk_at dksJ22_getEntry_0 19 rfl rfl)
theorem dJ22_getEntry_22 : decode cJ22_getEntry 22 = .ok (.astore_n 2, 1) := dk_77 (dk_at dksJ22_getEntry_0 22 rfl rfl)
theorem dJ22_getEntry_23 : decode cJ22_getEntry 23 = .ok (.aload_n 0, 1) := dk_42 (dk_at dksJ22_getEntry_0 23 rfl rfl)
theorem dJ22_getEntry_24 : decode cJ22_getEntry 24 = .ok (.getfield 101, 3) := dk_180 0 101 (dk_at dksJ22_getEntry_1 0 rfl rfl)
theorem dJ22_getEntry_27 : decode cJ22_getEntry 27 = .ok (.astore_n 3, 1) := dk_78 (dk_at dksJ22_getEntry_1 3 rfl rfl)
theorem dJ22_getEntry_28 : decode cJ22_getEntry 28 = .ok (.aload_n 3, 1) := dk_45 (dk_at dksJ22_getEntry_1 4 rfl rfl)
theorem dJ22_getEntry_29 : decode cJ22_getEntry 29 = .ok (.ifnull 46, 3) := dk_198 0 46 (dk_at dksJ22_getEntry_1 5 rfl rfl)
theorem dJ22_getEntry_32 : decode cJ22_getEntry 32 = .ok (.aload_n 2, 1) := dk_44 (dk_at dksJ22_getEntry_1 8 rfl rfl)
theorem dJ22_getEntry_33 : decode cJ22_getEntry 33 = .ok (.aload_n 3, 1) := dk_45 (dk_at dksJ22_getEntry_1 9 rfl rfl)
theorem dJ22_getEntry_34 : decode cJ22_getEntry 34 = .ok (.getfield 105, 3) := dk_180 0 105 (dk_at dksJ22_getEntry_1 10 rfl rfl)
theorem dJ22_getEntry_37 : decode cJ22_getEntry 37 = .ok (.invokeinterface 107 2, 5) := by decide +kernel
theorem dJ22_getEntry_42 : decode cJ22_getEntry 42 = .ok (.istore 4, 2) := dk_54 4 (dk_at dksJ22_getEntry_1 18 rfl rfl)
theorem dJ22_getEntry_44 : decode cJ22_getEntry 44 = .ok (.iload 4, 2) := dk_21 4 (dk_at dksJ22_getEntry_1 20 rfl rfl)
theorem dJ22_getEntry_46 : decode cJ22_getEntry 46 = .ok (.ifCond .ge 11, 3) := dk_156 0 11 (dk_at dksJ22_getEntry_2 0 rfl rfl)
theorem dJ22_getEntry_49 : decode cJ22_getEntry 49 = .ok (.aload_n 3, 1) := dk_45 (dk_at dksJ22_getEntry_2 3 rfl rfl)
theorem dJ22_getEntry_50 : decode cJ22_getEntry 50 = .ok (.getfield 111, 3) := dk_180 0 111 (dk_at dksJ22_getEntry_2 4 rfl rfl)
theorem dJ22_getEntry_53 : decode cJ22_getEntry 53 = .ok (.astore_n 3, 1) := dk_78 (dk_at dksJ22_getEntry_2 7 rfl rfl)
theorem dJ22_getEntry_54 : decode cJ22_getEntry 54 = .ok (.goto 18, 3) := dk_167 0 18 (dk_at dksJ22_getEntry_2 8 rfl rfl)
theorem dJ22_getEntry_57 : decode cJ22_getEntry 57 = .ok (.iload 4, 2) := dk_21 4 (dk_at dksJ22_getEntry_2 11 rfl rfl)
theorem dJ22_getEntry_59 : decode cJ22_getEntry 59 = .ok (.ifCond .le 11, 3) := dk_158 0 11 (dk_at dksJ22_getEntry_2 13 rfl rfl)
theorem dJ22_getEntry_62 : decode cJ22_getEntry 62 = .ok (.aload_n 3, 1) := dk_45 (dk_at dksJ22_getEntry_2 16 rfl rfl)
theorem dJ22_getEntry_63 : decode cJ22_getEntry 63 = .ok (.getfield 114, 3) := dk_180 0 114 (dk_at dksJ22_getEntry_2 17 rfl rfl)
theorem dJ22_getEntry_66 : decode cJ22_getEntry 66 = .ok (.astore_n 3, 1) := dk_78 (dk_at dksJ22_getEntry_2 20 rfl rfl)
theorem dJ22_getEntry_67 : decode cJ22_getEntry 67 = .ok (.goto 5, 3) := dk_167 0 5 (dk_at dksJ22_getEntry_2 21 rfl rfl)
theorem dJ22_getEntry_70 : decode cJ22_getEntry 70 = .ok (.aload_n 3, 1) := dk_45 (dk_at dksJ22_getEntry_3 0 rfl rfl)
theorem dJ22_getEntry_71 : decode cJ22_getEntry 71 = .ok (.areturn, 1) := dk_176 (dk_at dksJ22_getEntry_3 1 rfl rfl)
theorem dJ22_getEntry_72 : decode cJ22_getEntry 72 = .ok (.goto (-44), 3) := dk_167 255 212 (dk_at dksJ22_getEntry_3 2 rfl rfl)
theorem dJ22_getEntry_75 : decode cJ22_getEntry 75 = .ok (.aconst_null, 1) := dk_1 (dk_at dksJ22_getEntry_3 5 rfl rfl)
theorem dJ22_getEntry_76 : decode cJ22_getEntry 76 = .ok (.areturn, 1) := dk_176 (dk_at dksJ22_getEntry_3 6 rfl rfl)
abbrev cJ22_getEntryUsingComparator : ByteArray := prog_61_method_16_code
def yJ22_getEntryUsingComparator : MethodName := ⟨RJ22, "getEntryUsingComparator", "(Ljava/lang/Object;)Ljava/util/TreeMap$Entry;"⟩
def dkwJ22_getEntryUsingComparator_3 : List UInt8 := [1, 176]
abbrev dktJ22_getEntryUsingComparator_3 : List UInt8 := dkwJ22_getEntryUsingComparator_3 ++ []
def dkwJ22_getEntryUsingComparator_2 : List UInt8 := [167, 0, 21, 21, 5, 158, 0, 13, 25, 4, 180, 0, 114, 58, 4, 167, 0, 6, 25, 4, 176, 167, 255, 204]
abbrev dktJ22_getEntryUsingComparator_2 : List UInt8 := dkwJ22_getEntryUsingComparator_2 ++ dktJ22_getEntryUsingComparator_3
def dkwJ22_getEntryUsingComparator_1 : List UInt8 := [25, 4, 180, 0, 105, 185, 0, 117, 3, 0, 54, 5, 21, 5, 156, 0, 13, 25, 4, 180, 0, 111, 58, 4]
abbrev dktJ22_getEntryUsingComparator_1 : List UInt8 := dkwJ22_getEntryUsingComparator_1 ++ dktJ22_getEntryUsingComparator_2
def dkwJ22_getEntryUsingComparator_0 : List UInt8 := [43, 77, 42, 180, 0, 16, 78, 45, 198, 0, 64, 42, 180, 0, 101, 58, 4, 25, 4, 198, 0, 53, 45, 44]
abbrev dktJ22_getEntryUsingComparator_0 : List UInt8 := dkwJ22_getEntryUsingComparator_0 ++ dktJ22_getEntryUsingComparator_1
theorem dksJ22_getEntryUsingComparator_0 : cJ22_getEntryUsingComparator.data.toList.drop 0 = dktJ22_getEntryUsingComparator_0 := by decide +kernel
theorem dksJ22_getEntryUsingComparator_1 : cJ22_getEntryUsingComparator.data.toList.drop 24 = dktJ22_getEntryUsingComparator_1 := dk_seg dksJ22_getEntryUsingComparator_0 24 rfl rfl
theorem dksJ22_getEntryUsingComparator_2 : cJ22_getEntryUsingComparator.data.toList.drop 48 = dktJ22_getEntryUsingComparator_2 := dk_seg dksJ22_getEntryUsingComparator_1 24 rfl rfl
theorem dksJ22_getEntryUsingComparator_3 : cJ22_getEntryUsingComparator.data.toList.drop 72 = dktJ22_getEntryUsingComparator_3 := dk_seg dksJ22_getEntryUsingComparator_2 24 rfl rfl
theorem dJ22_getEntryUsingComparator_0 : decode cJ22_getEntryUsingComparator 0 = .ok (.aload_n 1, 1) := dk_43 (dk_at dksJ22_getEntryUsingComparator_0 0 rfl rfl)
theorem dJ22_getEntryUsingComparator_1 : decode cJ22_getEntryUsingComparator 1 = .ok (.astore_n 2, 1) := dk_77 (dk_at dksJ22_getEntryUsingComparator_0 1 rfl rfl)
theorem dJ22_getEntryUsingComparator_2 : decode cJ22_getEntryUsingComparator 2 = .ok (.aload_n 0, 1) := dk_42 (dk_at dksJ22_getEntryUsingComparator_0 2 rfl rfl)
theorem dJ22_getEntryUsingComparator_3 : decode cJ22_getEntryUsingComparator 3 = .ok (.getfield 16, 3) := dk_180 0 16 (dk_at dksJ22_getEntryUsingComparator_0 3 rfl rfl)
theorem dJ22_getEntryUsingComparator_6 : decode cJ22_getEntryUsingComparator 6 = .ok (.astore_n 3, 1) := dk_78 (dk_at dksJ22_getEntryUsingComparator_0 6 rfl rfl)
theorem dJ22_getEntryUsingComparator_7 : decode cJ22_getEntryUsingComparator 7 = .ok (.aload_n 3, 1) := dk_45 (dk_at dksJ22_getEntryUsingComparator_0 7 rfl rfl)
theorem dJ22_getEntryUsingComparator_8 : decode cJ22_getEntryUsingComparator 8 = .ok (.ifnull 64, 3) := dk_198 0 64 (dk_at dksJ22_getEntryUsingComparator_0 8 rfl rfl)
theorem dJ22_getEntryUsingComparator_11 : decode cJ22_getEntryUsingComparator 11 = .ok (.aload_n 0, 1) := dk_42 (dk_at dksJ22_getEntryUsingComparator_0 11 rfl rfl)
theorem dJ22_getEntryUsingComparator_12 : decode cJ22_getEntryUsingComparator 12 = .ok (.getfield 101, 3) := dk_180 0 101 (dk_at dksJ22_getEntryUsingComparator_0 12 rfl rfl)
theorem dJ22_getEntryUsingComparator_15 : decode cJ22_getEntryUsingComparator 15 = .ok (.astore 4, 2) := dk_58 4 (dk_at dksJ22_getEntryUsingComparator_0 15 rfl rfl)
theorem dJ22_getEntryUsingComparator_17 : decode cJ22_getEntryUsingComparator 17 = .ok (.aload 4, 2) := dk_25 4 (dk_at dksJ22_getEntryUsingComparator_0 17 rfl rfl)
theorem dJ22_getEntryUsingComparator_19 : decode cJ22_getEntryUsingComparator 19 = .ok (.ifnull 53, 3) := dk_198 0 53 (dk_at dksJ22_getEntryUsingComparator_0 19 rfl rfl)
theorem dJ22_getEntryUsingComparator_22 : decode cJ22_getEntryUsingComparator 22 = .ok (.aload_n 3, 1) := dk_45 (dk_at dksJ22_getEntryUsingComparator_0 22 rfl rfl)
theorem dJ22_getEntryUsingComparator_23 : decode cJ22_getEntryUsingComparator 23 = .ok (.aload_n 2, 1) := dk_44 (dk_at dksJ22_getEntryUsingComparator_0 23 rfl rfl)
theorem dJ22_getEntryUsingComparator_24 : decode cJ22_getEntryUsingComparator 24 = .ok (.aload 4, 2) := dk_25 4 (dk_at dksJ22_getEntryUsingComparator_1 0 rfl rfl)
theorem dJ22_getEntryUsingComparator_26 : decode cJ22_getEntryUsingComparator 26 = .ok (.getfield 105, 3) := dk_180 0 105 (dk_at dksJ22_getEntryUsingComparator_1 2 rfl rfl)
theorem dJ22_getEntryUsingComparator_29 : decode cJ22_getEntryUsingComparator 29 = .ok (.invokeinterface 117 3, 5) := by decide +kernel
theorem dJ22_getEntryUsingComparator_34 : decode cJ22_getEntryUsingComparator 34 = .ok (.istore 5, 2) := dk_54 5 (dk_at dksJ22_getEntryUsingComparator_1 10 rfl rfl)
theorem dJ22_getEntryUsingComparator_36 : decode cJ22_getEntryUsingComparator 36 = .ok (.iload 5, 2) := dk_21 5 (dk_at dksJ22_getEntryUsingComparator_1 12 rfl rfl)
theorem dJ22_getEntryUsingComparator_38 : decode cJ22_getEntryUsingComparator 38 = .ok (.ifCond .ge 13, 3) := dk_156 0 13 (dk_at dksJ22_getEntryUsingComparator_1 14 rfl rfl)
theorem dJ22_getEntryUsingComparator_41 : decode cJ22_getEntryUsingComparator 41 = .ok (.aload 4, 2) := dk_25 4 (dk_at dksJ22_getEntryUsingComparator_1 17 rfl rfl)
theorem dJ22_getEntryUsingComparator_43 : decode cJ22_getEntryUsingComparator 43 = .ok (.getfield 111, 3) := dk_180 0 111 (dk_at dksJ22_getEntryUsingComparator_1 19 rfl rfl)
theorem dJ22_getEntryUsingComparator_46 : decode cJ22_getEntryUsingComparator 46 = .ok (.astore 4, 2) := dk_58 4 (dk_at dksJ22_getEntryUsingComparator_1 22 rfl rfl)
theorem dJ22_getEntryUsingComparator_48 : decode cJ22_getEntryUsingComparator 48 = .ok (.goto 21, 3) := dk_167 0 21 (dk_at dksJ22_getEntryUsingComparator_2 0 rfl rfl)
theorem dJ22_getEntryUsingComparator_51 : decode cJ22_getEntryUsingComparator 51 = .ok (.iload 5, 2) := dk_21 5 (dk_at dksJ22_getEntryUsingComparator_2 3 rfl rfl)
theorem dJ22_getEntryUsingComparator_53 : decode cJ22_getEntryUsingComparator 53 = .ok (.ifCond .le 13, 3) := dk_158 0 13 (dk_at dksJ22_getEntryUsingComparator_2 5 rfl rfl)
theorem dJ22_getEntryUsingComparator_56 : decode cJ22_getEntryUsingComparator 56 = .ok (.aload 4, 2) := dk_25 4 (dk_at dksJ22_getEntryUsingComparator_2 8 rfl rfl)
theorem dJ22_getEntryUsingComparator_58 : decode cJ22_getEntryUsingComparator 58 = .ok (.getfield 114, 3) := dk_180 0 114 (dk_at dksJ22_getEntryUsingComparator_2 10 rfl rfl)
theorem dJ22_getEntryUsingComparator_61 : decode cJ22_getEntryUsingComparator 61 = .ok (.astore 4, 2) := dk_58 4 (dk_at dksJ22_getEntryUsingComparator_2 13 rfl rfl)
theorem dJ22_getEntryUsingComparator_63 : decode cJ22_getEntryUsingComparator 63 = .ok (.goto 6, 3) := dk_167 0 6 (dk_at dksJ22_getEntryUsingComparator_2 15 rfl rfl)
theorem dJ22_getEntryUsingComparator_66 : decode cJ22_getEntryUsingComparator 66 = .ok (.aload 4, 2) := dk_25 4 (dk_at dksJ22_getEntryUsingComparator_2 18 rfl rfl)
theorem dJ22_getEntryUsingComparator_68 : decode cJ22_getEntryUsingComparator 68 = .ok (.areturn, 1) := dk_176 (dk_at dksJ22_getEntryUsingComparator_2 20 rfl rfl)
theorem dJ22_getEntryUsingComparator_69 : decode cJ22_getEntryUsingComparator 69 = .ok (.goto (-52), 3) := dk_167 255 204 (dk_at dksJ22_getEntryUsingComparator_2 21 rfl rfl)
theorem dJ22_getEntryUsingComparator_72 : decode cJ22_getEntryUsingComparator 72 = .ok (.aconst_null, 1) := dk_1 (dk_at dksJ22_getEntryUsingComparator_3 0 rfl rfl)
theorem dJ22_getEntryUsingComparator_73 : decode cJ22_getEntryUsingComparator 73 = .ok (.areturn, 1) := dk_176 (dk_at dksJ22_getEntryUsingComparator_3 1 rfl rfl)
abbrev cJ22_put : ByteArray := prog_61_method_21_code
def yJ22_put : MethodName := ⟨RJ22, "put", "(Ljava/lang/Object;Ljava/lang/Object;)Ljava/lang/Object;"⟩
def dkwJ22_put_0 : List UInt8 := [42, 43, 44, 4, 182, 0, 127, 176]
abbrev dktJ22_put_0 : List UInt8 := dkwJ22_put_0 ++ []
theorem dksJ22_put_0 : cJ22_put.data.toList.drop 0 = dktJ22_put_0 := by decide +kernel
theorem dJ22_put_0 : decode cJ22_put 0 = .ok (.aload_n 0, 1) := dk_42 (dk_at dksJ22_put_0 0 rfl rfl)
theorem dJ22_put_1 : decode cJ22_put 1 = .ok (.aload_n 1, 1) := dk_43 (dk_at dksJ22_put_0 1 rfl rfl)
theorem dJ22_put_2 : decode cJ22_put 2 = .ok (.aload_n 2, 1) := dk_44 (dk_at dksJ22_put_0 2 rfl rfl)
theorem dJ22_put_3 : decode cJ22_put 3 = .ok (.iconst 1, 1) := dk_4 (dk_at dksJ22_put_0 3 rfl rfl)
theorem dJ22_put_4 : decode cJ22_put 4 = .ok (.invokevirtual 127, 3) := dk_182 0 127 (dk_at dksJ22_put_0 4 rfl rfl)
theorem dJ22_put_7 : decode cJ22_put 7 = .ok (.areturn, 1) := dk_176 (dk_at dksJ22_put_0 7 rfl rfl)
abbrev cJ22_put_2 : ByteArray := prog_61_method_31_code
def yJ22_put_2 : MethodName := ⟨RJ22, "put", "(Ljava/lang/Object;Ljava/lang/Object;Z)Ljava/lang/Object;"⟩
def dkwJ22_put_2_9 : List UInt8 := [4, 167, 0, 4, 3, 182, 0, 139, 1, 176]
abbrev dktJ22_put_2_9 : List UInt8 := dkwJ22_put_2_9 ++ []
def dkwJ22_put_2_8 : List UInt8 := [25, 4, 44, 181, 0, 58, 25, 9, 176, 25, 4, 199, 255, 181, 42, 43, 44, 25, 6, 21, 5, 156, 0, 7]
abbrev dktJ22_put_2_8 : List UInt8 := dkwJ22_put_2_8 ++ dktJ22_put_2_9
def dkwJ22_put_2_7 : List UInt8 := [180, 0, 114, 58, 4, 167, 0, 28, 25, 4, 180, 0, 58, 58, 9, 29, 154, 0, 8, 25, 9, 199, 0, 9]
abbrev dktJ22_put_2_7 : List UInt8 := dkwJ22_put_2_7 ++ dktJ22_put_2_8
def dkwJ22_put_2_6 : List UInt8 := [21, 5, 156, 0, 13, 25, 4, 180, 0, 111, 58, 4, 167, 0, 43, 21, 5, 158, 0, 13, 25, 4]
abbrev dktJ22_put_2_6 : List UInt8 := dkwJ22_put_2_6 ++ dktJ22_put_2_7
def dkwJ22_put_2_5 : List UInt8 := [192, 0, 99, 58, 8, 25, 4, 58, 6, 25, 8, 25, 4, 180, 0, 105, 185, 0, 107, 2, 0, 54, 5]
abbrev dktJ22_put_2_5 : List UInt8 := dkwJ22_put_2_5 ++ dktJ22_put_2_6
def dkwJ22_put_2_4 : List UInt8 := [25, 4, 44, 181, 0, 58, 25, 8, 176, 25, 4, 199, 255, 180, 167, 0, 92, 43, 184, 0, 95, 87, 43]
abbrev dktJ22_put_2_4 : List UInt8 := dkwJ22_put_2_4 ++ dktJ22_put_2_5
def dkwJ22_put_2_3 : List UInt8 := [180, 0, 114, 58, 4, 167, 0, 28, 25, 4, 180, 0, 58, 58, 8, 29, 154, 0, 8, 25, 8, 199, 0, 9]
abbrev dktJ22_put_2_3 : List UInt8 := dkwJ22_put_2_3 ++ dktJ22_put_2_4
def dkwJ22_put_2_2 : List UInt8 := [54, 5, 21, 5, 156, 0, 13, 25, 4, 180, 0, 111, 58, 4, 167, 0, 43, 21, 5, 158, 0, 13, 25, 4]
abbrev dktJ22_put_2_2 : List UInt8 := dkwJ22_put_2_2 ++ dktJ22_put_2_3
def dkwJ22_put_2_1 : List UInt8 := [58, 7, 25, 7, 198, 0, 85, 25, 4, 58, 6, 25, 7, 43, 25, 4, 180, 0, 105, 185, 0, 117, 3, 0]
abbrev dktJ22_put_2_1 : List UInt8 := dkwJ22_put_2_1 ++ dktJ22_put_2_2
def dkwJ22_put_2_0 : List UInt8 := [42, 180, 0, 101, 58, 4, 25, 4, 199, 0, 11, 42, 43, 44, 182, 0, 135, 1, 176, 42, 180, 0, 16]
abbrev dktJ22_put_2_0 : List UInt8 := dkwJ22_put_2_0 ++ dktJ22_put_2_1
theorem dksJ22_put_2_0 : cJ22_put_2.data.toList.drop 0 = dktJ22_put_2_0 := by decide +kernel
theorem dksJ22_put_2_1 : cJ22_put_2.data.toList.drop 23 = dktJ22_put_2_1 := dk_seg dksJ22_put_2_0 23 rfl rfl
theorem dksJ22_put_2_2 : cJ22_put_2.data.toList.drop 47 = dktJ22_put_2_2 := dk_seg dksJ22_put_2_1 24 rfl rfl
theorem dksJ22_put_2_3 : cJ22_put_2.data.toList.drop 71 = dktJ22_put_2_3 := dk_seg dksJ22_put_2_2 24 rfl rfl
theorem dksJ22_put_2_4 : cJ22_put_2.data.toList.drop 95 = dktJ22_put_2_4 := dk_seg dksJ22_put_2_3 24 rfl rfl
theorem dksJ22_put_2_5 : cJ22_put_2.data.toList.drop 118 = dktJ22_put_2_5 := dk_seg dksJ22_put_2_4 23 rfl rfl
theorem dksJ22_put_2_6 : cJ22_put_2.data.toList.drop 141 = dktJ22_put_2_6 := dk_seg dksJ22_put_2_5 23 rfl rfl
theorem dksJ22_put_2_7 : cJ22_put_2.data.toList.drop 163 = dktJ22_put_2_7 := dk_seg dksJ22_put_2_6 22 rfl rfl
theorem dksJ22_put_2_8 : cJ22_put_2.data.toList.drop 187 = dktJ22_put_2_8 := dk_seg dksJ22_put_2_7 24 rfl rfl
theorem dksJ22_put_2_9 : cJ22_put_2.data.toList.drop 211 = dktJ22_put_2_9 := dk_seg dksJ22_put_2_8 24 rfl rfl
theorem dJ22_put_2_0 : decode cJ22_put_2 0 = .ok (.aload_n 0, 1) := dk_42 (dk_at dksJ22_put_2_0 0 rfl rfl)
theorem dJ22_put_2_1 : decode cJ22_put_2 1 = .ok (.getfield 101, 3) := dk_180 0 101 (dk_at dksJ22_put_2_0 1 rfl rfl)
theorem dJ22_put_2_4 : decode cJ22_put_2 4 = .ok (.astore 4, 2) := dk_58 4 (dk_at dksJ22_put_2_0 4 rfl rfl)
theorem dJ22_put_2_6 : decode cJ22_put_2 6 = .ok (.aload 4, 2) := dk_25 4 (dk_at dksJ22_put_2_0 6 rfl rfl)
theorem dJ22_put_2_8 : decode cJ22_put_2 8 = .ok (.ifnonnull 11, 3) := dk_199 0 11 (dk_at dksJ22_put_2_0 8 rfl rfl)
theorem dJ22_put_2_11 : decode cJ22_put_2 11 = .ok (.aload_n 0, 1) := dk_42 (dk_at dksJ22_put_2_0 11 rfl rfl)
theorem dJ22_put_2_12 : decode cJ22_put_2 12 = .ok (.aload_n 1, 1) := dk_43 (dk_at dksJ22_put_2_0 12 rfl rfl)
theorem dJ22_put_2_13 : decode cJ22_put_2 13 = .ok (.aload_n 2, 1) := dk_44 (dk_at dksJ22_put_2_0 13 rfl rfl)
theorem dJ22_put_2_14 : decode cJ22_put_2 14 = .ok (.invokevirtual 135, 3) := dk_182 0 135 (dk_at dksJ22_put_2_0 14 rfl rfl)
theorem dJ22_put_2_17 : decode cJ22_put_2 17 = .ok (.aconst_null, 1) := dk_1 (dk_at dksJ22_put_2_0 17 rfl rfl)
theorem dJ22_put_2_18 : decode cJ22_put_2 18 = .ok (.areturn, 1) := dk_176 (dk_at dksJ22_put_2_0 18 rfl rfl)
theorem dJ22_put_2_19 : decode cJ22_put_2 19 = .ok (.aload_n 0, 1) := dk_42 (dk_at dksJ22_put_2_0 19 rfl rfl)
theorem dJ22_put_2_20 : decode cJ22_put_2 20 = .ok (.getfield 16, 3) := dk_180 0 16 (dk_at dksJ22_put_2_0 20 rfl rfl)
theorem dJ22_put_2_23 : decode cJ22_put_2 23 = .ok (.astore 7, 2) := dk_58 7 (dk_at dksJ22_put_2_1 0 rfl rfl)
theorem dJ22_put_2_25 : decode cJ22_put_2 25 = .ok (.aload 7, 2) := dk_25 7 (dk_at dksJ22_put_2_1 2 rfl rfl)
theorem dJ22_put_2_27 : decode cJ22_put_2 27 = .ok (.ifnull 85, 3) := dk_198 0 85 (dk_at dksJ22_put_2_1 4 rfl rfl)
theorem dJ22_put_2_30 : decode cJ22_put_2 30 = .ok (.aload 4, 2) := dk_25 4 (dk_at dksJ22_put_2_1 7 rfl rfl)
theorem dJ22_put_2_32 : decode cJ22_put_2 32 = .ok (.astore 6, 2) := dk_58 6 (dk_at dksJ22_put_2_1 9 rfl rfl)
theorem dJ22_put_2_34 : decode cJ22_put_2 34 = .ok (.aload 7, 2) := dk_25 7 (dk_at dksJ22_put_2_1 11 rfl rfl)
theorem dJ22_put_2_36 : decode cJ22_put_2 36 = .ok (.aload_n 1, 1) := dk_43 (dk_at dksJ22_put_2_1 13 rfl rfl)
theorem dJ22_put_2_37 : decode cJ22_put_2 37 = .ok (.aload 4, 2) := dk_25 4 (dk_at dksJ22_put_2_1 14 rfl rfl)
theorem dJ22_put_2_39 : decode cJ22_put_2 39 = .ok (.getfield 105, 3) := dk_180 0 105 (dk_at dksJ22_put_2_1 16 rfl rfl)
theorem dJ22_put_2_42 : decode cJ22_put_2 42 = .ok (.invokeinterface 117 3, 5) := by decide +kernel
theorem dJ22_put_2_47 : decode cJ22_put_2 47 = .ok (.istore 5, 2) := dk_54 5 (dk_at dksJ22_put_2_2 0 rfl rfl)
theorem dJ22_put_2_49 : decode cJ22_put_2 49 = .ok (.iload 5, 2) := dk_21 5 (dk_at dksJ22_put_2_2 2 rfl rfl)
theorem dJ22_put_2_51 : decode cJ22_put_2 51 = .ok (.ifCond .ge 13, 3) := dk_156 0 13 (dk_at dksJ22_put_2_2 4 rfl rfl)
theorem dJ22_put_2_54 : decode cJ22_put_2 54 = .ok (.aload 4, 2) := dk_25 4 (dk_at dksJ22_put_2_2 7 rfl rfl)
theorem dJ22_put_2_56 : decode cJ22_put_2 56 = .ok (.getfield 111, 3) := dk_180 0 111 (dk_at dksJ22_put_2_2 9 rfl rfl)
theorem dJ22_put_2_59 : decode cJ22_put_2 59 = .ok (.astore 4, 2) := dk_58 4 (dk_at dksJ22_put_2_2 12 rfl rfl)
theorem dJ22_put_2_61 : decode cJ22_put_2 61 = .ok (.goto 43, 3) := dk_167 0 43 (dk_at dksJ22_put_2_2 14 rfl rfl)
theorem dJ22_put_2_64 : decode cJ22_put_2 64 = .ok (.iload 5, 2) := dk_21 5 (dk_at dksJ22_put_2_2 17 rfl rfl)
theorem dJ22_put_2_66 : decode cJ22_put_2 66 = .ok (.ifCond .le 13, 3) := dk_158 0 13 (dk_at dksJ22_put_2_2 19 rfl rfl)
theorem dJ22_put_2_69 : decode cJ22_put_2 69 = .ok (.aload 4, 2) := dk_25 4 (dk_at dksJ22_put_2_2 22 rfl rfl)
theorem dJ22_put_2_71 : decode cJ22_put_2 71 = .ok (.getfield 114, 3) := dk_180 0 114 (dk_at dksJ22_put_2_3 0 rfl rfl)
theorem dJ22_put_2_74 : decode cJ22_put_2 74 = .ok (.astore 4, 2) := dk_58 4 (dk_at dksJ22_put_2_3 3 rfl rfl)
theorem dJ22_put_2_76 : decode cJ22_put_2 76 = .ok (.goto 28, 3) := dk_167 0 28 (dk_at dksJ22_put_2_3 5 rfl rfl)
theorem dJ22_put_2_79 : decode cJ22_put_2 79 = .ok (.aload 4, 2) := dk_25 4 (dk_at dksJ22_put_2_3 8 rfl rfl)
theorem dJ22_put_2_81 : decode cJ22_put_2 81 = .ok (.getfield 58, 3) := dk_180 0 58 (dk_at dksJ22_put_2_3 10 rfl rfl)
theorem dJ22_put_2_84 : decode cJ22_put_2 84 = .ok (.astore 8, 2) := dk_58 8 (dk_at dksJ22_put_2_3 13 rfl rfl)
theorem dJ22_put_2_86 : decode cJ22_put_2 86 = .ok (.iload_n 3, 1) := dk_29 (dk_at dksJ22_put_2_3 15 rfl rfl)
theorem dJ22_put_2_87 : decode cJ22_put_2 87 = .ok (.ifCond .ne 8, 3) := dk_154 0 8 (dk_at dksJ22_put_2_3 16 rfl rfl)
theorem dJ22_put_2_90 : decode cJ22_put_2 90 = .ok (.aload 8, 2) := dk_25 8 (dk_at dksJ22_put_2_3 19 rfl rfl)
theorem dJ22_put_2_92 : decode cJ22_put_2 92 = .ok (.ifnonnull 9, 3) := dk_199 0 9 (dk_at dksJ22_put_2_3 21 rfl rfl)
theorem dJ22_put_2_95 : decode cJ22_put_2 95 = .ok (.aload 4, 2) := dk_25 4 (dk_at dksJ22_put_2_4 0 rfl rfl)
theorem dJ22_put_2_97 : decode cJ22_put_2 97 = .ok (.aload_n 2, 1) := dk_44 (dk_at dksJ22_put_2_4 2 rfl rfl)
theorem dJ22_put_2_98 : decode cJ22_put_2 98 = .ok (.putfield 58, 3) := dk_181 0 58 (dk_at dksJ22_put_2_4 3 rfl rfl)
theorem dJ22_put_2_101 : decode cJ22_put_2 101 = .ok (.aload 8, 2) := dk_25 8 (dk_at dksJ22_put_2_4 6 rfl rfl)
theorem dJ22_put_2_103 : decode cJ22_put_2 103 = .ok (.areturn, 1) := dk_176 (dk_at dksJ22_put_2_4 8 rfl rfl)
theorem dJ22_put_2_104 : decode cJ22_put_2 104 = .ok (.aload 4, 2) := dk_25 4 (dk_at dksJ22_put_2_4 9 rfl rfl)
theorem dJ22_put_2_106 : decode cJ22_put_2 106 = .ok (.ifnonnull (-76), 3) := dk_199 255 180 (dk_at dksJ22_put_2_4 11 rfl rfl)
theorem dJ22_put_2_109 : decode cJ22_put_2 109 = .ok (.goto 92, 3) := dk_167 0 92 (dk_at dksJ22_put_2_4 14 rfl rfl)
theorem dJ22_put_2_112 : decode cJ22_put_2 112 = .ok (.aload_n 1, 1) := dk_43 (dk_at dksJ22_put_2_4 17 rfl rfl)
theorem dJ22_put_2_113 : decode cJ22_put_2 113 = .ok (.invokestatic 95, 3) := dk_184 0 95 (dk_at dksJ22_put_2_4 18 rfl rfl)
theorem dJ22_put_2_116 : decode cJ22_put_2 116 = .ok (.pop, 1) := dk_87 (dk_at dksJ22_put_2_4 21 rfl rfl)
theorem dJ22_put_2_117 : decode cJ22_put_2 117 = .ok (.aload_n 1, 1) := dk_43 (dk_at dksJ22_put_2_4 22 rfl rfl)
theorem dJ22_put_2_118 : decode cJ22_put_2 118 = .ok (.checkcast 99, 3) := dk_192 0 99 (dk_at dksJ22_put_2_5 0 rfl rfl)
theorem dJ22_put_2_121 : decode cJ22_put_2 121 = .ok (.astore 8, 2) := dk_58 8 (dk_at dksJ22_put_2_5 3 rfl rfl)
theorem dJ22_put_2_123 : decode cJ22_put_2 123 = .ok (.aload 4, 2) := dk_25 4 (dk_at dksJ22_put_2_5 5 rfl rfl)
theorem dJ22_put_2_125 : decode cJ22_put_2 125 = .ok (.astore 6, 2) := dk_58 6 (dk_at dksJ22_put_2_5 7 rfl rfl)
theorem dJ22_put_2_127 : decode cJ22_put_2 127 = .ok (.aload 8, 2) := dk_25 8 (dk_at dksJ22_put_2_5 9 rfl rfl)
theorem dJ22_put_2_129 : decode cJ22_put_2 129 = .ok (.aload 4, 2) := dk_25 4 (dk_at dksJ22_put_2_5 11 rfl rfl)
theorem dJ22_put_2_131 : decode cJ22_put_2 131 = .ok (.getfield 105, 3) := dk_180 0 105 (dk_at dksJ22_put_2_5 13 rfl rfl)
theorem dJ22_put_2_134 : decode cJ22_put_2 134 = .ok (.invokeinterface 107 2, 5) := by decide +kernel
theorem dJ22_put_2_139 : decode cJ22_put_2 139 = .ok (.istore 5, 2) := dk_54 5 (dk_at dksJ22_put_2_5 21 rfl rfl)
theorem dJ22_put_2_141 : decode cJ22_put_2 141 = .ok (.iload 5, 2) := dk_21 5 (dk_at dksJ22_put_2_6 0 rfl rfl)
theorem dJ22_put_2_143 : decode cJ22_put_2 143 = .ok (.ifCond .ge 13, 3) := dk_156 0 13 (dk_at dksJ22_put_2_6 2 rfl rfl)
theorem dJ22_put_2_146 : decode cJ22_put_2 146 = .ok (.aload 4, 2) := dk_25 4 (dk_at dksJ22_put_2_6 5 rfl rfl)
theorem dJ22_put_2_148 : decode cJ22_put_2 148 = .ok (.getfield 111, 3) := dk_180 0 111 (dk_at dksJ22_put_2_6 7 rfl rfl)
theorem dJ22_put_2_151 : decode cJ22_put_2 151 = .ok (.astore 4, 2) := dk_58 4 (dk_at dksJ22_put_2_6 10 rfl rfl)
theorem dJ22_put_2_153 : decode cJ22_put_2 153 = .ok (.goto 43, 3) := dk_167 0 43 (dk_at dksJ22_put_2_6 12 rfl rfl)
theorem dJ22_put_2_156 : decode cJ22_put_2 156 = .ok (.iload 5, 2) := dk_21 5 (dk_at dksJ22_put_2_6 15 rfl rfl)
theorem dJ22_put_2_158 : decode cJ22_put_2 158 = .ok (.ifCond .le 13, 3) := dk_158 0 13 (dk_at dksJ22_put_2_6 17 rfl rfl)
theorem dJ22_put_2_161 : decode cJ22_put_2 161 = .ok (.aload 4, 2) := dk_25 4 (dk_at dksJ22_put_2_6 20 rfl rfl)
theorem dJ22_put_2_163 : decode cJ22_put_2 163 = .ok (.getfield 114, 3) := dk_180 0 114 (dk_at dksJ22_put_2_7 0 rfl rfl)
theorem dJ22_put_2_166 : decode cJ22_put_2 166 = .ok (.astore 4, 2) := dk_58 4 (dk_at dksJ22_put_2_7 3 rfl rfl)
theorem dJ22_put_2_168 : decode cJ22_put_2 168 = .ok (.goto 28, 3) := dk_167 0 28 (dk_at dksJ22_put_2_7 5 rfl rfl)
theorem dJ22_put_2_171 : decode cJ22_put_2 171 = .ok (.aload 4, 2) := dk_25 4 (dk_at dksJ22_put_2_7 8 rfl rfl)
theorem dJ22_put_2_173 : decode cJ22_put_2 173 = .ok (.getfield 58, 3) := dk_180 0 58 (dk_at dksJ22_put_2_7 10 rfl rfl)
theorem dJ22_put_2_176 : decode cJ22_put_2 176 = .ok (.astore 9, 2) := dk_58 9 (dk_at dksJ22_put_2_7 13 rfl rfl)
theorem dJ22_put_2_178 : decode cJ22_put_2 178 = .ok (.iload_n 3, 1) := dk_29 (dk_at dksJ22_put_2_7 15 rfl rfl)
theorem dJ22_put_2_179 : decode cJ22_put_2 179 = .ok (.ifCond .ne 8, 3) := dk_154 0 8 (dk_at dksJ22_put_2_7 16 rfl rfl)
theorem dJ22_put_2_182 : decode cJ22_put_2 182 = .ok (.aload 9, 2) := dk_25 9 (dk_at dksJ22_put_2_7 19 rfl rfl)
theorem dJ22_put_2_184 : decode cJ22_put_2 184 = .ok (.ifnonnull 9, 3) := dk_199 0 9 (dk_at dksJ22_put_2_7 21 rfl rfl)
theorem dJ22_put_2_187 : decode cJ22_put_2 187 = .ok (.aload 4, 2) := dk_25 4 (dk_at dksJ22_put_2_8 0 rfl rfl)
theorem dJ22_put_2_189 : decode cJ22_put_2 189 = .ok (.aload_n 2, 1) := dk_44 (dk_at dksJ22_put_2_8 2 rfl rfl)
theorem dJ22_put_2_190 : decode cJ22_put_2 190 = .ok (.putfield 58, 3) := dk_181 0 58 (dk_at dksJ22_put_2_8 3 rfl rfl)
theorem dJ22_put_2_193 : decode cJ22_put_2 193 = .ok (.aload 9, 2) := dk_25 9 (dk_at dksJ22_put_2_8 6 rfl rfl)
theorem dJ22_put_2_195 : decode cJ22_put_2 195 = .ok (.areturn, 1) := dk_176 (dk_at dksJ22_put_2_8 8 rfl rfl)
theorem dJ22_put_2_196 : decode cJ22_put_2 196 = .ok (.aload 4, 2) := dk_25 4 (dk_at dksJ22_put_2_8 9 rfl rfl)
theorem dJ22_put_2_198 : decode cJ22_put_2 198 = .ok (.ifnonnull (-75), 3) := dk_199 255 181 (dk_at dksJ22_put_2_8 11 rfl rfl)
theorem dJ22_put_2_201 : decode cJ22_put_2 201 = .ok (.aload_n 0, 1) := dk_42 (dk_at dksJ22_put_2_8 14 rfl rfl)
theorem dJ22_put_2_202 : decode cJ22_put_2 202 = .ok (.aload_n 1, 1) := dk_43 (dk_at dksJ22_put_2_8 15 rfl rfl)
theorem dJ22_put_2_203 : decode cJ22_put_2 203 = .ok (.aload_n 2, 1) := dk_44 (dk_at dksJ22_put_2_8 16 rfl rfl)
theorem dJ22_put_2_204 : decode cJ22_put_2 204 = .ok (.aload 6, 2) := dk_25 6 (dk_at dksJ22_put_2_8 17 rfl rfl)
theorem dJ22_put_2_206 : decode cJ22_put_2 206 = .ok (.iload 5, 2) := dk_21 5 (dk_at dksJ22_put_2_8 19 rfl rfl)
theorem dJ22_put_2_208 : decode cJ22_put_2 208 = .ok (.ifCond .ge 7, 3) := dk_156 0 7 (dk_at dksJ22_put_2_8 21 rfl rfl)
theorem dJ22_put_2_211 : decode cJ22_put_2 211 = .ok (.iconst 1, 1) := dk_4 (dk_at dksJ22_put_2_9 0 rfl rfl)
theorem dJ22_put_2_212 : decode cJ22_put_2 212 = .ok (.goto 4, 3) := dk_167 0 4 (dk_at dksJ22_put_2_9 1 rfl rfl)
theorem dJ22_put_2_215 : decode cJ22_put_2 215 = .ok (.iconst 0, 1) := dk_3 (dk_at dksJ22_put_2_9 4 rfl rfl)
theorem dJ22_put_2_216 : decode cJ22_put_2 216 = .ok (.invokevirtual 139, 3) := dk_182 0 139 (dk_at dksJ22_put_2_9 5 rfl rfl)
theorem dJ22_put_2_219 : decode cJ22_put_2 219 = .ok (.aconst_null, 1) := dk_1 (dk_at dksJ22_put_2_9 8 rfl rfl)
theorem dJ22_put_2_220 : decode cJ22_put_2 220 = .ok (.areturn, 1) := dk_176 (dk_at dksJ22_put_2_9 9 rfl rfl)
abbrev cJ22_addEntryToEmptyMap : ByteArray := prog_61_method_30_code
def yJ22_addEntryToEmptyMap : MethodName := ⟨RJ22, "addEntryToEmptyMap", "(Ljava/lang/Object;Ljava/lang/Object;)V"⟩
def dkwJ22_addEntryToEmptyMap_1 : List UInt8 := [181, 0, 7, 42, 89, 180, 0, 13, 4, 96, 181, 0, 13, 177]
abbrev dktJ22_addEntryToEmptyMap_1 : List UInt8 := dkwJ22_addEntryToEmptyMap_1 ++ []
def dkwJ22_addEntryToEmptyMap_0 : List UInt8 := [42, 43, 43, 182, 0, 123, 87, 42, 187, 0, 59, 89, 43, 44, 1, 183, 0, 167, 181, 0, 101, 42, 4]
abbrev dktJ22_addEntryToEmptyMap_0 : List UInt8 := dkwJ22_addEntryToEmptyMap_0 ++ dktJ22_addEntryToEmptyMap_1
theorem dksJ22_addEntryToEmptyMap_0 : cJ22_addEntryToEmptyMap.data.toList.drop 0 = dktJ22_addEntryToEmptyMap_0 := by decide +kernel
theorem dksJ22_addEntryToEmptyMap_1 : cJ22_addEntryToEmptyMap.data.toList.drop 23 = dktJ22_addEntryToEmptyMap_1 := dk_seg dksJ22_addEntryToEmptyMap_0 23 rfl rfl
theorem dJ22_addEntryToEmptyMap_0 : decode cJ22_addEntryToEmptyMap 0 = .ok (.aload_n 0, 1) := dk_42 (dk_at dksJ22_addEntryToEmptyMap_0 0 rfl rfl)
theorem dJ22_addEntryToEmptyMap_1 : decode cJ22_addEntryToEmptyMap 1 = .ok (.aload_n 1, 1) := dk_43 (dk_at dksJ22_addEntryToEmptyMap_0 1 rfl rfl)
theorem dJ22_addEntryToEmptyMap_2 : decode cJ22_addEntryToEmptyMap 2 = .ok (.aload_n 1, 1) := dk_43 (dk_at dksJ22_addEntryToEmptyMap_0 2 rfl rfl)
theorem dJ22_addEntryToEmptyMap_3 : decode cJ22_addEntryToEmptyMap 3 = .ok (.invokevirtual 123, 3) := dk_182 0 123 (dk_at dksJ22_addEntryToEmptyMap_0 3 rfl rfl)
theorem dJ22_addEntryToEmptyMap_6 : decode cJ22_addEntryToEmptyMap 6 = .ok (.pop, 1) := dk_87 (dk_at dksJ22_addEntryToEmptyMap_0 6 rfl rfl)
theorem dJ22_addEntryToEmptyMap_7 : decode cJ22_addEntryToEmptyMap 7 = .ok (.aload_n 0, 1) := dk_42 (dk_at dksJ22_addEntryToEmptyMap_0 7 rfl rfl)
theorem dJ22_addEntryToEmptyMap_8 : decode cJ22_addEntryToEmptyMap 8 = .ok (.new 59, 3) := dk_187 0 59 (dk_at dksJ22_addEntryToEmptyMap_0 8 rfl rfl)
theorem dJ22_addEntryToEmptyMap_11 : decode cJ22_addEntryToEmptyMap 11 = .ok (.dup, 1) := dk_89 (dk_at dksJ22_addEntryToEmptyMap_0 11 rfl rfl)
theorem dJ22_addEntryToEmptyMap_12 : decode cJ22_addEntryToEmptyMap 12 = .ok (.aload_n 1, 1) := dk_43 (dk_at dksJ22_addEntryToEmptyMap_0 12 rfl rfl)
theorem dJ22_addEntryToEmptyMap_13 : decode cJ22_addEntryToEmptyMap 13 = .ok (.aload_n 2, 1) := dk_44 (dk_at dksJ22_addEntryToEmptyMap_0 13 rfl rfl)
theorem dJ22_addEntryToEmptyMap_14 : decode cJ22_addEntryToEmptyMap 14 = .ok (.aconst_null, 1) := dk_1 (dk_at dksJ22_addEntryToEmptyMap_0 14 rfl rfl)
theorem dJ22_addEntryToEmptyMap_15 : decode cJ22_addEntryToEmptyMap 15 = .ok (.invokespecial 167, 3) := dk_183 0 167 (dk_at dksJ22_addEntryToEmptyMap_0 15 rfl rfl)
theorem dJ22_addEntryToEmptyMap_18 : decode cJ22_addEntryToEmptyMap 18 = .ok (.putfield 101, 3) := dk_181 0 101 (dk_at dksJ22_addEntryToEmptyMap_0 18 rfl rfl)
theorem dJ22_addEntryToEmptyMap_21 : decode cJ22_addEntryToEmptyMap 21 = .ok (.aload_n 0, 1) := dk_42 (dk_at dksJ22_addEntryToEmptyMap_0 21 rfl rfl)
theorem dJ22_addEntryToEmptyMap_22 : decode cJ22_addEntryToEmptyMap 22 = .ok (.iconst 1, 1) := dk_4 (dk_at dksJ22_addEntryToEmptyMap_0 22 rfl rfl)
theorem dJ22_addEntryToEmptyMap_23 : decode cJ22_addEntryToEmptyMap 23 = .ok (.putfield 7, 3) := dk_181 0 7 (dk_at dksJ22_addEntryToEmptyMap_1 0 rfl rfl)
theorem dJ22_addEntryToEmptyMap_26 : decode cJ22_addEntryToEmptyMap 26 = .ok (.aload_n 0, 1) := dk_42 (dk_at dksJ22_addEntryToEmptyMap_1 3 rfl rfl)
theorem dJ22_addEntryToEmptyMap_27 : decode cJ22_addEntryToEmptyMap 27 = .ok (.dup, 1) := dk_89 (dk_at dksJ22_addEntryToEmptyMap_1 4 rfl rfl)
theorem dJ22_addEntryToEmptyMap_28 : decode cJ22_addEntryToEmptyMap 28 = .ok (.getfield 13, 3) := dk_180 0 13 (dk_at dksJ22_addEntryToEmptyMap_1 5 rfl rfl)
theorem dJ22_addEntryToEmptyMap_31 : decode cJ22_addEntryToEmptyMap 31 = .ok (.iconst 1, 1) := dk_4 (dk_at dksJ22_addEntryToEmptyMap_1 8 rfl rfl)
theorem dJ22_addEntryToEmptyMap_32 : decode cJ22_addEntryToEmptyMap 32 = .ok (.iadd, 1) := dk_96 (dk_at dksJ22_addEntryToEmptyMap_1 9 rfl rfl)
theorem dJ22_addEntryToEmptyMap_33 : decode cJ22_addEntryToEmptyMap 33 = .ok (.putfield 13, 3) := dk_181 0 13 (dk_at dksJ22_addEntryToEmptyMap_1 10 rfl rfl)
theorem dJ22_addEntryToEmptyMap_36 : decode cJ22_addEntryToEmptyMap 36 = .ok (.return_, 1) := dk_177 (dk_at dksJ22_addEntryToEmptyMap_1 13 rfl rfl)
abbrev cJ22_compare : ByteArray := prog_61_method_67_code
def yJ22_compare : MethodName := ⟨RJ22, "compare", "(Ljava/lang/Object;Ljava/lang/Object;)I"⟩
def dkwJ22_compare_1 : List UInt8 := [43, 44, 185, 0, 117, 3, 0, 172]
abbrev dktJ22_compare_1 : List UInt8 := dkwJ22_compare_1 ++ []
def dkwJ22_compare_0 : List UInt8 := [42, 180, 0, 16, 199, 0, 16, 43, 192, 0, 99, 44, 185, 0, 107, 2, 0, 167, 0, 14, 42, 180, 0, 16]
abbrev dktJ22_compare_0 : List UInt8 := dkwJ22_compare_0 ++ dktJ22_compare_1
theorem dksJ22_compare_0 : cJ22_compare.data.toList.drop 0 = dktJ22_compare_0 := by decide +kernel
theorem dksJ22_compare_1 : cJ22_compare.data.toList.drop 24 = dktJ22_compare_1 := dk_seg dksJ22_compare_0 24 rfl rfl
theorem dJ22_compare_0 : decode cJ22_compare 0 = .ok (.aload_n 0, 1) := dk_42 (dk_at dksJ22_compare_0 0 rfl rfl)
theorem dJ22_compare_1 : decode cJ22_compare 1 = .ok (.getfield 16, 3) := dk_180 0 16 (dk_at dksJ22_compare_0 1 rfl rfl)
theorem dJ22_compare_4 : decode cJ22_compare 4 = .ok (.ifnonnull 16, 3) := dk_199 0 16 (dk_at dksJ22_compare_0 4 rfl rfl)
theorem dJ22_compare_7 : decode cJ22_compare 7 = .ok (.aload_n 1, 1) := dk_43 (dk_at dksJ22_compare_0 7 rfl rfl)
theorem dJ22_compare_8 : decode cJ22_compare 8 = .ok (.checkcast 99, 3) := dk_192 0 99 (dk_at dksJ22_compare_0 8 rfl rfl)
theorem dJ22_compare_11 : decode cJ22_compare 11 = .ok (.aload_n 2, 1) := dk_44 (dk_at dksJ22_compare_0 11 rfl rfl)
theorem dJ22_compare_12 : decode cJ22_compare 12 = .ok (.invokeinterface 107 2, 5) := by decide +kernel
theorem dJ22_compare_17 : decode cJ22_compare 17 = .ok (.goto 14, 3) := dk_167 0 14 (dk_at dksJ22_compare_0 17 rfl rfl)
theorem dJ22_compare_20 : decode cJ22_compare 20 = .ok (.aload_n 0, 1) := dk_42 (dk_at dksJ22_compare_0 20 rfl rfl)
theorem dJ22_compare_21 : decode cJ22_compare 21 = .ok (.getfield 16, 3) := dk_180 0 16 (dk_at dksJ22_compare_0 21 rfl rfl)
theorem dJ22_compare_24 : decode cJ22_compare 24 = .ok (.aload_n 1, 1) := dk_43 (dk_at dksJ22_compare_1 0 rfl rfl)
theorem dJ22_compare_25 : decode cJ22_compare 25 = .ok (.aload_n 2, 1) := dk_44 (dk_at dksJ22_compare_1 1 rfl rfl)
theorem dJ22_compare_26 : decode cJ22_compare 26 = .ok (.invokeinterface 117 3, 5) := by decide +kernel
theorem dJ22_compare_31 : decode cJ22_compare 31 = .ok (.ireturn, 1) := dk_172 (dk_at dksJ22_compare_1 7 rfl rfl)
abbrev cJ22_addEntry : ByteArray := prog_61_method_29_code
def yJ22_addEntry : MethodName := ⟨RJ22, "addEntry", "(Ljava/lang/Object;Ljava/lang/Object;Ljava/util/TreeMap$Entry;Z)V"⟩
def dkwJ22_addEntry_2 : List UInt8 := [181, 0, 7, 42, 89, 180, 0, 13, 4, 96, 181, 0, 13, 177]
abbrev dktJ22_addEntry_2 : List UInt8 := dkwJ22_addEntry_2 ++ []
def dkwJ22_addEntry_1 : List UInt8 := [167, 0, 9, 45, 25, 5, 181, 0, 114, 42, 25, 5, 182, 0, 170, 42, 89, 180, 0, 7, 4, 96]
abbrev dktJ22_addEntry_1 : List UInt8 := dkwJ22_addEntry_1 ++ dktJ22_addEntry_2
def dkwJ22_addEntry_0 : List UInt8 := [187, 0, 59, 89, 43, 44, 45, 183, 0, 167, 58, 5, 21, 4, 153, 0, 12, 45, 25, 5, 181, 0, 111]
abbrev dktJ22_addEntry_0 : List UInt8 := dkwJ22_addEntry_0 ++ dktJ22_addEntry_1
theorem dksJ22_addEntry_0 : cJ22_addEntry.data.toList.drop 0 = dktJ22_addEntry_0 := by decide +kernel
theorem dksJ22_addEntry_1 : cJ22_addEntry.data.toList.drop 23 = dktJ22_addEntry_1 := dk_seg dksJ22_addEntry_0 23 rfl rfl
theorem dksJ22_addEntry_2 : cJ22_addEntry.data.toList.drop 45 = dktJ22_addEntry_2 := dk_seg dksJ22_addEntry_1 22 rfl rfl
theorem dJ22_addEntry_0 : decode cJ22_addEntry 0 = .ok (.new 59, 3) := dk_187 0 59 (dk_at dksJ22_addEntry_0 0 rfl rfl)
theorem dJ22_addEntry_3 : decode cJ22_addEntry 3 = .ok (.dup, 1) := dk_89 (dk_at dksJ22_addEntry_0 3 rfl rfl)
theorem dJ22_addEntry_4 : decode cJ22_addEntry 4 = .ok (.aload_n 1, 1) := dk_43 (dk_at dksJ22_addEntry_0 4 rfl rfl)
theorem dJ22_addEntry_5 : decode cJ22_addEntry 5 = .ok (.aload_n 2, 1) := dk_44 (dk_at dksJ22_addEntry_0 5 rfl rfl)
theorem dJ22_addEntry_6 : decode cJ22_addEntry 6 = .ok (.aload_n 3, 1) := dk_45 (dk_at dksJ22_addEntry_0 6 rfl rfl)
theorem dJ22_addEntry_7 : decode cJ22_addEntry 7 = .ok (.invokespecial 167, 3) := dk_183 0 167 (dk_at dksJ22_addEntry_0 7 rfl rfl)
theorem dJ22_addEntry_10 : decode cJ22_addEntry 10 = .ok (.astore 5, 2) := dk_58 5 (dk_at dksJ22_addEntry_0 10 rfl rfl)
theorem dJ22_addEntry_12 : decode cJ22_addEntry 12 = .ok (.iload 4, 2) := dk_21 4 (dk_at dksJ22_addEntry_0 12 rfl rfl)
theorem dJ22_addEntry_14 : decode cJ22_addEntry 14 = .ok (.ifCond .eq 12, 3) := dk_153 0 12 (dk_at dksJ22_addEntry_0 14 rfl rfl)
theorem dJ22_addEntry_17 : decode cJ22_addEntry 17 = .ok (.aload_n 3, 1) := dk_45 (dk_at dksJ22_addEntry_0 17 rfl rfl)
theorem dJ22_addEntry_18 : decode cJ22_addEntry 18 = .ok (.aload 5, 2) := dk_25 5 (dk_at dksJ22_addEntry_0 18 rfl rfl)
theorem dJ22_addEntry_20 : decode cJ22_addEntry 20 = .ok (.putfield 111, 3) := dk_181 0 111 (dk_at dksJ22_addEntry_0 20 rfl rfl)
theorem dJ22_addEntry_23 : decode cJ22_addEntry 23 = .ok (.goto 9, 3) := dk_167 0 9 (dk_at dksJ22_addEntry_1 0 rfl rfl)
theorem dJ22_addEntry_26 : decode cJ22_addEntry 26 = .ok (.aload_n 3, 1) := dk_45 (dk_at dksJ22_addEntry_1 3 rfl rfl)
theorem dJ22_addEntry_27 : decode cJ22_addEntry 27 = .ok (.aload 5, 2) := dk_25 5 (dk_at dksJ22_addEntry_1 4 rfl rfl)
theorem dJ22_addEntry_29 : decode cJ22_addEntry 29 = .ok (.putfield 114, 3) := dk_181 0 114 (dk_at dksJ22_addEntry_1 6 rfl rfl)
theorem dJ22_addEntry_32 : decode cJ22_addEntry 32 = .ok (.aload_n 0, 1) := dk_42 (dk_at dksJ22_addEntry_1 9 rfl rfl)
theorem dJ22_addEntry_33 : decode cJ22_addEntry 33 = .ok (.aload 5, 2) := dk_25 5 (dk_at dksJ22_addEntry_1 10 rfl rfl)
theorem dJ22_addEntry_35 : decode cJ22_addEntry 35 = .ok (.invokevirtual 170, 3) := dk_182 0 170 (dk_at dksJ22_addEntry_1 12 rfl rfl)
theorem dJ22_addEntry_38 : decode cJ22_addEntry 38 = .ok (.aload_n 0, 1) := dk_42 (dk_at dksJ22_addEntry_1 15 rfl rfl)
theorem dJ22_addEntry_39 : decode cJ22_addEntry 39 = .ok (.dup, 1) := dk_89 (dk_at dksJ22_addEntry_1 16 rfl rfl)
theorem dJ22_addEntry_40 : decode cJ22_addEntry 40 = .ok (.getfield 7, 3) := dk_180 0 7 (dk_at dksJ22_addEntry_1 17 rfl rfl)
theorem dJ22_addEntry_43 : decode cJ22_addEntry 43 = .ok (.iconst 1, 1) := dk_4 (dk_at dksJ22_addEntry_1 20 rfl rfl)
theorem dJ22_addEntry_44 : decode cJ22_addEntry 44 = .ok (.iadd, 1) := dk_96 (dk_at dksJ22_addEntry_1 21 rfl rfl)
theorem dJ22_addEntry_45 : decode cJ22_addEntry 45 = .ok (.putfield 7, 3) := dk_181 0 7 (dk_at dksJ22_addEntry_2 0 rfl rfl)
theorem dJ22_addEntry_48 : decode cJ22_addEntry 48 = .ok (.aload_n 0, 1) := dk_42 (dk_at dksJ22_addEntry_2 3 rfl rfl)
theorem dJ22_addEntry_49 : decode cJ22_addEntry 49 = .ok (.dup, 1) := dk_89 (dk_at dksJ22_addEntry_2 4 rfl rfl)
theorem dJ22_addEntry_50 : decode cJ22_addEntry 50 = .ok (.getfield 13, 3) := dk_180 0 13 (dk_at dksJ22_addEntry_2 5 rfl rfl)
theorem dJ22_addEntry_53 : decode cJ22_addEntry 53 = .ok (.iconst 1, 1) := dk_4 (dk_at dksJ22_addEntry_2 8 rfl rfl)
theorem dJ22_addEntry_54 : decode cJ22_addEntry 54 = .ok (.iadd, 1) := dk_96 (dk_at dksJ22_addEntry_2 9 rfl rfl)
theorem dJ22_addEntry_55 : decode cJ22_addEntry 55 = .ok (.putfield 13, 3) := dk_181 0 13 (dk_at dksJ22_addEntry_2 10 rfl rfl)
theorem dJ22_addEntry_58 : decode cJ22_addEntry 58 = .ok (.return_, 1) := dk_177 (dk_at dksJ22_addEntry_2 13 rfl rfl)
abbrev cJ22_fixAfterInsertion : ByteArray := prog_61_method_83_code
def yJ22_fixAfterInsertion : MethodName := ⟨RJ22, "fixAfterInsertion", "(Ljava/util/TreeMap$Entry;)V"⟩
def dkwJ22_fixAfterInsertion_11 : List UInt8 := [42, 180, 0, 101, 4, 181, 1, 34, 177]
abbrev dktJ22_fixAfterInsertion_11 : List UInt8 := dkwJ22_fixAfterInsertion_11 ++ []
def dkwJ22_fixAfterInsertion_10 : List UInt8 := [184, 1, 38, 184, 1, 38, 3, 184, 1, 51, 42, 43, 184, 1, 38, 184, 1, 38, 182, 1, 55, 167, 255, 6]
abbrev dktJ22_fixAfterInsertion_10 : List UInt8 := dkwJ22_fixAfterInsertion_10 ++ dktJ22_fixAfterInsertion_11
def dkwJ22_fixAfterInsertion_9 : List UInt8 := [166, 0, 13, 43, 184, 1, 38, 76, 42, 43, 182, 1, 58, 43, 184, 1, 38, 4, 184, 1, 51, 43]
abbrev dktJ22_fixAfterInsertion_9 : List UInt8 := dkwJ22_fixAfterInsertion_9 ++ dktJ22_fixAfterInsertion_10
def dkwJ22_fixAfterInsertion_8 : List UInt8 := [184, 1, 51, 43, 184, 1, 38, 184, 1, 38, 76, 167, 0, 54, 43, 43, 184, 1, 38, 184, 1, 41]
abbrev dktJ22_fixAfterInsertion_8 : List UInt8 := dkwJ22_fixAfterInsertion_8 ++ dktJ22_fixAfterInsertion_9
def dkwJ22_fixAfterInsertion_7 : List UInt8 := [154, 0, 38, 43, 184, 1, 38, 4, 184, 1, 51, 44, 4, 184, 1, 51, 43, 184, 1, 38, 184, 1, 38, 3]
abbrev dktJ22_fixAfterInsertion_7 : List UInt8 := dkwJ22_fixAfterInsertion_7 ++ dktJ22_fixAfterInsertion_8
def dkwJ22_fixAfterInsertion_6 : List UInt8 := [184, 1, 38, 182, 1, 58, 167, 255, 113, 43, 184, 1, 38, 184, 1, 38, 184, 1, 41, 77, 44, 184, 1, 47]
abbrev dktJ22_fixAfterInsertion_6 : List UInt8 := dkwJ22_fixAfterInsertion_6 ++ dktJ22_fixAfterInsertion_7
def dkwJ22_fixAfterInsertion_5 : List UInt8 := [43, 184, 1, 38, 4, 184, 1, 51, 43, 184, 1, 38, 184, 1, 38, 3, 184, 1, 51, 42, 43, 184, 1, 38]
abbrev dktJ22_fixAfterInsertion_5 : List UInt8 := dkwJ22_fixAfterInsertion_5 ++ dktJ22_fixAfterInsertion_6
def dkwJ22_fixAfterInsertion_4 : List UInt8 := [167, 0, 54, 43, 43, 184, 1, 38, 184, 1, 44, 166, 0, 13, 43, 184, 1, 38, 76, 42, 43, 182, 1, 55]
abbrev dktJ22_fixAfterInsertion_4 : List UInt8 := dkwJ22_fixAfterInsertion_4 ++ dktJ22_fixAfterInsertion_5
def dkwJ22_fixAfterInsertion_3 : List UInt8 := [184, 1, 51, 43, 184, 1, 38, 184, 1, 38, 3, 184, 1, 51, 43, 184, 1, 38, 184, 1, 38, 76]
abbrev dktJ22_fixAfterInsertion_3 : List UInt8 := dkwJ22_fixAfterInsertion_3 ++ dktJ22_fixAfterInsertion_4
def dkwJ22_fixAfterInsertion_2 : List UInt8 := [184, 1, 38, 184, 1, 44, 77, 44, 184, 1, 47, 154, 0, 38, 43, 184, 1, 38, 4, 184, 1, 51, 44, 4]
abbrev dktJ22_fixAfterInsertion_2 : List UInt8 := dkwJ22_fixAfterInsertion_2 ++ dktJ22_fixAfterInsertion_3
def dkwJ22_fixAfterInsertion_1 : List UInt8 := [154, 0, 234, 43, 184, 1, 38, 43, 184, 1, 38, 184, 1, 38, 184, 1, 41, 166, 0, 110, 43, 184, 1, 38]
abbrev dktJ22_fixAfterInsertion_1 : List UInt8 := dkwJ22_fixAfterInsertion_1 ++ dktJ22_fixAfterInsertion_2
def dkwJ22_fixAfterInsertion_0 : List UInt8 := [43, 3, 181, 1, 34, 43, 198, 0, 252, 43, 42, 180, 0, 101, 165, 0, 244, 43, 180, 0, 124, 180, 1, 34]
abbrev dktJ22_fixAfterInsertion_0 : List UInt8 := dkwJ22_fixAfterInsertion_0 ++ dktJ22_fixAfterInsertion_1
theorem dksJ22_fixAfterInsertion_0 : cJ22_fixAfterInsertion.data.toList.drop 0 = dktJ22_fixAfterInsertion_0 := by decide +kernel
theorem dksJ22_fixAfterInsertion_1 : cJ22_fixAfterInsertion.data.toList.drop 24 = dktJ22_fixAfterInsertion_1 := dk_seg dksJ22_fixAfterInsertion_0 24 rfl rfl
theorem dksJ22_fixAfterInsertion_2 : cJ22_fixAfterInsertion.data.toList.drop 48 = dktJ22_fixAfterInsertion_2 := dk_seg dksJ22_fixAfterInsertion_1 24 rfl rfl
theorem dksJ22_fixAfterInsertion_3 : cJ22_fixAfterInsertion.data.toList.drop 72 = dktJ22_fixAfterInsertion_3 := dk_seg dksJ22_fixAfterInsertion_2 24 rfl rfl
theorem dksJ22_fixAfterInsertion_4 : cJ22_fixAfterInsertion.data.toList.drop 94 = dktJ22_fixAfterInsertion_4 := dk_seg dksJ22_fixAfterInsertion_3 22 rfl rfl
theorem dksJ22_fixAfterInsertion_5 : cJ22_fixAfterInsertion.data.toList.drop 118 = dktJ22_fixAfterInsertion_5 := dk_seg dksJ22_fixAfterInsertion_4 24 rfl rfl
theorem dksJ22_fixAfterInsertion_6 : cJ22_fixAfterInsertion.data.toList.drop 142 = dktJ22_fixAfterInsertion_6 := dk_seg dksJ22_fixAfterInsertion_5 24 rfl rfl
theorem dksJ22_fixAfterInsertion_7 : cJ22_fixAfterInsertion.data.toList.drop 166 = dktJ22_fixAfterInsertion_7 := dk_seg dksJ22_fixAfterInsertion_6 24 rfl rfl
theorem dksJ22_fixAfterInsertion_8 : cJ22_fixAfterInsertion.data.toList.drop 190 = dktJ22_fixAfterInsertion_8 := dk_seg dksJ22_fixAfterInsertion_7 24 rfl rfl
theorem dksJ22_fixAfterInsertion_9 : cJ22_fixAfterInsertion.data.toList.drop 212 = dktJ22_fixAfterInsertion_9 := dk_seg dksJ22_fixAfterInsertion_8 22 rfl rfl
theorem dksJ22_fixAfterInsertion_10 : cJ22_fixAfterInsertion.data.toList.drop 234 = dktJ22_fixAfterInsertion_10 := dk_seg dksJ22_fixAfterInsertion_9 22 rfl rfl
theorem dksJ22_fixAfterInsertion_11 : cJ22_fixAfterInsertion.data.toList.drop 258 = dktJ22_fixAfterInsertion_11 := dk_seg dksJ22_fixAfterInsertion_10 24 rfl rfl
theorem dJ22_fixAfterInsertion_0 : decode cJ22_fixAfterInsertion 0 = .ok (.aload_n 1, 1) := dk_43 (dk_at dksJ22_fixAfterInsertion_0 0 rfl rfl)
theorem dJ22_fixAfterInsertion_1 : decode cJ22_fixAfterInsertion 1 = .ok (.iconst 0, 1) := dk_3 (dk_at dksJ22_fixAfterInsertion_0 1 rfl rfl)
theorem dJ22_fixAfterInsertion_2 : decode cJ22_fixAfterInsertion 2 = .ok (.putfield 290, 3) := dk_181 1 34 (dk_at dksJ22_fixAfterInsertion_0 2 rfl rfl)
theorem dJ22_fixAfterInsertion_5 : decode cJ22_fixAfterInsertion 5 = .ok (.aload_n 1, 1) := dk_43 (dk_at dksJ22_fixAfterInsertion_0 5 rfl rfl)
theorem dJ22_fixAfterInsertion_6 : decode cJ22_fixAfterInsertion 6 = .ok (.ifnull 252, 3) := dk_198 0 252 (dk_at dksJ22_fixAfterInsertion_0 6 rfl rfl)
theorem dJ22_fixAfterInsertion_9 : decode cJ22_fixAfterInsertion 9 = .ok (.aload_n 1, 1) := dk_43 (dk_at dksJ22_fixAfterInsertion_0 9 rfl rfl)
theorem dJ22_fixAfterInsertion_10 : decode cJ22_fixAfterInsertion 10 = .ok (.aload_n 0, 1) := dk_42 (dk_at dksJ22_fixAfterInsertion_0 10 rfl rfl)
theorem dJ22_fixAfterInsertion_11 : decode cJ22_fixAfterInsertion 11 = .ok (.getfield 101, 3) := dk_180 0 101 (dk_at dksJ22_fixAfterInsertion_0 11 rfl rfl)
theorem dJ22_fixAfterInsertion_14 : decode cJ22_fixAfterInsertion 14 = .ok (.if_acmp .eq 244, 3) := dk_165 0 244 (dk_at dksJ22_fixAfterInsertion_0 14 rfl rfl)
theorem dJ22_fixAfterInsertion_17 : decode cJ22_fixAfterInsertion 17 = .ok (.aload_n 1, 1) := dk_43 (dk_at dksJ22_fixAfterInsertion_0 17 rfl rfl)
theorem dJ22_fixAfterInsertion_18 : decode cJ22_fixAfterInsertion 18 = .ok (.getfield 124, 3) := dk_180 0 124 (dk_at dksJ22_fixAfterInsertion_0 18 rfl rfl)
theorem dJ22_fixAfterInsertion_21 : decode cJ22_fixAfterInsertion 21 = .ok (.getfield 290, 3) := dk_180 1 34 (dk_at dksJ22_fixAfterInsertion_0 21 rfl rfl)
theorem dJ22_fixAfterInsertion_24 : decode cJ22_fixAfterInsertion 24 = .ok (.ifCond .ne 234, 3) := dk_154 0 234 (dk_at dksJ22_fixAfterInsertion_1 0 rfl rfl)
theorem dJ22_fixAfterInsertion_27 : decode cJ22_fixAfterInsertion 27 = .ok (.aload_n 1, 1) := dk_43 (dk_at dksJ22_fixAfterInsertion_1 3 rfl rfl)
theorem dJ22_fixAfterInsertion_28 : decode cJ22_fixAfterInsertion 28 = .ok (.invokestatic 294, 3) := dk_184 1 38 (dk_at dksJ22_fixAfterInsertion_1 4 rfl rfl)
theorem dJ22_fixAfterInsertion_31 : decode cJ22_fixAfterInsertion 31 = .ok (.aload_n 1, 1) := dk_43 (dk_at dksJ22_fixAfterInsertion_1 7 rfl rfl)
theorem dJ22_fixAfterInsertion_32 : decode cJ22_fixAfterInsertion 32 = .ok (.invokestatic 294, 3) := dk_184 1 38 (dk_at dksJ22_fixAfterInsertion_1 8 rfl rfl)
theorem dJ22_fixAfterInsertion_35 : decode cJ22_fixAfterInsertion 35 = .ok (.invokestatic 294, 3) := dk_184 1 38 (dk_at dksJ22_fixAfterInsertion_1 11 rfl rfl)
theorem dJ22_fixAfterInsertion_38 : decode cJ22_fixAfterInsertion 38 = .ok (.invokestatic 297, 3) := dk_184 1 41 (dk_at dksJ22_fixAfterInsertion_1 14 rfl rfl)
theorem dJ22_fixAfterInsertion_41 : decode cJ22_fixAfterInsertion 41 = .ok (.if_acmp .ne 110, 3) := dk_166 0 110 (dk_at dksJ22_fixAfterInsertion_1 17 rfl rfl)
theorem dJ22_fixAfterInsertion_44 : decode cJ22_fixAfterInsertion 44 = .ok (.aload_n 1, 1) := dk_43 (dk_at dksJ22_fixAfterInsertion_1 20 rfl rfl)
theorem dJ22_fixAfterInsertion_45 : decode cJ22_fixAfterInsertion 45 = .ok (.invokestatic 294, 3) := dk_184 1 38 (dk_at dksJ22_fixAfterInsertion_1 21 rfl rfl)
theorem dJ22_fixAfterInsertion_48 : decode cJ22_fixAfterInsertion 48 = .ok (.invokestatic 294, 3) := dk_184 1 38 (dk_at dksJ22_fixAfterInsertion_2 0 rfl rfl)
theorem dJ22_fixAfterInsertion_51 : decode cJ22_fixAfterInsertion 51 = .ok (.invokestatic 300, 3) := dk_184 1 44 (dk_at dksJ22_fixAfterInsertion_2 3 rfl rfl)
theorem dJ22_fixAfterInsertion_54 : decode cJ22_fixAfterInsertion 54 = .ok (.astore_n 2, 1) := dk_77 (dk_at dksJ22_fixAfterInsertion_2 6 rfl rfl)
theorem dJ22_fixAfterInsertion_55 : decode cJ22_fixAfterInsertion 55 = .ok (.aload_n 2, 1) := dk_44 (dk_at dksJ22_fixAfterInsertion_2 7 rfl rfl)
theorem dJ22_fixAfterInsertion_56 : decode cJ22_fixAfterInsertion 56 = .ok (.invokestatic 303, 3) := dk_184 1 47 (dk_at dksJ22_fixAfterInsertion_2 8 rfl rfl)
theorem dJ22_fixAfterInsertion_59 : decode cJ22_fixAfterInsertion 59 = .ok (.ifCond .ne 38, 3) := dk_154 0 38 (dk_at dksJ22_fixAfterInsertion_2 11 rfl rfl)
theorem dJ22_fixAfterInsertion_62 : decode cJ22_fixAfterInsertion 62 = .ok (.aload_n 1, 1) := dk_43 (dk_at dksJ22_fixAfterInsertion_2 14 rfl rfl)
theorem dJ22_fixAfterInsertion_63 : decode cJ22_fixAfterInsertion 63 = .ok (.invokestatic 294, 3) := dk_184 1 38 (dk_at dksJ22_fixAfterInsertion_2 15 rfl rfl)
theorem dJ22_fixAfterInsertion_66 : decode cJ22_fixAfterInsertion 66 = .ok (.iconst 1, 1) := dk_4 (dk_at dksJ22_fixAfterInsertion_2 18 rfl rfl)
theorem dJ22_fixAfterInsertion_67 : decode cJ22_fixAfterInsertion 67 = .ok (.invokestatic 307, 3) := dk_184 1 51 (dk_at dksJ22_fixAfterInsertion_2 19 rfl rfl)
theorem dJ22_fixAfterInsertion_70 : decode cJ22_fixAfterInsertion 70 = .ok (.aload_n 2, 1) := dk_44 (dk_at dksJ22_fixAfterInsertion_2 22 rfl rfl)
theorem dJ22_fixAfterInsertion_71 : decode cJ22_fixAfterInsertion 71 = .ok (.iconst 1, 1) := dk_4 (dk_at dksJ22_fixAfterInsertion_2 23 rfl rfl)
theorem dJ22_fixAfterInsertion_72 : decode cJ22_fixAfterInsertion 72 = .ok (.invokestatic 307, 3) := dk_184 1 51 (dk_at dksJ22_fixAfterInsertion_3 0 rfl rfl)
theorem dJ22_fixAfterInsertion_75 : decode cJ22_fixAfterInsertion 75 = .ok (.aload_n 1, 1) := dk_43 (dk_at dksJ22_fixAfterInsertion_3 3 rfl rfl)
theorem dJ22_fixAfterInsertion_76 : decode cJ22_fixAfterInsertion 76 = .ok (.invokestatic 294, 3) := dk_184 1 38 (dk_at dksJ22_fixAfterInsertion_3 4 rfl rfl)
theorem dJ22_fixAfterInsertion_79 : decode cJ22_fixAfterInsertion 79 = .ok (.invokestatic 294, 3) := dk_184 1 38 (dk_at dksJ22_fixAfterInsertion_3 7 rfl rfl)
theorem dJ22_fixAfterInsertion_82 : decode cJ22_fixAfterInsertion 82 = .ok (.iconst 0, 1) := dk_3 (dk_at dksJ22_fixAfterInsertion_3 10 rfl rfl)
theorem dJ22_fixAfterInsertion_83 : decode cJ22_fixAfterInsertion 83 = .ok (.invokestatic 307, 3) := dk_184 1 51 (dk_at dksJ22_fixAfterInsertion_3 11 rfl rfl)
theorem dJ22_fixAfterInsertion_86 : decode cJ22_fixAfterInsertion 86 = .ok (.aload_n 1, 1) := dk_43 (dk_at dksJ22_fixAfterInsertion_3 14 rfl rfl)
theorem dJ22_fixAfterInsertion_87 : decode cJ22_fixAfterInsertion 87 = .ok (.invokestatic 294, 3) := dk_184 1 38 (dk_at dksJ22_fixAfterInsertion_3 15 rfl rfl)
theorem dJ22_fixAfterInsertion_90 : decode cJ22_fixAfterInsertion 90 = .ok (.invokestatic 294, 3) := dk_184 1 38 (dk_at dksJ22_fixAfterInsertion_3 18 rfl rfl)
theorem dJ22_fixAfterInsertion_93 : decode cJ22_fixAfterInsertion 93 = .ok (.astore_n 1, 1) := dk_76 (dk_at dksJ22_fixAfterInsertion_3 21 rfl rfl)
theorem dJ22_fixAfterInsertion_94 : decode cJ22_fixAfterInsertion 94 = .ok (.goto 54, 3) := dk_167 0 54 (dk_at dksJ22_fixAfterInsertion_4 0 rfl rfl)
theorem dJ22_fixAfterInsertion_97 : decode cJ22_fixAfterInsertion 97 = .ok (.aload_n 1, 1) := dk_43 (dk_at dksJ22_fixAfterInsertion_4 3 rfl rfl)
theorem dJ22_fixAfterInsertion_98 : decode cJ22_fixAfterInsertion 98 = .ok (.aload_n 1, 1) := dk_43 (dk_at dksJ22_fixAfterInsertion_4 4 rfl rfl)
theorem dJ22_fixAfterInsertion_99 : decode cJ22_fixAfterInsertion 99 = .ok (.invokestatic 294, 3) := dk_184 1 38 (dk_at dksJ22_fixAfterInsertion_4 5 rfl rfl)
theorem dJ22_fixAfterInsertion_102 : decode cJ22_fixAfterInsertion 102 = .ok (.invokestatic 300, 3) := dk_184 1 44 (dk_at dksJ22_fixAfterInsertion_4 8 rfl rfl)
theorem dJ22_fixAfterInsertion_105 : decode cJ22_fixAfterInsertion 105 = .ok (.if_acmp .ne 13, 3) := dk_166 0 13 (dk_at dksJ22_fixAfterInsertion_4 11 rfl rfl)
theorem dJ22_fixAfterInsertion_108 : decode cJ22_fixAfterInsertion 108 = .ok (.aload_n 1, 1) := dk_43 (dk_at dksJ22_fixAfterInsertion_4 14 rfl rfl)
theorem dJ22_fixAfterInsertion_109 : decode cJ22_fixAfterInsertion 109 = .ok (.invokestatic 294, 3) := dk_184 1 38 (dk_at dksJ22_fixAfterInsertion_4 15 rfl rfl)
theorem dJ22_fixAfterInsertion_112 : decode cJ22_fixAfterInsertion 112 = .ok (.astore_n 1, 1) := dk_76 (dk_at dksJ22_fixAfterInsertion_4 18 rfl rfl)
theorem dJ22_fixAfterInsertion_113 : decode cJ22_fixAfterInsertion 113 = .ok (.aload_n 0, 1) := dk_42 (dk_at dksJ22_fixAfterInsertion_4 19 rfl rfl)
theorem dJ22_fixAfterInsertion_114 : decode cJ22_fixAfterInsertion 114 = .ok (.aload_n 1, 1) := dk_43 (dk_at dksJ22_fixAfterInsertion_4 20 rfl rfl)
theorem dJ22_fixAfterInsertion_115 : decode cJ22_fixAfterInsertion 115 = .ok (.invokevirtual 311, 3) := dk_182 1 55 (dk_at dksJ22_fixAfterInsertion_4 21 rfl rfl)
theorem dJ22_fixAfterInsertion_118 : decode cJ22_fixAfterInsertion 118 = .ok (.aload_n 1, 1) := dk_43 (dk_at dksJ22_fixAfterInsertion_5 0 rfl rfl)
theorem dJ22_fixAfterInsertion_119 : decode cJ22_fixAfterInsertion 119 = .ok (.invokestatic 294, 3) := dk_184 1 38 (dk_at dksJ22_fixAfterInsertion_5 1 rfl rfl)
theorem dJ22_fixAfterInsertion_122 : decode cJ22_fixAfterInsertion 122 = .ok (.iconst 1, 1) := dk_4 (dk_at dksJ22_fixAfterInsertion_5 4 rfl rfl)
theorem dJ22_fixAfterInsertion_123 : decode cJ22_fixAfterInsertion 123 = .ok (.invokestatic 307, 3) := dk_184 1 51 (dk_at dksJ22_fixAfterInsertion_5 5 rfl rfl)
theorem dJ22_fixAfterInsertion_126 : decode cJ22_fixAfterInsertion 126 = .ok (.aload_n 1, 1) := dk_43 (dk_at dksJ22_fixAfterInsertion_5 8 rfl rfl)
theorem dJ22_fixAfterInsertion_127 : decode cJ22_fixAfterInsertion 127 = .ok (.invokestatic 294, 3) := dk_184 1 38 (dk_at dksJ22_fixAfterInsertion_5 9 rfl rfl)
theorem dJ22_fixAfterInsertion_130 : decode cJ22_fixAfterInsertion 130 = .ok (.invokestatic 294, 3) := dk_184 1 38 (dk_at dksJ22_fixAfterInsertion_5 12 rfl rfl)
theorem dJ22_fixAfterInsertion_133 : decode cJ22_fixAfterInsertion 133 = .ok (.iconst 0, 1) := dk_3 (dk_at dksJ22_fixAfterInsertion_5 15 rfl rfl)
theorem dJ22_fixAfterInsertion_134 : decode cJ22_fixAfterInsertion 134 = .ok (.invokestatic 307, 3) := dk_184 1 51 (dk_at dksJ22_fixAfterInsertion_5 16 rfl rfl)
theorem dJ22_fixAfterInsertion_137 : decode cJ22_fixAfterInsertion 137 = .ok (.aload_n 0, 1) := dk_42 (dk_at dksJ22_fixAfterInsertion_5 19 rfl rfl)
theorem dJ22_fixAfterInsertion_138 : decode cJ22_fixAfterInsertion 138 = .ok (.aload_n 1, 1) := dk_43 (dk_at dksJ22_fixAfterInsertion_5 20 rfl rfl)
theorem dJ22_fixAfterInsertion_139 : decode cJ22_fixAfterInsertion 139 = .ok (.invokestatic 294, 3) := dk_184 1 38 (dk_at dksJ22_fixAfterInsertion_5 21 rfl rfl)
theorem dJ22_fixAfterInsertion_142 : decode cJ22_fixAfterInsertion 142 = .ok (.invokestatic 294, 3) := dk_184 1 38 (dk_at dksJ22_fixAfterInsertion_6 0 rfl rfl)
theorem dJ22_fixAfterInsertion_145 : decode cJ22_fixAfterInsertion 145 = .ok (.invokevirtual 314, 3) := dk_182 1 58 (dk_at dksJ22_fixAfterInsertion_6 3 rfl rfl)
theorem dJ22_fixAfterInsertion_148 : decode cJ22_fixAfterInsertion 148 = .ok (.goto (-143), 3) := dk_167 255 113 (dk_at dksJ22_fixAfterInsertion_6 6 rfl rfl)
theorem dJ22_fixAfterInsertion_151 : decode cJ22_fixAfterInsertion 151 = .ok (.aload_n 1, 1) := dk_43 (dk_at dksJ22_fixAfterInsertion_6 9 rfl rfl)
theorem dJ22_fixAfterInsertion_152 : decode cJ22_fixAfterInsertion 152 = .ok (.invokestatic 294, 3) := dk_184 1 38 (dk_at dksJ22_fixAfterInsertion_6 10 rfl rfl)
theorem dJ22_fixAfterInsertion_155 : decode cJ22_fixAfterInsertion 155 = .ok (.invokestatic 294, 3) := dk_184 1 38 (dk_at dksJ22_fixAfterInsertion_6 13 rfl rfl)
theorem dJ22_fixAfterInsertion_158 : decode cJ22_fixAfterInsertion 158 = .ok (.invokestatic 297, 3) := dk_184 1 41 (dk_at dksJ22_fixAfterInsertion_6 16 rfl rfl)
theorem dJ22_fixAfterInsertion_161 : decode cJ22_fixAfterInsertion 161 = .ok (.astore_n 2, 1) := dk_77 (dk_at dksJ22_fixAfterInsertion_6 19 rfl rfl)
theorem dJ22_fixAfterInsertion_162 : decode cJ22_fixAfterInsertion 162 = .ok (.aload_n 2, 1) := dk_44 (dk_at dksJ22_fixAfterInsertion_6 20 rfl rfl)
theorem dJ22_fixAfterInsertion_163 : decode cJ22_fixAfterInsertion 163 = .ok (.invokestatic 303, 3) := dk_184 1 47 (dk_at dksJ22_fixAfterInsertion_6 21 rfl rfl)
theorem dJ22_fixAfterInsertion_166 : decode cJ22_fixAfterInsertion 166 = .ok (.ifCond .ne 38, 3) := dk_154 0 38 (dk_at dksJ22_fixAfterInsertion_7 0 rfl rfl)
theorem dJ22_fixAfterInsertion_169 : decode cJ22_fixAfterInsertion 169 = .ok (.aload_n 1, 1) := dk_43 (dk_at dksJ22_fixAfterInsertion_7 3 rfl rfl)
theorem dJ22_fixAfterInsertion_170 : decode cJ22_fixAfterInsertion 170 = .ok (.invokestatic 294, 3) := dk_184 1 38 (dk_at dksJ22_fixAfterInsertion_7 4 rfl rfl)
theorem dJ22_fixAfterInsertion_173 : decode cJ22_fixAfterInsertion 173 = .ok (.iconst 1, 1) := dk_4 (dk_at dksJ22_fixAfterInsertion_7 7 rfl rfl)
theorem dJ22_fixAfterInsertion_174 : decode cJ22_fixAfterInsertion 174 = .ok (.invokestatic 307, 3) := dk_184 1 51 (dk_at dksJ22_fixAfterInsertion_7 8 rfl rfl)
theorem dJ22_fixAfterInsertion_177 : decode cJ22_fixAfterInsertion 177 = .ok (.aload_n 2, 1) := dk_44 (dk_at dksJ22_fixAfterInsertion_7 11 rfl rfl)
theorem dJ22_fixAfterInsertion_178 : decode cJ22_fixAfterInsertion 178 = .ok (.iconst 1, 1) := dk_4 (dk_at dksJ22_fixAfterInsertion_7 12 rfl rfl)
theorem dJ22_fixAfterInsertion_179 : decode cJ22_fixAfterInsertion 179 = .ok (.invokestatic 307, 3) := dk_184 1 51 (dk_at dksJ22_fixAfterInsertion_7 13 rfl rfl)
theorem dJ22_fixAfterInsertion_182 : decode cJ22_fixAfterInsertion 182 = .ok (.aload_n 1, 1) := dk_43 (dk_at dksJ22_fixAfterInsertion_7 16 rfl rfl)
theorem dJ22_fixAfterInsertion_183 : decode cJ22_fixAfterInsertion 183 = .ok (.invokestatic 294, 3) := dk_184 1 38 (dk_at dksJ22_fixAfterInsertion_7 17 rfl rfl)
theorem dJ22_fixAfterInsertion_186 : decode cJ22_fixAfterInsertion 186 = .ok (.invokestatic 294, 3) := dk_184 1 38 (dk_at dksJ22_fixAfterInsertion_7 20 rfl rfl)
theorem dJ22_fixAfterInsertion_189 : decode cJ22_fixAfterInsertion 189 = .ok (.iconst 0, 1) := dk_3 (dk_at dksJ22_fixAfterInsertion_7 23 rfl rfl)
theorem dJ22_fixAfterInsertion_190 : decode cJ22_fixAfterInsertion 190 = .ok (.invokestatic 307, 3) := dk_184 1 51 (dk_at dksJ22_fixAfterInsertion_8 0 rfl rfl)
theorem dJ22_fixAfterInsertion_193 : decode cJ22_fixAfterInsertion 193 = .ok (.aload_n 1, 1) := dk_43 (dk_at dksJ22_fixAfterInsertion_8 3 rfl rfl)
theorem dJ22_fixAfterInsertion_194 : decode cJ22_fixAfterInsertion 194 = .ok (.invokestatic 294, 3) := dk_184 1 38 (dk_at dksJ22_fixAfterInsertion_8 4 rfl rfl)
theorem dJ22_fixAfterInsertion_197 : decode cJ22_fixAfterInsertion 197 = .ok (.invokestatic 294, 3) := dk_184 1 38 (dk_at dksJ22_fixAfterInsertion_8 7 rfl rfl)
theorem dJ22_fixAfterInsertion_200 : decode cJ22_fixAfterInsertion 200 = .ok (.astore_n 1, 1) := dk_76 (dk_at dksJ22_fixAfterInsertion_8 10 rfl rfl)
theorem dJ22_fixAfterInsertion_201 : decode cJ22_fixAfterInsertion 201 = .ok (.goto 54, 3) := dk_167 0 54 (dk_at dksJ22_fixAfterInsertion_8 11 rfl rfl)
theorem dJ22_fixAfterInsertion_204 : decode cJ22_fixAfterInsertion 204 = .ok (.aload_n 1, 1) := dk_43 (dk_at dksJ22_fixAfterInsertion_8 14 rfl rfl)
theorem dJ22_fixAfterInsertion_205 : decode cJ22_fixAfterInsertion 205 = .ok (.aload_n 1, 1) := dk_43 (dk_at dksJ22_fixAfterInsertion_8 15 rfl rfl)
theorem dJ22_fixAfterInsertion_206 : decode cJ22_fixAfterInsertion 206 = .ok (.invokestatic 294, 3) := dk_184 1 38 (dk_at dksJ22_fixAfterInsertion_8 16 rfl rfl)
theorem dJ22_fixAfterInsertion_209 : decode cJ22_fixAfterInsertion 209 = .ok (.invokestatic 297, 3) := dk_184 1 41 (dk_at dksJ22_fixAfterInsertion_8 19 rfl rfl)
theorem dJ22_fixAfterInsertion_212 : decode cJ22_fixAfterInsertion 212 = .ok (.if_acmp .ne 13, 3) := dk_166 0 13 (dk_at dksJ22_fixAfterInsertion_9 0 rfl rfl)
theorem dJ22_fixAfterInsertion_215 : decode cJ22_fixAfterInsertion 215 = .ok (.aload_n 1, 1) := dk_43 (dk_at dksJ22_fixAfterInsertion_9 3 rfl rfl)
theorem dJ22_fixAfterInsertion_216 : decode cJ22_fixAfterInsertion 216 = .ok (.invokestatic 294, 3) := dk_184 1 38 (dk_at dksJ22_fixAfterInsertion_9 4 rfl rfl)
theorem dJ22_fixAfterInsertion_219 : decode cJ22_fixAfterInsertion 219 = .ok (.astore_n 1, 1) := dk_76 (dk_at dksJ22_fixAfterInsertion_9 7 rfl rfl)
theorem dJ22_fixAfterInsertion_220 : decode cJ22_fixAfterInsertion 220 = .ok (.aload_n 0, 1) := dk_42 (dk_at dksJ22_fixAfterInsertion_9 8 rfl rfl)
theorem dJ22_fixAfterInsertion_221 : decode cJ22_fixAfterInsertion 221 = .ok (.aload_n 1, 1) := dk_43 (dk_at dksJ22_fixAfterInsertion_9 9 rfl rfl)
theorem dJ22_fixAfterInsertion_222 : decode cJ22_fixAfterInsertion 222 = .ok (.invokevirtual 314, 3) := dk_182 1 58 (dk_at dksJ22_fixAfterInsertion_9 10 rfl rfl)
theorem dJ22_fixAfterInsertion_225 : decode cJ22_fixAfterInsertion 225 = .ok (.aload_n 1, 1) := dk_43 (dk_at dksJ22_fixAfterInsertion_9 13 rfl rfl)
theorem dJ22_fixAfterInsertion_226 : decode cJ22_fixAfterInsertion 226 = .ok (.invokestatic 294, 3) := dk_184 1 38 (dk_at dksJ22_fixAfterInsertion_9 14 rfl rfl)
theorem dJ22_fixAfterInsertion_229 : decode cJ22_fixAfterInsertion 229 = .ok (.iconst 1, 1) := dk_4 (dk_at dksJ22_fixAfterInsertion_9 17 rfl rfl)
theorem dJ22_fixAfterInsertion_230 : decode cJ22_fixAfterInsertion 230 = .ok (.invokestatic 307, 3) := dk_184 1 51 (dk_at dksJ22_fixAfterInsertion_9 18 rfl rfl)
theorem dJ22_fixAfterInsertion_233 : decode cJ22_fixAfterInsertion 233 = .ok (.aload_n 1, 1) := dk_43 (dk_at dksJ22_fixAfterInsertion_9 21 rfl rfl)
theorem dJ22_fixAfterInsertion_234 : decode cJ22_fixAfterInsertion 234 = .ok (.invokestatic 294, 3) := dk_184 1 38 (dk_at dksJ22_fixAfterInsertion_10 0 rfl rfl)
theorem dJ22_fixAfterInsertion_237 : decode cJ22_fixAfterInsertion 237 = .ok (.invokestatic 294, 3) := dk_184 1 38 (dk_at dksJ22_fixAfterInsertion_10 3 rfl rfl)
theorem dJ22_fixAfterInsertion_240 : decode cJ22_fixAfterInsertion 240 = .ok (.iconst 0, 1) := dk_3 (dk_at dksJ22_fixAfterInsertion_10 6 rfl rfl)
theorem dJ22_fixAfterInsertion_241 : decode cJ22_fixAfterInsertion 241 = .ok (.invokestatic 307, 3) := dk_184 1 51 (dk_at dksJ22_fixAfterInsertion_10 7 rfl rfl)
theorem dJ22_fixAfterInsertion_244 : decode cJ22_fixAfterInsertion 244 = .ok (.aload_n 0, 1) := dk_42 (dk_at dksJ22_fixAfterInsertion_10 10 rfl rfl)
theorem dJ22_fixAfterInsertion_245 : decode cJ22_fixAfterInsertion 245 = .ok (.aload_n 1, 1) := dk_43 (dk_at dksJ22_fixAfterInsertion_10 11 rfl rfl)
theorem dJ22_fixAfterInsertion_246 : decode cJ22_fixAfterInsertion 246 = .ok (.invokestatic 294, 3) := dk_184 1 38 (dk_at dksJ22_fixAfterInsertion_10 12 rfl rfl)
theorem dJ22_fixAfterInsertion_249 : decode cJ22_fixAfterInsertion 249 = .ok (.invokestatic 294, 3) := dk_184 1 38 (dk_at dksJ22_fixAfterInsertion_10 15 rfl rfl)
theorem dJ22_fixAfterInsertion_252 : decode cJ22_fixAfterInsertion 252 = .ok (.invokevirtual 311, 3) := dk_182 1 55 (dk_at dksJ22_fixAfterInsertion_10 18 rfl rfl)
theorem dJ22_fixAfterInsertion_255 : decode cJ22_fixAfterInsertion 255 = .ok (.goto (-250), 3) := dk_167 255 6 (dk_at dksJ22_fixAfterInsertion_10 21 rfl rfl)
theorem dJ22_fixAfterInsertion_258 : decode cJ22_fixAfterInsertion 258 = .ok (.aload_n 0, 1) := dk_42 (dk_at dksJ22_fixAfterInsertion_11 0 rfl rfl)
theorem dJ22_fixAfterInsertion_259 : decode cJ22_fixAfterInsertion 259 = .ok (.getfield 101, 3) := dk_180 0 101 (dk_at dksJ22_fixAfterInsertion_11 1 rfl rfl)
theorem dJ22_fixAfterInsertion_262 : decode cJ22_fixAfterInsertion 262 = .ok (.iconst 1, 1) := dk_4 (dk_at dksJ22_fixAfterInsertion_11 4 rfl rfl)
theorem dJ22_fixAfterInsertion_263 : decode cJ22_fixAfterInsertion 263 = .ok (.putfield 290, 3) := dk_181 1 34 (dk_at dksJ22_fixAfterInsertion_11 5 rfl rfl)
theorem dJ22_fixAfterInsertion_266 : decode cJ22_fixAfterInsertion 266 = .ok (.return_, 1) := dk_177 (dk_at dksJ22_fixAfterInsertion_11 8 rfl rfl)
abbrev cJ22_parentOf : ByteArray := prog_61_method_77_code
def yJ22_parentOf : MethodName := ⟨RJ22, "parentOf", "(Ljava/util/TreeMap$Entry;)Ljava/util/TreeMap$Entry;"⟩
def dkwJ22_parentOf_0 : List UInt8 := [42, 199, 0, 7, 1, 167, 0, 7, 42, 180, 0, 124, 176]
abbrev dktJ22_parentOf_0 : List UInt8 := dkwJ22_parentOf_0 ++ []
theorem dksJ22_parentOf_0 : cJ22_parentOf.data.toList.drop 0 = dktJ22_parentOf_0 := by decide +kernel
theorem dJ22_parentOf_0 : decode cJ22_parentOf 0 = .ok (.aload_n 0, 1) := dk_42 (dk_at dksJ22_parentOf_0 0 rfl rfl)
theorem dJ22_parentOf_1 : decode cJ22_parentOf 1 = .ok (.ifnonnull 7, 3) := dk_199 0 7 (dk_at dksJ22_parentOf_0 1 rfl rfl)
theorem dJ22_parentOf_4 : decode cJ22_parentOf 4 = .ok (.aconst_null, 1) := dk_1 (dk_at dksJ22_parentOf_0 4 rfl rfl)
theorem dJ22_parentOf_5 : decode cJ22_parentOf 5 = .ok (.goto 7, 3) := dk_167 0 7 (dk_at dksJ22_parentOf_0 5 rfl rfl)
theorem dJ22_parentOf_8 : decode cJ22_parentOf 8 = .ok (.aload_n 0, 1) := dk_42 (dk_at dksJ22_parentOf_0 8 rfl rfl)
theorem dJ22_parentOf_9 : decode cJ22_parentOf 9 = .ok (.getfield 124, 3) := dk_180 0 124 (dk_at dksJ22_parentOf_0 9 rfl rfl)
theorem dJ22_parentOf_12 : decode cJ22_parentOf 12 = .ok (.areturn, 1) := dk_176 (dk_at dksJ22_parentOf_0 12 rfl rfl)
abbrev cJ22_leftOf : ByteArray := prog_61_method_79_code
def yJ22_leftOf : MethodName := ⟨RJ22, "leftOf", "(Ljava/util/TreeMap$Entry;)Ljava/util/TreeMap$Entry;"⟩
def dkwJ22_leftOf_0 : List UInt8 := [42, 199, 0, 7, 1, 167, 0, 7, 42, 180, 0, 111, 176]
abbrev dktJ22_leftOf_0 : List UInt8 := dkwJ22_leftOf_0 ++ []
theorem dksJ22_leftOf_0 : cJ22_leftOf.data.toList.drop 0 = dktJ22_leftOf_0 := by decide +kernel
theorem dJ22_leftOf_0 : decode cJ22_leftOf 0 = .ok (.aload_n 0, 1) := dk_42 (dk_at dksJ22_leftOf_0 0 rfl rfl)
theorem dJ22_leftOf_1 : decode cJ22_leftOf 1 = .ok (.ifnonnull 7, 3) := dk_199 0 7 (dk_at dksJ22_leftOf_0 1 rfl rfl)
theorem dJ22_leftOf_4 : decode cJ22_leftOf 4 = .ok (.aconst_null, 1) := dk_1 (dk_at dksJ22_leftOf_0 4 rfl rfl)
theorem dJ22_leftOf_5 : decode cJ22_leftOf 5 = .ok (.goto 7, 3) := dk_167 0 7 (dk_at dksJ22_leftOf_0 5 rfl rfl)
theorem dJ22_leftOf_8 : decode cJ22_leftOf 8 = .ok (.aload_n 0, 1) := dk_42 (dk_at dksJ22_leftOf_0 8 rfl rfl)
theorem dJ22_leftOf_9 : decode cJ22_leftOf 9 = .ok (.getfield 111, 3) := dk_180 0 111 (dk_at dksJ22_leftOf_0 9 rfl rfl)
theorem dJ22_leftOf_12 : decode cJ22_leftOf 12 = .ok (.areturn, 1) := dk_176 (dk_at dksJ22_leftOf_0 12 rfl rfl)
abbrev cJ22_rightOf : ByteArray := prog_61_method_80_code
def yJ22_rightOf : MethodName := ⟨RJ22, "rightOf", "(Ljava/util/TreeMap$Entry;)Ljava/util/TreeMap$Entry;"⟩
def dkwJ22_rightOf_0 : List UInt8 := [42, 199, 0, 7, 1, 167, 0, 7, 42, 180, 0, 114, 176]
abbrev dktJ22_rightOf_0 : List UInt8 := dkwJ22_rightOf_0 ++ []
theorem dksJ22_rightOf_0 : cJ22_rightOf.data.toList.drop 0 = dktJ22_rightOf_0 := by decide +kernel
theorem dJ22_rightOf_0 : decode cJ22_rightOf 0 = .ok (.aload_n 0, 1) := dk_42 (dk_at dksJ22_rightOf_0 0 rfl rfl)
theorem dJ22_rightOf_1 : decode cJ22_rightOf 1 = .ok (.ifnonnull 7, 3) := dk_199 0 7 (dk_at dksJ22_rightOf_0 1 rfl rfl)
theorem dJ22_rightOf_4 : decode cJ22_rightOf 4 = .ok (.aconst_null, 1) := dk_1 (dk_at dksJ22_rightOf_0 4 rfl rfl)
theorem dJ22_rightOf_5 : decode cJ22_rightOf 5 = .ok (.goto 7, 3) := dk_167 0 7 (dk_at dksJ22_rightOf_0 5 rfl rfl)
theorem dJ22_rightOf_8 : decode cJ22_rightOf 8 = .ok (.aload_n 0, 1) := dk_42 (dk_at dksJ22_rightOf_0 8 rfl rfl)
theorem dJ22_rightOf_9 : decode cJ22_rightOf 9 = .ok (.getfield 114, 3) := dk_180 0 114 (dk_at dksJ22_rightOf_0 9 rfl rfl)
theorem dJ22_rightOf_12 : decode cJ22_rightOf 12 = .ok (.areturn, 1) := dk_176 (dk_at dksJ22_rightOf_0 12 rfl rfl)
abbrev cJ22_colorOf : ByteArray := prog_61_method_76_code
def yJ22_colorOf : MethodName := ⟨RJ22, "colorOf", "(Ljava/util/TreeMap$Entry;)Z"⟩
def dkwJ22_colorOf_0 : List UInt8 := [42, 199, 0, 7, 4, 167, 0, 7, 42, 180, 1, 34, 172]
abbrev dktJ22_colorOf_0 : List UInt8 := dkwJ22_colorOf_0 ++ []
theorem dksJ22_colorOf_0 : cJ22_colorOf.data.toList.drop 0 = dktJ22_colorOf_0 := by decide +kernel
theorem dJ22_colorOf_0 : decode cJ22_colorOf 0 = .ok (.aload_n 0, 1) := dk_42 (dk_at dksJ22_colorOf_0 0 rfl rfl)
theorem dJ22_colorOf_1 : decode cJ22_colorOf 1 = .ok (.ifnonnull 7, 3) := dk_199 0 7 (dk_at dksJ22_colorOf_0 1 rfl rfl)
theorem dJ22_colorOf_4 : decode cJ22_colorOf 4 = .ok (.iconst 1, 1) := dk_4 (dk_at dksJ22_colorOf_0 4 rfl rfl)
theorem dJ22_colorOf_5 : decode cJ22_colorOf 5 = .ok (.goto 7, 3) := dk_167 0 7 (dk_at dksJ22_colorOf_0 5 rfl rfl)
theorem dJ22_colorOf_8 : decode cJ22_colorOf 8 = .ok (.aload_n 0, 1) := dk_42 (dk_at dksJ22_colorOf_0 8 rfl rfl)
theorem dJ22_colorOf_9 : decode cJ22_colorOf 9 = .ok (.getfield 290, 3) := dk_180 1 34 (dk_at dksJ22_colorOf_0 9 rfl rfl)
theorem dJ22_colorOf_12 : decode cJ22_colorOf 12 = .ok (.ireturn, 1) := dk_172 (dk_at dksJ22_colorOf_0 12 rfl rfl)
abbrev cJ22_setColor : ByteArray := prog_61_method_78_code
def yJ22_setColor : MethodName := ⟨RJ22, "setColor", "(Ljava/util/TreeMap$Entry;Z)V"⟩
def dkwJ22_setColor_0 : List UInt8 := [42, 198, 0, 8, 42, 27, 181, 1, 34, 177]
abbrev dktJ22_setColor_0 : List UInt8 := dkwJ22_setColor_0 ++ []
theorem dksJ22_setColor_0 : cJ22_setColor.data.toList.drop 0 = dktJ22_setColor_0 := by decide +kernel
theorem dJ22_setColor_0 : decode cJ22_setColor 0 = .ok (.aload_n 0, 1) := dk_42 (dk_at dksJ22_setColor_0 0 rfl rfl)
theorem dJ22_setColor_1 : decode cJ22_setColor 1 = .ok (.ifnull 8, 3) := dk_198 0 8 (dk_at dksJ22_setColor_0 1 rfl rfl)
theorem dJ22_setColor_4 : decode cJ22_setColor 4 = .ok (.aload_n 0, 1) := dk_42 (dk_at dksJ22_setColor_0 4 rfl rfl)
theorem dJ22_setColor_5 : decode cJ22_setColor 5 = .ok (.iload_n 1, 1) := dk_27 (dk_at dksJ22_setColor_0 5 rfl rfl)
theorem dJ22_setColor_6 : decode cJ22_setColor 6 = .ok (.putfield 290, 3) := dk_181 1 34 (dk_at dksJ22_setColor_0 6 rfl rfl)
theorem dJ22_setColor_9 : decode cJ22_setColor 9 = .ok (.return_, 1) := dk_177 (dk_at dksJ22_setColor_0 9 rfl rfl)
abbrev cJ22_rotateLeft : ByteArray := prog_61_method_81_code
def yJ22_rotateLeft : MethodName := ⟨RJ22, "rotateLeft", "(Ljava/util/TreeMap$Entry;)V"⟩
def dkwJ22_rotateLeft_4 : List UInt8 := [177]
abbrev dktJ22_rotateLeft_4 : List UInt8 := dkwJ22_rotateLeft_4 ++ []
def dkwJ22_rotateLeft_3 : List UInt8 := [181, 0, 111, 167, 0, 11, 43, 180, 0, 124, 44, 181, 0, 114, 44, 43, 181, 0, 111, 43, 44, 181, 0, 124]
abbrev dktJ22_rotateLeft_3 : List UInt8 := dkwJ22_rotateLeft_3 ++ dktJ22_rotateLeft_4
def dkwJ22_rotateLeft_2 : List UInt8 := [44, 181, 0, 101, 167, 0, 33, 43, 180, 0, 124, 180, 0, 111, 43, 166, 0, 14, 43, 180, 0, 124, 44]
abbrev dktJ22_rotateLeft_2 : List UInt8 := dkwJ22_rotateLeft_2 ++ dktJ22_rotateLeft_3
def dkwJ22_rotateLeft_1 : List UInt8 := [44, 180, 0, 111, 43, 181, 0, 124, 44, 43, 180, 0, 124, 181, 0, 124, 43, 180, 0, 124, 199, 0, 11, 42]
abbrev dktJ22_rotateLeft_1 : List UInt8 := dkwJ22_rotateLeft_1 ++ dktJ22_rotateLeft_2
def dkwJ22_rotateLeft_0 : List UInt8 := [43, 198, 0, 94, 43, 180, 0, 114, 77, 43, 44, 180, 0, 111, 181, 0, 114, 44, 180, 0, 111, 198, 0, 11]
abbrev dktJ22_rotateLeft_0 : List UInt8 := dkwJ22_rotateLeft_0 ++ dktJ22_rotateLeft_1
theorem dksJ22_rotateLeft_0 : cJ22_rotateLeft.data.toList.drop 0 = dktJ22_rotateLeft_0 := by decide +kernel
theorem dksJ22_rotateLeft_1 : cJ22_rotateLeft.data.toList.drop 24 = dktJ22_rotateLeft_1 := dk_seg dksJ22_rotateLeft_0 24 rfl rfl
theorem dksJ22_rotateLeft_2 : cJ22_rotateLeft.data.toList.drop 48 = dktJ22_rotateLeft_2 := dk_seg dksJ22_rotateLeft_1 24 rfl rfl
theorem dksJ22_rotateLeft_3 : cJ22_rotateLeft.data.toList.drop 71 = dktJ22_rotateLeft_3 := dk_seg dksJ22_rotateLeft_2 23 rfl rfl
theorem dksJ22_rotateLeft_4 : cJ22_rotateLeft.data.toList.drop 95 = dktJ22_rotateLeft_4 := dk_seg dksJ22_rotateLeft_3 24 rfl rfl
theorem dJ22_rotateLeft_0 : decode cJ22_rotateLeft 0 = .ok (.aload_n 1, 1) := dk_43 (dk_at dksJ22_rotateLeft_0 0 rfl rfl)
theorem dJ22_rotateLeft_1 : decode cJ22_rotateLeft 1 = .ok (.ifnull 94, 3) := dk_198 0 94 (dk_at dksJ22_rotateLeft_0 1 rfl rfl)
theorem dJ22_rotateLeft_4 : decode cJ22_rotateLeft 4 = .ok (.aload_n 1, 1) := dk_43 (dk_at dksJ22_rotateLeft_0 4 rfl rfl)
theorem dJ22_rotateLeft_5 : decode cJ22_rotateLeft 5 = .ok (.getfield 114, 3) := dk_180 0 114 (dk_at dksJ22_rotateLeft_0 5 rfl rfl)
theorem dJ22_rotateLeft_8 : decode cJ22_rotateLeft 8 = .ok (.astore_n 2, 1) := dk_77 (dk_at dksJ22_rotateLeft_0 8 rfl rfl)
theorem dJ22_rotateLeft_9 : decode cJ22_rotateLeft 9 = .ok (.aload_n 1, 1) := dk_43 (dk_at dksJ22_rotateLeft_0 9 rfl rfl)
theorem dJ22_rotateLeft_10 : decode cJ22_rotateLeft 10 = .ok (.aload_n 2, 1) := dk_44 (dk_at dksJ22_rotateLeft_0 10 rfl rfl)
theorem dJ22_rotateLeft_11 : decode cJ22_rotateLeft 11 = .ok (.getfield 111, 3) := dk_180 0 111 (dk_at dksJ22_rotateLeft_0 11 rfl rfl)
theorem dJ22_rotateLeft_14 : decode cJ22_rotateLeft 14 = .ok (.putfield 114, 3) := dk_181 0 114 (dk_at dksJ22_rotateLeft_0 14 rfl rfl)
theorem dJ22_rotateLeft_17 : decode cJ22_rotateLeft 17 = .ok (.aload_n 2, 1) := dk_44 (dk_at dksJ22_rotateLeft_0 17 rfl rfl)
theorem dJ22_rotateLeft_18 : decode cJ22_rotateLeft 18 = .ok (.getfield 111, 3) := dk_180 0 111 (dk_at dksJ22_rotateLeft_0 18 rfl rfl)
theorem dJ22_rotateLeft_21 : decode cJ22_rotateLeft 21 = .ok (.ifnull 11, 3) := dk_198 0 11 (dk_at dksJ22_rotateLeft_0 21 rfl rfl)
theorem dJ22_rotateLeft_24 : decode cJ22_rotateLeft 24 = .ok (.aload_n 2, 1) := dk_44 (dk_at dksJ22_rotateLeft_1 0 rfl rfl)
theorem dJ22_rotateLeft_25 : decode cJ22_rotateLeft 25 = .ok (.getfield 111, 3) := dk_180 0 111 (dk_at dksJ22_rotateLeft_1 1 rfl rfl)
theorem dJ22_rotateLeft_28 : decode cJ22_rotateLeft 28 = .ok (.aload_n 1, 1) := dk_43 (dk_at dksJ22_rotateLeft_1 4 rfl rfl)
theorem dJ22_rotateLeft_29 : decode cJ22_rotateLeft 29 = .ok (.putfield 124, 3) := dk_181 0 124 (dk_at dksJ22_rotateLeft_1 5 rfl rfl)
theorem dJ22_rotateLeft_32 : decode cJ22_rotateLeft 32 = .ok (.aload_n 2, 1) := dk_44 (dk_at dksJ22_rotateLeft_1 8 rfl rfl)
theorem dJ22_rotateLeft_33 : decode cJ22_rotateLeft 33 = .ok (.aload_n 1, 1) := dk_43 (dk_at dksJ22_rotateLeft_1 9 rfl rfl)
theorem dJ22_rotateLeft_34 : decode cJ22_rotateLeft 34 = .ok (.getfield 124, 3) := dk_180 0 124 (dk_at dksJ22_rotateLeft_1 10 rfl rfl)
theorem dJ22_rotateLeft_37 : decode cJ22_rotateLeft 37 = .ok (.putfield 124, 3) := dk_181 0 124 (dk_at dksJ22_rotateLeft_1 13 rfl rfl)
theorem dJ22_rotateLeft_40 : decode cJ22_rotateLeft 40 = .ok (.aload_n 1, 1) := dk_43 (dk_at dksJ22_rotateLeft_1 16 rfl rfl)
theorem dJ22_rotateLeft_41 : decode cJ22_rotateLeft 41 = .ok (.getfield 124, 3) := dk_180 0 124 (dk_at dksJ22_rotateLeft_1 17 rfl rfl)
theorem dJ22_rotateLeft_44 : decode cJ22_rotateLeft 44 = .ok (.ifnonnull 11, 3) := dk_199 0 11 (dk_at dksJ22_rotateLeft_1 20 rfl rfl)
theorem dJ22_rotateLeft_47 : decode cJ22_rotateLeft 47 = .ok (.aload_n 0, 1) := dk_42 (dk_at dksJ22_rotateLeft_1 23 rfl rfl)
theorem dJ22_rotateLeft_48 : decode cJ22_rotateLeft 48 = .ok (.aload_n 2, 1) := dk_44 (dk_at dksJ22_rotateLeft_2 0 rfl rfl)
theorem dJ22_rotateLeft_49 : decode cJ22_rotateLeft 49 = .ok (.putfield 101, 3) := dk_181 0 101 (dk_at dksJ22_rotateLeft_2 1 rfl rfl)
theorem dJ22_rotateLeft_52 : decode cJ22_rotateLeft 52 = .ok (.goto 33, 3) := dk_167 0 33 (dk_at dksJ22_rotateLeft_2 4 rfl rfl)
theorem dJ22_rotateLeft_55 : decode cJ22_rotateLeft 55 = .ok (.aload_n 1, 1) := dk_43 (dk_at dksJ22_rotateLeft_2 7 rfl rfl)
theorem dJ22_rotateLeft_56 : decode cJ22_rotateLeft 56 = .ok (.getfield 124, 3) := dk_180 0 124 (dk_at dksJ22_rotateLeft_2 8 rfl rfl)
theorem dJ22_rotateLeft_59 : decode cJ22_rotateLeft 59 = .ok (.getfield 111, 3) := dk_180 0 111 (dk_at dksJ22_rotateLeft_2 11 rfl rfl)
theorem dJ22_rotateLeft_62 : decode cJ22_rotateLeft 62 = .ok (.aload_n 1, 1) := dk_43 (dk_at dksJ22_rotateLeft_2 14 rfl rfl)
theorem dJ22_rotateLeft_63 : decode cJ22_rotateLeft 63 = .ok (.if_acmp .ne 14, 3) := dk_166 0 14 (dk_at dksJ22_rotateLeft_2 15 rfl rfl)
theorem dJ22_rotateLeft_66 : decode cJ22_rotateLeft 66 = .ok (.aload_n 1, 1) := dk_43 (dk_at dksJ22_rotateLeft_2 18 rfl rfl)
theorem dJ22_rotateLeft_67 : decode cJ22_rotateLeft 67 = .ok (.getfield 124, 3) := dk_180 0 124 (dk_at dksJ22_rotateLeft_2 19 rfl rfl)
theorem dJ22_rotateLeft_70 : decode cJ22_rotateLeft 70 = .ok (.aload_n 2, 1) := dk_44 (dk_at dksJ22_rotateLeft_2 22 rfl rfl)
theorem dJ22_rotateLeft_71 : decode cJ22_rotateLeft 71 = .ok (.putfield 111, 3) := dk_181 0 111 (dk_at dksJ22_rotateLeft_3 0 rfl rfl)
theorem dJ22_rotateLeft_74 : decode cJ22_rotateLeft 74 = .ok (.goto 11, 3) := dk_167 0 11 (dk_at dksJ22_rotateLeft_3 3 rfl rfl)
theorem dJ22_rotateLeft_77 : decode cJ22_rotateLeft 77 = .ok (.aload_n 1, 1) := dk_43 (dk_at dksJ22_rotateLeft_3 6 rfl rfl)
theorem dJ22_rotateLeft_78 : decode cJ22_rotateLeft 78 = .ok (.getfield 124, 3) := dk_180 0 124 (dk_at dksJ22_rotateLeft_3 7 rfl rfl)
theorem dJ22_rotateLeft_81 : decode cJ22_rotateLeft 81 = .ok (.aload_n 2, 1) := dk_44 (dk_at dksJ22_rotateLeft_3 10 rfl rfl)
theorem dJ22_rotateLeft_82 : decode cJ22_rotateLeft 82 = .ok (.putfield 114, 3) := dk_181 0 114 (dk_at dksJ22_rotateLeft_3 11 rfl rfl)
theorem dJ22_rotateLeft_85 : decode cJ22_rotateLeft 85 = .ok (.aload_n 2, 1) := dk_44 (dk_at dksJ22_rotateLeft_3 14 rfl rfl)
theorem dJ22_rotateLeft_86 : decode cJ22_rotateLeft 86 = .ok (.aload_n 1, 1) := dk_43 (dk_at dksJ22_rotateLeft_3 15 rfl rfl)
theorem dJ22_rotateLeft_87 : decode cJ22_rotateLeft 87 = .ok (.putfield 111, 3) := dk_181 0 111 (dk_at dksJ22_rotateLeft_3 16 rfl rfl)
theorem dJ22_rotateLeft_90 : decode cJ22_rotateLeft 90 = .ok (.aload_n 1, 1) := dk_43 (dk_at dksJ22_rotateLeft_3 19 rfl rfl)
theorem dJ22_rotateLeft_91 : decode cJ22_rotateLeft 91 = .ok (.aload_n 2, 1) := dk_44 (dk_at dksJ22_rotateLeft_3 20 rfl rfl)
theorem dJ22_rotateLeft_92 : decode cJ22_rotateLeft 92 = .ok (.putfield 124, 3) := dk_181 0 124 (dk_at dksJ22_rotateLeft_3 21 rfl rfl)
theorem dJ22_rotateLeft_95 : decode cJ22_rotateLeft 95 = .ok (.return_, 1) := dk_177 (dk_at dksJ22_rotateLeft_4 0 rfl rfl)
abbrev cJ22_rotateRight : ByteArray := prog_61_method_82_code
def yJ22_rotateRight : MethodName := ⟨RJ22, "rotateRight", "(Ljava/util/TreeMap$Entry;)V"⟩
def dkwJ22_rotateRight_4 : List UInt8 := [177]
abbrev dktJ22_rotateRight_4 : List UInt8 := dkwJ22_rotateRight_4 ++ []
def dkwJ22_rotateRight_3 : List UInt8 := [181, 0, 114, 167, 0, 11, 43, 180, 0, 124, 44, 181, 0, 111, 44, 43, 181, 0, 114, 43, 44, 181, 0, 124]
abbrev dktJ22_rotateRight_3 : List UInt8 := dkwJ22_rotateRight_3 ++ dktJ22_rotateRight_4
def dkwJ22_rotateRight_2 : List UInt8 := [44, 181, 0, 101, 167, 0, 33, 43, 180, 0, 124, 180, 0, 114, 43, 166, 0, 14, 43, 180, 0, 124, 44]
abbrev dktJ22_rotateRight_2 : List UInt8 := dkwJ22_rotateRight_2 ++ dktJ22_rotateRight_3
def dkwJ22_rotateRight_1 : List UInt8 := [44, 180, 0, 114, 43, 181, 0, 124, 44, 43, 180, 0, 124, 181, 0, 124, 43, 180, 0, 124, 199, 0, 11, 42]
abbrev dktJ22_rotateRight_1 : List UInt8 := dkwJ22_rotateRight_1 ++ dktJ22_rotateRight_2
def dkwJ22_rotateRight_0 : List UInt8 := [43, 198, 0, 94, 43, 180, 0, 111, 77, 43, 44, 180, 0, 114, 181, 0, 111, 44, 180, 0, 114, 198, 0, 11]
abbrev dktJ22_rotateRight_0 : List UInt8 := dkwJ22_rotateRight_0 ++ dktJ22_rotateRight_1
theorem dksJ22_rotateRight_0 : cJ22_rotateRight.data.toList.drop 0 = dktJ22_rotateRight_0 := by decide +kernel
theorem dksJ22_rotateRight_1 : cJ22_rotateRight.data.toList.drop 24 = dktJ22_rotateRight_1 := dk_seg dksJ22_rotateRight_0 24 rfl rfl
theorem dksJ22_rotateRight_2 : cJ22_rotateRight.data.toList.drop 48 = dktJ22_rotateRight_2 := dk_seg dksJ22_rotateRight_1 24 rfl rfl
theorem dksJ22_rotateRight_3 : cJ22_rotateRight.data.toList.drop 71 = dktJ22_rotateRight_3 := dk_seg dksJ22_rotateRight_2 23 rfl rfl
theorem dksJ22_rotateRight_4 : cJ22_rotateRight.data.toList.drop 95 = dktJ22_rotateRight_4 := dk_seg dksJ22_rotateRight_3 24 rfl rfl
theorem dJ22_rotateRight_0 : decode cJ22_rotateRight 0 = .ok (.aload_n 1, 1) := dk_43 (dk_at dksJ22_rotateRight_0 0 rfl rfl)
theorem dJ22_rotateRight_1 : decode cJ22_rotateRight 1 = .ok (.ifnull 94, 3) := dk_198 0 94 (dk_at dksJ22_rotateRight_0 1 rfl rfl)
theorem dJ22_rotateRight_4 : decode cJ22_rotateRight 4 = .ok (.aload_n 1, 1) := dk_43 (dk_at dksJ22_rotateRight_0 4 rfl rfl)
theorem dJ22_rotateRight_5 : decode cJ22_rotateRight 5 = .ok (.getfield 111, 3) := dk_180 0 111 (dk_at dksJ22_rotateRight_0 5 rfl rfl)
theorem dJ22_rotateRight_8 : decode cJ22_rotateRight 8 = .ok (.astore_n 2, 1) := dk_77 (dk_at dksJ22_rotateRight_0 8 rfl rfl)
theorem dJ22_rotateRight_9 : decode cJ22_rotateRight 9 = .ok (.aload_n 1, 1) := dk_43 (dk_at dksJ22_rotateRight_0 9 rfl rfl)
theorem dJ22_rotateRight_10 : decode cJ22_rotateRight 10 = .ok (.aload_n 2, 1) := dk_44 (dk_at dksJ22_rotateRight_0 10 rfl rfl)
theorem dJ22_rotateRight_11 : decode cJ22_rotateRight 11 = .ok (.getfield 114, 3) := dk_180 0 114 (dk_at dksJ22_rotateRight_0 11 rfl rfl)
theorem dJ22_rotateRight_14 : decode cJ22_rotateRight 14 = .ok (.putfield 111, 3) := dk_181 0 111 (dk_at dksJ22_rotateRight_0 14 rfl rfl)
theorem dJ22_rotateRight_17 : decode cJ22_rotateRight 17 = .ok (.aload_n 2, 1) := dk_44 (dk_at dksJ22_rotateRight_0 17 rfl rfl)
theorem dJ22_rotateRight_18 : decode cJ22_rotateRight 18 = .ok (.getfield 114, 3) := dk_180 0 114 (dk_at dksJ22_rotateRight_0 18 rfl rfl)
theorem dJ22_rotateRight_21 : decode cJ22_rotateRight 21 = .ok (.ifnull 11, 3) := dk_198 0 11 (dk_at dksJ22_rotateRight_0 21 rfl rfl)
theorem dJ22_rotateRight_24 : decode cJ22_rotateRight 24 = .ok (.aload_n 2, 1) := dk_44 (dk_at dksJ22_rotateRight_1 0 rfl rfl)
theorem dJ22_rotateRight_25 : decode cJ22_rotateRight 25 = .ok (.getfield 114, 3) := dk_180 0 114 (dk_at dksJ22_rotateRight_1 1 rfl rfl)
theorem dJ22_rotateRight_28 : decode cJ22_rotateRight 28 = .ok (.aload_n 1, 1) := dk_43 (dk_at dksJ22_rotateRight_1 4 rfl rfl)
theorem dJ22_rotateRight_29 : decode cJ22_rotateRight 29 = .ok (.putfield 124, 3) := dk_181 0 124 (dk_at dksJ22_rotateRight_1 5 rfl rfl)
theorem dJ22_rotateRight_32 : decode cJ22_rotateRight 32 = .ok (.aload_n 2, 1) := dk_44 (dk_at dksJ22_rotateRight_1 8 rfl rfl)
theorem dJ22_rotateRight_33 : decode cJ22_rotateRight 33 = .ok (.aload_n 1, 1) := dk_43 (dk_at dksJ22_rotateRight_1 9 rfl rfl)
theorem dJ22_rotateRight_34 : decode cJ22_rotateRight 34 = .ok (.getfield 124, 3) := dk_180 0 124 (dk_at dksJ22_rotateRight_1 10 rfl rfl)
theorem dJ22_rotateRight_37 : decode cJ22_rotateRight 37 = .ok (.putfield 124, 3) := dk_181 0 124 (dk_at dksJ22_rotateRight_1 13 rfl rfl)
theorem dJ22_rotateRight_40 : decode cJ22_rotateRight 40 = .ok (.aload_n 1, 1) := dk_43 (dk_at dksJ22_rotateRight_1 16 rfl rfl)
theorem dJ22_rotateRight_41 : decode cJ22_rotateRight 41 = .ok (.getfield 124, 3) := dk_180 0 124 (dk_at dksJ22_rotateRight_1 17 rfl rfl)
theorem dJ22_rotateRight_44 : decode cJ22_rotateRight 44 = .ok (.ifnonnull 11, 3) := dk_199 0 11 (dk_at dksJ22_rotateRight_1 20 rfl rfl)
theorem dJ22_rotateRight_47 : decode cJ22_rotateRight 47 = .ok (.aload_n 0, 1) := dk_42 (dk_at dksJ22_rotateRight_1 23 rfl rfl)
theorem dJ22_rotateRight_48 : decode cJ22_rotateRight 48 = .ok (.aload_n 2, 1) := dk_44 (dk_at dksJ22_rotateRight_2 0 rfl rfl)
theorem dJ22_rotateRight_49 : decode cJ22_rotateRight 49 = .ok (.putfield 101, 3) := dk_181 0 101 (dk_at dksJ22_rotateRight_2 1 rfl rfl)
theorem dJ22_rotateRight_52 : decode cJ22_rotateRight 52 = .ok (.goto 33, 3) := dk_167 0 33 (dk_at dksJ22_rotateRight_2 4 rfl rfl)
theorem dJ22_rotateRight_55 : decode cJ22_rotateRight 55 = .ok (.aload_n 1, 1) := dk_43 (dk_at dksJ22_rotateRight_2 7 rfl rfl)
theorem dJ22_rotateRight_56 : decode cJ22_rotateRight 56 = .ok (.getfield 124, 3) := dk_180 0 124 (dk_at dksJ22_rotateRight_2 8 rfl rfl)
theorem dJ22_rotateRight_59 : decode cJ22_rotateRight 59 = .ok (.getfield 114, 3) := dk_180 0 114 (dk_at dksJ22_rotateRight_2 11 rfl rfl)
theorem dJ22_rotateRight_62 : decode cJ22_rotateRight 62 = .ok (.aload_n 1, 1) := dk_43 (dk_at dksJ22_rotateRight_2 14 rfl rfl)
theorem dJ22_rotateRight_63 : decode cJ22_rotateRight 63 = .ok (.if_acmp .ne 14, 3) := dk_166 0 14 (dk_at dksJ22_rotateRight_2 15 rfl rfl)
theorem dJ22_rotateRight_66 : decode cJ22_rotateRight 66 = .ok (.aload_n 1, 1) := dk_43 (dk_at dksJ22_rotateRight_2 18 rfl rfl)
theorem dJ22_rotateRight_67 : decode cJ22_rotateRight 67 = .ok (.getfield 124, 3) := dk_180 0 124 (dk_at dksJ22_rotateRight_2 19 rfl rfl)
theorem dJ22_rotateRight_70 : decode cJ22_rotateRight 70 = .ok (.aload_n 2, 1) := dk_44 (dk_at dksJ22_rotateRight_2 22 rfl rfl)
theorem dJ22_rotateRight_71 : decode cJ22_rotateRight 71 = .ok (.putfield 114, 3) := dk_181 0 114 (dk_at dksJ22_rotateRight_3 0 rfl rfl)
theorem dJ22_rotateRight_74 : decode cJ22_rotateRight 74 = .ok (.goto 11, 3) := dk_167 0 11 (dk_at dksJ22_rotateRight_3 3 rfl rfl)
theorem dJ22_rotateRight_77 : decode cJ22_rotateRight 77 = .ok (.aload_n 1, 1) := dk_43 (dk_at dksJ22_rotateRight_3 6 rfl rfl)
theorem dJ22_rotateRight_78 : decode cJ22_rotateRight 78 = .ok (.getfield 124, 3) := dk_180 0 124 (dk_at dksJ22_rotateRight_3 7 rfl rfl)
theorem dJ22_rotateRight_81 : decode cJ22_rotateRight 81 = .ok (.aload_n 2, 1) := dk_44 (dk_at dksJ22_rotateRight_3 10 rfl rfl)
theorem dJ22_rotateRight_82 : decode cJ22_rotateRight 82 = .ok (.putfield 111, 3) := dk_181 0 111 (dk_at dksJ22_rotateRight_3 11 rfl rfl)
theorem dJ22_rotateRight_85 : decode cJ22_rotateRight 85 = .ok (.aload_n 2, 1) := dk_44 (dk_at dksJ22_rotateRight_3 14 rfl rfl)
theorem dJ22_rotateRight_86 : decode cJ22_rotateRight 86 = .ok (.aload_n 1, 1) := dk_43 (dk_at dksJ22_rotateRight_3 15 rfl rfl)
theorem dJ22_rotateRight_87 : decode cJ22_rotateRight 87 = .ok (.putfield 114, 3) := dk_181 0 114 (dk_at dksJ22_rotateRight_3 16 rfl rfl)
theorem dJ22_rotateRight_90 : decode cJ22_rotateRight 90 = .ok (.aload_n 1, 1) := dk_43 (dk_at dksJ22_rotateRight_3 19 rfl rfl)
theorem dJ22_rotateRight_91 : decode cJ22_rotateRight 91 = .ok (.aload_n 2, 1) := dk_44 (dk_at dksJ22_rotateRight_3 20 rfl rfl)
theorem dJ22_rotateRight_92 : decode cJ22_rotateRight 92 = .ok (.putfield 124, 3) := dk_181 0 124 (dk_at dksJ22_rotateRight_3 21 rfl rfl)
theorem dJ22_rotateRight_95 : decode cJ22_rotateRight 95 = .ok (.return_, 1) := dk_177 (dk_at dksJ22_rotateRight_4 0 rfl rfl)
abbrev cJ22_ceilingKey : ByteArray := prog_61_method_46_code
def yJ22_ceilingKey : MethodName := ⟨RJ22, "ceilingKey", "(Ljava/lang/Object;)Ljava/lang/Object;"⟩
def dkwJ22_ceilingKey_0 : List UInt8 := [42, 43, 182, 0, 213, 184, 0, 207, 176]
abbrev dktJ22_ceilingKey_0 : List UInt8 := dkwJ22_ceilingKey_0 ++ []
theorem dksJ22_ceilingKey_0 : cJ22_ceilingKey.data.toList.drop 0 = dktJ22_ceilingKey_0 := by decide +kernel
theorem dJ22_ceilingKey_0 : decode cJ22_ceilingKey 0 = .ok (.aload_n 0, 1) := dk_42 (dk_at dksJ22_ceilingKey_0 0 rfl rfl)
theorem dJ22_ceilingKey_1 : decode cJ22_ceilingKey 1 = .ok (.aload_n 1, 1) := dk_43 (dk_at dksJ22_ceilingKey_0 1 rfl rfl)
theorem dJ22_ceilingKey_2 : decode cJ22_ceilingKey 2 = .ok (.invokevirtual 213, 3) := dk_182 0 213 (dk_at dksJ22_ceilingKey_0 2 rfl rfl)
theorem dJ22_ceilingKey_5 : decode cJ22_ceilingKey 5 = .ok (.invokestatic 207, 3) := dk_184 0 207 (dk_at dksJ22_ceilingKey_0 5 rfl rfl)
theorem dJ22_ceilingKey_8 : decode cJ22_ceilingKey 8 = .ok (.areturn, 1) := dk_176 (dk_at dksJ22_ceilingKey_0 8 rfl rfl)
abbrev cJ22_getCeilingEntry : ByteArray := prog_61_method_17_code
def yJ22_getCeilingEntry : MethodName := ⟨RJ22, "getCeilingEntry", "(Ljava/lang/Object;)Ljava/util/TreeMap$Entry;"⟩
def dkwJ22_getCeilingEntry_4 : List UInt8 := [167, 255, 230, 25, 4, 176, 44, 176, 167, 255, 159, 1, 176]
abbrev dktJ22_getCeilingEntry_4 : List UInt8 := dkwJ22_getCeilingEntry_4 ++ []
def dkwJ22_getCeilingEntry_3 : List UInt8 := [198, 0, 27, 25, 5, 25, 4, 180, 0, 114, 166, 0, 17, 25, 4, 58, 5, 25, 4, 180, 0, 124, 58, 4]
abbrev dktJ22_getCeilingEntry_3 : List UInt8 := dkwJ22_getCeilingEntry_3 ++ dktJ22_getCeilingEntry_4
def dkwJ22_getCeilingEntry_2 : List UInt8 := [198, 0, 11, 44, 180, 0, 114, 77, 167, 0, 46, 44, 180, 0, 124, 58, 4, 44, 58, 5, 25, 4]
abbrev dktJ22_getCeilingEntry_2 : List UInt8 := dkwJ22_getCeilingEntry_2 ++ dktJ22_getCeilingEntry_3
def dkwJ22_getCeilingEntry_1 : List UInt8 := [180, 0, 111, 198, 0, 11, 44, 180, 0, 111, 77, 167, 0, 67, 44, 176, 29, 158, 0, 59, 44, 180, 0, 114]
abbrev dktJ22_getCeilingEntry_1 : List UInt8 := dkwJ22_getCeilingEntry_1 ++ dktJ22_getCeilingEntry_2
def dkwJ22_getCeilingEntry_0 : List UInt8 := [42, 180, 0, 101, 77, 44, 198, 0, 99, 42, 43, 44, 180, 0, 105, 182, 0, 123, 62, 29, 156, 0, 20, 44]
abbrev dktJ22_getCeilingEntry_0 : List UInt8 := dkwJ22_getCeilingEntry_0 ++ dktJ22_getCeilingEntry_1
theorem dksJ22_getCeilingEntry_0 : cJ22_getCeilingEntry.data.toList.drop 0 = dktJ22_getCeilingEntry_0 := by decide +kernel
theorem dksJ22_getCeilingEntry_1 : cJ22_getCeilingEntry.data.toList.drop 24 = dktJ22_getCeilingEntry_1 := dk_seg dksJ22_getCeilingEntry_0 24 rfl rfl
theorem dksJ22_getCeilingEntry_2 : cJ22_getCeilingEntry.data.toList.drop 48 = dktJ22_getCeilingEntry_2 := dk_seg dksJ22_getCeilingEntry_1 24 rfl rfl
theorem dksJ22_getCeilingEntry_3 : cJ22_getCeilingEntry.data.toList.drop 70 = dktJ22_getCeilingEntry_3 := dk_seg dksJ22_getCeilingEntry_2 22 rfl rfl
theorem dksJ22_getCeilingEntry_4 : cJ22_getCeilingEntry.data.toList.drop 94 = dktJ22_getCeilingEntry_4 := dk_seg dksJ22_getCeilingEntry_3 24 rfl rfl
theorem dJ22_getCeilingEntry_0 : decode cJ22_getCeilingEntry 0 = .ok (.aload_n 0, 1) := dk_42 (dk_at dksJ22_getCeilingEntry_0 0 rfl rfl)
theorem dJ22_getCeilingEntry_1 : decode cJ22_getCeilingEntry 1 = .ok (.getfield 101, 3) := dk_180 0 101 (dk_at dksJ22_getCeilingEntry_0 1 rfl rfl)
theorem dJ22_getCeilingEntry_4 : decode cJ22_getCeilingEntry 4 = .ok (.astore_n 2, 1) := dk_77 (dk_at dksJ22_getCeilingEntry_0 4 rfl rfl)
theorem dJ22_getCeilingEntry_5 : decode cJ22_getCeilingEntry 5 = .ok (.aload_n 2, 1) := dk_44 (dk_at dksJ22_getCeilingEntry_0 5 rfl rfl)
theorem dJ22_getCeilingEntry_6 : decode cJ22_getCeilingEntry 6 = .ok (.ifnull 99, 3) := dk_198 0 99 (dk_at dksJ22_getCeilingEntry_0 6 rfl rfl)
theorem dJ22_getCeilingEntry_9 : decode cJ22_getCeilingEntry 9 = .ok (.aload_n 0, 1) := dk_42 (dk_at dksJ22_getCeilingEntry_0 9 rfl rfl)
theorem dJ22_getCeilingEntry_10 : decode cJ22_getCeilingEntry 10 = .ok (.aload_n 1, 1) := dk_43 (dk_at dksJ22_getCeilingEntry_0 10 rfl rfl)
theorem dJ22_getCeilingEntry_11 : decode cJ22_getCeilingEntry 11 = .ok (.aload_n 2, 1) := dk_44 (dk_at dksJ22_getCeilingEntry_0 11 rfl rfl)
theorem dJ22_getCeilingEntry_12 : decode cJ22_getCeilingEntry 12 = .ok (.getfield 105, 3) := dk_180 0 105 (dk_at dksJ22_getCeilingEntry_0 12 rfl rfl)
theorem dJ22_getCeilingEntry_15 : decode cJ22_getCeilingEntry 15 = .ok (.invokevirtual 123, 3) := dk_182 0 123 (dk_at dksJ22_getCeilingEntry_0 15 rfl rfl)
theorem dJ22_getCeilingEntry_18 : decode cJ22_getCeilingEntry 18 = .ok (.istore_n 3, 1) := dk_62 (dk_at dksJ22_getCeilingEntry_0 18 rfl rfl)
theorem dJ22_getCeilingEntry_19 : decode cJ22_getCeilingEntry 19 = .ok (.iload_n 3, 1) := dk_29 (dk_at dksJ22_getCeilingEntry_0 19 rfl rfl)
theorem dJ22_getCeilingEntry_20 : decode cJ22_getCeilingEntry 20 = .ok (.ifCond .ge 20, 3) := dk_156 0 20 (dk_at dksJ22_getCeilingEntry_0 20 rfl rfl)
theorem dJ22_getCeilingEntry_23 : decode cJ22_getCeilingEntry 23 = .ok (.aload_n 2, 1) := dk_44 (dk_at dksJ22_getCeilingEntry_0 23 rfl rfl)
theorem dJ22_getCeilingEntry_24 : decode cJ22_getCeilingEntry 24 = .ok (.getfield 111, 3) := dk_180 0 111 (dk_at dksJ22_getCeilingEntry_1 0 rfl rfl)
theorem dJ22_getCeilingEntry_27 : decode cJ22_getCeilingEntry 27 = .ok (.ifnull 11, 3) := dk_198 0 11 (dk_at dksJ22_getCeilingEntry_1 3 rfl rfl)
theorem dJ22_getCeilingEntry_30 : decode cJ22_getCeilingEntry 30 = .ok (.aload_n 2, 1) := dk_44 (dk_at dksJ22_getCeilingEntry_1 6 rfl rfl)
theorem dJ22_getCeilingEntry_31 : decode cJ22_getCeilingEntry 31 = .ok (.getfield 111, 3) := dk_180 0 111 (dk_at dksJ22_getCeilingEntry_1 7 rfl rfl)
theorem dJ22_getCeilingEntry_34 : decode cJ22_getCeilingEntry 34 = .ok (.astore_n 2, 1) := dk_77 (dk_at dksJ22_getCeilingEntry_1 10 rfl rfl)
theorem dJ22_getCeilingEntry_35 : decode cJ22_getCeilingEntry 35 = .ok (.goto 67, 3) := dk_167 0 67 (dk_at dksJ22_getCeilingEntry_1 11 rfl rfl)
theorem dJ22_getCeilingEntry_38 : decode cJ22_getCeilingEntry 38 = .ok (.aload_n 2, 1) := dk_44 (dk_at dksJ22_getCeilingEntry_1 14 rfl rfl)
theorem dJ22_getCeilingEntry_39 : decode cJ22_getCeilingEntry 39 = .ok (.areturn, 1) := dk_176 (dk_at dksJ22_getCeilingEntry_1 15 rfl rfl)
theorem dJ22_getCeilingEntry_40 : decode cJ22_getCeilingEntry 40 = .ok (.iload_n 3, 1) := dk_29 (dk_at dksJ22_getCeilingEntry_1 16 rfl rfl)
theorem dJ22_getCeilingEntry_41 : decode cJ22_getCeilingEntry 41 = .ok (.ifCond .le 59, 3) := dk_158 0 59 (dk_at dksJ22_getCeilingEntry_1 17 rfl rfl)
theorem dJ22_getCeilingEntry_44 : decode cJ22_getCeilingEntry 44 = .ok (.aload_n 2, 1) := dk_44 (dk_at dksJ22_getCeilingEntry_1 20 rfl rfl)
theorem dJ22_getCeilingEntry_45 : decode cJ22_getCeilingEntry 45 = .ok (.getfield 114, 3) := dk_180 0 114 (dk_at dksJ22_getCeilingEntry_1 21 rfl rfl)
theorem dJ22_getCeilingEntry_48 : decode cJ22_getCeilingEntry 48 = .ok (.ifnull 11, 3) := dk_198 0 11 (dk_at dksJ22_getCeilingEntry_2 0 rfl rfl)
theorem dJ22_getCeilingEntry_51 : decode cJ22_getCeilingEntry 51 = .ok (.aload_n 2, 1) := dk_44 (dk_at dksJ22_getCeilingEntry_2 3 rfl rfl)
theorem dJ22_getCeilingEntry_52 : decode cJ22_getCeilingEntry 52 = .ok (.getfield 114, 3) := dk_180 0 114 (dk_at dksJ22_getCeilingEntry_2 4 rfl rfl)
theorem dJ22_getCeilingEntry_55 : decode cJ22_getCeilingEntry 55 = .ok (.astore_n 2, 1) := dk_77 (dk_at dksJ22_getCeilingEntry_2 7 rfl rfl)
theorem dJ22_getCeilingEntry_56 : decode cJ22_getCeilingEntry 56 = .ok (.goto 46, 3) := dk_167 0 46 (dk_at dksJ22_getCeilingEntry_2 8 rfl rfl)
theorem dJ22_getCeilingEntry_59 : decode cJ22_getCeilingEntry 59 = .ok (.aload_n 2, 1) := dk_44 (dk_at dksJ22_getCeilingEntry_2 11 rfl rfl)
theorem dJ22_getCeilingEntry_60 : decode cJ22_getCeilingEntry 60 = .ok (.getfield 124, 3) := dk_180 0 124 (dk_at dksJ22_getCeilingEntry_2 12 rfl rfl)
theorem dJ22_getCeilingEntry_63 : decode cJ22_getCeilingEntry 63 = .ok (.astore 4, 2) := dk_58 4 (dk_at dksJ22_getCeilingEntry_2 15 rfl rfl)
theorem dJ22_getCeilingEntry_65 : decode cJ22_getCeilingEntry 65 = .ok (.aload_n 2, 1) := dk_44 (dk_at dksJ22_getCeilingEntry_2 17 rfl rfl)
theorem dJ22_getCeilingEntry_66 : decode cJ22_getCeilingEntry 66 = .ok (.astore 5, 2) := dk_58 5 (dk_at dksJ22_getCeilingEntry_2 18 rfl rfl)
theorem dJ22_getCeilingEntry_68 : decode cJ22_getCeilingEntry 68 = .ok (.aload 4, 2) := dk_25 4 (dk_at dksJ22_getCeilingEntry_2 20 rfl rfl)
theorem dJ22_getCeilingEntry_70 : decode cJ22_getCeilingEntry 70 = .ok (.ifnull 27, 3) := dk_198 0 27 (dk_at dksJ22_getCeilingEntry_3 0 rfl rfl)
theorem dJ22_getCeilingEntry_73 : decode cJ22_getCeilingEntry 73 = .ok (.aload 5, 2) := dk_25 5 (dk_at dksJ22_getCeilingEntry_3 3 rfl rfl)
theorem dJ22_getCeilingEntry_75 : decode cJ22_getCeilingEntry 75 = .ok (.aload 4, 2) := dk_25 4 (dk_at dksJ22_getCeilingEntry_3 5 rfl rfl)
theorem dJ22_getCeilingEntry_77 : decode cJ22_getCeilingEntry 77 = .ok (.getfield 114, 3) := dk_180 0 114 (dk_at dksJ22_getCeilingEntry_3 7 rfl rfl)
theorem dJ22_getCeilingEntry_80 : decode cJ22_getCeilingEntry 80 = .ok (.if_acmp .ne 17, 3) := dk_166 0 17 (dk_at dksJ22_getCeilingEntry_3 10 rfl rfl)
theorem dJ22_getCeilingEntry_83 : decode cJ22_getCeilingEntry 83 = .ok (.aload 4, 2) := dk_25 4 (dk_at dksJ22_getCeilingEntry_3 13 rfl rfl)
theorem dJ22_getCeilingEntry_85 : decode cJ22_getCeilingEntry 85 = .ok (.astore 5, 2) := dk_58 5 (dk_at dksJ22_getCeilingEntry_3 15 rfl rfl)
theorem dJ22_getCeilingEntry_87 : decode cJ22_getCeilingEntry 87 = .ok (.aload 4, 2) := dk_25 4 (dk_at dksJ22_getCeilingEntry_3 17 rfl rfl)
theorem dJ22_getCeilingEntry_89 : decode cJ22_getCeilingEntry 89 = .ok (.getfield 124, 3) := dk_180 0 124 (dk_at dksJ22_getCeilingEntry_3 19 rfl rfl)
theorem dJ22_getCeilingEntry_92 : decode cJ22_getCeilingEntry 92 = .ok (.astore 4, 2) := dk_58 4 (dk_at dksJ22_getCeilingEntry_3 22 rfl rfl)
theorem dJ22_getCeilingEntry_94 : decode cJ22_getCeilingEntry 94 = .ok (.goto (-26), 3) := dk_167 255 230 (dk_at dksJ22_getCeilingEntry_4 0 rfl rfl)
theorem dJ22_getCeilingEntry_97 : decode cJ22_getCeilingEntry 97 = .ok (.aload 4, 2) := dk_25 4 (dk_at dksJ22_getCeilingEntry_4 3 rfl rfl)
theorem dJ22_getCeilingEntry_99 : decode cJ22_getCeilingEntry 99 = .ok (.areturn, 1) := dk_176 (dk_at dksJ22_getCeilingEntry_4 5 rfl rfl)
theorem dJ22_getCeilingEntry_100 : decode cJ22_getCeilingEntry 100 = .ok (.aload_n 2, 1) := dk_44 (dk_at dksJ22_getCeilingEntry_4 6 rfl rfl)
theorem dJ22_getCeilingEntry_101 : decode cJ22_getCeilingEntry 101 = .ok (.areturn, 1) := dk_176 (dk_at dksJ22_getCeilingEntry_4 7 rfl rfl)
theorem dJ22_getCeilingEntry_102 : decode cJ22_getCeilingEntry 102 = .ok (.goto (-97), 3) := dk_167 255 159 (dk_at dksJ22_getCeilingEntry_4 8 rfl rfl)
theorem dJ22_getCeilingEntry_105 : decode cJ22_getCeilingEntry 105 = .ok (.aconst_null, 1) := dk_1 (dk_at dksJ22_getCeilingEntry_4 11 rfl rfl)
theorem dJ22_getCeilingEntry_106 : decode cJ22_getCeilingEntry 106 = .ok (.areturn, 1) := dk_176 (dk_at dksJ22_getCeilingEntry_4 12 rfl rfl)
abbrev cJ22_keyOrNull : ByteArray := prog_61_method_70_code
def yJ22_keyOrNull : MethodName := ⟨RJ22, "keyOrNull", "(Ljava/util/TreeMap$Entry;)Ljava/lang/Object;"⟩
def dkwJ22_keyOrNull_0 : List UInt8 := [42, 199, 0, 7, 1, 167, 0, 7, 42, 180, 0, 105, 176]
abbrev dktJ22_keyOrNull_0 : List UInt8 := dkwJ22_keyOrNull_0 ++ []
theorem dksJ22_keyOrNull_0 : cJ22_keyOrNull.data.toList.drop 0 = dktJ22_keyOrNull_0 := by decide +kernel
theorem dJ22_keyOrNull_0 : decode cJ22_keyOrNull 0 = .ok (.aload_n 0, 1) := dk_42 (dk_at dksJ22_keyOrNull_0 0 rfl rfl)
theorem dJ22_keyOrNull_1 : decode cJ22_keyOrNull 1 = .ok (.ifnonnull 7, 3) := dk_199 0 7 (dk_at dksJ22_keyOrNull_0 1 rfl rfl)
theorem dJ22_keyOrNull_4 : decode cJ22_keyOrNull 4 = .ok (.aconst_null, 1) := dk_1 (dk_at dksJ22_keyOrNull_0 4 rfl rfl)
theorem dJ22_keyOrNull_5 : decode cJ22_keyOrNull 5 = .ok (.goto 7, 3) := dk_167 0 7 (dk_at dksJ22_keyOrNull_0 5 rfl rfl)
theorem dJ22_keyOrNull_8 : decode cJ22_keyOrNull 8 = .ok (.aload_n 0, 1) := dk_42 (dk_at dksJ22_keyOrNull_0 8 rfl rfl)
theorem dJ22_keyOrNull_9 : decode cJ22_keyOrNull 9 = .ok (.getfield 105, 3) := dk_180 0 105 (dk_at dksJ22_keyOrNull_0 9 rfl rfl)
theorem dJ22_keyOrNull_12 : decode cJ22_keyOrNull 12 = .ok (.areturn, 1) := dk_176 (dk_at dksJ22_keyOrNull_0 12 rfl rfl)
abbrev cJ22_floorKey : ByteArray := prog_61_method_44_code
def yJ22_floorKey : MethodName := ⟨RJ22, "floorKey", "(Ljava/lang/Object;)Ljava/lang/Object;"⟩
def dkwJ22_floorKey_0 : List UInt8 := [42, 43, 182, 0, 210, 184, 0, 207, 176]
abbrev dktJ22_floorKey_0 : List UInt8 := dkwJ22_floorKey_0 ++ []
theorem dksJ22_floorKey_0 : cJ22_floorKey.data.toList.drop 0 = dktJ22_floorKey_0 := by decide +kernel
theorem dJ22_floorKey_0 : decode cJ22_floorKey 0 = .ok (.aload_n 0, 1) := dk_42 (dk_at dksJ22_floorKey_0 0 rfl rfl)
theorem dJ22_floorKey_1 : decode cJ22_floorKey 1 = .ok (.aload_n 1, 1) := dk_43 (dk_at dksJ22_floorKey_0 1 rfl rfl)
theorem dJ22_floorKey_2 : decode cJ22_floorKey 2 = .ok (.invokevirtual 210, 3) := dk_182 0 210 (dk_at dksJ22_floorKey_0 2 rfl rfl)
theorem dJ22_floorKey_5 : decode cJ22_floorKey 5 = .ok (.invokestatic 207, 3) := dk_184 0 207 (dk_at dksJ22_floorKey_0 5 rfl rfl)
theorem dJ22_floorKey_8 : decode cJ22_floorKey 8 = .ok (.areturn, 1) := dk_176 (dk_at dksJ22_floorKey_0 8 rfl rfl)
abbrev cJ22_getFloorEntry : ByteArray := prog_61_method_18_code
def yJ22_getFloorEntry : MethodName := ⟨RJ22, "getFloorEntry", "(Ljava/lang/Object;)Ljava/util/TreeMap$Entry;"⟩
def dkwJ22_getFloorEntry_4 : List UInt8 := [167, 255, 230, 25, 4, 176, 44, 176, 167, 255, 159, 1, 176]
abbrev dktJ22_getFloorEntry_4 : List UInt8 := dkwJ22_getFloorEntry_4 ++ []
def dkwJ22_getFloorEntry_3 : List UInt8 := [198, 0, 27, 25, 5, 25, 4, 180, 0, 111, 166, 0, 17, 25, 4, 58, 5, 25, 4, 180, 0, 124, 58, 4]
abbrev dktJ22_getFloorEntry_3 : List UInt8 := dkwJ22_getFloorEntry_3 ++ dktJ22_getFloorEntry_4
def dkwJ22_getFloorEntry_2 : List UInt8 := [198, 0, 11, 44, 180, 0, 111, 77, 167, 0, 46, 44, 180, 0, 124, 58, 4, 44, 58, 5, 25, 4]
abbrev dktJ22_getFloorEntry_2 : List UInt8 := dkwJ22_getFloorEntry_2 ++ dktJ22_getFloorEntry_3
def dkwJ22_getFloorEntry_1 : List UInt8 := [180, 0, 114, 198, 0, 11, 44, 180, 0, 114, 77, 167, 0, 67, 44, 176, 29, 156, 0, 59, 44, 180, 0, 111]
abbrev dktJ22_getFloorEntry_1 : List UInt8 := dkwJ22_getFloorEntry_1 ++ dktJ22_getFloorEntry_2
def dkwJ22_getFloorEntry_0 : List UInt8 := [42, 180, 0, 101, 77, 44, 198, 0, 99, 42, 43, 44, 180, 0, 105, 182, 0, 123, 62, 29, 158, 0, 20, 44]
abbrev dktJ22_getFloorEntry_0 : List UInt8 := dkwJ22_getFloorEntry_0 ++ dktJ22_getFloorEntry_1
theorem dksJ22_getFloorEntry_0 : cJ22_getFloorEntry.data.toList.drop 0 = dktJ22_getFloorEntry_0 := by decide +kernel
theorem dksJ22_getFloorEntry_1 : cJ22_getFloorEntry.data.toList.drop 24 = dktJ22_getFloorEntry_1 := dk_seg dksJ22_getFloorEntry_0 24 rfl rfl
theorem dksJ22_getFloorEntry_2 : cJ22_getFloorEntry.data.toList.drop 48 = dktJ22_getFloorEntry_2 := dk_seg dksJ22_getFloorEntry_1 24 rfl rfl
theorem dksJ22_getFloorEntry_3 : cJ22_getFloorEntry.data.toList.drop 70 = dktJ22_getFloorEntry_3 := dk_seg dksJ22_getFloorEntry_2 22 rfl rfl
theorem dksJ22_getFloorEntry_4 : cJ22_getFloorEntry.data.toList.drop 94 = dktJ22_getFloorEntry_4 := dk_seg dksJ22_getFloorEntry_3 24 rfl rfl
theorem dJ22_getFloorEntry_0 : decode cJ22_getFloorEntry 0 = .ok (.aload_n 0, 1) := dk_42 (dk_at dksJ22_getFloorEntry_0 0 rfl rfl)
theorem dJ22_getFloorEntry_1 : decode cJ22_getFloorEntry 1 = .ok (.getfield 101, 3) := dk_180 0 101 (dk_at dksJ22_getFloorEntry_0 1 rfl rfl)
theorem dJ22_getFloorEntry_4 : decode cJ22_getFloorEntry 4 = .ok (.astore_n 2, 1) := dk_77 (dk_at dksJ22_getFloorEntry_0 4 rfl rfl)
theorem dJ22_getFloorEntry_5 : decode cJ22_getFloorEntry 5 = .ok (.aload_n 2, 1) := dk_44 (dk_at dksJ22_getFloorEntry_0 5 rfl rfl)
theorem dJ22_getFloorEntry_6 : decode cJ22_getFloorEntry 6 = .ok (.ifnull 99, 3) := dk_198 0 99 (dk_at dksJ22_getFloorEntry_0 6 rfl rfl)
theorem dJ22_getFloorEntry_9 : decode cJ22_getFloorEntry 9 = .ok (.aload_n 0, 1) := dk_42 (dk_at dksJ22_getFloorEntry_0 9 rfl rfl)
theorem dJ22_getFloorEntry_10 : decode cJ22_getFloorEntry 10 = .ok (.aload_n 1, 1) := dk_43 (dk_at dksJ22_getFloorEntry_0 10 rfl rfl)
theorem dJ22_getFloorEntry_11 : decode cJ22_getFloorEntry 11 = .ok (.aload_n 2, 1) := dk_44 (dk_at dksJ22_getFloorEntry_0 11 rfl rfl)
theorem dJ22_getFloorEntry_12 : decode cJ22_getFloorEntry 12 = .ok (.getfield 105, 3) := dk_180 0 105 (dk_at dksJ22_getFloorEntry_0 12 rfl rfl)
theorem dJ22_getFloorEntry_15 : decode cJ22_getFloorEntry 15 = .ok (.invokevirtual 123, 3) := dk_182 0 123 (dk_at dksJ22_getFloorEntry_0 15 rfl rfl)
theorem dJ22_getFloorEntry_18 : decode cJ22_getFloorEntry 18 = .ok (.istore_n 3, 1) := dk_62 (dk_at dksJ22_getFloorEntry_0 18 rfl rfl)
theorem dJ22_getFloorEntry_19 : decode cJ22_getFloorEntry 19 = .ok (.iload_n 3, 1) := dk_29 (dk_at dksJ22_getFloorEntry_0 19 rfl rfl)
theorem dJ22_getFloorEntry_20 : decode cJ22_getFloorEntry 20 = .ok (.ifCond .le 20, 3) := dk_158 0 20 (dk_at dksJ22_getFloorEntry_0 20 rfl rfl)
theorem dJ22_getFloorEntry_23 : decode cJ22_getFloorEntry 23 = .ok (.aload_n 2, 1) := dk_44 (dk_at dksJ22_getFloorEntry_0 23 rfl rfl)
theorem dJ22_getFloorEntry_24 : decode cJ22_getFloorEntry 24 = .ok (.getfield 114, 3) := dk_180 0 114 (dk_at dksJ22_getFloorEntry_1 0 rfl rfl)
theorem dJ22_getFloorEntry_27 : decode cJ22_getFloorEntry 27 = .ok (.ifnull 11, 3) := dk_198 0 11 (dk_at dksJ22_getFloorEntry_1 3 rfl rfl)
theorem dJ22_getFloorEntry_30 : decode cJ22_getFloorEntry 30 = .ok (.aload_n 2, 1) := dk_44 (dk_at dksJ22_getFloorEntry_1 6 rfl rfl)
theorem dJ22_getFloorEntry_31 : decode cJ22_getFloorEntry 31 = .ok (.getfield 114, 3) := dk_180 0 114 (dk_at dksJ22_getFloorEntry_1 7 rfl rfl)
theorem dJ22_getFloorEntry_34 : decode cJ22_getFloorEntry 34 = .ok (.astore_n 2, 1) := dk_77 (dk_at dksJ22_getFloorEntry_1 10 rfl rfl)
theorem dJ22_getFloorEntry_35 : decode cJ22_getFloorEntry 35 = .ok (.goto 67, 3) := dk_167 0 67 (dk_at dksJ22_getFloorEntry_1 11 rfl rfl)
theorem dJ22_getFloorEntry_38 : decode cJ22_getFloorEntry 38 = .ok (.aload_n 2, 1) := dk_44 (dk_at dksJ22_getFloorEntry_1 14 rfl rfl)
theorem dJ22_getFloorEntry_39 : decode cJ22_getFloorEntry 39 = .ok (.areturn, 1) := dk_176 (dk_at dksJ22_getFloorEntry_1 15 rfl rfl)
theorem dJ22_getFloorEntry_40 : decode cJ22_getFloorEntry 40 = .ok (.iload_n 3, 1) := dk_29 (dk_at dksJ22_getFloorEntry_1 16 rfl rfl)
theorem dJ22_getFloorEntry_41 : decode cJ22_getFloorEntry 41 = .ok (.ifCond .ge 59, 3) := dk_156 0 59 (dk_at dksJ22_getFloorEntry_1 17 rfl rfl)
theorem dJ22_getFloorEntry_44 : decode cJ22_getFloorEntry 44 = .ok (.aload_n 2, 1) := dk_44 (dk_at dksJ22_getFloorEntry_1 20 rfl rfl)
theorem dJ22_getFloorEntry_45 : decode cJ22_getFloorEntry 45 = .ok (.getfield 111, 3) := dk_180 0 111 (dk_at dksJ22_getFloorEntry_1 21 rfl rfl)
theorem dJ22_getFloorEntry_48 : decode cJ22_getFloorEntry 48 = .ok (.ifnull 11, 3) := dk_198 0 11 (dk_at dksJ22_getFloorEntry_2 0 rfl rfl)
theorem dJ22_getFloorEntry_51 : decode cJ22_getFloorEntry 51 = .ok (.aload_n 2, 1) := dk_44 (dk_at dksJ22_getFloorEntry_2 3 rfl rfl)
theorem dJ22_getFloorEntry_52 : decode cJ22_getFloorEntry 52 = .ok (.getfield 111, 3) := dk_180 0 111 (dk_at dksJ22_getFloorEntry_2 4 rfl rfl)
theorem dJ22_getFloorEntry_55 : decode cJ22_getFloorEntry 55 = .ok (.astore_n 2, 1) := dk_77 (dk_at dksJ22_getFloorEntry_2 7 rfl rfl)
theorem dJ22_getFloorEntry_56 : decode cJ22_getFloorEntry 56 = .ok (.goto 46, 3) := dk_167 0 46 (dk_at dksJ22_getFloorEntry_2 8 rfl rfl)
theorem dJ22_getFloorEntry_59 : decode cJ22_getFloorEntry 59 = .ok (.aload_n 2, 1) := dk_44 (dk_at dksJ22_getFloorEntry_2 11 rfl rfl)
theorem dJ22_getFloorEntry_60 : decode cJ22_getFloorEntry 60 = .ok (.getfield 124, 3) := dk_180 0 124 (dk_at dksJ22_getFloorEntry_2 12 rfl rfl)
theorem dJ22_getFloorEntry_63 : decode cJ22_getFloorEntry 63 = .ok (.astore 4, 2) := dk_58 4 (dk_at dksJ22_getFloorEntry_2 15 rfl rfl)
theorem dJ22_getFloorEntry_65 : decode cJ22_getFloorEntry 65 = .ok (.aload_n 2, 1) := dk_44 (dk_at dksJ22_getFloorEntry_2 17 rfl rfl)
theorem dJ22_getFloorEntry_66 : decode cJ22_getFloorEntry 66 = .ok (.astore 5, 2) := dk_58 5 (dk_at dksJ22_getFloorEntry_2 18 rfl rfl)
theorem dJ22_getFloorEntry_68 : decode cJ22_getFloorEntry 68 = .ok (.aload 4, 2) := dk_25 4 (dk_at dksJ22_getFloorEntry_2 20 rfl rfl)
theorem dJ22_getFloorEntry_70 : decode cJ22_getFloorEntry 70 = .ok (.ifnull 27, 3) := dk_198 0 27 (dk_at dksJ22_getFloorEntry_3 0 rfl rfl)
theorem dJ22_getFloorEntry_73 : decode cJ22_getFloorEntry 73 = .ok (.aload 5, 2) := dk_25 5 (dk_at dksJ22_getFloorEntry_3 3 rfl rfl)
theorem dJ22_getFloorEntry_75 : decode cJ22_getFloorEntry 75 = .ok (.aload 4, 2) := dk_25 4 (dk_at dksJ22_getFloorEntry_3 5 rfl rfl)
theorem dJ22_getFloorEntry_77 : decode cJ22_getFloorEntry 77 = .ok (.getfield 111, 3) := dk_180 0 111 (dk_at dksJ22_getFloorEntry_3 7 rfl rfl)
theorem dJ22_getFloorEntry_80 : decode cJ22_getFloorEntry 80 = .ok (.if_acmp .ne 17, 3) := dk_166 0 17 (dk_at dksJ22_getFloorEntry_3 10 rfl rfl)
theorem dJ22_getFloorEntry_83 : decode cJ22_getFloorEntry 83 = .ok (.aload 4, 2) := dk_25 4 (dk_at dksJ22_getFloorEntry_3 13 rfl rfl)
theorem dJ22_getFloorEntry_85 : decode cJ22_getFloorEntry 85 = .ok (.astore 5, 2) := dk_58 5 (dk_at dksJ22_getFloorEntry_3 15 rfl rfl)
theorem dJ22_getFloorEntry_87 : decode cJ22_getFloorEntry 87 = .ok (.aload 4, 2) := dk_25 4 (dk_at dksJ22_getFloorEntry_3 17 rfl rfl)
theorem dJ22_getFloorEntry_89 : decode cJ22_getFloorEntry 89 = .ok (.getfield 124, 3) := dk_180 0 124 (dk_at dksJ22_getFloorEntry_3 19 rfl rfl)
theorem dJ22_getFloorEntry_92 : decode cJ22_getFloorEntry 92 = .ok (.astore 4, 2) := dk_58 4 (dk_at dksJ22_getFloorEntry_3 22 rfl rfl)
theorem dJ22_getFloorEntry_94 : decode cJ22_getFloorEntry 94 = .ok (.goto (-26), 3) := dk_167 255 230 (dk_at dksJ22_getFloorEntry_4 0 rfl rfl)
theorem dJ22_getFloorEntry_97 : decode cJ22_getFloorEntry 97 = .ok (.aload 4, 2) := dk_25 4 (dk_at dksJ22_getFloorEntry_4 3 rfl rfl)
theorem dJ22_getFloorEntry_99 : decode cJ22_getFloorEntry 99 = .ok (.areturn, 1) := dk_176 (dk_at dksJ22_getFloorEntry_4 5 rfl rfl)
theorem dJ22_getFloorEntry_100 : decode cJ22_getFloorEntry 100 = .ok (.aload_n 2, 1) := dk_44 (dk_at dksJ22_getFloorEntry_4 6 rfl rfl)
theorem dJ22_getFloorEntry_101 : decode cJ22_getFloorEntry 101 = .ok (.areturn, 1) := dk_176 (dk_at dksJ22_getFloorEntry_4 7 rfl rfl)
theorem dJ22_getFloorEntry_102 : decode cJ22_getFloorEntry 102 = .ok (.goto (-97), 3) := dk_167 255 159 (dk_at dksJ22_getFloorEntry_4 8 rfl rfl)
theorem dJ22_getFloorEntry_105 : decode cJ22_getFloorEntry 105 = .ok (.aconst_null, 1) := dk_1 (dk_at dksJ22_getFloorEntry_4 11 rfl rfl)
theorem dJ22_getFloorEntry_106 : decode cJ22_getFloorEntry 106 = .ok (.areturn, 1) := dk_176 (dk_at dksJ22_getFloorEntry_4 12 rfl rfl)
theorem q87 : (Jvm.Cond.initialized "java/util/TreeMap") ∈ lw_all := lw_g (lw_at lw_m1 35 rfl) rfl
theorem q743 : (Jvm.Cond.selects "java/util/TreeMap" ({ cls := "java/lang/Object", name := "getClass", desc := "()Ljava/lang/Class;" } : Jvm.MethodName) ({ cls := "java/lang/Object", name := "getClass", desc := "()Ljava/lang/Class;" } : Jvm.MethodName)) ∈ lw_all := lw_g (lw_at lw_m3 211 rfl) rfl
theorem q1323 : (Jvm.Cond.instantiable "java/util/TreeMap" (9 : Nat)) ∈ lw_all := lw_g (lw_at lw_m6 71 rfl) rfl
theorem q1332 : (Jvm.Cond.instanceMethod ({ cls := "java/util/TreeMap", name := "<init>", desc := "(Ljava/util/Comparator;)V" } : Jvm.MethodName)) ∈ lw_all := lw_g (lw_at lw_m6 80 rfl) rfl
theorem q1333 : (Jvm.Cond.code ({ cls := "java/util/TreeMap", name := "<init>", desc := "(Ljava/util/Comparator;)V" } : Jvm.MethodName) prog_61_method_2_code (2 : Nat) (Option.none : Option Jvm.ClassFile.FieldType)) ∈ lw_all := lw_g (lw_at lw_m6 81 rfl) rfl
theorem q1334 : (Jvm.Cond.methodLink "java/util/TreeMap" (1 : Nat) ({ cls := "java/util/AbstractMap", name := "<init>", desc := "()V" } : Jvm.MethodName)) ∈ lw_all := lw_g (lw_at lw_m6 82 rfl) rfl
theorem q1335 : (Jvm.Cond.fieldLink "java/util/TreeMap" (16 : Nat) "java/util/TreeMap" "comparator" "Ljava/util/Comparator;") ∈ lw_all := lw_g (lw_at lw_m6 83 rfl) rfl
theorem q1336 : (Jvm.Cond.fieldLink "java/util/TreeMap" (101 : Nat) "java/util/TreeMap" "root" "Ljava/util/TreeMap$Entry;") ∈ lw_all := lw_g (lw_at lw_m6 84 rfl) rfl
theorem q1337 : (Jvm.Cond.fieldLink "java/util/TreeMap" (7 : Nat) "java/util/TreeMap" "size" "I") ∈ lw_all := lw_g (lw_at lw_m6 85 rfl) rfl
theorem q1338 : (Jvm.Cond.fieldLink "java/util/TreeMap" (13 : Nat) "java/util/TreeMap" "modCount" "I") ∈ lw_all := lw_g (lw_at lw_m6 86 rfl) rfl
theorem q1339 : (Jvm.Cond.laysFinal "java/util/TreeMap" "java/util/TreeMap" "comparator" "Ljava/util/Comparator;") ∈ lw_all := lw_g (lw_at lw_m6 87 rfl) rfl
theorem q1340 : (Jvm.Cond.soleField "java/util/TreeMap" "comparator") ∈ lw_all := lw_g (lw_at lw_m6 88 rfl) rfl
theorem q1341 : (Jvm.Cond.lays "java/util/TreeMap" "java/util/TreeMap" "root" "Ljava/util/TreeMap$Entry;") ∈ lw_all := lw_g (lw_at lw_m6 89 rfl) rfl
theorem q1342 : (Jvm.Cond.soleField "java/util/TreeMap" "root") ∈ lw_all := lw_g (lw_at lw_m6 90 rfl) rfl
theorem q1343 : (Jvm.Cond.lays "java/util/TreeMap" "java/util/TreeMap" "size" "I") ∈ lw_all := lw_g (lw_at lw_m6 91 rfl) rfl
theorem q1344 : (Jvm.Cond.soleField "java/util/TreeMap" "size") ∈ lw_all := lw_g (lw_at lw_m6 92 rfl) rfl
theorem q1345 : (Jvm.Cond.lays "java/util/TreeMap" "java/util/TreeMap" "modCount" "I") ∈ lw_all := lw_g (lw_at lw_m6 93 rfl) rfl
theorem q1346 : (Jvm.Cond.soleField "java/util/TreeMap" "modCount") ∈ lw_all := lw_g (lw_at lw_m6 94 rfl) rfl
theorem q1347 : (Jvm.Cond.lays "java/util/TreeMap" "java/util/TreeMap" "entrySet" "Ljava/util/TreeMap$EntrySet;") ∈ lw_all := lw_g (lw_at lw_m6 95 rfl) rfl
theorem q1348 : (Jvm.Cond.soleField "java/util/TreeMap" "entrySet") ∈ lw_all := lw_g (lw_at lw_m6 96 rfl) rfl
theorem q1349 : (Jvm.Cond.lays "java/util/TreeMap" "java/util/TreeMap" "navigableKeySet" "Ljava/util/TreeMap$KeySet;") ∈ lw_all := lw_g (lw_at lw_m6 97 rfl) rfl
theorem q1350 : (Jvm.Cond.soleField "java/util/TreeMap" "navigableKeySet") ∈ lw_all := lw_g (lw_at lw_m6 98 rfl) rfl
theorem q1351 : (Jvm.Cond.lays "java/util/TreeMap" "java/util/TreeMap" "descendingMap" "Ljava/util/NavigableMap;") ∈ lw_all := lw_g (lw_at lw_m6 99 rfl) rfl
theorem q1352 : (Jvm.Cond.soleField "java/util/TreeMap" "descendingMap") ∈ lw_all := lw_g (lw_at lw_m6 100 rfl) rfl
theorem q1353 : (Jvm.Cond.lays "java/util/TreeMap" "java/util/AbstractMap" "keySet" "Ljava/util/Set;") ∈ lw_all := lw_g (lw_at lw_m6 101 rfl) rfl
theorem q1354 : (Jvm.Cond.lays "java/util/TreeMap" "java/util/AbstractMap" "values" "Ljava/util/Collection;") ∈ lw_all := lw_g (lw_at lw_m6 102 rfl) rfl
theorem q1355 : (Jvm.Cond.superclass "java/util/TreeMap" "java/util/AbstractMap") ∈ lw_all := lw_g (lw_at lw_m6 103 rfl) rfl
theorem q1357 : (Jvm.Cond.instanceMethod ({ cls := "java/util/TreeMap", name := "get", desc := "(Ljava/lang/Object;)Ljava/lang/Object;" } : Jvm.MethodName)) ∈ lw_all := lw_g (lw_at lw_m6 105 rfl) rfl
theorem q1358 : (Jvm.Cond.selects "java/util/TreeMap" ({ cls := "java/util/TreeMap", name := "get", desc := "(Ljava/lang/Object;)Ljava/lang/Object;" } : Jvm.MethodName) ({ cls := "java/util/TreeMap", name := "get", desc := "(Ljava/lang/Object;)Ljava/lang/Object;" } : Jvm.MethodName)) ∈ lw_all := lw_g (lw_at lw_m6 106 rfl) rfl
theorem q1359 : (Jvm.Cond.code ({ cls := "java/util/TreeMap", name := "get", desc := "(Ljava/lang/Object;)Ljava/lang/Object;" } : Jvm.MethodName) prog_61_method_8_code (3 : Nat) (Option.some (Jvm.ClassFile.FieldType.object "java/lang/Object"))) ∈ lw_all := lw_g (lw_at lw_m6 107 rfl) rfl
theorem q1360 : (Jvm.Cond.methodLink "java/util/TreeMap" (50 : Nat) ({ cls := "java/util/TreeMap", name := "getEntry", desc := "(Ljava/lang/Object;)Ljava/util/TreeMap$Entry;" } : Jvm.MethodName)) ∈ lw_all := lw_g (lw_at lw_m6 108 rfl) rfl
theorem q1361 : (Jvm.Cond.instanceMethod ({ cls := "java/util/TreeMap", name := "getEntry", desc := "(Ljava/lang/Object;)Ljava/util/TreeMap$Entry;" } : Jvm.MethodName)) ∈ lw_all := lw_g (lw_at lw_m6 109 rfl) rfl
theorem q1362 : (Jvm.Cond.selects "java/util/TreeMap" ({ cls := "java/util/TreeMap", name := "getEntry", desc := "(Ljava/lang/Object;)Ljava/util/TreeMap$Entry;" } : Jvm.MethodName) ({ cls := "java/util/TreeMap", name := "getEntry", desc := "(Ljava/lang/Object;)Ljava/util/TreeMap$Entry;" } : Jvm.MethodName)) ∈ lw_all := lw_g (lw_at lw_m6 110 rfl) rfl
theorem q1363 : (Jvm.Cond.code ({ cls := "java/util/TreeMap", name := "getEntry", desc := "(Ljava/lang/Object;)Ljava/util/TreeMap$Entry;" } : Jvm.MethodName) prog_61_method_15_code (5 : Nat) (Option.some (Jvm.ClassFile.FieldType.object "java/util/TreeMap$Entry"))) ∈ lw_all := lw_g (lw_at lw_m6 111 rfl) rfl
theorem q1364 : (Jvm.Cond.methodLink "java/util/TreeMap" (92 : Nat) ({ cls := "java/util/TreeMap", name := "getEntryUsingComparator", desc := "(Ljava/lang/Object;)Ljava/util/TreeMap$Entry;" } : Jvm.MethodName)) ∈ lw_all := lw_g (lw_at lw_m6 112 rfl) rfl
theorem q1365 : (Jvm.Cond.instanceMethod ({ cls := "java/util/TreeMap", name := "getEntryUsingComparator", desc := "(Ljava/lang/Object;)Ljava/util/TreeMap$Entry;" } : Jvm.MethodName)) ∈ lw_all := lw_g (lw_at lw_m6 113 rfl) rfl
theorem q1366 : (Jvm.Cond.selects "java/util/TreeMap" ({ cls := "java/util/TreeMap", name := "getEntryUsingComparator", desc := "(Ljava/lang/Object;)Ljava/util/TreeMap$Entry;" } : Jvm.MethodName) ({ cls := "java/util/TreeMap", name := "getEntryUsingComparator", desc := "(Ljava/lang/Object;)Ljava/util/TreeMap$Entry;" } : Jvm.MethodName)) ∈ lw_all := lw_g (lw_at lw_m6 114 rfl) rfl
theorem q1367 : (Jvm.Cond.code ({ cls := "java/util/TreeMap", name := "getEntryUsingComparator", desc := "(Ljava/lang/Object;)Ljava/util/TreeMap$Entry;" } : Jvm.MethodName) prog_61_method_16_code (6 : Nat) (Option.some (Jvm.ClassFile.FieldType.object "java/util/TreeMap$Entry"))) ∈ lw_all := lw_g (lw_at lw_m6 115 rfl) rfl
theorem q1368 : (Jvm.Cond.interfaceEntry "java/util/TreeMap" (117 : Nat)) ∈ lw_tbl := lw_at lw_m6 116 rfl
theorem q1369 : (Jvm.Cond.methodLink "java/util/TreeMap" (117 : Nat) ({ cls := "java/util/Comparator", name := "compare", desc := "(Ljava/lang/Object;Ljava/lang/Object;)I" } : Jvm.MethodName)) ∈ lw_all := lw_g (lw_at lw_m6 117 rfl) rfl
theorem q1384 : (Jvm.Cond.methodLink "java/util/TreeMap" (95 : Nat) ({ cls := "java/util/Objects", name := "requireNonNull", desc := "(Ljava/lang/Object;)Ljava/lang/Object;" } : Jvm.MethodName)) ∈ lw_all := lw_g (lw_at lw_m6 132 rfl) rfl
theorem q1387 : (Jvm.Cond.classLink "java/util/TreeMap" (99 : Nat) "java/lang/Comparable") ∈ lw_all := lw_g (lw_at lw_m6 135 rfl) rfl
theorem q1388 : (Jvm.Cond.interfaceEntry "java/util/TreeMap" (107 : Nat)) ∈ lw_tbl := lw_at lw_m6 136 rfl
theorem q1389 : (Jvm.Cond.methodLink "java/util/TreeMap" (107 : Nat) ({ cls := "java/lang/Comparable", name := "compareTo", desc := "(Ljava/lang/Object;)I" } : Jvm.MethodName)) ∈ lw_all := lw_g (lw_at lw_m6 137 rfl) rfl
theorem q1391 : (Jvm.Cond.instanceMethod ({ cls := "java/util/TreeMap", name := "put", desc := "(Ljava/lang/Object;Ljava/lang/Object;)Ljava/lang/Object;" } : Jvm.MethodName)) ∈ lw_all := lw_g (lw_at lw_m6 139 rfl) rfl
theorem q1392 : (Jvm.Cond.selects "java/util/TreeMap" ({ cls := "java/util/TreeMap", name := "put", desc := "(Ljava/lang/Object;Ljava/lang/Object;)Ljava/lang/Object;" } : Jvm.MethodName) ({ cls := "java/util/TreeMap", name := "put", desc := "(Ljava/lang/Object;Ljava/lang/Object;)Ljava/lang/Object;" } : Jvm.MethodName)) ∈ lw_all := lw_g (lw_at lw_m6 140 rfl) rfl
theorem q1393 : (Jvm.Cond.code ({ cls := "java/util/TreeMap", name := "put", desc := "(Ljava/lang/Object;Ljava/lang/Object;)Ljava/lang/Object;" } : Jvm.MethodName) prog_61_method_21_code (3 : Nat) (Option.some (Jvm.ClassFile.FieldType.object "java/lang/Object"))) ∈ lw_all := lw_g (lw_at lw_m6 141 rfl) rfl
theorem q1394 : (Jvm.Cond.methodLink "java/util/TreeMap" (127 : Nat) ({ cls := "java/util/TreeMap", name := "put", desc := "(Ljava/lang/Object;Ljava/lang/Object;Z)Ljava/lang/Object;" } : Jvm.MethodName)) ∈ lw_all := lw_g (lw_at lw_m6 142 rfl) rfl
theorem q1395 : (Jvm.Cond.privateMethod ({ cls := "java/util/TreeMap", name := "put", desc := "(Ljava/lang/Object;Ljava/lang/Object;Z)Ljava/lang/Object;" } : Jvm.MethodName)) ∈ lw_tbl := lw_at lw_m6 143 rfl
theorem q1396 : (Jvm.Cond.instanceMethod ({ cls := "java/util/TreeMap", name := "put", desc := "(Ljava/lang/Object;Ljava/lang/Object;Z)Ljava/lang/Object;" } : Jvm.MethodName)) ∈ lw_all := lw_g (lw_at lw_m6 144 rfl) rfl
theorem q1397 : (Jvm.Cond.code ({ cls := "java/util/TreeMap", name := "put", desc := "(Ljava/lang/Object;Ljava/lang/Object;Z)Ljava/lang/Object;" } : Jvm.MethodName) prog_61_method_31_code (10 : Nat) (Option.some (Jvm.ClassFile.FieldType.object "java/lang/Object"))) ∈ lw_all := lw_g (lw_at lw_m6 145 rfl) rfl
theorem q1398 : (Jvm.Cond.methodLink "java/util/TreeMap" (135 : Nat) ({ cls := "java/util/TreeMap", name := "addEntryToEmptyMap", desc := "(Ljava/lang/Object;Ljava/lang/Object;)V" } : Jvm.MethodName)) ∈ lw_all := lw_g (lw_at lw_m6 146 rfl) rfl
theorem q1399 : (Jvm.Cond.privateMethod ({ cls := "java/util/TreeMap", name := "addEntryToEmptyMap", desc := "(Ljava/lang/Object;Ljava/lang/Object;)V" } : Jvm.MethodName)) ∈ lw_tbl := lw_at lw_m6 147 rfl
theorem q1400 : (Jvm.Cond.instanceMethod ({ cls := "java/util/TreeMap", name := "addEntryToEmptyMap", desc := "(Ljava/lang/Object;Ljava/lang/Object;)V" } : Jvm.MethodName)) ∈ lw_all := lw_g (lw_at lw_m6 148 rfl) rfl
theorem q1401 : (Jvm.Cond.code ({ cls := "java/util/TreeMap", name := "addEntryToEmptyMap", desc := "(Ljava/lang/Object;Ljava/lang/Object;)V" } : Jvm.MethodName) prog_61_method_30_code (3 : Nat) (Option.none : Option Jvm.ClassFile.FieldType)) ∈ lw_all := lw_g (lw_at lw_m6 149 rfl) rfl
theorem q1402 : (Jvm.Cond.methodLink "java/util/TreeMap" (123 : Nat) ({ cls := "java/util/TreeMap", name := "compare", desc := "(Ljava/lang/Object;Ljava/lang/Object;)I" } : Jvm.MethodName)) ∈ lw_all := lw_g (lw_at lw_m6 150 rfl) rfl
theorem q1403 : (Jvm.Cond.instanceMethod ({ cls := "java/util/TreeMap", name := "compare", desc := "(Ljava/lang/Object;Ljava/lang/Object;)I" } : Jvm.MethodName)) ∈ lw_all := lw_g (lw_at lw_m6 151 rfl) rfl
theorem q1404 : (Jvm.Cond.selects "java/util/TreeMap" ({ cls := "java/util/TreeMap", name := "compare", desc := "(Ljava/lang/Object;Ljava/lang/Object;)I" } : Jvm.MethodName) ({ cls := "java/util/TreeMap", name := "compare", desc := "(Ljava/lang/Object;Ljava/lang/Object;)I" } : Jvm.MethodName)) ∈ lw_all := lw_g (lw_at lw_m6 152 rfl) rfl
theorem q1405 : (Jvm.Cond.code ({ cls := "java/util/TreeMap", name := "compare", desc := "(Ljava/lang/Object;Ljava/lang/Object;)I" } : Jvm.MethodName) prog_61_method_67_code (3 : Nat) (Option.some Jvm.ClassFile.FieldType.int)) ∈ lw_all := lw_g (lw_at lw_m6 153 rfl) rfl
theorem q1406 : (Jvm.Cond.classLink "java/util/TreeMap" (59 : Nat) "java/util/TreeMap$Entry") ∈ lw_all := lw_g (lw_at lw_m6 154 rfl) rfl
theorem q1408 : (Jvm.Cond.methodLink "java/util/TreeMap" (167 : Nat) ({ cls := "java/util/TreeMap$Entry", name := "<init>", desc := "(Ljava/lang/Object;Ljava/lang/Object;Ljava/util/TreeMap$Entry;)V" } : Jvm.MethodName)) ∈ lw_all := lw_g (lw_at lw_m6 156 rfl) rfl
theorem q1413 : (Jvm.Cond.fieldLink "java/util/TreeMap" (105 : Nat) "java/util/TreeMap$Entry" "key" "Ljava/lang/Object;") ∈ lw_all := lw_g (lw_at lw_m6 161 rfl) rfl
theorem q1415 : (Jvm.Cond.fieldLink "java/util/TreeMap" (58 : Nat) "java/util/TreeMap$Entry" "value" "Ljava/lang/Object;") ∈ lw_all := lw_g (lw_at lw_m6 163 rfl) rfl
theorem q1416 : (Jvm.Cond.fieldLink "java/util/TreeMap" (111 : Nat) "java/util/TreeMap$Entry" "left" "Ljava/util/TreeMap$Entry;") ∈ lw_all := lw_g (lw_at lw_m6 164 rfl) rfl
theorem q1417 : (Jvm.Cond.fieldLink "java/util/TreeMap" (114 : Nat) "java/util/TreeMap$Entry" "right" "Ljava/util/TreeMap$Entry;") ∈ lw_all := lw_g (lw_at lw_m6 165 rfl) rfl
theorem q1419 : (Jvm.Cond.fieldLink "java/util/TreeMap" (124 : Nat) "java/util/TreeMap$Entry" "parent" "Ljava/util/TreeMap$Entry;") ∈ lw_all := lw_g (lw_at lw_m6 167 rfl) rfl
theorem q1421 : (Jvm.Cond.fieldLink "java/util/TreeMap" (290 : Nat) "java/util/TreeMap$Entry" "color" "Z") ∈ lw_all := lw_g (lw_at lw_m6 169 rfl) rfl
theorem q1435 : (Jvm.Cond.methodLink "java/util/TreeMap" (139 : Nat) ({ cls := "java/util/TreeMap", name := "addEntry", desc := "(Ljava/lang/Object;Ljava/lang/Object;Ljava/util/TreeMap$Entry;Z)V" } : Jvm.MethodName)) ∈ lw_all := lw_g (lw_at lw_m6 183 rfl) rfl
theorem q1436 : (Jvm.Cond.privateMethod ({ cls := "java/util/TreeMap", name := "addEntry", desc := "(Ljava/lang/Object;Ljava/lang/Object;Ljava/util/TreeMap$Entry;Z)V" } : Jvm.MethodName)) ∈ lw_tbl := lw_at lw_m6 184 rfl
theorem q1437 : (Jvm.Cond.instanceMethod ({ cls := "java/util/TreeMap", name := "addEntry", desc := "(Ljava/lang/Object;Ljava/lang/Object;Ljava/util/TreeMap$Entry;Z)V" } : Jvm.MethodName)) ∈ lw_all := lw_g (lw_at lw_m6 185 rfl) rfl
theorem q1438 : (Jvm.Cond.code ({ cls := "java/util/TreeMap", name := "addEntry", desc := "(Ljava/lang/Object;Ljava/lang/Object;Ljava/util/TreeMap$Entry;Z)V" } : Jvm.MethodName) prog_61_method_29_code (6 : Nat) (Option.none : Option Jvm.ClassFile.FieldType)) ∈ lw_all := lw_g (lw_at lw_m6 186 rfl) rfl
theorem q1439 : (Jvm.Cond.methodLink "java/util/TreeMap" (170 : Nat) ({ cls := "java/util/TreeMap", name := "fixAfterInsertion", desc := "(Ljava/util/TreeMap$Entry;)V" } : Jvm.MethodName)) ∈ lw_all := lw_g (lw_at lw_m6 187 rfl) rfl
theorem q1440 : (Jvm.Cond.privateMethod ({ cls := "java/util/TreeMap", name := "fixAfterInsertion", desc := "(Ljava/util/TreeMap$Entry;)V" } : Jvm.MethodName)) ∈ lw_tbl := lw_at lw_m6 188 rfl
theorem q1441 : (Jvm.Cond.instanceMethod ({ cls := "java/util/TreeMap", name := "fixAfterInsertion", desc := "(Ljava/util/TreeMap$Entry;)V" } : Jvm.MethodName)) ∈ lw_all := lw_g (lw_at lw_m6 189 rfl) rfl
theorem q1442 : (Jvm.Cond.code ({ cls := "java/util/TreeMap", name := "fixAfterInsertion", desc := "(Ljava/util/TreeMap$Entry;)V" } : Jvm.MethodName) prog_61_method_83_code (3 : Nat) (Option.none : Option Jvm.ClassFile.FieldType)) ∈ lw_all := lw_g (lw_at lw_m6 190 rfl) rfl
theorem q1443 : (Jvm.Cond.methodLink "java/util/TreeMap" (294 : Nat) ({ cls := "java/util/TreeMap", name := "parentOf", desc := "(Ljava/util/TreeMap$Entry;)Ljava/util/TreeMap$Entry;" } : Jvm.MethodName)) ∈ lw_all := lw_g (lw_at lw_m6 191 rfl) rfl
theorem q1444 : (Jvm.Cond.static ({ cls := "java/util/TreeMap", name := "parentOf", desc := "(Ljava/util/TreeMap$Entry;)Ljava/util/TreeMap$Entry;" } : Jvm.MethodName)) ∈ lw_all := lw_g (lw_at lw_m6 192 rfl) rfl
theorem q1445 : (Jvm.Cond.code ({ cls := "java/util/TreeMap", name := "parentOf", desc := "(Ljava/util/TreeMap$Entry;)Ljava/util/TreeMap$Entry;" } : Jvm.MethodName) prog_61_method_77_code (1 : Nat) (Option.some (Jvm.ClassFile.FieldType.object "java/util/TreeMap$Entry"))) ∈ lw_all := lw_g (lw_at lw_m6 193 rfl) rfl
theorem q1446 : (Jvm.Cond.methodLink "java/util/TreeMap" (297 : Nat) ({ cls := "java/util/TreeMap", name := "leftOf", desc := "(Ljava/util/TreeMap$Entry;)Ljava/util/TreeMap$Entry;" } : Jvm.MethodName)) ∈ lw_all := lw_g (lw_at lw_m6 194 rfl) rfl
theorem q1447 : (Jvm.Cond.static ({ cls := "java/util/TreeMap", name := "leftOf", desc := "(Ljava/util/TreeMap$Entry;)Ljava/util/TreeMap$Entry;" } : Jvm.MethodName)) ∈ lw_all := lw_g (lw_at lw_m6 195 rfl) rfl
theorem q1448 : (Jvm.Cond.code ({ cls := "java/util/TreeMap", name := "leftOf", desc := "(Ljava/util/TreeMap$Entry;)Ljava/util/TreeMap$Entry;" } : Jvm.MethodName) prog_61_method_79_code (1 : Nat) (Option.some (Jvm.ClassFile.FieldType.object "java/util/TreeMap$Entry"))) ∈ lw_all := lw_g (lw_at lw_m6 196 rfl) rfl
theorem q1449 : (Jvm.Cond.methodLink "java/util/TreeMap" (300 : Nat) ({ cls := "java/util/TreeMap", name := "rightOf", desc := "(Ljava/util/TreeMap$Entry;)Ljava/util/TreeMap$Entry;" } : Jvm.MethodName)) ∈ lw_all := lw_g (lw_at lw_m6 197 rfl) rfl
theorem q1450 : (Jvm.Cond.static ({ cls := "java/util/TreeMap", name := "rightOf", desc := "(Ljava/util/TreeMap$Entry;)Ljava/util/TreeMap$Entry;" } : Jvm.MethodName)) ∈ lw_all := lw_g (lw_at lw_m6 198 rfl) rfl
theorem q1451 : (Jvm.Cond.code ({ cls := "java/util/TreeMap", name := "rightOf", desc := "(Ljava/util/TreeMap$Entry;)Ljava/util/TreeMap$Entry;" } : Jvm.MethodName) prog_61_method_80_code (1 : Nat) (Option.some (Jvm.ClassFile.FieldType.object "java/util/TreeMap$Entry"))) ∈ lw_all := lw_g (lw_at lw_m6 199 rfl) rfl
theorem q1452 : (Jvm.Cond.methodLink "java/util/TreeMap" (303 : Nat) ({ cls := "java/util/TreeMap", name := "colorOf", desc := "(Ljava/util/TreeMap$Entry;)Z" } : Jvm.MethodName)) ∈ lw_all := lw_g (lw_at lw_m6 200 rfl) rfl
theorem q1453 : (Jvm.Cond.static ({ cls := "java/util/TreeMap", name := "colorOf", desc := "(Ljava/util/TreeMap$Entry;)Z" } : Jvm.MethodName)) ∈ lw_all := lw_g (lw_at lw_m6 201 rfl) rfl
theorem q1454 : (Jvm.Cond.code ({ cls := "java/util/TreeMap", name := "colorOf", desc := "(Ljava/util/TreeMap$Entry;)Z" } : Jvm.MethodName) prog_61_method_76_code (1 : Nat) (Option.some Jvm.ClassFile.FieldType.boolean)) ∈ lw_all := lw_g (lw_at lw_m6 202 rfl) rfl
theorem q1455 : (Jvm.Cond.methodLink "java/util/TreeMap" (307 : Nat) ({ cls := "java/util/TreeMap", name := "setColor", desc := "(Ljava/util/TreeMap$Entry;Z)V" } : Jvm.MethodName)) ∈ lw_all := lw_g (lw_at lw_m6 203 rfl) rfl
theorem q1456 : (Jvm.Cond.static ({ cls := "java/util/TreeMap", name := "setColor", desc := "(Ljava/util/TreeMap$Entry;Z)V" } : Jvm.MethodName)) ∈ lw_all := lw_g (lw_at lw_m6 204 rfl) rfl
theorem q1457 : (Jvm.Cond.code ({ cls := "java/util/TreeMap", name := "setColor", desc := "(Ljava/util/TreeMap$Entry;Z)V" } : Jvm.MethodName) prog_61_method_78_code (2 : Nat) (Option.none : Option Jvm.ClassFile.FieldType)) ∈ lw_all := lw_g (lw_at lw_m6 205 rfl) rfl
theorem q1458 : (Jvm.Cond.methodLink "java/util/TreeMap" (311 : Nat) ({ cls := "java/util/TreeMap", name := "rotateLeft", desc := "(Ljava/util/TreeMap$Entry;)V" } : Jvm.MethodName)) ∈ lw_all := lw_g (lw_at lw_m6 206 rfl) rfl
theorem q1459 : (Jvm.Cond.privateMethod ({ cls := "java/util/TreeMap", name := "rotateLeft", desc := "(Ljava/util/TreeMap$Entry;)V" } : Jvm.MethodName)) ∈ lw_tbl := lw_at lw_m6 207 rfl
theorem q1460 : (Jvm.Cond.instanceMethod ({ cls := "java/util/TreeMap", name := "rotateLeft", desc := "(Ljava/util/TreeMap$Entry;)V" } : Jvm.MethodName)) ∈ lw_all := lw_g (lw_at lw_m6 208 rfl) rfl
theorem q1461 : (Jvm.Cond.code ({ cls := "java/util/TreeMap", name := "rotateLeft", desc := "(Ljava/util/TreeMap$Entry;)V" } : Jvm.MethodName) prog_61_method_81_code (3 : Nat) (Option.none : Option Jvm.ClassFile.FieldType)) ∈ lw_all := lw_g (lw_at lw_m6 209 rfl) rfl
theorem q1462 : (Jvm.Cond.methodLink "java/util/TreeMap" (314 : Nat) ({ cls := "java/util/TreeMap", name := "rotateRight", desc := "(Ljava/util/TreeMap$Entry;)V" } : Jvm.MethodName)) ∈ lw_all := lw_g (lw_at lw_m6 210 rfl) rfl
theorem q1463 : (Jvm.Cond.privateMethod ({ cls := "java/util/TreeMap", name := "rotateRight", desc := "(Ljava/util/TreeMap$Entry;)V" } : Jvm.MethodName)) ∈ lw_tbl := lw_at lw_m6 211 rfl
theorem q1464 : (Jvm.Cond.instanceMethod ({ cls := "java/util/TreeMap", name := "rotateRight", desc := "(Ljava/util/TreeMap$Entry;)V" } : Jvm.MethodName)) ∈ lw_all := lw_g (lw_at lw_m6 212 rfl) rfl
theorem q1465 : (Jvm.Cond.code ({ cls := "java/util/TreeMap", name := "rotateRight", desc := "(Ljava/util/TreeMap$Entry;)V" } : Jvm.MethodName) prog_61_method_82_code (3 : Nat) (Option.none : Option Jvm.ClassFile.FieldType)) ∈ lw_all := lw_g (lw_at lw_m6 213 rfl) rfl
theorem q1467 : (Jvm.Cond.instanceMethod ({ cls := "java/util/TreeMap", name := "ceilingKey", desc := "(Ljava/lang/Object;)Ljava/lang/Object;" } : Jvm.MethodName)) ∈ lw_all := lw_g (lw_at lw_m6 215 rfl) rfl
theorem q1468 : (Jvm.Cond.selects "java/util/TreeMap" ({ cls := "java/util/TreeMap", name := "ceilingKey", desc := "(Ljava/lang/Object;)Ljava/lang/Object;" } : Jvm.MethodName) ({ cls := "java/util/TreeMap", name := "ceilingKey", desc := "(Ljava/lang/Object;)Ljava/lang/Object;" } : Jvm.MethodName)) ∈ lw_all := lw_g (lw_at lw_m6 216 rfl) rfl
theorem q1469 : (Jvm.Cond.code ({ cls := "java/util/TreeMap", name := "ceilingKey", desc := "(Ljava/lang/Object;)Ljava/lang/Object;" } : Jvm.MethodName) prog_61_method_46_code (2 : Nat) (Option.some (Jvm.ClassFile.FieldType.object "java/lang/Object"))) ∈ lw_all := lw_g (lw_at lw_m6 217 rfl) rfl
theorem q1470 : (Jvm.Cond.methodLink "java/util/TreeMap" (213 : Nat) ({ cls := "java/util/TreeMap", name := "getCeilingEntry", desc := "(Ljava/lang/Object;)Ljava/util/TreeMap$Entry;" } : Jvm.MethodName)) ∈ lw_all := lw_g (lw_at lw_m6 218 rfl) rfl
theorem q1471 : (Jvm.Cond.instanceMethod ({ cls := "java/util/TreeMap", name := "getCeilingEntry", desc := "(Ljava/lang/Object;)Ljava/util/TreeMap$Entry;" } : Jvm.MethodName)) ∈ lw_all := lw_g (lw_at lw_m6 219 rfl) rfl
theorem q1472 : (Jvm.Cond.selects "java/util/TreeMap" ({ cls := "java/util/TreeMap", name := "getCeilingEntry", desc := "(Ljava/lang/Object;)Ljava/util/TreeMap$Entry;" } : Jvm.MethodName) ({ cls := "java/util/TreeMap", name := "getCeilingEntry", desc := "(Ljava/lang/Object;)Ljava/util/TreeMap$Entry;" } : Jvm.MethodName)) ∈ lw_all := lw_g (lw_at lw_m6 220 rfl) rfl
theorem q1473 : (Jvm.Cond.code ({ cls := "java/util/TreeMap", name := "getCeilingEntry", desc := "(Ljava/lang/Object;)Ljava/util/TreeMap$Entry;" } : Jvm.MethodName) prog_61_method_17_code (6 : Nat) (Option.some (Jvm.ClassFile.FieldType.object "java/util/TreeMap$Entry"))) ∈ lw_all := lw_g (lw_at lw_m6 221 rfl) rfl
theorem q1474 : (Jvm.Cond.methodLink "java/util/TreeMap" (207 : Nat) ({ cls := "java/util/TreeMap", name := "keyOrNull", desc := "(Ljava/util/TreeMap$Entry;)Ljava/lang/Object;" } : Jvm.MethodName)) ∈ lw_all := lw_g (lw_at lw_m6 222 rfl) rfl
theorem q1475 : (Jvm.Cond.static ({ cls := "java/util/TreeMap", name := "keyOrNull", desc := "(Ljava/util/TreeMap$Entry;)Ljava/lang/Object;" } : Jvm.MethodName)) ∈ lw_all := lw_g (lw_at lw_m6 223 rfl) rfl
theorem q1476 : (Jvm.Cond.code ({ cls := "java/util/TreeMap", name := "keyOrNull", desc := "(Ljava/util/TreeMap$Entry;)Ljava/lang/Object;" } : Jvm.MethodName) prog_61_method_70_code (1 : Nat) (Option.some (Jvm.ClassFile.FieldType.object "java/lang/Object"))) ∈ lw_all := lw_g (lw_at lw_m6 224 rfl) rfl
theorem q1478 : (Jvm.Cond.instanceMethod ({ cls := "java/util/TreeMap", name := "floorKey", desc := "(Ljava/lang/Object;)Ljava/lang/Object;" } : Jvm.MethodName)) ∈ lw_all := lw_g (lw_at lw_m6 226 rfl) rfl
theorem q1479 : (Jvm.Cond.selects "java/util/TreeMap" ({ cls := "java/util/TreeMap", name := "floorKey", desc := "(Ljava/lang/Object;)Ljava/lang/Object;" } : Jvm.MethodName) ({ cls := "java/util/TreeMap", name := "floorKey", desc := "(Ljava/lang/Object;)Ljava/lang/Object;" } : Jvm.MethodName)) ∈ lw_all := lw_g (lw_at lw_m6 227 rfl) rfl
theorem q1480 : (Jvm.Cond.code ({ cls := "java/util/TreeMap", name := "floorKey", desc := "(Ljava/lang/Object;)Ljava/lang/Object;" } : Jvm.MethodName) prog_61_method_44_code (2 : Nat) (Option.some (Jvm.ClassFile.FieldType.object "java/lang/Object"))) ∈ lw_all := lw_g (lw_at lw_m6 228 rfl) rfl
theorem q1481 : (Jvm.Cond.methodLink "java/util/TreeMap" (210 : Nat) ({ cls := "java/util/TreeMap", name := "getFloorEntry", desc := "(Ljava/lang/Object;)Ljava/util/TreeMap$Entry;" } : Jvm.MethodName)) ∈ lw_all := lw_g (lw_at lw_m6 229 rfl) rfl
theorem q1482 : (Jvm.Cond.instanceMethod ({ cls := "java/util/TreeMap", name := "getFloorEntry", desc := "(Ljava/lang/Object;)Ljava/util/TreeMap$Entry;" } : Jvm.MethodName)) ∈ lw_all := lw_g (lw_at lw_m6 230 rfl) rfl
theorem q1483 : (Jvm.Cond.selects "java/util/TreeMap" ({ cls := "java/util/TreeMap", name := "getFloorEntry", desc := "(Ljava/lang/Object;)Ljava/util/TreeMap$Entry;" } : Jvm.MethodName) ({ cls := "java/util/TreeMap", name := "getFloorEntry", desc := "(Ljava/lang/Object;)Ljava/util/TreeMap$Entry;" } : Jvm.MethodName)) ∈ lw_all := lw_g (lw_at lw_m6 231 rfl) rfl
theorem q1484 : (Jvm.Cond.code ({ cls := "java/util/TreeMap", name := "getFloorEntry", desc := "(Ljava/lang/Object;)Ljava/util/TreeMap$Entry;" } : Jvm.MethodName) prog_61_method_18_code (6 : Nat) (Option.some (Jvm.ClassFile.FieldType.object "java/util/TreeMap$Entry"))) ∈ lw_all := lw_g (lw_at lw_m6 232 rfl) rfl
theorem q1885 : (Jvm.Cond.castable "java/util/TreeMap" "java/lang/Object") ∈ lw_tbl := lw_at lw_m8 153 rfl
theorem in_J22 : ∀ w ∈ wsJ220, w ∈ lw_all := lw_in wsJ220 [1353, 1354, 1339, 1341, 1343, 1345, 1347, 1349, 1351] (by decide +kernel) (by decide +kernel)

/-! java/util/Objects -/
set_option maxRecDepth 100000
def RJ23 : String := "java/util/Objects"
abbrev cJ23_requireNonNull : ByteArray := prog_54_method_10_code
def yJ23_requireNonNull : MethodName := ⟨RJ23, "requireNonNull", "(Ljava/lang/Object;)Ljava/lang/Object;"⟩
def dkwJ23_requireNonNull_0 : List UInt8 := [42, 199, 0, 11, 187, 0, 84, 89, 183, 0, 86, 191, 42, 176]
abbrev dktJ23_requireNonNull_0 : List UInt8 := dkwJ23_requireNonNull_0 ++ []
theorem dksJ23_requireNonNull_0 : cJ23_requireNonNull.data.toList.drop 0 = dktJ23_requireNonNull_0 := by decide +kernel
theorem dJ23_requireNonNull_0 : decode cJ23_requireNonNull 0 = .ok (.aload_n 0, 1) := dk_42 (dk_at dksJ23_requireNonNull_0 0 rfl rfl)
theorem dJ23_requireNonNull_1 : decode cJ23_requireNonNull 1 = .ok (.ifnonnull 11, 3) := dk_199 0 11 (dk_at dksJ23_requireNonNull_0 1 rfl rfl)
theorem dJ23_requireNonNull_4 : decode cJ23_requireNonNull 4 = .ok (.new 84, 3) := dk_187 0 84 (dk_at dksJ23_requireNonNull_0 4 rfl rfl)
theorem dJ23_requireNonNull_7 : decode cJ23_requireNonNull 7 = .ok (.dup, 1) := dk_89 (dk_at dksJ23_requireNonNull_0 7 rfl rfl)
theorem dJ23_requireNonNull_8 : decode cJ23_requireNonNull 8 = .ok (.invokespecial 86, 3) := dk_183 0 86 (dk_at dksJ23_requireNonNull_0 8 rfl rfl)
theorem dJ23_requireNonNull_11 : decode cJ23_requireNonNull 11 = .ok (.athrow, 1) := dk_191 (dk_at dksJ23_requireNonNull_0 11 rfl rfl)
theorem dJ23_requireNonNull_12 : decode cJ23_requireNonNull 12 = .ok (.aload_n 0, 1) := dk_42 (dk_at dksJ23_requireNonNull_0 12 rfl rfl)
theorem dJ23_requireNonNull_13 : decode cJ23_requireNonNull 13 = .ok (.areturn, 1) := dk_176 (dk_at dksJ23_requireNonNull_0 13 rfl rfl)
theorem q89 : (Jvm.Cond.initialized "java/util/Objects") ∈ lw_all := lw_g (lw_at lw_m1 37 rfl) rfl
theorem q1385 : (Jvm.Cond.static ({ cls := "java/util/Objects", name := "requireNonNull", desc := "(Ljava/lang/Object;)Ljava/lang/Object;" } : Jvm.MethodName)) ∈ lw_all := lw_g (lw_at lw_m6 133 rfl) rfl
theorem q1386 : (Jvm.Cond.code ({ cls := "java/util/Objects", name := "requireNonNull", desc := "(Ljava/lang/Object;)Ljava/lang/Object;" } : Jvm.MethodName) prog_54_method_10_code (1 : Nat) (Option.some (Jvm.ClassFile.FieldType.object "java/lang/Object"))) ∈ lw_all := lw_g (lw_at lw_m6 134 rfl) rfl

/-! java/util/TreeMap$Entry -/
set_option maxRecDepth 100000
def RJ24 : String := "java/util/TreeMap$Entry"
def TJ24 : u_T := fun k => match k with
  | 0 => ("java/util/TreeMap$Entry", "key", "Ljava/lang/Object;", false)
  | 1 => ("java/util/TreeMap$Entry", "value", "Ljava/lang/Object;", false)
  | 2 => ("java/util/TreeMap$Entry", "left", "Ljava/util/TreeMap$Entry;", false)
  | 3 => ("java/util/TreeMap$Entry", "right", "Ljava/util/TreeMap$Entry;", false)
  | 4 => ("java/util/TreeMap$Entry", "parent", "Ljava/util/TreeMap$Entry;", false)
  | _ => ("java/util/TreeMap$Entry", "color", "Z", false)
def tyJ24 : Nat → FieldType := fun k => match k with
  | 0 => .object "java/lang/Object"
  | 1 => .object "java/lang/Object"
  | 2 => .object "java/util/TreeMap$Entry"
  | 3 => .object "java/util/TreeMap$Entry"
  | 4 => .object "java/util/TreeMap$Entry"
  | _ => .boolean
abbrev wsJ240 : List Cond := u_ws RJ24 TJ24 6
theorem nmJ24 : ∀ a, a < 6 → ∀ b, b < 6 → a ≠ b → (TJ24 a).2.1 ≠ (TJ24 b).2.1 := by decide +kernel
theorem tyJ24_ok : ∀ k, k < 6 → parseFieldDescriptor (TJ24 k).2.2.1 = some (tyJ24 k) := by decide +kernel
abbrev cJ24_init : ByteArray := prog_62_method_1_code
def yJ24_init : MethodName := ⟨RJ24, "<init>", "(Ljava/lang/Object;Ljava/lang/Object;Ljava/util/TreeMap$Entry;)V"⟩
def dkwJ24_init_1 : List UInt8 := [177]
abbrev dktJ24_init_1 : List UInt8 := dkwJ24_init_1 ++ []
def dkwJ24_init_0 : List UInt8 := [42, 183, 0, 3, 42, 4, 181, 0, 9, 42, 43, 181, 0, 15, 42, 44, 181, 0, 19, 42, 45, 181, 0, 22]
abbrev dktJ24_init_0 : List UInt8 := dkwJ24_init_0 ++ dktJ24_init_1
theorem dksJ24_init_0 : cJ24_init.data.toList.drop 0 = dktJ24_init_0 := by decide +kernel
theorem dksJ24_init_1 : cJ24_init.data.toList.drop 24 = dktJ24_init_1 := dk_seg dksJ24_init_0 24 rfl rfl
theorem dJ24_init_0 : decode cJ24_init 0 = .ok (.aload_n 0, 1) := dk_42 (dk_at dksJ24_init_0 0 rfl rfl)
theorem dJ24_init_1 : decode cJ24_init 1 = .ok (.invokespecial 3, 3) := dk_183 0 3 (dk_at dksJ24_init_0 1 rfl rfl)
theorem dJ24_init_4 : decode cJ24_init 4 = .ok (.aload_n 0, 1) := dk_42 (dk_at dksJ24_init_0 4 rfl rfl)
theorem dJ24_init_5 : decode cJ24_init 5 = .ok (.iconst 1, 1) := dk_4 (dk_at dksJ24_init_0 5 rfl rfl)
theorem dJ24_init_6 : decode cJ24_init 6 = .ok (.putfield 9, 3) := dk_181 0 9 (dk_at dksJ24_init_0 6 rfl rfl)
theorem dJ24_init_9 : decode cJ24_init 9 = .ok (.aload_n 0, 1) := dk_42 (dk_at dksJ24_init_0 9 rfl rfl)
theorem dJ24_init_10 : decode cJ24_init 10 = .ok (.aload_n 1, 1) := dk_43 (dk_at dksJ24_init_0 10 rfl rfl)
theorem dJ24_init_11 : decode cJ24_init 11 = .ok (.putfield 15, 3) := dk_181 0 15 (dk_at dksJ24_init_0 11 rfl rfl)
theorem dJ24_init_14 : decode cJ24_init 14 = .ok (.aload_n 0, 1) := dk_42 (dk_at dksJ24_init_0 14 rfl rfl)
theorem dJ24_init_15 : decode cJ24_init 15 = .ok (.aload_n 2, 1) := dk_44 (dk_at dksJ24_init_0 15 rfl rfl)
theorem dJ24_init_16 : decode cJ24_init 16 = .ok (.putfield 19, 3) := dk_181 0 19 (dk_at dksJ24_init_0 16 rfl rfl)
theorem dJ24_init_19 : decode cJ24_init 19 = .ok (.aload_n 0, 1) := dk_42 (dk_at dksJ24_init_0 19 rfl rfl)
theorem dJ24_init_20 : decode cJ24_init 20 = .ok (.aload_n 3, 1) := dk_45 (dk_at dksJ24_init_0 20 rfl rfl)
theorem dJ24_init_21 : decode cJ24_init 21 = .ok (.putfield 22, 3) := dk_181 0 22 (dk_at dksJ24_init_0 21 rfl rfl)
theorem dJ24_init_24 : decode cJ24_init 24 = .ok (.return_, 1) := dk_177 (dk_at dksJ24_init_1 0 rfl rfl)
theorem q90 : (Jvm.Cond.initialized "java/util/TreeMap$Entry") ∈ lw_all := lw_g (lw_at lw_m1 38 rfl) rfl
theorem q744 : (Jvm.Cond.selects "java/util/TreeMap$Entry" ({ cls := "java/lang/Object", name := "getClass", desc := "()Ljava/lang/Class;" } : Jvm.MethodName) ({ cls := "java/lang/Object", name := "getClass", desc := "()Ljava/lang/Class;" } : Jvm.MethodName)) ∈ lw_all := lw_g (lw_at lw_m3 212 rfl) rfl
theorem q1407 : (Jvm.Cond.instantiable "java/util/TreeMap$Entry" (6 : Nat)) ∈ lw_all := lw_g (lw_at lw_m6 155 rfl) rfl
theorem q1409 : (Jvm.Cond.instanceMethod ({ cls := "java/util/TreeMap$Entry", name := "<init>", desc := "(Ljava/lang/Object;Ljava/lang/Object;Ljava/util/TreeMap$Entry;)V" } : Jvm.MethodName)) ∈ lw_all := lw_g (lw_at lw_m6 157 rfl) rfl
theorem q1410 : (Jvm.Cond.code ({ cls := "java/util/TreeMap$Entry", name := "<init>", desc := "(Ljava/lang/Object;Ljava/lang/Object;Ljava/util/TreeMap$Entry;)V" } : Jvm.MethodName) prog_62_method_1_code (4 : Nat) (Option.none : Option Jvm.ClassFile.FieldType)) ∈ lw_all := lw_g (lw_at lw_m6 158 rfl) rfl
theorem q1411 : (Jvm.Cond.methodLink "java/util/TreeMap$Entry" (3 : Nat) ({ cls := "java/lang/Object", name := "<init>", desc := "()V" } : Jvm.MethodName)) ∈ lw_all := lw_g (lw_at lw_m6 159 rfl) rfl
theorem q1412 : (Jvm.Cond.fieldLink "java/util/TreeMap$Entry" (15 : Nat) "java/util/TreeMap$Entry" "key" "Ljava/lang/Object;") ∈ lw_all := lw_g (lw_at lw_m6 160 rfl) rfl
theorem q1414 : (Jvm.Cond.fieldLink "java/util/TreeMap$Entry" (19 : Nat) "java/util/TreeMap$Entry" "value" "Ljava/lang/Object;") ∈ lw_all := lw_g (lw_at lw_m6 162 rfl) rfl
theorem q1418 : (Jvm.Cond.fieldLink "java/util/TreeMap$Entry" (22 : Nat) "java/util/TreeMap$Entry" "parent" "Ljava/util/TreeMap$Entry;") ∈ lw_all := lw_g (lw_at lw_m6 166 rfl) rfl
theorem q1420 : (Jvm.Cond.fieldLink "java/util/TreeMap$Entry" (9 : Nat) "java/util/TreeMap$Entry" "color" "Z") ∈ lw_all := lw_g (lw_at lw_m6 168 rfl) rfl
theorem q1422 : (Jvm.Cond.lays "java/util/TreeMap$Entry" "java/util/TreeMap$Entry" "key" "Ljava/lang/Object;") ∈ lw_all := lw_g (lw_at lw_m6 170 rfl) rfl
theorem q1423 : (Jvm.Cond.soleField "java/util/TreeMap$Entry" "key") ∈ lw_all := lw_g (lw_at lw_m6 171 rfl) rfl
theorem q1424 : (Jvm.Cond.lays "java/util/TreeMap$Entry" "java/util/TreeMap$Entry" "value" "Ljava/lang/Object;") ∈ lw_all := lw_g (lw_at lw_m6 172 rfl) rfl
theorem q1425 : (Jvm.Cond.soleField "java/util/TreeMap$Entry" "value") ∈ lw_all := lw_g (lw_at lw_m6 173 rfl) rfl
theorem q1426 : (Jvm.Cond.lays "java/util/TreeMap$Entry" "java/util/TreeMap$Entry" "left" "Ljava/util/TreeMap$Entry;") ∈ lw_all := lw_g (lw_at lw_m6 174 rfl) rfl
theorem q1427 : (Jvm.Cond.soleField "java/util/TreeMap$Entry" "left") ∈ lw_all := lw_g (lw_at lw_m6 175 rfl) rfl
theorem q1428 : (Jvm.Cond.lays "java/util/TreeMap$Entry" "java/util/TreeMap$Entry" "right" "Ljava/util/TreeMap$Entry;") ∈ lw_all := lw_g (lw_at lw_m6 176 rfl) rfl
theorem q1429 : (Jvm.Cond.soleField "java/util/TreeMap$Entry" "right") ∈ lw_all := lw_g (lw_at lw_m6 177 rfl) rfl
theorem q1430 : (Jvm.Cond.lays "java/util/TreeMap$Entry" "java/util/TreeMap$Entry" "parent" "Ljava/util/TreeMap$Entry;") ∈ lw_all := lw_g (lw_at lw_m6 178 rfl) rfl
theorem q1431 : (Jvm.Cond.soleField "java/util/TreeMap$Entry" "parent") ∈ lw_all := lw_g (lw_at lw_m6 179 rfl) rfl
theorem q1432 : (Jvm.Cond.lays "java/util/TreeMap$Entry" "java/util/TreeMap$Entry" "color" "Z") ∈ lw_all := lw_g (lw_at lw_m6 180 rfl) rfl
theorem q1433 : (Jvm.Cond.soleField "java/util/TreeMap$Entry" "color") ∈ lw_all := lw_g (lw_at lw_m6 181 rfl) rfl
theorem q1434 : (Jvm.Cond.superclass "java/util/TreeMap$Entry" "java/lang/Object") ∈ lw_all := lw_g (lw_at lw_m6 182 rfl) rfl
theorem q1887 : (Jvm.Cond.castable "java/util/TreeMap$Entry" "java/lang/Object") ∈ lw_tbl := lw_at lw_m8 155 rfl
theorem in_J24 : ∀ w ∈ wsJ240, w ∈ lw_all := lw_in wsJ240 [1422, 1424, 1426, 1428, 1430, 1432] (by decide +kernel) (by decide +kernel)

/-! java/lang/RuntimeException -/
set_option maxRecDepth 100000
def RJ25 : String := "java/lang/RuntimeException"
abbrev cJ25_init : ByteArray := prog_25_method_2_code
def yJ25_init : MethodName := ⟨RJ25, "<init>", "(Ljava/lang/String;)V"⟩
def dkwJ25_init_0 : List UInt8 := [42, 43, 183, 0, 7, 177]
abbrev dktJ25_init_0 : List UInt8 := dkwJ25_init_0 ++ []
theorem dksJ25_init_0 : cJ25_init.data.toList.drop 0 = dktJ25_init_0 := by decide +kernel
theorem dJ25_init_0 : decode cJ25_init 0 = .ok (.aload_n 0, 1) := dk_42 (dk_at dksJ25_init_0 0 rfl rfl)
theorem dJ25_init_1 : decode cJ25_init 1 = .ok (.aload_n 1, 1) := dk_43 (dk_at dksJ25_init_0 1 rfl rfl)
theorem dJ25_init_2 : decode cJ25_init 2 = .ok (.invokespecial 7, 3) := dk_183 0 7 (dk_at dksJ25_init_0 2 rfl rfl)
theorem dJ25_init_5 : decode cJ25_init 5 = .ok (.return_, 1) := dk_177 (dk_at dksJ25_init_0 5 rfl rfl)
theorem q91 : (Jvm.Cond.initialized "java/lang/RuntimeException") ∈ lw_all := lw_g (lw_at lw_m1 39 rfl) rfl
theorem q1512 : (Jvm.Cond.instanceMethod ({ cls := "java/lang/RuntimeException", name := "<init>", desc := "(Ljava/lang/String;)V" } : Jvm.MethodName)) ∈ lw_all := lw_g (lw_at lw_m7 20 rfl) rfl
theorem q1513 : (Jvm.Cond.code ({ cls := "java/lang/RuntimeException", name := "<init>", desc := "(Ljava/lang/String;)V" } : Jvm.MethodName) prog_25_method_2_code (2 : Nat) (Option.none : Option Jvm.ClassFile.FieldType)) ∈ lw_all := lw_g (lw_at lw_m7 21 rfl) rfl
theorem q1514 : (Jvm.Cond.methodLink "java/lang/RuntimeException" (7 : Nat) ({ cls := "java/lang/Exception", name := "<init>", desc := "(Ljava/lang/String;)V" } : Jvm.MethodName)) ∈ lw_all := lw_g (lw_at lw_m7 22 rfl) rfl
theorem q1523 : (Jvm.Cond.declares ({ cls := "java/lang/RuntimeException", name := "<init>", desc := "()V" } : Jvm.MethodName)) ∈ lw_tbl := lw_at lw_m7 31 rfl
theorem q1524 : (Jvm.Cond.declares ({ cls := "java/lang/RuntimeException", name := "<init>", desc := "(Ljava/lang/String;)V" } : Jvm.MethodName)) ∈ lw_tbl := lw_at lw_m7 32 rfl

/-! java/lang/ArithmeticException -/
set_option maxRecDepth 100000
def RJ26 : String := "java/lang/ArithmeticException"
def TJ26 : u_T := fun k => match k with
  | 0 => ("java/lang/Throwable", "backtrace", "Ljava/lang/Object;", false)
  | 1 => ("java/lang/Throwable", "detailMessage", "Ljava/lang/String;", false)
  | 2 => ("java/lang/Throwable", "cause", "Ljava/lang/Throwable;", false)
  | 3 => ("java/lang/Throwable", "stackTrace", "[Ljava/lang/StackTraceElement;", false)
  | 4 => ("java/lang/Throwable", "depth", "I", false)
  | _ => ("java/lang/Throwable", "suppressedExceptions", "Ljava/util/List;", false)
def tyJ26 : Nat → FieldType := fun k => match k with
  | 0 => .object "java/lang/Object"
  | 1 => .object "java/lang/String"
  | 2 => .object "java/lang/Throwable"
  | 3 => .array (.object "java/lang/StackTraceElement")
  | 4 => .int
  | _ => .object "java/util/List"
abbrev wsJ260 : List Cond := u_ws RJ26 TJ26 6
theorem nmJ26 : ∀ a, a < 6 → ∀ b, b < 6 → a ≠ b → (TJ26 a).2.1 ≠ (TJ26 b).2.1 := by decide +kernel
theorem tyJ26_ok : ∀ k, k < 6 → parseFieldDescriptor (TJ26 k).2.2.1 = some (tyJ26 k) := by decide +kernel
abbrev cJ26_init : ByteArray := prog_14_method_2_code
def yJ26_init : MethodName := ⟨RJ26, "<init>", "(Ljava/lang/String;)V"⟩
def dkwJ26_init_0 : List UInt8 := [42, 43, 183, 0, 7, 177]
abbrev dktJ26_init_0 : List UInt8 := dkwJ26_init_0 ++ []
theorem dksJ26_init_0 : cJ26_init.data.toList.drop 0 = dktJ26_init_0 := by decide +kernel
theorem dJ26_init_0 : decode cJ26_init 0 = .ok (.aload_n 0, 1) := dk_42 (dk_at dksJ26_init_0 0 rfl rfl)
theorem dJ26_init_1 : decode cJ26_init 1 = .ok (.aload_n 1, 1) := dk_43 (dk_at dksJ26_init_0 1 rfl rfl)
theorem dJ26_init_2 : decode cJ26_init 2 = .ok (.invokespecial 7, 3) := dk_183 0 7 (dk_at dksJ26_init_0 2 rfl rfl)
theorem dJ26_init_5 : decode cJ26_init 5 = .ok (.return_, 1) := dk_177 (dk_at dksJ26_init_0 5 rfl rfl)
theorem q92 : (Jvm.Cond.initialized "java/lang/ArithmeticException") ∈ lw_all := lw_g (lw_at lw_m1 40 rfl) rfl
theorem q318 : (Jvm.Cond.selects "java/lang/ArithmeticException" ({ cls := "java/lang/Throwable", name := "fillInStackTrace", desc := "()Ljava/lang/Throwable;" } : Jvm.MethodName) ({ cls := "java/lang/Throwable", name := "fillInStackTrace", desc := "()Ljava/lang/Throwable;" } : Jvm.MethodName)) ∈ lw_all := lw_g (lw_at lw_m2 26 rfl) rfl
theorem q553 : (Jvm.Cond.selects "java/lang/ArithmeticException" ({ cls := "java/lang/Object", name := "hashCode", desc := "()I" } : Jvm.MethodName) ({ cls := "java/lang/Object", name := "hashCode", desc := "()I" } : Jvm.MethodName)) ∈ lw_all := lw_g (lw_at lw_m3 21 rfl) rfl
theorem q734 : (Jvm.Cond.selects "java/lang/ArithmeticException" ({ cls := "java/lang/Object", name := "getClass", desc := "()Ljava/lang/Class;" } : Jvm.MethodName) ({ cls := "java/lang/Object", name := "getClass", desc := "()Ljava/lang/Class;" } : Jvm.MethodName)) ∈ lw_all := lw_g (lw_at lw_m3 202 rfl) rfl
theorem q958 : (Jvm.Cond.selects "java/lang/ArithmeticException" ({ cls := "java/lang/Object", name := "equals", desc := "(Ljava/lang/Object;)Z" } : Jvm.MethodName) ({ cls := "java/lang/Object", name := "equals", desc := "(Ljava/lang/Object;)Z" } : Jvm.MethodName)) ∈ lw_all := lw_g (lw_at lw_m4 186 rfl) rfl
theorem q1508 : (Jvm.Cond.instantiable "java/lang/ArithmeticException" (6 : Nat)) ∈ lw_all := lw_g (lw_at lw_m7 16 rfl) rfl
theorem q1509 : (Jvm.Cond.instanceMethod ({ cls := "java/lang/ArithmeticException", name := "<init>", desc := "(Ljava/lang/String;)V" } : Jvm.MethodName)) ∈ lw_all := lw_g (lw_at lw_m7 17 rfl) rfl
theorem q1510 : (Jvm.Cond.code ({ cls := "java/lang/ArithmeticException", name := "<init>", desc := "(Ljava/lang/String;)V" } : Jvm.MethodName) prog_14_method_2_code (2 : Nat) (Option.none : Option Jvm.ClassFile.FieldType)) ∈ lw_all := lw_g (lw_at lw_m7 18 rfl) rfl
theorem q1511 : (Jvm.Cond.methodLink "java/lang/ArithmeticException" (7 : Nat) ({ cls := "java/lang/RuntimeException", name := "<init>", desc := "(Ljava/lang/String;)V" } : Jvm.MethodName)) ∈ lw_all := lw_g (lw_at lw_m7 19 rfl) rfl
theorem q1515 : (Jvm.Cond.lays "java/lang/ArithmeticException" "java/lang/Throwable" "backtrace" "Ljava/lang/Object;") ∈ lw_all := lw_g (lw_at lw_m7 23 rfl) rfl
theorem q1516 : (Jvm.Cond.lays "java/lang/ArithmeticException" "java/lang/Throwable" "detailMessage" "Ljava/lang/String;") ∈ lw_all := lw_g (lw_at lw_m7 24 rfl) rfl
theorem q1517 : (Jvm.Cond.lays "java/lang/ArithmeticException" "java/lang/Throwable" "cause" "Ljava/lang/Throwable;") ∈ lw_all := lw_g (lw_at lw_m7 25 rfl) rfl
theorem q1518 : (Jvm.Cond.lays "java/lang/ArithmeticException" "java/lang/Throwable" "stackTrace" "[Ljava/lang/StackTraceElement;") ∈ lw_all := lw_g (lw_at lw_m7 26 rfl) rfl
theorem q1519 : (Jvm.Cond.lays "java/lang/ArithmeticException" "java/lang/Throwable" "depth" "I") ∈ lw_all := lw_g (lw_at lw_m7 27 rfl) rfl
theorem q1520 : (Jvm.Cond.lays "java/lang/ArithmeticException" "java/lang/Throwable" "suppressedExceptions" "Ljava/util/List;") ∈ lw_all := lw_g (lw_at lw_m7 28 rfl) rfl
theorem q1521 : (Jvm.Cond.superclass "java/lang/ArithmeticException" "java/lang/RuntimeException") ∈ lw_all := lw_g (lw_at lw_m7 29 rfl) rfl
theorem q1522 : (Jvm.Cond.castable "java/lang/ArithmeticException" "java/lang/ArithmeticException") ∈ lw_tbl := lw_at lw_m7 30 rfl
theorem q1525 : (Jvm.Cond.selects "java/lang/ArithmeticException" ({ cls := "java/lang/Throwable", name := "fillInStackTrace", desc := "(I)Ljava/lang/Throwable;" } : Jvm.MethodName) ({ cls := "java/lang/Throwable", name := "fillInStackTrace", desc := "(I)Ljava/lang/Throwable;" } : Jvm.MethodName)) ∈ lw_all := lw_g (lw_at lw_m7 33 rfl) rfl
theorem q1888 : (Jvm.Cond.castable "java/lang/ArithmeticException" "java/lang/Object") ∈ lw_tbl := lw_at lw_m8 156 rfl
theorem in_J26 : ∀ w ∈ wsJ260, w ∈ lw_all := lw_in wsJ260 [1515, 1516, 1517, 1518, 1519, 1520] (by decide +kernel) (by decide +kernel)

/-! java/lang/Object -/
set_option maxRecDepth 100000
def RJ27 : String := "java/lang/Object"
abbrev cJ27_init : ByteArray := object_method_1_code
def yJ27_init : MethodName := ⟨RJ27, "<init>", "()V"⟩
theorem dJ27_init_0 : decode cJ27_init 0 = .ok (.return_, 1) := by decide +kernel
abbrev cJ27_equals : ByteArray := object_method_4_code
def yJ27_equals : MethodName := ⟨RJ27, "equals", "(Ljava/lang/Object;)Z"⟩
def dkwJ27_equals_0 : List UInt8 := [42, 43, 166, 0, 7, 4, 167, 0, 4, 3, 172]
abbrev dktJ27_equals_0 : List UInt8 := dkwJ27_equals_0 ++ []
theorem dksJ27_equals_0 : cJ27_equals.data.toList.drop 0 = dktJ27_equals_0 := by decide +kernel
theorem dJ27_equals_0 : decode cJ27_equals 0 = .ok (.aload_n 0, 1) := dk_42 (dk_at dksJ27_equals_0 0 rfl rfl)
theorem dJ27_equals_1 : decode cJ27_equals 1 = .ok (.aload_n 1, 1) := dk_43 (dk_at dksJ27_equals_0 1 rfl rfl)
theorem dJ27_equals_2 : decode cJ27_equals 2 = .ok (.if_acmp .ne 7, 3) := dk_166 0 7 (dk_at dksJ27_equals_0 2 rfl rfl)
theorem dJ27_equals_5 : decode cJ27_equals 5 = .ok (.iconst 1, 1) := dk_4 (dk_at dksJ27_equals_0 5 rfl rfl)
theorem dJ27_equals_6 : decode cJ27_equals 6 = .ok (.goto 4, 3) := dk_167 0 4 (dk_at dksJ27_equals_0 6 rfl rfl)
theorem dJ27_equals_9 : decode cJ27_equals 9 = .ok (.iconst 0, 1) := dk_3 (dk_at dksJ27_equals_0 9 rfl rfl)
theorem dJ27_equals_10 : decode cJ27_equals 10 = .ok (.ireturn, 1) := dk_172 (dk_at dksJ27_equals_0 10 rfl rfl)
theorem q99 : (Jvm.Cond.instanceMethod ({ cls := "java/lang/Object", name := "<init>", desc := "()V" } : Jvm.MethodName)) ∈ lw_all := lw_g (lw_at lw_m1 47 rfl) rfl
theorem q100 : (Jvm.Cond.code ({ cls := "java/lang/Object", name := "<init>", desc := "()V" } : Jvm.MethodName) object_method_1_code (1 : Nat) (Option.none : Option Jvm.ClassFile.FieldType)) ∈ lw_all := lw_g (lw_at lw_m1 48 rfl) rfl
theorem q539 : (Jvm.Cond.declares ({ cls := "java/lang/Object", name := "hashCode", desc := "()I" } : Jvm.MethodName)) ∈ lw_tbl := lw_at lw_m3 7 rfl
theorem q541 : (Jvm.Cond.instanceMethod ({ cls := "java/lang/Object", name := "hashCode", desc := "()I" } : Jvm.MethodName)) ∈ lw_all := lw_g (lw_at lw_m3 9 rfl) rfl
theorem q542 : (Jvm.Cond.sameMethod "java/lang/Object" "java/lang/Object" "hashCode" "()I") ∈ lw_all := lw_g (lw_at lw_m3 10 rfl) rfl
theorem q628 : (Jvm.Cond.native ({ cls := "java/lang/Object", name := "hashCode", desc := "()I" } : Jvm.MethodName)) ∈ lw_all := lw_g (lw_at lw_m3 96 rfl) rfl
theorem q722 : (Jvm.Cond.instanceMethod ({ cls := "java/lang/Object", name := "getClass", desc := "()Ljava/lang/Class;" } : Jvm.MethodName)) ∈ lw_all := lw_g (lw_at lw_m3 190 rfl) rfl
theorem q723 : (Jvm.Cond.sameMethod "java/lang/Object" "java/lang/Object" "getClass" "()Ljava/lang/Class;") ∈ lw_all := lw_g (lw_at lw_m3 191 rfl) rfl
theorem q746 : (Jvm.Cond.native ({ cls := "java/lang/Object", name := "getClass", desc := "()Ljava/lang/Class;" } : Jvm.MethodName)) ∈ lw_all := lw_g (lw_at lw_m3 214 rfl) rfl
theorem q944 : (Jvm.Cond.declares ({ cls := "java/lang/Object", name := "equals", desc := "(Ljava/lang/Object;)Z" } : Jvm.MethodName)) ∈ lw_tbl := lw_at lw_m4 172 rfl
theorem q946 : (Jvm.Cond.instanceMethod ({ cls := "java/lang/Object", name := "equals", desc := "(Ljava/lang/Object;)Z" } : Jvm.MethodName)) ∈ lw_all := lw_g (lw_at lw_m4 174 rfl) rfl
theorem q947 : (Jvm.Cond.sameMethod "java/lang/Object" "java/lang/Object" "equals" "(Ljava/lang/Object;)Z") ∈ lw_all := lw_g (lw_at lw_m4 175 rfl) rfl
theorem q974 : (Jvm.Cond.code ({ cls := "java/lang/Object", name := "equals", desc := "(Ljava/lang/Object;)Z" } : Jvm.MethodName) object_method_4_code (2 : Nat) (Option.some Jvm.ClassFile.FieldType.boolean)) ∈ lw_all := lw_g (lw_at lw_m4 202 rfl) rfl
theorem q1864 : (Jvm.Cond.initialized "java/lang/Object") ∈ lw_all := lw_g (lw_at lw_m8 132 rfl) rfl
theorem q1896 : (Jvm.Cond.declares ({ cls := "java/lang/Object", name := "getClass", desc := "()Ljava/lang/Class;" } : Jvm.MethodName)) ∈ lw_tbl := lw_at lw_m8 164 rfl
theorem q1910 : (Jvm.Cond.instantiable "java/lang/Object" (0 : Nat)) ∈ lw_all := lw_g (lw_at lw_m8 178 rfl) rfl

theorem q52 : (Jvm.Cond.initialized "EvenWordsLaw") ∈ lw_all := lw_g (lw_at lw_m1 0 rfl) rfl
set_option maxRecDepth 100000
theorem q93 : (Jvm.Cond.classLink "EvenWordsLaw" (7 : Nat) "EvenWords") ∈ lw_all := lw_g (lw_at lw_m1 41 rfl) rfl
theorem q95 : (Jvm.Cond.methodLink "EvenWordsLaw" (9 : Nat) ({ cls := "EvenWords", name := "<init>", desc := "()V" } : Jvm.MethodName)) ∈ lw_all := lw_g (lw_at lw_m1 43 rfl) rfl
theorem q216 : (Jvm.Cond.methodLink "EvenWordsLaw" (13 : Nat) ({ cls := "EvenWords", name := "type", desc := "(I)I" } : Jvm.MethodName)) ∈ lw_all := lw_g (lw_at lw_m1 164 rfl) rfl
theorem q223 : (Jvm.Cond.methodLink "EvenWordsLaw" (18 : Nat) ({ cls := "EvenWords", name := "clear", desc := "()I" } : Jvm.MethodName)) ∈ lw_all := lw_g (lw_at lw_m1 171 rfl) rfl
theorem q227 : (Jvm.Cond.methodLink "EvenWordsLaw" (23 : Nat) ({ cls := "EvenWords", name := "tells", desc := "()I" } : Jvm.MethodName)) ∈ lw_all := lw_g (lw_at lw_m1 175 rfl) rfl
theorem q407 : (Jvm.Cond.methodLink "EvenWordsLaw" (27 : Nat) ({ cls := "EvenWords", name := "sends", desc := "(I)I" } : Jvm.MethodName)) ∈ lw_all := lw_g (lw_at lw_m2 115 rfl) rfl
theorem q415 : (Jvm.Cond.methodLink "EvenWordsLaw" (31 : Nat) ({ cls := "EvenWords", name := "marks", desc := "(I)I" } : Jvm.MethodName)) ∈ lw_all := lw_g (lw_at lw_m2 123 rfl) rfl
theorem q419 : (Jvm.Cond.methodLink "EvenWordsLaw" (35 : Nat) ({ cls := "EvenWords", name := "flips", desc := "(I)I" } : Jvm.MethodName)) ∈ lw_all := lw_g (lw_at lw_m2 127 rfl) rfl
theorem q432 : (Jvm.Cond.methodLink "EvenWordsLaw" (39 : Nat) ({ cls := "EvenWords", name := "clears", desc := "()I" } : Jvm.MethodName)) ∈ lw_all := lw_g (lw_at lw_m2 140 rfl) rfl
theorem q436 : (Jvm.Cond.methodLink "EvenWordsLaw" (43 : Nat) ({ cls := "EvenWords", name := "undo", desc := "()I" } : Jvm.MethodName)) ∈ lw_all := lw_g (lw_at lw_m2 144 rfl) rfl
theorem q440 : (Jvm.Cond.methodLink "EvenWordsLaw" (47 : Nat) ({ cls := "EvenWords", name := "form", desc := "(II)I" } : Jvm.MethodName)) ∈ lw_all := lw_g (lw_at lw_m2 148 rfl) rfl
theorem q444 : (Jvm.Cond.methodLink "EvenWordsLaw" (52 : Nat) ({ cls := "EvenWords", name := "bit", desc := "(I)I" } : Jvm.MethodName)) ∈ lw_all := lw_g (lw_at lw_m2 152 rfl) rfl
theorem q448 : (Jvm.Cond.methodLink "EvenWordsLaw" (56 : Nat) ({ cls := "EvenWords", name := "word", desc := "(I)I" } : Jvm.MethodName)) ∈ lw_all := lw_g (lw_at lw_m2 156 rfl) rfl
theorem q452 : (Jvm.Cond.methodLink "EvenWordsLaw" (60 : Nat) ({ cls := "EvenWords", name := "recent", desc := "(I)I" } : Jvm.MethodName)) ∈ lw_all := lw_g (lw_at lw_m2 160 rfl) rfl
theorem q1205 : (Jvm.Cond.methodLink "EvenWordsLaw" (64 : Nat) ({ cls := "EvenWords", name := "piece", desc := "(IIII)I" } : Jvm.MethodName)) ∈ lw_all := lw_g (lw_at lw_m5 193 rfl) rfl
theorem q1275 : (Jvm.Cond.methodLink "EvenWordsLaw" (69 : Nat) ({ cls := "EvenWords", name := "read", desc := "(III)I" } : Jvm.MethodName)) ∈ lw_all := lw_g (lw_at lw_m6 23 rfl) rfl
theorem q1310 : (Jvm.Cond.methodLink "EvenWordsLaw" (74 : Nat) ({ cls := "EvenWords", name := "cuts", desc := "(I)I" } : Jvm.MethodName)) ∈ lw_all := lw_g (lw_at lw_m6 58 rfl) rfl
theorem q1314 : (Jvm.Cond.methodLink "EvenWordsLaw" (78 : Nat) ({ cls := "EvenWords", name := "level", desc := "(II)I" } : Jvm.MethodName)) ∈ lw_all := lw_g (lw_at lw_m6 62 rfl) rfl
theorem q1485 : (Jvm.Cond.methodLink "EvenWordsLaw" (82 : Nat) ({ cls := "EvenWords", name := "evenest", desc := "(II)I" } : Jvm.MethodName)) ∈ lw_all := lw_g (lw_at lw_m6 233 rfl) rfl
theorem q1503 : (Jvm.Cond.methodLink "EvenWordsLaw" (86 : Nat) ({ cls := "EvenWords", name := "weight", desc := "(I)I" } : Jvm.MethodName)) ∈ lw_all := lw_g (lw_at lw_m7 11 rfl) rfl
theorem q1539 : (Jvm.Cond.methodLink "EvenWordsLaw" (90 : Nat) ({ cls := "EvenWords", name := "keep", desc := "(I)I" } : Jvm.MethodName)) ∈ lw_all := lw_g (lw_at lw_m7 47 rfl) rfl
theorem q1543 : (Jvm.Cond.methodLink "EvenWordsLaw" (94 : Nat) ({ cls := "EvenWords", name := "back", desc := "(I)I" } : Jvm.MethodName)) ∈ lw_all := lw_g (lw_at lw_m7 51 rfl) rfl
theorem q1547 : (Jvm.Cond.methodLink "EvenWordsLaw" (98 : Nat) ({ cls := "EvenWords", name := "count", desc := "(I)I" } : Jvm.MethodName)) ∈ lw_all := lw_g (lw_at lw_m7 55 rfl) rfl
theorem q1559 : (Jvm.Cond.classLink "EvenWordsLaw" (10 : Nat) "EvenWordsModel") ∈ lw_all := lw_g (lw_at lw_m7 67 rfl) rfl
theorem q1561 : (Jvm.Cond.methodLink "EvenWordsLaw" (12 : Nat) ({ cls := "EvenWordsModel", name := "<init>", desc := "()V" } : Jvm.MethodName)) ∈ lw_all := lw_g (lw_at lw_m7 69 rfl) rfl
theorem q1666 : (Jvm.Cond.methodLink "EvenWordsLaw" (17 : Nat) ({ cls := "EvenWordsModel", name := "type", desc := "(I)I" } : Jvm.MethodName)) ∈ lw_all := lw_g (lw_at lw_m7 174 rfl) rfl
theorem q1673 : (Jvm.Cond.methodLink "EvenWordsLaw" (22 : Nat) ({ cls := "EvenWordsModel", name := "clear", desc := "()I" } : Jvm.MethodName)) ∈ lw_all := lw_g (lw_at lw_m7 181 rfl) rfl
theorem q1677 : (Jvm.Cond.methodLink "EvenWordsLaw" (26 : Nat) ({ cls := "EvenWordsModel", name := "tells", desc := "()I" } : Jvm.MethodName)) ∈ lw_all := lw_g (lw_at lw_m7 185 rfl) rfl
theorem q1721 : (Jvm.Cond.methodLink "EvenWordsLaw" (30 : Nat) ({ cls := "EvenWordsModel", name := "sends", desc := "(I)I" } : Jvm.MethodName)) ∈ lw_all := lw_g (lw_at lw_m7 229 rfl) rfl
theorem q1725 : (Jvm.Cond.methodLink "EvenWordsLaw" (34 : Nat) ({ cls := "EvenWordsModel", name := "marks", desc := "(I)I" } : Jvm.MethodName)) ∈ lw_all := lw_g (lw_at lw_m7 233 rfl) rfl
theorem q1729 : (Jvm.Cond.methodLink "EvenWordsLaw" (38 : Nat) ({ cls := "EvenWordsModel", name := "flips", desc := "(I)I" } : Jvm.MethodName)) ∈ lw_all := lw_g (lw_at lw_m7 237 rfl) rfl
theorem q1737 : (Jvm.Cond.methodLink "EvenWordsLaw" (42 : Nat) ({ cls := "EvenWordsModel", name := "clears", desc := "()I" } : Jvm.MethodName)) ∈ lw_all := lw_g (lw_at lw_m8 5 rfl) rfl
theorem q1741 : (Jvm.Cond.methodLink "EvenWordsLaw" (46 : Nat) ({ cls := "EvenWordsModel", name := "undo", desc := "()I" } : Jvm.MethodName)) ∈ lw_all := lw_g (lw_at lw_m8 9 rfl) rfl
theorem q1745 : (Jvm.Cond.methodLink "EvenWordsLaw" (51 : Nat) ({ cls := "EvenWordsModel", name := "form", desc := "(II)I" } : Jvm.MethodName)) ∈ lw_all := lw_g (lw_at lw_m8 13 rfl) rfl
theorem q1749 : (Jvm.Cond.methodLink "EvenWordsLaw" (55 : Nat) ({ cls := "EvenWordsModel", name := "bit", desc := "(I)I" } : Jvm.MethodName)) ∈ lw_all := lw_g (lw_at lw_m8 17 rfl) rfl
theorem q1753 : (Jvm.Cond.methodLink "EvenWordsLaw" (59 : Nat) ({ cls := "EvenWordsModel", name := "word", desc := "(I)I" } : Jvm.MethodName)) ∈ lw_all := lw_g (lw_at lw_m8 21 rfl) rfl
theorem q1757 : (Jvm.Cond.methodLink "EvenWordsLaw" (63 : Nat) ({ cls := "EvenWordsModel", name := "recent", desc := "(I)I" } : Jvm.MethodName)) ∈ lw_all := lw_g (lw_at lw_m8 25 rfl) rfl
theorem q1761 : (Jvm.Cond.methodLink "EvenWordsLaw" (68 : Nat) ({ cls := "EvenWordsModel", name := "piece", desc := "(IIII)I" } : Jvm.MethodName)) ∈ lw_all := lw_g (lw_at lw_m8 29 rfl) rfl
theorem q1783 : (Jvm.Cond.methodLink "EvenWordsLaw" (73 : Nat) ({ cls := "EvenWordsModel", name := "read", desc := "(III)I" } : Jvm.MethodName)) ∈ lw_all := lw_g (lw_at lw_m8 51 rfl) rfl
theorem q1797 : (Jvm.Cond.methodLink "EvenWordsLaw" (77 : Nat) ({ cls := "EvenWordsModel", name := "cuts", desc := "(I)I" } : Jvm.MethodName)) ∈ lw_all := lw_g (lw_at lw_m8 65 rfl) rfl
theorem q1801 : (Jvm.Cond.methodLink "EvenWordsLaw" (81 : Nat) ({ cls := "EvenWordsModel", name := "level", desc := "(II)I" } : Jvm.MethodName)) ∈ lw_all := lw_g (lw_at lw_m8 69 rfl) rfl
theorem q1809 : (Jvm.Cond.methodLink "EvenWordsLaw" (85 : Nat) ({ cls := "EvenWordsModel", name := "evenest", desc := "(II)I" } : Jvm.MethodName)) ∈ lw_all := lw_g (lw_at lw_m8 77 rfl) rfl
theorem q1829 : (Jvm.Cond.methodLink "EvenWordsLaw" (89 : Nat) ({ cls := "EvenWordsModel", name := "weight", desc := "(I)I" } : Jvm.MethodName)) ∈ lw_all := lw_g (lw_at lw_m8 97 rfl) rfl
theorem q1835 : (Jvm.Cond.methodLink "EvenWordsLaw" (93 : Nat) ({ cls := "EvenWordsModel", name := "keep", desc := "(I)I" } : Jvm.MethodName)) ∈ lw_all := lw_g (lw_at lw_m8 103 rfl) rfl
theorem q1839 : (Jvm.Cond.methodLink "EvenWordsLaw" (97 : Nat) ({ cls := "EvenWordsModel", name := "back", desc := "(I)I" } : Jvm.MethodName)) ∈ lw_all := lw_g (lw_at lw_m8 107 rfl) rfl
theorem q1843 : (Jvm.Cond.methodLink "EvenWordsLaw" (101 : Nat) ({ cls := "EvenWordsModel", name := "count", desc := "(I)I" } : Jvm.MethodName)) ∈ lw_all := lw_g (lw_at lw_m8 111 rfl) rfl

theorem q1273 : (Jvm.Cond.interfaceMethod "EvenWords$Sort" "EvenWords$Sort" "is" "(LEvenWords$Piece;)Z") ∈ lw_tbl := lw_at lw_m6 21 rfl
set_option maxRecDepth 100000
theorem q1274 : (Jvm.Cond.declares ({ cls := "EvenWords$Sort", name := "is", desc := "(LEvenWords$Piece;)Z" } : Jvm.MethodName)) ∈ lw_tbl := lw_at lw_m6 22 rfl

theorem q1901 : (Jvm.Cond.castable "[B" "java/lang/Object") ∈ lw_tbl := lw_at lw_m8 169 rfl
set_option maxRecDepth 100000

theorem q1897 : (Jvm.Cond.castable "[I" "java/lang/Object") ∈ lw_tbl := lw_at lw_m8 165 rfl
set_option maxRecDepth 100000

theorem q1900 : (Jvm.Cond.castable "[LEvenWords$Sort;" "java/lang/Object") ∈ lw_tbl := lw_at lw_m8 168 rfl
set_option maxRecDepth 100000

theorem q1899 : (Jvm.Cond.castable "[LEvenWords$Wire;" "java/lang/Object") ∈ lw_tbl := lw_at lw_m8 167 rfl
set_option maxRecDepth 100000

theorem q1894 : (Jvm.Cond.sameMethod "[Ljava/lang/Object;" "java/lang/Object" "getClass" "()Ljava/lang/Class;") ∈ lw_all := lw_g (lw_at lw_m8 162 rfl) rfl
set_option maxRecDepth 100000
theorem q1895 : (Jvm.Cond.selects "[Ljava/lang/Object;" ({ cls := "java/lang/Object", name := "getClass", desc := "()Ljava/lang/Class;" } : Jvm.MethodName) ({ cls := "java/lang/Object", name := "getClass", desc := "()Ljava/lang/Class;" } : Jvm.MethodName)) ∈ lw_all := lw_g (lw_at lw_m8 163 rfl) rfl
theorem q1903 : (Jvm.Cond.castable "[Ljava/lang/Object;" "java/lang/Object") ∈ lw_tbl := lw_at lw_m8 171 rfl

theorem q1902 : (Jvm.Cond.castable "[Ljava/util/HashMap$Node;" "java/lang/Object") ∈ lw_tbl := lw_at lw_m8 170 rfl
set_option maxRecDepth 100000

theorem q1898 : (Jvm.Cond.castable "[Z" "java/lang/Object") ∈ lw_tbl := lw_at lw_m8 166 rfl
set_option maxRecDepth 100000

theorem q753 : (Jvm.Cond.interfaceMethod "java/lang/Comparable" "java/lang/Comparable" "compareTo" "(Ljava/lang/Object;)I") ∈ lw_tbl := lw_at lw_m3 221 rfl
set_option maxRecDepth 100000
theorem q754 : (Jvm.Cond.declares ({ cls := "java/lang/Comparable", name := "compareTo", desc := "(Ljava/lang/Object;)I" } : Jvm.MethodName)) ∈ lw_tbl := lw_at lw_m3 222 rfl

theorem q68 : (Jvm.Cond.initialized "java/lang/Integer$IntegerCache") ∈ lw_all := lw_g (lw_at lw_m1 16 rfl) rfl
set_option maxRecDepth 100000
theorem q514 : (Jvm.Cond.laysStatic "java/lang/Integer$IntegerCache" "high" "I") ∈ lw_tbl := lw_at lw_m2 222 rfl
theorem q516 : (Jvm.Cond.laysStatic "java/lang/Integer$IntegerCache" "cache" "[Ljava/lang/Integer;") ∈ lw_tbl := lw_at lw_m2 224 rfl

theorem q64 : (Jvm.Cond.initialized "java/lang/System") ∈ lw_all := lw_g (lw_at lw_m1 12 rfl) rfl
set_option maxRecDepth 100000
theorem q384 : (Jvm.Cond.static ({ cls := "java/lang/System", name := "arraycopy", desc := "(Ljava/lang/Object;ILjava/lang/Object;II)V" } : Jvm.MethodName)) ∈ lw_all := lw_g (lw_at lw_m2 92 rfl) rfl
theorem q385 : (Jvm.Cond.native ({ cls := "java/lang/System", name := "arraycopy", desc := "(Ljava/lang/Object;ILjava/lang/Object;II)V" } : Jvm.MethodName)) ∈ lw_all := lw_g (lw_at lw_m2 93 rfl) rfl

theorem q1370 : (Jvm.Cond.interfaceMethod "java/util/Comparator" "java/util/Comparator" "compare" "(Ljava/lang/Object;Ljava/lang/Object;)I") ∈ lw_tbl := lw_at lw_m6 118 rfl
set_option maxRecDepth 100000
theorem q1371 : (Jvm.Cond.declares ({ cls := "java/util/Comparator", name := "compare", desc := "(Ljava/lang/Object;Ljava/lang/Object;)I" } : Jvm.MethodName)) ∈ lw_tbl := lw_at lw_m6 119 rfl

theorem q1120 : (Jvm.Cond.interfaceMethod "java/util/Iterator" "java/util/Iterator" "hasNext" "()Z") ∈ lw_tbl := lw_at lw_m5 108 rfl
set_option maxRecDepth 100000
theorem q1121 : (Jvm.Cond.declares ({ cls := "java/util/Iterator", name := "hasNext", desc := "()Z" } : Jvm.MethodName)) ∈ lw_tbl := lw_at lw_m5 109 rfl
theorem q1137 : (Jvm.Cond.interfaceMethod "java/util/Iterator" "java/util/Iterator" "next" "()Ljava/lang/Object;") ∈ lw_tbl := lw_at lw_m5 125 rfl
theorem q1138 : (Jvm.Cond.declares ({ cls := "java/util/Iterator", name := "next", desc := "()Ljava/lang/Object;" } : Jvm.MethodName)) ∈ lw_tbl := lw_at lw_m5 126 rfl

theorem q1085 : (Jvm.Cond.interfaceMethod "java/util/Set" "java/util/Set" "iterator" "()Ljava/util/Iterator;") ∈ lw_tbl := lw_at lw_m5 73 rfl
set_option maxRecDepth 100000
theorem q1086 : (Jvm.Cond.declares ({ cls := "java/util/Set", name := "iterator", desc := "()Ljava/util/Iterator;" } : Jvm.MethodName)) ∈ lw_tbl := lw_at lw_m5 74 rfl

theorem q586 : (Jvm.Cond.interfaceMethod "jdk/internal/access/JavaLangAccess" "jdk/internal/access/JavaLangAccess" "getUTF16Char" "([BI)C") ∈ lw_tbl := lw_at lw_m3 54 rfl
set_option maxRecDepth 100000
theorem q587 : (Jvm.Cond.declares ({ cls := "jdk/internal/access/JavaLangAccess", name := "getUTF16Char", desc := "([BI)C" } : Jvm.MethodName)) ∈ lw_tbl := lw_at lw_m3 55 rfl

theorem q76 : (Jvm.Cond.initialized "jdk/internal/misc/UnsafeConstants") ∈ lw_all := lw_g (lw_at lw_m1 24 rfl) rfl
set_option maxRecDepth 100000
theorem q830 : (Jvm.Cond.laysStatic "jdk/internal/misc/UnsafeConstants" "BIG_ENDIAN" "Z") ∈ lw_tbl := lw_at lw_m4 58 rfl

theorem q151 : (Jvm.Cond.arrayClass Jvm.ClassFile.FieldType.int) ∈ lw_all := lw_g (lw_at lw_m1 99 rfl) rfl
set_option maxRecDepth 100000
theorem q152 : (Jvm.Cond.arrayClass Jvm.ClassFile.FieldType.boolean) ∈ lw_all := lw_g (lw_at lw_m1 100 rfl) rfl
theorem q153 : (Jvm.Cond.arrayOver (Jvm.ClassFile.FieldType.object "EvenWords$Wire")) ∈ lw_tbl := lw_at lw_m1 101 rfl
theorem q155 : (Jvm.Cond.arrayOver (Jvm.ClassFile.FieldType.object "EvenWords$Sort")) ∈ lw_tbl := lw_at lw_m1 103 rfl
theorem q215 : (Jvm.Cond.arrayClass Jvm.ClassFile.FieldType.byte) ∈ lw_all := lw_g (lw_at lw_m1 163 rfl) rfl
theorem q643 : (Jvm.Cond.arrayOver (Jvm.ClassFile.FieldType.object "java/util/HashMap$Node")) ∈ lw_tbl := lw_at lw_m3 111 rfl
theorem q1893 : (Jvm.Cond.arrayOver (Jvm.ClassFile.FieldType.object "java/lang/Object")) ∈ lw_tbl := lw_at lw_m8 161 rfl
theorem q1904 : (Jvm.Cond.arrayClass Jvm.ClassFile.FieldType.char) ∈ lw_all := lw_g (lw_at lw_m8 172 rfl) rfl
theorem q1905 : (Jvm.Cond.arrayClass Jvm.ClassFile.FieldType.short) ∈ lw_all := lw_g (lw_at lw_m8 173 rfl) rfl
